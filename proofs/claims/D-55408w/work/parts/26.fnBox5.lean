/-! what the law reaches, 5 -/
section
variable {p : Program} {l : Launch} {e : Env} {R : Room} {s : State} {m : MethodId} {args : Array Value} {below : List Frame} {meth : Method} {c : Code} {Ω : zm_W} {K : zm_K} {n0 k0 : Nat}
theorem hd_J21_indexOf_2 : yJ21_indexOf_2.cls ≠ "java/lang/invoke/MethodHandle" ∧ yJ21_indexOf_2.cls ≠ "java/lang/invoke/VarHandle" ∧ (parseMethodDescriptor yJ21_indexOf_2.desc).map (fun d => d.parameters.length) = some 5 := by decide +kernel
noncomputable def fn_J21_indexOf_2_30 (K : zm_K) (p0 : zm_R) (p2 : zm_R) (p3 : Int32) (p5 : Int32) (p6 : Int32) : Nat → Int32 → zm_M (Int32)
  | 0, _ => zm_fl
  | n + 1, x7 =>
    if p6 < (x7 + 1) then
      zm_ret (x7 + 1)
    else
      zm_bnd (zm_aldI .byte p0 (x7 + 1)) fun v43 =>
      if v43 = p5 then
        zm_ret (x7 + 1)
      else
        fn_J21_indexOf_2_30 K p0 p2 p3 p5 p6 n (x7 + 1)
noncomputable def fn_J21_indexOf_2_76 (K : zm_K) (p0 : zm_R) (p2 : zm_R) (p3 : Int32) (p5 : Int32) (p6 : Int32) (p7 : Int32) (p9 : Int32) : Nat → Int32 → Int32 → zm_M (Int32)
  | 0, _, _ => zm_fl
  | n + 1, x8, x10 =>
    if p9 ≤ x8 then
      zm_ret x8
    else
      zm_bnd (zm_aldI .byte p0 x8) fun v86 =>
      zm_bnd (zm_aldI .byte p2 x10) fun v90 =>
      if v86 = v90 then
        fn_J21_indexOf_2_76 K p0 p2 p3 p5 p6 p7 p9 n (x8 + 1) (x10 + 1)
      else
        zm_ret x8
noncomputable def fn_J21_indexOf_2_14 (K : zm_K) (p0 : zm_R) (p2 : zm_R) (p3 : Int32) (p5 : Int32) (p6 : Int32) : Nat → Int32 → zm_M ((Unit) ⊕ (Int32))
  | 0, _ => zm_fl
  | n + 1, x7 =>
    if p6 < x7 then
      zm_ret (Sum.inl ())
    else
      zm_bnd (zm_aldI .byte p0 x7) fun v24 =>
      zm_bnd (α := Int32) (
          if v24 = p5 then
            zm_ret x7
          else
            zm_bnd (α := Int32) (fn_J21_indexOf_2_30 K p0 p2 p3 p5 p6 zm_N x7) fun b52 =>
            zm_ret b52
        ) fun b52 =>
      zm_bnx (β := Unit) (
          if p6 < b52 then
            zm_ret (Sum.inl ())
          else
            zm_bnd (α := Int32) (fn_J21_indexOf_2_76 K p0 p2 p3 p5 p6 b52 (((b52 + 1) + p3) - 1) zm_N (b52 + 1) 1) fun b103 =>
            if b103 = (((b52 + 1) + p3) - 1) then
              zm_ret (Sum.inr (Sum.inr b52))
            else
              zm_ret (Sum.inl ())
        ) fun (_ : Unit) =>
      fn_J21_indexOf_2_14 K p0 p2 p3 p5 p6 n (b52 + 1)
noncomputable def fn_J21_indexOf_2 (K : zm_K) (a0 : zm_R) (a1 : Int32) (a2 : zm_R) (a3 : Int32) (a4 : Int32) : zm_M Int32 :=
  zm_bnd (zm_aldI .byte a2 0) fun v2 =>
  zm_bnx (β := Unit) (fn_J21_indexOf_2_14 K a0 a2 a3 v2 (a1 - a3) zm_N a4) fun (_ : Unit) =>
  zm_ret (-1)
theorem rf_J21_indexOf_2_30 (H : zm_H Ω K) (C : zm_C p l R s m args meth c Ω lw_all cJ21_indexOf_2 yJ21_indexOf_2.cls yJ21_indexOf_2.name 11 1 64 (Option.some Jvm.ClassFile.FieldType.int)) (hX : zm_XO p l e R s m args below meth c Ω n0 k0 (zm_QFs below args s Ω n0 k0 zm_tvI)) (p0 : zm_R) (p2 : zm_R) (p3 : Int32) (p5 : Int32) (p6 : Int32) : ∀ (n : Nat) (x7 : Int32) (J : (Int32) → zm_M Int32) (ls : Array Slot), lv_has ls 11 [(0, va_rf p0), (2, va_rf p2), (3, .int p3), (5, .int p5), (6, .int p6), (7, .int x7)] → (∀ (b : Int32) (ls : Array Slot), lv_has ls 11 [(0, va_rf p0), (2, va_rf p2), (3, .int p3), (5, .int p5), (6, .int p6), (7, .int b)] → zm_RK p l e R s m args below meth c Ω n0 k0 (zm_QFs below args s Ω n0 k0 zm_tvI) (zm_ret b) J (F0 m 52 ls [])) → zm_RK p l e R s m args below meth c Ω n0 k0 (zm_QFs below args s Ω n0 k0 zm_tvI) (fn_J21_indexOf_2_30 K p0 p2 p3 p5 p6 n x7) J (F0 m 30 ls []) := by
  have hx := C.1
  have hb := C.2.1
  intro n
  induction n with
  | zero => intro x7 J ls hl hJ; exact rk_fl
  | succ n ih =>
    intro x7 J ls hl hJ
    unfold fn_J21_indexOf_2_30
    refine rk_ofs (fun _ _ _ _ _ k => lr_iinc (v := x7 + 1) hx hb dJ21_indexOf_2_30 hl (k := 5) rfl rfl (Nat.le_of_ble_eq_true rfl) [0, 1, 2, 3, 4] rfl ⟨trivial, ⟨trivial, ⟨trivial, ⟨trivial, ⟨rfl, trivial⟩⟩⟩⟩⟩ k) (fun ls hl => ?_)
    refine rk_ite (fun _ _ _ _ _ k1 k2 => lv_iload hx hb dJ21_indexOf_2_33 (lv_at hl 0 rfl) (lv_iload hx hb dJ21_indexOf_2_35 (lv_at hl 5 rfl) (lv_icmp_gt (tgt := 52) hx hb dJ21_indexOf_2_37 (by decide) k1 k2))) (fun c_37 => ?_) (fun c_37 => ?_)
    · exact hJ (x7 + 1) ls (lv_sub hl [1, 2, 3, 4, 5, 0] rfl)
    · refine rk_of (fun _ _ _ _ _ k => lr_aload_n hx hb dJ21_indexOf_2_40 rfl (lv_at hl 1 rfl) (lv_iload hx hb dJ21_indexOf_2_41 (lv_at hl 0 rfl) k)) ?_
      refine rk_bald C dJ21_indexOf_2_43 (fun v43 => ?_)
      refine rk_ite (fun _ _ _ _ _ k1 k2 => lv_iload hx hb dJ21_indexOf_2_44 (lv_at hl 4 rfl) (lv_icmp_eq (tgt := 52) hx hb dJ21_indexOf_2_46 (by decide) k1 k2)) (fun c_46 => ?_) (fun c_46 => ?_)
      · exact hJ (x7 + 1) ls (lv_sub hl [1, 2, 3, 4, 5, 0] rfl)
      · refine rk_of (fun _ _ _ _ _ k => lv_goto (tgt := 30) hx hb dJ21_indexOf_2_49 (by decide) k) ?_
        exact ih (x7 + 1) J ls (lv_sub hl [1, 2, 3, 4, 5, 0] rfl) hJ
theorem rf_J21_indexOf_2_76 (H : zm_H Ω K) (C : zm_C p l R s m args meth c Ω lw_all cJ21_indexOf_2 yJ21_indexOf_2.cls yJ21_indexOf_2.name 11 1 64 (Option.some Jvm.ClassFile.FieldType.int)) (hX : zm_XO p l e R s m args below meth c Ω n0 k0 (zm_QFs below args s Ω n0 k0 zm_tvI)) (p0 : zm_R) (p2 : zm_R) (p3 : Int32) (p5 : Int32) (p6 : Int32) (p7 : Int32) (p9 : Int32) : ∀ (n : Nat) (x8 : Int32) (x10 : Int32) (J : (Int32) → zm_M Int32) (ls : Array Slot), lv_has ls 11 [(0, va_rf p0), (2, va_rf p2), (3, .int p3), (5, .int p5), (6, .int p6), (7, .int p7), (9, .int p9), (8, .int x8), (10, .int x10)] → (∀ (b : Int32) (ls : Array Slot), lv_has ls 11 [(0, va_rf p0), (2, va_rf p2), (3, .int p3), (5, .int p5), (6, .int p6), (7, .int p7), (9, .int p9), (8, .int b)] → zm_RK p l e R s m args below meth c Ω n0 k0 (zm_QFs below args s Ω n0 k0 zm_tvI) (zm_ret b) J (F0 m 103 ls [])) → zm_RK p l e R s m args below meth c Ω n0 k0 (zm_QFs below args s Ω n0 k0 zm_tvI) (fn_J21_indexOf_2_76 K p0 p2 p3 p5 p6 p7 p9 n x8 x10) J (F0 m 76 ls []) := by
  have hx := C.1
  have hb := C.2.1
  intro n
  induction n with
  | zero => intro x8 x10 J ls hl hJ; exact rk_fl
  | succ n ih =>
    intro x8 x10 J ls hl hJ
    unfold fn_J21_indexOf_2_76
    refine rk_ite (fun _ _ _ _ _ k1 k2 => lv_iload hx hb dJ21_indexOf_2_76 (lv_at hl 7 rfl) (lv_iload hx hb dJ21_indexOf_2_78 (lv_at hl 6 rfl) (lv_icmp_ge (tgt := 103) hx hb dJ21_indexOf_2_80 (by decide) k1 k2))) (fun c_80 => ?_) (fun c_80 => ?_)
    · exact hJ x8 ls (lv_sub hl [0, 1, 2, 3, 4, 5, 6, 7] rfl)
    · refine rk_of (fun _ _ _ _ _ k => lr_aload_n hx hb dJ21_indexOf_2_83 rfl (lv_at hl 0 rfl) (lv_iload hx hb dJ21_indexOf_2_84 (lv_at hl 7 rfl) k)) ?_
      refine rk_bald C dJ21_indexOf_2_86 (fun v86 => ?_)
      refine rk_of (fun _ _ _ _ _ k => lr_aload_n hx hb dJ21_indexOf_2_87 rfl (lv_at hl 1 rfl) (lv_iload hx hb dJ21_indexOf_2_88 (lv_at hl 8 rfl) k)) ?_
      refine rk_bald C dJ21_indexOf_2_90 (fun v90 => ?_)
      refine rk_ite (fun _ _ _ _ _ k1 k2 => lv_icmp_ne (tgt := 103) hx hb dJ21_indexOf_2_91 (by decide) k2 k1) (fun c_91 => ?_) (fun c_91 => ?_)
      · refine rk_ofs (fun _ _ _ _ _ k => lr_iinc (v := x8 + 1) hx hb dJ21_indexOf_2_94 hl (k := 7) rfl rfl (Nat.le_of_ble_eq_true rfl) [0, 1, 2, 3, 4, 5, 6, 8] rfl ⟨trivial, ⟨trivial, ⟨trivial, ⟨trivial, ⟨trivial, ⟨rfl, ⟨trivial, ⟨trivial, trivial⟩⟩⟩⟩⟩⟩⟩⟩ k) (fun ls hl => ?_)
        refine rk_ofs (fun _ _ _ _ _ k => lr_iinc (v := x10 + 1) hx hb dJ21_indexOf_2_97 hl (k := 8) rfl rfl (Nat.le_of_ble_eq_true rfl) [0, 1, 2, 3, 4, 5, 6, 7] rfl ⟨trivial, ⟨trivial, ⟨trivial, ⟨trivial, ⟨trivial, ⟨trivial, ⟨trivial, ⟨rfl, trivial⟩⟩⟩⟩⟩⟩⟩⟩ k) (fun ls hl => ?_)
        refine rk_of (fun _ _ _ _ _ k => lv_goto (tgt := 76) hx hb dJ21_indexOf_2_100 (by decide) k) ?_
        exact ih (x8 + 1) (x10 + 1) J ls (lv_sub hl [2, 3, 4, 5, 6, 7, 8, 1, 0] rfl) hJ
      · exact hJ x8 ls (lv_sub hl [0, 1, 2, 3, 4, 5, 6, 7] rfl)
theorem rf_J21_indexOf_2_14 (H : zm_H Ω K) (C : zm_C p l R s m args meth c Ω lw_all cJ21_indexOf_2 yJ21_indexOf_2.cls yJ21_indexOf_2.name 11 1 64 (Option.some Jvm.ClassFile.FieldType.int)) (hX : zm_XO p l e R s m args below meth c Ω n0 k0 (zm_QFs below args s Ω n0 k0 zm_tvI)) (p0 : zm_R) (p2 : zm_R) (p3 : Int32) (p5 : Int32) (p6 : Int32) : ∀ (n : Nat) (x7 : Int32) (J : ((Unit) ⊕ (Int32)) → zm_M Int32) (ls : Array Slot), lv_has ls 11 [(0, va_rf p0), (2, va_rf p2), (3, .int p3), (5, .int p5), (6, .int p6), (7, .int x7)] → (∀ (b : Unit) (ls : Array Slot), lv_has ls 11 [] → zm_RK p l e R s m args below meth c Ω n0 k0 (zm_QFs below args s Ω n0 k0 zm_tvI) (zm_ret (Sum.inl b)) J (F0 m 119 ls [])) → (∀ (v : Int32) (g : JFrame), zm_RF p l e R s m args below meth c Ω n0 k0 (zm_QFs below args s Ω n0 k0 zm_tvI) (zm_ret v) g → zm_RK p l e R s m args below meth c Ω n0 k0 (zm_QFs below args s Ω n0 k0 zm_tvI) (zm_ret (Sum.inr v)) J g) → zm_RK p l e R s m args below meth c Ω n0 k0 (zm_QFs below args s Ω n0 k0 zm_tvI) (fn_J21_indexOf_2_14 K p0 p2 p3 p5 p6 n x7) J (F0 m 14 ls []) := by
  have hx := C.1
  have hb := C.2.1
  intro n
  induction n with
  | zero => intro x7 J ls hl hJ hR; exact rk_fl
  | succ n ih =>
    intro x7 J ls hl hJ hR
    unfold fn_J21_indexOf_2_14
    refine rk_ite (fun _ _ _ _ _ k1 k2 => lv_iload hx hb dJ21_indexOf_2_14 (lv_at hl 5 rfl) (lv_iload hx hb dJ21_indexOf_2_16 (lv_at hl 4 rfl) (lv_icmp_gt (tgt := 119) hx hb dJ21_indexOf_2_18 (by decide) k1 k2))) (fun c_18 => ?_) (fun c_18 => ?_)
    · exact hJ () ls (lv_sub hl [] rfl)
    · refine rk_of (fun _ _ _ _ _ k => lr_aload_n hx hb dJ21_indexOf_2_21 rfl (lv_at hl 0 rfl) (lv_iload hx hb dJ21_indexOf_2_22 (lv_at hl 5 rfl) k)) ?_
      refine rk_bald C dJ21_indexOf_2_24 (fun v24 => ?_)
      refine rk_of (fun _ _ _ _ _ k => lv_iload hx hb dJ21_indexOf_2_25 (lv_at hl 3 rfl) k) ?_
      refine rk_join (β := Int32) (fun (b52 : Int32) ls => lv_has ls 11 [(0, va_rf p0), (2, va_rf p2), (3, .int p3), (5, .int p5), (6, .int p6), (7, .int b52)]) (fun (b52 : Int32) ls => F0 m 52 ls []) (fun b52 ls hl => ?_) (fun hJ52 => ?_)
      · refine rk_of (fun _ _ _ _ _ k => lv_iload hx hb dJ21_indexOf_2_52 (lv_at hl 5 rfl) (lv_iload hx hb dJ21_indexOf_2_54 (lv_at hl 4 rfl) k)) ?_
        refine rk_joinx (β := Unit) (fun (b113 : Unit) ls => lv_has ls 11 [(0, va_rf p0), (2, va_rf p2), (3, .int p3), (5, .int p5), (6, .int p6), (7, .int b52)]) (fun (b113 : Unit) ls => F0 m 113 ls []) (fun b113 ls hl => ?_) (fun hJ113 => ?_)
        · refine rk_ofs (fun _ _ _ _ _ k => lr_iinc (v := b52 + 1) hx hb dJ21_indexOf_2_113 hl (k := 5) rfl rfl (Nat.le_of_ble_eq_true rfl) [0, 1, 2, 3, 4] rfl ⟨trivial, ⟨trivial, ⟨trivial, ⟨trivial, ⟨rfl, trivial⟩⟩⟩⟩⟩ k) (fun ls hl => ?_)
          refine rk_of (fun _ _ _ _ _ k => lv_goto (tgt := 14) hx hb dJ21_indexOf_2_116 (by decide) k) ?_
          exact ih (b52 + 1) J ls (lv_sub hl [1, 2, 3, 4, 5, 0] rfl) hJ hR
        · refine rk_ite (fun _ _ _ _ _ k1 k2 => lv_icmp_gt (tgt := 113) hx hb dJ21_indexOf_2_56 (by decide) k1 k2) (fun c_56 => ?_) (fun c_56 => ?_)
          · exact hJ113 () ls (lv_sub hl [0, 1, 2, 3, 4, 5] rfl)
          · refine rk_ofs (fun _ _ _ _ _ k => lv_iload hx hb dJ21_indexOf_2_59 (lv_at hl 5 rfl) (lv_iconst (v := 1) hx hb dJ21_indexOf_2_61 rfl (lv_iadd hx hb dJ21_indexOf_2_62 (lr_istore hx hb dJ21_indexOf_2_63 hl (Nat.le_of_ble_eq_true rfl) [0, 1, 2, 3, 4, 5] rfl ⟨trivial, ⟨trivial, ⟨trivial, ⟨trivial, ⟨trivial, ⟨rfl, trivial⟩⟩⟩⟩⟩⟩ k)))) (fun ls hl => ?_)
            refine rk_ofs (fun _ _ _ _ _ k => lv_iload hx hb dJ21_indexOf_2_65 (lv_at hl 0 rfl) (lv_iload_n hx hb dJ21_indexOf_2_67 rfl (lv_at hl 3 rfl) (lv_iadd hx hb dJ21_indexOf_2_68 (lv_iconst (v := 1) hx hb dJ21_indexOf_2_69 rfl (lv_isub hx hb dJ21_indexOf_2_70 (lr_istore hx hb dJ21_indexOf_2_71 hl (Nat.le_of_ble_eq_true rfl) [0, 1, 2, 3, 4, 5, 6] rfl ⟨rfl, ⟨trivial, ⟨trivial, ⟨trivial, ⟨trivial, ⟨trivial, ⟨trivial, trivial⟩⟩⟩⟩⟩⟩⟩ k)))))) (fun ls hl => ?_)
            refine rk_ofs (fun _ _ _ _ _ k => lv_iconst (v := 1) hx hb dJ21_indexOf_2_73 rfl (lr_istore hx hb dJ21_indexOf_2_74 hl (Nat.le_of_ble_eq_true rfl) [0, 1, 2, 3, 4, 5, 6, 7] rfl ⟨rfl, ⟨trivial, ⟨trivial, ⟨trivial, ⟨trivial, ⟨trivial, ⟨trivial, ⟨trivial, trivial⟩⟩⟩⟩⟩⟩⟩⟩ k)) (fun ls hl => ?_)
            refine rk_join (β := Int32) (fun (b103 : Int32) ls => lv_has ls 11 [(0, va_rf p0), (2, va_rf p2), (3, .int p3), (5, .int p5), (6, .int p6), (7, .int b52), (9, .int (((b52 + 1) + p3) - 1)), (8, .int b103)]) (fun (b103 : Int32) ls => F0 m 103 ls []) (fun b103 ls hl => ?_) (fun hJ103 => ?_)
            · refine rk_ite (fun _ _ _ _ _ k1 k2 => lv_iload hx hb dJ21_indexOf_2_103 (lv_at hl 7 rfl) (lv_iload hx hb dJ21_indexOf_2_105 (lv_at hl 6 rfl) (lv_icmp_ne (tgt := 113) hx hb dJ21_indexOf_2_107 (by decide) k2 k1))) (fun c_107 => ?_) (fun c_107 => ?_)
              · refine rk_of (fun _ _ _ _ _ k => lv_iload hx hb dJ21_indexOf_2_110 (lv_at hl 5 rfl) k) ?_
                refine rk_inr ?_
                exact hR _ _ (rf_iret C rfl dJ21_indexOf_2_112)
              · exact hJ113 () ls (lv_sub hl [0, 1, 2, 3, 4, 5] rfl)
            · exact rf_J21_indexOf_2_76 H C hX p0 p2 p3 p5 p6 b52 (((b52 + 1) + p3) - 1) zm_N (b52 + 1) 1 _ ls (lv_sub hl [3, 4, 5, 6, 7, 8, 1, 2, 0] rfl) hJ103
      · refine rk_ite (fun _ _ _ _ _ k1 k2 => lv_icmp_eq (tgt := 52) hx hb dJ21_indexOf_2_27 (by decide) k1 k2) (fun c_27 => ?_) (fun c_27 => ?_)
        · exact hJ52 x7 ls (lv_sub hl [0, 1, 2, 3, 4, 5] rfl)
        · refine rk_join (β := Int32) (fun (b52 : Int32) ls => lv_has ls 11 [(0, va_rf p0), (2, va_rf p2), (3, .int p3), (5, .int p5), (6, .int p6), (7, .int b52)]) (fun (b52 : Int32) ls => F0 m 52 ls []) (fun b52 ls hl => ?_) (fun hJ52 => ?_)
          · exact hJ52 b52 ls (lv_sub hl [0, 1, 2, 3, 4, 5] rfl)
          · exact rf_J21_indexOf_2_30 H C hX p0 p2 p3 p5 p6 zm_N x7 _ ls (lv_sub hl [0, 1, 2, 3, 4, 5] rfl) hJ52
theorem ct_J21_indexOf_2 {l : Launch} {Ω : zm_W} {K : zm_K} (H : zm_H Ω K) (a0 : zm_R) (a1 : Int32) (a2 : zm_R) (a3 : Int32) (a4 : Int32) : zm_Ct l Ω yJ21_indexOf_2 (ws_ yJ21_indexOf_2 cJ21_indexOf_2 11 (Option.some Jvm.ClassFile.FieldType.int)) 1 64 [va_rf a0, .int a1, va_rf a2, .int a3, .int a4] zm_tvI (fn_J21_indexOf_2 K a0 a1 a2 a3 a4) := by
  refine zm_ct H.1 (by decide +kernel) (zl_le (zl_R (zl_I (zl_R (zl_I (zl_I zl_nil))))) (Nat.le_of_ble_eq_true rfl)) ?_
  intro p e R s m args below meth c n0 k0 C hX ls hl
  have hx := C.1
  have hb := C.2.1
  simp only [zg_I, zg_R, zg_nil] at hl
  have hl : lv_has ls 11 [(0, va_rf a0), (1, .int a1), (2, va_rf a2), (3, .int a3), (4, .int a4)] := hl
  refine rk_rf ?_
  unfold fn_J21_indexOf_2
  refine rk_of (fun _ _ _ _ _ k => lr_aload_n hx hb dJ21_indexOf_2_0 rfl (lv_at hl 2 rfl) (lv_iconst (v := 0) hx hb dJ21_indexOf_2_1 rfl k)) ?_
  refine rk_bald C dJ21_indexOf_2_2 (fun v2 => ?_)
  refine rk_ofs (fun _ _ _ _ _ k => lr_istore hx hb dJ21_indexOf_2_3 hl (Nat.le_of_ble_eq_true rfl) [0, 1, 2, 3, 4] rfl ⟨trivial, ⟨trivial, ⟨trivial, ⟨trivial, ⟨rfl, trivial⟩⟩⟩⟩⟩ k) (fun ls hl => ?_)
  refine rk_ofs (fun _ _ _ _ _ k => lv_iload_n hx hb dJ21_indexOf_2_5 rfl (lv_at hl 2 rfl) (lv_iload_n hx hb dJ21_indexOf_2_6 rfl (lv_at hl 4 rfl) (lv_isub hx hb dJ21_indexOf_2_7 (lr_istore hx hb dJ21_indexOf_2_8 hl (Nat.le_of_ble_eq_true rfl) [0, 1, 3, 4, 5] rfl ⟨rfl, ⟨trivial, ⟨trivial, ⟨trivial, ⟨trivial, trivial⟩⟩⟩⟩⟩ k)))) (fun ls hl => ?_)
  refine rk_ofs (fun _ _ _ _ _ k => lv_iload hx hb dJ21_indexOf_2_10 (lv_at hl 5 rfl) (lr_istore hx hb dJ21_indexOf_2_12 hl (Nat.le_of_ble_eq_true rfl) [0, 1, 2, 3, 4] rfl ⟨rfl, ⟨trivial, ⟨trivial, ⟨trivial, ⟨trivial, trivial⟩⟩⟩⟩⟩ k)) (fun ls hl => ?_)
  refine rk_joinx (β := Unit) (fun (b119 : Unit) ls => lv_has ls 11 []) (fun (b119 : Unit) ls => F0 m 119 ls []) (fun b119 ls hl => ?_) (fun hJ119 => ?_)
  · refine rk_of (fun _ _ _ _ _ k => lv_iconst (v := (-1)) hx hb dJ21_indexOf_2_119 rfl k) ?_
    exact rk_top (rf_iret C rfl dJ21_indexOf_2_120)
  · exact rf_J21_indexOf_2_14 H C hX a0 a2 a3 v2 (a1 - a3) zm_N a4 _ ls (lv_sub hl [3, 4, 5, 2, 1, 0] rfl) hJ119 (fun v g k9 => by
        refine rk_inr ?_
        exact rk_top (k9))
theorem hd_J21_indexOf : yJ21_indexOf.cls ≠ "java/lang/invoke/MethodHandle" ∧ yJ21_indexOf.cls ≠ "java/lang/invoke/VarHandle" ∧ (parseMethodDescriptor yJ21_indexOf.desc).map (fun d => d.parameters.length) = some 2 := by decide +kernel
noncomputable def fn_J21_indexOf (K : zm_K) (a0 : zm_R) (a1 : zm_R) : zm_M Int32 :=
  zm_bnd (zm_alen a1) fun v1 =>
  if v1 = 0 then
    zm_ret 0
  else
    zm_bnd (zm_alen a0) fun v8 =>
    if v8 = 0 then
      zm_ret (-1)
    else
      zm_bnd (zm_alen a0) fun v16 =>
      zm_bnd (zm_alen a1) fun v19 =>
      zm_bnd (fn_J21_indexOf_2 K a0 v16 a1 v19 0) fun v21 =>
      zm_ret v21
theorem ct_J21_indexOf {l : Launch} {Ω : zm_W} {K : zm_K} (H : zm_H Ω K) (a0 : zm_R) (a1 : zm_R) : zm_Ct l Ω yJ21_indexOf (ws_ yJ21_indexOf cJ21_indexOf 2 (Option.some Jvm.ClassFile.FieldType.int)) 2 94 [va_rf a0, va_rf a1] zm_tvI (fn_J21_indexOf K a0 a1) := by
  refine zm_ct H.1 (by decide +kernel) (zl_le (zl_R (zl_R zl_nil)) (Nat.le_of_ble_eq_true rfl)) ?_
  intro p e R s m args below meth c n0 k0 C hX ls hl
  have hx := C.1
  have hb := C.2.1
  simp only [zg_R, zg_nil] at hl
  have hl : lv_has ls 2 [(0, va_rf a0), (1, va_rf a1)] := hl
  refine rk_rf ?_
  unfold fn_J21_indexOf
  refine rk_of (fun _ _ _ _ _ k => lr_aload_n hx hb dJ21_indexOf_0 rfl (lv_at hl 1 rfl) k) ?_
  refine rk_alen C dJ21_indexOf_1 (fun v1 => ?_)
  refine rk_ite (fun _ _ _ _ _ k1 k2 => lv_if_ne (tgt := 7) hx hb dJ21_indexOf_2 (by decide) k2 k1) (fun c_2 => ?_) (fun c_2 => ?_)
  · refine rk_of (fun _ _ _ _ _ k => lv_iconst (v := 0) hx hb dJ21_indexOf_5 rfl k) ?_
    exact rk_top (rf_iret C rfl dJ21_indexOf_6)
  · refine rk_of (fun _ _ _ _ _ k => lr_aload_n hx hb dJ21_indexOf_7 rfl (lv_at hl 0 rfl) k) ?_
    refine rk_alen C dJ21_indexOf_8 (fun v8 => ?_)
    refine rk_ite (fun _ _ _ _ _ k1 k2 => lv_if_ne (tgt := 14) hx hb dJ21_indexOf_9 (by decide) k2 k1) (fun c_9 => ?_) (fun c_9 => ?_)
    · refine rk_of (fun _ _ _ _ _ k => lv_iconst (v := (-1)) hx hb dJ21_indexOf_12 rfl k) ?_
      exact rk_top (rf_iret C rfl dJ21_indexOf_13)
    · refine rk_of (fun _ _ _ _ _ k => lr_aload_n hx hb dJ21_indexOf_14 rfl (lv_at hl 0 rfl) (lr_aload_n hx hb dJ21_indexOf_15 rfl (lv_at hl 0 rfl) k)) ?_
      refine rk_alen C dJ21_indexOf_16 (fun v16 => ?_)
      refine rk_of (fun _ _ _ _ _ k => lr_aload_n hx hb dJ21_indexOf_17 rfl (lv_at hl 1 rfl) (lr_aload_n hx hb dJ21_indexOf_18 rfl (lv_at hl 1 rfl) k)) ?_
      refine rk_alen C dJ21_indexOf_19 (fun v19 => ?_)
      refine rk_of (fun _ _ _ _ _ k => lv_iconst (v := 0) hx hb dJ21_indexOf_20 rfl k) ?_
      refine rk_callI hX (cl_S (rest := []) C (ct_J21_indexOf_2 H a0 v16 a1 v19 0) (lw_S q2125 q2126 q128 q2127) hd_J21_indexOf_2 ⟨(Nat.le_of_ble_eq_true rfl), (Nat.le_of_ble_eq_true rfl)⟩ rfl hl.1 rfl (zw_le zw_nil (Nat.le_of_ble_eq_true rfl)) dJ21_indexOf_21) (fun v21 => ?_)
      exact rk_top (rf_iret C rfl dJ21_indexOf_24)
theorem hd_J7_indexOf : yJ7_indexOf.cls ≠ "java/lang/invoke/MethodHandle" ∧ yJ7_indexOf.cls ≠ "java/lang/invoke/VarHandle" ∧ (parseMethodDescriptor yJ7_indexOf.desc).map (fun d => d.parameters.length) = some 1 := by decide +kernel
noncomputable def fn_J7_indexOf (K : zm_K) (a0 : zm_R) (a1 : zm_R) : zm_M Int32 :=
  zm_bnd (zm_bnd (zm_is a0 3) fun _ => fn_J7_coder K a0) fun v1 =>
  zm_bnd (zm_bnd (zm_is a1 3) fun _ => fn_J7_coder K a1) fun v7 =>
  if v1 = v7 then
    zm_bnd (zm_bnd (zm_is a0 3) fun _ => fn_J7_isLatin1 K a0) fun v14 =>
    if v14 = 0 then
      zm_bnd (zm_getR a0 3 0) fun v35 =>
      zm_bnd (zm_getR a1 3 0) fun v39 =>
      zm_fl
    else
      zm_bnd (zm_getR a0 3 0) fun v21 =>
      zm_bnd (zm_getR a1 3 0) fun v25 =>
      zm_bnd (fn_J21_indexOf K v21 v25) fun v28 =>
      zm_ret v28
  else
    if v1 = 0 then
      zm_ret (-1)
    else
      zm_bnd (zm_getR a0 3 0) fun v53 =>
      zm_bnd (zm_getR a1 3 0) fun v57 =>
      zm_fl
theorem ct_J7_indexOf {l : Launch} {Ω : zm_W} {K : zm_K} (H : zm_H Ω K) (a0 : zm_R) (a1 : zm_R) : zm_Ct l Ω yJ7_indexOf (ws_ yJ7_indexOf cJ7_indexOf 3 (Option.some Jvm.ClassFile.FieldType.int)) 3 115 [va_rf a0, va_rf a1] zm_tvI (fn_J7_indexOf K a0 a1) := by
  refine zm_ct H.1 (by decide +kernel) (zl_le (zl_R (zl_R zl_nil)) (Nat.le_of_ble_eq_true rfl)) ?_
  intro p e R s m args below meth c n0 k0 C hX ls hl
  have hx := C.1
  have hb := C.2.1
  simp only [zg_R, zg_nil] at hl
  have hl : lv_has ls 3 [(0, va_rf a0), (1, va_rf a1)] := hl
  refine rk_rf ?_
  unfold fn_J7_indexOf
  refine rk_of (fun _ _ _ _ _ k => lr_aload_n hx hb dJ7_indexOf_0 rfl (lv_at hl 0 rfl) k) ?_
  refine rk_callI hX (cl_V (rest := []) (av := []) C (hc_J7 H) (ct_J7_coder H a0) (lw_V q494 q495 q496 q110 q497) ⟨rfl, hd_J7_coder⟩ ⟨(Nat.le_of_ble_eq_true rfl), (Nat.le_of_ble_eq_true rfl)⟩ rfl hl.1 rfl (zw_le zw_nil (Nat.le_of_ble_eq_true rfl)) dJ7_indexOf_1) (fun v1 => ?_)
  refine rk_ofs (fun _ _ _ _ _ k => lr_istore_n hx hb dJ7_indexOf_4 rfl hl (Nat.le_of_ble_eq_true rfl) [0, 1] rfl ⟨trivial, ⟨(by first | exact va_rf_cat _ | rfl), trivial⟩⟩ k) (fun ls hl => ?_)
  refine rk_of (fun _ _ _ _ _ k => lv_iload_n hx hb dJ7_indexOf_5 rfl (lv_at hl 0 rfl) (lr_aload_n hx hb dJ7_indexOf_6 rfl (lv_at hl 2 rfl) k)) ?_
  refine rk_callI hX (cl_V (rest := [.int v1]) (av := []) C (hc_J7 H) (ct_J7_coder H a1) (lw_V q494 q495 q496 q110 q497) ⟨rfl, hd_J7_coder⟩ ⟨(Nat.le_of_ble_eq_true rfl), (Nat.le_of_ble_eq_true rfl)⟩ rfl hl.1 rfl (zw_le (zw_I zw_nil) (Nat.le_of_ble_eq_true rfl)) dJ7_indexOf_7) (fun v7 => ?_)
  refine rk_ite (fun _ _ _ _ _ k1 k2 => lv_icmp_ne (tgt := 46) hx hb dJ7_indexOf_10 (by decide) k2 k1) (fun c_10 => ?_) (fun c_10 => ?_)
  · refine rk_of (fun _ _ _ _ _ k => lr_aload_n hx hb dJ7_indexOf_13 rfl (lv_at hl 1 rfl) k) ?_
    refine rk_callI hX (cl_V (rest := []) (av := []) C (hc_J7 H) (ct_J7_isLatin1 H a0) (lw_V q2026 q2027 q2028 q110 q2029) ⟨rfl, hd_J7_isLatin1⟩ ⟨(Nat.le_of_ble_eq_true rfl), (Nat.le_of_ble_eq_true rfl)⟩ rfl hl.1 rfl (zw_le zw_nil (Nat.le_of_ble_eq_true rfl)) dJ7_indexOf_14) (fun v14 => ?_)
    refine rk_ite (fun _ _ _ _ _ k1 k2 => lv_if_eq (tgt := 34) hx hb dJ7_indexOf_17 (by decide) k1 k2) (fun c_17 => ?_) (fun c_17 => ?_)
    · refine rk_of (fun _ _ _ _ _ k => lr_aload_n hx hb dJ7_indexOf_34 rfl (lv_at hl 1 rfl) k) ?_
      refine rk_get zm_rdR_eq C (hc_J7 H) (k := 0) (Nat.le_of_ble_eq_true rfl) in_J7 q648 (fun _ h => h) dJ7_indexOf_35 (fun v35 => ?_)
      refine rk_of (fun _ _ _ _ _ k => lr_aload_n hx hb dJ7_indexOf_38 rfl (lv_at hl 2 rfl) k) ?_
      refine rk_get zm_rdR_eq C (hc_J7 H) (k := 0) (Nat.le_of_ble_eq_true rfl) in_J7 q648 (fun _ h => h) dJ7_indexOf_39 (fun v39 => ?_)
      exact rk_fl
    · refine rk_of (fun _ _ _ _ _ k => lr_aload_n hx hb dJ7_indexOf_20 rfl (lv_at hl 1 rfl) k) ?_
      refine rk_get zm_rdR_eq C (hc_J7 H) (k := 0) (Nat.le_of_ble_eq_true rfl) in_J7 q648 (fun _ h => h) dJ7_indexOf_21 (fun v21 => ?_)
      refine rk_of (fun _ _ _ _ _ k => lr_aload_n hx hb dJ7_indexOf_24 rfl (lv_at hl 2 rfl) k) ?_
      refine rk_get zm_rdR_eq C (hc_J7 H) (k := 0) (Nat.le_of_ble_eq_true rfl) in_J7 q648 (fun _ h => h) dJ7_indexOf_25 (fun v25 => ?_)
      refine rk_callI hX (cl_S (rest := []) C (ct_J21_indexOf H v21 v25) (lw_S q2122 q2123 q128 q2124) hd_J21_indexOf ⟨(Nat.le_of_ble_eq_true rfl), (Nat.le_of_ble_eq_true rfl)⟩ rfl hl.1 rfl (zw_le zw_nil (Nat.le_of_ble_eq_true rfl)) dJ7_indexOf_28) (fun v28 => ?_)
      refine rk_of (fun _ _ _ _ _ k => lv_goto (tgt := 45) hx hb dJ7_indexOf_31 (by decide) k) ?_
      exact rk_top (rf_iret C rfl dJ7_indexOf_45)
  · refine rk_ite (fun _ _ _ _ _ k1 k2 => lv_iload_n hx hb dJ7_indexOf_46 rfl (lv_at hl 0 rfl) (lv_if_ne (tgt := 52) hx hb dJ7_indexOf_47 (by decide) k2 k1)) (fun c_47 => ?_) (fun c_47 => ?_)
    · refine rk_of (fun _ _ _ _ _ k => lv_iconst (v := (-1)) hx hb dJ7_indexOf_50 rfl k) ?_
      exact rk_top (rf_iret C rfl dJ7_indexOf_51)
    · refine rk_of (fun _ _ _ _ _ k => lr_aload_n hx hb dJ7_indexOf_52 rfl (lv_at hl 1 rfl) k) ?_
      refine rk_get zm_rdR_eq C (hc_J7 H) (k := 0) (Nat.le_of_ble_eq_true rfl) in_J7 q648 (fun _ h => h) dJ7_indexOf_53 (fun v53 => ?_)
      refine rk_of (fun _ _ _ _ _ k => lr_aload_n hx hb dJ7_indexOf_56 rfl (lv_at hl 2 rfl) k) ?_
      refine rk_get zm_rdR_eq C (hc_J7 H) (k := 0) (Nat.le_of_ble_eq_true rfl) in_J7 q648 (fun _ h => h) dJ7_indexOf_57 (fun v57 => ?_)
      exact rk_fl
theorem hd_J7_contains : yJ7_contains.cls ≠ "java/lang/invoke/MethodHandle" ∧ yJ7_contains.cls ≠ "java/lang/invoke/VarHandle" ∧ (parseMethodDescriptor yJ7_contains.desc).map (fun d => d.parameters.length) = some 1 := by decide +kernel
noncomputable def fn_J7_contains (K : zm_K) (a0 : zm_R) (a1 : zm_R) : zm_M Int32 :=
  zm_bnd (zm_bnd (zm_cls a1) fun ci => if ci = 3 then fn_J7_toString K a1 else if ci = 2 then fn_J6_toString K a1 else zm_fl) fun v2 =>
  zm_bnd (zm_bnd (zm_is a0 3) fun _ => fn_J7_indexOf K a0 v2) fun v7 =>
  if v7 < 0 then
    zm_ret 0
  else
    zm_ret 1
theorem ct_J7_contains {l : Launch} {Ω : zm_W} {K : zm_K} (H : zm_H Ω K) (a0 : zm_R) (a1 : zm_R) : zm_Ct l Ω yJ7_contains (ws_ yJ7_contains cJ7_contains 2 (Option.some Jvm.ClassFile.FieldType.boolean)) 9 239 [va_rf a0, va_rf a1] zm_tvI (fn_J7_contains K a0 a1) := by
  refine zm_ct H.1 (by decide +kernel) (zl_le (zl_R (zl_R zl_nil)) (Nat.le_of_ble_eq_true rfl)) ?_
  intro p e R s m args below meth c n0 k0 C hX ls hl
  have hx := C.1
  have hb := C.2.1
  simp only [zg_R, zg_nil] at hl
  have hl : lv_has ls 2 [(0, va_rf a0), (1, va_rf a1)] := hl
  refine rk_rf ?_
  unfold fn_J7_contains
  refine rk_of (fun _ _ _ _ _ k => lr_aload_n hx hb dJ7_contains_0 rfl (lv_at hl 0 rfl) (lr_aload_n hx hb dJ7_contains_1 rfl (lv_at hl 1 rfl) k)) ?_
  refine rk_callR hX (cl_dsp (fun ci => cl_case (cl_F (n := 0) (rest := [va_rf a0]) (av := []) C (hc_J7 H) (ct_J7_toString H a1) (lw_F q2109 q2112 q2095 q110 q2096) (zh_Fw H C (by decide) q2111 q2110 q2114 q2113 q2009) (by decide +kernel) ⟨(Nat.le_of_ble_eq_true rfl), (Nat.le_of_ble_eq_true rfl)⟩ rfl hl.1 rfl (zw_le (zw_R zw_nil) (Nat.le_of_ble_eq_true rfl)) dJ7_contains_2) (cl_case (cl_F (n := 0) (rest := [va_rf a0]) (av := []) C (hc_J6 H) (ct_J6_toString H a1) (lw_F q2109 q2115 q560 q109 q562) (zh_Fw H C (by decide) q2111 q2110 q2117 q2116 q2013) (by decide +kernel) ⟨(Nat.le_of_ble_eq_true rfl), (Nat.le_of_ble_eq_true rfl)⟩ rfl hl.1 rfl (zw_le (zw_R zw_nil) (Nat.le_of_ble_eq_true rfl)) dJ7_contains_2) (cl_fl)))) (fun v2 => ?_)
  refine rk_callI hX (cl_V (rest := []) (av := [va_rf v2]) C (hc_J7 H) (ct_J7_indexOf H a0 v2) (lw_V q2118 q2119 q2120 q110 q2121) ⟨rfl, hd_J7_indexOf⟩ ⟨(Nat.le_of_ble_eq_true rfl), (Nat.le_of_ble_eq_true rfl)⟩ rfl hl.1 rfl (zw_le zw_nil (Nat.le_of_ble_eq_true rfl)) dJ7_contains_7) (fun v7 => ?_)
  refine rk_ite (fun _ _ _ _ _ k1 k2 => lv_if_lt (tgt := 17) hx hb dJ7_contains_10 (by decide) k1 k2) (fun c_10 => ?_) (fun c_10 => ?_)
  · refine rk_of (fun _ _ _ _ _ k => lv_iconst (v := 0) hx hb dJ7_contains_17 rfl k) ?_
    exact rk_top (rf_iret C rfl dJ7_contains_18)
  · refine rk_of (fun _ _ _ _ _ k => lv_iconst (v := 1) hx hb dJ7_contains_13 rfl (lv_goto (tgt := 18) hx hb dJ7_contains_14 (by decide) k)) ?_
    exact rk_top (rf_iret C rfl dJ7_contains_18)
theorem hd_X12_init : yX12_init.cls ≠ "java/lang/invoke/MethodHandle" ∧ yX12_init.cls ≠ "java/lang/invoke/VarHandle" ∧ (parseMethodDescriptor yX12_init.desc).map (fun d => d.parameters.length) = some 1 := by decide +kernel
noncomputable def fn_X12_init (K : zm_K) (a0 : zm_R) (a1 : Int32) : zm_M Unit :=
  zm_bnd (zm_bnd (zm_nn a0) fun _ => fn_J10_init_4 K a0 none none) fun _ =>
  zm_bnd (zm_putF K a0 28 6 (.int a1)) fun _ =>
  zm_ret ()
theorem ct_X12_init {l : Launch} {Ω : zm_W} {K : zm_K} (H : zm_H Ω K) (a0 : zm_R) (a1 : Int32) : zm_Ct l Ω yX12_init (ws_ yX12_init cX12_init 2 (Option.none : Option Jvm.ClassFile.FieldType)) 6 172 [va_rf a0, .int a1] zm_tvV (fn_X12_init K a0 a1) := by
  refine zm_ct H.1 (by decide +kernel) (zl_le (zl_R (zl_I zl_nil)) (Nat.le_of_ble_eq_true rfl)) ?_
  intro p e R s m args below meth c n0 k0 C hX ls hl
  have hx := C.1
  have hb := C.2.1
  simp only [zg_I, zg_R, zg_nil] at hl
  have hl : lv_has ls 2 [(0, va_rf a0), (1, .int a1)] := hl
  refine rk_rf ?_
  unfold fn_X12_init
  refine rk_of (fun _ _ _ _ _ k => lr_aload_n hx hb dX12_init_0 rfl (lv_at hl 0 rfl) (lr_null hx hb dX12_init_1 (lr_null hx hb dX12_init_2 k))) ?_
  refine rk_callV hX (cl_Ir (rest := []) C (ct_J10_init_4 H a0 none none) (lw_meth q1166) q114 q2156 q1165 rfl hd_J10_init_4 ⟨(Nat.le_of_ble_eq_true rfl), (Nat.le_of_ble_eq_true rfl)⟩ rfl hl.1 rfl (zw_le zw_nil (Nat.le_of_ble_eq_true rfl)) dX12_init_3) (fun _ => ?_)
  refine rk_of (fun _ _ _ _ _ k => lr_aload_n hx hb dX12_init_6 rfl (lv_at hl 0 rfl) (lv_iload_n hx hb dX12_init_7 rfl (lv_at hl 1 rfl) k)) ?_
  refine rk_put C H.2.2.1 (hc_X12 H) (k := 6) (Nat.le_of_ble_eq_true rfl) in_X12 (ty0 := tyX12) tyX12_ok nmX12 q2157 (fun _ h => h) (Or.inr ⟨rfl, rfl, rfl⟩) rfl rfl dX12_init_8 ?_
  exact rk_top (rf_vret C dX12_init_11)
theorem hd_X11_need : yX11_need.cls ≠ "java/lang/invoke/MethodHandle" ∧ yX11_need.cls ≠ "java/lang/invoke/VarHandle" ∧ (parseMethodDescriptor yX11_need.desc).map (fun d => d.parameters.length) = some 1 := by decide +kernel
noncomputable def fn_X11_need (K : zm_K) (a0 : zm_R) (a1 : Int32) : zm_M Unit :=
  if a1 = 0 then
    zm_bnd (zm_new 28 [.null, .null, .null, .null, .null, .int 0, .int 0]) fun v4 =>
    zm_bnd (zm_getI a0 27 1) fun v9 =>
    zm_bnd (fn_X12_init K (some v4) v9) fun _ =>
    zm_ath (some v4)
  else
    zm_ret ()
theorem ct_X11_need {l : Launch} {Ω : zm_W} {K : zm_K} (H : zm_H Ω K) (a0 : zm_R) (a1 : Int32) : zm_Ct l Ω yX11_need (ws_ yX11_need cX11_need 2 (Option.none : Option Jvm.ClassFile.FieldType)) 7 193 [va_rf a0, .int a1] zm_tvV (fn_X11_need K a0 a1) := by
  refine zm_ct H.1 (by decide +kernel) (zl_le (zl_R (zl_I zl_nil)) (Nat.le_of_ble_eq_true rfl)) ?_
  intro p e R s m args below meth c n0 k0 C hX ls hl
  have hx := C.1
  have hb := C.2.1
  simp only [zg_I, zg_R, zg_nil] at hl
  have hl : lv_has ls 2 [(0, va_rf a0), (1, .int a1)] := hl
  refine rk_rf ?_
  unfold fn_X11_need
  refine rk_ite (fun _ _ _ _ _ k1 k2 => lv_iload_n hx hb dX11_need_0 rfl (lv_at hl 1 rfl) (lv_if_ne (tgt := 16) hx hb dX11_need_1 (by decide) k2 k1)) (fun c_1 => ?_) (fun c_1 => ?_)
  · refine rk_new C (hc_X12 H) in_X12 tyX12_ok q2144 q2145 q146 (fs := [.null, .null, .null, .null, .null, .int 0, .int 0]) rfl (fun j hj => zdf_X12 j hj) dX11_need_4 (fun v4 => ?_)
    refine rk_of (fun _ _ _ _ _ k => lv_dup hx hb dX11_need_7 (va_rf_cat _) (lr_aload_n hx hb dX11_need_8 rfl (lv_at hl 0 rfl) k)) ?_
    refine rk_get zm_rdI_eq C (hc_X11 H) (k := 1) (Nat.le_of_ble_eq_true rfl) in_X11 q1979 (fun _ h => h) dX11_need_9 (fun v9 => ?_)
    refine rk_callV hX (cl_I (rest := [va_rf (some v4)]) C (ct_X12_init H (some v4) v9) (lw_meth q2155) q146 q2153 q2154 rfl hd_X12_init ⟨(Nat.le_of_ble_eq_true rfl), (Nat.le_of_ble_eq_true rfl)⟩ rfl hl.1 rfl (zw_le (zw_R zw_nil) (Nat.le_of_ble_eq_true rfl)) dX11_need_12) (fun _ => ?_)
    exact rk_ath H C hX dX11_need_15
  · exact rk_top (rf_vret C dX11_need_16)
theorem hd_X11_word : yX11_word.cls ≠ "java/lang/invoke/MethodHandle" ∧ yX11_word.cls ≠ "java/lang/invoke/VarHandle" ∧ (parseMethodDescriptor yX11_word.desc).map (fun d => d.parameters.length) = some 0 := by decide +kernel
noncomputable def fn_X11_word_8 (K : zm_K) (p0 : zm_R) (p1 : zm_R) : Nat → zm_M (Unit)
  | 0 => zm_fl
  | n + 1 =>
    zm_bnd (zm_bnd (zm_is p0 27) fun _ => fn_X11_here K p0) fun v9 =>
    if v9 < 97 then
      zm_ret ()
    else
      zm_bnd (zm_bnd (zm_is p0 27) fun _ => fn_X11_here K p0) fun v18 =>
      if 122 < v18 then
        zm_ret ()
      else
        zm_bnd (zm_new 2 [.null, .int 0, .int 0, .int 0]) fun v29 =>
        zm_bnd (fn_J6_init K (some v29)) fun _ =>
        zm_bnd (zm_bnd (zm_is (some v29) 2) fun _ => fn_J6_append K (some v29) (K.2 11)) fun v38 =>
        zm_bnd (zm_bnd (zm_is v38 2) fun _ => fn_J6_append_4 K v38 p1) fun v42 =>
        zm_bnd (zm_bnd (zm_is p0 27) fun _ => fn_X11_here K p0) fun v46 =>
        zm_bnd (zm_bnd (zm_is v42 2) fun _ => fn_J6_append_3 K v42 v46) fun v49 =>
        zm_bnd (zm_bnd (zm_is v49 2) fun _ => fn_J6_toString K v49) fun v52 =>
        zm_bnd (zm_bnd (zm_is (K.2 10) 3) fun _ => fn_J7_contains K (K.2 10) v52) fun v55 =>
        zm_bnd (zm_bnd (zm_is p0 27) fun _ => fn_X11_need K p0 v55) fun _ =>
        zm_bnd (zm_bnd (zm_is p0 27) fun _ => fn_X11_here K p0) fun v63 =>
        zm_bnd (zm_bnd (zm_is p1 2) fun _ => fn_J6_append_3 K p1 v63) fun v66 =>
        zm_bnd (zm_getI p0 27 1) fun v72 =>
        zm_bnd (zm_putF K p0 27 1 (.int (v72 + 1))) fun _ =>
        fn_X11_word_8 K p0 p1 n
noncomputable def fn_X11_word (K : zm_K) (a0 : zm_R) : zm_M zm_R :=
  zm_bnd (zm_new 2 [.null, .int 0, .int 0, .int 0]) fun v0 =>
  zm_bnd (fn_J6_init K (some v0)) fun _ =>
  zm_bnd (α := Unit) (fn_X11_word_8 K a0 (some v0) zm_N) fun (_ : Unit) =>
  zm_bnd (zm_bnd (zm_is (some v0) 2) fun _ => fn_J6_length K (some v0)) fun v85 =>
  zm_bnd (α := Int32) (
      if v85 ≤ 0 then
        zm_ret 0
      else
        zm_bnd (zm_new 2 [.null, .int 0, .int 0, .int 0]) fun v93 =>
        zm_bnd (fn_J6_init K (some v93)) fun _ =>
        zm_bnd (zm_bnd (zm_is (some v93) 2) fun _ => fn_J6_append K (some v93) (K.2 11)) fun v102 =>
        zm_bnd (zm_bnd (zm_is v102 2) fun _ => fn_J6_append_4 K v102 (some v0)) fun v106 =>
        zm_bnd (zm_bnd (zm_is v106 2) fun _ => fn_J6_append K v106 (K.2 11)) fun v111 =>
        zm_bnd (zm_bnd (zm_is v111 2) fun _ => fn_J6_toString K v111) fun v114 =>
        zm_bnd (zm_bnd (zm_is (K.2 10) 3) fun _ => fn_J7_contains K (K.2 10) v114) fun v117 =>
        if v117 = 0 then
          zm_ret 0
        else
          zm_ret 1
    ) fun b128 =>
  zm_bnd (zm_bnd (zm_is a0 27) fun _ => fn_X11_need K a0 b128) fun _ =>
  zm_bnd (zm_bnd (zm_is (some v0) 2) fun _ => fn_J6_toString K (some v0)) fun v132 =>
  zm_ret v132
theorem rf_X11_word_8 (H : zm_H Ω K) (C : zm_C p l R s m args meth c Ω lw_all cX11_word yX11_word.cls yX11_word.name 2 14 350 (Option.some (Jvm.ClassFile.FieldType.object "java/lang/String"))) (hX : zm_XO p l e R s m args below meth c Ω n0 k0 (zm_QFs below args s Ω n0 k0 zm_tvR)) (p0 : zm_R) (p1 : zm_R) : ∀ (n : Nat) (J : (Unit) → zm_M zm_R) (ls : Array Slot), lv_has ls 2 [(0, va_rf p0), (1, va_rf p1)] → (∀ (b : Unit) (ls : Array Slot), lv_has ls 2 [(0, va_rf p0), (1, va_rf p1)] → zm_RK p l e R s m args below meth c Ω n0 k0 (zm_QFs below args s Ω n0 k0 zm_tvR) (zm_ret b) J (F0 m 83 ls [])) → zm_RK p l e R s m args below meth c Ω n0 k0 (zm_QFs below args s Ω n0 k0 zm_tvR) (fn_X11_word_8 K p0 p1 n) J (F0 m 8 ls []) := by
  have hx := C.1
  have hb := C.2.1
  intro n
  induction n with
  | zero => intro J ls hl hJ; exact rk_fl
  | succ n ih =>
    intro J ls hl hJ
    unfold fn_X11_word_8
    refine rk_of (fun _ _ _ _ _ k => lr_aload_n hx hb dX11_word_8 rfl (lv_at hl 0 rfl) k) ?_
    refine rk_callI hX (cl_V (rest := []) (av := []) C (hc_X11 H) (ct_X11_here H p0) (lw_V q2001 q2003 qs27 q145 q2004) ⟨rfl, hd_X11_here⟩ ⟨(Nat.le_of_ble_eq_true rfl), (Nat.le_of_ble_eq_true rfl)⟩ rfl hl.1 rfl (zw_le zw_nil (Nat.le_of_ble_eq_true rfl)) dX11_word_9) (fun v9 => ?_)
    refine rk_ite (fun _ _ _ _ _ k1 k2 => lv_bipush (v := 97) hx hb dX11_word_12 rfl (lv_icmp_lt (tgt := 83) hx hb dX11_word_14 (by decide) k1 k2)) (fun c_14 => ?_) (fun c_14 => ?_)
    · exact hJ () ls (lv_sub hl [0, 1] rfl)
    · refine rk_of (fun _ _ _ _ _ k => lr_aload_n hx hb dX11_word_17 rfl (lv_at hl 0 rfl) k) ?_
      refine rk_callI hX (cl_V (rest := []) (av := []) C (hc_X11 H) (ct_X11_here H p0) (lw_V q2001 q2003 qs27 q145 q2004) ⟨rfl, hd_X11_here⟩ ⟨(Nat.le_of_ble_eq_true rfl), (Nat.le_of_ble_eq_true rfl)⟩ rfl hl.1 rfl (zw_le zw_nil (Nat.le_of_ble_eq_true rfl)) dX11_word_18) (fun v18 => ?_)
      refine rk_ite (fun _ _ _ _ _ k1 k2 => lv_bipush (v := 122) hx hb dX11_word_21 rfl (lv_icmp_gt (tgt := 83) hx hb dX11_word_23 (by decide) k1 k2)) (fun c_23 => ?_) (fun c_23 => ?_)
      · exact hJ () ls (lv_sub hl [0, 1] rfl)
      · refine rk_of (fun _ _ _ _ _ k => lr_aload_n hx hb dX11_word_26 rfl (lv_at hl 0 rfl) (zs_ldc C (zh_s10 H) dX11_word_27 k)) ?_
        refine rk_new C (hc_J6 H) in_J6 tyJ6_ok q1999 q238 q109 (fs := [.null, .int 0, .int 0, .int 0]) rfl (fun j hj => zdf_J6 j hj) dX11_word_29 (fun v29 => ?_)
        refine rk_of (fun _ _ _ _ _ k => lv_dup hx hb dX11_word_32 (va_rf_cat _) k) ?_
        refine rk_callV hX (cl_I (rest := [va_rf (some v29), va_rf (K.2 10), va_rf p0]) C (ct_J6_init H (some v29)) (lw_meth q241) q109 q2000 q240 rfl hd_J6_init ⟨(Nat.le_of_ble_eq_true rfl), (Nat.le_of_ble_eq_true rfl)⟩ rfl hl.1 rfl (zw_le (zw_R (zw_R (zw_R zw_nil))) (Nat.le_of_ble_eq_true rfl)) dX11_word_33) (fun _ => ?_)
        refine rk_of (fun _ _ _ _ _ k => zs_ldc C (zh_s11 H) dX11_word_36 k) ?_
        refine rk_callR hX (cl_V (rest := [va_rf (K.2 10), va_rf p0]) (av := [va_rf (K.2 11)]) C (hc_J6 H) (ct_J6_append H (some v29) (K.2 11)) (lw_V q2050 q414 q415 q109 q416) ⟨rfl, hd_J6_append⟩ ⟨(Nat.le_of_ble_eq_true rfl), (Nat.le_of_ble_eq_true rfl)⟩ rfl hl.1 rfl (zw_le (zw_R (zw_R zw_nil)) (Nat.le_of_ble_eq_true rfl)) dX11_word_38) (fun v38 => ?_)
        refine rk_of (fun _ _ _ _ _ k => lr_aload_n hx hb dX11_word_41 rfl (lv_at hl 1 rfl) k) ?_
        refine rk_callR hX (cl_V (rest := [va_rf (K.2 10), va_rf p0]) (av := [va_rf p1]) C (hc_J6 H) (ct_J6_append_4 H v38 p1) (lw_V q2051 q2052 q2053 q109 q2054) ⟨rfl, hd_J6_append_4⟩ ⟨(Nat.le_of_ble_eq_true rfl), (Nat.le_of_ble_eq_true rfl)⟩ rfl hl.1 rfl (zw_le (zw_R (zw_R zw_nil)) (Nat.le_of_ble_eq_true rfl)) dX11_word_42) (fun v42 => ?_)
        refine rk_of (fun _ _ _ _ _ k => lr_aload_n hx hb dX11_word_45 rfl (lv_at hl 0 rfl) k) ?_
        refine rk_callI hX (cl_V (rest := [va_rf v42, va_rf (K.2 10), va_rf p0]) (av := []) C (hc_X11 H) (ct_X11_here H p0) (lw_V q2001 q2003 qs27 q145 q2004) ⟨rfl, hd_X11_here⟩ ⟨(Nat.le_of_ble_eq_true rfl), (Nat.le_of_ble_eq_true rfl)⟩ rfl hl.1 rfl (zw_le (zw_R (zw_R (zw_R zw_nil))) (Nat.le_of_ble_eq_true rfl)) dX11_word_46) (fun v46 => ?_)
        refine rk_callR hX (cl_V (rest := [va_rf (K.2 10), va_rf p0]) (av := [.int v46]) C (hc_J6 H) (ct_J6_append_3 H v42 v46) (lw_V q2102 q1945 q1946 q109 q1947) ⟨rfl, hd_J6_append_3⟩ ⟨(Nat.le_of_ble_eq_true rfl), (Nat.le_of_ble_eq_true rfl)⟩ rfl hl.1 rfl (zw_le (zw_R (zw_R zw_nil)) (Nat.le_of_ble_eq_true rfl)) dX11_word_49) (fun v49 => ?_)
        refine rk_callR hX (cl_V (rest := [va_rf (K.2 10), va_rf p0]) (av := []) C (hc_J6 H) (ct_J6_toString H v49) (lw_V q2103 q560 q561 q109 q562) ⟨rfl, hd_J6_toString⟩ ⟨(Nat.le_of_ble_eq_true rfl), (Nat.le_of_ble_eq_true rfl)⟩ rfl hl.1 rfl (zw_le (zw_R (zw_R zw_nil)) (Nat.le_of_ble_eq_true rfl)) dX11_word_52) (fun v52 => ?_)
        refine rk_callI hX (cl_V (rest := [va_rf p0]) (av := [va_rf v52]) C (hc_J7 H) (ct_J7_contains H (K.2 10) v52) (lw_V q2104 q2105 q2106 q110 q2107) ⟨rfl, hd_J7_contains⟩ ⟨(Nat.le_of_ble_eq_true rfl), (Nat.le_of_ble_eq_true rfl)⟩ rfl hl.1 rfl (zw_le (zw_R zw_nil) (Nat.le_of_ble_eq_true rfl)) dX11_word_55) (fun v55 => ?_)
        refine rk_callV hX (cl_V (rest := []) (av := [.int v55]) C (hc_X11 H) (ct_X11_need H p0 v55) (lw_V q2140 q2142 qs28 q145 q2143) ⟨rfl, hd_X11_need⟩ ⟨(Nat.le_of_ble_eq_true rfl), (Nat.le_of_ble_eq_true rfl)⟩ rfl hl.1 rfl (zw_le zw_nil (Nat.le_of_ble_eq_true rfl)) dX11_word_58) (fun _ => ?_)
        refine rk_of (fun _ _ _ _ _ k => lr_aload_n hx hb dX11_word_61 rfl (lv_at hl 1 rfl) (lr_aload_n hx hb dX11_word_62 rfl (lv_at hl 0 rfl) k)) ?_
        refine rk_callI hX (cl_V (rest := [va_rf p1]) (av := []) C (hc_X11 H) (ct_X11_here H p0) (lw_V q2001 q2003 qs27 q145 q2004) ⟨rfl, hd_X11_here⟩ ⟨(Nat.le_of_ble_eq_true rfl), (Nat.le_of_ble_eq_true rfl)⟩ rfl hl.1 rfl (zw_le (zw_R zw_nil) (Nat.le_of_ble_eq_true rfl)) dX11_word_63) (fun v63 => ?_)
        refine rk_callR hX (cl_V (rest := []) (av := [.int v63]) C (hc_J6 H) (ct_J6_append_3 H p1 v63) (lw_V q2102 q1945 q1946 q109 q1947) ⟨rfl, hd_J6_append_3⟩ ⟨(Nat.le_of_ble_eq_true rfl), (Nat.le_of_ble_eq_true rfl)⟩ rfl hl.1 rfl (zw_le zw_nil (Nat.le_of_ble_eq_true rfl)) dX11_word_66) (fun v66 => ?_)
        refine rk_of (fun _ _ _ _ _ k => lv_pop hx hb dX11_word_69 (va_rf_cat _) (lr_aload_n hx hb dX11_word_70 rfl (lv_at hl 0 rfl) (lv_dup hx hb dX11_word_71 (va_rf_cat _) k))) ?_
        refine rk_get zm_rdI_eq C (hc_X11 H) (k := 1) (Nat.le_of_ble_eq_true rfl) in_X11 q1979 (fun _ h => h) dX11_word_72 (fun v72 => ?_)
        refine rk_of (fun _ _ _ _ _ k => lv_iconst (v := 1) hx hb dX11_word_75 rfl (lv_iadd hx hb dX11_word_76 k)) ?_
        refine rk_put C H.2.2.1 (hc_X11 H) (k := 1) (Nat.le_of_ble_eq_true rfl) in_X11 (ty0 := tyX11) tyX11_ok nmX11 q1979 (fun _ h => h) (Or.inl rfl) rfl rfl dX11_word_77 ?_
        refine rk_of (fun _ _ _ _ _ k => lv_goto (tgt := 8) hx hb dX11_word_80 (by decide) k) ?_
        exact ih J ls (lv_sub hl [0, 1] rfl) hJ
theorem ct_X11_word {l : Launch} {Ω : zm_W} {K : zm_K} (H : zm_H Ω K) (a0 : zm_R) : zm_Ct l Ω yX11_word (ws_ yX11_word cX11_word 2 (Option.some (Jvm.ClassFile.FieldType.object "java/lang/String"))) 14 350 [va_rf a0] zm_tvR (fn_X11_word K a0) := by
  refine zm_ct H.1 (by decide +kernel) (zl_le (zl_R zl_nil) (Nat.le_of_ble_eq_true rfl)) ?_
  intro p e R s m args below meth c n0 k0 C hX ls hl
  have hx := C.1
  have hb := C.2.1
  simp only [zg_R, zg_nil] at hl
  have hl : lv_has ls 2 [(0, va_rf a0)] := hl
  refine rk_rf ?_
  unfold fn_X11_word
  refine rk_new C (hc_J6 H) in_J6 tyJ6_ok q1999 q238 q109 (fs := [.null, .int 0, .int 0, .int 0]) rfl (fun j hj => zdf_J6 j hj) dX11_word_0 (fun v0 => ?_)
  refine rk_of (fun _ _ _ _ _ k => lv_dup hx hb dX11_word_3 (va_rf_cat _) k) ?_
  refine rk_callV hX (cl_I (rest := [va_rf (some v0)]) C (ct_J6_init H (some v0)) (lw_meth q241) q109 q2000 q240 rfl hd_J6_init ⟨(Nat.le_of_ble_eq_true rfl), (Nat.le_of_ble_eq_true rfl)⟩ rfl hl.1 rfl (zw_le (zw_R zw_nil) (Nat.le_of_ble_eq_true rfl)) dX11_word_4) (fun _ => ?_)
  refine rk_ofs (fun _ _ _ _ _ k => lr_astore_n hx hb dX11_word_7 rfl hl (Nat.le_of_ble_eq_true rfl) [0] rfl ⟨(by first | exact va_rf_cat _ | rfl), trivial⟩ k) (fun ls hl => ?_)
  refine rk_join (β := Unit) (fun (b83 : Unit) ls => lv_has ls 2 [(0, va_rf a0), (1, va_rf (some v0))]) (fun (b83 : Unit) ls => F0 m 83 ls []) (fun b83 ls hl => ?_) (fun hJ83 => ?_)
  · refine rk_of (fun _ _ _ _ _ k => lr_aload_n hx hb dX11_word_83 rfl (lv_at hl 0 rfl) (lr_aload_n hx hb dX11_word_84 rfl (lv_at hl 1 rfl) k)) ?_
    refine rk_callI hX (cl_V (rest := [va_rf a0]) (av := []) C (hc_J6 H) (ct_J6_length H (some v0)) (lw_V q2162 q581 q3087 q109 q582) ⟨rfl, hd_J6_length⟩ ⟨(Nat.le_of_ble_eq_true rfl), (Nat.le_of_ble_eq_true rfl)⟩ rfl hl.1 rfl (zw_le (zw_R zw_nil) (Nat.le_of_ble_eq_true rfl)) dX11_word_85) (fun v85 => ?_)
    refine rk_join (β := Int32) (fun (b128 : Int32) ls => lv_has ls 2 [(1, va_rf (some v0))]) (fun (b128 : Int32) ls => F0 m 128 ls [.int b128, va_rf a0]) (fun b128 ls hl => ?_) (fun hJ128 => ?_)
    · refine rk_callV hX (cl_V (rest := []) (av := [.int b128]) C (hc_X11 H) (ct_X11_need H a0 b128) (lw_V q2140 q2142 qs28 q145 q2143) ⟨rfl, hd_X11_need⟩ ⟨(Nat.le_of_ble_eq_true rfl), (Nat.le_of_ble_eq_true rfl)⟩ rfl hl.1 rfl (zw_le zw_nil (Nat.le_of_ble_eq_true rfl)) dX11_word_128) (fun _ => ?_)
      refine rk_of (fun _ _ _ _ _ k => lr_aload_n hx hb dX11_word_131 rfl (lv_at hl 0 rfl) k) ?_
      refine rk_callR hX (cl_V (rest := []) (av := []) C (hc_J6 H) (ct_J6_toString H (some v0)) (lw_V q2103 q560 q561 q109 q562) ⟨rfl, hd_J6_toString⟩ ⟨(Nat.le_of_ble_eq_true rfl), (Nat.le_of_ble_eq_true rfl)⟩ rfl hl.1 rfl (zw_le zw_nil (Nat.le_of_ble_eq_true rfl)) dX11_word_132) (fun v132 => ?_)
      exact rk_top (rf_aret C (Or.inl ⟨_, rfl⟩) dX11_word_135)
    · refine rk_ite (fun _ _ _ _ _ k1 k2 => lv_if_le (tgt := 127) hx hb dX11_word_88 (by decide) k1 k2) (fun c_88 => ?_) (fun c_88 => ?_)
      · refine rk_of (fun _ _ _ _ _ k => lv_iconst (v := 0) hx hb dX11_word_127 rfl k) ?_
        exact hJ128 0 ls (lv_sub hl [1] rfl)
      · refine rk_of (fun _ _ _ _ _ k => zs_ldc C (zh_s10 H) dX11_word_91 k) ?_
        refine rk_new C (hc_J6 H) in_J6 tyJ6_ok q1999 q238 q109 (fs := [.null, .int 0, .int 0, .int 0]) rfl (fun j hj => zdf_J6 j hj) dX11_word_93 (fun v93 => ?_)
        refine rk_of (fun _ _ _ _ _ k => lv_dup hx hb dX11_word_96 (va_rf_cat _) k) ?_
        refine rk_callV hX (cl_I (rest := [va_rf (some v93), va_rf (K.2 10), va_rf a0]) C (ct_J6_init H (some v93)) (lw_meth q241) q109 q2000 q240 rfl hd_J6_init ⟨(Nat.le_of_ble_eq_true rfl), (Nat.le_of_ble_eq_true rfl)⟩ rfl hl.1 rfl (zw_le (zw_R (zw_R (zw_R zw_nil))) (Nat.le_of_ble_eq_true rfl)) dX11_word_97) (fun _ => ?_)
        refine rk_of (fun _ _ _ _ _ k => zs_ldc C (zh_s11 H) dX11_word_100 k) ?_
        refine rk_callR hX (cl_V (rest := [va_rf (K.2 10), va_rf a0]) (av := [va_rf (K.2 11)]) C (hc_J6 H) (ct_J6_append H (some v93) (K.2 11)) (lw_V q2050 q414 q415 q109 q416) ⟨rfl, hd_J6_append⟩ ⟨(Nat.le_of_ble_eq_true rfl), (Nat.le_of_ble_eq_true rfl)⟩ rfl hl.1 rfl (zw_le (zw_R (zw_R zw_nil)) (Nat.le_of_ble_eq_true rfl)) dX11_word_102) (fun v102 => ?_)
        refine rk_of (fun _ _ _ _ _ k => lr_aload_n hx hb dX11_word_105 rfl (lv_at hl 1 rfl) k) ?_
        refine rk_callR hX (cl_V (rest := [va_rf (K.2 10), va_rf a0]) (av := [va_rf (some v0)]) C (hc_J6 H) (ct_J6_append_4 H v102 (some v0)) (lw_V q2051 q2052 q2053 q109 q2054) ⟨rfl, hd_J6_append_4⟩ ⟨(Nat.le_of_ble_eq_true rfl), (Nat.le_of_ble_eq_true rfl)⟩ rfl hl.1 rfl (zw_le (zw_R (zw_R zw_nil)) (Nat.le_of_ble_eq_true rfl)) dX11_word_106) (fun v106 => ?_)
        refine rk_of (fun _ _ _ _ _ k => zs_ldc C (zh_s11 H) dX11_word_109 k) ?_
        refine rk_callR hX (cl_V (rest := [va_rf (K.2 10), va_rf a0]) (av := [va_rf (K.2 11)]) C (hc_J6 H) (ct_J6_append H v106 (K.2 11)) (lw_V q2050 q414 q415 q109 q416) ⟨rfl, hd_J6_append⟩ ⟨(Nat.le_of_ble_eq_true rfl), (Nat.le_of_ble_eq_true rfl)⟩ rfl hl.1 rfl (zw_le (zw_R (zw_R zw_nil)) (Nat.le_of_ble_eq_true rfl)) dX11_word_111) (fun v111 => ?_)
        refine rk_callR hX (cl_V (rest := [va_rf (K.2 10), va_rf a0]) (av := []) C (hc_J6 H) (ct_J6_toString H v111) (lw_V q2103 q560 q561 q109 q562) ⟨rfl, hd_J6_toString⟩ ⟨(Nat.le_of_ble_eq_true rfl), (Nat.le_of_ble_eq_true rfl)⟩ rfl hl.1 rfl (zw_le (zw_R (zw_R zw_nil)) (Nat.le_of_ble_eq_true rfl)) dX11_word_114) (fun v114 => ?_)
        refine rk_callI hX (cl_V (rest := [va_rf a0]) (av := [va_rf v114]) C (hc_J7 H) (ct_J7_contains H (K.2 10) v114) (lw_V q2104 q2105 q2106 q110 q2107) ⟨rfl, hd_J7_contains⟩ ⟨(Nat.le_of_ble_eq_true rfl), (Nat.le_of_ble_eq_true rfl)⟩ rfl hl.1 rfl (zw_le (zw_R zw_nil) (Nat.le_of_ble_eq_true rfl)) dX11_word_117) (fun v117 => ?_)
        refine rk_ite (fun _ _ _ _ _ k1 k2 => lv_if_eq (tgt := 127) hx hb dX11_word_120 (by decide) k1 k2) (fun c_120 => ?_) (fun c_120 => ?_)
        · refine rk_of (fun _ _ _ _ _ k => lv_iconst (v := 0) hx hb dX11_word_127 rfl k) ?_
          exact hJ128 0 ls (lv_sub hl [1] rfl)
        · refine rk_of (fun _ _ _ _ _ k => lv_iconst (v := 1) hx hb dX11_word_123 rfl (lv_goto (tgt := 128) hx hb dX11_word_124 (by decide) k)) ?_
          exact hJ128 1 ls (lv_sub hl [1] rfl)
  · exact rf_X11_word_8 H C hX a0 (some v0) zm_N _ ls (lv_sub hl [1, 0] rfl) hJ83
theorem hd_J15_signedHashCode : yJ15_signedHashCode.cls ≠ "java/lang/invoke/MethodHandle" ∧ yJ15_signedHashCode.cls ≠ "java/lang/invoke/VarHandle" ∧ (parseMethodDescriptor yJ15_signedHashCode.desc).map (fun d => d.parameters.length) = some 4 := by decide +kernel
noncomputable def fn_J15_signedHashCode_8 (K : zm_K) (p1 : zm_R) (p4 : Int32) : Nat → Int32 → Int32 → zm_M (Int32)
  | 0, _, _ => zm_fl
  | n + 1, x0, x5 =>
    if p4 ≤ x5 then
      zm_ret x0
    else
      zm_bnd (zm_aldI .byte p1 x5) fun v22 =>
      fn_J15_signedHashCode_8 K p1 p4 n ((31 * x0) + (v22 &&& 255)) (x5 + 1)
noncomputable def fn_J15_signedHashCode (K : zm_K) (a0 : Int32) (a1 : zm_R) (a2 : Int32) (a3 : Int32) : zm_M Int32 :=
  zm_bnd (α := Int32) (fn_J15_signedHashCode_8 K a1 (a2 + a3) zm_N a0 a2) fun b35 =>
  zm_ret b35
theorem rf_J15_signedHashCode_8 (H : zm_H Ω K) (C : zm_C p l R s m args meth c Ω lw_all cJ15_signedHashCode yJ15_signedHashCode.cls yJ15_signedHashCode.name 6 1 64 (Option.some Jvm.ClassFile.FieldType.int)) (hX : zm_XO p l e R s m args below meth c Ω n0 k0 (zm_QFs below args s Ω n0 k0 zm_tvI)) (p1 : zm_R) (p4 : Int32) : ∀ (n : Nat) (x0 : Int32) (x5 : Int32) (J : (Int32) → zm_M Int32) (ls : Array Slot), lv_has ls 6 [(1, va_rf p1), (4, .int p4), (0, .int x0), (5, .int x5)] → (∀ (b : Int32) (ls : Array Slot), lv_has ls 6 [(0, .int b)] → zm_RK p l e R s m args below meth c Ω n0 k0 (zm_QFs below args s Ω n0 k0 zm_tvI) (zm_ret b) J (F0 m 35 ls [])) → zm_RK p l e R s m args below meth c Ω n0 k0 (zm_QFs below args s Ω n0 k0 zm_tvI) (fn_J15_signedHashCode_8 K p1 p4 n x0 x5) J (F0 m 8 ls []) := by
  have hx := C.1
  have hb := C.2.1
  intro n
  induction n with
  | zero => intro x0 x5 J ls hl hJ; exact rk_fl
  | succ n ih =>
    intro x0 x5 J ls hl hJ
    unfold fn_J15_signedHashCode_8
    refine rk_ite (fun _ _ _ _ _ k1 k2 => lv_iload hx hb dJ15_signedHashCode_8 (lv_at hl 3 rfl) (lv_iload hx hb dJ15_signedHashCode_10 (lv_at hl 1 rfl) (lv_icmp_ge (tgt := 35) hx hb dJ15_signedHashCode_12 (by decide) k1 k2))) (fun c_12 => ?_) (fun c_12 => ?_)
    · exact hJ x0 ls (lv_sub hl [2] rfl)
    · refine rk_of (fun _ _ _ _ _ k => lv_bipush (v := 31) hx hb dJ15_signedHashCode_15 rfl (lv_iload_n hx hb dJ15_signedHashCode_17 rfl (lv_at hl 2 rfl) (lv_imul hx hb dJ15_signedHashCode_18 (lr_aload_n hx hb dJ15_signedHashCode_19 rfl (lv_at hl 0 rfl) (lv_iload hx hb dJ15_signedHashCode_20 (lv_at hl 3 rfl) k))))) ?_
      refine rk_bald C dJ15_signedHashCode_22 (fun v22 => ?_)
      refine rk_ofs (fun _ _ _ _ _ k => lv_sipush (v := 255) hx hb dJ15_signedHashCode_23 rfl (lv_iand hx hb dJ15_signedHashCode_26 (lv_iadd hx hb dJ15_signedHashCode_27 (lr_istore_n hx hb dJ15_signedHashCode_28 rfl hl (Nat.le_of_ble_eq_true rfl) [0, 1, 3] rfl ⟨trivial, ⟨trivial, ⟨trivial, trivial⟩⟩⟩ k)))) (fun ls hl => ?_)
      refine rk_ofs (fun _ _ _ _ _ k => lr_iinc (v := x5 + 1) hx hb dJ15_signedHashCode_29 hl (k := 3) rfl rfl (Nat.le_of_ble_eq_true rfl) [0, 1, 2] rfl ⟨trivial, ⟨trivial, ⟨rfl, trivial⟩⟩⟩ k) (fun ls hl => ?_)
      refine rk_of (fun _ _ _ _ _ k => lv_goto (tgt := 8) hx hb dJ15_signedHashCode_32 (by decide) k) ?_
      exact ih ((31 * x0) + (v22 &&& 255)) (x5 + 1) J ls (lv_sub hl [2, 3, 1, 0] rfl) hJ
theorem ct_J15_signedHashCode {l : Launch} {Ω : zm_W} {K : zm_K} (H : zm_H Ω K) (a0 : Int32) (a1 : zm_R) (a2 : Int32) (a3 : Int32) : zm_Ct l Ω yJ15_signedHashCode (ws_ yJ15_signedHashCode cJ15_signedHashCode 6 (Option.some Jvm.ClassFile.FieldType.int)) 1 64 [.int a0, va_rf a1, .int a2, .int a3] zm_tvI (fn_J15_signedHashCode K a0 a1 a2 a3) := by
  refine zm_ct H.1 (by decide +kernel) (zl_le (zl_I (zl_R (zl_I (zl_I zl_nil)))) (Nat.le_of_ble_eq_true rfl)) ?_
  intro p e R s m args below meth c n0 k0 C hX ls hl
  have hx := C.1
  have hb := C.2.1
  simp only [zg_I, zg_R, zg_nil] at hl
  have hl : lv_has ls 6 [(0, .int a0), (1, va_rf a1), (2, .int a2), (3, .int a3)] := hl
  refine rk_rf ?_
  unfold fn_J15_signedHashCode
  refine rk_ofs (fun _ _ _ _ _ k => lv_iload_n hx hb dJ15_signedHashCode_0 rfl (lv_at hl 2 rfl) (lv_iload_n hx hb dJ15_signedHashCode_1 rfl (lv_at hl 3 rfl) (lv_iadd hx hb dJ15_signedHashCode_2 (lr_istore hx hb dJ15_signedHashCode_3 hl (Nat.le_of_ble_eq_true rfl) [0, 1, 2] rfl ⟨trivial, ⟨trivial, ⟨trivial, trivial⟩⟩⟩ k)))) (fun ls hl => ?_)
  refine rk_ofs (fun _ _ _ _ _ k => lv_iload_n hx hb dJ15_signedHashCode_5 rfl (lv_at hl 3 rfl) (lr_istore hx hb dJ15_signedHashCode_6 hl (Nat.le_of_ble_eq_true rfl) [0, 1, 2] rfl ⟨rfl, ⟨trivial, ⟨trivial, trivial⟩⟩⟩ k)) (fun ls hl => ?_)
  refine rk_join (β := Int32) (fun (b35 : Int32) ls => lv_has ls 6 [(0, .int b35)]) (fun (b35 : Int32) ls => F0 m 35 ls []) (fun b35 ls hl => ?_) (fun hJ35 => ?_)
  · refine rk_of (fun _ _ _ _ _ k => lv_iload_n hx hb dJ15_signedHashCode_35 rfl (lv_at hl 0 rfl) k) ?_
    exact rk_top (rf_iret C rfl dJ15_signedHashCode_36)
  · exact rf_J15_signedHashCode_8 H C hX a1 (a2 + a3) zm_N a0 a2 _ ls (lv_sub hl [3, 1, 2, 0] rfl) hJ35
theorem hd_J15_hashCode_2 : yJ15_hashCode_2.cls ≠ "java/lang/invoke/MethodHandle" ∧ yJ15_hashCode_2.cls ≠ "java/lang/invoke/VarHandle" ∧ (parseMethodDescriptor yJ15_hashCode_2.desc).map (fun d => d.parameters.length) = some 4 := by decide +kernel
noncomputable def fn_J15_hashCode_2_8 (K : zm_K) (p1 : zm_R) (p4 : Int32) : Nat → Int32 → Int32 → zm_M (Int32)
  | 0, _, _ => zm_fl
  | n + 1, x0, x5 =>
    if p4 ≤ x5 then
      zm_ret x0
    else
      zm_bnd (zm_aldI .byte p1 x5) fun v22 =>
      fn_J15_hashCode_2_8 K p1 p4 n ((31 * x0) + v22) (x5 + 1)
noncomputable def fn_J15_hashCode_2 (K : zm_K) (a0 : Int32) (a1 : zm_R) (a2 : Int32) (a3 : Int32) : zm_M Int32 :=
  zm_bnd (α := Int32) (fn_J15_hashCode_2_8 K a1 (a2 + a3) zm_N a0 a2) fun b31 =>
  zm_ret b31
theorem rf_J15_hashCode_2_8 (H : zm_H Ω K) (C : zm_C p l R s m args meth c Ω lw_all cJ15_hashCode_2 yJ15_hashCode_2.cls yJ15_hashCode_2.name 6 1 64 (Option.some Jvm.ClassFile.FieldType.int)) (hX : zm_XO p l e R s m args below meth c Ω n0 k0 (zm_QFs below args s Ω n0 k0 zm_tvI)) (p1 : zm_R) (p4 : Int32) : ∀ (n : Nat) (x0 : Int32) (x5 : Int32) (J : (Int32) → zm_M Int32) (ls : Array Slot), lv_has ls 6 [(1, va_rf p1), (4, .int p4), (0, .int x0), (5, .int x5)] → (∀ (b : Int32) (ls : Array Slot), lv_has ls 6 [(0, .int b)] → zm_RK p l e R s m args below meth c Ω n0 k0 (zm_QFs below args s Ω n0 k0 zm_tvI) (zm_ret b) J (F0 m 31 ls [])) → zm_RK p l e R s m args below meth c Ω n0 k0 (zm_QFs below args s Ω n0 k0 zm_tvI) (fn_J15_hashCode_2_8 K p1 p4 n x0 x5) J (F0 m 8 ls []) := by
  have hx := C.1
  have hb := C.2.1
  intro n
  induction n with
  | zero => intro x0 x5 J ls hl hJ; exact rk_fl
  | succ n ih =>
    intro x0 x5 J ls hl hJ
    unfold fn_J15_hashCode_2_8
    refine rk_ite (fun _ _ _ _ _ k1 k2 => lv_iload hx hb dJ15_hashCode_2_8 (lv_at hl 3 rfl) (lv_iload hx hb dJ15_hashCode_2_10 (lv_at hl 1 rfl) (lv_icmp_ge (tgt := 31) hx hb dJ15_hashCode_2_12 (by decide) k1 k2))) (fun c_12 => ?_) (fun c_12 => ?_)
    · exact hJ x0 ls (lv_sub hl [2] rfl)
    · refine rk_of (fun _ _ _ _ _ k => lv_bipush (v := 31) hx hb dJ15_hashCode_2_15 rfl (lv_iload_n hx hb dJ15_hashCode_2_17 rfl (lv_at hl 2 rfl) (lv_imul hx hb dJ15_hashCode_2_18 (lr_aload_n hx hb dJ15_hashCode_2_19 rfl (lv_at hl 0 rfl) (lv_iload hx hb dJ15_hashCode_2_20 (lv_at hl 3 rfl) k))))) ?_
      refine rk_bald C dJ15_hashCode_2_22 (fun v22 => ?_)
      refine rk_ofs (fun _ _ _ _ _ k => lv_iadd hx hb dJ15_hashCode_2_23 (lr_istore_n hx hb dJ15_hashCode_2_24 rfl hl (Nat.le_of_ble_eq_true rfl) [0, 1, 3] rfl ⟨trivial, ⟨trivial, ⟨trivial, trivial⟩⟩⟩ k)) (fun ls hl => ?_)
      refine rk_ofs (fun _ _ _ _ _ k => lr_iinc (v := x5 + 1) hx hb dJ15_hashCode_2_25 hl (k := 3) rfl rfl (Nat.le_of_ble_eq_true rfl) [0, 1, 2] rfl ⟨trivial, ⟨trivial, ⟨rfl, trivial⟩⟩⟩ k) (fun ls hl => ?_)
      refine rk_of (fun _ _ _ _ _ k => lv_goto (tgt := 8) hx hb dJ15_hashCode_2_28 (by decide) k) ?_
      exact ih ((31 * x0) + v22) (x5 + 1) J ls (lv_sub hl [2, 3, 1, 0] rfl) hJ
theorem ct_J15_hashCode_2 {l : Launch} {Ω : zm_W} {K : zm_K} (H : zm_H Ω K) (a0 : Int32) (a1 : zm_R) (a2 : Int32) (a3 : Int32) : zm_Ct l Ω yJ15_hashCode_2 (ws_ yJ15_hashCode_2 cJ15_hashCode_2 6 (Option.some Jvm.ClassFile.FieldType.int)) 1 64 [.int a0, va_rf a1, .int a2, .int a3] zm_tvI (fn_J15_hashCode_2 K a0 a1 a2 a3) := by
  refine zm_ct H.1 (by decide +kernel) (zl_le (zl_I (zl_R (zl_I (zl_I zl_nil)))) (Nat.le_of_ble_eq_true rfl)) ?_
  intro p e R s m args below meth c n0 k0 C hX ls hl
  have hx := C.1
  have hb := C.2.1
  simp only [zg_I, zg_R, zg_nil] at hl
  have hl : lv_has ls 6 [(0, .int a0), (1, va_rf a1), (2, .int a2), (3, .int a3)] := hl
  refine rk_rf ?_
  unfold fn_J15_hashCode_2
  refine rk_ofs (fun _ _ _ _ _ k => lv_iload_n hx hb dJ15_hashCode_2_0 rfl (lv_at hl 2 rfl) (lv_iload_n hx hb dJ15_hashCode_2_1 rfl (lv_at hl 3 rfl) (lv_iadd hx hb dJ15_hashCode_2_2 (lr_istore hx hb dJ15_hashCode_2_3 hl (Nat.le_of_ble_eq_true rfl) [0, 1, 2] rfl ⟨trivial, ⟨trivial, ⟨trivial, trivial⟩⟩⟩ k)))) (fun ls hl => ?_)
  refine rk_ofs (fun _ _ _ _ _ k => lv_iload_n hx hb dJ15_hashCode_2_5 rfl (lv_at hl 3 rfl) (lr_istore hx hb dJ15_hashCode_2_6 hl (Nat.le_of_ble_eq_true rfl) [0, 1, 2] rfl ⟨rfl, ⟨trivial, ⟨trivial, trivial⟩⟩⟩ k)) (fun ls hl => ?_)
  refine rk_join (β := Int32) (fun (b31 : Int32) ls => lv_has ls 6 [(0, .int b31)]) (fun (b31 : Int32) ls => F0 m 31 ls []) (fun b31 ls hl => ?_) (fun hJ31 => ?_)
  · refine rk_of (fun _ _ _ _ _ k => lv_iload_n hx hb dJ15_hashCode_2_31 rfl (lv_at hl 0 rfl) k) ?_
    exact rk_top (rf_iret C rfl dJ15_hashCode_2_32)
  · exact rf_J15_hashCode_2_8 H C hX a1 (a2 + a3) zm_N a0 a2 _ ls (lv_sub hl [3, 1, 2, 0] rfl) hJ31
theorem hd_J5_append_2 : yJ5_append_2.cls ≠ "java/lang/invoke/MethodHandle" ∧ yJ5_append_2.cls ≠ "java/lang/invoke/VarHandle" ∧ (parseMethodDescriptor yJ5_append_2.desc).map (fun d => d.parameters.length) = some 1 := by decide +kernel
noncomputable def fn_J5_append_2 (K : zm_K) (a0 : zm_R) (a1 : Int32) : zm_M zm_R :=
  zm_bnd (zm_getI a0 2 3) fun v1 =>
  zm_bnd (fn_J14_stringSize K a1) fun v7 =>
  zm_bnd (zm_bnd (zm_is a0 2) fun _ => fn_J5_ensureCapacityInternal K a0 (v1 + v7)) fun _ =>
  zm_bnd (zm_bnd (zm_is a0 2) fun _ => fn_J5_isLatin1 K a0) fun v18 =>
  if v18 = 0 then
    zm_bnd (zm_getR a0 2 0) fun v41 =>
    zm_fl
  else
    zm_bnd (zm_getR a0 2 0) fun v27 =>
    zm_bnd (fn_J14_getChars K a1 (v1 + v7) v27) fun v30 =>
    zm_bnd (zm_putF K a0 2 3 (.int (v1 + v7))) fun _ =>
    zm_ret a0
theorem ct_J5_append_2 {l : Launch} {Ω : zm_W} {K : zm_K} (H : zm_H Ω K) (a0 : zm_R) (a1 : Int32) : zm_Ct l Ω yJ5_append_2 (ws_ yJ5_append_2 cJ5_append_2 4 (Option.some (Jvm.ClassFile.FieldType.object "java/lang/AbstractStringBuilder"))) 7 198 [va_rf a0, .int a1] zm_tvR (fn_J5_append_2 K a0 a1) := by
  refine zm_ct H.1 (by decide +kernel) (zl_le (zl_R (zl_I zl_nil)) (Nat.le_of_ble_eq_true rfl)) ?_
  intro p e R s m args below meth c n0 k0 C hX ls hl
  have hx := C.1
  have hb := C.2.1
  simp only [zg_I, zg_R, zg_nil] at hl
  have hl : lv_has ls 4 [(0, va_rf a0), (1, .int a1)] := hl
  refine rk_rf ?_
  unfold fn_J5_append_2
  refine rk_of (fun _ _ _ _ _ k => lr_aload_n hx hb dJ5_append_2_0 rfl (lv_at hl 0 rfl) k) ?_
  refine rk_get zm_rdI_eq C (hc_J6 H) (k := 3) (Nat.le_of_ble_eq_true rfl) in_J6 q259 (fun _ h => h) dJ5_append_2_1 (fun v1 => ?_)
  refine rk_ofs (fun _ _ _ _ _ k => lr_istore_n hx hb dJ5_append_2_4 rfl hl (Nat.le_of_ble_eq_true rfl) [0, 1] rfl ⟨trivial, ⟨rfl, trivial⟩⟩ k) (fun ls hl => ?_)
  refine rk_of (fun _ _ _ _ _ k => lv_iload_n hx hb dJ5_append_2_5 rfl (lv_at hl 0 rfl) (lv_iload_n hx hb dJ5_append_2_6 rfl (lv_at hl 2 rfl) k)) ?_
  refine rk_callI hX (cl_S (rest := [.int v1]) C (ct_J14_stringSize H a1) (lw_S q540 q541 q119 q542) hd_J14_stringSize ⟨(Nat.le_of_ble_eq_true rfl), (Nat.le_of_ble_eq_true rfl)⟩ rfl hl.1 rfl (zw_le (zw_I zw_nil) (Nat.le_of_ble_eq_true rfl)) dJ5_append_2_7) (fun v7 => ?_)
  refine rk_ofs (fun _ _ _ _ _ k => lv_iadd hx hb dJ5_append_2_10 (lr_istore_n hx hb dJ5_append_2_11 rfl hl (Nat.le_of_ble_eq_true rfl) [0, 1, 2] rfl ⟨rfl, ⟨trivial, ⟨trivial, trivial⟩⟩⟩ k)) (fun ls hl => ?_)
  refine rk_of (fun _ _ _ _ _ k => lr_aload_n hx hb dJ5_append_2_12 rfl (lv_at hl 2 rfl) (lv_iload_n hx hb dJ5_append_2_13 rfl (lv_at hl 0 rfl) k)) ?_
  refine rk_callV hX (cl_U (n := 1) (rest := []) (av := [.int (v1 + v7)]) C (hc_J6 H) (ct_J5_ensureCapacityInternal H a0 (v1 + v7)) (lw_meth q427) q108 q424 (C.2.2.2.1 _ q3071) (va_Decl.of (C.2.2.2.1 _ q426) (C.2.2.2.1 _ q427)) (zh_up C rfl (zk_selP (by decide +kernel) (zh_w0 H (List.mem_filter.mp q238).1) (zh_w0 H q425) (zh_w0 H (List.mem_filter.mp q426).1) (zh_w0 H (List.mem_filter.mp q462).1) rfl)) q426 (by decide +kernel) ⟨(Nat.le_of_ble_eq_true rfl), (Nat.le_of_ble_eq_true rfl)⟩ rfl hl.1 rfl (zw_le zw_nil (Nat.le_of_ble_eq_true rfl)) dJ5_append_2_14) (fun _ => ?_)
  refine rk_of (fun _ _ _ _ _ k => lr_aload_n hx hb dJ5_append_2_17 rfl (lv_at hl 2 rfl) k) ?_
  refine rk_callI hX (cl_U (n := 0) (rest := []) (av := []) C (hc_J6 H) (ct_J5_isLatin1 H a0) (lw_meth q463) q108 q459 (C.2.2.2.1 _ q461) (va_Decl.of (C.2.2.2.1 _ q460) (C.2.2.2.1 _ q463)) (C.2.2.2.1 _ q462) q460 (by decide +kernel) ⟨(Nat.le_of_ble_eq_true rfl), (Nat.le_of_ble_eq_true rfl)⟩ rfl hl.1 rfl (zw_le zw_nil (Nat.le_of_ble_eq_true rfl)) dJ5_append_2_18) (fun v18 => ?_)
  refine rk_ite (fun _ _ _ _ _ k1 k2 => lv_if_eq (tgt := 37) hx hb dJ5_append_2_21 (by decide) k1 k2) (fun c_21 => ?_) (fun c_21 => ?_)
  · refine rk_of (fun _ _ _ _ _ k => lv_iload_n hx hb dJ5_append_2_37 rfl (lv_at hl 3 rfl) (lv_iload_n hx hb dJ5_append_2_38 rfl (lv_at hl 1 rfl) (lv_iload_n hx hb dJ5_append_2_39 rfl (lv_at hl 0 rfl) (lr_aload_n hx hb dJ5_append_2_40 rfl (lv_at hl 2 rfl) k)))) ?_
    refine rk_get zm_rdR_eq C (hc_J6 H) (k := 0) (Nat.le_of_ble_eq_true rfl) in_J6 q255 (fun _ h => h) dJ5_append_2_41 (fun v41 => ?_)
    exact rk_fl
  · refine rk_of (fun _ _ _ _ _ k => lv_iload_n hx hb dJ5_append_2_24 rfl (lv_at hl 3 rfl) (lv_iload_n hx hb dJ5_append_2_25 rfl (lv_at hl 0 rfl) (lr_aload_n hx hb dJ5_append_2_26 rfl (lv_at hl 2 rfl) k))) ?_
    refine rk_get zm_rdR_eq C (hc_J6 H) (k := 0) (Nat.le_of_ble_eq_true rfl) in_J6 q255 (fun _ h => h) dJ5_append_2_27 (fun v27 => ?_)
    refine rk_callI hX (cl_S (rest := []) C (ct_J14_getChars H a1 (v1 + v7) v27) (lw_S q543 q544 q119 q545) hd_J14_getChars ⟨(Nat.le_of_ble_eq_true rfl), (Nat.le_of_ble_eq_true rfl)⟩ rfl hl.1 rfl (zw_le zw_nil (Nat.le_of_ble_eq_true rfl)) dJ5_append_2_30) (fun v30 => ?_)
    refine rk_of (fun _ _ _ _ _ k => lv_pop hx hb dJ5_append_2_33 rfl (lv_goto (tgt := 48) hx hb dJ5_append_2_34 (by decide) (lr_aload_n hx hb dJ5_append_2_48 rfl (lv_at hl 2 rfl) (lv_iload_n hx hb dJ5_append_2_49 rfl (lv_at hl 0 rfl) k)))) ?_
    refine rk_put C H.2.2.1 (hc_J6 H) (k := 3) (Nat.le_of_ble_eq_true rfl) in_J6 (ty0 := tyJ6) tyJ6_ok nmJ6 q259 (fun _ h => h) (Or.inl rfl) rfl rfl dJ5_append_2_50 ?_
    refine rk_of (fun _ _ _ _ _ k => lr_aload_n hx hb dJ5_append_2_53 rfl (lv_at hl 2 rfl) k) ?_
    exact rk_top (rf_aret C (Or.inl ⟨_, rfl⟩) dJ5_append_2_54)
theorem hd_J6_append_2 : yJ6_append_2.cls ≠ "java/lang/invoke/MethodHandle" ∧ yJ6_append_2.cls ≠ "java/lang/invoke/VarHandle" ∧ (parseMethodDescriptor yJ6_append_2.desc).map (fun d => d.parameters.length) = some 1 := by decide +kernel
noncomputable def fn_J6_append_2 (K : zm_K) (a0 : zm_R) (a1 : Int32) : zm_M zm_R :=
  zm_bnd (zm_bnd (zm_is a0 2) fun _ => fn_J5_append_2 K a0 a1) fun v2 =>
  zm_ret a0
theorem ct_J6_append_2 {l : Launch} {Ω : zm_W} {K : zm_K} (H : zm_H Ω K) (a0 : zm_R) (a1 : Int32) : zm_Ct l Ω yJ6_append_2 (ws_ yJ6_append_2 cJ6_append_2 2 (Option.some (Jvm.ClassFile.FieldType.object "java/lang/StringBuilder"))) 8 221 [va_rf a0, .int a1] zm_tvR (fn_J6_append_2 K a0 a1) := by
  refine zm_ct H.1 (by decide +kernel) (zl_le (zl_R (zl_I zl_nil)) (Nat.le_of_ble_eq_true rfl)) ?_
  intro p e R s m args below meth c n0 k0 C hX ls hl
  have hx := C.1
  have hb := C.2.1
  simp only [zg_I, zg_R, zg_nil] at hl
  have hl : lv_has ls 2 [(0, va_rf a0), (1, .int a1)] := hl
  refine rk_rf ?_
  unfold fn_J6_append_2
  refine rk_of (fun _ _ _ _ _ k => lr_aload_n hx hb dJ6_append_2_0 rfl (lv_at hl 0 rfl) (lv_iload_n hx hb dJ6_append_2_1 rfl (lv_at hl 1 rfl) k)) ?_
  refine rk_callR hX (cl_SU (n := 1) (rest := []) (av := [.int a1]) C (hc_J6 H) (ct_J5_append_2 H a0 a1) (lw_SU q537 q3076 q268 q538 q108 q539) (by decide +kernel) ⟨(Nat.le_of_ble_eq_true rfl), (Nat.le_of_ble_eq_true rfl)⟩ rfl hl.1 rfl (zw_le zw_nil (Nat.le_of_ble_eq_true rfl)) dJ6_append_2_2) (fun v2 => ?_)
  refine rk_of (fun _ _ _ _ _ k => lv_pop hx hb dJ6_append_2_5 (va_rf_cat _) (lr_aload_n hx hb dJ6_append_2_6 rfl (lv_at hl 0 rfl) k)) ?_
  exact rk_top (rf_aret C (Or.inl ⟨_, rfl⟩) dJ6_append_2_7)
theorem hd_J12_init : yJ12_init.cls ≠ "java/lang/invoke/MethodHandle" ∧ yJ12_init.cls ≠ "java/lang/invoke/VarHandle" ∧ (parseMethodDescriptor yJ12_init.desc).map (fun d => d.parameters.length) = some 1 := by decide +kernel
noncomputable def fn_J12_init (K : zm_K) (a0 : zm_R) (a1 : zm_R) : zm_M Unit :=
  zm_bnd (zm_bnd (zm_nn a0) fun _ => fn_J11_init K a0 a1) fun _ =>
  zm_ret ()
theorem ct_J12_init {l : Launch} {Ω : zm_W} {K : zm_K} (H : zm_H Ω K) (a0 : zm_R) (a1 : zm_R) : zm_Ct l Ω yJ12_init (ws_ yJ12_init cJ12_init 2 (Option.none : Option Jvm.ClassFile.FieldType)) 7 191 [va_rf a0, va_rf a1] zm_tvV (fn_J12_init K a0 a1) := by
  refine zm_ct H.1 (by decide +kernel) (zl_le (zl_R (zl_R zl_nil)) (Nat.le_of_ble_eq_true rfl)) ?_
  intro p e R s m args below meth c n0 k0 C hX ls hl
  have hx := C.1
  have hb := C.2.1
  simp only [zg_R, zg_nil] at hl
  have hl : lv_has ls 2 [(0, va_rf a0), (1, va_rf a1)] := hl
  refine rk_rf ?_
  unfold fn_J12_init
  refine rk_of (fun _ _ _ _ _ k => lr_aload_n hx hb dJ12_init_0 rfl (lv_at hl 0 rfl) (lr_aload_n hx hb dJ12_init_1 rfl (lv_at hl 1 rfl) k)) ?_
  refine rk_callV hX (cl_Ir (rest := []) C (ct_J11_init H a0 a1) (lw_meth q615) q115 q613 q614 rfl hd_J11_init ⟨(Nat.le_of_ble_eq_true rfl), (Nat.le_of_ble_eq_true rfl)⟩ rfl hl.1 rfl (zw_le zw_nil (Nat.le_of_ble_eq_true rfl)) dJ12_init_2) (fun _ => ?_)
  exact rk_top (rf_vret C dJ12_init_5)
theorem hd_J15_vectorizedHashCode : yJ15_vectorizedHashCode.cls ≠ "java/lang/invoke/MethodHandle" ∧ yJ15_vectorizedHashCode.cls ≠ "java/lang/invoke/VarHandle" ∧ (parseMethodDescriptor yJ15_vectorizedHashCode.desc).map (fun d => d.parameters.length) = some 5 := by decide +kernel
noncomputable def fn_J15_vectorizedHashCode (K : zm_K) (a0 : zm_R) (a1 : Int32) (a2 : Int32) (a3 : Int32) (a4 : Int32) : zm_M Int32 :=
  if a4 = 4 then
    zm_bnd (zm_chk [] [.byte] a0) fun _ =>
    zm_bnd (fn_J15_signedHashCode K a3 a0 a1 a2) fun v51 =>
    zm_ret v51
  else
    if a4 = 5 then
      zm_bnd (zm_ins [] a0) fun v58 =>
      if v58 = 0 then
        zm_bnd (zm_chk [] [.char] a0) fun _ =>
        zm_fl
      else
        zm_bnd (zm_chk [] [.byte] a0) fun _ =>
        zm_fl
    else
      if a4 = 6 then
        zm_bnd (zm_new 5 [.null, .null, .null, .null, .null, .int 0]) fun v129 =>
        zm_bnd (zm_new 2 [.null, .int 0, .int 0, .int 0]) fun v133 =>
        zm_bnd (fn_J6_init K (some v133)) fun _ =>
        zm_bnd (zm_bnd (zm_is (some v133) 2) fun _ => fn_J6_append K (some v133) (K.2 37)) fun v142 =>
        zm_bnd (zm_bnd (zm_is v142 2) fun _ => fn_J6_append_2 K v142 a4) fun v147 =>
        zm_bnd (zm_bnd (zm_is v147 2) fun _ => fn_J6_toString K v147) fun v150 =>
        zm_bnd (fn_J12_init K (some v129) v150) fun _ =>
        zm_ath (some v129)
      else
        if a4 = 7 then
          zm_bnd (zm_new 5 [.null, .null, .null, .null, .null, .int 0]) fun v129 =>
          zm_bnd (zm_new 2 [.null, .int 0, .int 0, .int 0]) fun v133 =>
          zm_bnd (fn_J6_init K (some v133)) fun _ =>
          zm_bnd (zm_bnd (zm_is (some v133) 2) fun _ => fn_J6_append K (some v133) (K.2 37)) fun v142 =>
          zm_bnd (zm_bnd (zm_is v142 2) fun _ => fn_J6_append_2 K v142 a4) fun v147 =>
          zm_bnd (zm_bnd (zm_is v147 2) fun _ => fn_J6_toString K v147) fun v150 =>
          zm_bnd (fn_J12_init K (some v129) v150) fun _ =>
          zm_ath (some v129)
        else
          if a4 = 8 then
            zm_bnd (zm_chk [] [.byte] a0) fun _ =>
            zm_bnd (fn_J15_hashCode_2 K a3 a0 a1 a2) fun v97 =>
            zm_ret v97
          else
            if a4 = 9 then
              zm_bnd (zm_chk [] [] a0) fun _ =>
              zm_fl
            else
              if a4 = 10 then
                zm_bnd (zm_chk [] [.int] a0) fun _ =>
                zm_fl
              else
                zm_bnd (zm_new 5 [.null, .null, .null, .null, .null, .int 0]) fun v129 =>
                zm_bnd (zm_new 2 [.null, .int 0, .int 0, .int 0]) fun v133 =>
                zm_bnd (fn_J6_init K (some v133)) fun _ =>
                zm_bnd (zm_bnd (zm_is (some v133) 2) fun _ => fn_J6_append K (some v133) (K.2 37)) fun v142 =>
                zm_bnd (zm_bnd (zm_is v142 2) fun _ => fn_J6_append_2 K v142 a4) fun v147 =>
                zm_bnd (zm_bnd (zm_is v147 2) fun _ => fn_J6_toString K v147) fun v150 =>
                zm_bnd (fn_J12_init K (some v129) v150) fun _ =>
                zm_ath (some v129)
theorem ct_J15_vectorizedHashCode {l : Launch} {Ω : zm_W} {K : zm_K} (H : zm_H Ω K) (a0 : zm_R) (a1 : Int32) (a2 : Int32) (a3 : Int32) (a4 : Int32) : zm_Ct l Ω yJ15_vectorizedHashCode (ws_ yJ15_vectorizedHashCode cJ15_vectorizedHashCode 5 (Option.some Jvm.ClassFile.FieldType.int)) 11 287 [va_rf a0, .int a1, .int a2, .int a3, .int a4] zm_tvI (fn_J15_vectorizedHashCode K a0 a1 a2 a3 a4) := by
  refine zm_ct H.1 (by decide +kernel) (zl_le (zl_R (zl_I (zl_I (zl_I (zl_I zl_nil))))) (Nat.le_of_ble_eq_true rfl)) ?_
  intro p e R s m args below meth c n0 k0 C hX ls hl
  have hx := C.1
  have hb := C.2.1
  simp only [zg_I, zg_R, zg_nil] at hl
  have hl : lv_has ls 5 [(0, va_rf a0), (1, .int a1), (2, .int a2), (3, .int a3), (4, .int a4)] := hl
  refine rk_rf ?_
  unfold fn_J15_vectorizedHashCode
  refine rk_of (fun _ _ _ _ _ k => lv_iload hx hb dJ15_vectorizedHashCode_0 (lv_at hl 4 rfl) k) ?_
  refine rk_case (fun c_2_0 => ?_) (fun c_2_0 => ?_)
  · refine rk_of (fun _ _ _ _ _ k => by rw [c_2_0]; exact lv_tableIn (off := 42) (tgt := 44) hx hb dJ15_vectorizedHashCode_2 (by decide) (by decide) rfl (by decide) k) ?_
    refine rk_of (fun _ _ _ _ _ k => lv_iload_n hx hb dJ15_vectorizedHashCode_44 rfl (lv_at hl 3 rfl) (lr_aload_n hx hb dJ15_vectorizedHashCode_45 rfl (lv_at hl 0 rfl) k)) ?_
    refine rk_chk C q2173 zc_nil (zp_cons (fun _ _ h => h) zp_nil) dJ15_vectorizedHashCode_46 ?_
    refine rk_of (fun _ _ _ _ _ k => lv_iload_n hx hb dJ15_vectorizedHashCode_49 rfl (lv_at hl 1 rfl) (lv_iload_n hx hb dJ15_vectorizedHashCode_50 rfl (lv_at hl 2 rfl) k)) ?_
    refine rk_callI hX (cl_S (rest := []) C (ct_J15_signedHashCode H a3 a0 a1 a2) (lw_S q2174 q2175 q121 q2176) hd_J15_signedHashCode ⟨(Nat.le_of_ble_eq_true rfl), (Nat.le_of_ble_eq_true rfl)⟩ rfl hl.1 rfl (zw_le zw_nil (Nat.le_of_ble_eq_true rfl)) dJ15_vectorizedHashCode_51) (fun v51 => ?_)
    refine rk_of (fun _ _ _ _ _ k => lv_goto (tgt := 157) hx hb dJ15_vectorizedHashCode_54 (by decide) k) ?_
    exact rk_top (rf_iret C rfl dJ15_vectorizedHashCode_157)
  · refine rk_case (fun c_2_1 => ?_) (fun c_2_1 => ?_)
    · refine rk_of (fun _ _ _ _ _ k => by rw [c_2_1]; exact lv_tableIn (off := 55) (tgt := 57) hx hb dJ15_vectorizedHashCode_2 (by decide) (by decide) rfl (by decide) k) ?_
      refine rk_of (fun _ _ _ _ _ k => lr_aload_n hx hb dJ15_vectorizedHashCode_57 rfl (lv_at hl 0 rfl) k) ?_
      refine rk_inst C q2173 zc_nil dJ15_vectorizedHashCode_58 (fun v58 => ?_)
      refine rk_ite (fun _ _ _ _ _ k1 k2 => lv_if_eq (tgt := 77) hx hb dJ15_vectorizedHashCode_61 (by decide) k1 k2) (fun c_61 => ?_) (fun c_61 => ?_)
      · refine rk_of (fun _ _ _ _ _ k => lv_iload_n hx hb dJ15_vectorizedHashCode_77 rfl (lv_at hl 3 rfl) (lr_aload_n hx hb dJ15_vectorizedHashCode_78 rfl (lv_at hl 0 rfl) k)) ?_
        refine rk_chk C q2193 zc_nil (zp_cons (fun _ _ h => h) zp_nil) dJ15_vectorizedHashCode_79 ?_
        refine rk_of (fun _ _ _ _ _ k => lv_iload_n hx hb dJ15_vectorizedHashCode_82 rfl (lv_at hl 1 rfl) (lv_iload_n hx hb dJ15_vectorizedHashCode_83 rfl (lv_at hl 2 rfl) k)) ?_
        exact rk_fl
      · refine rk_of (fun _ _ _ _ _ k => lv_iload_n hx hb dJ15_vectorizedHashCode_64 rfl (lv_at hl 3 rfl) (lr_aload_n hx hb dJ15_vectorizedHashCode_65 rfl (lv_at hl 0 rfl) k)) ?_
        refine rk_chk C q2173 zc_nil (zp_cons (fun _ _ h => h) zp_nil) dJ15_vectorizedHashCode_66 ?_
        refine rk_of (fun _ _ _ _ _ k => lv_iload_n hx hb dJ15_vectorizedHashCode_69 rfl (lv_at hl 1 rfl) (lv_iload_n hx hb dJ15_vectorizedHashCode_70 rfl (lv_at hl 2 rfl) k)) ?_
        exact rk_fl
    · refine rk_case (fun c_2_2 => ?_) (fun c_2_2 => ?_)
      · refine rk_of (fun _ _ _ _ _ k => by rw [c_2_2]; exact lv_tableIn (off := 127) (tgt := 129) hx hb dJ15_vectorizedHashCode_2 (by decide) (by decide) rfl (by decide) k) ?_
        refine rk_new C (hc_J12 H) in_J12 tyJ12_ok q2208 q596 q116 (fs := [.null, .null, .null, .null, .null, .int 0]) rfl (fun j hj => zdf_J12 j hj) dJ15_vectorizedHashCode_129 (fun v129 => ?_)
        refine rk_of (fun _ _ _ _ _ k => lv_dup hx hb dJ15_vectorizedHashCode_132 (va_rf_cat _) k) ?_
        refine rk_new C (hc_J6 H) in_J6 tyJ6_ok q2209 q238 q109 (fs := [.null, .int 0, .int 0, .int 0]) rfl (fun j hj => zdf_J6 j hj) dJ15_vectorizedHashCode_133 (fun v133 => ?_)
        refine rk_of (fun _ _ _ _ _ k => lv_dup hx hb dJ15_vectorizedHashCode_136 (va_rf_cat _) k) ?_
        refine rk_callV hX (cl_I (rest := [va_rf (some v133), va_rf (some v129), va_rf (some v129)]) C (ct_J6_init H (some v133)) (lw_meth q241) q109 q2210 q240 rfl hd_J6_init ⟨(Nat.le_of_ble_eq_true rfl), (Nat.le_of_ble_eq_true rfl)⟩ rfl hl.1 rfl (zw_le (zw_R (zw_R (zw_R zw_nil))) (Nat.le_of_ble_eq_true rfl)) dJ15_vectorizedHashCode_137) (fun _ => ?_)
        refine rk_of (fun _ _ _ _ _ k => zs_ldc C (zh_s37 H) dJ15_vectorizedHashCode_140 k) ?_
        refine rk_callR hX (cl_V (rest := [va_rf (some v129), va_rf (some v129)]) (av := [va_rf (K.2 37)]) C (hc_J6 H) (ct_J6_append H (some v133) (K.2 37)) (lw_V q2212 q414 q415 q109 q416) ⟨rfl, hd_J6_append⟩ ⟨(Nat.le_of_ble_eq_true rfl), (Nat.le_of_ble_eq_true rfl)⟩ rfl hl.1 rfl (zw_le (zw_R (zw_R zw_nil)) (Nat.le_of_ble_eq_true rfl)) dJ15_vectorizedHashCode_142) (fun v142 => ?_)
        refine rk_of (fun _ _ _ _ _ k => lv_iload hx hb dJ15_vectorizedHashCode_145 (lv_at hl 4 rfl) k) ?_
        refine rk_callR hX (cl_V (rest := [va_rf (some v129), va_rf (some v129)]) (av := [.int a4]) C (hc_J6 H) (ct_J6_append_2 H v142 a4) (lw_V q2213 q534 q535 q109 q536) ⟨rfl, hd_J6_append_2⟩ ⟨(Nat.le_of_ble_eq_true rfl), (Nat.le_of_ble_eq_true rfl)⟩ rfl hl.1 rfl (zw_le (zw_R (zw_R zw_nil)) (Nat.le_of_ble_eq_true rfl)) dJ15_vectorizedHashCode_147) (fun v147 => ?_)
        refine rk_callR hX (cl_V (rest := [va_rf (some v129), va_rf (some v129)]) (av := []) C (hc_J6 H) (ct_J6_toString H v147) (lw_V q2214 q560 q561 q109 q562) ⟨rfl, hd_J6_toString⟩ ⟨(Nat.le_of_ble_eq_true rfl), (Nat.le_of_ble_eq_true rfl)⟩ rfl hl.1 rfl (zw_le (zw_R (zw_R zw_nil)) (Nat.le_of_ble_eq_true rfl)) dJ15_vectorizedHashCode_150) (fun v150 => ?_)
        refine rk_callV hX (cl_I (rest := [va_rf (some v129)]) C (ct_J12_init H (some v129) v150) (lw_meth q612) q116 q2215 q611 rfl hd_J12_init ⟨(Nat.le_of_ble_eq_true rfl), (Nat.le_of_ble_eq_true rfl)⟩ rfl hl.1 rfl (zw_le (zw_R zw_nil) (Nat.le_of_ble_eq_true rfl)) dJ15_vectorizedHashCode_153) (fun _ => ?_)
        exact rk_ath H C hX dJ15_vectorizedHashCode_156
      · refine rk_case (fun c_2_3 => ?_) (fun c_2_3 => ?_)
        · refine rk_of (fun _ _ _ _ _ k => by rw [c_2_3]; exact lv_tableIn (off := 127) (tgt := 129) hx hb dJ15_vectorizedHashCode_2 (by decide) (by decide) rfl (by decide) k) ?_
          refine rk_new C (hc_J12 H) in_J12 tyJ12_ok q2208 q596 q116 (fs := [.null, .null, .null, .null, .null, .int 0]) rfl (fun j hj => zdf_J12 j hj) dJ15_vectorizedHashCode_129 (fun v129 => ?_)
          refine rk_of (fun _ _ _ _ _ k => lv_dup hx hb dJ15_vectorizedHashCode_132 (va_rf_cat _) k) ?_
          refine rk_new C (hc_J6 H) in_J6 tyJ6_ok q2209 q238 q109 (fs := [.null, .int 0, .int 0, .int 0]) rfl (fun j hj => zdf_J6 j hj) dJ15_vectorizedHashCode_133 (fun v133 => ?_)
          refine rk_of (fun _ _ _ _ _ k => lv_dup hx hb dJ15_vectorizedHashCode_136 (va_rf_cat _) k) ?_
          refine rk_callV hX (cl_I (rest := [va_rf (some v133), va_rf (some v129), va_rf (some v129)]) C (ct_J6_init H (some v133)) (lw_meth q241) q109 q2210 q240 rfl hd_J6_init ⟨(Nat.le_of_ble_eq_true rfl), (Nat.le_of_ble_eq_true rfl)⟩ rfl hl.1 rfl (zw_le (zw_R (zw_R (zw_R zw_nil))) (Nat.le_of_ble_eq_true rfl)) dJ15_vectorizedHashCode_137) (fun _ => ?_)
          refine rk_of (fun _ _ _ _ _ k => zs_ldc C (zh_s37 H) dJ15_vectorizedHashCode_140 k) ?_
          refine rk_callR hX (cl_V (rest := [va_rf (some v129), va_rf (some v129)]) (av := [va_rf (K.2 37)]) C (hc_J6 H) (ct_J6_append H (some v133) (K.2 37)) (lw_V q2212 q414 q415 q109 q416) ⟨rfl, hd_J6_append⟩ ⟨(Nat.le_of_ble_eq_true rfl), (Nat.le_of_ble_eq_true rfl)⟩ rfl hl.1 rfl (zw_le (zw_R (zw_R zw_nil)) (Nat.le_of_ble_eq_true rfl)) dJ15_vectorizedHashCode_142) (fun v142 => ?_)
          refine rk_of (fun _ _ _ _ _ k => lv_iload hx hb dJ15_vectorizedHashCode_145 (lv_at hl 4 rfl) k) ?_
          refine rk_callR hX (cl_V (rest := [va_rf (some v129), va_rf (some v129)]) (av := [.int a4]) C (hc_J6 H) (ct_J6_append_2 H v142 a4) (lw_V q2213 q534 q535 q109 q536) ⟨rfl, hd_J6_append_2⟩ ⟨(Nat.le_of_ble_eq_true rfl), (Nat.le_of_ble_eq_true rfl)⟩ rfl hl.1 rfl (zw_le (zw_R (zw_R zw_nil)) (Nat.le_of_ble_eq_true rfl)) dJ15_vectorizedHashCode_147) (fun v147 => ?_)
          refine rk_callR hX (cl_V (rest := [va_rf (some v129), va_rf (some v129)]) (av := []) C (hc_J6 H) (ct_J6_toString H v147) (lw_V q2214 q560 q561 q109 q562) ⟨rfl, hd_J6_toString⟩ ⟨(Nat.le_of_ble_eq_true rfl), (Nat.le_of_ble_eq_true rfl)⟩ rfl hl.1 rfl (zw_le (zw_R (zw_R zw_nil)) (Nat.le_of_ble_eq_true rfl)) dJ15_vectorizedHashCode_150) (fun v150 => ?_)
          refine rk_callV hX (cl_I (rest := [va_rf (some v129)]) C (ct_J12_init H (some v129) v150) (lw_meth q612) q116 q2215 q611 rfl hd_J12_init ⟨(Nat.le_of_ble_eq_true rfl), (Nat.le_of_ble_eq_true rfl)⟩ rfl hl.1 rfl (zw_le (zw_R zw_nil) (Nat.le_of_ble_eq_true rfl)) dJ15_vectorizedHashCode_153) (fun _ => ?_)
          exact rk_ath H C hX dJ15_vectorizedHashCode_156
        · refine rk_case (fun c_2_4 => ?_) (fun c_2_4 => ?_)
          · refine rk_of (fun _ _ _ _ _ k => by rw [c_2_4]; exact lv_tableIn (off := 88) (tgt := 90) hx hb dJ15_vectorizedHashCode_2 (by decide) (by decide) rfl (by decide) k) ?_
            refine rk_of (fun _ _ _ _ _ k => lv_iload_n hx hb dJ15_vectorizedHashCode_90 rfl (lv_at hl 3 rfl) (lr_aload_n hx hb dJ15_vectorizedHashCode_91 rfl (lv_at hl 0 rfl) k)) ?_
            refine rk_chk C q2173 zc_nil (zp_cons (fun _ _ h => h) zp_nil) dJ15_vectorizedHashCode_92 ?_
            refine rk_of (fun _ _ _ _ _ k => lv_iload_n hx hb dJ15_vectorizedHashCode_95 rfl (lv_at hl 1 rfl) (lv_iload_n hx hb dJ15_vectorizedHashCode_96 rfl (lv_at hl 2 rfl) k)) ?_
            refine rk_callI hX (cl_S (rest := []) C (ct_J15_hashCode_2 H a3 a0 a1 a2) (lw_S q2197 q2198 q121 q2199) hd_J15_hashCode_2 ⟨(Nat.le_of_ble_eq_true rfl), (Nat.le_of_ble_eq_true rfl)⟩ rfl hl.1 rfl (zw_le zw_nil (Nat.le_of_ble_eq_true rfl)) dJ15_vectorizedHashCode_97) (fun v97 => ?_)
            refine rk_of (fun _ _ _ _ _ k => lv_goto (tgt := 157) hx hb dJ15_vectorizedHashCode_100 (by decide) k) ?_
            exact rk_top (rf_iret C rfl dJ15_vectorizedHashCode_157)
          · refine rk_case (fun c_2_5 => ?_) (fun c_2_5 => ?_)
            · refine rk_of (fun _ _ _ _ _ k => by rw [c_2_5]; exact lv_tableIn (off := 101) (tgt := 103) hx hb dJ15_vectorizedHashCode_2 (by decide) (by decide) rfl (by decide) k) ?_
              refine rk_of (fun _ _ _ _ _ k => lv_iload_n hx hb dJ15_vectorizedHashCode_103 rfl (lv_at hl 3 rfl) (lr_aload_n hx hb dJ15_vectorizedHashCode_104 rfl (lv_at hl 0 rfl) k)) ?_
              refine rk_chk C q2200 zc_nil zp_nil dJ15_vectorizedHashCode_105 ?_
              refine rk_of (fun _ _ _ _ _ k => lv_iload_n hx hb dJ15_vectorizedHashCode_108 rfl (lv_at hl 1 rfl) (lv_iload_n hx hb dJ15_vectorizedHashCode_109 rfl (lv_at hl 2 rfl) k)) ?_
              exact rk_fl
            · refine rk_case (fun c_2_6 => ?_) (fun c_2_6 => ?_)
              · refine rk_of (fun _ _ _ _ _ k => by rw [c_2_6]; exact lv_tableIn (off := 114) (tgt := 116) hx hb dJ15_vectorizedHashCode_2 (by decide) (by decide) rfl (by decide) k) ?_
                refine rk_of (fun _ _ _ _ _ k => lv_iload_n hx hb dJ15_vectorizedHashCode_116 rfl (lv_at hl 3 rfl) (lr_aload_n hx hb dJ15_vectorizedHashCode_117 rfl (lv_at hl 0 rfl) k)) ?_
                refine rk_chk C q2204 zc_nil (zp_cons (fun _ _ h => h) zp_nil) dJ15_vectorizedHashCode_118 ?_
                refine rk_of (fun _ _ _ _ _ k => lv_iload_n hx hb dJ15_vectorizedHashCode_121 rfl (lv_at hl 1 rfl) (lv_iload_n hx hb dJ15_vectorizedHashCode_122 rfl (lv_at hl 2 rfl) k)) ?_
                exact rk_fl
              · have q_4 : (a4).toInt ≠ 4 := fun q => c_2_0 (zs_eq q rfl)
                have q_5 : (a4).toInt ≠ 5 := fun q => c_2_1 (zs_eq q rfl)
                have q_6 : (a4).toInt ≠ 6 := fun q => c_2_2 (zs_eq q rfl)
                have q_7 : (a4).toInt ≠ 7 := fun q => c_2_3 (zs_eq q rfl)
                have q_8 : (a4).toInt ≠ 8 := fun q => c_2_4 (zs_eq q rfl)
                have q_9 : (a4).toInt ≠ 9 := fun q => c_2_5 (zs_eq q rfl)
                have q_10 : (a4).toInt ≠ 10 := fun q => c_2_6 (zs_eq q rfl)
                refine rk_of (fun _ _ _ _ _ k => lv_tableOut (tgt := 129) hx hb dJ15_vectorizedHashCode_2 (by omega) (by decide) k) ?_
                refine rk_new C (hc_J12 H) in_J12 tyJ12_ok q2208 q596 q116 (fs := [.null, .null, .null, .null, .null, .int 0]) rfl (fun j hj => zdf_J12 j hj) dJ15_vectorizedHashCode_129 (fun v129 => ?_)
                refine rk_of (fun _ _ _ _ _ k => lv_dup hx hb dJ15_vectorizedHashCode_132 (va_rf_cat _) k) ?_
                refine rk_new C (hc_J6 H) in_J6 tyJ6_ok q2209 q238 q109 (fs := [.null, .int 0, .int 0, .int 0]) rfl (fun j hj => zdf_J6 j hj) dJ15_vectorizedHashCode_133 (fun v133 => ?_)
                refine rk_of (fun _ _ _ _ _ k => lv_dup hx hb dJ15_vectorizedHashCode_136 (va_rf_cat _) k) ?_
                refine rk_callV hX (cl_I (rest := [va_rf (some v133), va_rf (some v129), va_rf (some v129)]) C (ct_J6_init H (some v133)) (lw_meth q241) q109 q2210 q240 rfl hd_J6_init ⟨(Nat.le_of_ble_eq_true rfl), (Nat.le_of_ble_eq_true rfl)⟩ rfl hl.1 rfl (zw_le (zw_R (zw_R (zw_R zw_nil))) (Nat.le_of_ble_eq_true rfl)) dJ15_vectorizedHashCode_137) (fun _ => ?_)
                refine rk_of (fun _ _ _ _ _ k => zs_ldc C (zh_s37 H) dJ15_vectorizedHashCode_140 k) ?_
                refine rk_callR hX (cl_V (rest := [va_rf (some v129), va_rf (some v129)]) (av := [va_rf (K.2 37)]) C (hc_J6 H) (ct_J6_append H (some v133) (K.2 37)) (lw_V q2212 q414 q415 q109 q416) ⟨rfl, hd_J6_append⟩ ⟨(Nat.le_of_ble_eq_true rfl), (Nat.le_of_ble_eq_true rfl)⟩ rfl hl.1 rfl (zw_le (zw_R (zw_R zw_nil)) (Nat.le_of_ble_eq_true rfl)) dJ15_vectorizedHashCode_142) (fun v142 => ?_)
                refine rk_of (fun _ _ _ _ _ k => lv_iload hx hb dJ15_vectorizedHashCode_145 (lv_at hl 4 rfl) k) ?_
                refine rk_callR hX (cl_V (rest := [va_rf (some v129), va_rf (some v129)]) (av := [.int a4]) C (hc_J6 H) (ct_J6_append_2 H v142 a4) (lw_V q2213 q534 q535 q109 q536) ⟨rfl, hd_J6_append_2⟩ ⟨(Nat.le_of_ble_eq_true rfl), (Nat.le_of_ble_eq_true rfl)⟩ rfl hl.1 rfl (zw_le (zw_R (zw_R zw_nil)) (Nat.le_of_ble_eq_true rfl)) dJ15_vectorizedHashCode_147) (fun v147 => ?_)
                refine rk_callR hX (cl_V (rest := [va_rf (some v129), va_rf (some v129)]) (av := []) C (hc_J6 H) (ct_J6_toString H v147) (lw_V q2214 q560 q561 q109 q562) ⟨rfl, hd_J6_toString⟩ ⟨(Nat.le_of_ble_eq_true rfl), (Nat.le_of_ble_eq_true rfl)⟩ rfl hl.1 rfl (zw_le (zw_R (zw_R zw_nil)) (Nat.le_of_ble_eq_true rfl)) dJ15_vectorizedHashCode_150) (fun v150 => ?_)
                refine rk_callV hX (cl_I (rest := [va_rf (some v129)]) C (ct_J12_init H (some v129) v150) (lw_meth q612) q116 q2215 q611 rfl hd_J12_init ⟨(Nat.le_of_ble_eq_true rfl), (Nat.le_of_ble_eq_true rfl)⟩ rfl hl.1 rfl (zw_le (zw_R zw_nil) (Nat.le_of_ble_eq_true rfl)) dJ15_vectorizedHashCode_153) (fun _ => ?_)
                exact rk_ath H C hX dJ15_vectorizedHashCode_156
theorem hd_J21_hashCode : yJ21_hashCode.cls ≠ "java/lang/invoke/MethodHandle" ∧ yJ21_hashCode.cls ≠ "java/lang/invoke/VarHandle" ∧ (parseMethodDescriptor yJ21_hashCode.desc).map (fun d => d.parameters.length) = some 1 := by decide +kernel
noncomputable def fn_J21_hashCode (K : zm_K) (a0 : zm_R) : zm_M Int32 :=
  zm_bnd (zm_alen a0) fun v1 =>
  if v1 = 0 then
    zm_ret 0
  else
    if v1 = 1 then
      zm_bnd (zm_aldI .byte a0 0) fun v34 =>
      zm_ret (v34 &&& 255)
    else
      zm_bnd (zm_alen a0) fun v45 =>
      zm_bnd (fn_J15_vectorizedHashCode K a0 0 v45 0 4) fun v48 =>
      zm_ret v48
theorem ct_J21_hashCode {l : Launch} {Ω : zm_W} {K : zm_K} (H : zm_H Ω K) (a0 : zm_R) : zm_Ct l Ω yJ21_hashCode (ws_ yJ21_hashCode cJ21_hashCode 1 (Option.some Jvm.ClassFile.FieldType.int)) 12 311 [va_rf a0] zm_tvI (fn_J21_hashCode K a0) := by
  refine zm_ct H.1 (by decide +kernel) (zl_le (zl_R zl_nil) (Nat.le_of_ble_eq_true rfl)) ?_
  intro p e R s m args below meth c n0 k0 C hX ls hl
  have hx := C.1
  have hb := C.2.1
  simp only [zg_R, zg_nil] at hl
  have hl : lv_has ls 1 [(0, va_rf a0)] := hl
  refine rk_rf ?_
  unfold fn_J21_hashCode
  refine rk_of (fun _ _ _ _ _ k => lr_aload_n hx hb dJ21_hashCode_0 rfl (lv_at hl 0 rfl) k) ?_
  refine rk_alen C dJ21_hashCode_1 (fun v1 => ?_)
  refine rk_case (fun c_2_0 => ?_) (fun c_2_0 => ?_)
  · refine rk_of (fun _ _ _ _ _ k => by rw [c_2_0]; exact lv_lookup (off := 26) (tgt := 28) hx hb dJ21_hashCode_2 rfl rfl (by decide) k) ?_
    refine rk_of (fun _ _ _ _ _ k => lv_iconst (v := 0) hx hb dJ21_hashCode_28 rfl (lv_goto (tgt := 51) hx hb dJ21_hashCode_29 (by decide) k)) ?_
    exact rk_top (rf_iret C rfl dJ21_hashCode_51)
  · refine rk_case (fun c_2_1 => ?_) (fun c_2_1 => ?_)
    · refine rk_of (fun _ _ _ _ _ k => by rw [c_2_1]; exact lv_lookup (off := 30) (tgt := 32) hx hb dJ21_hashCode_2 rfl rfl (by decide) k) ?_
      refine rk_of (fun _ _ _ _ _ k => lr_aload_n hx hb dJ21_hashCode_32 rfl (lv_at hl 0 rfl) (lv_iconst (v := 0) hx hb dJ21_hashCode_33 rfl k)) ?_
      refine rk_bald C dJ21_hashCode_34 (fun v34 => ?_)
      refine rk_of (fun _ _ _ _ _ k => lv_sipush (v := 255) hx hb dJ21_hashCode_35 rfl (lv_iand hx hb dJ21_hashCode_38 (lv_goto (tgt := 51) hx hb dJ21_hashCode_39 (by decide) k))) ?_
      exact rk_top (rf_iret C rfl dJ21_hashCode_51)
    · have q_2_0 : (v1).toInt ≠ 0 := fun q => c_2_0 (zs_eq q rfl)
      have q_2_1 : (v1).toInt ≠ 1 := fun q => c_2_1 (zs_eq q rfl)
      refine rk_of (fun _ _ _ _ _ k => lv_lookup (off := 40) (tgt := 42) hx hb dJ21_hashCode_2 rfl (by simp [Op.lookupswitch.offset, Ne.symm q_2_0, Ne.symm q_2_1]) (by decide) k) ?_
      refine rk_of (fun _ _ _ _ _ k => lr_aload_n hx hb dJ21_hashCode_42 rfl (lv_at hl 0 rfl) (lv_iconst (v := 0) hx hb dJ21_hashCode_43 rfl (lr_aload_n hx hb dJ21_hashCode_44 rfl (lv_at hl 0 rfl) k))) ?_
      refine rk_alen C dJ21_hashCode_45 (fun v45 => ?_)
      refine rk_of (fun _ _ _ _ _ k => lv_iconst (v := 0) hx hb dJ21_hashCode_46 rfl (lv_iconst (v := 4) hx hb dJ21_hashCode_47 rfl k)) ?_
      refine rk_callI hX (cl_S (rest := []) C (ct_J15_vectorizedHashCode H a0 0 v45 0 4) (lw_S q2170 q2171 q121 q2172) hd_J15_vectorizedHashCode ⟨(Nat.le_of_ble_eq_true rfl), (Nat.le_of_ble_eq_true rfl)⟩ rfl hl.1 rfl (zw_le zw_nil (Nat.le_of_ble_eq_true rfl)) dJ21_hashCode_48) (fun v48 => ?_)
      exact rk_top (rf_iret C rfl dJ21_hashCode_51)
theorem hd_J7_hashCode : yJ7_hashCode.cls ≠ "java/lang/invoke/MethodHandle" ∧ yJ7_hashCode.cls ≠ "java/lang/invoke/VarHandle" ∧ (parseMethodDescriptor yJ7_hashCode.desc).map (fun d => d.parameters.length) = some 0 := by decide +kernel
noncomputable def fn_J7_hashCode (K : zm_K) (a0 : zm_R) : zm_M Int32 :=
  zm_bnd (zm_getI a0 3 2) fun v1 =>
  if v1 = 0 then
    zm_bnd (zm_getI a0 3 3) fun v10 =>
    if v10 = 0 then
      zm_bnd (zm_bnd (zm_is a0 3) fun _ => fn_J7_isLatin1 K a0) fun v17 =>
      if v17 = 0 then
        zm_bnd (zm_getR a0 3 0) fun v34 =>
        zm_fl
      else
        zm_bnd (zm_getR a0 3 0) fun v24 =>
        zm_bnd (fn_J21_hashCode K v24) fun v27 =>
        if v27 = 0 then
          zm_bnd (zm_putF K a0 3 3 (.int 1)) fun _ =>
          zm_ret v27
        else
          zm_bnd (zm_putF K a0 3 2 (.int v27)) fun _ =>
          zm_ret v27
    else
      zm_ret v1
  else
    zm_ret v1
theorem ct_J7_hashCode {l : Launch} {Ω : zm_W} {K : zm_K} (H : zm_H Ω K) (a0 : zm_R) : zm_Ct l Ω yJ7_hashCode (ws_ yJ7_hashCode cJ7_hashCode 2 (Option.some Jvm.ClassFile.FieldType.int)) 13 331 [va_rf a0] zm_tvI (fn_J7_hashCode K a0) := by
  refine zm_ct H.1 (by decide +kernel) (zl_le (zl_R zl_nil) (Nat.le_of_ble_eq_true rfl)) ?_
  intro p e R s m args below meth c n0 k0 C hX ls hl
  have hx := C.1
  have hb := C.2.1
  simp only [zg_R, zg_nil] at hl
  have hl : lv_has ls 2 [(0, va_rf a0)] := hl
  refine rk_rf ?_
  unfold fn_J7_hashCode
  refine rk_of (fun _ _ _ _ _ k => lr_aload_n hx hb dJ7_hashCode_0 rfl (lv_at hl 0 rfl) k) ?_
  refine rk_get zm_rdI_eq C (hc_J7 H) (k := 2) (Nat.le_of_ble_eq_true rfl) in_J7 q650 (fun _ h => h) dJ7_hashCode_1 (fun v1 => ?_)
  refine rk_ofs (fun _ _ _ _ _ k => lr_istore_n hx hb dJ7_hashCode_4 rfl hl (Nat.le_of_ble_eq_true rfl) [0] rfl ⟨(by first | exact va_rf_cat _ | rfl), trivial⟩ k) (fun ls hl => ?_)
  refine rk_ite (fun _ _ _ _ _ k1 k2 => lv_iload_n hx hb dJ7_hashCode_5 rfl (lv_at hl 0 rfl) (lv_if_ne (tgt := 58) hx hb dJ7_hashCode_6 (by decide) k2 k1)) (fun c_6 => ?_) (fun c_6 => ?_)
  · refine rk_of (fun _ _ _ _ _ k => lr_aload_n hx hb dJ7_hashCode_9 rfl (lv_at hl 1 rfl) k) ?_
    refine rk_get zm_rdI_eq C (hc_J7 H) (k := 3) (Nat.le_of_ble_eq_true rfl) in_J7 q651 (fun _ h => h) dJ7_hashCode_10 (fun v10 => ?_)
    refine rk_ite (fun _ _ _ _ _ k1 k2 => lv_if_ne (tgt := 58) hx hb dJ7_hashCode_13 (by decide) k2 k1) (fun c_13 => ?_) (fun c_13 => ?_)
    · refine rk_of (fun _ _ _ _ _ k => lr_aload_n hx hb dJ7_hashCode_16 rfl (lv_at hl 1 rfl) k) ?_
      refine rk_callI hX (cl_V (rest := []) (av := []) C (hc_J7 H) (ct_J7_isLatin1 H a0) (lw_V q2026 q2027 q2028 q110 q2029) ⟨rfl, hd_J7_isLatin1⟩ ⟨(Nat.le_of_ble_eq_true rfl), (Nat.le_of_ble_eq_true rfl)⟩ rfl hl.1 rfl (zw_le zw_nil (Nat.le_of_ble_eq_true rfl)) dJ7_hashCode_17) (fun v17 => ?_)
      refine rk_ite (fun _ _ _ _ _ k1 k2 => lv_if_eq (tgt := 33) hx hb dJ7_hashCode_20 (by decide) k1 k2) (fun c_20 => ?_) (fun c_20 => ?_)
      · refine rk_of (fun _ _ _ _ _ k => lr_aload_n hx hb dJ7_hashCode_33 rfl (lv_at hl 1 rfl) k) ?_
        refine rk_get zm_rdR_eq C (hc_J7 H) (k := 0) (Nat.le_of_ble_eq_true rfl) in_J7 q648 (fun _ h => h) dJ7_hashCode_34 (fun v34 => ?_)
        exact rk_fl
      · refine rk_of (fun _ _ _ _ _ k => lr_aload_n hx hb dJ7_hashCode_23 rfl (lv_at hl 1 rfl) k) ?_
        refine rk_get zm_rdR_eq C (hc_J7 H) (k := 0) (Nat.le_of_ble_eq_true rfl) in_J7 q648 (fun _ h => h) dJ7_hashCode_24 (fun v24 => ?_)
        refine rk_callI hX (cl_S (rest := []) C (ct_J21_hashCode H v24) (lw_S q2167 q2168 q128 q2169) hd_J21_hashCode ⟨(Nat.le_of_ble_eq_true rfl), (Nat.le_of_ble_eq_true rfl)⟩ rfl hl.1 rfl (zw_le zw_nil (Nat.le_of_ble_eq_true rfl)) dJ7_hashCode_27) (fun v27 => ?_)
        refine rk_ofs (fun _ _ _ _ _ k => lv_goto (tgt := 40) hx hb dJ7_hashCode_30 (by decide) (lr_istore_n hx hb dJ7_hashCode_40 rfl hl (Nat.le_of_ble_eq_true rfl) [1] rfl ⟨(by first | exact va_rf_cat _ | rfl), trivial⟩ k)) (fun ls hl => ?_)
        refine rk_ite (fun _ _ _ _ _ k1 k2 => lv_iload_n hx hb dJ7_hashCode_41 rfl (lv_at hl 0 rfl) (lv_if_ne (tgt := 53) hx hb dJ7_hashCode_42 (by decide) k2 k1)) (fun c_42 => ?_) (fun c_42 => ?_)
        · refine rk_of (fun _ _ _ _ _ k => lr_aload_n hx hb dJ7_hashCode_45 rfl (lv_at hl 1 rfl) (lv_iconst (v := 1) hx hb dJ7_hashCode_46 rfl k)) ?_
          refine rk_put C H.2.2.1 (hc_J7 H) (k := 3) (Nat.le_of_ble_eq_true rfl) in_J7 (ty0 := tyJ7) tyJ7_ok nmJ7 q651 (fun _ h => h) (Or.inl rfl) rfl rfl dJ7_hashCode_47 ?_
          refine rk_of (fun _ _ _ _ _ k => lv_goto (tgt := 58) hx hb dJ7_hashCode_50 (by decide) (lv_iload_n hx hb dJ7_hashCode_58 rfl (lv_at hl 0 rfl) k)) ?_
          exact rk_top (rf_iret C rfl dJ7_hashCode_59)
        · refine rk_of (fun _ _ _ _ _ k => lr_aload_n hx hb dJ7_hashCode_53 rfl (lv_at hl 1 rfl) (lv_iload_n hx hb dJ7_hashCode_54 rfl (lv_at hl 0 rfl) k)) ?_
          refine rk_put C H.2.2.1 (hc_J7 H) (k := 2) (Nat.le_of_ble_eq_true rfl) in_J7 (ty0 := tyJ7) tyJ7_ok nmJ7 q650 (fun _ h => h) (Or.inl rfl) rfl rfl dJ7_hashCode_55 ?_
          refine rk_of (fun _ _ _ _ _ k => lv_iload_n hx hb dJ7_hashCode_58 rfl (lv_at hl 0 rfl) k) ?_
          exact rk_top (rf_iret C rfl dJ7_hashCode_59)
    · refine rk_of (fun _ _ _ _ _ k => lv_iload_n hx hb dJ7_hashCode_58 rfl (lv_at hl 0 rfl) k) ?_
      exact rk_top (rf_iret C rfl dJ7_hashCode_59)
  · refine rk_of (fun _ _ _ _ _ k => lv_iload_n hx hb dJ7_hashCode_58 rfl (lv_at hl 0 rfl) k) ?_
    exact rk_top (rf_iret C rfl dJ7_hashCode_59)
theorem hd_J21_equals : yJ21_equals.cls ≠ "java/lang/invoke/MethodHandle" ∧ yJ21_equals.cls ≠ "java/lang/invoke/VarHandle" ∧ (parseMethodDescriptor yJ21_equals.desc).map (fun d => d.parameters.length) = some 2 := by decide +kernel
noncomputable def fn_J21_equals_9 (K : zm_K) (p0 : zm_R) (p1 : zm_R) : Nat → Int32 → zm_M ((Unit) ⊕ (Int32))
  | 0, _ => zm_fl
  | n + 1, x2 =>
    zm_bnd (zm_alen p0) fun v11 =>
    if v11 ≤ x2 then
      zm_ret (Sum.inl ())
    else
      zm_bnd (zm_aldI .byte p0 x2) fun v17 =>
      zm_bnd (zm_aldI .byte p1 x2) fun v20 =>
      if v17 = v20 then
        fn_J21_equals_9 K p0 p1 n (x2 + 1)
      else
        zm_ret (Sum.inr 0)
noncomputable def fn_J21_equals (K : zm_K) (a0 : zm_R) (a1 : zm_R) : zm_M Int32 :=
  zm_bnd (zm_alen a0) fun v1 =>
  zm_bnd (zm_alen a1) fun v3 =>
  if v1 = v3 then
    zm_bnx (β := Unit) (fn_J21_equals_9 K a0 a1 zm_N 0) fun (_ : Unit) =>
    zm_ret 1
  else
    zm_ret 0
theorem rf_J21_equals_9 (H : zm_H Ω K) (C : zm_C p l R s m args meth c Ω lw_all cJ21_equals yJ21_equals.cls yJ21_equals.name 3 1 64 (Option.some Jvm.ClassFile.FieldType.boolean)) (hX : zm_XO p l e R s m args below meth c Ω n0 k0 (zm_QFs below args s Ω n0 k0 zm_tvI)) (p0 : zm_R) (p1 : zm_R) : ∀ (n : Nat) (x2 : Int32) (J : ((Unit) ⊕ (Int32)) → zm_M Int32) (ls : Array Slot), lv_has ls 3 [(0, va_rf p0), (1, va_rf p1), (2, .int x2)] → (∀ (b : Unit) (ls : Array Slot), lv_has ls 3 [] → zm_RK p l e R s m args below meth c Ω n0 k0 (zm_QFs below args s Ω n0 k0 zm_tvI) (zm_ret (Sum.inl b)) J (F0 m 32 ls [])) → (∀ (v : Int32) (g : JFrame), zm_RF p l e R s m args below meth c Ω n0 k0 (zm_QFs below args s Ω n0 k0 zm_tvI) (zm_ret v) g → zm_RK p l e R s m args below meth c Ω n0 k0 (zm_QFs below args s Ω n0 k0 zm_tvI) (zm_ret (Sum.inr v)) J g) → zm_RK p l e R s m args below meth c Ω n0 k0 (zm_QFs below args s Ω n0 k0 zm_tvI) (fn_J21_equals_9 K p0 p1 n x2) J (F0 m 9 ls []) := by
  have hx := C.1
  have hb := C.2.1
  intro n
  induction n with
  | zero => intro x2 J ls hl hJ hR; exact rk_fl
  | succ n ih =>
    intro x2 J ls hl hJ hR
    unfold fn_J21_equals_9
    refine rk_of (fun _ _ _ _ _ k => lv_iload_n hx hb dJ21_equals_9 rfl (lv_at hl 2 rfl) (lr_aload_n hx hb dJ21_equals_10 rfl (lv_at hl 0 rfl) k)) ?_
    refine rk_alen C dJ21_equals_11 (fun v11 => ?_)
    refine rk_ite (fun _ _ _ _ _ k1 k2 => lv_icmp_ge (tgt := 32) hx hb dJ21_equals_12 (by decide) k1 k2) (fun c_12 => ?_) (fun c_12 => ?_)
    · exact hJ () ls (lv_sub hl [] rfl)
    · refine rk_of (fun _ _ _ _ _ k => lr_aload_n hx hb dJ21_equals_15 rfl (lv_at hl 0 rfl) (lv_iload_n hx hb dJ21_equals_16 rfl (lv_at hl 2 rfl) k)) ?_
      refine rk_bald C dJ21_equals_17 (fun v17 => ?_)
      refine rk_of (fun _ _ _ _ _ k => lr_aload_n hx hb dJ21_equals_18 rfl (lv_at hl 1 rfl) (lv_iload_n hx hb dJ21_equals_19 rfl (lv_at hl 2 rfl) k)) ?_
      refine rk_bald C dJ21_equals_20 (fun v20 => ?_)
      refine rk_ite (fun _ _ _ _ _ k1 k2 => lv_icmp_eq (tgt := 26) hx hb dJ21_equals_21 (by decide) k1 k2) (fun c_21 => ?_) (fun c_21 => ?_)
      · refine rk_ofs (fun _ _ _ _ _ k => lr_iinc (v := x2 + 1) hx hb dJ21_equals_26 hl (k := 2) rfl rfl (Nat.le_of_ble_eq_true rfl) [0, 1] rfl ⟨trivial, ⟨(by first | exact va_rf_cat _ | rfl), trivial⟩⟩ k) (fun ls hl => ?_)
        refine rk_of (fun _ _ _ _ _ k => lv_goto (tgt := 9) hx hb dJ21_equals_29 (by decide) k) ?_
        exact ih (x2 + 1) J ls (lv_sub hl [1, 2, 0] rfl) hJ hR
      · refine rk_of (fun _ _ _ _ _ k => lv_iconst (v := 0) hx hb dJ21_equals_24 rfl k) ?_
        exact hR _ _ (rf_iret C rfl dJ21_equals_25)
theorem ct_J21_equals {l : Launch} {Ω : zm_W} {K : zm_K} (H : zm_H Ω K) (a0 : zm_R) (a1 : zm_R) : zm_Ct l Ω yJ21_equals (ws_ yJ21_equals cJ21_equals 3 (Option.some Jvm.ClassFile.FieldType.boolean)) 1 64 [va_rf a0, va_rf a1] zm_tvI (fn_J21_equals K a0 a1) := by
  refine zm_ct H.1 (by decide +kernel) (zl_le (zl_R (zl_R zl_nil)) (Nat.le_of_ble_eq_true rfl)) ?_
  intro p e R s m args below meth c n0 k0 C hX ls hl
  have hx := C.1
  have hb := C.2.1
  simp only [zg_R, zg_nil] at hl
  have hl : lv_has ls 3 [(0, va_rf a0), (1, va_rf a1)] := hl
  refine rk_rf ?_
  unfold fn_J21_equals
  refine rk_of (fun _ _ _ _ _ k => lr_aload_n hx hb dJ21_equals_0 rfl (lv_at hl 0 rfl) k) ?_
  refine rk_alen C dJ21_equals_1 (fun v1 => ?_)
  refine rk_of (fun _ _ _ _ _ k => lr_aload_n hx hb dJ21_equals_2 rfl (lv_at hl 1 rfl) k) ?_
  refine rk_alen C dJ21_equals_3 (fun v3 => ?_)
  refine rk_ite (fun _ _ _ _ _ k1 k2 => lv_icmp_ne (tgt := 34) hx hb dJ21_equals_4 (by decide) k2 k1) (fun c_4 => ?_) (fun c_4 => ?_)
  · refine rk_ofs (fun _ _ _ _ _ k => lv_iconst (v := 0) hx hb dJ21_equals_7 rfl (lr_istore_n hx hb dJ21_equals_8 rfl hl (Nat.le_of_ble_eq_true rfl) [0, 1] rfl ⟨trivial, ⟨(by first | exact va_rf_cat _ | rfl), trivial⟩⟩ k)) (fun ls hl => ?_)
    refine rk_joinx (β := Unit) (fun (b32 : Unit) ls => lv_has ls 3 []) (fun (b32 : Unit) ls => F0 m 32 ls []) (fun b32 ls hl => ?_) (fun hJ32 => ?_)
    · refine rk_of (fun _ _ _ _ _ k => lv_iconst (v := 1) hx hb dJ21_equals_32 rfl k) ?_
      exact rk_top (rf_iret C rfl dJ21_equals_33)
    · exact rf_J21_equals_9 H C hX a0 a1 zm_N 0 _ ls (lv_sub hl [1, 2, 0] rfl) hJ32 (fun v g k9 => by
        refine rk_inr ?_
        exact rk_top (k9))
  · refine rk_of (fun _ _ _ _ _ k => lv_iconst (v := 0) hx hb dJ21_equals_34 rfl k) ?_
    exact rk_top (rf_iret C rfl dJ21_equals_35)
theorem hd_J7_equals : yJ7_equals.cls ≠ "java/lang/invoke/MethodHandle" ∧ yJ7_equals.cls ≠ "java/lang/invoke/VarHandle" ∧ (parseMethodDescriptor yJ7_equals.desc).map (fun d => d.parameters.length) = some 1 := by decide +kernel
noncomputable def fn_J7_equals (K : zm_K) (a0 : zm_R) (a1 : zm_R) : zm_M Int32 :=
  if a0 = a1 then
    zm_ret 1
  else
    zm_bnd (zm_ins [3] a1) fun v8 =>
    if v8 = 0 then
      zm_ret 0
    else
      zm_bnd (zm_chk [3] [] a1) fun _ =>
      zm_bnx (β := Unit) (
          if (1 : Int32) = 0 then
            zm_ret (Sum.inl ())
          else
            zm_bnd (zm_getI a0 3 1) fun v26 =>
            zm_bnd (zm_getI a1 3 1) fun v30 =>
            if v26 = v30 then
              zm_ret (Sum.inl ())
            else
              zm_ret (Sum.inr 0)
        ) fun (_ : Unit) =>
      zm_bnd (zm_getR a0 3 0) fun v37 =>
      zm_bnd (zm_getR a1 3 0) fun v41 =>
      zm_bnd (fn_J21_equals K v37 v41) fun v44 =>
      if v44 = 0 then
        zm_ret 0
      else
        zm_ret 1
theorem ct_J7_equals {l : Launch} {Ω : zm_W} {K : zm_K} (H : zm_H Ω K) (a0 : zm_R) (a1 : zm_R) : zm_Ct l Ω yJ7_equals (ws_ yJ7_equals cJ7_equals 3 (Option.some Jvm.ClassFile.FieldType.boolean)) 2 86 [va_rf a0, va_rf a1] zm_tvI (fn_J7_equals K a0 a1) := by
  refine zm_ct H.1 (by decide +kernel) (zl_le (zl_R (zl_R zl_nil)) (Nat.le_of_ble_eq_true rfl)) ?_
  intro p e R s m args below meth c n0 k0 C hX ls hl
  have hx := C.1
  have hb := C.2.1
  simp only [zg_R, zg_nil] at hl
  have hl : lv_has ls 3 [(0, va_rf a0), (1, va_rf a1)] := hl
  refine rk_rf ?_
  unfold fn_J7_equals
  refine rk_ite (fun _ _ _ _ _ k1 k2 => lr_aload_n hx hb dJ7_equals_0 rfl (lv_at hl 0 rfl) (lr_aload_n hx hb dJ7_equals_1 rfl (lv_at hl 1 rfl) (lv_acmp_ne (tgt := 7) hx hb dJ7_equals_2 (by decide) k2 k1))) (fun c_2 => ?_) (fun c_2 => ?_)
  · refine rk_of (fun _ _ _ _ _ k => lv_iconst (v := 1) hx hb dJ7_equals_5 rfl k) ?_
    exact rk_top (rf_iret C rfl dJ7_equals_6)
  · refine rk_of (fun _ _ _ _ _ k => lr_aload_n hx hb dJ7_equals_7 rfl (lv_at hl 1 rfl) k) ?_
    refine rk_inst C q2225 (zc_cons (zc_s (hc_J7 H)) zc_nil) dJ7_equals_8 (fun v8 => ?_)
    refine rk_ite (fun _ _ _ _ _ k1 k2 => lv_if_eq (tgt := 54) hx hb dJ7_equals_11 (by decide) k1 k2) (fun c_11 => ?_) (fun c_11 => ?_)
    · refine rk_of (fun _ _ _ _ _ k => lv_iconst (v := 0) hx hb dJ7_equals_54 rfl k) ?_
      exact rk_top (rf_iret C rfl dJ7_equals_55)
    · refine rk_of (fun _ _ _ _ _ k => lr_aload_n hx hb dJ7_equals_14 rfl (lv_at hl 1 rfl) k) ?_
      refine rk_chk C q2225 (zc_cons (zc_s (hc_J7 H)) zc_nil) zp_nil dJ7_equals_15 ?_
      refine rk_ofs (fun _ _ _ _ _ k => lr_astore_n hx hb dJ7_equals_18 rfl hl (Nat.le_of_ble_eq_true rfl) [0] rfl ⟨trivial, trivial⟩ k) (fun ls hl => ?_)
      refine rk_gets C (zh_it1 H) q498 (fun _ h => h) dJ7_equals_19 ?_
      refine rk_joinx (β := Unit) (fun (b36 : Unit) ls => lv_has ls 3 [(0, va_rf a0), (2, va_rf a1)]) (fun (b36 : Unit) ls => F0 m 36 ls []) (fun b36 ls hl => ?_) (fun hJ36 => ?_)
      · refine rk_of (fun _ _ _ _ _ k => lr_aload_n hx hb dJ7_equals_36 rfl (lv_at hl 0 rfl) k) ?_
        refine rk_get zm_rdR_eq C (hc_J7 H) (k := 0) (Nat.le_of_ble_eq_true rfl) in_J7 q648 (fun _ h => h) dJ7_equals_37 (fun v37 => ?_)
        refine rk_of (fun _ _ _ _ _ k => lr_aload_n hx hb dJ7_equals_40 rfl (lv_at hl 1 rfl) k) ?_
        refine rk_get zm_rdR_eq C (hc_J7 H) (k := 0) (Nat.le_of_ble_eq_true rfl) in_J7 q648 (fun _ h => h) dJ7_equals_41 (fun v41 => ?_)
        refine rk_callI hX (cl_S (rest := []) C (ct_J21_equals H v37 v41) (lw_S q2226 q2227 q128 q2228) hd_J21_equals ⟨(Nat.le_of_ble_eq_true rfl), (Nat.le_of_ble_eq_true rfl)⟩ rfl hl.1 rfl (zw_le zw_nil (Nat.le_of_ble_eq_true rfl)) dJ7_equals_44) (fun v44 => ?_)
        refine rk_ite (fun _ _ _ _ _ k1 k2 => lv_if_eq (tgt := 54) hx hb dJ7_equals_47 (by decide) k1 k2) (fun c_47 => ?_) (fun c_47 => ?_)
        · refine rk_of (fun _ _ _ _ _ k => lv_iconst (v := 0) hx hb dJ7_equals_54 rfl k) ?_
          exact rk_top (rf_iret C rfl dJ7_equals_55)
        · refine rk_of (fun _ _ _ _ _ k => lv_iconst (v := 1) hx hb dJ7_equals_50 rfl (lv_goto (tgt := 55) hx hb dJ7_equals_51 (by decide) k)) ?_
          exact rk_top (rf_iret C rfl dJ7_equals_55)
      · refine rk_ite (fun _ _ _ _ _ k1 k2 => lv_if_eq (tgt := 36) hx hb dJ7_equals_22 (by decide) k1 k2) (fun c_22 => ?_) (fun c_22 => ?_)
        · exact hJ36 () ls (lv_sub hl [1, 0] rfl)
        · refine rk_of (fun _ _ _ _ _ k => lr_aload_n hx hb dJ7_equals_25 rfl (lv_at hl 1 rfl) k) ?_
          refine rk_get zm_rdI_eq C (hc_J7 H) (k := 1) (Nat.le_of_ble_eq_true rfl) in_J7 q649 (fun _ h => h) dJ7_equals_26 (fun v26 => ?_)
          refine rk_of (fun _ _ _ _ _ k => lr_aload_n hx hb dJ7_equals_29 rfl (lv_at hl 0 rfl) k) ?_
          refine rk_get zm_rdI_eq C (hc_J7 H) (k := 1) (Nat.le_of_ble_eq_true rfl) in_J7 q649 (fun _ h => h) dJ7_equals_30 (fun v30 => ?_)
          refine rk_ite (fun _ _ _ _ _ k1 k2 => lv_icmp_ne (tgt := 54) hx hb dJ7_equals_33 (by decide) k2 k1) (fun c_33 => ?_) (fun c_33 => ?_)
          · exact hJ36 () ls (lv_sub hl [1, 0] rfl)
          · refine rk_of (fun _ _ _ _ _ k => lv_iconst (v := 0) hx hb dJ7_equals_54 rfl k) ?_
            refine rk_inr ?_
            exact rk_top (rf_iret C rfl dJ7_equals_55)
theorem hd_X11_take : yX11_take.cls ≠ "java/lang/invoke/MethodHandle" ∧ yX11_take.cls ≠ "java/lang/invoke/VarHandle" ∧ (parseMethodDescriptor yX11_take.desc).map (fun d => d.parameters.length) = some 1 := by decide +kernel
noncomputable def fn_X11_take (K : zm_K) (a0 : zm_R) (a1 : Int32) : zm_M Unit :=
  zm_bnd (zm_bnd (zm_is a0 27) fun _ => fn_X11_here K a0) fun v2 =>
  zm_bnd (α := Int32) (
      if v2 = a1 then
        zm_ret 1
      else
        zm_ret 0
    ) fun b14 =>
  zm_bnd (zm_bnd (zm_is a0 27) fun _ => fn_X11_need K a0 b14) fun _ =>
  zm_bnd (zm_getI a0 27 1) fun v19 =>
  zm_bnd (zm_putF K a0 27 1 (.int (v19 + 1))) fun _ =>
  zm_ret ()
theorem ct_X11_take {l : Launch} {Ω : zm_W} {K : zm_K} (H : zm_H Ω K) (a0 : zm_R) (a1 : Int32) : zm_Ct l Ω yX11_take (ws_ yX11_take cX11_take 2 (Option.none : Option Jvm.ClassFile.FieldType)) 8 214 [va_rf a0, .int a1] zm_tvV (fn_X11_take K a0 a1) := by
  refine zm_ct H.1 (by decide +kernel) (zl_le (zl_R (zl_I zl_nil)) (Nat.le_of_ble_eq_true rfl)) ?_
  intro p e R s m args below meth c n0 k0 C hX ls hl
  have hx := C.1
  have hb := C.2.1
  simp only [zg_I, zg_R, zg_nil] at hl
  have hl : lv_has ls 2 [(0, va_rf a0), (1, .int a1)] := hl
  refine rk_rf ?_
  unfold fn_X11_take
  refine rk_of (fun _ _ _ _ _ k => lr_aload_n hx hb dX11_take_0 rfl (lv_at hl 0 rfl) (lr_aload_n hx hb dX11_take_1 rfl (lv_at hl 0 rfl) k)) ?_
  refine rk_callI hX (cl_V (rest := [va_rf a0]) (av := []) C (hc_X11 H) (ct_X11_here H a0) (lw_V q2001 q2003 qs27 q145 q2004) ⟨rfl, hd_X11_here⟩ ⟨(Nat.le_of_ble_eq_true rfl), (Nat.le_of_ble_eq_true rfl)⟩ rfl hl.1 rfl (zw_le (zw_R zw_nil) (Nat.le_of_ble_eq_true rfl)) dX11_take_2) (fun v2 => ?_)
  refine rk_of (fun _ _ _ _ _ k => lv_iload_n hx hb dX11_take_5 rfl (lv_at hl 1 rfl) k) ?_
  refine rk_join (β := Int32) (fun (b14 : Int32) ls => lv_has ls 2 [(0, va_rf a0)]) (fun (b14 : Int32) ls => F0 m 14 ls [.int b14, va_rf a0]) (fun b14 ls hl => ?_) (fun hJ14 => ?_)
  · refine rk_callV hX (cl_V (rest := []) (av := [.int b14]) C (hc_X11 H) (ct_X11_need H a0 b14) (lw_V q2140 q2142 qs28 q145 q2143) ⟨rfl, hd_X11_need⟩ ⟨(Nat.le_of_ble_eq_true rfl), (Nat.le_of_ble_eq_true rfl)⟩ rfl hl.1 rfl (zw_le zw_nil (Nat.le_of_ble_eq_true rfl)) dX11_take_14) (fun _ => ?_)
    refine rk_of (fun _ _ _ _ _ k => lr_aload_n hx hb dX11_take_17 rfl (lv_at hl 0 rfl) (lv_dup hx hb dX11_take_18 (va_rf_cat _) k)) ?_
    refine rk_get zm_rdI_eq C (hc_X11 H) (k := 1) (Nat.le_of_ble_eq_true rfl) in_X11 q1979 (fun _ h => h) dX11_take_19 (fun v19 => ?_)
    refine rk_of (fun _ _ _ _ _ k => lv_iconst (v := 1) hx hb dX11_take_22 rfl (lv_iadd hx hb dX11_take_23 k)) ?_
    refine rk_put C H.2.2.1 (hc_X11 H) (k := 1) (Nat.le_of_ble_eq_true rfl) in_X11 (ty0 := tyX11) tyX11_ok nmX11 q1979 (fun _ h => h) (Or.inl rfl) rfl rfl dX11_take_24 ?_
    exact rk_top (rf_vret C dX11_take_27)
  · refine rk_ite (fun _ _ _ _ _ k1 k2 => lv_icmp_ne (tgt := 13) hx hb dX11_take_6 (by decide) k2 k1) (fun c_6 => ?_) (fun c_6 => ?_)
    · refine rk_of (fun _ _ _ _ _ k => lv_iconst (v := 1) hx hb dX11_take_9 rfl (lv_goto (tgt := 14) hx hb dX11_take_10 (by decide) k)) ?_
      exact hJ14 1 ls (lv_sub hl [0] rfl)
    · refine rk_of (fun _ _ _ _ _ k => lv_iconst (v := 0) hx hb dX11_take_13 rfl k) ?_
      exact hJ14 0 ls (lv_sub hl [0] rfl)
theorem hd_X11_isDigit : yX11_isDigit.cls ≠ "java/lang/invoke/MethodHandle" ∧ yX11_isDigit.cls ≠ "java/lang/invoke/VarHandle" ∧ (parseMethodDescriptor yX11_isDigit.desc).map (fun d => d.parameters.length) = some 0 := by decide +kernel
noncomputable def fn_X11_isDigit (K : zm_K) (a0 : zm_R) : zm_M Int32 :=
  zm_bnd (zm_bnd (zm_is a0 27) fun _ => fn_X11_here K a0) fun v1 =>
  if v1 < 48 then
    zm_ret 0
  else
    zm_bnd (zm_bnd (zm_is a0 27) fun _ => fn_X11_here K a0) fun v10 =>
    if 57 < v10 then
      zm_ret 0
    else
      zm_ret 1
theorem ct_X11_isDigit {l : Launch} {Ω : zm_W} {K : zm_K} (H : zm_H Ω K) (a0 : zm_R) : zm_Ct l Ω yX11_isDigit (ws_ yX11_isDigit cX11_isDigit 1 (Option.some Jvm.ClassFile.FieldType.boolean)) 7 193 [va_rf a0] zm_tvI (fn_X11_isDigit K a0) := by
  refine zm_ct H.1 (by decide +kernel) (zl_le (zl_R zl_nil) (Nat.le_of_ble_eq_true rfl)) ?_
  intro p e R s m args below meth c n0 k0 C hX ls hl
  have hx := C.1
  have hb := C.2.1
  simp only [zg_R, zg_nil] at hl
  have hl : lv_has ls 1 [(0, va_rf a0)] := hl
  refine rk_rf ?_
  unfold fn_X11_isDigit
  refine rk_of (fun _ _ _ _ _ k => lr_aload_n hx hb dX11_isDigit_0 rfl (lv_at hl 0 rfl) k) ?_
  refine rk_callI hX (cl_V (rest := []) (av := []) C (hc_X11 H) (ct_X11_here H a0) (lw_V q2001 q2003 qs27 q145 q2004) ⟨rfl, hd_X11_here⟩ ⟨(Nat.le_of_ble_eq_true rfl), (Nat.le_of_ble_eq_true rfl)⟩ rfl hl.1 rfl (zw_le zw_nil (Nat.le_of_ble_eq_true rfl)) dX11_isDigit_1) (fun v1 => ?_)
  refine rk_ite (fun _ _ _ _ _ k1 k2 => lv_bipush (v := 48) hx hb dX11_isDigit_4 rfl (lv_icmp_lt (tgt := 22) hx hb dX11_isDigit_6 (by decide) k1 k2)) (fun c_6 => ?_) (fun c_6 => ?_)
  · refine rk_of (fun _ _ _ _ _ k => lv_iconst (v := 0) hx hb dX11_isDigit_22 rfl k) ?_
    exact rk_top (rf_iret C rfl dX11_isDigit_23)
  · refine rk_of (fun _ _ _ _ _ k => lr_aload_n hx hb dX11_isDigit_9 rfl (lv_at hl 0 rfl) k) ?_
    refine rk_callI hX (cl_V (rest := []) (av := []) C (hc_X11 H) (ct_X11_here H a0) (lw_V q2001 q2003 qs27 q145 q2004) ⟨rfl, hd_X11_here⟩ ⟨(Nat.le_of_ble_eq_true rfl), (Nat.le_of_ble_eq_true rfl)⟩ rfl hl.1 rfl (zw_le zw_nil (Nat.le_of_ble_eq_true rfl)) dX11_isDigit_10) (fun v10 => ?_)
    refine rk_ite (fun _ _ _ _ _ k1 k2 => lv_bipush (v := 57) hx hb dX11_isDigit_13 rfl (lv_icmp_gt (tgt := 22) hx hb dX11_isDigit_15 (by decide) k1 k2)) (fun c_15 => ?_) (fun c_15 => ?_)
    · refine rk_of (fun _ _ _ _ _ k => lv_iconst (v := 0) hx hb dX11_isDigit_22 rfl k) ?_
      exact rk_top (rf_iret C rfl dX11_isDigit_23)
    · refine rk_of (fun _ _ _ _ _ k => lv_iconst (v := 1) hx hb dX11_isDigit_18 rfl (lv_goto (tgt := 23) hx hb dX11_isDigit_19 (by decide) k)) ?_
      exact rk_top (rf_iret C rfl dX11_isDigit_23)
theorem hd_X11_digit : yX11_digit.cls ≠ "java/lang/invoke/MethodHandle" ∧ yX11_digit.cls ≠ "java/lang/invoke/VarHandle" ∧ (parseMethodDescriptor yX11_digit.desc).map (fun d => d.parameters.length) = some 0 := by decide +kernel
noncomputable def fn_X11_digit (K : zm_K) (a0 : zm_R) : zm_M Int32 :=
  zm_bnd (zm_bnd (zm_is a0 27) fun _ => fn_X11_isDigit K a0) fun v2 =>
  zm_bnd (zm_bnd (zm_is a0 27) fun _ => fn_X11_need K a0 v2) fun _ =>
  zm_bnd (zm_getI a0 27 1) fun v10 =>
  zm_bnd (zm_putF K a0 27 1 (.int (v10 + 1))) fun _ =>
  zm_bnd (zm_getR a0 27 0) fun v19 =>
  zm_bnd (zm_getI a0 27 1) fun v23 =>
  zm_bnd (zm_bnd (zm_cls v19) fun ci => if ci = 3 then fn_J7_charAt K v19 (v23 - 1) else if ci = 2 then fn_J6_charAt K v19 (v23 - 1) else zm_fl) fun v28 =>
  zm_ret (v28 - 48)
theorem ct_X11_digit {l : Launch} {Ω : zm_W} {K : zm_K} (H : zm_H Ω K) (a0 : zm_R) : zm_Ct l Ω yX11_digit (ws_ yX11_digit cX11_digit 1 (Option.some Jvm.ClassFile.FieldType.int)) 8 214 [va_rf a0] zm_tvI (fn_X11_digit K a0) := by
  refine zm_ct H.1 (by decide +kernel) (zl_le (zl_R zl_nil) (Nat.le_of_ble_eq_true rfl)) ?_
  intro p e R s m args below meth c n0 k0 C hX ls hl
  have hx := C.1
  have hb := C.2.1
  simp only [zg_R, zg_nil] at hl
  have hl : lv_has ls 1 [(0, va_rf a0)] := hl
  refine rk_rf ?_
  unfold fn_X11_digit
  refine rk_of (fun _ _ _ _ _ k => lr_aload_n hx hb dX11_digit_0 rfl (lv_at hl 0 rfl) (lr_aload_n hx hb dX11_digit_1 rfl (lv_at hl 0 rfl) k)) ?_
  refine rk_callI hX (cl_V (rest := [va_rf a0]) (av := []) C (hc_X11 H) (ct_X11_isDigit H a0) (lw_V q2250 q2252 qs33 q145 q2253) ⟨rfl, hd_X11_isDigit⟩ ⟨(Nat.le_of_ble_eq_true rfl), (Nat.le_of_ble_eq_true rfl)⟩ rfl hl.1 rfl (zw_le (zw_R zw_nil) (Nat.le_of_ble_eq_true rfl)) dX11_digit_2) (fun v2 => ?_)
  refine rk_callV hX (cl_V (rest := []) (av := [.int v2]) C (hc_X11 H) (ct_X11_need H a0 v2) (lw_V q2140 q2142 qs28 q145 q2143) ⟨rfl, hd_X11_need⟩ ⟨(Nat.le_of_ble_eq_true rfl), (Nat.le_of_ble_eq_true rfl)⟩ rfl hl.1 rfl (zw_le zw_nil (Nat.le_of_ble_eq_true rfl)) dX11_digit_5) (fun _ => ?_)
  refine rk_of (fun _ _ _ _ _ k => lr_aload_n hx hb dX11_digit_8 rfl (lv_at hl 0 rfl) (lv_dup hx hb dX11_digit_9 (va_rf_cat _) k)) ?_
  refine rk_get zm_rdI_eq C (hc_X11 H) (k := 1) (Nat.le_of_ble_eq_true rfl) in_X11 q1979 (fun _ h => h) dX11_digit_10 (fun v10 => ?_)
  refine rk_of (fun _ _ _ _ _ k => lv_iconst (v := 1) hx hb dX11_digit_13 rfl (lv_iadd hx hb dX11_digit_14 k)) ?_
  refine rk_put C H.2.2.1 (hc_X11 H) (k := 1) (Nat.le_of_ble_eq_true rfl) in_X11 (ty0 := tyX11) tyX11_ok nmX11 q1979 (fun _ h => h) (Or.inl rfl) rfl rfl dX11_digit_15 ?_
  refine rk_of (fun _ _ _ _ _ k => lr_aload_n hx hb dX11_digit_18 rfl (lv_at hl 0 rfl) k) ?_
  refine rk_get zm_rdR_eq C (hc_X11 H) (k := 0) (Nat.le_of_ble_eq_true rfl) in_X11 q1978 (fun _ h => h) dX11_digit_19 (fun v19 => ?_)
  refine rk_of (fun _ _ _ _ _ k => lr_aload_n hx hb dX11_digit_22 rfl (lv_at hl 0 rfl) k) ?_
  refine rk_get zm_rdI_eq C (hc_X11 H) (k := 1) (Nat.le_of_ble_eq_true rfl) in_X11 q1979 (fun _ h => h) dX11_digit_23 (fun v23 => ?_)
  refine rk_of (fun _ _ _ _ _ k => lv_iconst (v := 1) hx hb dX11_digit_26 rfl (lv_isub hx hb dX11_digit_27 k)) ?_
  refine rk_callI hX (cl_dsp (fun ci => cl_case (cl_F (n := 1) (rest := []) (av := [.int (v23 - 1)]) C (hc_J7 H) (ct_J7_charAt H v19 (v23 - 1)) (lw_F q2018 q2021 q2023 q110 q2025) (zh_Fw H C (by decide) q2020 q2019 q2024 q2022 q2009) (by decide +kernel) ⟨(Nat.le_of_ble_eq_true rfl), (Nat.le_of_ble_eq_true rfl)⟩ rfl hl.1 rfl (zw_le zw_nil (Nat.le_of_ble_eq_true rfl)) dX11_digit_28) (cl_case (cl_F (n := 1) (rest := []) (av := [.int (v23 - 1)]) C (hc_J6 H) (ct_J6_charAt H v19 (v23 - 1)) (lw_F q2018 q2037 q2039 q109 q2041) (zh_Fw H C (by decide) q2020 q2019 q2040 q2038 q2013) (by decide +kernel) ⟨(Nat.le_of_ble_eq_true rfl), (Nat.le_of_ble_eq_true rfl)⟩ rfl hl.1 rfl (zw_le zw_nil (Nat.le_of_ble_eq_true rfl)) dX11_digit_28) (cl_fl)))) (fun v28 => ?_)
  refine rk_of (fun _ _ _ _ _ k => lv_bipush (v := 48) hx hb dX11_digit_33 rfl (lv_isub hx hb dX11_digit_35 k)) ?_
  exact rk_top (rf_iret C rfl dX11_digit_36)
theorem hd_X11_digitBehind : yX11_digitBehind.cls ≠ "java/lang/invoke/MethodHandle" ∧ yX11_digitBehind.cls ≠ "java/lang/invoke/VarHandle" ∧ (parseMethodDescriptor yX11_digitBehind.desc).map (fun d => d.parameters.length) = some 0 := by decide +kernel
noncomputable def fn_X11_digitBehind (K : zm_K) (a0 : zm_R) : zm_M Int32 :=
  zm_bnd (zm_bnd (zm_is a0 27) fun _ => fn_X11_take K a0 32) fun _ =>
  zm_bnd (zm_bnd (zm_is a0 27) fun _ => fn_X11_digit K a0) fun v7 =>
  zm_ret v7
theorem ct_X11_digitBehind {l : Launch} {Ω : zm_W} {K : zm_K} (H : zm_H Ω K) (a0 : zm_R) : zm_Ct l Ω yX11_digitBehind (ws_ yX11_digitBehind cX11_digitBehind 1 (Option.some Jvm.ClassFile.FieldType.int)) 9 235 [va_rf a0] zm_tvI (fn_X11_digitBehind K a0) := by
  refine zm_ct H.1 (by decide +kernel) (zl_le (zl_R zl_nil) (Nat.le_of_ble_eq_true rfl)) ?_
  intro p e R s m args below meth c n0 k0 C hX ls hl
  have hx := C.1
  have hb := C.2.1
  simp only [zg_R, zg_nil] at hl
  have hl : lv_has ls 1 [(0, va_rf a0)] := hl
  refine rk_rf ?_
  unfold fn_X11_digitBehind
  refine rk_of (fun _ _ _ _ _ k => lr_aload_n hx hb dX11_digitBehind_0 rfl (lv_at hl 0 rfl) (lv_bipush (v := 32) hx hb dX11_digitBehind_1 rfl k)) ?_
  refine rk_callV hX (cl_V (rest := []) (av := [.int 32]) C (hc_X11 H) (ct_X11_take H a0 32) (lw_V q2242 q2244 qs31 q145 q2245) ⟨rfl, hd_X11_take⟩ ⟨(Nat.le_of_ble_eq_true rfl), (Nat.le_of_ble_eq_true rfl)⟩ rfl hl.1 rfl (zw_le zw_nil (Nat.le_of_ble_eq_true rfl)) dX11_digitBehind_3) (fun _ => ?_)
  refine rk_of (fun _ _ _ _ _ k => lr_aload_n hx hb dX11_digitBehind_6 rfl (lv_at hl 0 rfl) k) ?_
  refine rk_callI hX (cl_V (rest := []) (av := []) C (hc_X11 H) (ct_X11_digit H a0) (lw_V q2246 q2248 qs32 q145 q2249) ⟨rfl, hd_X11_digit⟩ ⟨(Nat.le_of_ble_eq_true rfl), (Nat.le_of_ble_eq_true rfl)⟩ rfl hl.1 rfl (zw_le zw_nil (Nat.le_of_ble_eq_true rfl)) dX11_digitBehind_7) (fun v7 => ?_)
  exact rk_top (rf_iret C rfl dX11_digitBehind_10)
theorem hd_X11_number : yX11_number.cls ≠ "java/lang/invoke/MethodHandle" ∧ yX11_number.cls ≠ "java/lang/invoke/VarHandle" ∧ (parseMethodDescriptor yX11_number.desc).map (fun d => d.parameters.length) = some 0 := by decide +kernel
noncomputable def fn_X11_number_7 (K : zm_K) (p0 : zm_R) : Nat → Int32 → Int32 → zm_M (Int32)
  | 0, _, _ => zm_fl
  | n + 1, x1, x2 =>
    if 3 ≤ x2 then
      zm_ret x1
    else
      zm_bnd (zm_bnd (zm_is p0 27) fun _ => fn_X11_isDigit K p0) fun v13 =>
      if v13 = 0 then
        zm_ret x1
      else
        zm_bnd (zm_bnd (zm_is p0 27) fun _ => fn_X11_digit K p0) fun v24 =>
        fn_X11_number_7 K p0 n ((10 * x1) + v24) (x2 + 1)
noncomputable def fn_X11_number (K : zm_K) (a0 : zm_R) : zm_M Int32 :=
  zm_bnd (zm_bnd (zm_is a0 27) fun _ => fn_X11_digit K a0) fun v1 =>
  zm_bnd (α := Int32) (fn_X11_number_7 K a0 zm_N v1 1) fun b35 =>
  zm_ret b35
theorem rf_X11_number_7 (H : zm_H Ω K) (C : zm_C p l R s m args meth c Ω lw_all cX11_number yX11_number.cls yX11_number.name 3 9 234 (Option.some Jvm.ClassFile.FieldType.int)) (hX : zm_XO p l e R s m args below meth c Ω n0 k0 (zm_QFs below args s Ω n0 k0 zm_tvI)) (p0 : zm_R) : ∀ (n : Nat) (x1 : Int32) (x2 : Int32) (J : (Int32) → zm_M Int32) (ls : Array Slot), lv_has ls 3 [(0, va_rf p0), (1, .int x1), (2, .int x2)] → (∀ (b : Int32) (ls : Array Slot), lv_has ls 3 [(1, .int b)] → zm_RK p l e R s m args below meth c Ω n0 k0 (zm_QFs below args s Ω n0 k0 zm_tvI) (zm_ret b) J (F0 m 35 ls [])) → zm_RK p l e R s m args below meth c Ω n0 k0 (zm_QFs below args s Ω n0 k0 zm_tvI) (fn_X11_number_7 K p0 n x1 x2) J (F0 m 7 ls []) := by
  have hx := C.1
  have hb := C.2.1
  intro n
  induction n with
  | zero => intro x1 x2 J ls hl hJ; exact rk_fl
  | succ n ih =>
    intro x1 x2 J ls hl hJ
    unfold fn_X11_number_7
    refine rk_ite (fun _ _ _ _ _ k1 k2 => lv_iload_n hx hb dX11_number_7 rfl (lv_at hl 2 rfl) (lv_iconst (v := 3) hx hb dX11_number_8 rfl (lv_icmp_ge (tgt := 35) hx hb dX11_number_9 (by decide) k1 k2))) (fun c_9 => ?_) (fun c_9 => ?_)
    · exact hJ x1 ls (lv_sub hl [1] rfl)
    · refine rk_of (fun _ _ _ _ _ k => lr_aload_n hx hb dX11_number_12 rfl (lv_at hl 0 rfl) k) ?_
      refine rk_callI hX (cl_V (rest := []) (av := []) C (hc_X11 H) (ct_X11_isDigit H p0) (lw_V q2250 q2252 qs33 q145 q2253) ⟨rfl, hd_X11_isDigit⟩ ⟨(Nat.le_of_ble_eq_true rfl), (Nat.le_of_ble_eq_true rfl)⟩ rfl hl.1 rfl (zw_le zw_nil (Nat.le_of_ble_eq_true rfl)) dX11_number_13) (fun v13 => ?_)
      refine rk_ite (fun _ _ _ _ _ k1 k2 => lv_if_eq (tgt := 35) hx hb dX11_number_16 (by decide) k1 k2) (fun c_16 => ?_) (fun c_16 => ?_)
      · exact hJ x1 ls (lv_sub hl [1] rfl)
      · refine rk_of (fun _ _ _ _ _ k => lv_bipush (v := 10) hx hb dX11_number_19 rfl (lv_iload_n hx hb dX11_number_21 rfl (lv_at hl 1 rfl) (lv_imul hx hb dX11_number_22 (lr_aload_n hx hb dX11_number_23 rfl (lv_at hl 0 rfl) k)))) ?_
        refine rk_callI hX (cl_V (rest := [.int (10 * x1)]) (av := []) C (hc_X11 H) (ct_X11_digit H p0) (lw_V q2246 q2248 qs32 q145 q2249) ⟨rfl, hd_X11_digit⟩ ⟨(Nat.le_of_ble_eq_true rfl), (Nat.le_of_ble_eq_true rfl)⟩ rfl hl.1 rfl (zw_le (zw_I zw_nil) (Nat.le_of_ble_eq_true rfl)) dX11_number_24) (fun v24 => ?_)
        refine rk_ofs (fun _ _ _ _ _ k => lv_iadd hx hb dX11_number_27 (lr_istore_n hx hb dX11_number_28 rfl hl (Nat.le_of_ble_eq_true rfl) [0, 2] rfl ⟨(by first | exact va_rf_cat _ | rfl), ⟨trivial, trivial⟩⟩ k)) (fun ls hl => ?_)
        refine rk_ofs (fun _ _ _ _ _ k => lr_iinc (v := x2 + 1) hx hb dX11_number_29 hl (k := 2) rfl rfl (Nat.le_of_ble_eq_true rfl) [0, 1] rfl ⟨rfl, ⟨trivial, trivial⟩⟩ k) (fun ls hl => ?_)
        refine rk_of (fun _ _ _ _ _ k => lv_goto (tgt := 7) hx hb dX11_number_32 (by decide) k) ?_
        exact ih ((10 * x1) + v24) (x2 + 1) J ls (lv_sub hl [2, 1, 0] rfl) hJ
theorem ct_X11_number {l : Launch} {Ω : zm_W} {K : zm_K} (H : zm_H Ω K) (a0 : zm_R) : zm_Ct l Ω yX11_number (ws_ yX11_number cX11_number 3 (Option.some Jvm.ClassFile.FieldType.int)) 9 234 [va_rf a0] zm_tvI (fn_X11_number K a0) := by
  refine zm_ct H.1 (by decide +kernel) (zl_le (zl_R zl_nil) (Nat.le_of_ble_eq_true rfl)) ?_
  intro p e R s m args below meth c n0 k0 C hX ls hl
  have hx := C.1
  have hb := C.2.1
  simp only [zg_R, zg_nil] at hl
  have hl : lv_has ls 3 [(0, va_rf a0)] := hl
  refine rk_rf ?_
  unfold fn_X11_number
  refine rk_of (fun _ _ _ _ _ k => lr_aload_n hx hb dX11_number_0 rfl (lv_at hl 0 rfl) k) ?_
  refine rk_callI hX (cl_V (rest := []) (av := []) C (hc_X11 H) (ct_X11_digit H a0) (lw_V q2246 q2248 qs32 q145 q2249) ⟨rfl, hd_X11_digit⟩ ⟨(Nat.le_of_ble_eq_true rfl), (Nat.le_of_ble_eq_true rfl)⟩ rfl hl.1 rfl (zw_le zw_nil (Nat.le_of_ble_eq_true rfl)) dX11_number_1) (fun v1 => ?_)
  refine rk_ofs (fun _ _ _ _ _ k => lr_istore_n hx hb dX11_number_4 rfl hl (Nat.le_of_ble_eq_true rfl) [0] rfl ⟨(by first | exact va_rf_cat _ | rfl), trivial⟩ k) (fun ls hl => ?_)
  refine rk_ofs (fun _ _ _ _ _ k => lv_iconst (v := 1) hx hb dX11_number_5 rfl (lr_istore_n hx hb dX11_number_6 rfl hl (Nat.le_of_ble_eq_true rfl) [0, 1] rfl ⟨rfl, ⟨trivial, trivial⟩⟩ k)) (fun ls hl => ?_)
  refine rk_join (β := Int32) (fun (b35 : Int32) ls => lv_has ls 3 [(1, .int b35)]) (fun (b35 : Int32) ls => F0 m 35 ls []) (fun b35 ls hl => ?_) (fun hJ35 => ?_)
  · refine rk_of (fun _ _ _ _ _ k => lv_iload_n hx hb dX11_number_35 rfl (lv_at hl 0 rfl) k) ?_
    exact rk_top (rf_iret C rfl dX11_number_36)
  · exact rf_X11_number_7 H C hX a0 zm_N v1 1 _ ls (lv_sub hl [2, 1, 0] rfl) hJ35
theorem hd_X11_numberBehind : yX11_numberBehind.cls ≠ "java/lang/invoke/MethodHandle" ∧ yX11_numberBehind.cls ≠ "java/lang/invoke/VarHandle" ∧ (parseMethodDescriptor yX11_numberBehind.desc).map (fun d => d.parameters.length) = some 0 := by decide +kernel
noncomputable def fn_X11_numberBehind (K : zm_K) (a0 : zm_R) : zm_M Int32 :=
  zm_bnd (zm_bnd (zm_is a0 27) fun _ => fn_X11_take K a0 32) fun _ =>
  zm_bnd (zm_bnd (zm_is a0 27) fun _ => fn_X11_number K a0) fun v7 =>
  zm_ret v7
theorem ct_X11_numberBehind {l : Launch} {Ω : zm_W} {K : zm_K} (H : zm_H Ω K) (a0 : zm_R) : zm_Ct l Ω yX11_numberBehind (ws_ yX11_numberBehind cX11_numberBehind 1 (Option.some Jvm.ClassFile.FieldType.int)) 10 256 [va_rf a0] zm_tvI (fn_X11_numberBehind K a0) := by
  refine zm_ct H.1 (by decide +kernel) (zl_le (zl_R zl_nil) (Nat.le_of_ble_eq_true rfl)) ?_
  intro p e R s m args below meth c n0 k0 C hX ls hl
  have hx := C.1
  have hb := C.2.1
  simp only [zg_R, zg_nil] at hl
  have hl : lv_has ls 1 [(0, va_rf a0)] := hl
  refine rk_rf ?_
  unfold fn_X11_numberBehind
  refine rk_of (fun _ _ _ _ _ k => lr_aload_n hx hb dX11_numberBehind_0 rfl (lv_at hl 0 rfl) (lv_bipush (v := 32) hx hb dX11_numberBehind_1 rfl k)) ?_
  refine rk_callV hX (cl_V (rest := []) (av := [.int 32]) C (hc_X11 H) (ct_X11_take H a0 32) (lw_V q2242 q2244 qs31 q145 q2245) ⟨rfl, hd_X11_take⟩ ⟨(Nat.le_of_ble_eq_true rfl), (Nat.le_of_ble_eq_true rfl)⟩ rfl hl.1 rfl (zw_le zw_nil (Nat.le_of_ble_eq_true rfl)) dX11_numberBehind_3) (fun _ => ?_)
  refine rk_of (fun _ _ _ _ _ k => lr_aload_n hx hb dX11_numberBehind_6 rfl (lv_at hl 0 rfl) k) ?_
  refine rk_callI hX (cl_V (rest := []) (av := []) C (hc_X11 H) (ct_X11_number H a0) (lw_V q2262 q2264 qs36 q145 q2265) ⟨rfl, hd_X11_number⟩ ⟨(Nat.le_of_ble_eq_true rfl), (Nat.le_of_ble_eq_true rfl)⟩ rfl hl.1 rfl (zw_le zw_nil (Nat.le_of_ble_eq_true rfl)) dX11_numberBehind_7) (fun v7 => ?_)
  exact rk_top (rf_iret C rfl dX11_numberBehind_10)
theorem hd_X11_span : yX11_span.cls ≠ "java/lang/invoke/MethodHandle" ∧ yX11_span.cls ≠ "java/lang/invoke/VarHandle" ∧ (parseMethodDescriptor yX11_span.desc).map (fun d => d.parameters.length) = some 0 := by decide +kernel
noncomputable def fn_X11_span (K : zm_K) (a0 : zm_R) : zm_M zm_R :=
  zm_bnd (zm_bnd (zm_is a0 27) fun _ => fn_X11_numberBehind K a0) fun v1 =>
  zm_bnd (zm_bnd (zm_is a0 27) fun _ => fn_X11_take K a0 45) fun _ =>
  zm_bnd (zm_new 22 [.int 0, .int 0]) fun v11 =>
  zm_bnd (zm_bnd (zm_is a0 27) fun _ => fn_X11_number K a0) fun v17 =>
  zm_bnd (fn_X5_init K (some v11) v1 v17) fun _ =>
  zm_ret (some v11)
theorem ct_X11_span {l : Launch} {Ω : zm_W} {K : zm_K} (H : zm_H Ω K) (a0 : zm_R) : zm_Ct l Ω yX11_span (ws_ yX11_span cX11_span 2 (Option.some (Jvm.ClassFile.FieldType.object "BoxSpans$Span"))) 11 276 [va_rf a0] zm_tvR (fn_X11_span K a0) := by
  refine zm_ct H.1 (by decide +kernel) (zl_le (zl_R zl_nil) (Nat.le_of_ble_eq_true rfl)) ?_
  intro p e R s m args below meth c n0 k0 C hX ls hl
  have hx := C.1
  have hb := C.2.1
  simp only [zg_R, zg_nil] at hl
  have hl : lv_has ls 2 [(0, va_rf a0)] := hl
  refine rk_rf ?_
  unfold fn_X11_span
  refine rk_of (fun _ _ _ _ _ k => lr_aload_n hx hb dX11_span_0 rfl (lv_at hl 0 rfl) k) ?_
  refine rk_callI hX (cl_V (rest := []) (av := []) C (hc_X11 H) (ct_X11_numberBehind H a0) (lw_V q2258 q2260 qs35 q145 q2261) ⟨rfl, hd_X11_numberBehind⟩ ⟨(Nat.le_of_ble_eq_true rfl), (Nat.le_of_ble_eq_true rfl)⟩ rfl hl.1 rfl (zw_le zw_nil (Nat.le_of_ble_eq_true rfl)) dX11_span_1) (fun v1 => ?_)
  refine rk_ofs (fun _ _ _ _ _ k => lr_istore_n hx hb dX11_span_4 rfl hl (Nat.le_of_ble_eq_true rfl) [0] rfl ⟨(by first | exact va_rf_cat _ | rfl), trivial⟩ k) (fun ls hl => ?_)
  refine rk_of (fun _ _ _ _ _ k => lr_aload_n hx hb dX11_span_5 rfl (lv_at hl 1 rfl) (lv_bipush (v := 45) hx hb dX11_span_6 rfl k)) ?_
  refine rk_callV hX (cl_V (rest := []) (av := [.int 45]) C (hc_X11 H) (ct_X11_take H a0 45) (lw_V q2242 q2244 qs31 q145 q2245) ⟨rfl, hd_X11_take⟩ ⟨(Nat.le_of_ble_eq_true rfl), (Nat.le_of_ble_eq_true rfl)⟩ rfl hl.1 rfl (zw_le zw_nil (Nat.le_of_ble_eq_true rfl)) dX11_span_8) (fun _ => ?_)
  refine rk_new C (hc_X5 H) in_X5 tyX5_ok q2266 q808 q135 (fs := [.int 0, .int 0]) rfl (fun j hj => zdf_X5 j hj) dX11_span_11 (fun v11 => ?_)
  refine rk_of (fun _ _ _ _ _ k => lv_dup hx hb dX11_span_14 (va_rf_cat _) (lv_iload_n hx hb dX11_span_15 rfl (lv_at hl 0 rfl) (lr_aload_n hx hb dX11_span_16 rfl (lv_at hl 1 rfl) k))) ?_
  refine rk_callI hX (cl_V (rest := [.int v1, va_rf (some v11), va_rf (some v11)]) (av := []) C (hc_X11 H) (ct_X11_number H a0) (lw_V q2262 q2264 qs36 q145 q2265) ⟨rfl, hd_X11_number⟩ ⟨(Nat.le_of_ble_eq_true rfl), (Nat.le_of_ble_eq_true rfl)⟩ rfl hl.1 rfl (zw_le (zw_I (zw_R (zw_R zw_nil))) (Nat.le_of_ble_eq_true rfl)) dX11_span_17) (fun v17 => ?_)
  refine rk_callV hX (cl_I (rest := [va_rf (some v11)]) C (ct_X5_init H (some v11) v1 v17) (lw_meth q820) q135 q2267 q819 rfl hd_X5_init ⟨(Nat.le_of_ble_eq_true rfl), (Nat.le_of_ble_eq_true rfl)⟩ rfl hl.1 rfl (zw_le (zw_R zw_nil) (Nat.le_of_ble_eq_true rfl)) dX11_span_20) (fun _ => ?_)
  exact rk_top (rf_aret C (Or.inl ⟨_, rfl⟩) dX11_span_23)
theorem hd_X13_init : yX13_init.cls ≠ "java/lang/invoke/MethodHandle" ∧ yX13_init.cls ≠ "java/lang/invoke/VarHandle" ∧ (parseMethodDescriptor yX13_init.desc).map (fun d => d.parameters.length) = some 2 := by decide +kernel
noncomputable def fn_X13_init (K : zm_K) (a0 : zm_R) (a1 : zm_R) (a2 : zm_R) : zm_M Unit :=
  zm_bnd (zm_grd (a0 ≠ none)) fun _ =>
  zm_bnd (zm_putF K a0 29 0 (va_rf a1)) fun _ =>
  zm_bnd (zm_putF K a0 29 1 (va_rf a2)) fun _ =>
  zm_ret ()
theorem ct_X13_init {l : Launch} {Ω : zm_W} {K : zm_K} (H : zm_H Ω K) (a0 : zm_R) (a1 : zm_R) (a2 : zm_R) : zm_Ct l Ω yX13_init (ws_ yX13_init cX13_init 3 (Option.none : Option Jvm.ClassFile.FieldType)) 2 84 [va_rf a0, va_rf a1, va_rf a2] zm_tvV (fn_X13_init K a0 a1 a2) := by
  refine zm_ct H.1 (by decide +kernel) (zl_le (zl_R (zl_R (zl_R zl_nil))) (Nat.le_of_ble_eq_true rfl)) ?_
  intro p e R s m args below meth c n0 k0 C hX ls hl
  have hx := C.1
  have hb := C.2.1
  simp only [zg_R, zg_nil] at hl
  have hl : lv_has ls 3 [(0, va_rf a0), (1, va_rf a1), (2, va_rf a2)] := hl
  refine rk_rf ?_
  unfold fn_X13_init
  refine rk_of (fun _ _ _ _ _ k => lr_aload_n hx hb dX13_init_0 rfl (lv_at hl 0 rfl) k) ?_
  refine rk_grd (fun hg_1 => ?_)
  refine rk_of (fun _ _ _ _ _ k => zo_init C hl.1 q2284 q156 q157 hg_1 (Nat.le_of_ble_eq_true rfl) (zw_le12 zw_nil (Nat.le_of_ble_eq_true rfl)) dX13_init_1 k) ?_
  refine rk_of (fun _ _ _ _ _ k => lr_aload_n hx hb dX13_init_4 rfl (lv_at hl 0 rfl) (lr_aload_n hx hb dX13_init_5 rfl (lv_at hl 1 rfl) k)) ?_
  refine rk_put C H.2.2.1 (hc_X13 H) (k := 0) (Nat.le_of_ble_eq_true rfl) in_X13 (ty0 := tyX13) tyX13_ok nmX13 q2285 (fun _ h => h) (Or.inr ⟨rfl, rfl, rfl⟩) (zn_R rfl _) (zp_R rfl _) dX13_init_6 ?_
  refine rk_of (fun _ _ _ _ _ k => lr_aload_n hx hb dX13_init_9 rfl (lv_at hl 0 rfl) (lr_aload_n hx hb dX13_init_10 rfl (lv_at hl 2 rfl) k)) ?_
  refine rk_put C H.2.2.1 (hc_X13 H) (k := 1) (Nat.le_of_ble_eq_true rfl) in_X13 (ty0 := tyX13) tyX13_ok nmX13 q2286 (fun _ h => h) (Or.inr ⟨rfl, rfl, rfl⟩) (zn_R rfl _) (zp_R rfl _) dX13_init_11 ?_
  exact rk_top (rf_vret C dX13_init_14)
theorem hd_X11_letting : yX11_letting.cls ≠ "java/lang/invoke/MethodHandle" ∧ yX11_letting.cls ≠ "java/lang/invoke/VarHandle" ∧ (parseMethodDescriptor yX11_letting.desc).map (fun d => d.parameters.length) = some 0 := by decide +kernel
noncomputable def fn_X11_letting (K : zm_K) (a0 : zm_R) : zm_M zm_R :=
  zm_bnd (zm_bnd (zm_is a0 27) fun _ => fn_X11_digitBehind K a0) fun v1 =>
  zm_bnd (zm_bnd (zm_is a0 27) fun _ => fn_X11_digitBehind K a0) fun v6 =>
  zm_bnd (zm_bnd (zm_is a0 27) fun _ => fn_X11_span K a0) fun v11 =>
  zm_bnd (zm_new 29 [.null, .null]) fun v15 =>
  zm_bnd (zm_new 112 [.int v1, .int v6, va_rf v11]) fun v22 =>
  zm_bnd (zm_new 113 [.int v1, .int v6, va_rf v11]) fun v30 =>
  zm_bnd (fn_X13_init K (some v15) (some v22) (some v30)) fun _ =>
  zm_ret (some v15)
theorem ct_X11_letting {l : Launch} {Ω : zm_W} {K : zm_K} (H : zm_H Ω K) (a0 : zm_R) : zm_Ct l Ω yX11_letting (ws_ yX11_letting cX11_letting 4 (Option.some (Jvm.ClassFile.FieldType.object "BoxSpans$Command"))) 12 3200 [va_rf a0] zm_tvR (fn_X11_letting K a0) := by
  refine zm_ctN H.1 (by decide +kernel) (zl_le (zl_R zl_nil) (Nat.le_of_ble_eq_true rfl)) ?_
  intro p e R s m args below meth c n0 k0 C hX hN ls hl
  have hx := C.1
  have hb := C.2.1
  simp only [zg_R, zg_nil] at hl
  have hl : lv_has ls 4 [(0, va_rf a0)] := hl
  refine rk_rf ?_
  unfold fn_X11_letting
  refine rk_of (fun _ _ _ _ _ k => lr_aload_n hx hb dX11_letting_0 rfl (lv_at hl 0 rfl) k) ?_
  refine rk_callI hX (cl_V (rest := []) (av := []) C (hc_X11 H) (ct_X11_digitBehind H a0) (lw_V q2238 q2240 qs30 q145 q2241) ⟨rfl, hd_X11_digitBehind⟩ ⟨(Nat.le_of_ble_eq_true rfl), (Nat.le_of_ble_eq_true rfl)⟩ rfl hl.1 rfl (zw_le zw_nil (Nat.le_of_ble_eq_true rfl)) dX11_letting_1) (fun v1 => ?_)
  refine rk_ofs (fun _ _ _ _ _ k => lr_istore_n hx hb dX11_letting_4 rfl hl (Nat.le_of_ble_eq_true rfl) [0] rfl ⟨(by first | exact va_rf_cat _ | rfl), trivial⟩ k) (fun ls hl => ?_)
  refine rk_of (fun _ _ _ _ _ k => lr_aload_n hx hb dX11_letting_5 rfl (lv_at hl 1 rfl) k) ?_
  refine rk_callI hX (cl_V (rest := []) (av := []) C (hc_X11 H) (ct_X11_digitBehind H a0) (lw_V q2238 q2240 qs30 q145 q2241) ⟨rfl, hd_X11_digitBehind⟩ ⟨(Nat.le_of_ble_eq_true rfl), (Nat.le_of_ble_eq_true rfl)⟩ rfl hl.1 rfl (zw_le zw_nil (Nat.le_of_ble_eq_true rfl)) dX11_letting_6) (fun v6 => ?_)
  refine rk_ofs (fun _ _ _ _ _ k => lr_istore_n hx hb dX11_letting_9 rfl hl (Nat.le_of_ble_eq_true rfl) [0, 1] rfl ⟨rfl, ⟨trivial, trivial⟩⟩ k) (fun ls hl => ?_)
  refine rk_of (fun _ _ _ _ _ k => lr_aload_n hx hb dX11_letting_10 rfl (lv_at hl 2 rfl) k) ?_
  refine rk_callR hX (cl_V (rest := []) (av := []) C (hc_X11 H) (ct_X11_span H a0) (lw_V q2254 q2256 qs34 q145 q2257) ⟨rfl, hd_X11_span⟩ ⟨(Nat.le_of_ble_eq_true rfl), (Nat.le_of_ble_eq_true rfl)⟩ rfl hl.1 rfl (zw_le zw_nil (Nat.le_of_ble_eq_true rfl)) dX11_letting_11) (fun v11 => ?_)
  refine rk_ofs (fun _ _ _ _ _ k => lr_astore_n hx hb dX11_letting_14 rfl hl (Nat.le_of_ble_eq_true rfl) [0, 1] rfl ⟨rfl, ⟨trivial, trivial⟩⟩ k) (fun ls hl => ?_)
  refine rk_new C (hc_X13 H) in_X13 tyX13_ok q2268 q2269 q147 (fs := [.null, .null]) rfl (fun j hj => zdf_X13 j hj) dX11_letting_15 (fun v15 => ?_)
  refine rk_of (fun _ _ _ _ _ k => lv_dup hx hb dX11_letting_18 (va_rf_cat _) (lv_iload_n hx hb dX11_letting_19 rfl (lv_at hl 2 rfl) (lv_iload_n hx hb dX11_letting_20 rfl (lv_at hl 1 rfl) (lr_aload_n hx hb dX11_letting_21 rfl (lv_at hl 0 rfl) k)))) ?_
  refine rk_lam H C hN (i := 12) rfl (by decide) zk_ok12 (zh_O H) (vals := [.int v1, .int v6, va_rf v11]) (rest := [va_rf (some v15), va_rf (some v15)]) rfl (zk_cons rfl (zk_cons rfl (zk_cons (zn_R rfl _) zk_nil))) (zf_cons rfl (zf_cons rfl (zf_cons (zp_R rfl _) zf_nil))) hl.1 rfl (zw_ad (zw_R (zw_I (zw_I (zw_R (zw_R zw_nil))))) (Nat.le_of_ble_eq_true rfl)) dX11_letting_22 (fun v22 => ?_)
  refine rk_of (fun _ _ _ _ _ k => lv_iload_n hx hb dX11_letting_27 rfl (lv_at hl 2 rfl) (lv_iload_n hx hb dX11_letting_28 rfl (lv_at hl 1 rfl) (lr_aload_n hx hb dX11_letting_29 rfl (lv_at hl 0 rfl) k))) ?_
  refine rk_lam H C hN (i := 13) rfl (by decide) zk_ok13 (zh_O H) (vals := [.int v1, .int v6, va_rf v11]) (rest := [va_rf (some v22), va_rf (some v15), va_rf (some v15)]) rfl (zk_cons rfl (zk_cons rfl (zk_cons (zn_R rfl _) zk_nil))) (zf_cons rfl (zf_cons rfl (zf_cons (zp_R rfl _) zf_nil))) hl.1 rfl (zw_ad (zw_R (zw_I (zw_I (zw_R (zw_R (zw_R zw_nil)))))) (Nat.le_of_ble_eq_true rfl)) dX11_letting_30 (fun v30 => ?_)
  refine rk_callV hX (cl_I (rest := [va_rf (some v15)]) C (ct_X13_init H (some v15) (some v22) (some v30)) (lw_meth q2283) q147 q2281 q2282 rfl hd_X13_init ⟨(Nat.le_of_ble_eq_true rfl), (Nat.le_of_ble_eq_true rfl)⟩ rfl hl.1 rfl (zw_le (zw_R zw_nil) (Nat.le_of_ble_eq_true rfl)) dX11_letting_35) (fun _ => ?_)
  exact rk_top (rf_aret C (Or.inl ⟨_, rfl⟩) dX11_letting_38)
theorem hd_X11_cancelling : yX11_cancelling.cls ≠ "java/lang/invoke/MethodHandle" ∧ yX11_cancelling.cls ≠ "java/lang/invoke/VarHandle" ∧ (parseMethodDescriptor yX11_cancelling.desc).map (fun d => d.parameters.length) = some 0 := by decide +kernel
noncomputable def fn_X11_cancelling (K : zm_K) (a0 : zm_R) : zm_M zm_R :=
  zm_bnd (zm_bnd (zm_is a0 27) fun _ => fn_X11_numberBehind K a0) fun v1 =>
  zm_bnd (zm_new 29 [.null, .null]) fun v5 =>
  zm_bnd (zm_new 114 [.int v1]) fun v10 =>
  zm_bnd (zm_new 115 [.int v1]) fun v16 =>
  zm_bnd (fn_X13_init K (some v5) (some v10) (some v16)) fun _ =>
  zm_ret (some v5)
theorem ct_X11_cancelling {l : Launch} {Ω : zm_W} {K : zm_K} (H : zm_H Ω K) (a0 : zm_R) : zm_Ct l Ω yX11_cancelling (ws_ yX11_cancelling cX11_cancelling 2 (Option.some (Jvm.ClassFile.FieldType.object "BoxSpans$Command"))) 11 3200 [va_rf a0] zm_tvR (fn_X11_cancelling K a0) := by
  refine zm_ctN H.1 (by decide +kernel) (zl_le (zl_R zl_nil) (Nat.le_of_ble_eq_true rfl)) ?_
  intro p e R s m args below meth c n0 k0 C hX hN ls hl
  have hx := C.1
  have hb := C.2.1
  simp only [zg_R, zg_nil] at hl
  have hl : lv_has ls 2 [(0, va_rf a0)] := hl
  refine rk_rf ?_
  unfold fn_X11_cancelling
  refine rk_of (fun _ _ _ _ _ k => lr_aload_n hx hb dX11_cancelling_0 rfl (lv_at hl 0 rfl) k) ?_
  refine rk_callI hX (cl_V (rest := []) (av := []) C (hc_X11 H) (ct_X11_numberBehind H a0) (lw_V q2258 q2260 qs35 q145 q2261) ⟨rfl, hd_X11_numberBehind⟩ ⟨(Nat.le_of_ble_eq_true rfl), (Nat.le_of_ble_eq_true rfl)⟩ rfl hl.1 rfl (zw_le zw_nil (Nat.le_of_ble_eq_true rfl)) dX11_cancelling_1) (fun v1 => ?_)
  refine rk_ofs (fun _ _ _ _ _ k => lr_istore_n hx hb dX11_cancelling_4 rfl hl (Nat.le_of_ble_eq_true rfl) [] rfl trivial k) (fun ls hl => ?_)
  refine rk_new C (hc_X13 H) in_X13 tyX13_ok q2268 q2269 q147 (fs := [.null, .null]) rfl (fun j hj => zdf_X13 j hj) dX11_cancelling_5 (fun v5 => ?_)
  refine rk_of (fun _ _ _ _ _ k => lv_dup hx hb dX11_cancelling_8 (va_rf_cat _) (lv_iload_n hx hb dX11_cancelling_9 rfl (lv_at hl 0 rfl) k)) ?_
  refine rk_lam H C hN (i := 14) rfl (by decide) zk_ok14 (zh_O H) (vals := [.int v1]) (rest := [va_rf (some v5), va_rf (some v5)]) rfl (zk_cons rfl zk_nil) (zf_cons rfl zf_nil) hl.1 rfl (zw_ad (zw_I (zw_R (zw_R zw_nil))) (Nat.le_of_ble_eq_true rfl)) dX11_cancelling_10 (fun v10 => ?_)
  refine rk_of (fun _ _ _ _ _ k => lv_iload_n hx hb dX11_cancelling_15 rfl (lv_at hl 0 rfl) k) ?_
  refine rk_lam H C hN (i := 15) rfl (by decide) zk_ok15 (zh_O H) (vals := [.int v1]) (rest := [va_rf (some v10), va_rf (some v5), va_rf (some v5)]) rfl (zk_cons rfl zk_nil) (zf_cons rfl zf_nil) hl.1 rfl (zw_ad (zw_I (zw_R (zw_R (zw_R zw_nil)))) (Nat.le_of_ble_eq_true rfl)) dX11_cancelling_16 (fun v16 => ?_)
  refine rk_callV hX (cl_I (rest := [va_rf (some v5)]) C (ct_X13_init H (some v5) (some v10) (some v16)) (lw_meth q2283) q147 q2281 q2282 rfl hd_X13_init ⟨(Nat.le_of_ble_eq_true rfl), (Nat.le_of_ble_eq_true rfl)⟩ rfl hl.1 rfl (zw_le (zw_R zw_nil) (Nat.le_of_ble_eq_true rfl)) dX11_cancelling_21) (fun _ => ?_)
  exact rk_top (rf_aret C (Or.inl ⟨_, rfl⟩) dX11_cancelling_24)
theorem hd_X11_moving : yX11_moving.cls ≠ "java/lang/invoke/MethodHandle" ∧ yX11_moving.cls ≠ "java/lang/invoke/VarHandle" ∧ (parseMethodDescriptor yX11_moving.desc).map (fun d => d.parameters.length) = some 0 := by decide +kernel
noncomputable def fn_X11_moving (K : zm_K) (a0 : zm_R) : zm_M zm_R :=
  zm_bnd (zm_bnd (zm_is a0 27) fun _ => fn_X11_numberBehind K a0) fun v1 =>
  zm_bnd (zm_bnd (zm_is a0 27) fun _ => fn_X11_take K a0 32) fun _ =>
  zm_bnd (zm_bnd (zm_is a0 27) fun _ => fn_X11_here K a0) fun v12 =>
  zm_bnd (α := Int32) (
      if v12 = 45 then
        zm_ret 1
      else
        zm_ret 0
    ) fun b25 =>
  zm_bnd (α := Int32) (
      if b25 = 0 then
        zm_ret 43
      else
        zm_ret 45
    ) fun b38 =>
  zm_bnd (zm_bnd (zm_is a0 27) fun _ => fn_X11_take K a0 b38) fun _ =>
  zm_bnd (zm_bnd (zm_is a0 27) fun _ => fn_X11_number K a0) fun v42 =>
  zm_bnd (zm_new 29 [.null, .null]) fun v46 =>
  zm_bnd (zm_new 116 [.int v1, .int v42]) fun v52 =>
  zm_bnd (zm_grd (b25 = 0 ∨ b25 = 1)) fun _ =>
  zm_bnd (zm_new 117 [.int v1, .int b25, .int v42]) fun v60 =>
  zm_bnd (fn_X13_init K (some v46) (some v52) (some v60)) fun _ =>
  zm_ret (some v46)
theorem ct_X11_moving {l : Launch} {Ω : zm_W} {K : zm_K} (H : zm_H Ω K) (a0 : zm_R) : zm_Ct l Ω yX11_moving (ws_ yX11_moving cX11_moving 4 (Option.some (Jvm.ClassFile.FieldType.object "BoxSpans$Command"))) 11 3200 [va_rf a0] zm_tvR (fn_X11_moving K a0) := by
  refine zm_ctN H.1 (by decide +kernel) (zl_le (zl_R zl_nil) (Nat.le_of_ble_eq_true rfl)) ?_
  intro p e R s m args below meth c n0 k0 C hX hN ls hl
  have hx := C.1
  have hb := C.2.1
  simp only [zg_R, zg_nil] at hl
  have hl : lv_has ls 4 [(0, va_rf a0)] := hl
  refine rk_rf ?_
  unfold fn_X11_moving
  refine rk_of (fun _ _ _ _ _ k => lr_aload_n hx hb dX11_moving_0 rfl (lv_at hl 0 rfl) k) ?_
  refine rk_callI hX (cl_V (rest := []) (av := []) C (hc_X11 H) (ct_X11_numberBehind H a0) (lw_V q2258 q2260 qs35 q145 q2261) ⟨rfl, hd_X11_numberBehind⟩ ⟨(Nat.le_of_ble_eq_true rfl), (Nat.le_of_ble_eq_true rfl)⟩ rfl hl.1 rfl (zw_le zw_nil (Nat.le_of_ble_eq_true rfl)) dX11_moving_1) (fun v1 => ?_)
  refine rk_ofs (fun _ _ _ _ _ k => lr_istore_n hx hb dX11_moving_4 rfl hl (Nat.le_of_ble_eq_true rfl) [0] rfl ⟨(by first | exact va_rf_cat _ | rfl), trivial⟩ k) (fun ls hl => ?_)
  refine rk_of (fun _ _ _ _ _ k => lr_aload_n hx hb dX11_moving_5 rfl (lv_at hl 1 rfl) (lv_bipush (v := 32) hx hb dX11_moving_6 rfl k)) ?_
  refine rk_callV hX (cl_V (rest := []) (av := [.int 32]) C (hc_X11 H) (ct_X11_take H a0 32) (lw_V q2242 q2244 qs31 q145 q2245) ⟨rfl, hd_X11_take⟩ ⟨(Nat.le_of_ble_eq_true rfl), (Nat.le_of_ble_eq_true rfl)⟩ rfl hl.1 rfl (zw_le zw_nil (Nat.le_of_ble_eq_true rfl)) dX11_moving_8) (fun _ => ?_)
  refine rk_of (fun _ _ _ _ _ k => lr_aload_n hx hb dX11_moving_11 rfl (lv_at hl 1 rfl) k) ?_
  refine rk_callI hX (cl_V (rest := []) (av := []) C (hc_X11 H) (ct_X11_here H a0) (lw_V q2001 q2003 qs27 q145 q2004) ⟨rfl, hd_X11_here⟩ ⟨(Nat.le_of_ble_eq_true rfl), (Nat.le_of_ble_eq_true rfl)⟩ rfl hl.1 rfl (zw_le zw_nil (Nat.le_of_ble_eq_true rfl)) dX11_moving_12) (fun v12 => ?_)
  refine rk_of (fun _ _ _ _ _ k => lv_bipush (v := 45) hx hb dX11_moving_15 rfl k) ?_
  refine rk_join (β := Int32) (fun (b25 : Int32) ls => lv_has ls 4 [(0, va_rf a0), (1, .int v1)]) (fun (b25 : Int32) ls => F0 m 25 ls [.int b25]) (fun b25 ls hl => ?_) (fun hJ25 => ?_)
  · refine rk_ofs (fun _ _ _ _ _ k => lr_istore_n hx hb dX11_moving_25 rfl hl (Nat.le_of_ble_eq_true rfl) [0, 1] rfl ⟨trivial, ⟨rfl, trivial⟩⟩ k) (fun ls hl => ?_)
    refine rk_of (fun _ _ _ _ _ k => lr_aload_n hx hb dX11_moving_26 rfl (lv_at hl 1 rfl) (lv_iload_n hx hb dX11_moving_27 rfl (lv_at hl 0 rfl) k)) ?_
    refine rk_join (β := Int32) (fun (b38 : Int32) ls => lv_has ls 4 [(0, va_rf a0), (1, .int v1), (2, .int b25)]) (fun (b38 : Int32) ls => F0 m 38 ls [.int b38, va_rf a0]) (fun b38 ls hl => ?_) (fun hJ38 => ?_)
    · refine rk_callV hX (cl_V (rest := []) (av := [.int b38]) C (hc_X11 H) (ct_X11_take H a0 b38) (lw_V q2242 q2244 qs31 q145 q2245) ⟨rfl, hd_X11_take⟩ ⟨(Nat.le_of_ble_eq_true rfl), (Nat.le_of_ble_eq_true rfl)⟩ rfl hl.1 rfl (zw_le zw_nil (Nat.le_of_ble_eq_true rfl)) dX11_moving_38) (fun _ => ?_)
      refine rk_of (fun _ _ _ _ _ k => lr_aload_n hx hb dX11_moving_41 rfl (lv_at hl 0 rfl) k) ?_
      refine rk_callI hX (cl_V (rest := []) (av := []) C (hc_X11 H) (ct_X11_number H a0) (lw_V q2262 q2264 qs36 q145 q2265) ⟨rfl, hd_X11_number⟩ ⟨(Nat.le_of_ble_eq_true rfl), (Nat.le_of_ble_eq_true rfl)⟩ rfl hl.1 rfl (zw_le zw_nil (Nat.le_of_ble_eq_true rfl)) dX11_moving_42) (fun v42 => ?_)
      refine rk_ofs (fun _ _ _ _ _ k => lr_istore_n hx hb dX11_moving_45 rfl hl (Nat.le_of_ble_eq_true rfl) [1, 2] rfl ⟨trivial, ⟨rfl, trivial⟩⟩ k) (fun ls hl => ?_)
      refine rk_new C (hc_X13 H) in_X13 tyX13_ok q2268 q2269 q147 (fs := [.null, .null]) rfl (fun j hj => zdf_X13 j hj) dX11_moving_46 (fun v46 => ?_)
      refine rk_of (fun _ _ _ _ _ k => lv_dup hx hb dX11_moving_49 (va_rf_cat _) (lv_iload_n hx hb dX11_moving_50 rfl (lv_at hl 1 rfl) (lv_iload_n hx hb dX11_moving_51 rfl (lv_at hl 0 rfl) k))) ?_
      refine rk_lam H C hN (i := 16) rfl (by decide) zk_ok16 (zh_O H) (vals := [.int v1, .int v42]) (rest := [va_rf (some v46), va_rf (some v46)]) rfl (zk_cons rfl (zk_cons rfl zk_nil)) (zf_cons rfl (zf_cons rfl zf_nil)) hl.1 rfl (zw_ad (zw_I (zw_I (zw_R (zw_R zw_nil)))) (Nat.le_of_ble_eq_true rfl)) dX11_moving_52 (fun v52 => ?_)
      refine rk_of (fun _ _ _ _ _ k => lv_iload_n hx hb dX11_moving_57 rfl (lv_at hl 1 rfl) (lv_iload_n hx hb dX11_moving_58 rfl (lv_at hl 2 rfl) (lv_iload_n hx hb dX11_moving_59 rfl (lv_at hl 0 rfl) k))) ?_
      refine rk_grd (fun hg_60_1 => ?_)
      refine rk_lam H C hN (i := 17) rfl (by decide) zk_ok17 (zh_O H) (vals := [.int v1, .int b25, .int v42]) (rest := [va_rf (some v52), va_rf (some v46), va_rf (some v46)]) rfl (zk_cons rfl (zk_cons (zn_Z hg_60_1) (zk_cons rfl zk_nil))) (zf_cons rfl (zf_cons (zp_Z hg_60_1) (zf_cons rfl zf_nil))) hl.1 rfl (zw_ad (zw_I (zw_I (zw_I (zw_R (zw_R (zw_R zw_nil)))))) (Nat.le_of_ble_eq_true rfl)) dX11_moving_60 (fun v60 => ?_)
      refine rk_callV hX (cl_I (rest := [va_rf (some v46)]) C (ct_X13_init H (some v46) (some v52) (some v60)) (lw_meth q2283) q147 q2281 q2282 rfl hd_X13_init ⟨(Nat.le_of_ble_eq_true rfl), (Nat.le_of_ble_eq_true rfl)⟩ rfl hl.1 rfl (zw_le (zw_R zw_nil) (Nat.le_of_ble_eq_true rfl)) dX11_moving_65) (fun _ => ?_)
      exact rk_top (rf_aret C (Or.inl ⟨_, rfl⟩) dX11_moving_68)
    · refine rk_ite (fun _ _ _ _ _ k1 k2 => lv_if_eq (tgt := 36) hx hb dX11_moving_28 (by decide) k1 k2) (fun c_28 => ?_) (fun c_28 => ?_)
      · refine rk_of (fun _ _ _ _ _ k => lv_bipush (v := 43) hx hb dX11_moving_36 rfl k) ?_
        exact hJ38 43 ls (lv_sub hl [1, 2, 0] rfl)
      · refine rk_of (fun _ _ _ _ _ k => lv_bipush (v := 45) hx hb dX11_moving_31 rfl (lv_goto (tgt := 38) hx hb dX11_moving_33 (by decide) k)) ?_
        exact hJ38 45 ls (lv_sub hl [1, 2, 0] rfl)
  · refine rk_ite (fun _ _ _ _ _ k1 k2 => lv_icmp_ne (tgt := 24) hx hb dX11_moving_17 (by decide) k2 k1) (fun c_17 => ?_) (fun c_17 => ?_)
    · refine rk_of (fun _ _ _ _ _ k => lv_iconst (v := 1) hx hb dX11_moving_20 rfl (lv_goto (tgt := 25) hx hb dX11_moving_21 (by decide) k)) ?_
      exact hJ25 1 ls (lv_sub hl [1, 0] rfl)
    · refine rk_of (fun _ _ _ _ _ k => lv_iconst (v := 0) hx hb dX11_moving_24 rfl k) ?_
      exact hJ25 0 ls (lv_sub hl [1, 0] rfl)
theorem hd_X11_splitting : yX11_splitting.cls ≠ "java/lang/invoke/MethodHandle" ∧ yX11_splitting.cls ≠ "java/lang/invoke/VarHandle" ∧ (parseMethodDescriptor yX11_splitting.desc).map (fun d => d.parameters.length) = some 0 := by decide +kernel
noncomputable def fn_X11_splitting (K : zm_K) (a0 : zm_R) : zm_M zm_R :=
  zm_bnd (zm_bnd (zm_is a0 27) fun _ => fn_X11_numberBehind K a0) fun v1 =>
  zm_bnd (zm_bnd (zm_is a0 27) fun _ => fn_X11_numberBehind K a0) fun v6 =>
  zm_bnd (zm_new 29 [.null, .null]) fun v10 =>
  zm_bnd (zm_new 118 [.int v1]) fun v15 =>
  zm_bnd (zm_new 119 [.int v1, .int v6]) fun v22 =>
  zm_bnd (fn_X13_init K (some v10) (some v15) (some v22)) fun _ =>
  zm_ret (some v10)
theorem ct_X11_splitting {l : Launch} {Ω : zm_W} {K : zm_K} (H : zm_H Ω K) (a0 : zm_R) : zm_Ct l Ω yX11_splitting (ws_ yX11_splitting cX11_splitting 3 (Option.some (Jvm.ClassFile.FieldType.object "BoxSpans$Command"))) 11 3200 [va_rf a0] zm_tvR (fn_X11_splitting K a0) := by
  refine zm_ctN H.1 (by decide +kernel) (zl_le (zl_R zl_nil) (Nat.le_of_ble_eq_true rfl)) ?_
  intro p e R s m args below meth c n0 k0 C hX hN ls hl
  have hx := C.1
  have hb := C.2.1
  simp only [zg_R, zg_nil] at hl
  have hl : lv_has ls 3 [(0, va_rf a0)] := hl
  refine rk_rf ?_
  unfold fn_X11_splitting
  refine rk_of (fun _ _ _ _ _ k => lr_aload_n hx hb dX11_splitting_0 rfl (lv_at hl 0 rfl) k) ?_
  refine rk_callI hX (cl_V (rest := []) (av := []) C (hc_X11 H) (ct_X11_numberBehind H a0) (lw_V q2258 q2260 qs35 q145 q2261) ⟨rfl, hd_X11_numberBehind⟩ ⟨(Nat.le_of_ble_eq_true rfl), (Nat.le_of_ble_eq_true rfl)⟩ rfl hl.1 rfl (zw_le zw_nil (Nat.le_of_ble_eq_true rfl)) dX11_splitting_1) (fun v1 => ?_)
  refine rk_ofs (fun _ _ _ _ _ k => lr_istore_n hx hb dX11_splitting_4 rfl hl (Nat.le_of_ble_eq_true rfl) [0] rfl ⟨(by first | exact va_rf_cat _ | rfl), trivial⟩ k) (fun ls hl => ?_)
  refine rk_of (fun _ _ _ _ _ k => lr_aload_n hx hb dX11_splitting_5 rfl (lv_at hl 1 rfl) k) ?_
  refine rk_callI hX (cl_V (rest := []) (av := []) C (hc_X11 H) (ct_X11_numberBehind H a0) (lw_V q2258 q2260 qs35 q145 q2261) ⟨rfl, hd_X11_numberBehind⟩ ⟨(Nat.le_of_ble_eq_true rfl), (Nat.le_of_ble_eq_true rfl)⟩ rfl hl.1 rfl (zw_le zw_nil (Nat.le_of_ble_eq_true rfl)) dX11_splitting_6) (fun v6 => ?_)
  refine rk_ofs (fun _ _ _ _ _ k => lr_istore_n hx hb dX11_splitting_9 rfl hl (Nat.le_of_ble_eq_true rfl) [0] rfl ⟨rfl, trivial⟩ k) (fun ls hl => ?_)
  refine rk_new C (hc_X13 H) in_X13 tyX13_ok q2268 q2269 q147 (fs := [.null, .null]) rfl (fun j hj => zdf_X13 j hj) dX11_splitting_10 (fun v10 => ?_)
  refine rk_of (fun _ _ _ _ _ k => lv_dup hx hb dX11_splitting_13 (va_rf_cat _) (lv_iload_n hx hb dX11_splitting_14 rfl (lv_at hl 1 rfl) k)) ?_
  refine rk_lam H C hN (i := 18) rfl (by decide) zk_ok18 (zh_O H) (vals := [.int v1]) (rest := [va_rf (some v10), va_rf (some v10)]) rfl (zk_cons rfl zk_nil) (zf_cons rfl zf_nil) hl.1 rfl (zw_ad (zw_I (zw_R (zw_R zw_nil))) (Nat.le_of_ble_eq_true rfl)) dX11_splitting_15 (fun v15 => ?_)
  refine rk_of (fun _ _ _ _ _ k => lv_iload_n hx hb dX11_splitting_20 rfl (lv_at hl 1 rfl) (lv_iload_n hx hb dX11_splitting_21 rfl (lv_at hl 0 rfl) k)) ?_
  refine rk_lam H C hN (i := 19) rfl (by decide) zk_ok19 (zh_O H) (vals := [.int v1, .int v6]) (rest := [va_rf (some v15), va_rf (some v10), va_rf (some v10)]) rfl (zk_cons rfl (zk_cons rfl zk_nil)) (zf_cons rfl (zf_cons rfl zf_nil)) hl.1 rfl (zw_ad (zw_I (zw_I (zw_R (zw_R (zw_R zw_nil))))) (Nat.le_of_ble_eq_true rfl)) dX11_splitting_22 (fun v22 => ?_)
  refine rk_callV hX (cl_I (rest := [va_rf (some v10)]) C (ct_X13_init H (some v10) (some v15) (some v22)) (lw_meth q2283) q147 q2281 q2282 rfl hd_X13_init ⟨(Nat.le_of_ble_eq_true rfl), (Nat.le_of_ble_eq_true rfl)⟩ rfl hl.1 rfl (zw_le (zw_R zw_nil) (Nat.le_of_ble_eq_true rfl)) dX11_splitting_27) (fun _ => ?_)
  exact rk_top (rf_aret C (Or.inl ⟨_, rfl⟩) dX11_splitting_30)
theorem hd_X11_wishing : yX11_wishing.cls ≠ "java/lang/invoke/MethodHandle" ∧ yX11_wishing.cls ≠ "java/lang/invoke/VarHandle" ∧ (parseMethodDescriptor yX11_wishing.desc).map (fun d => d.parameters.length) = some 0 := by decide +kernel
noncomputable def fn_X11_wishing (K : zm_K) (a0 : zm_R) : zm_M zm_R :=
  zm_bnd (zm_bnd (zm_is a0 27) fun _ => fn_X11_digitBehind K a0) fun v1 =>
  zm_bnd (zm_bnd (zm_is a0 27) fun _ => fn_X11_span K a0) fun v6 =>
  zm_bnd (zm_new 29 [.null, .null]) fun v10 =>
  zm_bnd (zm_new 120 [.int v1, va_rf v6]) fun v16 =>
  zm_bnd (zm_new 121 [.int v1, va_rf v6]) fun v23 =>
  zm_bnd (fn_X13_init K (some v10) (some v16) (some v23)) fun _ =>
  zm_ret (some v10)
theorem ct_X11_wishing {l : Launch} {Ω : zm_W} {K : zm_K} (H : zm_H Ω K) (a0 : zm_R) : zm_Ct l Ω yX11_wishing (ws_ yX11_wishing cX11_wishing 3 (Option.some (Jvm.ClassFile.FieldType.object "BoxSpans$Command"))) 12 3200 [va_rf a0] zm_tvR (fn_X11_wishing K a0) := by
  refine zm_ctN H.1 (by decide +kernel) (zl_le (zl_R zl_nil) (Nat.le_of_ble_eq_true rfl)) ?_
  intro p e R s m args below meth c n0 k0 C hX hN ls hl
  have hx := C.1
  have hb := C.2.1
  simp only [zg_R, zg_nil] at hl
  have hl : lv_has ls 3 [(0, va_rf a0)] := hl
  refine rk_rf ?_
  unfold fn_X11_wishing
  refine rk_of (fun _ _ _ _ _ k => lr_aload_n hx hb dX11_wishing_0 rfl (lv_at hl 0 rfl) k) ?_
  refine rk_callI hX (cl_V (rest := []) (av := []) C (hc_X11 H) (ct_X11_digitBehind H a0) (lw_V q2238 q2240 qs30 q145 q2241) ⟨rfl, hd_X11_digitBehind⟩ ⟨(Nat.le_of_ble_eq_true rfl), (Nat.le_of_ble_eq_true rfl)⟩ rfl hl.1 rfl (zw_le zw_nil (Nat.le_of_ble_eq_true rfl)) dX11_wishing_1) (fun v1 => ?_)
  refine rk_ofs (fun _ _ _ _ _ k => lr_istore_n hx hb dX11_wishing_4 rfl hl (Nat.le_of_ble_eq_true rfl) [0] rfl ⟨(by first | exact va_rf_cat _ | rfl), trivial⟩ k) (fun ls hl => ?_)
  refine rk_of (fun _ _ _ _ _ k => lr_aload_n hx hb dX11_wishing_5 rfl (lv_at hl 1 rfl) k) ?_
  refine rk_callR hX (cl_V (rest := []) (av := []) C (hc_X11 H) (ct_X11_span H a0) (lw_V q2254 q2256 qs34 q145 q2257) ⟨rfl, hd_X11_span⟩ ⟨(Nat.le_of_ble_eq_true rfl), (Nat.le_of_ble_eq_true rfl)⟩ rfl hl.1 rfl (zw_le zw_nil (Nat.le_of_ble_eq_true rfl)) dX11_wishing_6) (fun v6 => ?_)
  refine rk_ofs (fun _ _ _ _ _ k => lr_astore_n hx hb dX11_wishing_9 rfl hl (Nat.le_of_ble_eq_true rfl) [0] rfl ⟨rfl, trivial⟩ k) (fun ls hl => ?_)
  refine rk_new C (hc_X13 H) in_X13 tyX13_ok q2268 q2269 q147 (fs := [.null, .null]) rfl (fun j hj => zdf_X13 j hj) dX11_wishing_10 (fun v10 => ?_)
  refine rk_of (fun _ _ _ _ _ k => lv_dup hx hb dX11_wishing_13 (va_rf_cat _) (lv_iload_n hx hb dX11_wishing_14 rfl (lv_at hl 1 rfl) (lr_aload_n hx hb dX11_wishing_15 rfl (lv_at hl 0 rfl) k))) ?_
  refine rk_lam H C hN (i := 20) rfl (by decide) zk_ok20 (zh_O H) (vals := [.int v1, va_rf v6]) (rest := [va_rf (some v10), va_rf (some v10)]) rfl (zk_cons rfl (zk_cons (zn_R rfl _) zk_nil)) (zf_cons rfl (zf_cons (zp_R rfl _) zf_nil)) hl.1 rfl (zw_ad (zw_R (zw_I (zw_R (zw_R zw_nil)))) (Nat.le_of_ble_eq_true rfl)) dX11_wishing_16 (fun v16 => ?_)
  refine rk_of (fun _ _ _ _ _ k => lv_iload_n hx hb dX11_wishing_21 rfl (lv_at hl 1 rfl) (lr_aload_n hx hb dX11_wishing_22 rfl (lv_at hl 0 rfl) k)) ?_
  refine rk_lam H C hN (i := 21) rfl (by decide) zk_ok21 (zh_O H) (vals := [.int v1, va_rf v6]) (rest := [va_rf (some v16), va_rf (some v10), va_rf (some v10)]) rfl (zk_cons rfl (zk_cons (zn_R rfl _) zk_nil)) (zf_cons rfl (zf_cons (zp_R rfl _) zf_nil)) hl.1 rfl (zw_ad (zw_R (zw_I (zw_R (zw_R (zw_R zw_nil))))) (Nat.le_of_ble_eq_true rfl)) dX11_wishing_23 (fun v23 => ?_)
  refine rk_callV hX (cl_I (rest := [va_rf (some v10)]) C (ct_X13_init H (some v10) (some v16) (some v23)) (lw_meth q2283) q147 q2281 q2282 rfl hd_X13_init ⟨(Nat.le_of_ble_eq_true rfl), (Nat.le_of_ble_eq_true rfl)⟩ rfl hl.1 rfl (zw_le (zw_R zw_nil) (Nat.le_of_ble_eq_true rfl)) dX11_wishing_28) (fun _ => ?_)
  exact rk_top (rf_aret C (Or.inl ⟨_, rfl⟩) dX11_wishing_31)
theorem hd_X11_dropping : yX11_dropping.cls ≠ "java/lang/invoke/MethodHandle" ∧ yX11_dropping.cls ≠ "java/lang/invoke/VarHandle" ∧ (parseMethodDescriptor yX11_dropping.desc).map (fun d => d.parameters.length) = some 0 := by decide +kernel
noncomputable def fn_X11_dropping (K : zm_K) (a0 : zm_R) : zm_M zm_R :=
  zm_bnd (zm_bnd (zm_is a0 27) fun _ => fn_X11_numberBehind K a0) fun v1 =>
  zm_bnd (zm_new 29 [.null, .null]) fun v5 =>
  zm_bnd (zm_new 122 [.int v1]) fun v10 =>
  zm_bnd (zm_new 123 [.int v1]) fun v16 =>
  zm_bnd (fn_X13_init K (some v5) (some v10) (some v16)) fun _ =>
  zm_ret (some v5)
theorem ct_X11_dropping {l : Launch} {Ω : zm_W} {K : zm_K} (H : zm_H Ω K) (a0 : zm_R) : zm_Ct l Ω yX11_dropping (ws_ yX11_dropping cX11_dropping 2 (Option.some (Jvm.ClassFile.FieldType.object "BoxSpans$Command"))) 11 3200 [va_rf a0] zm_tvR (fn_X11_dropping K a0) := by
  refine zm_ctN H.1 (by decide +kernel) (zl_le (zl_R zl_nil) (Nat.le_of_ble_eq_true rfl)) ?_
  intro p e R s m args below meth c n0 k0 C hX hN ls hl
  have hx := C.1
  have hb := C.2.1
  simp only [zg_R, zg_nil] at hl
  have hl : lv_has ls 2 [(0, va_rf a0)] := hl
  refine rk_rf ?_
  unfold fn_X11_dropping
  refine rk_of (fun _ _ _ _ _ k => lr_aload_n hx hb dX11_dropping_0 rfl (lv_at hl 0 rfl) k) ?_
  refine rk_callI hX (cl_V (rest := []) (av := []) C (hc_X11 H) (ct_X11_numberBehind H a0) (lw_V q2258 q2260 qs35 q145 q2261) ⟨rfl, hd_X11_numberBehind⟩ ⟨(Nat.le_of_ble_eq_true rfl), (Nat.le_of_ble_eq_true rfl)⟩ rfl hl.1 rfl (zw_le zw_nil (Nat.le_of_ble_eq_true rfl)) dX11_dropping_1) (fun v1 => ?_)
  refine rk_ofs (fun _ _ _ _ _ k => lr_istore_n hx hb dX11_dropping_4 rfl hl (Nat.le_of_ble_eq_true rfl) [] rfl trivial k) (fun ls hl => ?_)
  refine rk_new C (hc_X13 H) in_X13 tyX13_ok q2268 q2269 q147 (fs := [.null, .null]) rfl (fun j hj => zdf_X13 j hj) dX11_dropping_5 (fun v5 => ?_)
  refine rk_of (fun _ _ _ _ _ k => lv_dup hx hb dX11_dropping_8 (va_rf_cat _) (lv_iload_n hx hb dX11_dropping_9 rfl (lv_at hl 0 rfl) k)) ?_
  refine rk_lam H C hN (i := 22) rfl (by decide) zk_ok22 (zh_O H) (vals := [.int v1]) (rest := [va_rf (some v5), va_rf (some v5)]) rfl (zk_cons rfl zk_nil) (zf_cons rfl zf_nil) hl.1 rfl (zw_ad (zw_I (zw_R (zw_R zw_nil))) (Nat.le_of_ble_eq_true rfl)) dX11_dropping_10 (fun v10 => ?_)
  refine rk_of (fun _ _ _ _ _ k => lv_iload_n hx hb dX11_dropping_15 rfl (lv_at hl 0 rfl) k) ?_
  refine rk_lam H C hN (i := 23) rfl (by decide) zk_ok23 (zh_O H) (vals := [.int v1]) (rest := [va_rf (some v10), va_rf (some v5), va_rf (some v5)]) rfl (zk_cons rfl zk_nil) (zf_cons rfl zf_nil) hl.1 rfl (zw_ad (zw_I (zw_R (zw_R (zw_R zw_nil)))) (Nat.le_of_ble_eq_true rfl)) dX11_dropping_16 (fun v16 => ?_)
  refine rk_callV hX (cl_I (rest := [va_rf (some v5)]) C (ct_X13_init H (some v5) (some v10) (some v16)) (lw_meth q2283) q147 q2281 q2282 rfl hd_X13_init ⟨(Nat.le_of_ble_eq_true rfl), (Nat.le_of_ble_eq_true rfl)⟩ rfl hl.1 rfl (zw_le (zw_R zw_nil) (Nat.le_of_ble_eq_true rfl)) dX11_dropping_21) (fun _ => ?_)
  exact rk_top (rf_aret C (Or.inl ⟨_, rfl⟩) dX11_dropping_24)
theorem hd_X11_command : yX11_command.cls ≠ "java/lang/invoke/MethodHandle" ∧ yX11_command.cls ≠ "java/lang/invoke/VarHandle" ∧ (parseMethodDescriptor yX11_command.desc).map (fun d => d.parameters.length) = some 0 := by decide +kernel
noncomputable def fn_X11_command (K : zm_K) (a0 : zm_R) : zm_M zm_R :=
  zm_bnd (zm_bnd (zm_is a0 27) fun _ => fn_X11_word K a0) fun v1 =>
  zm_bnd (zm_bnd (zm_is v1 3) fun _ => fn_J7_hashCode K v1) fun v8 =>
  zm_bnd (α := Int32) (
      if v8 = (-1367724422) then
        zm_bnd (zm_bnd (zm_is v1 3) fun _ => fn_J7_equals K v1 (K.2 13)) fun v85 =>
        if v85 = 0 then
          zm_ret (-1)
        else
          zm_ret 1
      else
        if v8 = 107035 then
          zm_bnd (zm_bnd (zm_is v1 3) fun _ => fn_J7_equals K v1 (K.2 12)) fun v71 =>
          if v71 = 0 then
            zm_ret (-1)
          else
            zm_ret 0
        else
          if v8 = 3092207 then
            zm_bnd (zm_bnd (zm_is v1 3) fun _ => fn_J7_equals K v1 (K.2 17)) fun v141 =>
            if v141 = 0 then
              zm_ret (-1)
            else
              zm_ret 5
          else
            if v8 = 3357649 then
              zm_bnd (zm_bnd (zm_is v1 3) fun _ => fn_J7_equals K v1 (K.2 14)) fun v99 =>
              if v99 = 0 then
                zm_ret (-1)
              else
                zm_ret 2
            else
              if v8 = 3649703 then
                zm_bnd (zm_bnd (zm_is v1 3) fun _ => fn_J7_equals K v1 (K.2 16)) fun v127 =>
                if v127 = 0 then
                  zm_ret (-1)
                else
                  zm_ret 4
              else
                if v8 = 109648666 then
                  zm_bnd (zm_bnd (zm_is v1 3) fun _ => fn_J7_equals K v1 (K.2 15)) fun v113 =>
                  if v113 = 0 then
                    zm_ret (-1)
                  else
                    zm_ret 3
                else
                  zm_ret (-1)
    ) fun b149 =>
  if b149 = 0 then
    zm_bnd (zm_bnd (zm_is a0 27) fun _ => fn_X11_letting K a0) fun v189 =>
    zm_ret v189
  else
    if b149 = 1 then
      zm_bnd (zm_bnd (zm_is a0 27) fun _ => fn_X11_cancelling K a0) fun v196 =>
      zm_ret v196
    else
      if b149 = 2 then
        zm_bnd (zm_bnd (zm_is a0 27) fun _ => fn_X11_moving K a0) fun v203 =>
        zm_ret v203
      else
        if b149 = 3 then
          zm_bnd (zm_bnd (zm_is a0 27) fun _ => fn_X11_splitting K a0) fun v210 =>
          zm_ret v210
        else
          if b149 = 4 then
            zm_bnd (zm_bnd (zm_is a0 27) fun _ => fn_X11_wishing K a0) fun v217 =>
            zm_ret v217
          else
            if b149 = 5 then
              zm_bnd (zm_bnd (zm_is a0 27) fun _ => fn_X11_dropping K a0) fun v224 =>
              zm_ret v224
            else
              zm_bnd (zm_new 29 [.null, .null]) fun v230 =>
              zm_bnd (fn_X13_init K (some v230) (K.2 124) (K.2 125)) fun _ =>
              zm_ret (some v230)
theorem ct_X11_command {l : Launch} {Ω : zm_W} {K : zm_K} (H : zm_H Ω K) (a0 : zm_R) : zm_Ct l Ω yX11_command (ws_ yX11_command cX11_command 3 (Option.some (Jvm.ClassFile.FieldType.object "BoxSpans$Command"))) 15 3223 [va_rf a0] zm_tvR (fn_X11_command K a0) := by
  refine zm_ctN H.1 (by decide +kernel) (zl_le (zl_R zl_nil) (Nat.le_of_ble_eq_true rfl)) ?_
  intro p e R s m args below meth c n0 k0 C hX hN ls hl
  have hx := C.1
  have hb := C.2.1
  simp only [zg_R, zg_nil] at hl
  have hl : lv_has ls 3 [(0, va_rf a0)] := hl
  refine rk_rf ?_
  unfold fn_X11_command
  refine rk_of (fun _ _ _ _ _ k => lr_aload_n hx hb dX11_command_0 rfl (lv_at hl 0 rfl) k) ?_
  refine rk_callR hX (cl_V (rest := []) (av := []) C (hc_X11 H) (ct_X11_word H a0) (lw_V q1995 q1997 qs26 q145 q1998) ⟨rfl, hd_X11_word⟩ ⟨(Nat.le_of_ble_eq_true rfl), (Nat.le_of_ble_eq_true rfl)⟩ rfl hl.1 rfl (zw_le zw_nil (Nat.le_of_ble_eq_true rfl)) dX11_command_1) (fun v1 => ?_)
  refine rk_ofs (fun _ _ _ _ _ k => lr_astore_n hx hb dX11_command_4 rfl hl (Nat.le_of_ble_eq_true rfl) [0] rfl ⟨(by first | exact va_rf_cat _ | rfl), trivial⟩ k) (fun ls hl => ?_)
  refine rk_ofs (fun _ _ _ _ _ k => lv_iconst (v := (-1)) hx hb dX11_command_5 rfl (lr_istore_n hx hb dX11_command_6 rfl hl (Nat.le_of_ble_eq_true rfl) [0, 1] rfl ⟨(by first | exact va_rf_cat _ | rfl), ⟨trivial, trivial⟩⟩ k)) (fun ls hl => ?_)
  refine rk_of (fun _ _ _ _ _ k => lr_aload_n hx hb dX11_command_7 rfl (lv_at hl 1 rfl) k) ?_
  refine rk_callI hX (cl_V (rest := []) (av := []) C (hc_J7 H) (ct_J7_hashCode H v1) (lw_V q2163 q2164 q2165 q110 q2166) ⟨rfl, hd_J7_hashCode⟩ ⟨(Nat.le_of_ble_eq_true rfl), (Nat.le_of_ble_eq_true rfl)⟩ rfl hl.1 rfl (zw_le zw_nil (Nat.le_of_ble_eq_true rfl)) dX11_command_8) (fun v8 => ?_)
  refine rk_join (β := Int32) (fun (b149 : Int32) ls => lv_has ls 3 [(0, va_rf a0), (2, .int b149)]) (fun (b149 : Int32) ls => F0 m 149 ls []) (fun b149 ls hl => ?_) (fun hJ149 => ?_)
  · refine rk_of (fun _ _ _ _ _ k => lv_iload_n hx hb dX11_command_149 rfl (lv_at hl 1 rfl) k) ?_
    refine rk_case (fun c_150_0 => ?_) (fun c_150_0 => ?_)
    · refine rk_of (fun _ _ _ _ _ k => by rw [c_150_0]; exact lv_tableIn (off := 38) (tgt := 188) hx hb dX11_command_150 (by decide) (by decide) rfl (by decide) k) ?_
      refine rk_of (fun _ _ _ _ _ k => lr_aload_n hx hb dX11_command_188 rfl (lv_at hl 0 rfl) k) ?_
      refine rk_callR hX (cl_V (rest := []) (av := []) C (hc_X11 H) (ct_X11_letting H a0) (lw_V q2234 q2236 qs29 q145 q2237) ⟨rfl, hd_X11_letting⟩ ⟨(Nat.le_of_ble_eq_true rfl), (Nat.le_of_ble_eq_true rfl)⟩ rfl hl.1 rfl (zw_le zw_nil (Nat.le_of_ble_eq_true rfl)) dX11_command_189) (fun v189 => ?_)
      refine rk_of (fun _ _ _ _ _ k => lv_goto (tgt := 247) hx hb dX11_command_192 (by decide) k) ?_
      exact rk_top (rf_aret C (Or.inl ⟨_, rfl⟩) dX11_command_247)
    · refine rk_case (fun c_150_1 => ?_) (fun c_150_1 => ?_)
      · refine rk_of (fun _ _ _ _ _ k => by rw [c_150_1]; exact lv_tableIn (off := 45) (tgt := 195) hx hb dX11_command_150 (by decide) (by decide) rfl (by decide) k) ?_
        refine rk_of (fun _ _ _ _ _ k => lr_aload_n hx hb dX11_command_195 rfl (lv_at hl 0 rfl) k) ?_
        refine rk_callR hX (cl_V (rest := []) (av := []) C (hc_X11 H) (ct_X11_cancelling H a0) (lw_V q2292 q2294 qs37 q145 q2295) ⟨rfl, hd_X11_cancelling⟩ ⟨(Nat.le_of_ble_eq_true rfl), (Nat.le_of_ble_eq_true rfl)⟩ rfl hl.1 rfl (zw_le zw_nil (Nat.le_of_ble_eq_true rfl)) dX11_command_196) (fun v196 => ?_)
        refine rk_of (fun _ _ _ _ _ k => lv_goto (tgt := 247) hx hb dX11_command_199 (by decide) k) ?_
        exact rk_top (rf_aret C (Or.inl ⟨_, rfl⟩) dX11_command_247)
      · refine rk_case (fun c_150_2 => ?_) (fun c_150_2 => ?_)
        · refine rk_of (fun _ _ _ _ _ k => by rw [c_150_2]; exact lv_tableIn (off := 52) (tgt := 202) hx hb dX11_command_150 (by decide) (by decide) rfl (by decide) k) ?_
          refine rk_of (fun _ _ _ _ _ k => lr_aload_n hx hb dX11_command_202 rfl (lv_at hl 0 rfl) k) ?_
          refine rk_callR hX (cl_V (rest := []) (av := []) C (hc_X11 H) (ct_X11_moving H a0) (lw_V q2304 q2306 qs38 q145 q2307) ⟨rfl, hd_X11_moving⟩ ⟨(Nat.le_of_ble_eq_true rfl), (Nat.le_of_ble_eq_true rfl)⟩ rfl hl.1 rfl (zw_le zw_nil (Nat.le_of_ble_eq_true rfl)) dX11_command_203) (fun v203 => ?_)
          refine rk_of (fun _ _ _ _ _ k => lv_goto (tgt := 247) hx hb dX11_command_206 (by decide) k) ?_
          exact rk_top (rf_aret C (Or.inl ⟨_, rfl⟩) dX11_command_247)
        · refine rk_case (fun c_150_3 => ?_) (fun c_150_3 => ?_)
          · refine rk_of (fun _ _ _ _ _ k => by rw [c_150_3]; exact lv_tableIn (off := 59) (tgt := 209) hx hb dX11_command_150 (by decide) (by decide) rfl (by decide) k) ?_
            refine rk_of (fun _ _ _ _ _ k => lr_aload_n hx hb dX11_command_209 rfl (lv_at hl 0 rfl) k) ?_
            refine rk_callR hX (cl_V (rest := []) (av := []) C (hc_X11 H) (ct_X11_splitting H a0) (lw_V q2313 q2315 qs39 q145 q2316) ⟨rfl, hd_X11_splitting⟩ ⟨(Nat.le_of_ble_eq_true rfl), (Nat.le_of_ble_eq_true rfl)⟩ rfl hl.1 rfl (zw_le zw_nil (Nat.le_of_ble_eq_true rfl)) dX11_command_210) (fun v210 => ?_)
            refine rk_of (fun _ _ _ _ _ k => lv_goto (tgt := 247) hx hb dX11_command_213 (by decide) k) ?_
            exact rk_top (rf_aret C (Or.inl ⟨_, rfl⟩) dX11_command_247)
          · refine rk_case (fun c_150_4 => ?_) (fun c_150_4 => ?_)
            · refine rk_of (fun _ _ _ _ _ k => by rw [c_150_4]; exact lv_tableIn (off := 66) (tgt := 216) hx hb dX11_command_150 (by decide) (by decide) rfl (by decide) k) ?_
              refine rk_of (fun _ _ _ _ _ k => lr_aload_n hx hb dX11_command_216 rfl (lv_at hl 0 rfl) k) ?_
              refine rk_callR hX (cl_V (rest := []) (av := []) C (hc_X11 H) (ct_X11_wishing H a0) (lw_V q2322 q2324 qs40 q145 q2325) ⟨rfl, hd_X11_wishing⟩ ⟨(Nat.le_of_ble_eq_true rfl), (Nat.le_of_ble_eq_true rfl)⟩ rfl hl.1 rfl (zw_le zw_nil (Nat.le_of_ble_eq_true rfl)) dX11_command_217) (fun v217 => ?_)
              refine rk_of (fun _ _ _ _ _ k => lv_goto (tgt := 247) hx hb dX11_command_220 (by decide) k) ?_
              exact rk_top (rf_aret C (Or.inl ⟨_, rfl⟩) dX11_command_247)
            · refine rk_case (fun c_150_5 => ?_) (fun c_150_5 => ?_)
              · refine rk_of (fun _ _ _ _ _ k => by rw [c_150_5]; exact lv_tableIn (off := 73) (tgt := 223) hx hb dX11_command_150 (by decide) (by decide) rfl (by decide) k) ?_
                refine rk_of (fun _ _ _ _ _ k => lr_aload_n hx hb dX11_command_223 rfl (lv_at hl 0 rfl) k) ?_
                refine rk_callR hX (cl_V (rest := []) (av := []) C (hc_X11 H) (ct_X11_dropping H a0) (lw_V q2331 q2333 qs41 q145 q2334) ⟨rfl, hd_X11_dropping⟩ ⟨(Nat.le_of_ble_eq_true rfl), (Nat.le_of_ble_eq_true rfl)⟩ rfl hl.1 rfl (zw_le zw_nil (Nat.le_of_ble_eq_true rfl)) dX11_command_224) (fun v224 => ?_)
                refine rk_of (fun _ _ _ _ _ k => lv_goto (tgt := 247) hx hb dX11_command_227 (by decide) k) ?_
                exact rk_top (rf_aret C (Or.inl ⟨_, rfl⟩) dX11_command_247)
              · have q_0 : (b149).toInt ≠ 0 := fun q => c_150_0 (zs_eq q rfl)
                have q_1 : (b149).toInt ≠ 1 := fun q => c_150_1 (zs_eq q rfl)
                have q_2 : (b149).toInt ≠ 2 := fun q => c_150_2 (zs_eq q rfl)
                have q_3 : (b149).toInt ≠ 3 := fun q => c_150_3 (zs_eq q rfl)
                have q_4 : (b149).toInt ≠ 4 := fun q => c_150_4 (zs_eq q rfl)
                have q_5 : (b149).toInt ≠ 5 := fun q => c_150_5 (zs_eq q rfl)
                refine rk_of (fun _ _ _ _ _ k => lv_tableOut (tgt := 230) hx hb dX11_command_150 (by omega) (by decide) k) ?_
                refine rk_new C (hc_X13 H) in_X13 tyX13_ok q2268 q2269 q147 (fs := [.null, .null]) rfl (fun j hj => zdf_X13 j hj) dX11_command_230 (fun v230 => ?_)
                refine rk_of (fun _ _ _ _ _ k => lv_dup hx hb dX11_command_233 (va_rf_cat _) (zs_lamC H C hN (i := 24) rfl rfl hl.1 (zw_ad (zw_R (zw_R zw_nil)) (Nat.le_of_ble_eq_true rfl)) dX11_command_234 (zs_lamC H C hN (i := 25) rfl rfl hl.1 (zw_ad (zw_R (zw_R (zw_R zw_nil))) (Nat.le_of_ble_eq_true rfl)) dX11_command_239 k))) ?_
                refine rk_callV hX (cl_I (rest := [va_rf (some v230)]) C (ct_X13_init H (some v230) (K.2 124) (K.2 125)) (lw_meth q2283) q147 q2281 q2282 rfl hd_X13_init ⟨(Nat.le_of_ble_eq_true rfl), (Nat.le_of_ble_eq_true rfl)⟩ rfl hl.1 rfl (zw_le (zw_R zw_nil) (Nat.le_of_ble_eq_true rfl)) dX11_command_244) (fun _ => ?_)
                exact rk_top (rf_aret C (Or.inl ⟨_, rfl⟩) dX11_command_247)
  · refine rk_case (fun c_11_0 => ?_) (fun c_11_0 => ?_)
    · refine rk_of (fun _ _ _ _ _ k => by rw [c_11_0]; exact lv_lookup (off := 71) (tgt := 82) hx hb dX11_command_11 rfl rfl (by decide) k) ?_
      refine rk_of (fun _ _ _ _ _ k => lr_aload_n hx hb dX11_command_82 rfl (lv_at hl 1 rfl) (zs_ldc C (zh_s13 H) dX11_command_83 k)) ?_
      refine rk_callI hX (cl_V (rest := []) (av := [va_rf (K.2 13)]) C (hc_J7 H) (ct_J7_equals H v1 (K.2 13)) (lw_V q2221 q2222 q2223 q110 q2224) ⟨rfl, hd_J7_equals⟩ ⟨(Nat.le_of_ble_eq_true rfl), (Nat.le_of_ble_eq_true rfl)⟩ rfl hl.1 rfl (zw_le zw_nil (Nat.le_of_ble_eq_true rfl)) dX11_command_85) (fun v85 => ?_)
      refine rk_ite (fun _ _ _ _ _ k1 k2 => lv_if_eq (tgt := 149) hx hb dX11_command_88 (by decide) k1 k2) (fun c_88 => ?_) (fun c_88 => ?_)
      · exact hJ149 (-1) ls (lv_sub hl [2, 0] rfl)
      · refine rk_ofs (fun _ _ _ _ _ k => lv_iconst (v := 1) hx hb dX11_command_91 rfl (lr_istore_n hx hb dX11_command_92 rfl hl (Nat.le_of_ble_eq_true rfl) [2] rfl ⟨trivial, trivial⟩ k)) (fun ls hl => ?_)
        refine rk_of (fun _ _ _ _ _ k => lv_goto (tgt := 149) hx hb dX11_command_93 (by decide) k) ?_
        exact hJ149 1 ls (lv_sub hl [1, 0] rfl)
    · refine rk_case (fun c_11_1 => ?_) (fun c_11_1 => ?_)
      · refine rk_of (fun _ _ _ _ _ k => by rw [c_11_1]; exact lv_lookup (off := 57) (tgt := 68) hx hb dX11_command_11 rfl rfl (by decide) k) ?_
        refine rk_of (fun _ _ _ _ _ k => lr_aload_n hx hb dX11_command_68 rfl (lv_at hl 1 rfl) (zs_ldc C (zh_s12 H) dX11_command_69 k)) ?_
        refine rk_callI hX (cl_V (rest := []) (av := [va_rf (K.2 12)]) C (hc_J7 H) (ct_J7_equals H v1 (K.2 12)) (lw_V q2221 q2222 q2223 q110 q2224) ⟨rfl, hd_J7_equals⟩ ⟨(Nat.le_of_ble_eq_true rfl), (Nat.le_of_ble_eq_true rfl)⟩ rfl hl.1 rfl (zw_le zw_nil (Nat.le_of_ble_eq_true rfl)) dX11_command_71) (fun v71 => ?_)
        refine rk_ite (fun _ _ _ _ _ k1 k2 => lv_if_eq (tgt := 149) hx hb dX11_command_74 (by decide) k1 k2) (fun c_74 => ?_) (fun c_74 => ?_)
        · exact hJ149 (-1) ls (lv_sub hl [2, 0] rfl)
        · refine rk_ofs (fun _ _ _ _ _ k => lv_iconst (v := 0) hx hb dX11_command_77 rfl (lr_istore_n hx hb dX11_command_78 rfl hl (Nat.le_of_ble_eq_true rfl) [2] rfl ⟨trivial, trivial⟩ k)) (fun ls hl => ?_)
          refine rk_of (fun _ _ _ _ _ k => lv_goto (tgt := 149) hx hb dX11_command_79 (by decide) k) ?_
          exact hJ149 0 ls (lv_sub hl [1, 0] rfl)
      · refine rk_case (fun c_11_2 => ?_) (fun c_11_2 => ?_)
        · refine rk_of (fun _ _ _ _ _ k => by rw [c_11_2]; exact lv_lookup (off := 127) (tgt := 138) hx hb dX11_command_11 rfl rfl (by decide) k) ?_
          refine rk_of (fun _ _ _ _ _ k => lr_aload_n hx hb dX11_command_138 rfl (lv_at hl 1 rfl) (zs_ldc C (zh_s17 H) dX11_command_139 k)) ?_
          refine rk_callI hX (cl_V (rest := []) (av := [va_rf (K.2 17)]) C (hc_J7 H) (ct_J7_equals H v1 (K.2 17)) (lw_V q2221 q2222 q2223 q110 q2224) ⟨rfl, hd_J7_equals⟩ ⟨(Nat.le_of_ble_eq_true rfl), (Nat.le_of_ble_eq_true rfl)⟩ rfl hl.1 rfl (zw_le zw_nil (Nat.le_of_ble_eq_true rfl)) dX11_command_141) (fun v141 => ?_)
          refine rk_ite (fun _ _ _ _ _ k1 k2 => lv_if_eq (tgt := 149) hx hb dX11_command_144 (by decide) k1 k2) (fun c_144 => ?_) (fun c_144 => ?_)
          · exact hJ149 (-1) ls (lv_sub hl [2, 0] rfl)
          · refine rk_ofs (fun _ _ _ _ _ k => lv_iconst (v := 5) hx hb dX11_command_147 rfl (lr_istore_n hx hb dX11_command_148 rfl hl (Nat.le_of_ble_eq_true rfl) [2] rfl ⟨trivial, trivial⟩ k)) (fun ls hl => ?_)
            exact hJ149 5 ls (lv_sub hl [1, 0] rfl)
        · refine rk_case (fun c_11_3 => ?_) (fun c_11_3 => ?_)
          · refine rk_of (fun _ _ _ _ _ k => by rw [c_11_3]; exact lv_lookup (off := 85) (tgt := 96) hx hb dX11_command_11 rfl rfl (by decide) k) ?_
            refine rk_of (fun _ _ _ _ _ k => lr_aload_n hx hb dX11_command_96 rfl (lv_at hl 1 rfl) (zs_ldc C (zh_s14 H) dX11_command_97 k)) ?_
            refine rk_callI hX (cl_V (rest := []) (av := [va_rf (K.2 14)]) C (hc_J7 H) (ct_J7_equals H v1 (K.2 14)) (lw_V q2221 q2222 q2223 q110 q2224) ⟨rfl, hd_J7_equals⟩ ⟨(Nat.le_of_ble_eq_true rfl), (Nat.le_of_ble_eq_true rfl)⟩ rfl hl.1 rfl (zw_le zw_nil (Nat.le_of_ble_eq_true rfl)) dX11_command_99) (fun v99 => ?_)
            refine rk_ite (fun _ _ _ _ _ k1 k2 => lv_if_eq (tgt := 149) hx hb dX11_command_102 (by decide) k1 k2) (fun c_102 => ?_) (fun c_102 => ?_)
            · exact hJ149 (-1) ls (lv_sub hl [2, 0] rfl)
            · refine rk_ofs (fun _ _ _ _ _ k => lv_iconst (v := 2) hx hb dX11_command_105 rfl (lr_istore_n hx hb dX11_command_106 rfl hl (Nat.le_of_ble_eq_true rfl) [2] rfl ⟨trivial, trivial⟩ k)) (fun ls hl => ?_)
              refine rk_of (fun _ _ _ _ _ k => lv_goto (tgt := 149) hx hb dX11_command_107 (by decide) k) ?_
              exact hJ149 2 ls (lv_sub hl [1, 0] rfl)
          · refine rk_case (fun c_11_4 => ?_) (fun c_11_4 => ?_)
            · refine rk_of (fun _ _ _ _ _ k => by rw [c_11_4]; exact lv_lookup (off := 113) (tgt := 124) hx hb dX11_command_11 rfl rfl (by decide) k) ?_
              refine rk_of (fun _ _ _ _ _ k => lr_aload_n hx hb dX11_command_124 rfl (lv_at hl 1 rfl) (zs_ldc C (zh_s16 H) dX11_command_125 k)) ?_
              refine rk_callI hX (cl_V (rest := []) (av := [va_rf (K.2 16)]) C (hc_J7 H) (ct_J7_equals H v1 (K.2 16)) (lw_V q2221 q2222 q2223 q110 q2224) ⟨rfl, hd_J7_equals⟩ ⟨(Nat.le_of_ble_eq_true rfl), (Nat.le_of_ble_eq_true rfl)⟩ rfl hl.1 rfl (zw_le zw_nil (Nat.le_of_ble_eq_true rfl)) dX11_command_127) (fun v127 => ?_)
              refine rk_ite (fun _ _ _ _ _ k1 k2 => lv_if_eq (tgt := 149) hx hb dX11_command_130 (by decide) k1 k2) (fun c_130 => ?_) (fun c_130 => ?_)
              · exact hJ149 (-1) ls (lv_sub hl [2, 0] rfl)
              · refine rk_ofs (fun _ _ _ _ _ k => lv_iconst (v := 4) hx hb dX11_command_133 rfl (lr_istore_n hx hb dX11_command_134 rfl hl (Nat.le_of_ble_eq_true rfl) [2] rfl ⟨trivial, trivial⟩ k)) (fun ls hl => ?_)
                refine rk_of (fun _ _ _ _ _ k => lv_goto (tgt := 149) hx hb dX11_command_135 (by decide) k) ?_
                exact hJ149 4 ls (lv_sub hl [1, 0] rfl)
            · refine rk_case (fun c_11_5 => ?_) (fun c_11_5 => ?_)
              · refine rk_of (fun _ _ _ _ _ k => by rw [c_11_5]; exact lv_lookup (off := 99) (tgt := 110) hx hb dX11_command_11 rfl rfl (by decide) k) ?_
                refine rk_of (fun _ _ _ _ _ k => lr_aload_n hx hb dX11_command_110 rfl (lv_at hl 1 rfl) (zs_ldc C (zh_s15 H) dX11_command_111 k)) ?_
                refine rk_callI hX (cl_V (rest := []) (av := [va_rf (K.2 15)]) C (hc_J7 H) (ct_J7_equals H v1 (K.2 15)) (lw_V q2221 q2222 q2223 q110 q2224) ⟨rfl, hd_J7_equals⟩ ⟨(Nat.le_of_ble_eq_true rfl), (Nat.le_of_ble_eq_true rfl)⟩ rfl hl.1 rfl (zw_le zw_nil (Nat.le_of_ble_eq_true rfl)) dX11_command_113) (fun v113 => ?_)
                refine rk_ite (fun _ _ _ _ _ k1 k2 => lv_if_eq (tgt := 149) hx hb dX11_command_116 (by decide) k1 k2) (fun c_116 => ?_) (fun c_116 => ?_)
                · exact hJ149 (-1) ls (lv_sub hl [2, 0] rfl)
                · refine rk_ofs (fun _ _ _ _ _ k => lv_iconst (v := 3) hx hb dX11_command_119 rfl (lr_istore_n hx hb dX11_command_120 rfl hl (Nat.le_of_ble_eq_true rfl) [2] rfl ⟨trivial, trivial⟩ k)) (fun ls hl => ?_)
                  refine rk_of (fun _ _ _ _ _ k => lv_goto (tgt := 149) hx hb dX11_command_121 (by decide) k) ?_
                  exact hJ149 3 ls (lv_sub hl [1, 0] rfl)
              · have q_11_0 : (v8).toInt ≠ (-1367724422) := fun q => c_11_0 (zs_eq q rfl)
                have q_11_1 : (v8).toInt ≠ 107035 := fun q => c_11_1 (zs_eq q rfl)
                have q_11_2 : (v8).toInt ≠ 3092207 := fun q => c_11_2 (zs_eq q rfl)
                have q_11_3 : (v8).toInt ≠ 3357649 := fun q => c_11_3 (zs_eq q rfl)
                have q_11_4 : (v8).toInt ≠ 3649703 := fun q => c_11_4 (zs_eq q rfl)
                have q_11_5 : (v8).toInt ≠ 109648666 := fun q => c_11_5 (zs_eq q rfl)
                refine rk_of (fun _ _ _ _ _ k => lv_lookup (off := 138) (tgt := 149) hx hb dX11_command_11 rfl (by simp [Op.lookupswitch.offset, Ne.symm q_11_0, Ne.symm q_11_1, Ne.symm q_11_2, Ne.symm q_11_3, Ne.symm q_11_4, Ne.symm q_11_5]) (by decide) k) ?_
                exact hJ149 (-1) ls (lv_sub hl [2, 0] rfl)
theorem hd_X11_commands : yX11_commands.cls ≠ "java/lang/invoke/MethodHandle" ∧ yX11_commands.cls ≠ "java/lang/invoke/VarHandle" ∧ (parseMethodDescriptor yX11_commands.desc).map (fun d => d.parameters.length) = some 0 := by decide +kernel
noncomputable def fn_X11_commands_19 (K : zm_K) (p0 : zm_R) (p1 : zm_R) : Nat → zm_M (Unit)
  | 0 => zm_fl
  | n + 1 =>
    zm_bnd (zm_getI p0 27 1) fun v20 =>
    zm_bnd (zm_getR p0 27 0) fun v24 =>
    zm_bnd (zm_bnd (zm_cls v24) fun ci => if ci = 3 then fn_J7_length K v24 else if ci = 2 then fn_J6_length K v24 else zm_fl) fun v27 =>
    if v27 ≤ v20 then
      zm_ret ()
    else
      zm_bnd (zm_bnd (zm_is p0 27) fun _ => fn_X11_take K p0 59) fun _ =>
      zm_bnd (zm_bnd (zm_is p0 27) fun _ => fn_X11_command K p0) fun v43 =>
      zm_bnd (zm_bnd (zm_cls p1) fun ci => if ci = 0 then fn_J2_add K p1 v43 else if ci = 1 then fn_J4_add K p1 v43 else zm_fl) fun v46 =>
      fn_X11_commands_19 K p0 p1 n
noncomputable def fn_X11_commands (K : zm_K) (a0 : zm_R) : zm_M zm_R :=
  zm_bnd (zm_new 0 [.int 0, .null, .int 0]) fun v0 =>
  zm_bnd (fn_J2_init K (some v0)) fun _ =>
  zm_bnd (zm_bnd (zm_is a0 27) fun _ => fn_X11_command K a0) fun v10 =>
  zm_bnd (zm_bnd (zm_cls (some v0)) fun ci => if ci = 0 then fn_J2_add K (some v0) v10 else if ci = 1 then fn_J4_add K (some v0) v10 else zm_fl) fun v13 =>
  zm_bnd (α := Unit) (fn_X11_commands_19 K a0 (some v0) zm_N) fun (_ : Unit) =>
  zm_ret (some v0)
theorem rf_X11_commands_19 (H : zm_H Ω K) (C : zm_C p l R s m args meth c Ω lw_all cX11_commands yX11_commands.cls yX11_commands.name 2 16 3245 (Option.some (Jvm.ClassFile.FieldType.object "java/util/List"))) (hX : zm_XO p l e R s m args below meth c Ω n0 k0 (zm_QFs below args s Ω n0 k0 zm_tvR)) (p0 : zm_R) (p1 : zm_R) : ∀ (n : Nat) (J : (Unit) → zm_M zm_R) (ls : Array Slot), lv_has ls 2 [(0, va_rf p0), (1, va_rf p1)] → (∀ (b : Unit) (ls : Array Slot), lv_has ls 2 [(1, va_rf p1)] → zm_RK p l e R s m args below meth c Ω n0 k0 (zm_QFs below args s Ω n0 k0 zm_tvR) (zm_ret b) J (F0 m 55 ls [])) → zm_RK p l e R s m args below meth c Ω n0 k0 (zm_QFs below args s Ω n0 k0 zm_tvR) (fn_X11_commands_19 K p0 p1 n) J (F0 m 19 ls []) := by
  have hx := C.1
  have hb := C.2.1
  intro n
  induction n with
  | zero => intro J ls hl hJ; exact rk_fl
  | succ n ih =>
    intro J ls hl hJ
    unfold fn_X11_commands_19
    refine rk_of (fun _ _ _ _ _ k => lr_aload_n hx hb dX11_commands_19 rfl (lv_at hl 0 rfl) k) ?_
    refine rk_get zm_rdI_eq C (hc_X11 H) (k := 1) (Nat.le_of_ble_eq_true rfl) in_X11 q1979 (fun _ h => h) dX11_commands_20 (fun v20 => ?_)
    refine rk_of (fun _ _ _ _ _ k => lr_aload_n hx hb dX11_commands_23 rfl (lv_at hl 0 rfl) k) ?_
    refine rk_get zm_rdR_eq C (hc_X11 H) (k := 0) (Nat.le_of_ble_eq_true rfl) in_X11 q1978 (fun _ h => h) dX11_commands_24 (fun v24 => ?_)
    refine rk_callI hX (cl_dsp (fun ci => cl_case (cl_F (n := 0) (rest := [.int v20]) (av := []) C (hc_J7 H) (ct_J7_length H v24) (lw_F q2006 q2010 q491 q110 q493) (zh_Fw H C (by decide) q2008 q2007 q2012 q2011 q2009) (by decide +kernel) ⟨(Nat.le_of_ble_eq_true rfl), (Nat.le_of_ble_eq_true rfl)⟩ rfl hl.1 rfl (zw_le (zw_I zw_nil) (Nat.le_of_ble_eq_true rfl)) dX11_commands_27) (cl_case (cl_F (n := 0) (rest := [.int v20]) (av := []) C (hc_J6 H) (ct_J6_length H v24) (lw_F q2006 q2014 q581 q109 q582) (zh_Fw H C (by decide) q2008 q2007 q2016 q2015 q2013) (by decide +kernel) ⟨(Nat.le_of_ble_eq_true rfl), (Nat.le_of_ble_eq_true rfl)⟩ rfl hl.1 rfl (zw_le (zw_I zw_nil) (Nat.le_of_ble_eq_true rfl)) dX11_commands_27) (cl_fl)))) (fun v27 => ?_)
    refine rk_ite (fun _ _ _ _ _ k1 k2 => lv_icmp_ge (tgt := 55) hx hb dX11_commands_32 (by decide) k1 k2) (fun c_32 => ?_) (fun c_32 => ?_)
    · exact hJ () ls (lv_sub hl [1] rfl)
    · refine rk_of (fun _ _ _ _ _ k => lr_aload_n hx hb dX11_commands_35 rfl (lv_at hl 0 rfl) (lv_bipush (v := 59) hx hb dX11_commands_36 rfl k)) ?_
      refine rk_callV hX (cl_V (rest := []) (av := [.int 59]) C (hc_X11 H) (ct_X11_take H p0 59) (lw_V q2242 q2244 qs31 q145 q2245) ⟨rfl, hd_X11_take⟩ ⟨(Nat.le_of_ble_eq_true rfl), (Nat.le_of_ble_eq_true rfl)⟩ rfl hl.1 rfl (zw_le zw_nil (Nat.le_of_ble_eq_true rfl)) dX11_commands_38) (fun _ => ?_)
      refine rk_of (fun _ _ _ _ _ k => lr_aload_n hx hb dX11_commands_41 rfl (lv_at hl 1 rfl) (lr_aload_n hx hb dX11_commands_42 rfl (lv_at hl 0 rfl) k)) ?_
      refine rk_callR hX (cl_V (rest := [va_rf p1]) (av := []) C (hc_X11 H) (ct_X11_command H p0) (lw_V q1991 q1993 qs25 q145 q1994) ⟨rfl, hd_X11_command⟩ ⟨(Nat.le_of_ble_eq_true rfl), (Nat.le_of_ble_eq_true rfl)⟩ rfl hl.1 rfl (zw_le (zw_R zw_nil) (Nat.le_of_ble_eq_true rfl)) dX11_commands_43) (fun v43 => ?_)
      refine rk_callI hX (cl_dsp (fun ci => cl_case (cl_F (n := 1) (rest := []) (av := [va_rf v43]) C (hc_J2 H) (ct_J2_add H p1 v43) (lw_F q2347 q1202 q1204 q105 q1206) (zh_Fw H C (by decide) q1201 q1200 q1205 q1203 q309) (by decide +kernel) ⟨(Nat.le_of_ble_eq_true rfl), (Nat.le_of_ble_eq_true rfl)⟩ rfl hl.1 rfl (zw_le zw_nil (Nat.le_of_ble_eq_true rfl)) dX11_commands_46) (cl_case (cl_F (n := 1) (rest := []) (av := [va_rf v43]) C (hc_J4 H) (ct_J4_add H p1 v43) (lw_F q2347 q1232 q1234 q107 q1236) (zh_Fw H C (by decide) q1201 q1200 q1235 q1233 q336) (by decide +kernel) ⟨(Nat.le_of_ble_eq_true rfl), (Nat.le_of_ble_eq_true rfl)⟩ rfl hl.1 rfl (zw_le zw_nil (Nat.le_of_ble_eq_true rfl)) dX11_commands_46) (cl_fl)))) (fun v46 => ?_)
      refine rk_of (fun _ _ _ _ _ k => lv_pop hx hb dX11_commands_51 rfl (lv_goto (tgt := 19) hx hb dX11_commands_52 (by decide) k)) ?_
      exact ih J ls (lv_sub hl [0, 1] rfl) hJ
theorem ct_X11_commands {l : Launch} {Ω : zm_W} {K : zm_K} (H : zm_H Ω K) (a0 : zm_R) : zm_Ct l Ω yX11_commands (ws_ yX11_commands cX11_commands 2 (Option.some (Jvm.ClassFile.FieldType.object "java/util/List"))) 16 3245 [va_rf a0] zm_tvR (fn_X11_commands K a0) := by
  refine zm_ct H.1 (by decide +kernel) (zl_le (zl_R zl_nil) (Nat.le_of_ble_eq_true rfl)) ?_
  intro p e R s m args below meth c n0 k0 C hX ls hl
  have hx := C.1
  have hb := C.2.1
  simp only [zg_R, zg_nil] at hl
  have hl : lv_has ls 2 [(0, va_rf a0)] := hl
  refine rk_rf ?_
  unfold fn_X11_commands
  refine rk_new C (hc_J2 H) in_J2 tyJ2_ok q1989 q165 q105 (fs := [.int 0, .null, .int 0]) rfl (fun j hj => zdf_J2 j hj) dX11_commands_0 (fun v0 => ?_)
  refine rk_of (fun _ _ _ _ _ k => lv_dup hx hb dX11_commands_3 (va_rf_cat _) k) ?_
  refine rk_callV hX (cl_I (rest := [va_rf (some v0)]) C (ct_J2_init H (some v0)) (lw_meth q168) q105 q1990 q167 rfl hd_J2_init ⟨(Nat.le_of_ble_eq_true rfl), (Nat.le_of_ble_eq_true rfl)⟩ rfl hl.1 rfl (zw_le (zw_R zw_nil) (Nat.le_of_ble_eq_true rfl)) dX11_commands_4) (fun _ => ?_)
  refine rk_ofs (fun _ _ _ _ _ k => lr_astore_n hx hb dX11_commands_7 rfl hl (Nat.le_of_ble_eq_true rfl) [0] rfl ⟨(by first | exact va_rf_cat _ | rfl), trivial⟩ k) (fun ls hl => ?_)
  refine rk_of (fun _ _ _ _ _ k => lr_aload_n hx hb dX11_commands_8 rfl (lv_at hl 0 rfl) (lr_aload_n hx hb dX11_commands_9 rfl (lv_at hl 1 rfl) k)) ?_
  refine rk_callR hX (cl_V (rest := [va_rf (some v0)]) (av := []) C (hc_X11 H) (ct_X11_command H a0) (lw_V q1991 q1993 qs25 q145 q1994) ⟨rfl, hd_X11_command⟩ ⟨(Nat.le_of_ble_eq_true rfl), (Nat.le_of_ble_eq_true rfl)⟩ rfl hl.1 rfl (zw_le (zw_R zw_nil) (Nat.le_of_ble_eq_true rfl)) dX11_commands_10) (fun v10 => ?_)
  refine rk_callI hX (cl_dsp (fun ci => cl_case (cl_F (n := 1) (rest := []) (av := [va_rf v10]) C (hc_J2 H) (ct_J2_add H (some v0) v10) (lw_F q2347 q1202 q1204 q105 q1206) (zh_Fw H C (by decide) q1201 q1200 q1205 q1203 q309) (by decide +kernel) ⟨(Nat.le_of_ble_eq_true rfl), (Nat.le_of_ble_eq_true rfl)⟩ rfl hl.1 rfl (zw_le zw_nil (Nat.le_of_ble_eq_true rfl)) dX11_commands_13) (cl_case (cl_F (n := 1) (rest := []) (av := [va_rf v10]) C (hc_J4 H) (ct_J4_add H (some v0) v10) (lw_F q2347 q1232 q1234 q107 q1236) (zh_Fw H C (by decide) q1201 q1200 q1235 q1233 q336) (by decide +kernel) ⟨(Nat.le_of_ble_eq_true rfl), (Nat.le_of_ble_eq_true rfl)⟩ rfl hl.1 rfl (zw_le zw_nil (Nat.le_of_ble_eq_true rfl)) dX11_commands_13) (cl_fl)))) (fun v13 => ?_)
  refine rk_of (fun _ _ _ _ _ k => lv_pop hx hb dX11_commands_18 rfl k) ?_
  refine rk_join (β := Unit) (fun (b55 : Unit) ls => lv_has ls 2 [(1, va_rf (some v0))]) (fun (b55 : Unit) ls => F0 m 55 ls []) (fun b55 ls hl => ?_) (fun hJ55 => ?_)
  · refine rk_of (fun _ _ _ _ _ k => lr_aload_n hx hb dX11_commands_55 rfl (lv_at hl 0 rfl) k) ?_
    exact rk_top (rf_aret C (Or.inl ⟨_, rfl⟩) dX11_commands_56)
  · exact rf_X11_commands_19 H C hX a0 (some v0) zm_N _ ls (lv_sub hl [1, 0] rfl) hJ55
theorem hd_X13_isCall : yX13_isCall.cls ≠ "java/lang/invoke/MethodHandle" ∧ yX13_isCall.cls ≠ "java/lang/invoke/VarHandle" ∧ (parseMethodDescriptor yX13_isCall.desc).map (fun d => d.parameters.length) = some 1 := by decide +kernel
noncomputable def fn_X13_isCall (K : zm_K) (a0 : zm_R) (a1 : zm_R) : zm_M Int32 :=
  zm_bnd (zm_getR a0 29 0) fun v1 =>
  zm_bnd (fn_deed K v1 a1) fun v5 =>
  if v5 = 1 then
    zm_ret 1
  else
    zm_ret 0
theorem ct_X13_isCall {l : Launch} {Ω : zm_W} {K : zm_K} (H : zm_H Ω K) (a0 : zm_R) (a1 : zm_R) : zm_Ct l Ω yX13_isCall (ws_ yX13_isCall cX13_isCall 2 (Option.some Jvm.ClassFile.FieldType.boolean)) 21 506 [va_rf a0, va_rf a1] zm_tvI (fn_X13_isCall K a0 a1) := by
  refine zm_ct H.1 (by decide +kernel) (zl_le (zl_R (zl_R zl_nil)) (Nat.le_of_ble_eq_true rfl)) ?_
  intro p e R s m args below meth c n0 k0 C hX ls hl
  have hx := C.1
  have hb := C.2.1
  simp only [zg_R, zg_nil] at hl
  have hl : lv_has ls 2 [(0, va_rf a0), (1, va_rf a1)] := hl
  refine rk_rf ?_
  unfold fn_X13_isCall
  refine rk_of (fun _ _ _ _ _ k => lr_aload_n hx hb dX13_isCall_0 rfl (lv_at hl 0 rfl) k) ?_
  refine rk_get zm_rdR_eq C (hc_X13 H) (k := 0) (Nat.le_of_ble_eq_true rfl) in_X13 q2285 (fun _ h => h) dX13_isCall_1 (fun v1 => ?_)
  refine rk_of (fun _ _ _ _ _ k => lr_aload_n hx hb dX13_isCall_4 rfl (lv_at hl 1 rfl) k) ?_
  refine rk_callI hX (cl_deed (rest := []) H C q2364 (zn_wD H C q1335) (zn_wI H C (by decide) q1334 q1335) ⟨(Nat.le_of_ble_eq_true rfl), (Nat.le_of_ble_eq_true rfl)⟩ hl.1 rfl (zw_le zw_nil (Nat.le_of_ble_eq_true rfl)) dX13_isCall_5) (fun v5 => ?_)
  refine rk_ite (fun _ _ _ _ _ k1 k2 => lv_iconst (v := 1) hx hb dX13_isCall_10 rfl (lv_icmp_ne (tgt := 18) hx hb dX13_isCall_11 (by decide) k2 k1)) (fun c_11 => ?_) (fun c_11 => ?_)
  · refine rk_of (fun _ _ _ _ _ k => lv_iconst (v := 1) hx hb dX13_isCall_14 rfl (lv_goto (tgt := 19) hx hb dX13_isCall_15 (by decide) k)) ?_
    exact rk_top (rf_iret C rfl dX13_isCall_19)
  · refine rk_of (fun _ _ _ _ _ k => lv_iconst (v := 0) hx hb dX13_isCall_18 rfl k) ?_
    exact rk_top (rf_iret C rfl dX13_isCall_19)
theorem hd_X13_does : yX13_does.cls ≠ "java/lang/invoke/MethodHandle" ∧ yX13_does.cls ≠ "java/lang/invoke/VarHandle" ∧ (parseMethodDescriptor yX13_does.desc).map (fun d => d.parameters.length) = some 1 := by decide +kernel
noncomputable def fn_X13_does (K : zm_K) (a0 : zm_R) (a1 : zm_R) : zm_M Int32 :=
  zm_bnd (zm_getR a0 29 1) fun v1 =>
  zm_bnd (fn_deed K v1 a1) fun v5 =>
  zm_ret v5
theorem ct_X13_does {l : Launch} {Ω : zm_W} {K : zm_K} (H : zm_H Ω K) (a0 : zm_R) (a1 : zm_R) : zm_Ct l Ω yX13_does (ws_ yX13_does cX13_does 2 (Option.some Jvm.ClassFile.FieldType.int)) 21 506 [va_rf a0, va_rf a1] zm_tvI (fn_X13_does K a0 a1) := by
  refine zm_ct H.1 (by decide +kernel) (zl_le (zl_R (zl_R zl_nil)) (Nat.le_of_ble_eq_true rfl)) ?_
  intro p e R s m args below meth c n0 k0 C hX ls hl
  have hx := C.1
  have hb := C.2.1
  simp only [zg_R, zg_nil] at hl
  have hl : lv_has ls 2 [(0, va_rf a0), (1, va_rf a1)] := hl
  refine rk_rf ?_
  unfold fn_X13_does
  refine rk_of (fun _ _ _ _ _ k => lr_aload_n hx hb dX13_does_0 rfl (lv_at hl 0 rfl) k) ?_
  refine rk_get zm_rdR_eq C (hc_X13 H) (k := 1) (Nat.le_of_ble_eq_true rfl) in_X13 q2286 (fun _ h => h) dX13_does_1 (fun v1 => ?_)
  refine rk_of (fun _ _ _ _ _ k => lr_aload_n hx hb dX13_does_4 rfl (lv_at hl 1 rfl) k) ?_
  refine rk_callI hX (cl_deed (rest := []) H C q2364 (zn_wD H C q1335) (zn_wI H C (by decide) q1334 q1335) ⟨(Nat.le_of_ble_eq_true rfl), (Nat.le_of_ble_eq_true rfl)⟩ hl.1 rfl (zw_le zw_nil (Nat.le_of_ble_eq_true rfl)) dX13_does_5) (fun v5 => ?_)
  exact rk_top (rf_iret C rfl dX13_does_10)
theorem hd_X1_carriedOut : yX1_carriedOut.cls ≠ "java/lang/invoke/MethodHandle" ∧ yX1_carriedOut.cls ≠ "java/lang/invoke/VarHandle" ∧ (parseMethodDescriptor yX1_carriedOut.desc).map (fun d => d.parameters.length) = some 1 := by decide +kernel
noncomputable def fn_X1_carriedOut_18 (K : zm_K) (p2 : zm_R) (p4 : zm_R) : Nat → Int32 → zm_M (Unit)
  | 0, _ => zm_fl
  | n + 1, x3 =>
    zm_bnd (zm_bnd (zm_cls p4) fun ci => if ci = 26 then fn_X10_hasNext K p4 else if ci = 9 then fn_J22_hasNext K p4 else if ci = 11 then fn_J25_hasNext K p4 else zm_fl) fun v20 =>
    if v20 = 0 then
      zm_ret ()
    else
      zm_bnd (zm_bnd (zm_cls p4) fun ci => if ci = 26 then fn_X10_next K p4 else if ci = 9 then fn_J22_next K p4 else if ci = 11 then fn_J25_next K p4 else zm_fl) fun v30 =>
      zm_bnd (zm_chk [29] [] v30) fun _ =>
      zm_bnd (zm_bnd (zm_is v30 29) fun _ => fn_X13_isCall K v30 p2) fun v43 =>
      zm_bnd (fn_X1_meet K v43 10 x3) fun _ =>
      zm_cth (zm_bnd (zm_is v30 29) fun _ => fn_X13_does K v30 p2) (fun (E55 : String) (q55 : Nat) =>
          if E55 ∈ (["BoxSpans$Refusal"] : List String) then
            zm_bnd (zm_new 21 [.null, .null, .null, .null, .null, .int 0, .int 0, .int 0]) fun v64 =>
            zm_bnd (fn_X4_init K (some v64) 10 x3 (some q55)) fun _ =>
            zm_ath (some v64)
          else
            if E55 ∈ (["java/lang/IllegalArgumentException", "java/lang/IndexOutOfBoundsException", "java/util/NoSuchElementException", "java/lang/UnsupportedOperationException", "java/lang/ArrayIndexOutOfBoundsException", "java/lang/IllegalStateException", "java/lang/StringIndexOutOfBoundsException", "java/lang/ArithmeticException", "BoxSpans$TextError"] : List String) then
              zm_thr E55 q55
            else
              zm_fl
        ) fun v55 =>
      fn_X1_carriedOut_18 K p2 p4 n (x3 + 1)
noncomputable def fn_X1_carriedOut (K : zm_K) (a0 : zm_R) (a1 : zm_R) : zm_M zm_R :=
  zm_bnd (zm_getR a0 18 0) fun v1 =>
  zm_bnd (zm_bnd (zm_is v1 19) fun _ => fn_X2_copy K v1) fun v4 =>
  zm_bnd (zm_bnd (zm_cls a1) fun ci => if ci = 0 then fn_J2_iterator K a1 else if ci = 1 then fn_J3_iterator K a1 else zm_fl) fun v11 =>
  zm_bnd (α := Unit) (fn_X1_carriedOut_18 K v4 v11 zm_N 0) fun (_ : Unit) =>
  zm_ret v4
theorem rf_X1_carriedOut_18 (H : zm_H Ω K) (C : zm_C p l R s m args meth c Ω lw_all cX1_carriedOut yX1_carriedOut.cls yX1_carriedOut.name 7 22 527 (Option.some (Jvm.ClassFile.FieldType.object "BoxSpans$Theatre"))) (hT : zh_tb c = [(52, 59, 62, 1)]) (hN : s.methodNamed? yX1_carriedOut = some m) (p2 : zm_R) (p4 : zm_R) : ∀ (n : Nat) (x3 : Int32) (J : (Unit) → zm_M zm_R) (ls : Array Slot), lv_has ls 7 [(2, va_rf p2), (4, va_rf p4), (3, .int x3)] → (∀ (b : Unit) (ls : Array Slot), lv_has ls 7 [(2, va_rf p2)] → zm_RK p l e R s m args below meth c Ω n0 k0 (zm_QFs below args s Ω n0 k0 zm_tvR) (zm_ret b) J (F0 m 83 ls [])) → zm_RK p l e R s m args below meth c Ω n0 k0 (zm_QFs below args s Ω n0 k0 zm_tvR) (fn_X1_carriedOut_18 K p2 p4 n x3) J (F0 m 18 ls []) := by
  have hx := C.1
  have hb := C.2.1
  intro n
  induction n with
  | zero => intro x3 J ls hl hJ; exact rk_fl
  | succ n ih =>
    intro x3 J ls hl hJ
    unfold fn_X1_carriedOut_18
    refine rk_of (fun _ _ _ _ _ k => lr_aload hx hb dX1_carriedOut_18 (lv_at hl 1 rfl) k) ?_
    refine rk_callPI (rx_un C hT (by decide)) (cl_dsp (fun ci => cl_case (cl_F (n := 0) (rest := []) (av := []) C (hc_X10 H) (ct_X10_hasNext H p4) (lw_F q2355 q737 q739 q143 q741) (zh_Fw H C (by decide) q735 q734 q740 q738 q736) (by decide +kernel) ⟨(Nat.le_of_ble_eq_true rfl), (Nat.le_of_ble_eq_true rfl)⟩ rfl hl.1 rfl (zw_le zw_nil (Nat.le_of_ble_eq_true rfl)) dX1_carriedOut_20) (cl_case (cl_F (n := 0) (rest := []) (av := []) C (hc_J22 H) (ct_J22_hasNext H p4) (lw_F q2355 q758 q760 q129 q762) (zh_Fw H C (by decide) q735 q734 q761 q759 q757) (by decide +kernel) ⟨(Nat.le_of_ble_eq_true rfl), (Nat.le_of_ble_eq_true rfl)⟩ rfl hl.1 rfl (zw_le zw_nil (Nat.le_of_ble_eq_true rfl)) dX1_carriedOut_20) (cl_case (cl_F (n := 0) (rest := []) (av := []) C (hc_J25 H) (ct_J25_hasNext H p4) (lw_F q2355 q767 q769 q133 q771) (zh_Fw H C (by decide) q735 q734 q770 q768 q766) (by decide +kernel) ⟨(Nat.le_of_ble_eq_true rfl), (Nat.le_of_ble_eq_true rfl)⟩ rfl hl.1 rfl (zw_le zw_nil (Nat.le_of_ble_eq_true rfl)) dX1_carriedOut_20) (cl_fl))))) (fun v20 => ?_)
    refine rk_ite (fun _ _ _ _ _ k1 k2 => lv_if_eq (tgt := 83) hx hb dX1_carriedOut_25 (by decide) k1 k2) (fun c_25 => ?_) (fun c_25 => ?_)
    · exact hJ () ls (lv_sub hl [0] rfl)
    · refine rk_of (fun _ _ _ _ _ k => lr_aload hx hb dX1_carriedOut_28 (lv_at hl 1 rfl) k) ?_
      refine rk_callPR (rx_un C hT (by decide)) (cl_dsp (fun ci => cl_case (cl_F (n := 0) (rest := []) (av := []) C (hc_X10 H) (ct_X10_next H p4) (lw_F q2357 q776 q778 q143 q780) (zh_Fw H C (by decide) q775 q774 q779 q777 q736) (by decide +kernel) ⟨(Nat.le_of_ble_eq_true rfl), (Nat.le_of_ble_eq_true rfl)⟩ rfl hl.1 rfl (zw_le zw_nil (Nat.le_of_ble_eq_true rfl)) dX1_carriedOut_30) (cl_case (cl_F (n := 0) (rest := []) (av := []) C (hc_J22 H) (ct_J22_next H p4) (lw_F q2357 q966 q968 q129 q970) (zh_Fw H C (by decide) q775 q774 q969 q967 q757) (by decide +kernel) ⟨(Nat.le_of_ble_eq_true rfl), (Nat.le_of_ble_eq_true rfl)⟩ rfl hl.1 rfl (zw_le zw_nil (Nat.le_of_ble_eq_true rfl)) dX1_carriedOut_30) (cl_case (cl_F (n := 0) (rest := []) (av := []) C (hc_J25 H) (ct_J25_next H p4) (lw_F q2357 q981 q983 q133 q985) (zh_Fw H C (by decide) q775 q774 q984 q982 q766) (by decide +kernel) ⟨(Nat.le_of_ble_eq_true rfl), (Nat.le_of_ble_eq_true rfl)⟩ rfl hl.1 rfl (zw_le zw_nil (Nat.le_of_ble_eq_true rfl)) dX1_carriedOut_30) (cl_fl))))) (fun v30 => ?_)
      refine rk_chk C q2358 (zc_cons (zc_s (hc_X13 H)) zc_nil) zp_nil dX1_carriedOut_35 ?_
      refine rk_ofs (fun _ _ _ _ _ k => lr_astore hx hb dX1_carriedOut_38 hl (Nat.le_of_ble_eq_true rfl) [0, 1, 2] rfl ⟨trivial, ⟨(by first | exact va_rf_cat _ | rfl), ⟨trivial, trivial⟩⟩⟩ k) (fun ls hl => ?_)
      refine rk_of (fun _ _ _ _ _ k => lr_aload hx hb dX1_carriedOut_40 (lv_at hl 0 rfl) (lr_aload_n hx hb dX1_carriedOut_42 rfl (lv_at hl 1 rfl) k)) ?_
      refine rk_callPI (rx_un C hT (by decide)) (cl_V (rest := []) (av := [va_rf p2]) C (hc_X13 H) (ct_X13_isCall H v30 p2) (lw_V q2359 q2360 q2361 q147 q2362) ⟨rfl, hd_X13_isCall⟩ ⟨(Nat.le_of_ble_eq_true rfl), (Nat.le_of_ble_eq_true rfl)⟩ rfl hl.1 rfl (zw_le zw_nil (Nat.le_of_ble_eq_true rfl)) dX1_carriedOut_43) (fun v43 => ?_)
      refine rk_of (fun _ _ _ _ _ k => lv_bipush (v := 10) hx hb dX1_carriedOut_46 rfl (lv_iload_n hx hb dX1_carriedOut_48 rfl (lv_at hl 3 rfl) k)) ?_
      refine rk_callPV (rx_un C hT (by decide)) (cl_S (rest := []) C (ct_X1_meet H v43 10 x3) (lw_S q2365 q1150 q101 q1151) hd_X1_meet ⟨(Nat.le_of_ble_eq_true rfl), (Nat.le_of_ble_eq_true rfl)⟩ rfl hl.1 rfl (zw_le zw_nil (Nat.le_of_ble_eq_true rfl)) dX1_carriedOut_49) (fun _ => ?_)
      refine rk_of (fun _ _ _ _ _ k => lr_aload hx hb dX1_carriedOut_52 (lv_at hl 0 rfl) (lr_aload_n hx hb dX1_carriedOut_54 rfl (lv_at hl 1 rfl) k)) ?_
      refine rk_cthI (cl_V (rest := []) (av := [va_rf p2]) C (hc_X13 H) (ct_X13_does H v30 p2) (lw_V q2366 q2367 q2368 q147 q2369) ⟨rfl, hd_X13_does⟩ ⟨(Nat.le_of_ble_eq_true rfl), (Nat.le_of_ble_eq_true rfl)⟩ rfl hl.1 rfl (zw_le zw_nil (Nat.le_of_ble_eq_true rfl)) dX1_carriedOut_55) (fun E55 q55 => ?_) (fun v55 => ?_)
      · refine rx_ite (fun h55_0 => ?_) (fun h55_0 => ?_)
        · refine rx_cat (k := 0) C hT rfl zp_nil ⟨by decide, by decide⟩ (by decide) q1152 ((zp_cons (P := fun E => (Cond.castable E "BoxSpans$Refusal").before args s = true) (zn_wC H C q1154) zp_nil) E55 h55_0) ?_
          refine rk_ofs (fun _ _ _ _ _ k => lr_astore hx hb dX1_carriedOut_62 hl (Nat.le_of_ble_eq_true rfl) [3] rfl ⟨trivial, trivial⟩ k) (fun ls hl => ?_)
          refine rk_new C (hc_X4 H) in_X4 tyX4_ok q1152 q1153 q117 (fs := [.null, .null, .null, .null, .null, .int 0, .int 0, .int 0]) rfl (fun j hj => zdf_X4 j hj) dX1_carriedOut_64 (fun v64 => ?_)
          refine rk_of (fun _ _ _ _ _ k => lv_dup hx hb dX1_carriedOut_67 (va_rf_cat _) (lv_bipush (v := 10) hx hb dX1_carriedOut_68 rfl (lv_iload_n hx hb dX1_carriedOut_70 rfl (lv_at hl 1 rfl) (lr_aload hx hb dX1_carriedOut_71 (lv_at hl 0 rfl) k)))) ?_
          refine rk_callPV (rx_un C hT (by decide)) (cl_I (rest := [va_rf (some v64)]) C (ct_X4_init H (some v64) 10 x3 (some q55)) (lw_meth q1163) q117 q1161 q1162 rfl hd_X4_init ⟨(Nat.le_of_ble_eq_true rfl), (Nat.le_of_ble_eq_true rfl)⟩ rfl hl.1 rfl (zw_le (zw_R zw_nil) (Nat.le_of_ble_eq_true rfl)) dX1_carriedOut_73) (fun _ => ?_)
          exact rk_athP H C (rx_un C hT (by decide)) dX1_carriedOut_76
        · refine rx_ite (fun h55_x => ?_) (fun _ => rx_fl)
          exact rx_out C hT (zp_cons (Or.inr ⟨by decide, _, q1152, zh_ncs H C (L := ["java/lang/IllegalArgumentException", "java/lang/IndexOutOfBoundsException", "java/util/NoSuchElementException", "java/lang/UnsupportedOperationException", "java/lang/ArrayIndexOutOfBoundsException", "java/lang/IllegalStateException", "java/lang/StringIndexOutOfBoundsException", "java/lang/ArithmeticException", "BoxSpans$TextError"]) (by decide) h55_x⟩) zp_nil)
      refine rk_ofs (fun _ _ _ _ _ k => lv_pop hx hb dX1_carriedOut_58 rfl (lv_goto (tgt := 77) hx hb dX1_carriedOut_59 (by decide) (lr_iinc (v := x3 + 1) hx hb dX1_carriedOut_77 hl (k := 3) rfl rfl (Nat.le_of_ble_eq_true rfl) [1, 2] rfl ⟨(by first | exact va_rf_cat _ | rfl), ⟨trivial, trivial⟩⟩ k))) (fun ls hl => ?_)
      refine rk_of (fun _ _ _ _ _ k => lv_goto (tgt := 18) hx hb dX1_carriedOut_80 (by decide) k) ?_
      exact ih (x3 + 1) J ls (lv_sub hl [1, 2, 0] rfl) hJ
theorem ct_X1_carriedOut {l : Launch} {Ω : zm_W} {K : zm_K} (H : zm_H Ω K) (a0 : zm_R) (a1 : zm_R) : zm_Ct l Ω yX1_carriedOut (wsW_ yX1_carriedOut cX1_carriedOut 7 (Option.some (Jvm.ClassFile.FieldType.object "BoxSpans$Theatre")) [(52, 59, 62, 1)]) 22 527 [va_rf a0, va_rf a1] zm_tvR (fn_X1_carriedOut K a0 a1) := by
  refine zm_ctW H.1 (by decide +kernel) (zl_le (zl_R (zl_R zl_nil)) (Nat.le_of_ble_eq_true rfl)) ?_
  intro p e R s m args below meth c n0 k0 C hN hT ls hl
  have hx := C.1
  have hb := C.2.1
  simp only [zg_R, zg_nil] at hl
  have hl : lv_has ls 7 [(0, va_rf a0), (1, va_rf a1)] := hl
  refine rk_rf ?_
  unfold fn_X1_carriedOut
  refine rk_of (fun _ _ _ _ _ k => lr_aload_n hx hb dX1_carriedOut_0 rfl (lv_at hl 0 rfl) k) ?_
  refine rk_get zm_rdR_eq C (hc_X1 H) (k := 0) (Nat.le_of_ble_eq_true rfl) in_X1 q271 (fun _ h => h) dX1_carriedOut_1 (fun v1 => ?_)
  refine rk_callPR (rx_un C hT (by decide)) (cl_V (rest := []) (av := []) C (hc_X2 H) (ct_X2_copy H v1) (lw_V q1266 q1267 q1268 q102 q1269) ⟨rfl, hd_X2_copy⟩ ⟨(Nat.le_of_ble_eq_true rfl), (Nat.le_of_ble_eq_true rfl)⟩ rfl hl.1 rfl (zw_le zw_nil (Nat.le_of_ble_eq_true rfl)) dX1_carriedOut_4) (fun v4 => ?_)
  refine rk_ofs (fun _ _ _ _ _ k => lr_astore_n hx hb dX1_carriedOut_7 rfl hl (Nat.le_of_ble_eq_true rfl) [1] rfl ⟨(by first | exact va_rf_cat _ | rfl), trivial⟩ k) (fun ls hl => ?_)
  refine rk_ofs (fun _ _ _ _ _ k => lv_iconst (v := 0) hx hb dX1_carriedOut_8 rfl (lr_istore_n hx hb dX1_carriedOut_9 rfl hl (Nat.le_of_ble_eq_true rfl) [0, 1] rfl ⟨(by first | exact va_rf_cat _ | rfl), ⟨trivial, trivial⟩⟩ k)) (fun ls hl => ?_)
  refine rk_of (fun _ _ _ _ _ k => lr_aload_n hx hb dX1_carriedOut_10 rfl (lv_at hl 2 rfl) k) ?_
  refine rk_callPR (rx_un C hT (by decide)) (cl_dsp (fun ci => cl_case (cl_F (n := 0) (rest := []) (av := []) C (hc_J2 H) (ct_J2_iterator H a1) (lw_F q2353 q310 q312 q105 q314) (zh_Fw H C (by decide) q308 q307 q313 q311 q309) (by decide +kernel) ⟨(Nat.le_of_ble_eq_true rfl), (Nat.le_of_ble_eq_true rfl)⟩ rfl hl.1 rfl (zw_le zw_nil (Nat.le_of_ble_eq_true rfl)) dX1_carriedOut_11) (cl_case (cl_F (n := 0) (rest := []) (av := []) C (hc_J4 H) (ct_J3_iterator H a1) (lw_F q2353 q337 q339 q106 q341) (zh_Fw H C (by decide) q308 q307 q340 q338 q336) (by decide +kernel) ⟨(Nat.le_of_ble_eq_true rfl), (Nat.le_of_ble_eq_true rfl)⟩ rfl hl.1 rfl (zw_le zw_nil (Nat.le_of_ble_eq_true rfl)) dX1_carriedOut_11) (cl_fl)))) (fun v11 => ?_)
  refine rk_ofs (fun _ _ _ _ _ k => lr_astore hx hb dX1_carriedOut_16 hl (Nat.le_of_ble_eq_true rfl) [0, 1] rfl ⟨rfl, ⟨trivial, trivial⟩⟩ k) (fun ls hl => ?_)
  refine rk_join (β := Unit) (fun (b83 : Unit) ls => lv_has ls 7 [(2, va_rf v4)]) (fun (b83 : Unit) ls => F0 m 83 ls []) (fun b83 ls hl => ?_) (fun hJ83 => ?_)
  · refine rk_of (fun _ _ _ _ _ k => lr_aload_n hx hb dX1_carriedOut_83 rfl (lv_at hl 0 rfl) k) ?_
    exact rk_top (rf_aret C (Or.inl ⟨_, rfl⟩) dX1_carriedOut_84)
  · exact rf_X1_carriedOut_18 H C hT hN v4 v11 zm_N 0 _ ls (lv_sub hl [2, 0, 1] rfl) hJ83
theorem hd_J31_init : yJ31_init.cls ≠ "java/lang/invoke/MethodHandle" ∧ yJ31_init.cls ≠ "java/lang/invoke/VarHandle" ∧ (parseMethodDescriptor yJ31_init.desc).map (fun d => d.parameters.length) = some 1 := by decide +kernel
noncomputable def fn_J31_init (K : zm_K) (a0 : zm_R) (a1 : Int32) : zm_M Unit :=
  zm_bnd (zm_new 2 [.null, .int 0, .int 0, .int 0]) fun v1 =>
  zm_bnd (fn_J6_init K (some v1)) fun _ =>
  zm_bnd (zm_bnd (zm_is (some v1) 2) fun _ => fn_J6_append K (some v1) (K.2 27)) fun v10 =>
  zm_bnd (zm_bnd (zm_is v10 2) fun _ => fn_J6_append_2 K v10 a1) fun v14 =>
  zm_bnd (zm_bnd (zm_is v14 2) fun _ => fn_J6_toString K v14) fun v17 =>
  zm_bnd (zm_bnd (zm_nn a0) fun _ => fn_J19_init K a0 v17) fun _ =>
  zm_ret ()
theorem ct_J31_init {l : Launch} {Ω : zm_W} {K : zm_K} (H : zm_H Ω K) (a0 : zm_R) (a1 : Int32) : zm_Ct l Ω yJ31_init (ws_ yJ31_init cJ31_init 2 (Option.none : Option Jvm.ClassFile.FieldType)) 11 287 [va_rf a0, .int a1] zm_tvV (fn_J31_init K a0 a1) := by
  refine zm_ct H.1 (by decide +kernel) (zl_le (zl_R (zl_I zl_nil)) (Nat.le_of_ble_eq_true rfl)) ?_
  intro p e R s m args below meth c n0 k0 C hX ls hl
  have hx := C.1
  have hb := C.2.1
  simp only [zg_I, zg_R, zg_nil] at hl
  have hl : lv_has ls 2 [(0, va_rf a0), (1, .int a1)] := hl
  refine rk_rf ?_
  unfold fn_J31_init
  refine rk_of (fun _ _ _ _ _ k => lr_aload_n hx hb dJ31_init_0 rfl (lv_at hl 0 rfl) k) ?_
  refine rk_new C (hc_J6 H) in_J6 tyJ6_ok q2382 q238 q109 (fs := [.null, .int 0, .int 0, .int 0]) rfl (fun j hj => zdf_J6 j hj) dJ31_init_1 (fun v1 => ?_)
  refine rk_of (fun _ _ _ _ _ k => lv_dup hx hb dJ31_init_4 (va_rf_cat _) k) ?_
  refine rk_callV hX (cl_I (rest := [va_rf (some v1), va_rf a0]) C (ct_J6_init H (some v1)) (lw_meth q241) q109 q2383 q240 rfl hd_J6_init ⟨(Nat.le_of_ble_eq_true rfl), (Nat.le_of_ble_eq_true rfl)⟩ rfl hl.1 rfl (zw_le (zw_R (zw_R zw_nil)) (Nat.le_of_ble_eq_true rfl)) dJ31_init_5) (fun _ => ?_)
  refine rk_of (fun _ _ _ _ _ k => zs_ldc C (zh_s27 H) dJ31_init_8 k) ?_
  refine rk_callR hX (cl_V (rest := [va_rf a0]) (av := [va_rf (K.2 27)]) C (hc_J6 H) (ct_J6_append H (some v1) (K.2 27)) (lw_V q2385 q414 q415 q109 q416) ⟨rfl, hd_J6_append⟩ ⟨(Nat.le_of_ble_eq_true rfl), (Nat.le_of_ble_eq_true rfl)⟩ rfl hl.1 rfl (zw_le (zw_R zw_nil) (Nat.le_of_ble_eq_true rfl)) dJ31_init_10) (fun v10 => ?_)
  refine rk_of (fun _ _ _ _ _ k => lv_iload_n hx hb dJ31_init_13 rfl (lv_at hl 1 rfl) k) ?_
  refine rk_callR hX (cl_V (rest := [va_rf a0]) (av := [.int a1]) C (hc_J6 H) (ct_J6_append_2 H v10 a1) (lw_V q2386 q534 q535 q109 q536) ⟨rfl, hd_J6_append_2⟩ ⟨(Nat.le_of_ble_eq_true rfl), (Nat.le_of_ble_eq_true rfl)⟩ rfl hl.1 rfl (zw_le (zw_R zw_nil) (Nat.le_of_ble_eq_true rfl)) dJ31_init_14) (fun v14 => ?_)
  refine rk_callR hX (cl_V (rest := [va_rf a0]) (av := []) C (hc_J6 H) (ct_J6_toString H v14) (lw_V q2387 q560 q561 q109 q562) ⟨rfl, hd_J6_toString⟩ ⟨(Nat.le_of_ble_eq_true rfl), (Nat.le_of_ble_eq_true rfl)⟩ rfl hl.1 rfl (zw_le (zw_R zw_nil) (Nat.le_of_ble_eq_true rfl)) dJ31_init_17) (fun v17 => ?_)
  refine rk_callV hX (cl_Ir (rest := []) C (ct_J19_init H a0 v17) (lw_meth q663) q126 q2388 q662 rfl hd_J19_init ⟨(Nat.le_of_ble_eq_true rfl), (Nat.le_of_ble_eq_true rfl)⟩ rfl hl.1 rfl (zw_le zw_nil (Nat.le_of_ble_eq_true rfl)) dJ31_init_20) (fun _ => ?_)
  exact rk_top (rf_vret C dJ31_init_23)
theorem hd_J5_setLength : yJ5_setLength.cls ≠ "java/lang/invoke/MethodHandle" ∧ yJ5_setLength.cls ≠ "java/lang/invoke/VarHandle" ∧ (parseMethodDescriptor yJ5_setLength.desc).map (fun d => d.parameters.length) = some 1 := by decide +kernel
noncomputable def fn_J5_setLength (K : zm_K) (a0 : zm_R) (a1 : Int32) : zm_M Unit :=
  if 0 ≤ a1 then
    zm_bnd (zm_bnd (zm_is a0 2) fun _ => fn_J5_ensureCapacityInternal K a0 a1) fun _ =>
    zm_bnd (zm_getI a0 2 3) fun v19 =>
    if a1 ≤ v19 then
      zm_bnd (zm_getI a0 2 3) fun v64 =>
      zm_bnd (α := Unit) (
          if v64 ≤ a1 then
            zm_ret ()
          else
            zm_bnd (zm_putF K a0 2 2 (.int 1)) fun _ =>
            zm_ret ()
        ) fun (_ : Unit) =>
      zm_bnd (zm_putF K a0 2 3 (.int a1)) fun _ =>
      zm_ret ()
    else
      zm_bnd (zm_bnd (zm_is a0 2) fun _ => fn_J5_isLatin1 K a0) fun v27 =>
      if v27 = 0 then
        zm_bnd (zm_getR a0 2 0) fun v49 =>
        zm_bnd (zm_getI a0 2 3) fun v53 =>
        zm_fl
      else
        zm_bnd (zm_getR a0 2 0) fun v34 =>
        zm_bnd (zm_getI a0 2 3) fun v38 =>
        zm_fl
  else
    zm_bnd (zm_new 16 [.null, .null, .null, .null, .int 0, .null]) fun v4 =>
    zm_bnd (fn_J31_init K (some v4) a1) fun _ =>
    zm_ath (some v4)
theorem ct_J5_setLength {l : Launch} {Ω : zm_W} {K : zm_K} (H : zm_H Ω K) (a0 : zm_R) (a1 : Int32) : zm_Ct l Ω yJ5_setLength (ws_ yJ5_setLength cJ5_setLength 2 (Option.none : Option Jvm.ClassFile.FieldType)) 12 308 [va_rf a0, .int a1] zm_tvV (fn_J5_setLength K a0 a1) := by
  refine zm_ct H.1 (by decide +kernel) (zl_le (zl_R (zl_I zl_nil)) (Nat.le_of_ble_eq_true rfl)) ?_
  intro p e R s m args below meth c n0 k0 C hX ls hl
  have hx := C.1
  have hb := C.2.1
  simp only [zg_I, zg_R, zg_nil] at hl
  have hl : lv_has ls 2 [(0, va_rf a0), (1, .int a1)] := hl
  refine rk_rf ?_
  unfold fn_J5_setLength
  refine rk_ite (fun _ _ _ _ _ k1 k2 => lv_iload_n hx hb dJ5_setLength_0 rfl (lv_at hl 1 rfl) (lv_if_ge (tgt := 13) hx hb dJ5_setLength_1 (by decide) k1 k2)) (fun c_1 => ?_) (fun c_1 => ?_)
  · refine rk_of (fun _ _ _ _ _ k => lr_aload_n hx hb dJ5_setLength_13 rfl (lv_at hl 0 rfl) (lv_iload_n hx hb dJ5_setLength_14 rfl (lv_at hl 1 rfl) k)) ?_
    refine rk_callV hX (cl_U (n := 1) (rest := []) (av := [.int a1]) C (hc_J6 H) (ct_J5_ensureCapacityInternal H a0 a1) (lw_meth q427) q108 q424 (C.2.2.2.1 _ q3071) (va_Decl.of (C.2.2.2.1 _ q426) (C.2.2.2.1 _ q427)) (zh_up C rfl (zk_selP (by decide +kernel) (zh_w0 H (List.mem_filter.mp q238).1) (zh_w0 H q425) (zh_w0 H (List.mem_filter.mp q426).1) (zh_w0 H (List.mem_filter.mp q462).1) rfl)) q426 (by decide +kernel) ⟨(Nat.le_of_ble_eq_true rfl), (Nat.le_of_ble_eq_true rfl)⟩ rfl hl.1 rfl (zw_le zw_nil (Nat.le_of_ble_eq_true rfl)) dJ5_setLength_15) (fun _ => ?_)
    refine rk_of (fun _ _ _ _ _ k => lr_aload_n hx hb dJ5_setLength_18 rfl (lv_at hl 0 rfl) k) ?_
    refine rk_get zm_rdI_eq C (hc_J6 H) (k := 3) (Nat.le_of_ble_eq_true rfl) in_J6 q259 (fun _ h => h) dJ5_setLength_19 (fun v19 => ?_)
    refine rk_ite (fun _ _ _ _ _ k1 k2 => lv_iload_n hx hb dJ5_setLength_22 rfl (lv_at hl 1 rfl) (lv_icmp_ge (tgt := 63) hx hb dJ5_setLength_23 (by decide) k1 k2)) (fun c_23 => ?_) (fun c_23 => ?_)
    · refine rk_of (fun _ _ _ _ _ k => lr_aload_n hx hb dJ5_setLength_63 rfl (lv_at hl 0 rfl) k) ?_
      refine rk_get zm_rdI_eq C (hc_J6 H) (k := 3) (Nat.le_of_ble_eq_true rfl) in_J6 q259 (fun _ h => h) dJ5_setLength_64 (fun v64 => ?_)
      refine rk_of (fun _ _ _ _ _ k => lv_iload_n hx hb dJ5_setLength_67 rfl (lv_at hl 1 rfl) k) ?_
      refine rk_join (β := Unit) (fun (b76 : Unit) ls => lv_has ls 2 [(0, va_rf a0), (1, .int a1)]) (fun (b76 : Unit) ls => F0 m 76 ls []) (fun b76 ls hl => ?_) (fun hJ76 => ?_)
      · refine rk_of (fun _ _ _ _ _ k => lr_aload_n hx hb dJ5_setLength_76 rfl (lv_at hl 0 rfl) (lv_iload_n hx hb dJ5_setLength_77 rfl (lv_at hl 1 rfl) k)) ?_
        refine rk_put C H.2.2.1 (hc_J6 H) (k := 3) (Nat.le_of_ble_eq_true rfl) in_J6 (ty0 := tyJ6) tyJ6_ok nmJ6 q259 (fun _ h => h) (Or.inl rfl) rfl rfl dJ5_setLength_78 ?_
        exact rk_top (rf_vret C dJ5_setLength_81)
      · refine rk_ite (fun _ _ _ _ _ k1 k2 => lv_icmp_le (tgt := 76) hx hb dJ5_setLength_68 (by decide) k1 k2) (fun c_68 => ?_) (fun c_68 => ?_)
        · exact hJ76 () ls (lv_sub hl [0, 1] rfl)
        · refine rk_of (fun _ _ _ _ _ k => lr_aload_n hx hb dJ5_setLength_71 rfl (lv_at hl 0 rfl) (lv_iconst (v := 1) hx hb dJ5_setLength_72 rfl k)) ?_
          refine rk_put C H.2.2.1 (hc_J6 H) (k := 2) (Nat.le_of_ble_eq_true rfl) in_J6 (ty0 := tyJ6) tyJ6_ok nmJ6 q257 (fun _ h => h) (Or.inl rfl) rfl rfl dJ5_setLength_73 ?_
          exact hJ76 () ls (lv_sub hl [0, 1] rfl)
    · refine rk_of (fun _ _ _ _ _ k => lr_aload_n hx hb dJ5_setLength_26 rfl (lv_at hl 0 rfl) k) ?_
      refine rk_callI hX (cl_U (n := 0) (rest := []) (av := []) C (hc_J6 H) (ct_J5_isLatin1 H a0) (lw_meth q463) q108 q459 (C.2.2.2.1 _ q461) (va_Decl.of (C.2.2.2.1 _ q460) (C.2.2.2.1 _ q463)) (C.2.2.2.1 _ q462) q460 (by decide +kernel) ⟨(Nat.le_of_ble_eq_true rfl), (Nat.le_of_ble_eq_true rfl)⟩ rfl hl.1 rfl (zw_le zw_nil (Nat.le_of_ble_eq_true rfl)) dJ5_setLength_27) (fun v27 => ?_)
      refine rk_ite (fun _ _ _ _ _ k1 k2 => lv_if_eq (tgt := 48) hx hb dJ5_setLength_30 (by decide) k1 k2) (fun c_30 => ?_) (fun c_30 => ?_)
      · refine rk_of (fun _ _ _ _ _ k => lr_aload_n hx hb dJ5_setLength_48 rfl (lv_at hl 0 rfl) k) ?_
        refine rk_get zm_rdR_eq C (hc_J6 H) (k := 0) (Nat.le_of_ble_eq_true rfl) in_J6 q255 (fun _ h => h) dJ5_setLength_49 (fun v49 => ?_)
        refine rk_of (fun _ _ _ _ _ k => lr_aload_n hx hb dJ5_setLength_52 rfl (lv_at hl 0 rfl) k) ?_
        refine rk_get zm_rdI_eq C (hc_J6 H) (k := 3) (Nat.le_of_ble_eq_true rfl) in_J6 q259 (fun _ h => h) dJ5_setLength_53 (fun v53 => ?_)
        refine rk_of (fun _ _ _ _ _ k => lv_iload_n hx hb dJ5_setLength_56 rfl (lv_at hl 1 rfl) k) ?_
        exact rk_fl
      · refine rk_of (fun _ _ _ _ _ k => lr_aload_n hx hb dJ5_setLength_33 rfl (lv_at hl 0 rfl) k) ?_
        refine rk_get zm_rdR_eq C (hc_J6 H) (k := 0) (Nat.le_of_ble_eq_true rfl) in_J6 q255 (fun _ h => h) dJ5_setLength_34 (fun v34 => ?_)
        refine rk_of (fun _ _ _ _ _ k => lr_aload_n hx hb dJ5_setLength_37 rfl (lv_at hl 0 rfl) k) ?_
        refine rk_get zm_rdI_eq C (hc_J6 H) (k := 3) (Nat.le_of_ble_eq_true rfl) in_J6 q259 (fun _ h => h) dJ5_setLength_38 (fun v38 => ?_)
        refine rk_of (fun _ _ _ _ _ k => lv_iload_n hx hb dJ5_setLength_41 rfl (lv_at hl 1 rfl) k) ?_
        exact rk_fl
  · refine rk_new C (hc_J31 H) in_J31 tyJ31_ok q2377 q2378 q148 (fs := [.null, .null, .null, .null, .int 0, .null]) rfl (fun j hj => zdf_J31 j hj) dJ5_setLength_4 (fun v4 => ?_)
    refine rk_of (fun _ _ _ _ _ k => lv_dup hx hb dJ5_setLength_7 (va_rf_cat _) (lv_iload_n hx hb dJ5_setLength_8 rfl (lv_at hl 1 rfl) k)) ?_
    refine rk_callV hX (cl_I (rest := [va_rf (some v4)]) C (ct_J31_init H (some v4) a1) (lw_meth q2381) q148 q2379 q2380 rfl hd_J31_init ⟨(Nat.le_of_ble_eq_true rfl), (Nat.le_of_ble_eq_true rfl)⟩ rfl hl.1 rfl (zw_le (zw_R zw_nil) (Nat.le_of_ble_eq_true rfl)) dJ5_setLength_9) (fun _ => ?_)
    exact rk_ath H C hX dJ5_setLength_12
theorem hd_J6_setLength : yJ6_setLength.cls ≠ "java/lang/invoke/MethodHandle" ∧ yJ6_setLength.cls ≠ "java/lang/invoke/VarHandle" ∧ (parseMethodDescriptor yJ6_setLength.desc).map (fun d => d.parameters.length) = some 1 := by decide +kernel
noncomputable def fn_J6_setLength (K : zm_K) (a0 : zm_R) (a1 : Int32) : zm_M Unit :=
  zm_bnd (zm_bnd (zm_is a0 2) fun _ => fn_J5_setLength K a0 a1) fun _ =>
  zm_ret ()
theorem ct_J6_setLength {l : Launch} {Ω : zm_W} {K : zm_K} (H : zm_H Ω K) (a0 : zm_R) (a1 : Int32) : zm_Ct l Ω yJ6_setLength (ws_ yJ6_setLength cJ6_setLength 2 (Option.none : Option Jvm.ClassFile.FieldType)) 13 329 [va_rf a0, .int a1] zm_tvV (fn_J6_setLength K a0 a1) := by
  refine zm_ct H.1 (by decide +kernel) (zl_le (zl_R (zl_I zl_nil)) (Nat.le_of_ble_eq_true rfl)) ?_
  intro p e R s m args below meth c n0 k0 C hX ls hl
  have hx := C.1
  have hb := C.2.1
  simp only [zg_I, zg_R, zg_nil] at hl
  have hl : lv_has ls 2 [(0, va_rf a0), (1, .int a1)] := hl
  refine rk_rf ?_
  unfold fn_J6_setLength
  refine rk_of (fun _ _ _ _ _ k => lr_aload_n hx hb dJ6_setLength_0 rfl (lv_at hl 0 rfl) (lv_iload_n hx hb dJ6_setLength_1 rfl (lv_at hl 1 rfl) k)) ?_
  refine rk_callV hX (cl_SU (n := 1) (rest := []) (av := [.int a1]) C (hc_J6 H) (ct_J5_setLength H a0 a1) (lw_SU q2374 q3090 q268 q2375 q108 q2376) (by decide +kernel) ⟨(Nat.le_of_ble_eq_true rfl), (Nat.le_of_ble_eq_true rfl)⟩ rfl hl.1 rfl (zw_le zw_nil (Nat.le_of_ble_eq_true rfl)) dJ6_setLength_2) (fun _ => ?_)
  exact rk_top (rf_vret C dJ6_setLength_5)
theorem hd_X12_position : yX12_position.cls ≠ "java/lang/invoke/MethodHandle" ∧ yX12_position.cls ≠ "java/lang/invoke/VarHandle" ∧ (parseMethodDescriptor yX12_position.desc).map (fun d => d.parameters.length) = some 0 := by decide +kernel
noncomputable def fn_X12_position (K : zm_K) (a0 : zm_R) : zm_M Int32 :=
  zm_bnd (zm_getI a0 28 6) fun v1 =>
  zm_ret v1
theorem ct_X12_position {l : Launch} {Ω : zm_W} {K : zm_K} (H : zm_H Ω K) (a0 : zm_R) : zm_Ct l Ω yX12_position (ws_ yX12_position cX12_position 1 (Option.some Jvm.ClassFile.FieldType.int)) 1 64 [va_rf a0] zm_tvI (fn_X12_position K a0) := by
  refine zm_ct H.1 (by decide +kernel) (zl_le (zl_R zl_nil) (Nat.le_of_ble_eq_true rfl)) ?_
  intro p e R s m args below meth c n0 k0 C hX ls hl
  have hx := C.1
  have hb := C.2.1
  simp only [zg_R, zg_nil] at hl
  have hl : lv_has ls 1 [(0, va_rf a0)] := hl
  refine rk_rf ?_
  unfold fn_X12_position
  refine rk_of (fun _ _ _ _ _ k => lr_aload_n hx hb dX12_position_0 rfl (lv_at hl 0 rfl) k) ?_
  refine rk_get zm_rdI_eq C (hc_X12 H) (k := 6) (Nat.le_of_ble_eq_true rfl) in_X12 q2157 (fun _ h => h) dX12_position_1 (fun v1 => ?_)
  exact rk_top (rf_iret C rfl dX12_position_4)
theorem hd_X1_read : yX1_read.cls ≠ "java/lang/invoke/MethodHandle" ∧ yX1_read.cls ≠ "java/lang/invoke/VarHandle" ∧ (parseMethodDescriptor yX1_read.desc).map (fun d => d.parameters.length) = some 0 := by decide +kernel
noncomputable def fn_X1_read (K : zm_K) (a0 : zm_R) : zm_M Int32 :=
  zm_bnd (zm_new 27 [.null, .int 0]) fun v0 =>
  zm_bnd (zm_getR a0 18 3) fun v5 =>
  zm_cth (fn_X11_init K (some v0) v5) (fun (E8 : String) (q8 : Nat) =>
      if E8 ∈ (["BoxSpans$TextError"] : List String) then
        zm_cth (zm_bnd (zm_is (some q8) 28) fun _ => fn_X12_position K (some q8)) (fun (E44 : String) (q44 : Nat) =>
            if E44 ∈ (["java/lang/IllegalArgumentException", "java/lang/IndexOutOfBoundsException", "java/util/NoSuchElementException", "java/lang/UnsupportedOperationException", "java/lang/ArrayIndexOutOfBoundsException", "java/lang/IllegalStateException", "java/lang/StringIndexOutOfBoundsException", "java/lang/ArithmeticException", "BoxSpans$Refusal", "BoxSpans$TextError"] : List String) then
              zm_bnd (zm_getR a0 18 3) fun v74 =>
              zm_bnd (zm_bnd (zm_is v74 2) fun _ => fn_J6_setLength K v74 0) fun _ =>
              zm_ath (some q44)
            else
              zm_fl
          ) fun v44 =>
        zm_bnd (zm_putF K a0 18 4 (.int v44)) fun _ =>
        zm_bnd (zm_new 5 [.null, .null, .null, .null, .null, .int 0]) fun v50 =>
        zm_cth (fn_J12_init_2 K (some v50)) (fun (E54 : String) (q54 : Nat) =>
            if E54 ∈ (["java/lang/IllegalArgumentException", "java/lang/IndexOutOfBoundsException", "java/util/NoSuchElementException", "java/lang/UnsupportedOperationException", "java/lang/ArrayIndexOutOfBoundsException", "java/lang/IllegalStateException", "java/lang/StringIndexOutOfBoundsException", "java/lang/ArithmeticException", "BoxSpans$Refusal", "BoxSpans$TextError"] : List String) then
              zm_bnd (zm_getR a0 18 3) fun v74 =>
              zm_bnd (zm_bnd (zm_is v74 2) fun _ => fn_J6_setLength K v74 0) fun _ =>
              zm_ath (some q54)
            else
              zm_fl
          ) fun _ =>
        zm_cth (zm_ath (some v50) : zm_M Unit) (fun (E57 : String) (q57 : Nat) =>
            if E57 ∈ (["java/lang/IllegalArgumentException", "java/lang/IndexOutOfBoundsException", "java/util/NoSuchElementException", "java/lang/UnsupportedOperationException", "java/lang/ArrayIndexOutOfBoundsException", "java/lang/IllegalStateException", "java/lang/StringIndexOutOfBoundsException", "java/lang/ArithmeticException", "BoxSpans$Refusal", "BoxSpans$TextError"] : List String) then
              zm_bnd (zm_getR a0 18 3) fun v74 =>
              zm_bnd (zm_bnd (zm_is v74 2) fun _ => fn_J6_setLength K v74 0) fun _ =>
              zm_ath (some q57)
            else
              zm_fl
          ) fun _ => zm_fl
      else
        if E8 ∈ (["BoxSpans$Refusal"] : List String) then
          zm_bnd (zm_putF K a0 18 5 (va_rf (some q8))) fun _ =>
          zm_bnd (zm_new 13 [.null, .null, .null, .null, .null, .int 0]) fun v64 =>
          zm_cth (fn_J28_init K (some v64)) (fun (E68 : String) (q68 : Nat) =>
              if E68 ∈ (["java/lang/IllegalArgumentException", "java/lang/IndexOutOfBoundsException", "java/util/NoSuchElementException", "java/lang/UnsupportedOperationException", "java/lang/ArrayIndexOutOfBoundsException", "java/lang/IllegalStateException", "java/lang/StringIndexOutOfBoundsException", "java/lang/ArithmeticException", "BoxSpans$Refusal", "BoxSpans$TextError"] : List String) then
                zm_bnd (zm_getR a0 18 3) fun v74 =>
                zm_bnd (zm_bnd (zm_is v74 2) fun _ => fn_J6_setLength K v74 0) fun _ =>
                zm_ath (some q68)
              else
                zm_fl
            ) fun _ =>
          zm_cth (zm_ath (some v64) : zm_M Unit) (fun (E71 : String) (q71 : Nat) =>
              if E71 ∈ (["java/lang/IllegalArgumentException", "java/lang/IndexOutOfBoundsException", "java/util/NoSuchElementException", "java/lang/UnsupportedOperationException", "java/lang/ArrayIndexOutOfBoundsException", "java/lang/IllegalStateException", "java/lang/StringIndexOutOfBoundsException", "java/lang/ArithmeticException", "BoxSpans$Refusal", "BoxSpans$TextError"] : List String) then
                zm_bnd (zm_getR a0 18 3) fun v74 =>
                zm_bnd (zm_bnd (zm_is v74 2) fun _ => fn_J6_setLength K v74 0) fun _ =>
                zm_ath (some q71)
              else
                zm_fl
            ) fun _ => zm_fl
        else
          if E8 ∈ (["java/lang/IllegalArgumentException", "java/lang/IndexOutOfBoundsException", "java/util/NoSuchElementException", "java/lang/UnsupportedOperationException", "java/lang/ArrayIndexOutOfBoundsException", "java/lang/IllegalStateException", "java/lang/StringIndexOutOfBoundsException", "java/lang/ArithmeticException"] : List String) then
            zm_bnd (zm_getR a0 18 3) fun v74 =>
            zm_bnd (zm_bnd (zm_is v74 2) fun _ => fn_J6_setLength K v74 0) fun _ =>
            zm_ath (some q8)
          else
            zm_fl
    ) fun _ =>
  zm_cth (zm_bnd (zm_is (some v0) 27) fun _ => fn_X11_commands K (some v0)) (fun (E11 : String) (q11 : Nat) =>
      if E11 ∈ (["BoxSpans$TextError"] : List String) then
        zm_cth (zm_bnd (zm_is (some q11) 28) fun _ => fn_X12_position K (some q11)) (fun (E44 : String) (q44 : Nat) =>
            if E44 ∈ (["java/lang/IllegalArgumentException", "java/lang/IndexOutOfBoundsException", "java/util/NoSuchElementException", "java/lang/UnsupportedOperationException", "java/lang/ArrayIndexOutOfBoundsException", "java/lang/IllegalStateException", "java/lang/StringIndexOutOfBoundsException", "java/lang/ArithmeticException", "BoxSpans$Refusal", "BoxSpans$TextError"] : List String) then
              zm_bnd (zm_getR a0 18 3) fun v74 =>
              zm_bnd (zm_bnd (zm_is v74 2) fun _ => fn_J6_setLength K v74 0) fun _ =>
              zm_ath (some q44)
            else
              zm_fl
          ) fun v44 =>
        zm_bnd (zm_putF K a0 18 4 (.int v44)) fun _ =>
        zm_bnd (zm_new 5 [.null, .null, .null, .null, .null, .int 0]) fun v50 =>
        zm_cth (fn_J12_init_2 K (some v50)) (fun (E54 : String) (q54 : Nat) =>
            if E54 ∈ (["java/lang/IllegalArgumentException", "java/lang/IndexOutOfBoundsException", "java/util/NoSuchElementException", "java/lang/UnsupportedOperationException", "java/lang/ArrayIndexOutOfBoundsException", "java/lang/IllegalStateException", "java/lang/StringIndexOutOfBoundsException", "java/lang/ArithmeticException", "BoxSpans$Refusal", "BoxSpans$TextError"] : List String) then
              zm_bnd (zm_getR a0 18 3) fun v74 =>
              zm_bnd (zm_bnd (zm_is v74 2) fun _ => fn_J6_setLength K v74 0) fun _ =>
              zm_ath (some q54)
            else
              zm_fl
          ) fun _ =>
        zm_cth (zm_ath (some v50) : zm_M Unit) (fun (E57 : String) (q57 : Nat) =>
            if E57 ∈ (["java/lang/IllegalArgumentException", "java/lang/IndexOutOfBoundsException", "java/util/NoSuchElementException", "java/lang/UnsupportedOperationException", "java/lang/ArrayIndexOutOfBoundsException", "java/lang/IllegalStateException", "java/lang/StringIndexOutOfBoundsException", "java/lang/ArithmeticException", "BoxSpans$Refusal", "BoxSpans$TextError"] : List String) then
              zm_bnd (zm_getR a0 18 3) fun v74 =>
              zm_bnd (zm_bnd (zm_is v74 2) fun _ => fn_J6_setLength K v74 0) fun _ =>
              zm_ath (some q57)
            else
              zm_fl
          ) fun _ => zm_fl
      else
        if E11 ∈ (["BoxSpans$Refusal"] : List String) then
          zm_bnd (zm_putF K a0 18 5 (va_rf (some q11))) fun _ =>
          zm_bnd (zm_new 13 [.null, .null, .null, .null, .null, .int 0]) fun v64 =>
          zm_cth (fn_J28_init K (some v64)) (fun (E68 : String) (q68 : Nat) =>
              if E68 ∈ (["java/lang/IllegalArgumentException", "java/lang/IndexOutOfBoundsException", "java/util/NoSuchElementException", "java/lang/UnsupportedOperationException", "java/lang/ArrayIndexOutOfBoundsException", "java/lang/IllegalStateException", "java/lang/StringIndexOutOfBoundsException", "java/lang/ArithmeticException", "BoxSpans$Refusal", "BoxSpans$TextError"] : List String) then
                zm_bnd (zm_getR a0 18 3) fun v74 =>
                zm_bnd (zm_bnd (zm_is v74 2) fun _ => fn_J6_setLength K v74 0) fun _ =>
                zm_ath (some q68)
              else
                zm_fl
            ) fun _ =>
          zm_cth (zm_ath (some v64) : zm_M Unit) (fun (E71 : String) (q71 : Nat) =>
              if E71 ∈ (["java/lang/IllegalArgumentException", "java/lang/IndexOutOfBoundsException", "java/util/NoSuchElementException", "java/lang/UnsupportedOperationException", "java/lang/ArrayIndexOutOfBoundsException", "java/lang/IllegalStateException", "java/lang/StringIndexOutOfBoundsException", "java/lang/ArithmeticException", "BoxSpans$Refusal", "BoxSpans$TextError"] : List String) then
                zm_bnd (zm_getR a0 18 3) fun v74 =>
                zm_bnd (zm_bnd (zm_is v74 2) fun _ => fn_J6_setLength K v74 0) fun _ =>
                zm_ath (some q71)
              else
                zm_fl
            ) fun _ => zm_fl
        else
          if E11 ∈ (["java/lang/IllegalArgumentException", "java/lang/IndexOutOfBoundsException", "java/util/NoSuchElementException", "java/lang/UnsupportedOperationException", "java/lang/ArrayIndexOutOfBoundsException", "java/lang/IllegalStateException", "java/lang/StringIndexOutOfBoundsException", "java/lang/ArithmeticException"] : List String) then
            zm_bnd (zm_getR a0 18 3) fun v74 =>
            zm_bnd (zm_bnd (zm_is v74 2) fun _ => fn_J6_setLength K v74 0) fun _ =>
            zm_ath (some q11)
          else
            zm_fl
    ) fun v11 =>
  zm_cth (zm_bnd (zm_is a0 18) fun _ => fn_X1_carriedOut K a0 v11) (fun (E18 : String) (q18 : Nat) =>
      if E18 ∈ (["BoxSpans$TextError"] : List String) then
        zm_cth (zm_bnd (zm_is (some q18) 28) fun _ => fn_X12_position K (some q18)) (fun (E44 : String) (q44 : Nat) =>
            if E44 ∈ (["java/lang/IllegalArgumentException", "java/lang/IndexOutOfBoundsException", "java/util/NoSuchElementException", "java/lang/UnsupportedOperationException", "java/lang/ArrayIndexOutOfBoundsException", "java/lang/IllegalStateException", "java/lang/StringIndexOutOfBoundsException", "java/lang/ArithmeticException", "BoxSpans$Refusal", "BoxSpans$TextError"] : List String) then
              zm_bnd (zm_getR a0 18 3) fun v74 =>
              zm_bnd (zm_bnd (zm_is v74 2) fun _ => fn_J6_setLength K v74 0) fun _ =>
              zm_ath (some q44)
            else
              zm_fl
          ) fun v44 =>
        zm_bnd (zm_putF K a0 18 4 (.int v44)) fun _ =>
        zm_bnd (zm_new 5 [.null, .null, .null, .null, .null, .int 0]) fun v50 =>
        zm_cth (fn_J12_init_2 K (some v50)) (fun (E54 : String) (q54 : Nat) =>
            if E54 ∈ (["java/lang/IllegalArgumentException", "java/lang/IndexOutOfBoundsException", "java/util/NoSuchElementException", "java/lang/UnsupportedOperationException", "java/lang/ArrayIndexOutOfBoundsException", "java/lang/IllegalStateException", "java/lang/StringIndexOutOfBoundsException", "java/lang/ArithmeticException", "BoxSpans$Refusal", "BoxSpans$TextError"] : List String) then
              zm_bnd (zm_getR a0 18 3) fun v74 =>
              zm_bnd (zm_bnd (zm_is v74 2) fun _ => fn_J6_setLength K v74 0) fun _ =>
              zm_ath (some q54)
            else
              zm_fl
          ) fun _ =>
        zm_cth (zm_ath (some v50) : zm_M Unit) (fun (E57 : String) (q57 : Nat) =>
            if E57 ∈ (["java/lang/IllegalArgumentException", "java/lang/IndexOutOfBoundsException", "java/util/NoSuchElementException", "java/lang/UnsupportedOperationException", "java/lang/ArrayIndexOutOfBoundsException", "java/lang/IllegalStateException", "java/lang/StringIndexOutOfBoundsException", "java/lang/ArithmeticException", "BoxSpans$Refusal", "BoxSpans$TextError"] : List String) then
              zm_bnd (zm_getR a0 18 3) fun v74 =>
              zm_bnd (zm_bnd (zm_is v74 2) fun _ => fn_J6_setLength K v74 0) fun _ =>
              zm_ath (some q57)
            else
              zm_fl
          ) fun _ => zm_fl
      else
        if E18 ∈ (["BoxSpans$Refusal"] : List String) then
          zm_bnd (zm_putF K a0 18 5 (va_rf (some q18))) fun _ =>
          zm_bnd (zm_new 13 [.null, .null, .null, .null, .null, .int 0]) fun v64 =>
          zm_cth (fn_J28_init K (some v64)) (fun (E68 : String) (q68 : Nat) =>
              if E68 ∈ (["java/lang/IllegalArgumentException", "java/lang/IndexOutOfBoundsException", "java/util/NoSuchElementException", "java/lang/UnsupportedOperationException", "java/lang/ArrayIndexOutOfBoundsException", "java/lang/IllegalStateException", "java/lang/StringIndexOutOfBoundsException", "java/lang/ArithmeticException", "BoxSpans$Refusal", "BoxSpans$TextError"] : List String) then
                zm_bnd (zm_getR a0 18 3) fun v74 =>
                zm_bnd (zm_bnd (zm_is v74 2) fun _ => fn_J6_setLength K v74 0) fun _ =>
                zm_ath (some q68)
              else
                zm_fl
            ) fun _ =>
          zm_cth (zm_ath (some v64) : zm_M Unit) (fun (E71 : String) (q71 : Nat) =>
              if E71 ∈ (["java/lang/IllegalArgumentException", "java/lang/IndexOutOfBoundsException", "java/util/NoSuchElementException", "java/lang/UnsupportedOperationException", "java/lang/ArrayIndexOutOfBoundsException", "java/lang/IllegalStateException", "java/lang/StringIndexOutOfBoundsException", "java/lang/ArithmeticException", "BoxSpans$Refusal", "BoxSpans$TextError"] : List String) then
                zm_bnd (zm_getR a0 18 3) fun v74 =>
                zm_bnd (zm_bnd (zm_is v74 2) fun _ => fn_J6_setLength K v74 0) fun _ =>
                zm_ath (some q71)
              else
                zm_fl
            ) fun _ => zm_fl
        else
          if E18 ∈ (["java/lang/IllegalArgumentException", "java/lang/IndexOutOfBoundsException", "java/util/NoSuchElementException", "java/lang/UnsupportedOperationException", "java/lang/ArrayIndexOutOfBoundsException", "java/lang/IllegalStateException", "java/lang/StringIndexOutOfBoundsException", "java/lang/ArithmeticException"] : List String) then
            zm_bnd (zm_getR a0 18 3) fun v74 =>
            zm_bnd (zm_bnd (zm_is v74 2) fun _ => fn_J6_setLength K v74 0) fun _ =>
            zm_ath (some q18)
          else
            zm_fl
    ) fun v18 =>
  zm_cth (zm_bnd (zm_cls v11) fun ci => if ci = 0 then fn_J2_size K v11 else if ci = 1 then fn_J4_size K v11 else zm_fl) (fun (E22 : String) (q22 : Nat) =>
      if E22 ∈ (["BoxSpans$TextError"] : List String) then
        zm_cth (zm_bnd (zm_is (some q22) 28) fun _ => fn_X12_position K (some q22)) (fun (E44 : String) (q44 : Nat) =>
            if E44 ∈ (["java/lang/IllegalArgumentException", "java/lang/IndexOutOfBoundsException", "java/util/NoSuchElementException", "java/lang/UnsupportedOperationException", "java/lang/ArrayIndexOutOfBoundsException", "java/lang/IllegalStateException", "java/lang/StringIndexOutOfBoundsException", "java/lang/ArithmeticException", "BoxSpans$Refusal", "BoxSpans$TextError"] : List String) then
              zm_bnd (zm_getR a0 18 3) fun v74 =>
              zm_bnd (zm_bnd (zm_is v74 2) fun _ => fn_J6_setLength K v74 0) fun _ =>
              zm_ath (some q44)
            else
              zm_fl
          ) fun v44 =>
        zm_bnd (zm_putF K a0 18 4 (.int v44)) fun _ =>
        zm_bnd (zm_new 5 [.null, .null, .null, .null, .null, .int 0]) fun v50 =>
        zm_cth (fn_J12_init_2 K (some v50)) (fun (E54 : String) (q54 : Nat) =>
            if E54 ∈ (["java/lang/IllegalArgumentException", "java/lang/IndexOutOfBoundsException", "java/util/NoSuchElementException", "java/lang/UnsupportedOperationException", "java/lang/ArrayIndexOutOfBoundsException", "java/lang/IllegalStateException", "java/lang/StringIndexOutOfBoundsException", "java/lang/ArithmeticException", "BoxSpans$Refusal", "BoxSpans$TextError"] : List String) then
              zm_bnd (zm_getR a0 18 3) fun v74 =>
              zm_bnd (zm_bnd (zm_is v74 2) fun _ => fn_J6_setLength K v74 0) fun _ =>
              zm_ath (some q54)
            else
              zm_fl
          ) fun _ =>
        zm_cth (zm_ath (some v50) : zm_M Unit) (fun (E57 : String) (q57 : Nat) =>
            if E57 ∈ (["java/lang/IllegalArgumentException", "java/lang/IndexOutOfBoundsException", "java/util/NoSuchElementException", "java/lang/UnsupportedOperationException", "java/lang/ArrayIndexOutOfBoundsException", "java/lang/IllegalStateException", "java/lang/StringIndexOutOfBoundsException", "java/lang/ArithmeticException", "BoxSpans$Refusal", "BoxSpans$TextError"] : List String) then
              zm_bnd (zm_getR a0 18 3) fun v74 =>
              zm_bnd (zm_bnd (zm_is v74 2) fun _ => fn_J6_setLength K v74 0) fun _ =>
              zm_ath (some q57)
            else
              zm_fl
          ) fun _ => zm_fl
      else
        if E22 ∈ (["BoxSpans$Refusal"] : List String) then
          zm_bnd (zm_putF K a0 18 5 (va_rf (some q22))) fun _ =>
          zm_bnd (zm_new 13 [.null, .null, .null, .null, .null, .int 0]) fun v64 =>
          zm_cth (fn_J28_init K (some v64)) (fun (E68 : String) (q68 : Nat) =>
              if E68 ∈ (["java/lang/IllegalArgumentException", "java/lang/IndexOutOfBoundsException", "java/util/NoSuchElementException", "java/lang/UnsupportedOperationException", "java/lang/ArrayIndexOutOfBoundsException", "java/lang/IllegalStateException", "java/lang/StringIndexOutOfBoundsException", "java/lang/ArithmeticException", "BoxSpans$Refusal", "BoxSpans$TextError"] : List String) then
                zm_bnd (zm_getR a0 18 3) fun v74 =>
                zm_bnd (zm_bnd (zm_is v74 2) fun _ => fn_J6_setLength K v74 0) fun _ =>
                zm_ath (some q68)
              else
                zm_fl
            ) fun _ =>
          zm_cth (zm_ath (some v64) : zm_M Unit) (fun (E71 : String) (q71 : Nat) =>
              if E71 ∈ (["java/lang/IllegalArgumentException", "java/lang/IndexOutOfBoundsException", "java/util/NoSuchElementException", "java/lang/UnsupportedOperationException", "java/lang/ArrayIndexOutOfBoundsException", "java/lang/IllegalStateException", "java/lang/StringIndexOutOfBoundsException", "java/lang/ArithmeticException", "BoxSpans$Refusal", "BoxSpans$TextError"] : List String) then
                zm_bnd (zm_getR a0 18 3) fun v74 =>
                zm_bnd (zm_bnd (zm_is v74 2) fun _ => fn_J6_setLength K v74 0) fun _ =>
                zm_ath (some q71)
              else
                zm_fl
            ) fun _ => zm_fl
        else
          if E22 ∈ (["java/lang/IllegalArgumentException", "java/lang/IndexOutOfBoundsException", "java/util/NoSuchElementException", "java/lang/UnsupportedOperationException", "java/lang/ArrayIndexOutOfBoundsException", "java/lang/IllegalStateException", "java/lang/StringIndexOutOfBoundsException", "java/lang/ArithmeticException"] : List String) then
            zm_bnd (zm_getR a0 18 3) fun v74 =>
            zm_bnd (zm_bnd (zm_is v74 2) fun _ => fn_J6_setLength K v74 0) fun _ =>
            zm_ath (some q22)
          else
            zm_fl
    ) fun v22 =>
  zm_cth (zm_bnd (zm_is a0 18) fun _ => fn_X1_become K a0 v18 v22) (fun (E27 : String) (q27 : Nat) =>
      if E27 ∈ (["BoxSpans$TextError"] : List String) then
        zm_cth (zm_bnd (zm_is (some q27) 28) fun _ => fn_X12_position K (some q27)) (fun (E44 : String) (q44 : Nat) =>
            if E44 ∈ (["java/lang/IllegalArgumentException", "java/lang/IndexOutOfBoundsException", "java/util/NoSuchElementException", "java/lang/UnsupportedOperationException", "java/lang/ArrayIndexOutOfBoundsException", "java/lang/IllegalStateException", "java/lang/StringIndexOutOfBoundsException", "java/lang/ArithmeticException", "BoxSpans$Refusal", "BoxSpans$TextError"] : List String) then
              zm_bnd (zm_getR a0 18 3) fun v74 =>
              zm_bnd (zm_bnd (zm_is v74 2) fun _ => fn_J6_setLength K v74 0) fun _ =>
              zm_ath (some q44)
            else
              zm_fl
          ) fun v44 =>
        zm_bnd (zm_putF K a0 18 4 (.int v44)) fun _ =>
        zm_bnd (zm_new 5 [.null, .null, .null, .null, .null, .int 0]) fun v50 =>
        zm_cth (fn_J12_init_2 K (some v50)) (fun (E54 : String) (q54 : Nat) =>
            if E54 ∈ (["java/lang/IllegalArgumentException", "java/lang/IndexOutOfBoundsException", "java/util/NoSuchElementException", "java/lang/UnsupportedOperationException", "java/lang/ArrayIndexOutOfBoundsException", "java/lang/IllegalStateException", "java/lang/StringIndexOutOfBoundsException", "java/lang/ArithmeticException", "BoxSpans$Refusal", "BoxSpans$TextError"] : List String) then
              zm_bnd (zm_getR a0 18 3) fun v74 =>
              zm_bnd (zm_bnd (zm_is v74 2) fun _ => fn_J6_setLength K v74 0) fun _ =>
              zm_ath (some q54)
            else
              zm_fl
          ) fun _ =>
        zm_cth (zm_ath (some v50) : zm_M Unit) (fun (E57 : String) (q57 : Nat) =>
            if E57 ∈ (["java/lang/IllegalArgumentException", "java/lang/IndexOutOfBoundsException", "java/util/NoSuchElementException", "java/lang/UnsupportedOperationException", "java/lang/ArrayIndexOutOfBoundsException", "java/lang/IllegalStateException", "java/lang/StringIndexOutOfBoundsException", "java/lang/ArithmeticException", "BoxSpans$Refusal", "BoxSpans$TextError"] : List String) then
              zm_bnd (zm_getR a0 18 3) fun v74 =>
              zm_bnd (zm_bnd (zm_is v74 2) fun _ => fn_J6_setLength K v74 0) fun _ =>
              zm_ath (some q57)
            else
              zm_fl
          ) fun _ => zm_fl
      else
        if E27 ∈ (["BoxSpans$Refusal"] : List String) then
          zm_bnd (zm_putF K a0 18 5 (va_rf (some q27))) fun _ =>
          zm_bnd (zm_new 13 [.null, .null, .null, .null, .null, .int 0]) fun v64 =>
          zm_cth (fn_J28_init K (some v64)) (fun (E68 : String) (q68 : Nat) =>
              if E68 ∈ (["java/lang/IllegalArgumentException", "java/lang/IndexOutOfBoundsException", "java/util/NoSuchElementException", "java/lang/UnsupportedOperationException", "java/lang/ArrayIndexOutOfBoundsException", "java/lang/IllegalStateException", "java/lang/StringIndexOutOfBoundsException", "java/lang/ArithmeticException", "BoxSpans$Refusal", "BoxSpans$TextError"] : List String) then
                zm_bnd (zm_getR a0 18 3) fun v74 =>
                zm_bnd (zm_bnd (zm_is v74 2) fun _ => fn_J6_setLength K v74 0) fun _ =>
                zm_ath (some q68)
              else
                zm_fl
            ) fun _ =>
          zm_cth (zm_ath (some v64) : zm_M Unit) (fun (E71 : String) (q71 : Nat) =>
              if E71 ∈ (["java/lang/IllegalArgumentException", "java/lang/IndexOutOfBoundsException", "java/util/NoSuchElementException", "java/lang/UnsupportedOperationException", "java/lang/ArrayIndexOutOfBoundsException", "java/lang/IllegalStateException", "java/lang/StringIndexOutOfBoundsException", "java/lang/ArithmeticException", "BoxSpans$Refusal", "BoxSpans$TextError"] : List String) then
                zm_bnd (zm_getR a0 18 3) fun v74 =>
                zm_bnd (zm_bnd (zm_is v74 2) fun _ => fn_J6_setLength K v74 0) fun _ =>
                zm_ath (some q71)
              else
                zm_fl
            ) fun _ => zm_fl
        else
          if E27 ∈ (["java/lang/IllegalArgumentException", "java/lang/IndexOutOfBoundsException", "java/util/NoSuchElementException", "java/lang/UnsupportedOperationException", "java/lang/ArrayIndexOutOfBoundsException", "java/lang/IllegalStateException", "java/lang/StringIndexOutOfBoundsException", "java/lang/ArithmeticException"] : List String) then
            zm_bnd (zm_getR a0 18 3) fun v74 =>
            zm_bnd (zm_bnd (zm_is v74 2) fun _ => fn_J6_setLength K v74 0) fun _ =>
            zm_ath (some q27)
          else
            zm_fl
    ) fun v27 =>
  zm_bnd (zm_getR a0 18 3) fun v32 =>
  zm_bnd (zm_bnd (zm_is v32 2) fun _ => fn_J6_setLength K v32 0) fun _ =>
  zm_ret v27
theorem ct_X1_read {l : Launch} {Ω : zm_W} {K : zm_K} (H : zm_H Ω K) (a0 : zm_R) : zm_Ct l Ω yX1_read (wsW_ yX1_read cX1_read 4 (Option.some Jvm.ClassFile.FieldType.int) [(0, 31, 41, 333), (0, 31, 58, 1), (0, 31, 72, 0), (41, 73, 72, 0)]) 23 3266 [va_rf a0] zm_tvI (fn_X1_read K a0) := by
  refine zm_ctW H.1 (by decide +kernel) (zl_le (zl_R zl_nil) (Nat.le_of_ble_eq_true rfl)) ?_
  intro p e R s m args below meth c n0 k0 C hN hT ls hl
  have hx := C.1
  have hb := C.2.1
  simp only [zg_R, zg_nil] at hl
  have hl : lv_has ls 4 [(0, va_rf a0)] := hl
  refine rk_rf ?_
  unfold fn_X1_read
  refine rk_new C (hc_X11 H) in_X11 tyX11_ok q1972 q1973 q145 (fs := [.null, .int 0]) rfl (fun j hj => zdf_X11 j hj) dX1_read_0 (fun v0 => ?_)
  refine rk_of (fun _ _ _ _ _ k => lv_dup hx hb dX1_read_3 (va_rf_cat _) (lr_aload_n hx hb dX1_read_4 rfl (lv_at hl 0 rfl) k)) ?_
  refine rk_get zm_rdR_eq C (hc_X1 H) (k := 3) (Nat.le_of_ble_eq_true rfl) in_X1 q274 (fun _ h => h) dX1_read_5 (fun v5 => ?_)
  refine rk_cthV (cl_I (rest := [va_rf (some v0)]) C (ct_X11_init H (some v0) v5) (lw_meth q1976) q145 q1974 q1975 rfl hd_X11_init ⟨(Nat.le_of_ble_eq_true rfl), (Nat.le_of_ble_eq_true rfl)⟩ rfl hl.1 rfl (zw_le (zw_R zw_nil) (Nat.le_of_ble_eq_true rfl)) dX1_read_8) (fun E8 q8 => ?_) (fun _ => ?_)
  · refine rx_ite (fun h8_0 => ?_) (fun h8_0 => ?_)
    · refine rx_cat (k := 0) C hT rfl zp_nil ⟨by decide, by decide⟩ (by decide) q1971 ((zp_cons (P := fun E => (Cond.castable E "BoxSpans$TextError").before args s = true) (zn_wC H C q2146) zp_nil) E8 h8_0) ?_
      refine rk_ofs (fun _ _ _ _ _ k => lr_astore_n hx hb dX1_read_41 rfl hl (Nat.le_of_ble_eq_true rfl) [0] rfl ⟨(by first | exact va_rf_cat _ | rfl), trivial⟩ k) (fun ls hl => ?_)
      refine rk_of (fun _ _ _ _ _ k => lr_aload_n hx hb dX1_read_42 rfl (lv_at hl 1 rfl) (lr_aload_n hx hb dX1_read_43 rfl (lv_at hl 0 rfl) k)) ?_
      refine rk_cthI (cl_V (rest := [va_rf a0]) (av := []) C (hc_X12 H) (ct_X12_position H (some q8)) (lw_V q2422 q2423 q2424 q146 q2425) ⟨rfl, hd_X12_position⟩ ⟨(Nat.le_of_ble_eq_true rfl), (Nat.le_of_ble_eq_true rfl)⟩ rfl hl.1 rfl (zw_le (zw_R zw_nil) (Nat.le_of_ble_eq_true rfl)) dX1_read_44) (fun E44 q44 => ?_) (fun v44 => ?_)
      · refine rx_ite (fun h44_x => ?_) (fun _ => rx_fl)
        refine rx_any (k := 3) C hT rfl (zp_cons (Or.inl (by decide)) (zp_cons (Or.inl (by decide)) (zp_cons (Or.inl (by decide)) zp_nil))) ⟨by decide, by decide⟩ rfl ?_
        refine rk_ofs (fun _ _ _ _ _ k => lr_astore_n hx hb dX1_read_72 rfl hl (Nat.le_of_ble_eq_true rfl) [1] rfl ⟨trivial, trivial⟩ k) (fun ls hl => ?_)
        refine rk_of (fun _ _ _ _ _ k => lr_aload_n hx hb dX1_read_73 rfl (lv_at hl 1 rfl) k) ?_
        refine rk_get zm_rdR_eq C (hc_X1 H) (k := 3) (Nat.le_of_ble_eq_true rfl) in_X1 q274 (fun _ h => h) dX1_read_74 (fun v74 => ?_)
        refine rk_of (fun _ _ _ _ _ k => lv_iconst (v := 0) hx hb dX1_read_77 rfl k) ?_
        refine rk_callPV (rx_un C hT (by decide)) (cl_V (rest := []) (av := [.int 0]) C (hc_J6 H) (ct_J6_setLength H v74 0) (lw_V q2370 q2371 q2372 q109 q2373) ⟨rfl, hd_J6_setLength⟩ ⟨(Nat.le_of_ble_eq_true rfl), (Nat.le_of_ble_eq_true rfl)⟩ rfl hl.1 rfl (zw_le zw_nil (Nat.le_of_ble_eq_true rfl)) dX1_read_78) (fun _ => ?_)
        refine rk_of (fun _ _ _ _ _ k => lr_aload_n hx hb dX1_read_81 rfl (lv_at hl 0 rfl) k) ?_
        exact rk_athP H C (rx_un C hT (by decide)) dX1_read_82
      refine rk_put C H.2.2.1 (hc_X1 H) (k := 4) (Nat.le_of_ble_eq_true rfl) in_X1 (ty0 := tyX1) tyX1_ok nmX1 q275 (fun _ h => h) (Or.inl rfl) rfl rfl dX1_read_47 ?_
      refine rk_new C (hc_J12 H) in_J12 tyJ12_ok q1138 q596 q116 (fs := [.null, .null, .null, .null, .null, .int 0]) rfl (fun j hj => zdf_J12 j hj) dX1_read_50 (fun v50 => ?_)
      refine rk_of (fun _ _ _ _ _ k => lv_dup hx hb dX1_read_53 (va_rf_cat _) k) ?_
      refine rk_cthV (cl_I (rest := [va_rf (some v50)]) C (ct_J12_init_2 H (some v50)) (lw_meth q1141) q116 q1139 q1140 rfl hd_J12_init_2 ⟨(Nat.le_of_ble_eq_true rfl), (Nat.le_of_ble_eq_true rfl)⟩ rfl hl.1 rfl (zw_le (zw_R zw_nil) (Nat.le_of_ble_eq_true rfl)) dX1_read_54) (fun E54 q54 => ?_) (fun _ => ?_)
      · refine rx_ite (fun h54_x => ?_) (fun _ => rx_fl)
        refine rx_any (k := 3) C hT rfl (zp_cons (Or.inl (by decide)) (zp_cons (Or.inl (by decide)) (zp_cons (Or.inl (by decide)) zp_nil))) ⟨by decide, by decide⟩ rfl ?_
        refine rk_ofs (fun _ _ _ _ _ k => lr_astore_n hx hb dX1_read_72 rfl hl (Nat.le_of_ble_eq_true rfl) [1] rfl ⟨trivial, trivial⟩ k) (fun ls hl => ?_)
        refine rk_of (fun _ _ _ _ _ k => lr_aload_n hx hb dX1_read_73 rfl (lv_at hl 1 rfl) k) ?_
        refine rk_get zm_rdR_eq C (hc_X1 H) (k := 3) (Nat.le_of_ble_eq_true rfl) in_X1 q274 (fun _ h => h) dX1_read_74 (fun v74 => ?_)
        refine rk_of (fun _ _ _ _ _ k => lv_iconst (v := 0) hx hb dX1_read_77 rfl k) ?_
        refine rk_callPV (rx_un C hT (by decide)) (cl_V (rest := []) (av := [.int 0]) C (hc_J6 H) (ct_J6_setLength H v74 0) (lw_V q2370 q2371 q2372 q109 q2373) ⟨rfl, hd_J6_setLength⟩ ⟨(Nat.le_of_ble_eq_true rfl), (Nat.le_of_ble_eq_true rfl)⟩ rfl hl.1 rfl (zw_le zw_nil (Nat.le_of_ble_eq_true rfl)) dX1_read_78) (fun _ => ?_)
        refine rk_of (fun _ _ _ _ _ k => lr_aload_n hx hb dX1_read_81 rfl (lv_at hl 0 rfl) k) ?_
        exact rk_athP H C (rx_un C hT (by decide)) dX1_read_82
      refine rk_athC H C dX1_read_57 (fun E57 q57 => ?_)
      refine rx_ite (fun h57_x => ?_) (fun _ => rx_fl)
      refine rx_any (k := 3) C hT rfl (zp_cons (Or.inl (by decide)) (zp_cons (Or.inl (by decide)) (zp_cons (Or.inl (by decide)) zp_nil))) ⟨by decide, by decide⟩ rfl ?_
      refine rk_ofs (fun _ _ _ _ _ k => lr_astore_n hx hb dX1_read_72 rfl hl (Nat.le_of_ble_eq_true rfl) [1] rfl ⟨trivial, trivial⟩ k) (fun ls hl => ?_)
      refine rk_of (fun _ _ _ _ _ k => lr_aload_n hx hb dX1_read_73 rfl (lv_at hl 1 rfl) k) ?_
      refine rk_get zm_rdR_eq C (hc_X1 H) (k := 3) (Nat.le_of_ble_eq_true rfl) in_X1 q274 (fun _ h => h) dX1_read_74 (fun v74 => ?_)
      refine rk_of (fun _ _ _ _ _ k => lv_iconst (v := 0) hx hb dX1_read_77 rfl k) ?_
      refine rk_callPV (rx_un C hT (by decide)) (cl_V (rest := []) (av := [.int 0]) C (hc_J6 H) (ct_J6_setLength H v74 0) (lw_V q2370 q2371 q2372 q109 q2373) ⟨rfl, hd_J6_setLength⟩ ⟨(Nat.le_of_ble_eq_true rfl), (Nat.le_of_ble_eq_true rfl)⟩ rfl hl.1 rfl (zw_le zw_nil (Nat.le_of_ble_eq_true rfl)) dX1_read_78) (fun _ => ?_)
      refine rk_of (fun _ _ _ _ _ k => lr_aload_n hx hb dX1_read_81 rfl (lv_at hl 0 rfl) k) ?_
      exact rk_athP H C (rx_un C hT (by decide)) dX1_read_82
    · refine rx_ite (fun h8_1 => ?_) (fun h8_1 => ?_)
      · refine rx_cat (k := 1) C hT rfl (zp_cons (Or.inr ⟨by decide, _, q1971, zh_ncs H C (L := ["BoxSpans$Refusal"]) (by decide) h8_1⟩) zp_nil) ⟨by decide, by decide⟩ (by decide) q1152 ((zp_cons (P := fun E => (Cond.castable E "BoxSpans$Refusal").before args s = true) (zn_wC H C q1154) zp_nil) E8 h8_1) ?_
        refine rk_ofs (fun _ _ _ _ _ k => lr_astore_n hx hb dX1_read_58 rfl hl (Nat.le_of_ble_eq_true rfl) [0] rfl ⟨(by first | exact va_rf_cat _ | rfl), trivial⟩ k) (fun ls hl => ?_)
        refine rk_of (fun _ _ _ _ _ k => lr_aload_n hx hb dX1_read_59 rfl (lv_at hl 1 rfl) (lr_aload_n hx hb dX1_read_60 rfl (lv_at hl 0 rfl) k)) ?_
        refine rk_put C H.2.2.1 (hc_X1 H) (k := 5) (Nat.le_of_ble_eq_true rfl) in_X1 (ty0 := tyX1) tyX1_ok nmX1 q276 (fun _ h => h) (Or.inl rfl) (zn_R rfl _) (zp_R rfl _) dX1_read_61 ?_
        refine rk_new C (hc_J28 H) in_J28 tyJ28_ok q1355 q1356 q138 (fs := [.null, .null, .null, .null, .null, .int 0]) rfl (fun j hj => zdf_J28 j hj) dX1_read_64 (fun v64 => ?_)
        refine rk_of (fun _ _ _ _ _ k => lv_dup hx hb dX1_read_67 (va_rf_cat _) k) ?_
        refine rk_cthV (cl_I (rest := [va_rf (some v64)]) C (ct_J28_init H (some v64)) (lw_meth q1366) q138 q1364 q1365 rfl hd_J28_init ⟨(Nat.le_of_ble_eq_true rfl), (Nat.le_of_ble_eq_true rfl)⟩ rfl hl.1 rfl (zw_le (zw_R zw_nil) (Nat.le_of_ble_eq_true rfl)) dX1_read_68) (fun E68 q68 => ?_) (fun _ => ?_)
        · refine rx_ite (fun h68_x => ?_) (fun _ => rx_fl)
          refine rx_any (k := 3) C hT rfl (zp_cons (Or.inl (by decide)) (zp_cons (Or.inl (by decide)) (zp_cons (Or.inl (by decide)) zp_nil))) ⟨by decide, by decide⟩ rfl ?_
          refine rk_ofs (fun _ _ _ _ _ k => lr_astore_n hx hb dX1_read_72 rfl hl (Nat.le_of_ble_eq_true rfl) [1] rfl ⟨trivial, trivial⟩ k) (fun ls hl => ?_)
          refine rk_of (fun _ _ _ _ _ k => lr_aload_n hx hb dX1_read_73 rfl (lv_at hl 1 rfl) k) ?_
          refine rk_get zm_rdR_eq C (hc_X1 H) (k := 3) (Nat.le_of_ble_eq_true rfl) in_X1 q274 (fun _ h => h) dX1_read_74 (fun v74 => ?_)
          refine rk_of (fun _ _ _ _ _ k => lv_iconst (v := 0) hx hb dX1_read_77 rfl k) ?_
          refine rk_callPV (rx_un C hT (by decide)) (cl_V (rest := []) (av := [.int 0]) C (hc_J6 H) (ct_J6_setLength H v74 0) (lw_V q2370 q2371 q2372 q109 q2373) ⟨rfl, hd_J6_setLength⟩ ⟨(Nat.le_of_ble_eq_true rfl), (Nat.le_of_ble_eq_true rfl)⟩ rfl hl.1 rfl (zw_le zw_nil (Nat.le_of_ble_eq_true rfl)) dX1_read_78) (fun _ => ?_)
          refine rk_of (fun _ _ _ _ _ k => lr_aload_n hx hb dX1_read_81 rfl (lv_at hl 0 rfl) k) ?_
          exact rk_athP H C (rx_un C hT (by decide)) dX1_read_82
        refine rk_athC H C dX1_read_71 (fun E71 q71 => ?_)
        refine rx_ite (fun h71_x => ?_) (fun _ => rx_fl)
        refine rx_any (k := 3) C hT rfl (zp_cons (Or.inl (by decide)) (zp_cons (Or.inl (by decide)) (zp_cons (Or.inl (by decide)) zp_nil))) ⟨by decide, by decide⟩ rfl ?_
        refine rk_ofs (fun _ _ _ _ _ k => lr_astore_n hx hb dX1_read_72 rfl hl (Nat.le_of_ble_eq_true rfl) [1] rfl ⟨trivial, trivial⟩ k) (fun ls hl => ?_)
        refine rk_of (fun _ _ _ _ _ k => lr_aload_n hx hb dX1_read_73 rfl (lv_at hl 1 rfl) k) ?_
        refine rk_get zm_rdR_eq C (hc_X1 H) (k := 3) (Nat.le_of_ble_eq_true rfl) in_X1 q274 (fun _ h => h) dX1_read_74 (fun v74 => ?_)
        refine rk_of (fun _ _ _ _ _ k => lv_iconst (v := 0) hx hb dX1_read_77 rfl k) ?_
        refine rk_callPV (rx_un C hT (by decide)) (cl_V (rest := []) (av := [.int 0]) C (hc_J6 H) (ct_J6_setLength H v74 0) (lw_V q2370 q2371 q2372 q109 q2373) ⟨rfl, hd_J6_setLength⟩ ⟨(Nat.le_of_ble_eq_true rfl), (Nat.le_of_ble_eq_true rfl)⟩ rfl hl.1 rfl (zw_le zw_nil (Nat.le_of_ble_eq_true rfl)) dX1_read_78) (fun _ => ?_)
        refine rk_of (fun _ _ _ _ _ k => lr_aload_n hx hb dX1_read_81 rfl (lv_at hl 0 rfl) k) ?_
        exact rk_athP H C (rx_un C hT (by decide)) dX1_read_82
      · refine rx_ite (fun h8_x => ?_) (fun _ => rx_fl)
        refine rx_any (k := 2) C hT rfl (zp_cons (Or.inr ⟨by decide, _, q1971, zh_ncs H C (L := ["java/lang/IllegalArgumentException", "java/lang/IndexOutOfBoundsException", "java/util/NoSuchElementException", "java/lang/UnsupportedOperationException", "java/lang/ArrayIndexOutOfBoundsException", "java/lang/IllegalStateException", "java/lang/StringIndexOutOfBoundsException", "java/lang/ArithmeticException"]) (by decide) h8_x⟩) (zp_cons (Or.inr ⟨by decide, _, q1152, zh_ncs H C (L := ["java/lang/IllegalArgumentException", "java/lang/IndexOutOfBoundsException", "java/util/NoSuchElementException", "java/lang/UnsupportedOperationException", "java/lang/ArrayIndexOutOfBoundsException", "java/lang/IllegalStateException", "java/lang/StringIndexOutOfBoundsException", "java/lang/ArithmeticException"]) (by decide) h8_x⟩) zp_nil)) ⟨by decide, by decide⟩ rfl ?_
        refine rk_ofs (fun _ _ _ _ _ k => lr_astore_n hx hb dX1_read_72 rfl hl (Nat.le_of_ble_eq_true rfl) [0] rfl ⟨trivial, trivial⟩ k) (fun ls hl => ?_)
        refine rk_of (fun _ _ _ _ _ k => lr_aload_n hx hb dX1_read_73 rfl (lv_at hl 1 rfl) k) ?_
        refine rk_get zm_rdR_eq C (hc_X1 H) (k := 3) (Nat.le_of_ble_eq_true rfl) in_X1 q274 (fun _ h => h) dX1_read_74 (fun v74 => ?_)
        refine rk_of (fun _ _ _ _ _ k => lv_iconst (v := 0) hx hb dX1_read_77 rfl k) ?_
        refine rk_callPV (rx_un C hT (by decide)) (cl_V (rest := []) (av := [.int 0]) C (hc_J6 H) (ct_J6_setLength H v74 0) (lw_V q2370 q2371 q2372 q109 q2373) ⟨rfl, hd_J6_setLength⟩ ⟨(Nat.le_of_ble_eq_true rfl), (Nat.le_of_ble_eq_true rfl)⟩ rfl hl.1 rfl (zw_le zw_nil (Nat.le_of_ble_eq_true rfl)) dX1_read_78) (fun _ => ?_)
        refine rk_of (fun _ _ _ _ _ k => lr_aload_n hx hb dX1_read_81 rfl (lv_at hl 0 rfl) k) ?_
        exact rk_athP H C (rx_un C hT (by decide)) dX1_read_82
  refine rk_cthR (cl_V (rest := []) (av := []) C (hc_X11 H) (ct_X11_commands H (some v0)) (lw_V q1985 q1986 q1987 q145 q1988) ⟨rfl, hd_X11_commands⟩ ⟨(Nat.le_of_ble_eq_true rfl), (Nat.le_of_ble_eq_true rfl)⟩ rfl hl.1 rfl (zw_le zw_nil (Nat.le_of_ble_eq_true rfl)) dX1_read_11) (fun E11 q11 => ?_) (fun v11 => ?_)
  · refine rx_ite (fun h11_0 => ?_) (fun h11_0 => ?_)
    · refine rx_cat (k := 0) C hT rfl zp_nil ⟨by decide, by decide⟩ (by decide) q1971 ((zp_cons (P := fun E => (Cond.castable E "BoxSpans$TextError").before args s = true) (zn_wC H C q2146) zp_nil) E11 h11_0) ?_
      refine rk_ofs (fun _ _ _ _ _ k => lr_astore_n hx hb dX1_read_41 rfl hl (Nat.le_of_ble_eq_true rfl) [0] rfl ⟨(by first | exact va_rf_cat _ | rfl), trivial⟩ k) (fun ls hl => ?_)
      refine rk_of (fun _ _ _ _ _ k => lr_aload_n hx hb dX1_read_42 rfl (lv_at hl 1 rfl) (lr_aload_n hx hb dX1_read_43 rfl (lv_at hl 0 rfl) k)) ?_
      refine rk_cthI (cl_V (rest := [va_rf a0]) (av := []) C (hc_X12 H) (ct_X12_position H (some q11)) (lw_V q2422 q2423 q2424 q146 q2425) ⟨rfl, hd_X12_position⟩ ⟨(Nat.le_of_ble_eq_true rfl), (Nat.le_of_ble_eq_true rfl)⟩ rfl hl.1 rfl (zw_le (zw_R zw_nil) (Nat.le_of_ble_eq_true rfl)) dX1_read_44) (fun E44 q44 => ?_) (fun v44 => ?_)
      · refine rx_ite (fun h44_x => ?_) (fun _ => rx_fl)
        refine rx_any (k := 3) C hT rfl (zp_cons (Or.inl (by decide)) (zp_cons (Or.inl (by decide)) (zp_cons (Or.inl (by decide)) zp_nil))) ⟨by decide, by decide⟩ rfl ?_
        refine rk_ofs (fun _ _ _ _ _ k => lr_astore_n hx hb dX1_read_72 rfl hl (Nat.le_of_ble_eq_true rfl) [1] rfl ⟨trivial, trivial⟩ k) (fun ls hl => ?_)
        refine rk_of (fun _ _ _ _ _ k => lr_aload_n hx hb dX1_read_73 rfl (lv_at hl 1 rfl) k) ?_
        refine rk_get zm_rdR_eq C (hc_X1 H) (k := 3) (Nat.le_of_ble_eq_true rfl) in_X1 q274 (fun _ h => h) dX1_read_74 (fun v74 => ?_)
        refine rk_of (fun _ _ _ _ _ k => lv_iconst (v := 0) hx hb dX1_read_77 rfl k) ?_
        refine rk_callPV (rx_un C hT (by decide)) (cl_V (rest := []) (av := [.int 0]) C (hc_J6 H) (ct_J6_setLength H v74 0) (lw_V q2370 q2371 q2372 q109 q2373) ⟨rfl, hd_J6_setLength⟩ ⟨(Nat.le_of_ble_eq_true rfl), (Nat.le_of_ble_eq_true rfl)⟩ rfl hl.1 rfl (zw_le zw_nil (Nat.le_of_ble_eq_true rfl)) dX1_read_78) (fun _ => ?_)
        refine rk_of (fun _ _ _ _ _ k => lr_aload_n hx hb dX1_read_81 rfl (lv_at hl 0 rfl) k) ?_
        exact rk_athP H C (rx_un C hT (by decide)) dX1_read_82
      refine rk_put C H.2.2.1 (hc_X1 H) (k := 4) (Nat.le_of_ble_eq_true rfl) in_X1 (ty0 := tyX1) tyX1_ok nmX1 q275 (fun _ h => h) (Or.inl rfl) rfl rfl dX1_read_47 ?_
      refine rk_new C (hc_J12 H) in_J12 tyJ12_ok q1138 q596 q116 (fs := [.null, .null, .null, .null, .null, .int 0]) rfl (fun j hj => zdf_J12 j hj) dX1_read_50 (fun v50 => ?_)
      refine rk_of (fun _ _ _ _ _ k => lv_dup hx hb dX1_read_53 (va_rf_cat _) k) ?_
      refine rk_cthV (cl_I (rest := [va_rf (some v50)]) C (ct_J12_init_2 H (some v50)) (lw_meth q1141) q116 q1139 q1140 rfl hd_J12_init_2 ⟨(Nat.le_of_ble_eq_true rfl), (Nat.le_of_ble_eq_true rfl)⟩ rfl hl.1 rfl (zw_le (zw_R zw_nil) (Nat.le_of_ble_eq_true rfl)) dX1_read_54) (fun E54 q54 => ?_) (fun _ => ?_)
      · refine rx_ite (fun h54_x => ?_) (fun _ => rx_fl)
        refine rx_any (k := 3) C hT rfl (zp_cons (Or.inl (by decide)) (zp_cons (Or.inl (by decide)) (zp_cons (Or.inl (by decide)) zp_nil))) ⟨by decide, by decide⟩ rfl ?_
        refine rk_ofs (fun _ _ _ _ _ k => lr_astore_n hx hb dX1_read_72 rfl hl (Nat.le_of_ble_eq_true rfl) [1] rfl ⟨trivial, trivial⟩ k) (fun ls hl => ?_)
        refine rk_of (fun _ _ _ _ _ k => lr_aload_n hx hb dX1_read_73 rfl (lv_at hl 1 rfl) k) ?_
        refine rk_get zm_rdR_eq C (hc_X1 H) (k := 3) (Nat.le_of_ble_eq_true rfl) in_X1 q274 (fun _ h => h) dX1_read_74 (fun v74 => ?_)
        refine rk_of (fun _ _ _ _ _ k => lv_iconst (v := 0) hx hb dX1_read_77 rfl k) ?_
        refine rk_callPV (rx_un C hT (by decide)) (cl_V (rest := []) (av := [.int 0]) C (hc_J6 H) (ct_J6_setLength H v74 0) (lw_V q2370 q2371 q2372 q109 q2373) ⟨rfl, hd_J6_setLength⟩ ⟨(Nat.le_of_ble_eq_true rfl), (Nat.le_of_ble_eq_true rfl)⟩ rfl hl.1 rfl (zw_le zw_nil (Nat.le_of_ble_eq_true rfl)) dX1_read_78) (fun _ => ?_)
        refine rk_of (fun _ _ _ _ _ k => lr_aload_n hx hb dX1_read_81 rfl (lv_at hl 0 rfl) k) ?_
        exact rk_athP H C (rx_un C hT (by decide)) dX1_read_82
      refine rk_athC H C dX1_read_57 (fun E57 q57 => ?_)
      refine rx_ite (fun h57_x => ?_) (fun _ => rx_fl)
      refine rx_any (k := 3) C hT rfl (zp_cons (Or.inl (by decide)) (zp_cons (Or.inl (by decide)) (zp_cons (Or.inl (by decide)) zp_nil))) ⟨by decide, by decide⟩ rfl ?_
      refine rk_ofs (fun _ _ _ _ _ k => lr_astore_n hx hb dX1_read_72 rfl hl (Nat.le_of_ble_eq_true rfl) [1] rfl ⟨trivial, trivial⟩ k) (fun ls hl => ?_)
      refine rk_of (fun _ _ _ _ _ k => lr_aload_n hx hb dX1_read_73 rfl (lv_at hl 1 rfl) k) ?_
      refine rk_get zm_rdR_eq C (hc_X1 H) (k := 3) (Nat.le_of_ble_eq_true rfl) in_X1 q274 (fun _ h => h) dX1_read_74 (fun v74 => ?_)
      refine rk_of (fun _ _ _ _ _ k => lv_iconst (v := 0) hx hb dX1_read_77 rfl k) ?_
      refine rk_callPV (rx_un C hT (by decide)) (cl_V (rest := []) (av := [.int 0]) C (hc_J6 H) (ct_J6_setLength H v74 0) (lw_V q2370 q2371 q2372 q109 q2373) ⟨rfl, hd_J6_setLength⟩ ⟨(Nat.le_of_ble_eq_true rfl), (Nat.le_of_ble_eq_true rfl)⟩ rfl hl.1 rfl (zw_le zw_nil (Nat.le_of_ble_eq_true rfl)) dX1_read_78) (fun _ => ?_)
      refine rk_of (fun _ _ _ _ _ k => lr_aload_n hx hb dX1_read_81 rfl (lv_at hl 0 rfl) k) ?_
      exact rk_athP H C (rx_un C hT (by decide)) dX1_read_82
    · refine rx_ite (fun h11_1 => ?_) (fun h11_1 => ?_)
      · refine rx_cat (k := 1) C hT rfl (zp_cons (Or.inr ⟨by decide, _, q1971, zh_ncs H C (L := ["BoxSpans$Refusal"]) (by decide) h11_1⟩) zp_nil) ⟨by decide, by decide⟩ (by decide) q1152 ((zp_cons (P := fun E => (Cond.castable E "BoxSpans$Refusal").before args s = true) (zn_wC H C q1154) zp_nil) E11 h11_1) ?_
        refine rk_ofs (fun _ _ _ _ _ k => lr_astore_n hx hb dX1_read_58 rfl hl (Nat.le_of_ble_eq_true rfl) [0] rfl ⟨(by first | exact va_rf_cat _ | rfl), trivial⟩ k) (fun ls hl => ?_)
        refine rk_of (fun _ _ _ _ _ k => lr_aload_n hx hb dX1_read_59 rfl (lv_at hl 1 rfl) (lr_aload_n hx hb dX1_read_60 rfl (lv_at hl 0 rfl) k)) ?_
        refine rk_put C H.2.2.1 (hc_X1 H) (k := 5) (Nat.le_of_ble_eq_true rfl) in_X1 (ty0 := tyX1) tyX1_ok nmX1 q276 (fun _ h => h) (Or.inl rfl) (zn_R rfl _) (zp_R rfl _) dX1_read_61 ?_
        refine rk_new C (hc_J28 H) in_J28 tyJ28_ok q1355 q1356 q138 (fs := [.null, .null, .null, .null, .null, .int 0]) rfl (fun j hj => zdf_J28 j hj) dX1_read_64 (fun v64 => ?_)
        refine rk_of (fun _ _ _ _ _ k => lv_dup hx hb dX1_read_67 (va_rf_cat _) k) ?_
        refine rk_cthV (cl_I (rest := [va_rf (some v64)]) C (ct_J28_init H (some v64)) (lw_meth q1366) q138 q1364 q1365 rfl hd_J28_init ⟨(Nat.le_of_ble_eq_true rfl), (Nat.le_of_ble_eq_true rfl)⟩ rfl hl.1 rfl (zw_le (zw_R zw_nil) (Nat.le_of_ble_eq_true rfl)) dX1_read_68) (fun E68 q68 => ?_) (fun _ => ?_)
        · refine rx_ite (fun h68_x => ?_) (fun _ => rx_fl)
          refine rx_any (k := 3) C hT rfl (zp_cons (Or.inl (by decide)) (zp_cons (Or.inl (by decide)) (zp_cons (Or.inl (by decide)) zp_nil))) ⟨by decide, by decide⟩ rfl ?_
          refine rk_ofs (fun _ _ _ _ _ k => lr_astore_n hx hb dX1_read_72 rfl hl (Nat.le_of_ble_eq_true rfl) [1] rfl ⟨trivial, trivial⟩ k) (fun ls hl => ?_)
          refine rk_of (fun _ _ _ _ _ k => lr_aload_n hx hb dX1_read_73 rfl (lv_at hl 1 rfl) k) ?_
          refine rk_get zm_rdR_eq C (hc_X1 H) (k := 3) (Nat.le_of_ble_eq_true rfl) in_X1 q274 (fun _ h => h) dX1_read_74 (fun v74 => ?_)
          refine rk_of (fun _ _ _ _ _ k => lv_iconst (v := 0) hx hb dX1_read_77 rfl k) ?_
          refine rk_callPV (rx_un C hT (by decide)) (cl_V (rest := []) (av := [.int 0]) C (hc_J6 H) (ct_J6_setLength H v74 0) (lw_V q2370 q2371 q2372 q109 q2373) ⟨rfl, hd_J6_setLength⟩ ⟨(Nat.le_of_ble_eq_true rfl), (Nat.le_of_ble_eq_true rfl)⟩ rfl hl.1 rfl (zw_le zw_nil (Nat.le_of_ble_eq_true rfl)) dX1_read_78) (fun _ => ?_)
          refine rk_of (fun _ _ _ _ _ k => lr_aload_n hx hb dX1_read_81 rfl (lv_at hl 0 rfl) k) ?_
          exact rk_athP H C (rx_un C hT (by decide)) dX1_read_82
        refine rk_athC H C dX1_read_71 (fun E71 q71 => ?_)
        refine rx_ite (fun h71_x => ?_) (fun _ => rx_fl)
        refine rx_any (k := 3) C hT rfl (zp_cons (Or.inl (by decide)) (zp_cons (Or.inl (by decide)) (zp_cons (Or.inl (by decide)) zp_nil))) ⟨by decide, by decide⟩ rfl ?_
        refine rk_ofs (fun _ _ _ _ _ k => lr_astore_n hx hb dX1_read_72 rfl hl (Nat.le_of_ble_eq_true rfl) [1] rfl ⟨trivial, trivial⟩ k) (fun ls hl => ?_)
        refine rk_of (fun _ _ _ _ _ k => lr_aload_n hx hb dX1_read_73 rfl (lv_at hl 1 rfl) k) ?_
        refine rk_get zm_rdR_eq C (hc_X1 H) (k := 3) (Nat.le_of_ble_eq_true rfl) in_X1 q274 (fun _ h => h) dX1_read_74 (fun v74 => ?_)
        refine rk_of (fun _ _ _ _ _ k => lv_iconst (v := 0) hx hb dX1_read_77 rfl k) ?_
        refine rk_callPV (rx_un C hT (by decide)) (cl_V (rest := []) (av := [.int 0]) C (hc_J6 H) (ct_J6_setLength H v74 0) (lw_V q2370 q2371 q2372 q109 q2373) ⟨rfl, hd_J6_setLength⟩ ⟨(Nat.le_of_ble_eq_true rfl), (Nat.le_of_ble_eq_true rfl)⟩ rfl hl.1 rfl (zw_le zw_nil (Nat.le_of_ble_eq_true rfl)) dX1_read_78) (fun _ => ?_)
        refine rk_of (fun _ _ _ _ _ k => lr_aload_n hx hb dX1_read_81 rfl (lv_at hl 0 rfl) k) ?_
        exact rk_athP H C (rx_un C hT (by decide)) dX1_read_82
      · refine rx_ite (fun h11_x => ?_) (fun _ => rx_fl)
        refine rx_any (k := 2) C hT rfl (zp_cons (Or.inr ⟨by decide, _, q1971, zh_ncs H C (L := ["java/lang/IllegalArgumentException", "java/lang/IndexOutOfBoundsException", "java/util/NoSuchElementException", "java/lang/UnsupportedOperationException", "java/lang/ArrayIndexOutOfBoundsException", "java/lang/IllegalStateException", "java/lang/StringIndexOutOfBoundsException", "java/lang/ArithmeticException"]) (by decide) h11_x⟩) (zp_cons (Or.inr ⟨by decide, _, q1152, zh_ncs H C (L := ["java/lang/IllegalArgumentException", "java/lang/IndexOutOfBoundsException", "java/util/NoSuchElementException", "java/lang/UnsupportedOperationException", "java/lang/ArrayIndexOutOfBoundsException", "java/lang/IllegalStateException", "java/lang/StringIndexOutOfBoundsException", "java/lang/ArithmeticException"]) (by decide) h11_x⟩) zp_nil)) ⟨by decide, by decide⟩ rfl ?_
        refine rk_ofs (fun _ _ _ _ _ k => lr_astore_n hx hb dX1_read_72 rfl hl (Nat.le_of_ble_eq_true rfl) [0] rfl ⟨trivial, trivial⟩ k) (fun ls hl => ?_)
        refine rk_of (fun _ _ _ _ _ k => lr_aload_n hx hb dX1_read_73 rfl (lv_at hl 1 rfl) k) ?_
        refine rk_get zm_rdR_eq C (hc_X1 H) (k := 3) (Nat.le_of_ble_eq_true rfl) in_X1 q274 (fun _ h => h) dX1_read_74 (fun v74 => ?_)
        refine rk_of (fun _ _ _ _ _ k => lv_iconst (v := 0) hx hb dX1_read_77 rfl k) ?_
        refine rk_callPV (rx_un C hT (by decide)) (cl_V (rest := []) (av := [.int 0]) C (hc_J6 H) (ct_J6_setLength H v74 0) (lw_V q2370 q2371 q2372 q109 q2373) ⟨rfl, hd_J6_setLength⟩ ⟨(Nat.le_of_ble_eq_true rfl), (Nat.le_of_ble_eq_true rfl)⟩ rfl hl.1 rfl (zw_le zw_nil (Nat.le_of_ble_eq_true rfl)) dX1_read_78) (fun _ => ?_)
        refine rk_of (fun _ _ _ _ _ k => lr_aload_n hx hb dX1_read_81 rfl (lv_at hl 0 rfl) k) ?_
        exact rk_athP H C (rx_un C hT (by decide)) dX1_read_82
  refine rk_ofs (fun _ _ _ _ _ k => lr_astore_n hx hb dX1_read_14 rfl hl (Nat.le_of_ble_eq_true rfl) [0] rfl ⟨(by first | exact va_rf_cat _ | rfl), trivial⟩ k) (fun ls hl => ?_)
  refine rk_of (fun _ _ _ _ _ k => lr_aload_n hx hb dX1_read_15 rfl (lv_at hl 1 rfl) (lr_aload_n hx hb dX1_read_16 rfl (lv_at hl 1 rfl) (lr_aload_n hx hb dX1_read_17 rfl (lv_at hl 0 rfl) k))) ?_
  refine rk_cthR (cl_VX (rest := [va_rf a0]) (av := [va_rf v11]) C (hc_X1 H) (ct_X1_carriedOut H a0 v11) (lw_VW q2348 q2350 qs42 q101 q2351) ⟨rfl, hd_X1_carriedOut⟩ ⟨(Nat.le_of_ble_eq_true rfl), (Nat.le_of_ble_eq_true rfl)⟩ rfl hl.1 rfl (zw_le (zw_R zw_nil) (Nat.le_of_ble_eq_true rfl)) dX1_read_18) (fun E18 q18 => ?_) (fun v18 => ?_)
  · refine rx_ite (fun h18_0 => ?_) (fun h18_0 => ?_)
    · refine rx_cat (k := 0) C hT rfl zp_nil ⟨by decide, by decide⟩ (by decide) q1971 ((zp_cons (P := fun E => (Cond.castable E "BoxSpans$TextError").before args s = true) (zn_wC H C q2146) zp_nil) E18 h18_0) ?_
      refine rk_ofs (fun _ _ _ _ _ k => lr_astore_n hx hb dX1_read_41 rfl hl (Nat.le_of_ble_eq_true rfl) [1] rfl ⟨(by first | exact va_rf_cat _ | rfl), trivial⟩ k) (fun ls hl => ?_)
      refine rk_of (fun _ _ _ _ _ k => lr_aload_n hx hb dX1_read_42 rfl (lv_at hl 1 rfl) (lr_aload_n hx hb dX1_read_43 rfl (lv_at hl 0 rfl) k)) ?_
      refine rk_cthI (cl_V (rest := [va_rf a0]) (av := []) C (hc_X12 H) (ct_X12_position H (some q18)) (lw_V q2422 q2423 q2424 q146 q2425) ⟨rfl, hd_X12_position⟩ ⟨(Nat.le_of_ble_eq_true rfl), (Nat.le_of_ble_eq_true rfl)⟩ rfl hl.1 rfl (zw_le (zw_R zw_nil) (Nat.le_of_ble_eq_true rfl)) dX1_read_44) (fun E44 q44 => ?_) (fun v44 => ?_)
      · refine rx_ite (fun h44_x => ?_) (fun _ => rx_fl)
        refine rx_any (k := 3) C hT rfl (zp_cons (Or.inl (by decide)) (zp_cons (Or.inl (by decide)) (zp_cons (Or.inl (by decide)) zp_nil))) ⟨by decide, by decide⟩ rfl ?_
        refine rk_ofs (fun _ _ _ _ _ k => lr_astore_n hx hb dX1_read_72 rfl hl (Nat.le_of_ble_eq_true rfl) [1] rfl ⟨trivial, trivial⟩ k) (fun ls hl => ?_)
        refine rk_of (fun _ _ _ _ _ k => lr_aload_n hx hb dX1_read_73 rfl (lv_at hl 1 rfl) k) ?_
        refine rk_get zm_rdR_eq C (hc_X1 H) (k := 3) (Nat.le_of_ble_eq_true rfl) in_X1 q274 (fun _ h => h) dX1_read_74 (fun v74 => ?_)
        refine rk_of (fun _ _ _ _ _ k => lv_iconst (v := 0) hx hb dX1_read_77 rfl k) ?_
        refine rk_callPV (rx_un C hT (by decide)) (cl_V (rest := []) (av := [.int 0]) C (hc_J6 H) (ct_J6_setLength H v74 0) (lw_V q2370 q2371 q2372 q109 q2373) ⟨rfl, hd_J6_setLength⟩ ⟨(Nat.le_of_ble_eq_true rfl), (Nat.le_of_ble_eq_true rfl)⟩ rfl hl.1 rfl (zw_le zw_nil (Nat.le_of_ble_eq_true rfl)) dX1_read_78) (fun _ => ?_)
        refine rk_of (fun _ _ _ _ _ k => lr_aload_n hx hb dX1_read_81 rfl (lv_at hl 0 rfl) k) ?_
        exact rk_athP H C (rx_un C hT (by decide)) dX1_read_82
      refine rk_put C H.2.2.1 (hc_X1 H) (k := 4) (Nat.le_of_ble_eq_true rfl) in_X1 (ty0 := tyX1) tyX1_ok nmX1 q275 (fun _ h => h) (Or.inl rfl) rfl rfl dX1_read_47 ?_
      refine rk_new C (hc_J12 H) in_J12 tyJ12_ok q1138 q596 q116 (fs := [.null, .null, .null, .null, .null, .int 0]) rfl (fun j hj => zdf_J12 j hj) dX1_read_50 (fun v50 => ?_)
      refine rk_of (fun _ _ _ _ _ k => lv_dup hx hb dX1_read_53 (va_rf_cat _) k) ?_
      refine rk_cthV (cl_I (rest := [va_rf (some v50)]) C (ct_J12_init_2 H (some v50)) (lw_meth q1141) q116 q1139 q1140 rfl hd_J12_init_2 ⟨(Nat.le_of_ble_eq_true rfl), (Nat.le_of_ble_eq_true rfl)⟩ rfl hl.1 rfl (zw_le (zw_R zw_nil) (Nat.le_of_ble_eq_true rfl)) dX1_read_54) (fun E54 q54 => ?_) (fun _ => ?_)
      · refine rx_ite (fun h54_x => ?_) (fun _ => rx_fl)
        refine rx_any (k := 3) C hT rfl (zp_cons (Or.inl (by decide)) (zp_cons (Or.inl (by decide)) (zp_cons (Or.inl (by decide)) zp_nil))) ⟨by decide, by decide⟩ rfl ?_
        refine rk_ofs (fun _ _ _ _ _ k => lr_astore_n hx hb dX1_read_72 rfl hl (Nat.le_of_ble_eq_true rfl) [1] rfl ⟨trivial, trivial⟩ k) (fun ls hl => ?_)
        refine rk_of (fun _ _ _ _ _ k => lr_aload_n hx hb dX1_read_73 rfl (lv_at hl 1 rfl) k) ?_
        refine rk_get zm_rdR_eq C (hc_X1 H) (k := 3) (Nat.le_of_ble_eq_true rfl) in_X1 q274 (fun _ h => h) dX1_read_74 (fun v74 => ?_)
        refine rk_of (fun _ _ _ _ _ k => lv_iconst (v := 0) hx hb dX1_read_77 rfl k) ?_
        refine rk_callPV (rx_un C hT (by decide)) (cl_V (rest := []) (av := [.int 0]) C (hc_J6 H) (ct_J6_setLength H v74 0) (lw_V q2370 q2371 q2372 q109 q2373) ⟨rfl, hd_J6_setLength⟩ ⟨(Nat.le_of_ble_eq_true rfl), (Nat.le_of_ble_eq_true rfl)⟩ rfl hl.1 rfl (zw_le zw_nil (Nat.le_of_ble_eq_true rfl)) dX1_read_78) (fun _ => ?_)
        refine rk_of (fun _ _ _ _ _ k => lr_aload_n hx hb dX1_read_81 rfl (lv_at hl 0 rfl) k) ?_
        exact rk_athP H C (rx_un C hT (by decide)) dX1_read_82
      refine rk_athC H C dX1_read_57 (fun E57 q57 => ?_)
      refine rx_ite (fun h57_x => ?_) (fun _ => rx_fl)
      refine rx_any (k := 3) C hT rfl (zp_cons (Or.inl (by decide)) (zp_cons (Or.inl (by decide)) (zp_cons (Or.inl (by decide)) zp_nil))) ⟨by decide, by decide⟩ rfl ?_
      refine rk_ofs (fun _ _ _ _ _ k => lr_astore_n hx hb dX1_read_72 rfl hl (Nat.le_of_ble_eq_true rfl) [1] rfl ⟨trivial, trivial⟩ k) (fun ls hl => ?_)
      refine rk_of (fun _ _ _ _ _ k => lr_aload_n hx hb dX1_read_73 rfl (lv_at hl 1 rfl) k) ?_
      refine rk_get zm_rdR_eq C (hc_X1 H) (k := 3) (Nat.le_of_ble_eq_true rfl) in_X1 q274 (fun _ h => h) dX1_read_74 (fun v74 => ?_)
      refine rk_of (fun _ _ _ _ _ k => lv_iconst (v := 0) hx hb dX1_read_77 rfl k) ?_
      refine rk_callPV (rx_un C hT (by decide)) (cl_V (rest := []) (av := [.int 0]) C (hc_J6 H) (ct_J6_setLength H v74 0) (lw_V q2370 q2371 q2372 q109 q2373) ⟨rfl, hd_J6_setLength⟩ ⟨(Nat.le_of_ble_eq_true rfl), (Nat.le_of_ble_eq_true rfl)⟩ rfl hl.1 rfl (zw_le zw_nil (Nat.le_of_ble_eq_true rfl)) dX1_read_78) (fun _ => ?_)
      refine rk_of (fun _ _ _ _ _ k => lr_aload_n hx hb dX1_read_81 rfl (lv_at hl 0 rfl) k) ?_
      exact rk_athP H C (rx_un C hT (by decide)) dX1_read_82
    · refine rx_ite (fun h18_1 => ?_) (fun h18_1 => ?_)
      · refine rx_cat (k := 1) C hT rfl (zp_cons (Or.inr ⟨by decide, _, q1971, zh_ncs H C (L := ["BoxSpans$Refusal"]) (by decide) h18_1⟩) zp_nil) ⟨by decide, by decide⟩ (by decide) q1152 ((zp_cons (P := fun E => (Cond.castable E "BoxSpans$Refusal").before args s = true) (zn_wC H C q1154) zp_nil) E18 h18_1) ?_
        refine rk_ofs (fun _ _ _ _ _ k => lr_astore_n hx hb dX1_read_58 rfl hl (Nat.le_of_ble_eq_true rfl) [1] rfl ⟨(by first | exact va_rf_cat _ | rfl), trivial⟩ k) (fun ls hl => ?_)
        refine rk_of (fun _ _ _ _ _ k => lr_aload_n hx hb dX1_read_59 rfl (lv_at hl 1 rfl) (lr_aload_n hx hb dX1_read_60 rfl (lv_at hl 0 rfl) k)) ?_
        refine rk_put C H.2.2.1 (hc_X1 H) (k := 5) (Nat.le_of_ble_eq_true rfl) in_X1 (ty0 := tyX1) tyX1_ok nmX1 q276 (fun _ h => h) (Or.inl rfl) (zn_R rfl _) (zp_R rfl _) dX1_read_61 ?_
        refine rk_new C (hc_J28 H) in_J28 tyJ28_ok q1355 q1356 q138 (fs := [.null, .null, .null, .null, .null, .int 0]) rfl (fun j hj => zdf_J28 j hj) dX1_read_64 (fun v64 => ?_)
        refine rk_of (fun _ _ _ _ _ k => lv_dup hx hb dX1_read_67 (va_rf_cat _) k) ?_
        refine rk_cthV (cl_I (rest := [va_rf (some v64)]) C (ct_J28_init H (some v64)) (lw_meth q1366) q138 q1364 q1365 rfl hd_J28_init ⟨(Nat.le_of_ble_eq_true rfl), (Nat.le_of_ble_eq_true rfl)⟩ rfl hl.1 rfl (zw_le (zw_R zw_nil) (Nat.le_of_ble_eq_true rfl)) dX1_read_68) (fun E68 q68 => ?_) (fun _ => ?_)
        · refine rx_ite (fun h68_x => ?_) (fun _ => rx_fl)
          refine rx_any (k := 3) C hT rfl (zp_cons (Or.inl (by decide)) (zp_cons (Or.inl (by decide)) (zp_cons (Or.inl (by decide)) zp_nil))) ⟨by decide, by decide⟩ rfl ?_
          refine rk_ofs (fun _ _ _ _ _ k => lr_astore_n hx hb dX1_read_72 rfl hl (Nat.le_of_ble_eq_true rfl) [1] rfl ⟨trivial, trivial⟩ k) (fun ls hl => ?_)
          refine rk_of (fun _ _ _ _ _ k => lr_aload_n hx hb dX1_read_73 rfl (lv_at hl 1 rfl) k) ?_
          refine rk_get zm_rdR_eq C (hc_X1 H) (k := 3) (Nat.le_of_ble_eq_true rfl) in_X1 q274 (fun _ h => h) dX1_read_74 (fun v74 => ?_)
          refine rk_of (fun _ _ _ _ _ k => lv_iconst (v := 0) hx hb dX1_read_77 rfl k) ?_
          refine rk_callPV (rx_un C hT (by decide)) (cl_V (rest := []) (av := [.int 0]) C (hc_J6 H) (ct_J6_setLength H v74 0) (lw_V q2370 q2371 q2372 q109 q2373) ⟨rfl, hd_J6_setLength⟩ ⟨(Nat.le_of_ble_eq_true rfl), (Nat.le_of_ble_eq_true rfl)⟩ rfl hl.1 rfl (zw_le zw_nil (Nat.le_of_ble_eq_true rfl)) dX1_read_78) (fun _ => ?_)
          refine rk_of (fun _ _ _ _ _ k => lr_aload_n hx hb dX1_read_81 rfl (lv_at hl 0 rfl) k) ?_
          exact rk_athP H C (rx_un C hT (by decide)) dX1_read_82
        refine rk_athC H C dX1_read_71 (fun E71 q71 => ?_)
        refine rx_ite (fun h71_x => ?_) (fun _ => rx_fl)
        refine rx_any (k := 3) C hT rfl (zp_cons (Or.inl (by decide)) (zp_cons (Or.inl (by decide)) (zp_cons (Or.inl (by decide)) zp_nil))) ⟨by decide, by decide⟩ rfl ?_
        refine rk_ofs (fun _ _ _ _ _ k => lr_astore_n hx hb dX1_read_72 rfl hl (Nat.le_of_ble_eq_true rfl) [1] rfl ⟨trivial, trivial⟩ k) (fun ls hl => ?_)
        refine rk_of (fun _ _ _ _ _ k => lr_aload_n hx hb dX1_read_73 rfl (lv_at hl 1 rfl) k) ?_
        refine rk_get zm_rdR_eq C (hc_X1 H) (k := 3) (Nat.le_of_ble_eq_true rfl) in_X1 q274 (fun _ h => h) dX1_read_74 (fun v74 => ?_)
        refine rk_of (fun _ _ _ _ _ k => lv_iconst (v := 0) hx hb dX1_read_77 rfl k) ?_
        refine rk_callPV (rx_un C hT (by decide)) (cl_V (rest := []) (av := [.int 0]) C (hc_J6 H) (ct_J6_setLength H v74 0) (lw_V q2370 q2371 q2372 q109 q2373) ⟨rfl, hd_J6_setLength⟩ ⟨(Nat.le_of_ble_eq_true rfl), (Nat.le_of_ble_eq_true rfl)⟩ rfl hl.1 rfl (zw_le zw_nil (Nat.le_of_ble_eq_true rfl)) dX1_read_78) (fun _ => ?_)
        refine rk_of (fun _ _ _ _ _ k => lr_aload_n hx hb dX1_read_81 rfl (lv_at hl 0 rfl) k) ?_
        exact rk_athP H C (rx_un C hT (by decide)) dX1_read_82
      · refine rx_ite (fun h18_x => ?_) (fun _ => rx_fl)
        refine rx_any (k := 2) C hT rfl (zp_cons (Or.inr ⟨by decide, _, q1971, zh_ncs H C (L := ["java/lang/IllegalArgumentException", "java/lang/IndexOutOfBoundsException", "java/util/NoSuchElementException", "java/lang/UnsupportedOperationException", "java/lang/ArrayIndexOutOfBoundsException", "java/lang/IllegalStateException", "java/lang/StringIndexOutOfBoundsException", "java/lang/ArithmeticException"]) (by decide) h18_x⟩) (zp_cons (Or.inr ⟨by decide, _, q1152, zh_ncs H C (L := ["java/lang/IllegalArgumentException", "java/lang/IndexOutOfBoundsException", "java/util/NoSuchElementException", "java/lang/UnsupportedOperationException", "java/lang/ArrayIndexOutOfBoundsException", "java/lang/IllegalStateException", "java/lang/StringIndexOutOfBoundsException", "java/lang/ArithmeticException"]) (by decide) h18_x⟩) zp_nil)) ⟨by decide, by decide⟩ rfl ?_
        refine rk_ofs (fun _ _ _ _ _ k => lr_astore_n hx hb dX1_read_72 rfl hl (Nat.le_of_ble_eq_true rfl) [1] rfl ⟨trivial, trivial⟩ k) (fun ls hl => ?_)
        refine rk_of (fun _ _ _ _ _ k => lr_aload_n hx hb dX1_read_73 rfl (lv_at hl 1 rfl) k) ?_
        refine rk_get zm_rdR_eq C (hc_X1 H) (k := 3) (Nat.le_of_ble_eq_true rfl) in_X1 q274 (fun _ h => h) dX1_read_74 (fun v74 => ?_)
        refine rk_of (fun _ _ _ _ _ k => lv_iconst (v := 0) hx hb dX1_read_77 rfl k) ?_
        refine rk_callPV (rx_un C hT (by decide)) (cl_V (rest := []) (av := [.int 0]) C (hc_J6 H) (ct_J6_setLength H v74 0) (lw_V q2370 q2371 q2372 q109 q2373) ⟨rfl, hd_J6_setLength⟩ ⟨(Nat.le_of_ble_eq_true rfl), (Nat.le_of_ble_eq_true rfl)⟩ rfl hl.1 rfl (zw_le zw_nil (Nat.le_of_ble_eq_true rfl)) dX1_read_78) (fun _ => ?_)
        refine rk_of (fun _ _ _ _ _ k => lr_aload_n hx hb dX1_read_81 rfl (lv_at hl 0 rfl) k) ?_
        exact rk_athP H C (rx_un C hT (by decide)) dX1_read_82
  refine rk_of (fun _ _ _ _ _ k => lr_aload_n hx hb dX1_read_21 rfl (lv_at hl 0 rfl) k) ?_
  refine rk_cthI (cl_dsp (fun ci => cl_case (cl_F (n := 0) (rest := [va_rf v18, va_rf a0]) (av := []) C (hc_J2 H) (ct_J2_size H v11) (lw_F q1462 q1057 q752 q105 q753) (zh_Fw H C (by decide) q1056 q1055 q1059 q1058 q309) (by decide +kernel) ⟨(Nat.le_of_ble_eq_true rfl), (Nat.le_of_ble_eq_true rfl)⟩ rfl hl.1 rfl (zw_le (zw_R (zw_R zw_nil)) (Nat.le_of_ble_eq_true rfl)) dX1_read_22) (cl_case (cl_F (n := 0) (rest := [va_rf v18, va_rf a0]) (av := []) C (hc_J4 H) (ct_J4_size H v11) (lw_F q1462 q1060 q755 q107 q756) (zh_Fw H C (by decide) q1056 q1055 q1062 q1061 q336) (by decide +kernel) ⟨(Nat.le_of_ble_eq_true rfl), (Nat.le_of_ble_eq_true rfl)⟩ rfl hl.1 rfl (zw_le (zw_R (zw_R zw_nil)) (Nat.le_of_ble_eq_true rfl)) dX1_read_22) (cl_fl)))) (fun E22 q22 => ?_) (fun v22 => ?_)
  · refine rx_ite (fun h22_0 => ?_) (fun h22_0 => ?_)
    · refine rx_cat (k := 0) C hT rfl zp_nil ⟨by decide, by decide⟩ (by decide) q1971 ((zp_cons (P := fun E => (Cond.castable E "BoxSpans$TextError").before args s = true) (zn_wC H C q2146) zp_nil) E22 h22_0) ?_
      refine rk_ofs (fun _ _ _ _ _ k => lr_astore_n hx hb dX1_read_41 rfl hl (Nat.le_of_ble_eq_true rfl) [1] rfl ⟨(by first | exact va_rf_cat _ | rfl), trivial⟩ k) (fun ls hl => ?_)
      refine rk_of (fun _ _ _ _ _ k => lr_aload_n hx hb dX1_read_42 rfl (lv_at hl 1 rfl) (lr_aload_n hx hb dX1_read_43 rfl (lv_at hl 0 rfl) k)) ?_
      refine rk_cthI (cl_V (rest := [va_rf a0]) (av := []) C (hc_X12 H) (ct_X12_position H (some q22)) (lw_V q2422 q2423 q2424 q146 q2425) ⟨rfl, hd_X12_position⟩ ⟨(Nat.le_of_ble_eq_true rfl), (Nat.le_of_ble_eq_true rfl)⟩ rfl hl.1 rfl (zw_le (zw_R zw_nil) (Nat.le_of_ble_eq_true rfl)) dX1_read_44) (fun E44 q44 => ?_) (fun v44 => ?_)
      · refine rx_ite (fun h44_x => ?_) (fun _ => rx_fl)
        refine rx_any (k := 3) C hT rfl (zp_cons (Or.inl (by decide)) (zp_cons (Or.inl (by decide)) (zp_cons (Or.inl (by decide)) zp_nil))) ⟨by decide, by decide⟩ rfl ?_
        refine rk_ofs (fun _ _ _ _ _ k => lr_astore_n hx hb dX1_read_72 rfl hl (Nat.le_of_ble_eq_true rfl) [1] rfl ⟨trivial, trivial⟩ k) (fun ls hl => ?_)
        refine rk_of (fun _ _ _ _ _ k => lr_aload_n hx hb dX1_read_73 rfl (lv_at hl 1 rfl) k) ?_
        refine rk_get zm_rdR_eq C (hc_X1 H) (k := 3) (Nat.le_of_ble_eq_true rfl) in_X1 q274 (fun _ h => h) dX1_read_74 (fun v74 => ?_)
        refine rk_of (fun _ _ _ _ _ k => lv_iconst (v := 0) hx hb dX1_read_77 rfl k) ?_
        refine rk_callPV (rx_un C hT (by decide)) (cl_V (rest := []) (av := [.int 0]) C (hc_J6 H) (ct_J6_setLength H v74 0) (lw_V q2370 q2371 q2372 q109 q2373) ⟨rfl, hd_J6_setLength⟩ ⟨(Nat.le_of_ble_eq_true rfl), (Nat.le_of_ble_eq_true rfl)⟩ rfl hl.1 rfl (zw_le zw_nil (Nat.le_of_ble_eq_true rfl)) dX1_read_78) (fun _ => ?_)
        refine rk_of (fun _ _ _ _ _ k => lr_aload_n hx hb dX1_read_81 rfl (lv_at hl 0 rfl) k) ?_
        exact rk_athP H C (rx_un C hT (by decide)) dX1_read_82
      refine rk_put C H.2.2.1 (hc_X1 H) (k := 4) (Nat.le_of_ble_eq_true rfl) in_X1 (ty0 := tyX1) tyX1_ok nmX1 q275 (fun _ h => h) (Or.inl rfl) rfl rfl dX1_read_47 ?_
      refine rk_new C (hc_J12 H) in_J12 tyJ12_ok q1138 q596 q116 (fs := [.null, .null, .null, .null, .null, .int 0]) rfl (fun j hj => zdf_J12 j hj) dX1_read_50 (fun v50 => ?_)
      refine rk_of (fun _ _ _ _ _ k => lv_dup hx hb dX1_read_53 (va_rf_cat _) k) ?_
      refine rk_cthV (cl_I (rest := [va_rf (some v50)]) C (ct_J12_init_2 H (some v50)) (lw_meth q1141) q116 q1139 q1140 rfl hd_J12_init_2 ⟨(Nat.le_of_ble_eq_true rfl), (Nat.le_of_ble_eq_true rfl)⟩ rfl hl.1 rfl (zw_le (zw_R zw_nil) (Nat.le_of_ble_eq_true rfl)) dX1_read_54) (fun E54 q54 => ?_) (fun _ => ?_)
      · refine rx_ite (fun h54_x => ?_) (fun _ => rx_fl)
        refine rx_any (k := 3) C hT rfl (zp_cons (Or.inl (by decide)) (zp_cons (Or.inl (by decide)) (zp_cons (Or.inl (by decide)) zp_nil))) ⟨by decide, by decide⟩ rfl ?_
        refine rk_ofs (fun _ _ _ _ _ k => lr_astore_n hx hb dX1_read_72 rfl hl (Nat.le_of_ble_eq_true rfl) [1] rfl ⟨trivial, trivial⟩ k) (fun ls hl => ?_)
        refine rk_of (fun _ _ _ _ _ k => lr_aload_n hx hb dX1_read_73 rfl (lv_at hl 1 rfl) k) ?_
        refine rk_get zm_rdR_eq C (hc_X1 H) (k := 3) (Nat.le_of_ble_eq_true rfl) in_X1 q274 (fun _ h => h) dX1_read_74 (fun v74 => ?_)
        refine rk_of (fun _ _ _ _ _ k => lv_iconst (v := 0) hx hb dX1_read_77 rfl k) ?_
        refine rk_callPV (rx_un C hT (by decide)) (cl_V (rest := []) (av := [.int 0]) C (hc_J6 H) (ct_J6_setLength H v74 0) (lw_V q2370 q2371 q2372 q109 q2373) ⟨rfl, hd_J6_setLength⟩ ⟨(Nat.le_of_ble_eq_true rfl), (Nat.le_of_ble_eq_true rfl)⟩ rfl hl.1 rfl (zw_le zw_nil (Nat.le_of_ble_eq_true rfl)) dX1_read_78) (fun _ => ?_)
        refine rk_of (fun _ _ _ _ _ k => lr_aload_n hx hb dX1_read_81 rfl (lv_at hl 0 rfl) k) ?_
        exact rk_athP H C (rx_un C hT (by decide)) dX1_read_82
      refine rk_athC H C dX1_read_57 (fun E57 q57 => ?_)
      refine rx_ite (fun h57_x => ?_) (fun _ => rx_fl)
      refine rx_any (k := 3) C hT rfl (zp_cons (Or.inl (by decide)) (zp_cons (Or.inl (by decide)) (zp_cons (Or.inl (by decide)) zp_nil))) ⟨by decide, by decide⟩ rfl ?_
      refine rk_ofs (fun _ _ _ _ _ k => lr_astore_n hx hb dX1_read_72 rfl hl (Nat.le_of_ble_eq_true rfl) [1] rfl ⟨trivial, trivial⟩ k) (fun ls hl => ?_)
      refine rk_of (fun _ _ _ _ _ k => lr_aload_n hx hb dX1_read_73 rfl (lv_at hl 1 rfl) k) ?_
      refine rk_get zm_rdR_eq C (hc_X1 H) (k := 3) (Nat.le_of_ble_eq_true rfl) in_X1 q274 (fun _ h => h) dX1_read_74 (fun v74 => ?_)
      refine rk_of (fun _ _ _ _ _ k => lv_iconst (v := 0) hx hb dX1_read_77 rfl k) ?_
      refine rk_callPV (rx_un C hT (by decide)) (cl_V (rest := []) (av := [.int 0]) C (hc_J6 H) (ct_J6_setLength H v74 0) (lw_V q2370 q2371 q2372 q109 q2373) ⟨rfl, hd_J6_setLength⟩ ⟨(Nat.le_of_ble_eq_true rfl), (Nat.le_of_ble_eq_true rfl)⟩ rfl hl.1 rfl (zw_le zw_nil (Nat.le_of_ble_eq_true rfl)) dX1_read_78) (fun _ => ?_)
      refine rk_of (fun _ _ _ _ _ k => lr_aload_n hx hb dX1_read_81 rfl (lv_at hl 0 rfl) k) ?_
      exact rk_athP H C (rx_un C hT (by decide)) dX1_read_82
    · refine rx_ite (fun h22_1 => ?_) (fun h22_1 => ?_)
      · refine rx_cat (k := 1) C hT rfl (zp_cons (Or.inr ⟨by decide, _, q1971, zh_ncs H C (L := ["BoxSpans$Refusal"]) (by decide) h22_1⟩) zp_nil) ⟨by decide, by decide⟩ (by decide) q1152 ((zp_cons (P := fun E => (Cond.castable E "BoxSpans$Refusal").before args s = true) (zn_wC H C q1154) zp_nil) E22 h22_1) ?_
        refine rk_ofs (fun _ _ _ _ _ k => lr_astore_n hx hb dX1_read_58 rfl hl (Nat.le_of_ble_eq_true rfl) [1] rfl ⟨(by first | exact va_rf_cat _ | rfl), trivial⟩ k) (fun ls hl => ?_)
        refine rk_of (fun _ _ _ _ _ k => lr_aload_n hx hb dX1_read_59 rfl (lv_at hl 1 rfl) (lr_aload_n hx hb dX1_read_60 rfl (lv_at hl 0 rfl) k)) ?_
        refine rk_put C H.2.2.1 (hc_X1 H) (k := 5) (Nat.le_of_ble_eq_true rfl) in_X1 (ty0 := tyX1) tyX1_ok nmX1 q276 (fun _ h => h) (Or.inl rfl) (zn_R rfl _) (zp_R rfl _) dX1_read_61 ?_
        refine rk_new C (hc_J28 H) in_J28 tyJ28_ok q1355 q1356 q138 (fs := [.null, .null, .null, .null, .null, .int 0]) rfl (fun j hj => zdf_J28 j hj) dX1_read_64 (fun v64 => ?_)
        refine rk_of (fun _ _ _ _ _ k => lv_dup hx hb dX1_read_67 (va_rf_cat _) k) ?_
        refine rk_cthV (cl_I (rest := [va_rf (some v64)]) C (ct_J28_init H (some v64)) (lw_meth q1366) q138 q1364 q1365 rfl hd_J28_init ⟨(Nat.le_of_ble_eq_true rfl), (Nat.le_of_ble_eq_true rfl)⟩ rfl hl.1 rfl (zw_le (zw_R zw_nil) (Nat.le_of_ble_eq_true rfl)) dX1_read_68) (fun E68 q68 => ?_) (fun _ => ?_)
        · refine rx_ite (fun h68_x => ?_) (fun _ => rx_fl)
          refine rx_any (k := 3) C hT rfl (zp_cons (Or.inl (by decide)) (zp_cons (Or.inl (by decide)) (zp_cons (Or.inl (by decide)) zp_nil))) ⟨by decide, by decide⟩ rfl ?_
          refine rk_ofs (fun _ _ _ _ _ k => lr_astore_n hx hb dX1_read_72 rfl hl (Nat.le_of_ble_eq_true rfl) [1] rfl ⟨trivial, trivial⟩ k) (fun ls hl => ?_)
          refine rk_of (fun _ _ _ _ _ k => lr_aload_n hx hb dX1_read_73 rfl (lv_at hl 1 rfl) k) ?_
          refine rk_get zm_rdR_eq C (hc_X1 H) (k := 3) (Nat.le_of_ble_eq_true rfl) in_X1 q274 (fun _ h => h) dX1_read_74 (fun v74 => ?_)
          refine rk_of (fun _ _ _ _ _ k => lv_iconst (v := 0) hx hb dX1_read_77 rfl k) ?_
          refine rk_callPV (rx_un C hT (by decide)) (cl_V (rest := []) (av := [.int 0]) C (hc_J6 H) (ct_J6_setLength H v74 0) (lw_V q2370 q2371 q2372 q109 q2373) ⟨rfl, hd_J6_setLength⟩ ⟨(Nat.le_of_ble_eq_true rfl), (Nat.le_of_ble_eq_true rfl)⟩ rfl hl.1 rfl (zw_le zw_nil (Nat.le_of_ble_eq_true rfl)) dX1_read_78) (fun _ => ?_)
          refine rk_of (fun _ _ _ _ _ k => lr_aload_n hx hb dX1_read_81 rfl (lv_at hl 0 rfl) k) ?_
          exact rk_athP H C (rx_un C hT (by decide)) dX1_read_82
        refine rk_athC H C dX1_read_71 (fun E71 q71 => ?_)
        refine rx_ite (fun h71_x => ?_) (fun _ => rx_fl)
        refine rx_any (k := 3) C hT rfl (zp_cons (Or.inl (by decide)) (zp_cons (Or.inl (by decide)) (zp_cons (Or.inl (by decide)) zp_nil))) ⟨by decide, by decide⟩ rfl ?_
        refine rk_ofs (fun _ _ _ _ _ k => lr_astore_n hx hb dX1_read_72 rfl hl (Nat.le_of_ble_eq_true rfl) [1] rfl ⟨trivial, trivial⟩ k) (fun ls hl => ?_)
        refine rk_of (fun _ _ _ _ _ k => lr_aload_n hx hb dX1_read_73 rfl (lv_at hl 1 rfl) k) ?_
        refine rk_get zm_rdR_eq C (hc_X1 H) (k := 3) (Nat.le_of_ble_eq_true rfl) in_X1 q274 (fun _ h => h) dX1_read_74 (fun v74 => ?_)
        refine rk_of (fun _ _ _ _ _ k => lv_iconst (v := 0) hx hb dX1_read_77 rfl k) ?_
        refine rk_callPV (rx_un C hT (by decide)) (cl_V (rest := []) (av := [.int 0]) C (hc_J6 H) (ct_J6_setLength H v74 0) (lw_V q2370 q2371 q2372 q109 q2373) ⟨rfl, hd_J6_setLength⟩ ⟨(Nat.le_of_ble_eq_true rfl), (Nat.le_of_ble_eq_true rfl)⟩ rfl hl.1 rfl (zw_le zw_nil (Nat.le_of_ble_eq_true rfl)) dX1_read_78) (fun _ => ?_)
        refine rk_of (fun _ _ _ _ _ k => lr_aload_n hx hb dX1_read_81 rfl (lv_at hl 0 rfl) k) ?_
        exact rk_athP H C (rx_un C hT (by decide)) dX1_read_82
      · refine rx_ite (fun h22_x => ?_) (fun _ => rx_fl)
        refine rx_any (k := 2) C hT rfl (zp_cons (Or.inr ⟨by decide, _, q1971, zh_ncs H C (L := ["java/lang/IllegalArgumentException", "java/lang/IndexOutOfBoundsException", "java/util/NoSuchElementException", "java/lang/UnsupportedOperationException", "java/lang/ArrayIndexOutOfBoundsException", "java/lang/IllegalStateException", "java/lang/StringIndexOutOfBoundsException", "java/lang/ArithmeticException"]) (by decide) h22_x⟩) (zp_cons (Or.inr ⟨by decide, _, q1152, zh_ncs H C (L := ["java/lang/IllegalArgumentException", "java/lang/IndexOutOfBoundsException", "java/util/NoSuchElementException", "java/lang/UnsupportedOperationException", "java/lang/ArrayIndexOutOfBoundsException", "java/lang/IllegalStateException", "java/lang/StringIndexOutOfBoundsException", "java/lang/ArithmeticException"]) (by decide) h22_x⟩) zp_nil)) ⟨by decide, by decide⟩ rfl ?_
        refine rk_ofs (fun _ _ _ _ _ k => lr_astore_n hx hb dX1_read_72 rfl hl (Nat.le_of_ble_eq_true rfl) [1] rfl ⟨trivial, trivial⟩ k) (fun ls hl => ?_)
        refine rk_of (fun _ _ _ _ _ k => lr_aload_n hx hb dX1_read_73 rfl (lv_at hl 1 rfl) k) ?_
        refine rk_get zm_rdR_eq C (hc_X1 H) (k := 3) (Nat.le_of_ble_eq_true rfl) in_X1 q274 (fun _ h => h) dX1_read_74 (fun v74 => ?_)
        refine rk_of (fun _ _ _ _ _ k => lv_iconst (v := 0) hx hb dX1_read_77 rfl k) ?_
        refine rk_callPV (rx_un C hT (by decide)) (cl_V (rest := []) (av := [.int 0]) C (hc_J6 H) (ct_J6_setLength H v74 0) (lw_V q2370 q2371 q2372 q109 q2373) ⟨rfl, hd_J6_setLength⟩ ⟨(Nat.le_of_ble_eq_true rfl), (Nat.le_of_ble_eq_true rfl)⟩ rfl hl.1 rfl (zw_le zw_nil (Nat.le_of_ble_eq_true rfl)) dX1_read_78) (fun _ => ?_)
        refine rk_of (fun _ _ _ _ _ k => lr_aload_n hx hb dX1_read_81 rfl (lv_at hl 0 rfl) k) ?_
        exact rk_athP H C (rx_un C hT (by decide)) dX1_read_82
  refine rk_cthI (cl_V (rest := []) (av := [va_rf v18, .int v22]) C (hc_X1 H) (ct_X1_become H a0 v18 v22) (lw_V q1336 q1338 qs13 q101 q1339) ⟨rfl, hd_X1_become⟩ ⟨(Nat.le_of_ble_eq_true rfl), (Nat.le_of_ble_eq_true rfl)⟩ rfl hl.1 rfl (zw_le zw_nil (Nat.le_of_ble_eq_true rfl)) dX1_read_27) (fun E27 q27 => ?_) (fun v27 => ?_)
  · refine rx_ite (fun h27_0 => ?_) (fun h27_0 => ?_)
    · refine rx_cat (k := 0) C hT rfl zp_nil ⟨by decide, by decide⟩ (by decide) q1971 ((zp_cons (P := fun E => (Cond.castable E "BoxSpans$TextError").before args s = true) (zn_wC H C q2146) zp_nil) E27 h27_0) ?_
      refine rk_ofs (fun _ _ _ _ _ k => lr_astore_n hx hb dX1_read_41 rfl hl (Nat.le_of_ble_eq_true rfl) [1] rfl ⟨(by first | exact va_rf_cat _ | rfl), trivial⟩ k) (fun ls hl => ?_)
      refine rk_of (fun _ _ _ _ _ k => lr_aload_n hx hb dX1_read_42 rfl (lv_at hl 1 rfl) (lr_aload_n hx hb dX1_read_43 rfl (lv_at hl 0 rfl) k)) ?_
      refine rk_cthI (cl_V (rest := [va_rf a0]) (av := []) C (hc_X12 H) (ct_X12_position H (some q27)) (lw_V q2422 q2423 q2424 q146 q2425) ⟨rfl, hd_X12_position⟩ ⟨(Nat.le_of_ble_eq_true rfl), (Nat.le_of_ble_eq_true rfl)⟩ rfl hl.1 rfl (zw_le (zw_R zw_nil) (Nat.le_of_ble_eq_true rfl)) dX1_read_44) (fun E44 q44 => ?_) (fun v44 => ?_)
      · refine rx_ite (fun h44_x => ?_) (fun _ => rx_fl)
        refine rx_any (k := 3) C hT rfl (zp_cons (Or.inl (by decide)) (zp_cons (Or.inl (by decide)) (zp_cons (Or.inl (by decide)) zp_nil))) ⟨by decide, by decide⟩ rfl ?_
        refine rk_ofs (fun _ _ _ _ _ k => lr_astore_n hx hb dX1_read_72 rfl hl (Nat.le_of_ble_eq_true rfl) [1] rfl ⟨trivial, trivial⟩ k) (fun ls hl => ?_)
        refine rk_of (fun _ _ _ _ _ k => lr_aload_n hx hb dX1_read_73 rfl (lv_at hl 1 rfl) k) ?_
        refine rk_get zm_rdR_eq C (hc_X1 H) (k := 3) (Nat.le_of_ble_eq_true rfl) in_X1 q274 (fun _ h => h) dX1_read_74 (fun v74 => ?_)
        refine rk_of (fun _ _ _ _ _ k => lv_iconst (v := 0) hx hb dX1_read_77 rfl k) ?_
        refine rk_callPV (rx_un C hT (by decide)) (cl_V (rest := []) (av := [.int 0]) C (hc_J6 H) (ct_J6_setLength H v74 0) (lw_V q2370 q2371 q2372 q109 q2373) ⟨rfl, hd_J6_setLength⟩ ⟨(Nat.le_of_ble_eq_true rfl), (Nat.le_of_ble_eq_true rfl)⟩ rfl hl.1 rfl (zw_le zw_nil (Nat.le_of_ble_eq_true rfl)) dX1_read_78) (fun _ => ?_)
        refine rk_of (fun _ _ _ _ _ k => lr_aload_n hx hb dX1_read_81 rfl (lv_at hl 0 rfl) k) ?_
        exact rk_athP H C (rx_un C hT (by decide)) dX1_read_82
      refine rk_put C H.2.2.1 (hc_X1 H) (k := 4) (Nat.le_of_ble_eq_true rfl) in_X1 (ty0 := tyX1) tyX1_ok nmX1 q275 (fun _ h => h) (Or.inl rfl) rfl rfl dX1_read_47 ?_
      refine rk_new C (hc_J12 H) in_J12 tyJ12_ok q1138 q596 q116 (fs := [.null, .null, .null, .null, .null, .int 0]) rfl (fun j hj => zdf_J12 j hj) dX1_read_50 (fun v50 => ?_)
      refine rk_of (fun _ _ _ _ _ k => lv_dup hx hb dX1_read_53 (va_rf_cat _) k) ?_
      refine rk_cthV (cl_I (rest := [va_rf (some v50)]) C (ct_J12_init_2 H (some v50)) (lw_meth q1141) q116 q1139 q1140 rfl hd_J12_init_2 ⟨(Nat.le_of_ble_eq_true rfl), (Nat.le_of_ble_eq_true rfl)⟩ rfl hl.1 rfl (zw_le (zw_R zw_nil) (Nat.le_of_ble_eq_true rfl)) dX1_read_54) (fun E54 q54 => ?_) (fun _ => ?_)
      · refine rx_ite (fun h54_x => ?_) (fun _ => rx_fl)
        refine rx_any (k := 3) C hT rfl (zp_cons (Or.inl (by decide)) (zp_cons (Or.inl (by decide)) (zp_cons (Or.inl (by decide)) zp_nil))) ⟨by decide, by decide⟩ rfl ?_
        refine rk_ofs (fun _ _ _ _ _ k => lr_astore_n hx hb dX1_read_72 rfl hl (Nat.le_of_ble_eq_true rfl) [1] rfl ⟨trivial, trivial⟩ k) (fun ls hl => ?_)
        refine rk_of (fun _ _ _ _ _ k => lr_aload_n hx hb dX1_read_73 rfl (lv_at hl 1 rfl) k) ?_
        refine rk_get zm_rdR_eq C (hc_X1 H) (k := 3) (Nat.le_of_ble_eq_true rfl) in_X1 q274 (fun _ h => h) dX1_read_74 (fun v74 => ?_)
        refine rk_of (fun _ _ _ _ _ k => lv_iconst (v := 0) hx hb dX1_read_77 rfl k) ?_
        refine rk_callPV (rx_un C hT (by decide)) (cl_V (rest := []) (av := [.int 0]) C (hc_J6 H) (ct_J6_setLength H v74 0) (lw_V q2370 q2371 q2372 q109 q2373) ⟨rfl, hd_J6_setLength⟩ ⟨(Nat.le_of_ble_eq_true rfl), (Nat.le_of_ble_eq_true rfl)⟩ rfl hl.1 rfl (zw_le zw_nil (Nat.le_of_ble_eq_true rfl)) dX1_read_78) (fun _ => ?_)
        refine rk_of (fun _ _ _ _ _ k => lr_aload_n hx hb dX1_read_81 rfl (lv_at hl 0 rfl) k) ?_
        exact rk_athP H C (rx_un C hT (by decide)) dX1_read_82
      refine rk_athC H C dX1_read_57 (fun E57 q57 => ?_)
      refine rx_ite (fun h57_x => ?_) (fun _ => rx_fl)
      refine rx_any (k := 3) C hT rfl (zp_cons (Or.inl (by decide)) (zp_cons (Or.inl (by decide)) (zp_cons (Or.inl (by decide)) zp_nil))) ⟨by decide, by decide⟩ rfl ?_
      refine rk_ofs (fun _ _ _ _ _ k => lr_astore_n hx hb dX1_read_72 rfl hl (Nat.le_of_ble_eq_true rfl) [1] rfl ⟨trivial, trivial⟩ k) (fun ls hl => ?_)
      refine rk_of (fun _ _ _ _ _ k => lr_aload_n hx hb dX1_read_73 rfl (lv_at hl 1 rfl) k) ?_
      refine rk_get zm_rdR_eq C (hc_X1 H) (k := 3) (Nat.le_of_ble_eq_true rfl) in_X1 q274 (fun _ h => h) dX1_read_74 (fun v74 => ?_)
      refine rk_of (fun _ _ _ _ _ k => lv_iconst (v := 0) hx hb dX1_read_77 rfl k) ?_
      refine rk_callPV (rx_un C hT (by decide)) (cl_V (rest := []) (av := [.int 0]) C (hc_J6 H) (ct_J6_setLength H v74 0) (lw_V q2370 q2371 q2372 q109 q2373) ⟨rfl, hd_J6_setLength⟩ ⟨(Nat.le_of_ble_eq_true rfl), (Nat.le_of_ble_eq_true rfl)⟩ rfl hl.1 rfl (zw_le zw_nil (Nat.le_of_ble_eq_true rfl)) dX1_read_78) (fun _ => ?_)
      refine rk_of (fun _ _ _ _ _ k => lr_aload_n hx hb dX1_read_81 rfl (lv_at hl 0 rfl) k) ?_
      exact rk_athP H C (rx_un C hT (by decide)) dX1_read_82
    · refine rx_ite (fun h27_1 => ?_) (fun h27_1 => ?_)
      · refine rx_cat (k := 1) C hT rfl (zp_cons (Or.inr ⟨by decide, _, q1971, zh_ncs H C (L := ["BoxSpans$Refusal"]) (by decide) h27_1⟩) zp_nil) ⟨by decide, by decide⟩ (by decide) q1152 ((zp_cons (P := fun E => (Cond.castable E "BoxSpans$Refusal").before args s = true) (zn_wC H C q1154) zp_nil) E27 h27_1) ?_
        refine rk_ofs (fun _ _ _ _ _ k => lr_astore_n hx hb dX1_read_58 rfl hl (Nat.le_of_ble_eq_true rfl) [1] rfl ⟨(by first | exact va_rf_cat _ | rfl), trivial⟩ k) (fun ls hl => ?_)
        refine rk_of (fun _ _ _ _ _ k => lr_aload_n hx hb dX1_read_59 rfl (lv_at hl 1 rfl) (lr_aload_n hx hb dX1_read_60 rfl (lv_at hl 0 rfl) k)) ?_
        refine rk_put C H.2.2.1 (hc_X1 H) (k := 5) (Nat.le_of_ble_eq_true rfl) in_X1 (ty0 := tyX1) tyX1_ok nmX1 q276 (fun _ h => h) (Or.inl rfl) (zn_R rfl _) (zp_R rfl _) dX1_read_61 ?_
        refine rk_new C (hc_J28 H) in_J28 tyJ28_ok q1355 q1356 q138 (fs := [.null, .null, .null, .null, .null, .int 0]) rfl (fun j hj => zdf_J28 j hj) dX1_read_64 (fun v64 => ?_)
        refine rk_of (fun _ _ _ _ _ k => lv_dup hx hb dX1_read_67 (va_rf_cat _) k) ?_
        refine rk_cthV (cl_I (rest := [va_rf (some v64)]) C (ct_J28_init H (some v64)) (lw_meth q1366) q138 q1364 q1365 rfl hd_J28_init ⟨(Nat.le_of_ble_eq_true rfl), (Nat.le_of_ble_eq_true rfl)⟩ rfl hl.1 rfl (zw_le (zw_R zw_nil) (Nat.le_of_ble_eq_true rfl)) dX1_read_68) (fun E68 q68 => ?_) (fun _ => ?_)
        · refine rx_ite (fun h68_x => ?_) (fun _ => rx_fl)
          refine rx_any (k := 3) C hT rfl (zp_cons (Or.inl (by decide)) (zp_cons (Or.inl (by decide)) (zp_cons (Or.inl (by decide)) zp_nil))) ⟨by decide, by decide⟩ rfl ?_
          refine rk_ofs (fun _ _ _ _ _ k => lr_astore_n hx hb dX1_read_72 rfl hl (Nat.le_of_ble_eq_true rfl) [1] rfl ⟨trivial, trivial⟩ k) (fun ls hl => ?_)
          refine rk_of (fun _ _ _ _ _ k => lr_aload_n hx hb dX1_read_73 rfl (lv_at hl 1 rfl) k) ?_
          refine rk_get zm_rdR_eq C (hc_X1 H) (k := 3) (Nat.le_of_ble_eq_true rfl) in_X1 q274 (fun _ h => h) dX1_read_74 (fun v74 => ?_)
          refine rk_of (fun _ _ _ _ _ k => lv_iconst (v := 0) hx hb dX1_read_77 rfl k) ?_
          refine rk_callPV (rx_un C hT (by decide)) (cl_V (rest := []) (av := [.int 0]) C (hc_J6 H) (ct_J6_setLength H v74 0) (lw_V q2370 q2371 q2372 q109 q2373) ⟨rfl, hd_J6_setLength⟩ ⟨(Nat.le_of_ble_eq_true rfl), (Nat.le_of_ble_eq_true rfl)⟩ rfl hl.1 rfl (zw_le zw_nil (Nat.le_of_ble_eq_true rfl)) dX1_read_78) (fun _ => ?_)
          refine rk_of (fun _ _ _ _ _ k => lr_aload_n hx hb dX1_read_81 rfl (lv_at hl 0 rfl) k) ?_
          exact rk_athP H C (rx_un C hT (by decide)) dX1_read_82
        refine rk_athC H C dX1_read_71 (fun E71 q71 => ?_)
        refine rx_ite (fun h71_x => ?_) (fun _ => rx_fl)
        refine rx_any (k := 3) C hT rfl (zp_cons (Or.inl (by decide)) (zp_cons (Or.inl (by decide)) (zp_cons (Or.inl (by decide)) zp_nil))) ⟨by decide, by decide⟩ rfl ?_
        refine rk_ofs (fun _ _ _ _ _ k => lr_astore_n hx hb dX1_read_72 rfl hl (Nat.le_of_ble_eq_true rfl) [1] rfl ⟨trivial, trivial⟩ k) (fun ls hl => ?_)
        refine rk_of (fun _ _ _ _ _ k => lr_aload_n hx hb dX1_read_73 rfl (lv_at hl 1 rfl) k) ?_
        refine rk_get zm_rdR_eq C (hc_X1 H) (k := 3) (Nat.le_of_ble_eq_true rfl) in_X1 q274 (fun _ h => h) dX1_read_74 (fun v74 => ?_)
        refine rk_of (fun _ _ _ _ _ k => lv_iconst (v := 0) hx hb dX1_read_77 rfl k) ?_
        refine rk_callPV (rx_un C hT (by decide)) (cl_V (rest := []) (av := [.int 0]) C (hc_J6 H) (ct_J6_setLength H v74 0) (lw_V q2370 q2371 q2372 q109 q2373) ⟨rfl, hd_J6_setLength⟩ ⟨(Nat.le_of_ble_eq_true rfl), (Nat.le_of_ble_eq_true rfl)⟩ rfl hl.1 rfl (zw_le zw_nil (Nat.le_of_ble_eq_true rfl)) dX1_read_78) (fun _ => ?_)
        refine rk_of (fun _ _ _ _ _ k => lr_aload_n hx hb dX1_read_81 rfl (lv_at hl 0 rfl) k) ?_
        exact rk_athP H C (rx_un C hT (by decide)) dX1_read_82
      · refine rx_ite (fun h27_x => ?_) (fun _ => rx_fl)
        refine rx_any (k := 2) C hT rfl (zp_cons (Or.inr ⟨by decide, _, q1971, zh_ncs H C (L := ["java/lang/IllegalArgumentException", "java/lang/IndexOutOfBoundsException", "java/util/NoSuchElementException", "java/lang/UnsupportedOperationException", "java/lang/ArrayIndexOutOfBoundsException", "java/lang/IllegalStateException", "java/lang/StringIndexOutOfBoundsException", "java/lang/ArithmeticException"]) (by decide) h27_x⟩) (zp_cons (Or.inr ⟨by decide, _, q1152, zh_ncs H C (L := ["java/lang/IllegalArgumentException", "java/lang/IndexOutOfBoundsException", "java/util/NoSuchElementException", "java/lang/UnsupportedOperationException", "java/lang/ArrayIndexOutOfBoundsException", "java/lang/IllegalStateException", "java/lang/StringIndexOutOfBoundsException", "java/lang/ArithmeticException"]) (by decide) h27_x⟩) zp_nil)) ⟨by decide, by decide⟩ rfl ?_
        refine rk_ofs (fun _ _ _ _ _ k => lr_astore_n hx hb dX1_read_72 rfl hl (Nat.le_of_ble_eq_true rfl) [1] rfl ⟨trivial, trivial⟩ k) (fun ls hl => ?_)
        refine rk_of (fun _ _ _ _ _ k => lr_aload_n hx hb dX1_read_73 rfl (lv_at hl 1 rfl) k) ?_
        refine rk_get zm_rdR_eq C (hc_X1 H) (k := 3) (Nat.le_of_ble_eq_true rfl) in_X1 q274 (fun _ h => h) dX1_read_74 (fun v74 => ?_)
        refine rk_of (fun _ _ _ _ _ k => lv_iconst (v := 0) hx hb dX1_read_77 rfl k) ?_
        refine rk_callPV (rx_un C hT (by decide)) (cl_V (rest := []) (av := [.int 0]) C (hc_J6 H) (ct_J6_setLength H v74 0) (lw_V q2370 q2371 q2372 q109 q2373) ⟨rfl, hd_J6_setLength⟩ ⟨(Nat.le_of_ble_eq_true rfl), (Nat.le_of_ble_eq_true rfl)⟩ rfl hl.1 rfl (zw_le zw_nil (Nat.le_of_ble_eq_true rfl)) dX1_read_78) (fun _ => ?_)
        refine rk_of (fun _ _ _ _ _ k => lr_aload_n hx hb dX1_read_81 rfl (lv_at hl 0 rfl) k) ?_
        exact rk_athP H C (rx_un C hT (by decide)) dX1_read_82
  refine rk_ofs (fun _ _ _ _ _ k => lr_istore_n hx hb dX1_read_30 rfl hl (Nat.le_of_ble_eq_true rfl) [1] rfl ⟨trivial, trivial⟩ k) (fun ls hl => ?_)
  refine rk_of (fun _ _ _ _ _ k => lr_aload_n hx hb dX1_read_31 rfl (lv_at hl 1 rfl) k) ?_
  refine rk_get zm_rdR_eq C (hc_X1 H) (k := 3) (Nat.le_of_ble_eq_true rfl) in_X1 q274 (fun _ h => h) dX1_read_32 (fun v32 => ?_)
  refine rk_of (fun _ _ _ _ _ k => lv_iconst (v := 0) hx hb dX1_read_35 rfl k) ?_
  refine rk_callPV (rx_un C hT (by decide)) (cl_V (rest := []) (av := [.int 0]) C (hc_J6 H) (ct_J6_setLength H v32 0) (lw_V q2370 q2371 q2372 q109 q2373) ⟨rfl, hd_J6_setLength⟩ ⟨(Nat.le_of_ble_eq_true rfl), (Nat.le_of_ble_eq_true rfl)⟩ rfl hl.1 rfl (zw_le zw_nil (Nat.le_of_ble_eq_true rfl)) dX1_read_36) (fun _ => ?_)
  refine rk_of (fun _ _ _ _ _ k => lv_iload_n hx hb dX1_read_39 rfl (lv_at hl 0 rfl) k) ?_
  exact rk_top (rf_iret C rfl dX1_read_40)
theorem hd_X0_read : yX0_read.cls ≠ "java/lang/invoke/MethodHandle" ∧ yX0_read.cls ≠ "java/lang/invoke/VarHandle" ∧ (parseMethodDescriptor yX0_read.desc).map (fun d => d.parameters.length) = some 2 := by decide +kernel
noncomputable def fn_X0_read (K : zm_K) (a0 : zm_R) (a1 : zm_R) : zm_M Int32 :=
  zm_cth (zm_bnd (zm_is a0 18) fun _ => fn_X1_read K a0) (fun (E3 : String) (q3 : Nat) =>
      if E3 ∈ (["java/lang/IllegalArgumentException"] : List String) then
        zm_ret 1
      else
        if E3 ∈ (["java/lang/UnsupportedOperationException"] : List String) then
          zm_ret 2
        else
          if E3 ∈ (["java/lang/IndexOutOfBoundsException", "java/util/NoSuchElementException", "java/lang/ArrayIndexOutOfBoundsException", "java/lang/IllegalStateException", "java/lang/StringIndexOutOfBoundsException", "java/lang/ArithmeticException", "BoxSpans$Refusal", "BoxSpans$TextError"] : List String) then
            zm_thr E3 q3
          else
            zm_fl
    ) fun v3 =>
  zm_bnd (zm_astJ K a1 0 ((v3).toInt64)) fun _ =>
  zm_ret 0
theorem ct_X0_read {l : Launch} {Ω : zm_W} {K : zm_K} (H : zm_H Ω K) (a0 : zm_R) (a1 : zm_R) : zm_Ct l Ω yX0_read (wsW_ yX0_read cX0_read 3 (Option.some Jvm.ClassFile.FieldType.int) [(0, 8, 11, 13), (0, 8, 14, 15)]) 24 3289 [va_rf a0, va_rf a1] zm_tvI (fn_X0_read K a0 a1) := by
  refine zm_ctW H.1 (by decide +kernel) (zl_le (zl_R (zl_R zl_nil)) (Nat.le_of_ble_eq_true rfl)) ?_
  intro p e R s m args below meth c n0 k0 C hN hT ls hl
  have hx := C.1
  have hb := C.2.1
  simp only [zg_R, zg_nil] at hl
  have hl : lv_has ls 3 [(0, va_rf a0), (1, va_rf a1)] := hl
  refine rk_rf ?_
  unfold fn_X0_read
  refine rk_of (fun _ _ _ _ _ k => lr_aload_n hx hb dX0_read_0 rfl (lv_at hl 1 rfl) (lv_iconst (v := 0) hx hb dX0_read_1 rfl (lr_aload_n hx hb dX0_read_2 rfl (lv_at hl 0 rfl) k))) ?_
  refine rk_cthI (cl_VX (rest := [.int 0, va_rf a1]) (av := []) C (hc_X1 H) (ct_X1_read H a0) (lw_VW q1967 q1968 q1969 q101 q1970) ⟨rfl, hd_X1_read⟩ ⟨(Nat.le_of_ble_eq_true rfl), (Nat.le_of_ble_eq_true rfl)⟩ rfl hl.1 rfl (zw_le (zw_I (zw_R zw_nil)) (Nat.le_of_ble_eq_true rfl)) dX0_read_3) (fun E3 q3 => ?_) (fun v3 => ?_)
  · refine rx_ite (fun h3_0 => ?_) (fun h3_0 => ?_)
    · refine rx_cat (k := 0) C hT rfl zp_nil ⟨by decide, by decide⟩ (by decide) q1126 ((zp_cons (P := fun E => (Cond.castable E "java/lang/IllegalArgumentException").before args s = true) (zn_wC H C q597) zp_nil) E3 h3_0) ?_
      refine rk_ofs (fun _ _ _ _ _ k => lr_astore_n hx hb dX0_read_11 rfl hl (Nat.le_of_ble_eq_true rfl) [] rfl trivial k) (fun ls hl => ?_)
      refine rk_of (fun _ _ _ _ _ k => lv_iconst (v := 1) hx hb dX0_read_12 rfl k) ?_
      exact rk_top (rf_iret C rfl dX0_read_13)
    · refine rx_ite (fun h3_1 => ?_) (fun h3_1 => ?_)
      · refine rx_cat (k := 1) C hT rfl (zp_cons (Or.inr ⟨by decide, _, q1126, zh_ncs H C (L := ["java/lang/UnsupportedOperationException"]) (by decide) h3_1⟩) zp_nil) ⟨by decide, by decide⟩ (by decide) q1127 ((zp_cons (P := fun E => (Cond.castable E "java/lang/UnsupportedOperationException").before args s = true) (zn_wC H C q1357) zp_nil) E3 h3_1) ?_
        refine rk_ofs (fun _ _ _ _ _ k => lr_astore_n hx hb dX0_read_14 rfl hl (Nat.le_of_ble_eq_true rfl) [] rfl trivial k) (fun ls hl => ?_)
        refine rk_of (fun _ _ _ _ _ k => lv_iconst (v := 2) hx hb dX0_read_15 rfl k) ?_
        exact rk_top (rf_iret C rfl dX0_read_16)
      · refine rx_ite (fun h3_x => ?_) (fun _ => rx_fl)
        exact rx_out C hT (zp_cons (Or.inr ⟨by decide, _, q1126, zh_ncs H C (L := ["java/lang/IndexOutOfBoundsException", "java/util/NoSuchElementException", "java/lang/ArrayIndexOutOfBoundsException", "java/lang/IllegalStateException", "java/lang/StringIndexOutOfBoundsException", "java/lang/ArithmeticException", "BoxSpans$Refusal", "BoxSpans$TextError"]) (by decide) h3_x⟩) (zp_cons (Or.inr ⟨by decide, _, q1127, zh_ncs H C (L := ["java/lang/IndexOutOfBoundsException", "java/util/NoSuchElementException", "java/lang/ArrayIndexOutOfBoundsException", "java/lang/IllegalStateException", "java/lang/StringIndexOutOfBoundsException", "java/lang/ArithmeticException", "BoxSpans$Refusal", "BoxSpans$TextError"]) (by decide) h3_x⟩) zp_nil))
  refine rk_of (fun _ _ _ _ _ k => lv_i2l hx hb dX0_read_6 rfl k) ?_
  refine rk_last C H.2.2.1 dX0_read_7 ?_
  refine rk_of (fun _ _ _ _ _ k => lv_goto (tgt := 17) hx hb dX0_read_8 (by decide) (lv_iconst (v := 0) hx hb dX0_read_17 rfl k)) ?_
  exact rk_top (rf_iret C rfl dX0_read_18)
theorem hd_X1_errorPosition : yX1_errorPosition.cls ≠ "java/lang/invoke/MethodHandle" ∧ yX1_errorPosition.cls ≠ "java/lang/invoke/VarHandle" ∧ (parseMethodDescriptor yX1_errorPosition.desc).map (fun d => d.parameters.length) = some 0 := by decide +kernel
noncomputable def fn_X1_errorPosition (K : zm_K) (a0 : zm_R) : zm_M Int32 :=
  zm_bnd (zm_getI a0 18 4) fun v1 =>
  zm_bnd (α := Int32) (
      if v1 = (-1) then
        zm_ret 0
      else
        zm_ret 1
    ) fun b13 =>
  zm_bnd (fn_X1_requireElement K b13) fun _ =>
  zm_bnd (zm_getI a0 18 4) fun v17 =>
  zm_ret v17
theorem ct_X1_errorPosition {l : Launch} {Ω : zm_W} {K : zm_K} (H : zm_H Ω K) (a0 : zm_R) : zm_Ct l Ω yX1_errorPosition (ws_ yX1_errorPosition cX1_errorPosition 1 (Option.some Jvm.ClassFile.FieldType.int)) 9 228 [va_rf a0] zm_tvI (fn_X1_errorPosition K a0) := by
  refine zm_ct H.1 (by decide +kernel) (zl_le (zl_R zl_nil) (Nat.le_of_ble_eq_true rfl)) ?_
  intro p e R s m args below meth c n0 k0 C hX ls hl
  have hx := C.1
  have hb := C.2.1
  simp only [zg_R, zg_nil] at hl
  have hl : lv_has ls 1 [(0, va_rf a0)] := hl
  refine rk_rf ?_
  unfold fn_X1_errorPosition
  refine rk_of (fun _ _ _ _ _ k => lr_aload_n hx hb dX1_errorPosition_0 rfl (lv_at hl 0 rfl) k) ?_
  refine rk_get zm_rdI_eq C (hc_X1 H) (k := 4) (Nat.le_of_ble_eq_true rfl) in_X1 q275 (fun _ h => h) dX1_errorPosition_1 (fun v1 => ?_)
  refine rk_of (fun _ _ _ _ _ k => lv_iconst (v := (-1)) hx hb dX1_errorPosition_4 rfl k) ?_
  refine rk_join (β := Int32) (fun (b13 : Int32) ls => lv_has ls 1 [(0, va_rf a0)]) (fun (b13 : Int32) ls => F0 m 13 ls [.int b13]) (fun b13 ls hl => ?_) (fun hJ13 => ?_)
  · refine rk_callV hX (cl_S (rest := []) C (ct_X1_requireElement H b13) (lw_S q1717 q1718 q101 q1719) hd_X1_requireElement ⟨(Nat.le_of_ble_eq_true rfl), (Nat.le_of_ble_eq_true rfl)⟩ rfl hl.1 rfl (zw_le zw_nil (Nat.le_of_ble_eq_true rfl)) dX1_errorPosition_13) (fun _ => ?_)
    refine rk_of (fun _ _ _ _ _ k => lr_aload_n hx hb dX1_errorPosition_16 rfl (lv_at hl 0 rfl) k) ?_
    refine rk_get zm_rdI_eq C (hc_X1 H) (k := 4) (Nat.le_of_ble_eq_true rfl) in_X1 q275 (fun _ h => h) dX1_errorPosition_17 (fun v17 => ?_)
    exact rk_top (rf_iret C rfl dX1_errorPosition_20)
  · refine rk_ite (fun _ _ _ _ _ k1 k2 => lv_icmp_eq (tgt := 12) hx hb dX1_errorPosition_5 (by decide) k1 k2) (fun c_5 => ?_) (fun c_5 => ?_)
    · refine rk_of (fun _ _ _ _ _ k => lv_iconst (v := 0) hx hb dX1_errorPosition_12 rfl k) ?_
      exact hJ13 0 ls (lv_sub hl [0] rfl)
    · refine rk_of (fun _ _ _ _ _ k => lv_iconst (v := 1) hx hb dX1_errorPosition_8 rfl (lv_goto (tgt := 13) hx hb dX1_errorPosition_9 (by decide) k)) ?_
      exact hJ13 1 ls (lv_sub hl [0] rfl)
theorem hd_X0_errorPosition : yX0_errorPosition.cls ≠ "java/lang/invoke/MethodHandle" ∧ yX0_errorPosition.cls ≠ "java/lang/invoke/VarHandle" ∧ (parseMethodDescriptor yX0_errorPosition.desc).map (fun d => d.parameters.length) = some 2 := by decide +kernel
noncomputable def fn_X0_errorPosition (K : zm_K) (a0 : zm_R) (a1 : zm_R) : zm_M Int32 :=
  zm_cth (zm_bnd (zm_is a0 18) fun _ => fn_X1_errorPosition K a0) (fun (E3 : String) (q3 : Nat) =>
      if E3 ∈ (["java/util/NoSuchElementException"] : List String) then
        zm_ret 1
      else
        if E3 ∈ (["java/lang/IllegalArgumentException", "java/lang/IndexOutOfBoundsException", "java/lang/UnsupportedOperationException", "java/lang/ArrayIndexOutOfBoundsException", "java/lang/IllegalStateException", "java/lang/StringIndexOutOfBoundsException", "java/lang/ArithmeticException", "BoxSpans$Refusal", "BoxSpans$TextError"] : List String) then
          zm_thr E3 q3
        else
          zm_fl
    ) fun v3 =>
  zm_bnd (zm_astJ K a1 0 ((v3).toInt64)) fun _ =>
  zm_ret 0
theorem ct_X0_errorPosition {l : Launch} {Ω : zm_W} {K : zm_K} (H : zm_H Ω K) (a0 : zm_R) (a1 : zm_R) : zm_Ct l Ω yX0_errorPosition (wsW_ yX0_errorPosition cX0_errorPosition 3 (Option.some Jvm.ClassFile.FieldType.int) [(0, 8, 11, 62)]) 10 248 [va_rf a0, va_rf a1] zm_tvI (fn_X0_errorPosition K a0 a1) := by
  refine zm_ctW H.1 (by decide +kernel) (zl_le (zl_R (zl_R zl_nil)) (Nat.le_of_ble_eq_true rfl)) ?_
  intro p e R s m args below meth c n0 k0 C hN hT ls hl
  have hx := C.1
  have hb := C.2.1
  simp only [zg_R, zg_nil] at hl
  have hl : lv_has ls 3 [(0, va_rf a0), (1, va_rf a1)] := hl
  refine rk_rf ?_
  unfold fn_X0_errorPosition
  refine rk_of (fun _ _ _ _ _ k => lr_aload_n hx hb dX0_errorPosition_0 rfl (lv_at hl 1 rfl) (lv_iconst (v := 0) hx hb dX0_errorPosition_1 rfl (lr_aload_n hx hb dX0_errorPosition_2 rfl (lv_at hl 0 rfl) k))) ?_
  refine rk_cthI (cl_V (rest := [.int 0, va_rf a1]) (av := []) C (hc_X1 H) (ct_X1_errorPosition H a0) (lw_V q2429 q2430 q2431 q101 q2432) ⟨rfl, hd_X1_errorPosition⟩ ⟨(Nat.le_of_ble_eq_true rfl), (Nat.le_of_ble_eq_true rfl)⟩ rfl hl.1 rfl (zw_le (zw_I (zw_R zw_nil)) (Nat.le_of_ble_eq_true rfl)) dX0_errorPosition_3) (fun E3 q3 => ?_) (fun v3 => ?_)
  · refine rx_ite (fun h3_0 => ?_) (fun h3_0 => ?_)
    · refine rx_cat (k := 0) C hT rfl zp_nil ⟨by decide, by decide⟩ (by decide) q1697 ((zp_cons (P := fun E => (Cond.castable E "java/util/NoSuchElementException").before args s = true) (zn_wC H C q788) zp_nil) E3 h3_0) ?_
      refine rk_ofs (fun _ _ _ _ _ k => lr_astore_n hx hb dX0_errorPosition_11 rfl hl (Nat.le_of_ble_eq_true rfl) [] rfl trivial k) (fun ls hl => ?_)
      refine rk_of (fun _ _ _ _ _ k => lv_iconst (v := 1) hx hb dX0_errorPosition_12 rfl k) ?_
      exact rk_top (rf_iret C rfl dX0_errorPosition_13)
    · refine rx_ite (fun h3_x => ?_) (fun _ => rx_fl)
      exact rx_out C hT (zp_cons (Or.inr ⟨by decide, _, q1697, zh_ncs H C (L := ["java/lang/IllegalArgumentException", "java/lang/IndexOutOfBoundsException", "java/lang/UnsupportedOperationException", "java/lang/ArrayIndexOutOfBoundsException", "java/lang/IllegalStateException", "java/lang/StringIndexOutOfBoundsException", "java/lang/ArithmeticException", "BoxSpans$Refusal", "BoxSpans$TextError"]) (by decide) h3_x⟩) zp_nil)
  refine rk_of (fun _ _ _ _ _ k => lv_i2l hx hb dX0_errorPosition_6 rfl k) ?_
  refine rk_last C H.2.2.1 dX0_errorPosition_7 ?_
  refine rk_of (fun _ _ _ _ _ k => lv_goto (tgt := 14) hx hb dX0_errorPosition_8 (by decide) (lv_iconst (v := 0) hx hb dX0_errorPosition_14 rfl k)) ?_
  exact rk_top (rf_iret C rfl dX0_errorPosition_15)
theorem hd_X4_number : yX4_number.cls ≠ "java/lang/invoke/MethodHandle" ∧ yX4_number.cls ≠ "java/lang/invoke/VarHandle" ∧ (parseMethodDescriptor yX4_number.desc).map (fun d => d.parameters.length) = some 1 := by decide +kernel
noncomputable def fn_X4_number (K : zm_K) (a0 : zm_R) (a1 : Int32) : zm_M Int32 :=
  if a1 = 0 then
    zm_bnd (zm_getI a0 21 6) fun v12 =>
    zm_ret v12
  else
    zm_bnd (zm_getI a0 21 7) fun v5 =>
    zm_ret v5
theorem ct_X4_number {l : Launch} {Ω : zm_W} {K : zm_K} (H : zm_H Ω K) (a0 : zm_R) (a1 : Int32) : zm_Ct l Ω yX4_number (ws_ yX4_number cX4_number 2 (Option.some Jvm.ClassFile.FieldType.int)) 1 64 [va_rf a0, .int a1] zm_tvI (fn_X4_number K a0 a1) := by
  refine zm_ct H.1 (by decide +kernel) (zl_le (zl_R (zl_I zl_nil)) (Nat.le_of_ble_eq_true rfl)) ?_
  intro p e R s m args below meth c n0 k0 C hX ls hl
  have hx := C.1
  have hb := C.2.1
  simp only [zg_I, zg_R, zg_nil] at hl
  have hl : lv_has ls 2 [(0, va_rf a0), (1, .int a1)] := hl
  refine rk_rf ?_
  unfold fn_X4_number
  refine rk_ite (fun _ _ _ _ _ k1 k2 => lv_iload_n hx hb dX4_number_0 rfl (lv_at hl 1 rfl) (lv_if_eq (tgt := 11) hx hb dX4_number_1 (by decide) k1 k2)) (fun c_1 => ?_) (fun c_1 => ?_)
  · refine rk_of (fun _ _ _ _ _ k => lr_aload_n hx hb dX4_number_11 rfl (lv_at hl 0 rfl) k) ?_
    refine rk_get zm_rdI_eq C (hc_X4 H) (k := 6) (Nat.le_of_ble_eq_true rfl) in_X4 q1170 (fun _ h => h) dX4_number_12 (fun v12 => ?_)
    exact rk_top (rf_iret C rfl dX4_number_15)
  · refine rk_of (fun _ _ _ _ _ k => lr_aload_n hx hb dX4_number_4 rfl (lv_at hl 0 rfl) k) ?_
    refine rk_get zm_rdI_eq C (hc_X4 H) (k := 7) (Nat.le_of_ble_eq_true rfl) in_X4 q1171 (fun _ h => h) dX4_number_5 (fun v5 => ?_)
    refine rk_of (fun _ _ _ _ _ k => lv_goto (tgt := 15) hx hb dX4_number_8 (by decide) k) ?_
    exact rk_top (rf_iret C rfl dX4_number_15)
theorem hd_X1_refusal : yX1_refusal.cls ≠ "java/lang/invoke/MethodHandle" ∧ yX1_refusal.cls ≠ "java/lang/invoke/VarHandle" ∧ (parseMethodDescriptor yX1_refusal.desc).map (fun d => d.parameters.length) = some 2 := by decide +kernel
noncomputable def fn_X1_refusal (K : zm_K) (a0 : zm_R) (a1 : Int32) (a2 : Int32) : zm_M Int32 :=
  zm_bnd (zm_getR a0 18 5) fun v1 =>
  zm_bnd (α := Int32) (
      if v1 = none then
        zm_ret 0
      else
        zm_ret 1
    ) fun b12 =>
  zm_bnd (fn_X1_requireElement K b12) fun _ =>
  if a1 = 0 then
    zm_bnd (zm_getR a0 18 5) fun v20 =>
    zm_bnd (zm_bnd (zm_is v20 21) fun _ => fn_X4_number K v20 a2) fun v24 =>
    zm_ret v24
  else
    zm_bnd (zm_getR a0 18 5) fun v29 =>
    zm_bnd (zm_cau K v29 21 0) fun v32 =>
    zm_bnd (zm_ins [21] v32) fun v39 =>
    if v39 = 0 then
      zm_bnd (zm_new 12 [.null, .null, .null, .null, .null, .int 0]) fun v57 =>
      zm_bnd (fn_J26_init K (some v57)) fun _ =>
      zm_ath (some v57)
    else
      zm_bnd (zm_chk [21] [] v32) fun _ =>
      zm_bnd (zm_bnd (zm_is v32 21) fun _ => fn_X4_number K v32 a2) fun v53 =>
      zm_ret v53
theorem ct_X1_refusal {l : Launch} {Ω : zm_W} {K : zm_K} (H : zm_H Ω K) (a0 : zm_R) (a1 : Int32) (a2 : Int32) : zm_Ct l Ω yX1_refusal (ws_ yX1_refusal cX1_refusal 5 (Option.some Jvm.ClassFile.FieldType.int)) 9 228 [va_rf a0, .int a1, .int a2] zm_tvI (fn_X1_refusal K a0 a1 a2) := by
  refine zm_ct H.1 (by decide +kernel) (zl_le (zl_R (zl_I (zl_I zl_nil))) (Nat.le_of_ble_eq_true rfl)) ?_
  intro p e R s m args below meth c n0 k0 C hX ls hl
  have hx := C.1
  have hb := C.2.1
  simp only [zg_I, zg_R, zg_nil] at hl
  have hl : lv_has ls 5 [(0, va_rf a0), (1, .int a1), (2, .int a2)] := hl
  refine rk_rf ?_
  unfold fn_X1_refusal
  refine rk_of (fun _ _ _ _ _ k => lr_aload_n hx hb dX1_refusal_0 rfl (lv_at hl 0 rfl) k) ?_
  refine rk_get zm_rdR_eq C (hc_X1 H) (k := 5) (Nat.le_of_ble_eq_true rfl) in_X1 q276 (fun _ h => h) dX1_refusal_1 (fun v1 => ?_)
  refine rk_join (β := Int32) (fun (b12 : Int32) ls => lv_has ls 5 [(0, va_rf a0), (1, .int a1), (2, .int a2)]) (fun (b12 : Int32) ls => F0 m 12 ls [.int b12]) (fun b12 ls hl => ?_) (fun hJ12 => ?_)
  · refine rk_callV hX (cl_S (rest := []) C (ct_X1_requireElement H b12) (lw_S q1717 q1718 q101 q1719) hd_X1_requireElement ⟨(Nat.le_of_ble_eq_true rfl), (Nat.le_of_ble_eq_true rfl)⟩ rfl hl.1 rfl (zw_le zw_nil (Nat.le_of_ble_eq_true rfl)) dX1_refusal_12) (fun _ => ?_)
    refine rk_ite (fun _ _ _ _ _ k1 k2 => lv_iload_n hx hb dX1_refusal_15 rfl (lv_at hl 1 rfl) (lv_if_ne (tgt := 28) hx hb dX1_refusal_16 (by decide) k2 k1)) (fun c_16 => ?_) (fun c_16 => ?_)
    · refine rk_of (fun _ _ _ _ _ k => lr_aload_n hx hb dX1_refusal_19 rfl (lv_at hl 0 rfl) k) ?_
      refine rk_get zm_rdR_eq C (hc_X1 H) (k := 5) (Nat.le_of_ble_eq_true rfl) in_X1 q276 (fun _ h => h) dX1_refusal_20 (fun v20 => ?_)
      refine rk_of (fun _ _ _ _ _ k => lv_iload_n hx hb dX1_refusal_23 rfl (lv_at hl 2 rfl) k) ?_
      refine rk_callI hX (cl_V (rest := []) (av := [.int a2]) C (hc_X4 H) (ct_X4_number H v20 a2) (lw_V q2440 q2441 q2442 q117 q2443) ⟨rfl, hd_X4_number⟩ ⟨(Nat.le_of_ble_eq_true rfl), (Nat.le_of_ble_eq_true rfl)⟩ rfl hl.1 rfl (zw_le zw_nil (Nat.le_of_ble_eq_true rfl)) dX1_refusal_24) (fun v24 => ?_)
      exact rk_top (rf_iret C rfl dX1_refusal_27)
    · refine rk_of (fun _ _ _ _ _ k => lr_aload_n hx hb dX1_refusal_28 rfl (lv_at hl 0 rfl) k) ?_
      refine rk_get zm_rdR_eq C (hc_X1 H) (k := 5) (Nat.le_of_ble_eq_true rfl) in_X1 q276 (fun _ h => h) dX1_refusal_29 (fun v29 => ?_)
      refine rk_cau H C (zh_thr H C) (hc_X4 H) (Nat.le_of_ble_eq_true rfl) rfl q2444 ⟨rfl, rfl⟩ (C.2.2.2.1 _ q2445) (zn_wD H C q2446) (C.2.2.2.1 _ q2447) (C.2.2.2.1 _ q2448) (C.2.2.2.1 _ q2449) (Nat.le_of_ble_eq_true rfl) (zw_ad zw_nil (Nat.le_of_ble_eq_true rfl)) hl.1 dX1_refusal_32 (fun v32 => ?_)
      refine rk_ofs (fun _ _ _ _ _ k => lr_astore hx hb dX1_refusal_35 hl (Nat.le_of_ble_eq_true rfl) [2] rfl ⟨trivial, trivial⟩ k) (fun ls hl => ?_)
      refine rk_of (fun _ _ _ _ _ k => lr_aload hx hb dX1_refusal_37 (lv_at hl 0 rfl) k) ?_
      refine rk_inst C q1152 (zc_cons (zc_s (hc_X4 H)) zc_nil) dX1_refusal_39 (fun v39 => ?_)
      refine rk_ite (fun _ _ _ _ _ k1 k2 => lv_if_eq (tgt := 57) hx hb dX1_refusal_42 (by decide) k1 k2) (fun c_42 => ?_) (fun c_42 => ?_)
      · refine rk_new C (hc_J26 H) in_J26 tyJ26_ok q1720 q787 q134 (fs := [.null, .null, .null, .null, .null, .int 0]) rfl (fun j hj => zdf_J26 j hj) dX1_refusal_57 (fun v57 => ?_)
        refine rk_of (fun _ _ _ _ _ k => lv_dup hx hb dX1_refusal_60 (va_rf_cat _) k) ?_
        refine rk_callV hX (cl_I (rest := [va_rf (some v57)]) C (ct_J26_init H (some v57)) (lw_meth q797) q134 q1721 q796 rfl hd_J26_init ⟨(Nat.le_of_ble_eq_true rfl), (Nat.le_of_ble_eq_true rfl)⟩ rfl hl.1 rfl (zw_le (zw_R zw_nil) (Nat.le_of_ble_eq_true rfl)) dX1_refusal_61) (fun _ => ?_)
        exact rk_ath H C hX dX1_refusal_64
      · refine rk_of (fun _ _ _ _ _ k => lr_aload hx hb dX1_refusal_45 (lv_at hl 0 rfl) k) ?_
        refine rk_chk C q1152 (zc_cons (zc_s (hc_X4 H)) zc_nil) zp_nil dX1_refusal_47 ?_
        refine rk_ofs (fun _ _ _ _ _ k => lr_astore_n hx hb dX1_refusal_50 rfl hl (Nat.le_of_ble_eq_true rfl) [1] rfl ⟨rfl, trivial⟩ k) (fun ls hl => ?_)
        refine rk_of (fun _ _ _ _ _ k => lr_aload_n hx hb dX1_refusal_51 rfl (lv_at hl 0 rfl) (lv_iload_n hx hb dX1_refusal_52 rfl (lv_at hl 1 rfl) k)) ?_
        refine rk_callI hX (cl_V (rest := []) (av := [.int a2]) C (hc_X4 H) (ct_X4_number H v32 a2) (lw_V q2440 q2441 q2442 q117 q2443) ⟨rfl, hd_X4_number⟩ ⟨(Nat.le_of_ble_eq_true rfl), (Nat.le_of_ble_eq_true rfl)⟩ rfl hl.1 rfl (zw_le zw_nil (Nat.le_of_ble_eq_true rfl)) dX1_refusal_53) (fun v53 => ?_)
        exact rk_top (rf_iret C rfl dX1_refusal_56)
  · refine rk_ite (fun _ _ _ _ _ k1 k2 => lr_ifnull (tgt := 11) hx hb dX1_refusal_4 (by decide) k1 k2) (fun c_4 => ?_) (fun c_4 => ?_)
    · refine rk_of (fun _ _ _ _ _ k => lv_iconst (v := 0) hx hb dX1_refusal_11 rfl k) ?_
      exact hJ12 0 ls (lv_sub hl [0, 1, 2] rfl)
    · refine rk_of (fun _ _ _ _ _ k => lv_iconst (v := 1) hx hb dX1_refusal_7 rfl (lv_goto (tgt := 12) hx hb dX1_refusal_8 (by decide) k)) ?_
      exact hJ12 1 ls (lv_sub hl [0, 1, 2] rfl)
theorem hd_X0_refusal : yX0_refusal.cls ≠ "java/lang/invoke/MethodHandle" ∧ yX0_refusal.cls ≠ "java/lang/invoke/VarHandle" ∧ (parseMethodDescriptor yX0_refusal.desc).map (fun d => d.parameters.length) = some 4 := by decide +kernel
noncomputable def fn_X0_refusal (K : zm_K) (a0 : zm_R) (a1 : Int32) (a2 : Int32) (a3 : zm_R) : zm_M Int32 :=
  zm_cth (zm_bnd (zm_is a0 18) fun _ => fn_X1_refusal K a0 a1 a2) (fun (E5 : String) (q5 : Nat) =>
      if E5 ∈ (["java/util/NoSuchElementException"] : List String) then
        zm_ret 1
      else
        if E5 ∈ (["java/lang/IllegalArgumentException", "java/lang/IndexOutOfBoundsException", "java/lang/UnsupportedOperationException", "java/lang/ArrayIndexOutOfBoundsException", "java/lang/IllegalStateException", "java/lang/StringIndexOutOfBoundsException", "java/lang/ArithmeticException", "BoxSpans$Refusal", "BoxSpans$TextError"] : List String) then
          zm_thr E5 q5
        else
          zm_fl
    ) fun v5 =>
  zm_bnd (zm_astJ K a3 0 ((v5).toInt64)) fun _ =>
  zm_ret 0
theorem ct_X0_refusal {l : Launch} {Ω : zm_W} {K : zm_K} (H : zm_H Ω K) (a0 : zm_R) (a1 : Int32) (a2 : Int32) (a3 : zm_R) : zm_Ct l Ω yX0_refusal (wsW_ yX0_refusal cX0_refusal 5 (Option.some Jvm.ClassFile.FieldType.int) [(0, 10, 13, 62)]) 10 252 [va_rf a0, .int a1, .int a2, va_rf a3] zm_tvI (fn_X0_refusal K a0 a1 a2 a3) := by
  refine zm_ctW H.1 (by decide +kernel) (zl_le (zl_R (zl_I (zl_I (zl_R zl_nil)))) (Nat.le_of_ble_eq_true rfl)) ?_
  intro p e R s m args below meth c n0 k0 C hN hT ls hl
  have hx := C.1
  have hb := C.2.1
  simp only [zg_I, zg_R, zg_nil] at hl
  have hl : lv_has ls 5 [(0, va_rf a0), (1, .int a1), (2, .int a2), (3, va_rf a3)] := hl
  refine rk_rf ?_
  unfold fn_X0_refusal
  refine rk_of (fun _ _ _ _ _ k => lr_aload_n hx hb dX0_refusal_0 rfl (lv_at hl 3 rfl) (lv_iconst (v := 0) hx hb dX0_refusal_1 rfl (lr_aload_n hx hb dX0_refusal_2 rfl (lv_at hl 0 rfl) (lv_iload_n hx hb dX0_refusal_3 rfl (lv_at hl 1 rfl) (lv_iload_n hx hb dX0_refusal_4 rfl (lv_at hl 2 rfl) k))))) ?_
  refine rk_cthI (cl_V (rest := [.int 0, va_rf a3]) (av := [.int a1, .int a2]) C (hc_X1 H) (ct_X1_refusal H a0 a1 a2) (lw_V q2436 q2437 q2438 q101 q2439) ⟨rfl, hd_X1_refusal⟩ ⟨(Nat.le_of_ble_eq_true rfl), (Nat.le_of_ble_eq_true rfl)⟩ rfl hl.1 rfl (zw_le (zw_I (zw_R zw_nil)) (Nat.le_of_ble_eq_true rfl)) dX0_refusal_5) (fun E5 q5 => ?_) (fun v5 => ?_)
  · refine rx_ite (fun h5_0 => ?_) (fun h5_0 => ?_)
    · refine rx_cat (k := 0) C hT rfl zp_nil ⟨by decide, by decide⟩ (by decide) q1697 ((zp_cons (P := fun E => (Cond.castable E "java/util/NoSuchElementException").before args s = true) (zn_wC H C q788) zp_nil) E5 h5_0) ?_
      refine rk_ofs (fun _ _ _ _ _ k => lr_astore hx hb dX0_refusal_13 hl (Nat.le_of_ble_eq_true rfl) [] rfl trivial k) (fun ls hl => ?_)
      refine rk_of (fun _ _ _ _ _ k => lv_iconst (v := 1) hx hb dX0_refusal_15 rfl k) ?_
      exact rk_top (rf_iret C rfl dX0_refusal_16)
    · refine rx_ite (fun h5_x => ?_) (fun _ => rx_fl)
      exact rx_out C hT (zp_cons (Or.inr ⟨by decide, _, q1697, zh_ncs H C (L := ["java/lang/IllegalArgumentException", "java/lang/IndexOutOfBoundsException", "java/lang/UnsupportedOperationException", "java/lang/ArrayIndexOutOfBoundsException", "java/lang/IllegalStateException", "java/lang/StringIndexOutOfBoundsException", "java/lang/ArithmeticException", "BoxSpans$Refusal", "BoxSpans$TextError"]) (by decide) h5_x⟩) zp_nil)
  refine rk_of (fun _ _ _ _ _ k => lv_i2l hx hb dX0_refusal_8 rfl k) ?_
  refine rk_last C H.2.2.1 dX0_refusal_9 ?_
  refine rk_of (fun _ _ _ _ _ k => lv_goto (tgt := 17) hx hb dX0_refusal_10 (by decide) (lv_iconst (v := 0) hx hb dX0_refusal_17 rfl k)) ?_
  exact rk_top (rf_iret C rfl dX0_refusal_18)
theorem hd_X2_byMinutes : yX2_byMinutes.cls ≠ "java/lang/invoke/MethodHandle" ∧ yX2_byMinutes.cls ≠ "java/lang/invoke/VarHandle" ∧ (parseMethodDescriptor yX2_byMinutes.desc).map (fun d => d.parameters.length) = some 1 := by decide +kernel
noncomputable def fn_X2_byMinutes_56 (K : zm_K) (p1 : Int32) (p2 : zm_R) (p3 : zm_R) (p4 : zm_R) (p6 : zm_R) : Nat → Int32 → zm_M (Int32)
  | 0, _ => zm_fl
  | n + 1, x5 =>
    zm_bnd (zm_bnd (zm_cls p6) fun ci => if ci = 26 then fn_X10_hasNext K p6 else if ci = 9 then fn_J22_hasNext K p6 else if ci = 11 then fn_J25_hasNext K p6 else zm_fl) fun v58 =>
    if v58 = 0 then
      zm_ret x5
    else
      zm_bnd (zm_bnd (zm_cls p6) fun ci => if ci = 26 then fn_X10_next K p6 else if ci = 9 then fn_J22_next K p6 else if ci = 11 then fn_J25_next K p6 else zm_fl) fun v68 =>
      zm_bnd (zm_chk [23] [] v68) fun _ =>
      zm_bnd (zm_bnd (zm_is v68 23) fun _ => fn_X6_from K v68) fun v82 =>
      zm_bnd (zm_bnd (zm_is p4 23) fun _ => fn_X6_from K p4) fun v87 =>
      zm_bnd (α := Int32) (
          if v87 ≤ v82 then
            zm_ret 0
          else
            zm_ret 1
        ) fun b98 =>
      fn_X2_byMinutes_56 K p1 p2 p3 p4 p6 n (x5 + b98)
noncomputable def fn_X2_byMinutes_18 (K : zm_K) (p1 : Int32) (p2 : zm_R) (p3 : zm_R) : Nat → zm_M (Unit)
  | 0 => zm_fl
  | n + 1 =>
    zm_bnd (zm_bnd (zm_cls p3) fun ci => if ci = 26 then fn_X10_hasNext K p3 else if ci = 9 then fn_J22_hasNext K p3 else if ci = 11 then fn_J25_hasNext K p3 else zm_fl) fun v19 =>
    if v19 = 0 then
      zm_ret ()
    else
      zm_bnd (zm_bnd (zm_cls p3) fun ci => if ci = 26 then fn_X10_next K p3 else if ci = 9 then fn_J22_next K p3 else if ci = 11 then fn_J25_next K p3 else zm_fl) fun v28 =>
      zm_bnd (zm_chk [23] [] v28) fun _ =>
      zm_bnd (zm_bnd (zm_is v28 23) fun _ => fn_X6_isIn K v28 p1) fun v41 =>
      if v41 = 0 then
        fn_X2_byMinutes_18 K p1 p2 p3 n
      else
        zm_bnd (zm_bnd (zm_is p2 1) fun _ => fn_J3_iterator K p2) fun v51 =>
        zm_bnd (α := Int32) (fn_X2_byMinutes_56 K p1 p2 p3 v28 v51 zm_N 0) fun b104 =>
        zm_bnd (zm_bnd (zm_is p2 1) fun _ => fn_J4_add_2 K p2 b104 v28) fun _ =>
        fn_X2_byMinutes_18 K p1 p2 p3 n
noncomputable def fn_X2_byMinutes (K : zm_K) (a0 : zm_R) (a1 : Int32) : zm_M zm_R :=
  zm_bnd (zm_new 1 [.int 0, .int 0, .null, .null]) fun v0 =>
  zm_bnd (fn_J4_init K (some v0)) fun _ =>
  zm_bnd (zm_getR a0 19 1) fun v9 =>
  zm_bnd (zm_bnd (zm_cls v9) fun ci => if ci = 0 then fn_J2_iterator K v9 else if ci = 1 then fn_J3_iterator K v9 else zm_fl) fun v12 =>
  zm_bnd (α := Unit) (fn_X2_byMinutes_18 K a1 (some v0) v12 zm_N) fun (_ : Unit) =>
  zm_ret (some v0)
theorem rf_X2_byMinutes_56 (H : zm_H Ω K) (C : zm_C p l R s m args meth c Ω lw_all cX2_byMinutes yX2_byMinutes.cls yX2_byMinutes.name 8 17 415 (Option.some (Jvm.ClassFile.FieldType.object "java/util/List"))) (hX : zm_XO p l e R s m args below meth c Ω n0 k0 (zm_QFs below args s Ω n0 k0 zm_tvR)) (p1 : Int32) (p2 : zm_R) (p3 : zm_R) (p4 : zm_R) (p6 : zm_R) : ∀ (n : Nat) (x5 : Int32) (J : (Int32) → zm_M zm_R) (ls : Array Slot), lv_has ls 8 [(1, .int p1), (2, va_rf p2), (3, va_rf p3), (4, va_rf p4), (6, va_rf p6), (5, .int x5)] → (∀ (b : Int32) (ls : Array Slot), lv_has ls 8 [(1, .int p1), (2, va_rf p2), (3, va_rf p3), (4, va_rf p4), (5, .int b)] → zm_RK p l e R s m args below meth c Ω n0 k0 (zm_QFs below args s Ω n0 k0 zm_tvR) (zm_ret b) J (F0 m 104 ls [])) → zm_RK p l e R s m args below meth c Ω n0 k0 (zm_QFs below args s Ω n0 k0 zm_tvR) (fn_X2_byMinutes_56 K p1 p2 p3 p4 p6 n x5) J (F0 m 56 ls []) := by
  have hx := C.1
  have hb := C.2.1
  intro n
  induction n with
  | zero => intro x5 J ls hl hJ; exact rk_fl
  | succ n ih =>
    intro x5 J ls hl hJ
    unfold fn_X2_byMinutes_56
    refine rk_of (fun _ _ _ _ _ k => lr_aload hx hb dX2_byMinutes_56 (lv_at hl 4 rfl) k) ?_
    refine rk_callI hX (cl_dsp (fun ci => cl_case (cl_F (n := 0) (rest := []) (av := []) C (hc_X10 H) (ct_X10_hasNext H p6) (lw_F q733 q737 q739 q143 q741) (zh_Fw H C (by decide) q735 q734 q740 q738 q736) (by decide +kernel) ⟨(Nat.le_of_ble_eq_true rfl), (Nat.le_of_ble_eq_true rfl)⟩ rfl hl.1 rfl (zw_le zw_nil (Nat.le_of_ble_eq_true rfl)) dX2_byMinutes_58) (cl_case (cl_F (n := 0) (rest := []) (av := []) C (hc_J22 H) (ct_J22_hasNext H p6) (lw_F q733 q758 q760 q129 q762) (zh_Fw H C (by decide) q735 q734 q761 q759 q757) (by decide +kernel) ⟨(Nat.le_of_ble_eq_true rfl), (Nat.le_of_ble_eq_true rfl)⟩ rfl hl.1 rfl (zw_le zw_nil (Nat.le_of_ble_eq_true rfl)) dX2_byMinutes_58) (cl_case (cl_F (n := 0) (rest := []) (av := []) C (hc_J25 H) (ct_J25_hasNext H p6) (lw_F q733 q767 q769 q133 q771) (zh_Fw H C (by decide) q735 q734 q770 q768 q766) (by decide +kernel) ⟨(Nat.le_of_ble_eq_true rfl), (Nat.le_of_ble_eq_true rfl)⟩ rfl hl.1 rfl (zw_le zw_nil (Nat.le_of_ble_eq_true rfl)) dX2_byMinutes_58) (cl_fl))))) (fun v58 => ?_)
    refine rk_ite (fun _ _ _ _ _ k1 k2 => lv_if_eq (tgt := 104) hx hb dX2_byMinutes_63 (by decide) k1 k2) (fun c_63 => ?_) (fun c_63 => ?_)
    · exact hJ x5 ls (lv_sub hl [0, 1, 2, 3, 5] rfl)
    · refine rk_of (fun _ _ _ _ _ k => lr_aload hx hb dX2_byMinutes_66 (lv_at hl 4 rfl) k) ?_
      refine rk_callR hX (cl_dsp (fun ci => cl_case (cl_F (n := 0) (rest := []) (av := []) C (hc_X10 H) (ct_X10_next H p6) (lw_F q773 q776 q778 q143 q780) (zh_Fw H C (by decide) q775 q774 q779 q777 q736) (by decide +kernel) ⟨(Nat.le_of_ble_eq_true rfl), (Nat.le_of_ble_eq_true rfl)⟩ rfl hl.1 rfl (zw_le zw_nil (Nat.le_of_ble_eq_true rfl)) dX2_byMinutes_68) (cl_case (cl_F (n := 0) (rest := []) (av := []) C (hc_J22 H) (ct_J22_next H p6) (lw_F q773 q966 q968 q129 q970) (zh_Fw H C (by decide) q775 q774 q969 q967 q757) (by decide +kernel) ⟨(Nat.le_of_ble_eq_true rfl), (Nat.le_of_ble_eq_true rfl)⟩ rfl hl.1 rfl (zw_le zw_nil (Nat.le_of_ble_eq_true rfl)) dX2_byMinutes_68) (cl_case (cl_F (n := 0) (rest := []) (av := []) C (hc_J25 H) (ct_J25_next H p6) (lw_F q773 q981 q983 q133 q985) (zh_Fw H C (by decide) q775 q774 q984 q982 q766) (by decide +kernel) ⟨(Nat.le_of_ble_eq_true rfl), (Nat.le_of_ble_eq_true rfl)⟩ rfl hl.1 rfl (zw_le zw_nil (Nat.le_of_ble_eq_true rfl)) dX2_byMinutes_68) (cl_fl))))) (fun v68 => ?_)
      refine rk_chk C q1094 (zc_cons (zc_s (hc_X6 H)) zc_nil) zp_nil dX2_byMinutes_73 ?_
      refine rk_ofs (fun _ _ _ _ _ k => lr_astore hx hb dX2_byMinutes_76 hl (Nat.le_of_ble_eq_true rfl) [0, 1, 2, 3, 4, 5] rfl ⟨trivial, ⟨trivial, ⟨trivial, ⟨trivial, ⟨(by first | exact va_rf_cat _ | rfl), ⟨trivial, trivial⟩⟩⟩⟩⟩⟩ k) (fun ls hl => ?_)
      refine rk_of (fun _ _ _ _ _ k => lv_iload hx hb dX2_byMinutes_78 (lv_at hl 6 rfl) (lr_aload hx hb dX2_byMinutes_80 (lv_at hl 0 rfl) k)) ?_
      refine rk_callI hX (cl_V (rest := [.int x5]) (av := []) C (hc_X6 H) (ct_X6_from H v68) (lw_V q1440 q1007 q3082 q137 q1009) ⟨rfl, hd_X6_from⟩ ⟨(Nat.le_of_ble_eq_true rfl), (Nat.le_of_ble_eq_true rfl)⟩ rfl hl.1 rfl (zw_le (zw_I zw_nil) (Nat.le_of_ble_eq_true rfl)) dX2_byMinutes_82) (fun v82 => ?_)
      refine rk_of (fun _ _ _ _ _ k => lr_aload hx hb dX2_byMinutes_85 (lv_at hl 4 rfl) k) ?_
      refine rk_callI hX (cl_V (rest := [.int v82, .int x5]) (av := []) C (hc_X6 H) (ct_X6_from H p4) (lw_V q1440 q1007 q3082 q137 q1009) ⟨rfl, hd_X6_from⟩ ⟨(Nat.le_of_ble_eq_true rfl), (Nat.le_of_ble_eq_true rfl)⟩ rfl hl.1 rfl (zw_le (zw_I (zw_I zw_nil)) (Nat.le_of_ble_eq_true rfl)) dX2_byMinutes_87) (fun v87 => ?_)
      refine rk_join (β := Int32) (fun (b98 : Int32) ls => lv_has ls 8 [(1, .int p1), (2, va_rf p2), (3, va_rf p3), (4, va_rf p4), (6, va_rf p6)]) (fun (b98 : Int32) ls => F0 m 98 ls [.int b98, .int x5]) (fun b98 ls hl => ?_) (fun hJ98 => ?_)
      · refine rk_ofs (fun _ _ _ _ _ k => lv_iadd hx hb dX2_byMinutes_98 (lr_istore hx hb dX2_byMinutes_99 hl (Nat.le_of_ble_eq_true rfl) [0, 1, 2, 3, 4] rfl ⟨trivial, ⟨trivial, ⟨trivial, ⟨(by first | exact va_rf_cat _ | rfl), ⟨trivial, trivial⟩⟩⟩⟩⟩ k)) (fun ls hl => ?_)
        refine rk_of (fun _ _ _ _ _ k => lv_goto (tgt := 56) hx hb dX2_byMinutes_101 (by decide) k) ?_
        exact ih (x5 + b98) J ls (lv_sub hl [1, 2, 3, 4, 5, 0] rfl) hJ
      · refine rk_ite (fun _ _ _ _ _ k1 k2 => lv_icmp_ge (tgt := 97) hx hb dX2_byMinutes_90 (by decide) k1 k2) (fun c_90 => ?_) (fun c_90 => ?_)
        · refine rk_of (fun _ _ _ _ _ k => lv_iconst (v := 0) hx hb dX2_byMinutes_97 rfl k) ?_
          exact hJ98 0 ls (lv_sub hl [1, 2, 3, 4, 5] rfl)
        · refine rk_of (fun _ _ _ _ _ k => lv_iconst (v := 1) hx hb dX2_byMinutes_93 rfl (lv_goto (tgt := 98) hx hb dX2_byMinutes_94 (by decide) k)) ?_
          exact hJ98 1 ls (lv_sub hl [1, 2, 3, 4, 5] rfl)
theorem rf_X2_byMinutes_18 (H : zm_H Ω K) (C : zm_C p l R s m args meth c Ω lw_all cX2_byMinutes yX2_byMinutes.cls yX2_byMinutes.name 8 17 415 (Option.some (Jvm.ClassFile.FieldType.object "java/util/List"))) (hX : zm_XO p l e R s m args below meth c Ω n0 k0 (zm_QFs below args s Ω n0 k0 zm_tvR)) (p1 : Int32) (p2 : zm_R) (p3 : zm_R) : ∀ (n : Nat) (J : (Unit) → zm_M zm_R) (ls : Array Slot), lv_has ls 8 [(1, .int p1), (2, va_rf p2), (3, va_rf p3)] → (∀ (b : Unit) (ls : Array Slot), lv_has ls 8 [(2, va_rf p2)] → zm_RK p l e R s m args below meth c Ω n0 k0 (zm_QFs below args s Ω n0 k0 zm_tvR) (zm_ret b) J (F0 m 115 ls [])) → zm_RK p l e R s m args below meth c Ω n0 k0 (zm_QFs below args s Ω n0 k0 zm_tvR) (fn_X2_byMinutes_18 K p1 p2 p3 n) J (F0 m 18 ls []) := by
  have hx := C.1
  have hb := C.2.1
  intro n
  induction n with
  | zero => intro J ls hl hJ; exact rk_fl
  | succ n ih =>
    intro J ls hl hJ
    unfold fn_X2_byMinutes_18
    refine rk_of (fun _ _ _ _ _ k => lr_aload_n hx hb dX2_byMinutes_18 rfl (lv_at hl 2 rfl) k) ?_
    refine rk_callI hX (cl_dsp (fun ci => cl_case (cl_F (n := 0) (rest := []) (av := []) C (hc_X10 H) (ct_X10_hasNext H p3) (lw_F q733 q737 q739 q143 q741) (zh_Fw H C (by decide) q735 q734 q740 q738 q736) (by decide +kernel) ⟨(Nat.le_of_ble_eq_true rfl), (Nat.le_of_ble_eq_true rfl)⟩ rfl hl.1 rfl (zw_le zw_nil (Nat.le_of_ble_eq_true rfl)) dX2_byMinutes_19) (cl_case (cl_F (n := 0) (rest := []) (av := []) C (hc_J22 H) (ct_J22_hasNext H p3) (lw_F q733 q758 q760 q129 q762) (zh_Fw H C (by decide) q735 q734 q761 q759 q757) (by decide +kernel) ⟨(Nat.le_of_ble_eq_true rfl), (Nat.le_of_ble_eq_true rfl)⟩ rfl hl.1 rfl (zw_le zw_nil (Nat.le_of_ble_eq_true rfl)) dX2_byMinutes_19) (cl_case (cl_F (n := 0) (rest := []) (av := []) C (hc_J25 H) (ct_J25_hasNext H p3) (lw_F q733 q767 q769 q133 q771) (zh_Fw H C (by decide) q735 q734 q770 q768 q766) (by decide +kernel) ⟨(Nat.le_of_ble_eq_true rfl), (Nat.le_of_ble_eq_true rfl)⟩ rfl hl.1 rfl (zw_le zw_nil (Nat.le_of_ble_eq_true rfl)) dX2_byMinutes_19) (cl_fl))))) (fun v19 => ?_)
    refine rk_ite (fun _ _ _ _ _ k1 k2 => lv_if_eq (tgt := 115) hx hb dX2_byMinutes_24 (by decide) k1 k2) (fun c_24 => ?_) (fun c_24 => ?_)
    · exact hJ () ls (lv_sub hl [1] rfl)
    · refine rk_of (fun _ _ _ _ _ k => lr_aload_n hx hb dX2_byMinutes_27 rfl (lv_at hl 2 rfl) k) ?_
      refine rk_callR hX (cl_dsp (fun ci => cl_case (cl_F (n := 0) (rest := []) (av := []) C (hc_X10 H) (ct_X10_next H p3) (lw_F q773 q776 q778 q143 q780) (zh_Fw H C (by decide) q775 q774 q779 q777 q736) (by decide +kernel) ⟨(Nat.le_of_ble_eq_true rfl), (Nat.le_of_ble_eq_true rfl)⟩ rfl hl.1 rfl (zw_le zw_nil (Nat.le_of_ble_eq_true rfl)) dX2_byMinutes_28) (cl_case (cl_F (n := 0) (rest := []) (av := []) C (hc_J22 H) (ct_J22_next H p3) (lw_F q773 q966 q968 q129 q970) (zh_Fw H C (by decide) q775 q774 q969 q967 q757) (by decide +kernel) ⟨(Nat.le_of_ble_eq_true rfl), (Nat.le_of_ble_eq_true rfl)⟩ rfl hl.1 rfl (zw_le zw_nil (Nat.le_of_ble_eq_true rfl)) dX2_byMinutes_28) (cl_case (cl_F (n := 0) (rest := []) (av := []) C (hc_J25 H) (ct_J25_next H p3) (lw_F q773 q981 q983 q133 q985) (zh_Fw H C (by decide) q775 q774 q984 q982 q766) (by decide +kernel) ⟨(Nat.le_of_ble_eq_true rfl), (Nat.le_of_ble_eq_true rfl)⟩ rfl hl.1 rfl (zw_le zw_nil (Nat.le_of_ble_eq_true rfl)) dX2_byMinutes_28) (cl_fl))))) (fun v28 => ?_)
      refine rk_chk C q1094 (zc_cons (zc_s (hc_X6 H)) zc_nil) zp_nil dX2_byMinutes_33 ?_
      refine rk_ofs (fun _ _ _ _ _ k => lr_astore hx hb dX2_byMinutes_36 hl (Nat.le_of_ble_eq_true rfl) [0, 1, 2] rfl ⟨trivial, ⟨trivial, ⟨(by first | exact va_rf_cat _ | rfl), trivial⟩⟩⟩ k) (fun ls hl => ?_)
      refine rk_of (fun _ _ _ _ _ k => lr_aload hx hb dX2_byMinutes_38 (lv_at hl 0 rfl) (lv_iload_n hx hb dX2_byMinutes_40 rfl (lv_at hl 1 rfl) k)) ?_
      refine rk_callI hX (cl_V (rest := []) (av := [.int p1]) C (hc_X6 H) (ct_X6_isIn H v28 p1) (lw_V q1095 q1096 q1097 q137 q1098) ⟨rfl, hd_X6_isIn⟩ ⟨(Nat.le_of_ble_eq_true rfl), (Nat.le_of_ble_eq_true rfl)⟩ rfl hl.1 rfl (zw_le zw_nil (Nat.le_of_ble_eq_true rfl)) dX2_byMinutes_41) (fun v41 => ?_)
      refine rk_ite (fun _ _ _ _ _ k1 k2 => lv_if_eq (tgt := 112) hx hb dX2_byMinutes_44 (by decide) k1 k2) (fun c_44 => ?_) (fun c_44 => ?_)
      · refine rk_of (fun _ _ _ _ _ k => lv_goto (tgt := 18) hx hb dX2_byMinutes_112 (by decide) k) ?_
        exact ih J ls (lv_sub hl [1, 2, 3] rfl) hJ
      · refine rk_ofs (fun _ _ _ _ _ k => lv_iconst (v := 0) hx hb dX2_byMinutes_47 rfl (lr_istore hx hb dX2_byMinutes_48 hl (Nat.le_of_ble_eq_true rfl) [0, 1, 2, 3] rfl ⟨(by first | exact va_rf_cat _ | rfl), ⟨trivial, ⟨trivial, ⟨trivial, trivial⟩⟩⟩⟩ k)) (fun ls hl => ?_)
        refine rk_of (fun _ _ _ _ _ k => lr_aload_n hx hb dX2_byMinutes_50 rfl (lv_at hl 3 rfl) k) ?_
        refine rk_callR hX (cl_U (n := 0) (rest := []) (av := []) C (hc_J4 H) (ct_J3_iterator H p2) (lw_meth q341) q106 q1743 (C.2.2.2.1 _ q1744) (va_Decl.of (C.2.2.2.1 _ q339) (C.2.2.2.1 _ q341)) (C.2.2.2.1 _ q1746) q339 (by decide +kernel) ⟨(Nat.le_of_ble_eq_true rfl), (Nat.le_of_ble_eq_true rfl)⟩ rfl hl.1 rfl (zw_le zw_nil (Nat.le_of_ble_eq_true rfl)) dX2_byMinutes_51) (fun v51 => ?_)
        refine rk_ofs (fun _ _ _ _ _ k => lr_astore hx hb dX2_byMinutes_54 hl (Nat.le_of_ble_eq_true rfl) [0, 1, 2, 3, 4] rfl ⟨rfl, ⟨trivial, ⟨trivial, ⟨trivial, ⟨trivial, trivial⟩⟩⟩⟩⟩ k) (fun ls hl => ?_)
        refine rk_join (β := Int32) (fun (b104 : Int32) ls => lv_has ls 8 [(1, .int p1), (2, va_rf p2), (3, va_rf p3), (4, va_rf v28), (5, .int b104)]) (fun (b104 : Int32) ls => F0 m 104 ls []) (fun b104 ls hl => ?_) (fun hJ104 => ?_)
        · refine rk_of (fun _ _ _ _ _ k => lr_aload_n hx hb dX2_byMinutes_104 rfl (lv_at hl 1 rfl) (lv_iload hx hb dX2_byMinutes_105 (lv_at hl 4 rfl) (lr_aload hx hb dX2_byMinutes_107 (lv_at hl 3 rfl) k))) ?_
          refine rk_callV hX (cl_V (rest := []) (av := [.int b104, va_rf v28]) C (hc_J4 H) (ct_J4_add_2 H p2 b104 v28) (lw_V q1753 q1754 q1755 q107 q1756) ⟨rfl, hd_J4_add_2⟩ ⟨(Nat.le_of_ble_eq_true rfl), (Nat.le_of_ble_eq_true rfl)⟩ rfl hl.1 rfl (zw_le zw_nil (Nat.le_of_ble_eq_true rfl)) dX2_byMinutes_109) (fun _ => ?_)
          refine rk_of (fun _ _ _ _ _ k => lv_goto (tgt := 18) hx hb dX2_byMinutes_112 (by decide) k) ?_
          exact ih J ls (lv_sub hl [0, 1, 2] rfl) hJ
        · exact rf_X2_byMinutes_56 H C hX p1 p2 p3 v28 v51 zm_N 0 _ ls (lv_sub hl [3, 4, 5, 2, 0, 1] rfl) hJ104
theorem ct_X2_byMinutes {l : Launch} {Ω : zm_W} {K : zm_K} (H : zm_H Ω K) (a0 : zm_R) (a1 : Int32) : zm_Ct l Ω yX2_byMinutes (ws_ yX2_byMinutes cX2_byMinutes 8 (Option.some (Jvm.ClassFile.FieldType.object "java/util/List"))) 17 415 [va_rf a0, .int a1] zm_tvR (fn_X2_byMinutes K a0 a1) := by
  refine zm_ct H.1 (by decide +kernel) (zl_le (zl_R (zl_I zl_nil)) (Nat.le_of_ble_eq_true rfl)) ?_
  intro p e R s m args below meth c n0 k0 C hX ls hl
  have hx := C.1
  have hb := C.2.1
  simp only [zg_I, zg_R, zg_nil] at hl
  have hl : lv_has ls 8 [(0, va_rf a0), (1, .int a1)] := hl
  refine rk_rf ?_
  unfold fn_X2_byMinutes
  refine rk_new C (hc_J4 H) in_J4 tyJ4_ok q1741 q217 q107 (fs := [.int 0, .int 0, .null, .null]) rfl (fun j hj => zdf_J4 j hj) dX2_byMinutes_0 (fun v0 => ?_)
  refine rk_of (fun _ _ _ _ _ k => lv_dup hx hb dX2_byMinutes_3 (va_rf_cat _) k) ?_
  refine rk_callV hX (cl_I (rest := [va_rf (some v0)]) C (ct_J4_init H (some v0)) (lw_meth q220) q107 q1742 q219 rfl hd_J4_init ⟨(Nat.le_of_ble_eq_true rfl), (Nat.le_of_ble_eq_true rfl)⟩ rfl hl.1 rfl (zw_le (zw_R zw_nil) (Nat.le_of_ble_eq_true rfl)) dX2_byMinutes_4) (fun _ => ?_)
  refine rk_ofs (fun _ _ _ _ _ k => lr_astore_n hx hb dX2_byMinutes_7 rfl hl (Nat.le_of_ble_eq_true rfl) [0, 1] rfl ⟨trivial, ⟨rfl, trivial⟩⟩ k) (fun ls hl => ?_)
  refine rk_of (fun _ _ _ _ _ k => lr_aload_n hx hb dX2_byMinutes_8 rfl (lv_at hl 1 rfl) k) ?_
  refine rk_get zm_rdR_eq C (hc_X2 H) (k := 1) (Nat.le_of_ble_eq_true rfl) in_X2 q198 (fun _ h => h) dX2_byMinutes_9 (fun v9 => ?_)
  refine rk_callR hX (cl_dsp (fun ci => cl_case (cl_F (n := 0) (rest := []) (av := []) C (hc_J2 H) (ct_J2_iterator H v9) (lw_F q306 q310 q312 q105 q314) (zh_Fw H C (by decide) q308 q307 q313 q311 q309) (by decide +kernel) ⟨(Nat.le_of_ble_eq_true rfl), (Nat.le_of_ble_eq_true rfl)⟩ rfl hl.1 rfl (zw_le zw_nil (Nat.le_of_ble_eq_true rfl)) dX2_byMinutes_12) (cl_case (cl_F (n := 0) (rest := []) (av := []) C (hc_J4 H) (ct_J3_iterator H v9) (lw_F q306 q337 q339 q106 q341) (zh_Fw H C (by decide) q308 q307 q340 q338 q336) (by decide +kernel) ⟨(Nat.le_of_ble_eq_true rfl), (Nat.le_of_ble_eq_true rfl)⟩ rfl hl.1 rfl (zw_le zw_nil (Nat.le_of_ble_eq_true rfl)) dX2_byMinutes_12) (cl_fl)))) (fun v12 => ?_)
  refine rk_ofs (fun _ _ _ _ _ k => lr_astore_n hx hb dX2_byMinutes_17 rfl hl (Nat.le_of_ble_eq_true rfl) [0, 2] rfl ⟨(by first | exact va_rf_cat _ | rfl), ⟨trivial, trivial⟩⟩ k) (fun ls hl => ?_)
  refine rk_join (β := Unit) (fun (b115 : Unit) ls => lv_has ls 8 [(2, va_rf (some v0))]) (fun (b115 : Unit) ls => F0 m 115 ls []) (fun b115 ls hl => ?_) (fun hJ115 => ?_)
  · refine rk_of (fun _ _ _ _ _ k => lr_aload_n hx hb dX2_byMinutes_115 rfl (lv_at hl 0 rfl) k) ?_
    exact rk_top (rf_aret C (Or.inl ⟨_, rfl⟩) dX2_byMinutes_116)
  · exact rf_X2_byMinutes_18 H C hX a1 (some v0) v12 zm_N _ ls (lv_sub hl [2, 1, 0] rfl) hJ115
theorem hd_X1_lineBecomes : yX1_lineBecomes.cls ≠ "java/lang/invoke/MethodHandle" ∧ yX1_lineBecomes.cls ≠ "java/lang/invoke/VarHandle" ∧ (parseMethodDescriptor yX1_lineBecomes.desc).map (fun d => d.parameters.length) = some 1 := by decide +kernel
noncomputable def fn_X1_lineBecomes (K : zm_K) (a0 : zm_R) (a1 : zm_R) : zm_M Int32 :=
  zm_bnd (zm_bnd (zm_is a1 2) fun _ => fn_J6_toString K a1) fun v2 =>
  zm_bnd (zm_putF K a0 18 6 (va_rf v2)) fun _ =>
  zm_bnd (zm_getR a0 18 6) fun v9 =>
  zm_bnd (zm_bnd (zm_is v9 3) fun _ => fn_J7_length K v9) fun v12 =>
  zm_ret v12
theorem ct_X1_lineBecomes {l : Launch} {Ω : zm_W} {K : zm_K} (H : zm_H Ω K) (a0 : zm_R) (a1 : zm_R) : zm_Ct l Ω yX1_lineBecomes (ws_ yX1_lineBecomes cX1_lineBecomes 2 (Option.some Jvm.ClassFile.FieldType.int)) 9 239 [va_rf a0, va_rf a1] zm_tvI (fn_X1_lineBecomes K a0 a1) := by
  refine zm_ct H.1 (by decide +kernel) (zl_le (zl_R (zl_R zl_nil)) (Nat.le_of_ble_eq_true rfl)) ?_
  intro p e R s m args below meth c n0 k0 C hX ls hl
  have hx := C.1
  have hb := C.2.1
  simp only [zg_R, zg_nil] at hl
  have hl : lv_has ls 2 [(0, va_rf a0), (1, va_rf a1)] := hl
  refine rk_rf ?_
  unfold fn_X1_lineBecomes
  refine rk_of (fun _ _ _ _ _ k => lr_aload_n hx hb dX1_lineBecomes_0 rfl (lv_at hl 0 rfl) (lr_aload_n hx hb dX1_lineBecomes_1 rfl (lv_at hl 1 rfl) k)) ?_
  refine rk_callR hX (cl_V (rest := [va_rf a0]) (av := []) C (hc_J6 H) (ct_J6_toString H a1) (lw_V q2469 q560 q561 q109 q562) ⟨rfl, hd_J6_toString⟩ ⟨(Nat.le_of_ble_eq_true rfl), (Nat.le_of_ble_eq_true rfl)⟩ rfl hl.1 rfl (zw_le (zw_R zw_nil) (Nat.le_of_ble_eq_true rfl)) dX1_lineBecomes_2) (fun v2 => ?_)
  refine rk_put C H.2.2.1 (hc_X1 H) (k := 6) (Nat.le_of_ble_eq_true rfl) in_X1 (ty0 := tyX1) tyX1_ok nmX1 q277 (fun _ h => h) (Or.inl rfl) (zn_R rfl _) (zp_R rfl _) dX1_lineBecomes_5 ?_
  refine rk_of (fun _ _ _ _ _ k => lr_aload_n hx hb dX1_lineBecomes_8 rfl (lv_at hl 0 rfl) k) ?_
  refine rk_get zm_rdR_eq C (hc_X1 H) (k := 6) (Nat.le_of_ble_eq_true rfl) in_X1 q277 (fun _ h => h) dX1_lineBecomes_9 (fun v9 => ?_)
  refine rk_callI hX (cl_V (rest := []) (av := []) C (hc_J7 H) (ct_J7_length H v9) (lw_V q2470 q491 q492 q110 q493) ⟨rfl, hd_J7_length⟩ ⟨(Nat.le_of_ble_eq_true rfl), (Nat.le_of_ble_eq_true rfl)⟩ rfl hl.1 rfl (zw_le zw_nil (Nat.le_of_ble_eq_true rfl)) dX1_lineBecomes_12) (fun v12 => ?_)
  exact rk_top (rf_iret C rfl dX1_lineBecomes_15)
theorem hd_X1_describe : yX1_describe.cls ≠ "java/lang/invoke/MethodHandle" ∧ yX1_describe.cls ≠ "java/lang/invoke/VarHandle" ∧ (parseMethodDescriptor yX1_describe.desc).map (fun d => d.parameters.length) = some 1 := by decide +kernel
noncomputable def fn_X1_describe_27 (K : zm_K) (p0 : zm_R) (p2 : zm_R) (p3 : zm_R) : Nat → zm_M (Unit)
  | 0 => zm_fl
  | n + 1 =>
    zm_bnd (zm_bnd (zm_cls p3) fun ci => if ci = 26 then fn_X10_hasNext K p3 else if ci = 9 then fn_J22_hasNext K p3 else if ci = 11 then fn_J25_hasNext K p3 else zm_fl) fun v28 =>
    if v28 = 0 then
      zm_ret ()
    else
      zm_bnd (zm_bnd (zm_cls p3) fun ci => if ci = 26 then fn_X10_next K p3 else if ci = 9 then fn_J22_next K p3 else if ci = 11 then fn_J25_next K p3 else zm_fl) fun v37 =>
      zm_bnd (zm_chk [23] [] v37) fun _ =>
      zm_bnd (zm_bnd (zm_is p2 2) fun _ => fn_J6_length K p2) fun v49 =>
      zm_bnd (α := zm_R) (
          if v49 ≤ 0 then
            zm_ret (K.2 8)
          else
            zm_ret (K.2 9)
        ) fun b63 =>
      zm_bnd (zm_bnd (zm_is p2 2) fun _ => fn_J6_append K p2 b63) fun v63 =>
      zm_bnd (zm_bnd (zm_is v37 23) fun _ => fn_X6_from K v37) fun v68 =>
      zm_bnd (zm_bnd (zm_is v63 2) fun _ => fn_J6_append_2 K v63 v68) fun v71 =>
      zm_bnd (zm_bnd (zm_is v71 2) fun _ => fn_J6_append_3 K v71 45) fun v76 =>
      zm_bnd (zm_bnd (zm_is v37 23) fun _ => fn_X6_to K v37) fun v81 =>
      zm_bnd (zm_bnd (zm_is v76 2) fun _ => fn_J6_append_2 K v76 v81) fun v84 =>
      zm_bnd (zm_bnd (zm_is v84 2) fun _ => fn_J6_append_3 K v84 120) fun v89 =>
      zm_bnd (zm_bnd (zm_is v37 23) fun _ => fn_X6_party K v37) fun v94 =>
      zm_bnd (zm_bnd (zm_is v89 2) fun _ => fn_J6_append_2 K v89 v94) fun v97 =>
      fn_X1_describe_27 K p0 p2 p3 n
noncomputable def fn_X1_describe (K : zm_K) (a0 : zm_R) (a1 : Int32) : zm_M Int32 :=
  zm_bnd (zm_bnd (zm_is a0 18) fun _ => fn_X1_requireBox K a0 a1) fun _ =>
  zm_bnd (zm_new 2 [.null, .int 0, .int 0, .int 0]) fun v5 =>
  zm_bnd (fn_J6_init K (some v5)) fun _ =>
  zm_bnd (zm_getR a0 18 0) fun v14 =>
  zm_bnd (zm_bnd (zm_is v14 19) fun _ => fn_X2_byMinutes K v14 a1) fun v18 =>
  zm_bnd (zm_bnd (zm_cls v18) fun ci => if ci = 0 then fn_J2_iterator K v18 else if ci = 1 then fn_J3_iterator K v18 else zm_fl) fun v21 =>
  zm_bnd (α := Unit) (fn_X1_describe_27 K a0 (some v5) v21 zm_N) fun (_ : Unit) =>
  zm_bnd (zm_bnd (zm_is a0 18) fun _ => fn_X1_lineBecomes K a0 (some v5)) fun v106 =>
  zm_ret v106
theorem rf_X1_describe_27 (H : zm_H Ω K) (C : zm_C p l R s m args meth c Ω lw_all cX1_describe yX1_describe.cls yX1_describe.name 5 18 442 (Option.some Jvm.ClassFile.FieldType.int)) (hX : zm_XO p l e R s m args below meth c Ω n0 k0 (zm_QFs below args s Ω n0 k0 zm_tvI)) (p0 : zm_R) (p2 : zm_R) (p3 : zm_R) : ∀ (n : Nat) (J : (Unit) → zm_M Int32) (ls : Array Slot), lv_has ls 5 [(0, va_rf p0), (2, va_rf p2), (3, va_rf p3)] → (∀ (b : Unit) (ls : Array Slot), lv_has ls 5 [(0, va_rf p0), (2, va_rf p2)] → zm_RK p l e R s m args below meth c Ω n0 k0 (zm_QFs below args s Ω n0 k0 zm_tvI) (zm_ret b) J (F0 m 104 ls [])) → zm_RK p l e R s m args below meth c Ω n0 k0 (zm_QFs below args s Ω n0 k0 zm_tvI) (fn_X1_describe_27 K p0 p2 p3 n) J (F0 m 27 ls []) := by
  have hx := C.1
  have hb := C.2.1
  intro n
  induction n with
  | zero => intro J ls hl hJ; exact rk_fl
  | succ n ih =>
    intro J ls hl hJ
    unfold fn_X1_describe_27
    refine rk_of (fun _ _ _ _ _ k => lr_aload_n hx hb dX1_describe_27 rfl (lv_at hl 2 rfl) k) ?_
    refine rk_callI hX (cl_dsp (fun ci => cl_case (cl_F (n := 0) (rest := []) (av := []) C (hc_X10 H) (ct_X10_hasNext H p3) (lw_F q2355 q737 q739 q143 q741) (zh_Fw H C (by decide) q735 q734 q740 q738 q736) (by decide +kernel) ⟨(Nat.le_of_ble_eq_true rfl), (Nat.le_of_ble_eq_true rfl)⟩ rfl hl.1 rfl (zw_le zw_nil (Nat.le_of_ble_eq_true rfl)) dX1_describe_28) (cl_case (cl_F (n := 0) (rest := []) (av := []) C (hc_J22 H) (ct_J22_hasNext H p3) (lw_F q2355 q758 q760 q129 q762) (zh_Fw H C (by decide) q735 q734 q761 q759 q757) (by decide +kernel) ⟨(Nat.le_of_ble_eq_true rfl), (Nat.le_of_ble_eq_true rfl)⟩ rfl hl.1 rfl (zw_le zw_nil (Nat.le_of_ble_eq_true rfl)) dX1_describe_28) (cl_case (cl_F (n := 0) (rest := []) (av := []) C (hc_J25 H) (ct_J25_hasNext H p3) (lw_F q2355 q767 q769 q133 q771) (zh_Fw H C (by decide) q735 q734 q770 q768 q766) (by decide +kernel) ⟨(Nat.le_of_ble_eq_true rfl), (Nat.le_of_ble_eq_true rfl)⟩ rfl hl.1 rfl (zw_le zw_nil (Nat.le_of_ble_eq_true rfl)) dX1_describe_28) (cl_fl))))) (fun v28 => ?_)
    refine rk_ite (fun _ _ _ _ _ k1 k2 => lv_if_eq (tgt := 104) hx hb dX1_describe_33 (by decide) k1 k2) (fun c_33 => ?_) (fun c_33 => ?_)
    · exact hJ () ls (lv_sub hl [0, 1] rfl)
    · refine rk_of (fun _ _ _ _ _ k => lr_aload_n hx hb dX1_describe_36 rfl (lv_at hl 2 rfl) k) ?_
      refine rk_callR hX (cl_dsp (fun ci => cl_case (cl_F (n := 0) (rest := []) (av := []) C (hc_X10 H) (ct_X10_next H p3) (lw_F q2357 q776 q778 q143 q780) (zh_Fw H C (by decide) q775 q774 q779 q777 q736) (by decide +kernel) ⟨(Nat.le_of_ble_eq_true rfl), (Nat.le_of_ble_eq_true rfl)⟩ rfl hl.1 rfl (zw_le zw_nil (Nat.le_of_ble_eq_true rfl)) dX1_describe_37) (cl_case (cl_F (n := 0) (rest := []) (av := []) C (hc_J22 H) (ct_J22_next H p3) (lw_F q2357 q966 q968 q129 q970) (zh_Fw H C (by decide) q775 q774 q969 q967 q757) (by decide +kernel) ⟨(Nat.le_of_ble_eq_true rfl), (Nat.le_of_ble_eq_true rfl)⟩ rfl hl.1 rfl (zw_le zw_nil (Nat.le_of_ble_eq_true rfl)) dX1_describe_37) (cl_case (cl_F (n := 0) (rest := []) (av := []) C (hc_J25 H) (ct_J25_next H p3) (lw_F q2357 q981 q983 q133 q985) (zh_Fw H C (by decide) q775 q774 q984 q982 q766) (by decide +kernel) ⟨(Nat.le_of_ble_eq_true rfl), (Nat.le_of_ble_eq_true rfl)⟩ rfl hl.1 rfl (zw_le zw_nil (Nat.le_of_ble_eq_true rfl)) dX1_describe_37) (cl_fl))))) (fun v37 => ?_)
      refine rk_chk C q2461 (zc_cons (zc_s (hc_X6 H)) zc_nil) zp_nil dX1_describe_42 ?_
      refine rk_ofs (fun _ _ _ _ _ k => lr_astore hx hb dX1_describe_45 hl (Nat.le_of_ble_eq_true rfl) [0, 1, 2] rfl ⟨trivial, ⟨trivial, ⟨(by first | exact va_rf_cat _ | rfl), trivial⟩⟩⟩ k) (fun ls hl => ?_)
      refine rk_of (fun _ _ _ _ _ k => lr_aload_n hx hb dX1_describe_47 rfl (lv_at hl 2 rfl) (lr_aload_n hx hb dX1_describe_48 rfl (lv_at hl 2 rfl) k)) ?_
      refine rk_callI hX (cl_V (rest := [va_rf p2]) (av := []) C (hc_J6 H) (ct_J6_length H p2) (lw_V q1925 q581 q3087 q109 q582) ⟨rfl, hd_J6_length⟩ ⟨(Nat.le_of_ble_eq_true rfl), (Nat.le_of_ble_eq_true rfl)⟩ rfl hl.1 rfl (zw_le (zw_R zw_nil) (Nat.le_of_ble_eq_true rfl)) dX1_describe_49) (fun v49 => ?_)
      refine rk_join (β := zm_R) (fun (b63 : zm_R) ls => lv_has ls 5 [(0, va_rf p0), (2, va_rf p2), (3, va_rf p3), (4, va_rf v37)]) (fun (b63 : zm_R) ls => F0 m 63 ls [va_rf b63, va_rf p2]) (fun b63 ls hl => ?_) (fun hJ63 => ?_)
      · refine rk_callR hX (cl_V (rest := []) (av := [va_rf b63]) C (hc_J6 H) (ct_J6_append H p2 b63) (lw_V q2463 q414 q415 q109 q416) ⟨rfl, hd_J6_append⟩ ⟨(Nat.le_of_ble_eq_true rfl), (Nat.le_of_ble_eq_true rfl)⟩ rfl hl.1 rfl (zw_le zw_nil (Nat.le_of_ble_eq_true rfl)) dX1_describe_63) (fun v63 => ?_)
        refine rk_of (fun _ _ _ _ _ k => lr_aload hx hb dX1_describe_66 (lv_at hl 3 rfl) k) ?_
        refine rk_callI hX (cl_V (rest := [va_rf v63]) (av := []) C (hc_X6 H) (ct_X6_from H v37) (lw_V q1575 q1007 q3082 q137 q1009) ⟨rfl, hd_X6_from⟩ ⟨(Nat.le_of_ble_eq_true rfl), (Nat.le_of_ble_eq_true rfl)⟩ rfl hl.1 rfl (zw_le (zw_R zw_nil) (Nat.le_of_ble_eq_true rfl)) dX1_describe_68) (fun v68 => ?_)
        refine rk_callR hX (cl_V (rest := []) (av := [.int v68]) C (hc_J6 H) (ct_J6_append_2 H v63 v68) (lw_V q2464 q534 q535 q109 q536) ⟨rfl, hd_J6_append_2⟩ ⟨(Nat.le_of_ble_eq_true rfl), (Nat.le_of_ble_eq_true rfl)⟩ rfl hl.1 rfl (zw_le zw_nil (Nat.le_of_ble_eq_true rfl)) dX1_describe_71) (fun v71 => ?_)
        refine rk_of (fun _ _ _ _ _ k => lv_bipush (v := 45) hx hb dX1_describe_74 rfl k) ?_
        refine rk_callR hX (cl_V (rest := []) (av := [.int 45]) C (hc_J6 H) (ct_J6_append_3 H v71 45) (lw_V q1944 q1945 q1946 q109 q1947) ⟨rfl, hd_J6_append_3⟩ ⟨(Nat.le_of_ble_eq_true rfl), (Nat.le_of_ble_eq_true rfl)⟩ rfl hl.1 rfl (zw_le zw_nil (Nat.le_of_ble_eq_true rfl)) dX1_describe_76) (fun v76 => ?_)
        refine rk_of (fun _ _ _ _ _ k => lr_aload hx hb dX1_describe_79 (lv_at hl 3 rfl) k) ?_
        refine rk_callI hX (cl_V (rest := [va_rf v76]) (av := []) C (hc_X6 H) (ct_X6_to H v37) (lw_V q1576 q1031 q3083 q137 q1033) ⟨rfl, hd_X6_to⟩ ⟨(Nat.le_of_ble_eq_true rfl), (Nat.le_of_ble_eq_true rfl)⟩ rfl hl.1 rfl (zw_le (zw_R zw_nil) (Nat.le_of_ble_eq_true rfl)) dX1_describe_81) (fun v81 => ?_)
        refine rk_callR hX (cl_V (rest := []) (av := [.int v81]) C (hc_J6 H) (ct_J6_append_2 H v76 v81) (lw_V q2464 q534 q535 q109 q536) ⟨rfl, hd_J6_append_2⟩ ⟨(Nat.le_of_ble_eq_true rfl), (Nat.le_of_ble_eq_true rfl)⟩ rfl hl.1 rfl (zw_le zw_nil (Nat.le_of_ble_eq_true rfl)) dX1_describe_84) (fun v84 => ?_)
        refine rk_of (fun _ _ _ _ _ k => lv_bipush (v := 120) hx hb dX1_describe_87 rfl k) ?_
        refine rk_callR hX (cl_V (rest := []) (av := [.int 120]) C (hc_J6 H) (ct_J6_append_3 H v84 120) (lw_V q1944 q1945 q1946 q109 q1947) ⟨rfl, hd_J6_append_3⟩ ⟨(Nat.le_of_ble_eq_true rfl), (Nat.le_of_ble_eq_true rfl)⟩ rfl hl.1 rfl (zw_le zw_nil (Nat.le_of_ble_eq_true rfl)) dX1_describe_89) (fun v89 => ?_)
        refine rk_of (fun _ _ _ _ _ k => lr_aload hx hb dX1_describe_92 (lv_at hl 3 rfl) k) ?_
        refine rk_callI hX (cl_V (rest := [va_rf v89]) (av := []) C (hc_X6 H) (ct_X6_party H v37) (lw_V q1577 q1535 q1536 q137 q1537) ⟨rfl, hd_X6_party⟩ ⟨(Nat.le_of_ble_eq_true rfl), (Nat.le_of_ble_eq_true rfl)⟩ rfl hl.1 rfl (zw_le (zw_R zw_nil) (Nat.le_of_ble_eq_true rfl)) dX1_describe_94) (fun v94 => ?_)
        refine rk_callR hX (cl_V (rest := []) (av := [.int v94]) C (hc_J6 H) (ct_J6_append_2 H v89 v94) (lw_V q2464 q534 q535 q109 q536) ⟨rfl, hd_J6_append_2⟩ ⟨(Nat.le_of_ble_eq_true rfl), (Nat.le_of_ble_eq_true rfl)⟩ rfl hl.1 rfl (zw_le zw_nil (Nat.le_of_ble_eq_true rfl)) dX1_describe_97) (fun v97 => ?_)
        refine rk_of (fun _ _ _ _ _ k => lv_pop hx hb dX1_describe_100 (va_rf_cat _) (lv_goto (tgt := 27) hx hb dX1_describe_101 (by decide) k)) ?_
        exact ih J ls (lv_sub hl [0, 1, 2] rfl) hJ
      · refine rk_ite (fun _ _ _ _ _ k1 k2 => lv_if_le (tgt := 61) hx hb dX1_describe_52 (by decide) k1 k2) (fun c_52 => ?_) (fun c_52 => ?_)
        · refine rk_of (fun _ _ _ _ _ k => zs_ldc C (zh_s8 H) dX1_describe_61 k) ?_
          exact hJ63 (K.2 8) ls (lv_sub hl [1, 2, 3, 0] rfl)
        · refine rk_of (fun _ _ _ _ _ k => zs_ldcw C (zh_s9 H) dX1_describe_55 (lv_goto (tgt := 63) hx hb dX1_describe_58 (by decide) k)) ?_
          exact hJ63 (K.2 9) ls (lv_sub hl [1, 2, 3, 0] rfl)
theorem ct_X1_describe {l : Launch} {Ω : zm_W} {K : zm_K} (H : zm_H Ω K) (a0 : zm_R) (a1 : Int32) : zm_Ct l Ω yX1_describe (ws_ yX1_describe cX1_describe 5 (Option.some Jvm.ClassFile.FieldType.int)) 18 442 [va_rf a0, .int a1] zm_tvI (fn_X1_describe K a0 a1) := by
  refine zm_ct H.1 (by decide +kernel) (zl_le (zl_R (zl_I zl_nil)) (Nat.le_of_ble_eq_true rfl)) ?_
  intro p e R s m args below meth c n0 k0 C hX ls hl
  have hx := C.1
  have hb := C.2.1
  simp only [zg_I, zg_R, zg_nil] at hl
  have hl : lv_has ls 5 [(0, va_rf a0), (1, .int a1)] := hl
  refine rk_rf ?_
  unfold fn_X1_describe
  refine rk_of (fun _ _ _ _ _ k => lr_aload_n hx hb dX1_describe_0 rfl (lv_at hl 0 rfl) (lv_iload_n hx hb dX1_describe_1 rfl (lv_at hl 1 rfl) k)) ?_
  refine rk_callV hX (cl_V (rest := []) (av := [.int a1]) C (hc_X1 H) (ct_X1_requireBox H a0 a1) (lw_V q1393 q1395 qs15 q101 q1396) ⟨rfl, hd_X1_requireBox⟩ ⟨(Nat.le_of_ble_eq_true rfl), (Nat.le_of_ble_eq_true rfl)⟩ rfl hl.1 rfl (zw_le zw_nil (Nat.le_of_ble_eq_true rfl)) dX1_describe_2) (fun _ => ?_)
  refine rk_new C (hc_J6 H) in_J6 tyJ6_ok q237 q238 q109 (fs := [.null, .int 0, .int 0, .int 0]) rfl (fun j hj => zdf_J6 j hj) dX1_describe_5 (fun v5 => ?_)
  refine rk_of (fun _ _ _ _ _ k => lv_dup hx hb dX1_describe_8 (va_rf_cat _) k) ?_
  refine rk_callV hX (cl_I (rest := [va_rf (some v5)]) C (ct_J6_init H (some v5)) (lw_meth q241) q109 q239 q240 rfl hd_J6_init ⟨(Nat.le_of_ble_eq_true rfl), (Nat.le_of_ble_eq_true rfl)⟩ rfl hl.1 rfl (zw_le (zw_R zw_nil) (Nat.le_of_ble_eq_true rfl)) dX1_describe_9) (fun _ => ?_)
  refine rk_ofs (fun _ _ _ _ _ k => lr_astore_n hx hb dX1_describe_12 rfl hl (Nat.le_of_ble_eq_true rfl) [0, 1] rfl ⟨trivial, ⟨rfl, trivial⟩⟩ k) (fun ls hl => ?_)
  refine rk_of (fun _ _ _ _ _ k => lr_aload_n hx hb dX1_describe_13 rfl (lv_at hl 1 rfl) k) ?_
  refine rk_get zm_rdR_eq C (hc_X1 H) (k := 0) (Nat.le_of_ble_eq_true rfl) in_X1 q271 (fun _ h => h) dX1_describe_14 (fun v14 => ?_)
  refine rk_of (fun _ _ _ _ _ k => lv_iload_n hx hb dX1_describe_17 rfl (lv_at hl 2 rfl) k) ?_
  refine rk_callR hX (cl_V (rest := []) (av := [.int a1]) C (hc_X2 H) (ct_X2_byMinutes H v14 a1) (lw_V q2457 q2458 q2459 q102 q2460) ⟨rfl, hd_X2_byMinutes⟩ ⟨(Nat.le_of_ble_eq_true rfl), (Nat.le_of_ble_eq_true rfl)⟩ rfl hl.1 rfl (zw_le zw_nil (Nat.le_of_ble_eq_true rfl)) dX1_describe_18) (fun v18 => ?_)
  refine rk_callR hX (cl_dsp (fun ci => cl_case (cl_F (n := 0) (rest := []) (av := []) C (hc_J2 H) (ct_J2_iterator H v18) (lw_F q2353 q310 q312 q105 q314) (zh_Fw H C (by decide) q308 q307 q313 q311 q309) (by decide +kernel) ⟨(Nat.le_of_ble_eq_true rfl), (Nat.le_of_ble_eq_true rfl)⟩ rfl hl.1 rfl (zw_le zw_nil (Nat.le_of_ble_eq_true rfl)) dX1_describe_21) (cl_case (cl_F (n := 0) (rest := []) (av := []) C (hc_J4 H) (ct_J3_iterator H v18) (lw_F q2353 q337 q339 q106 q341) (zh_Fw H C (by decide) q308 q307 q340 q338 q336) (by decide +kernel) ⟨(Nat.le_of_ble_eq_true rfl), (Nat.le_of_ble_eq_true rfl)⟩ rfl hl.1 rfl (zw_le zw_nil (Nat.le_of_ble_eq_true rfl)) dX1_describe_21) (cl_fl)))) (fun v21 => ?_)
  refine rk_ofs (fun _ _ _ _ _ k => lr_astore_n hx hb dX1_describe_26 rfl hl (Nat.le_of_ble_eq_true rfl) [0, 1] rfl ⟨(by first | exact va_rf_cat _ | rfl), ⟨trivial, trivial⟩⟩ k) (fun ls hl => ?_)
  refine rk_join (β := Unit) (fun (b104 : Unit) ls => lv_has ls 5 [(0, va_rf a0), (2, va_rf (some v5))]) (fun (b104 : Unit) ls => F0 m 104 ls []) (fun b104 ls hl => ?_) (fun hJ104 => ?_)
  · refine rk_of (fun _ _ _ _ _ k => lr_aload_n hx hb dX1_describe_104 rfl (lv_at hl 0 rfl) (lr_aload_n hx hb dX1_describe_105 rfl (lv_at hl 1 rfl) k)) ?_
    refine rk_callI hX (cl_V (rest := []) (av := [va_rf (some v5)]) C (hc_X1 H) (ct_X1_lineBecomes H a0 (some v5)) (lw_V q2465 q2467 qs43 q101 q2468) ⟨rfl, hd_X1_lineBecomes⟩ ⟨(Nat.le_of_ble_eq_true rfl), (Nat.le_of_ble_eq_true rfl)⟩ rfl hl.1 rfl (zw_le zw_nil (Nat.le_of_ble_eq_true rfl)) dX1_describe_106) (fun v106 => ?_)
    exact rk_top (rf_iret C rfl dX1_describe_109)
  · exact rf_X1_describe_27 H C hX a0 (some v5) v21 zm_N _ ls (lv_sub hl [2, 1, 0] rfl) hJ104
theorem hd_X0_describe : yX0_describe.cls ≠ "java/lang/invoke/MethodHandle" ∧ yX0_describe.cls ≠ "java/lang/invoke/VarHandle" ∧ (parseMethodDescriptor yX0_describe.desc).map (fun d => d.parameters.length) = some 3 := by decide +kernel
noncomputable def fn_X0_describe (K : zm_K) (a0 : zm_R) (a1 : Int32) (a2 : zm_R) : zm_M Int32 :=
  zm_cth (zm_bnd (zm_is a0 18) fun _ => fn_X1_describe K a0 a1) (fun (E4 : String) (q4 : Nat) =>
      if E4 ∈ (["java/lang/IndexOutOfBoundsException", "java/lang/ArrayIndexOutOfBoundsException", "java/lang/StringIndexOutOfBoundsException"] : List String) then
        zm_ret 1
      else
        if E4 ∈ (["java/lang/IllegalArgumentException", "java/util/NoSuchElementException", "java/lang/UnsupportedOperationException", "java/lang/IllegalStateException", "java/lang/ArithmeticException", "BoxSpans$Refusal", "BoxSpans$TextError"] : List String) then
          zm_thr E4 q4
        else
          zm_fl
    ) fun v4 =>
  zm_bnd (zm_astJ K a2 0 ((v4).toInt64)) fun _ =>
  zm_ret 0
theorem ct_X0_describe {l : Launch} {Ω : zm_W} {K : zm_K} (H : zm_H Ω K) (a0 : zm_R) (a1 : Int32) (a2 : zm_R) : zm_Ct l Ω yX0_describe (wsW_ yX0_describe cX0_describe 4 (Option.some Jvm.ClassFile.FieldType.int) [(0, 9, 12, 21)]) 19 466 [va_rf a0, .int a1, va_rf a2] zm_tvI (fn_X0_describe K a0 a1 a2) := by
  refine zm_ctW H.1 (by decide +kernel) (zl_le (zl_R (zl_I (zl_R zl_nil))) (Nat.le_of_ble_eq_true rfl)) ?_
  intro p e R s m args below meth c n0 k0 C hN hT ls hl
  have hx := C.1
  have hb := C.2.1
  simp only [zg_I, zg_R, zg_nil] at hl
  have hl : lv_has ls 4 [(0, va_rf a0), (1, .int a1), (2, va_rf a2)] := hl
  refine rk_rf ?_
  unfold fn_X0_describe
  refine rk_of (fun _ _ _ _ _ k => lr_aload_n hx hb dX0_describe_0 rfl (lv_at hl 2 rfl) (lv_iconst (v := 0) hx hb dX0_describe_1 rfl (lr_aload_n hx hb dX0_describe_2 rfl (lv_at hl 0 rfl) (lv_iload_n hx hb dX0_describe_3 rfl (lv_at hl 1 rfl) k)))) ?_
  refine rk_cthI (cl_V (rest := [.int 0, va_rf a2]) (av := [.int a1]) C (hc_X1 H) (ct_X1_describe H a0 a1) (lw_V q2453 q2454 q2455 q101 q2456) ⟨rfl, hd_X1_describe⟩ ⟨(Nat.le_of_ble_eq_true rfl), (Nat.le_of_ble_eq_true rfl)⟩ rfl hl.1 rfl (zw_le (zw_I (zw_R zw_nil)) (Nat.le_of_ble_eq_true rfl)) dX0_describe_4) (fun E4 q4 => ?_) (fun v4 => ?_)
  · refine rx_ite (fun h4_0 => ?_) (fun h4_0 => ?_)
    · refine rx_cat (k := 0) C hT rfl zp_nil ⟨by decide, by decide⟩ (by decide) q1373 ((zp_cons (P := fun E => (Cond.castable E "java/lang/IndexOutOfBoundsException").before args s = true) (zn_wC H C q360) (zp_cons (P := fun E => (Cond.castable E "java/lang/IndexOutOfBoundsException").before args s = true) (zn_wC H C q3093) (zp_cons (P := fun E => (Cond.castable E "java/lang/IndexOutOfBoundsException").before args s = true) (zn_wC H C q3094) zp_nil))) E4 h4_0) ?_
      refine rk_ofs (fun _ _ _ _ _ k => lr_astore_n hx hb dX0_describe_12 rfl hl (Nat.le_of_ble_eq_true rfl) [] rfl trivial k) (fun ls hl => ?_)
      refine rk_of (fun _ _ _ _ _ k => lv_iconst (v := 1) hx hb dX0_describe_13 rfl k) ?_
      exact rk_top (rf_iret C rfl dX0_describe_14)
    · refine rx_ite (fun h4_x => ?_) (fun _ => rx_fl)
      exact rx_out C hT (zp_cons (Or.inr ⟨by decide, _, q1373, zh_ncs H C (L := ["java/lang/IllegalArgumentException", "java/util/NoSuchElementException", "java/lang/UnsupportedOperationException", "java/lang/IllegalStateException", "java/lang/ArithmeticException", "BoxSpans$Refusal", "BoxSpans$TextError"]) (by decide) h4_x⟩) zp_nil)
  refine rk_of (fun _ _ _ _ _ k => lv_i2l hx hb dX0_describe_7 rfl k) ?_
  refine rk_last C H.2.2.1 dX0_describe_8 ?_
  refine rk_of (fun _ _ _ _ _ k => lv_goto (tgt := 15) hx hb dX0_describe_9 (by decide) (lv_iconst (v := 0) hx hb dX0_describe_15 rfl k)) ?_
  exact rk_top (rf_iret C rfl dX0_describe_16)
theorem hd_X1_show : yX1_show.cls ≠ "java/lang/invoke/MethodHandle" ∧ yX1_show.cls ≠ "java/lang/invoke/VarHandle" ∧ (parseMethodDescriptor yX1_show.desc).map (fun d => d.parameters.length) = some 2 := by decide +kernel
noncomputable def fn_X1_show_39 (K : zm_K) (p0 : zm_R) (p2 : Int32) (p3 : zm_R) (p4 : zm_R) : Nat → Int32 → zm_M (Unit)
  | 0, _ => zm_fl
  | n + 1, x5 =>
    if ((60 * p2) + 60) ≤ x5 then
      zm_ret ()
    else
      zm_bnd (zm_new 126 [va_rf p3]) fun v52 =>
      zm_bnd (fn_X1_counted K (some v52) x5 5) fun v60 =>
      zm_bnd (α := Int32) (
          if v60 = 5 then
            zm_ret 35
          else
            if v60 ≤ 0 then
              zm_ret 46
            else
              zm_ret 43
        ) fun b90 =>
      zm_bnd (zm_bnd (zm_is p4 2) fun _ => fn_J6_append_3 K p4 b90) fun v90 =>
      fn_X1_show_39 K p0 p2 p3 p4 n (x5 + 5)
noncomputable def fn_X1_show (K : zm_K) (a0 : zm_R) (a1 : Int32) (a2 : Int32) : zm_M Int32 :=
  zm_bnd (zm_bnd (zm_is a0 18) fun _ => fn_X1_requireBox K a0 a1) fun _ =>
  zm_bnd (fn_X1_isIn K a2 0 9) fun v9 =>
  zm_bnd (fn_X1_require K v9) fun _ =>
  zm_bnd (zm_getR a0 18 0) fun v16 =>
  zm_bnd (zm_bnd (zm_is v16 19) fun _ => fn_X2_lit K v16 a1) fun v20 =>
  zm_bnd (zm_new 2 [.null, .int 0, .int 0, .int 0]) fun v24 =>
  zm_bnd (fn_J6_init K (some v24)) fun _ =>
  zm_bnd (α := Unit) (fn_X1_show_39 K a0 a2 v20 (some v24) zm_N (60 * a2)) fun (_ : Unit) =>
  zm_bnd (zm_bnd (zm_is a0 18) fun _ => fn_X1_lineBecomes K a0 (some v24)) fun v103 =>
  zm_ret v103
theorem rf_X1_show_39 (H : zm_H Ω K) (C : zm_C p l R s m args meth c Ω lw_all cX1_show yX1_show.cls yX1_show.name 7 18 3200 (Option.some Jvm.ClassFile.FieldType.int)) (hX : zm_XO p l e R s m args below meth c Ω n0 k0 (zm_QFs below args s Ω n0 k0 zm_tvI)) (hN : s.methodNamed? yX1_show = some m) (p0 : zm_R) (p2 : Int32) (p3 : zm_R) (p4 : zm_R) : ∀ (n : Nat) (x5 : Int32) (J : (Unit) → zm_M Int32) (ls : Array Slot), lv_has ls 7 [(0, va_rf p0), (2, .int p2), (3, va_rf p3), (4, va_rf p4), (5, .int x5)] → (∀ (b : Unit) (ls : Array Slot), lv_has ls 7 [(0, va_rf p0), (4, va_rf p4)] → zm_RK p l e R s m args below meth c Ω n0 k0 (zm_QFs below args s Ω n0 k0 zm_tvI) (zm_ret b) J (F0 m 100 ls [])) → zm_RK p l e R s m args below meth c Ω n0 k0 (zm_QFs below args s Ω n0 k0 zm_tvI) (fn_X1_show_39 K p0 p2 p3 p4 n x5) J (F0 m 39 ls []) := by
  have hx := C.1
  have hb := C.2.1
  intro n
  induction n with
  | zero => intro x5 J ls hl hJ; exact rk_fl
  | succ n ih =>
    intro x5 J ls hl hJ
    unfold fn_X1_show_39
    refine rk_ite (fun _ _ _ _ _ k1 k2 => lv_iload hx hb dX1_show_39 (lv_at hl 4 rfl) (lv_bipush (v := 60) hx hb dX1_show_41 rfl (lv_iload_n hx hb dX1_show_43 rfl (lv_at hl 1 rfl) (lv_imul hx hb dX1_show_44 (lv_bipush (v := 60) hx hb dX1_show_45 rfl (lv_iadd hx hb dX1_show_47 (lv_icmp_ge (tgt := 100) hx hb dX1_show_48 (by decide) k1 k2))))))) (fun c_48 => ?_) (fun c_48 => ?_)
    · exact hJ () ls (lv_sub hl [0, 3] rfl)
    · refine rk_of (fun _ _ _ _ _ k => lr_aload_n hx hb dX1_show_51 rfl (lv_at hl 2 rfl) k) ?_
      refine rk_lam H C hN (i := 26) rfl (by decide) zk_ok26 (zh_O H) (vals := [va_rf p3]) (rest := []) rfl (zk_cons (zn_R rfl _) zk_nil) (zf_cons (zp_R rfl _) zf_nil) hl.1 rfl (zw_ad (zw_R zw_nil) (Nat.le_of_ble_eq_true rfl)) dX1_show_52 (fun v52 => ?_)
      refine rk_of (fun _ _ _ _ _ k => lv_iload hx hb dX1_show_57 (lv_at hl 4 rfl) (lv_iconst (v := 5) hx hb dX1_show_59 rfl k)) ?_
      refine rk_callI hX (cl_S (rest := []) C (ct_X1_counted H (some v52) x5 5) (lw_S q1895 q1896 q101 q1897) hd_X1_counted ⟨(Nat.le_of_ble_eq_true rfl), (Nat.le_of_ble_eq_true rfl)⟩ rfl hl.1 rfl (zw_le zw_nil (Nat.le_of_ble_eq_true rfl)) dX1_show_60) (fun v60 => ?_)
      refine rk_ofs (fun _ _ _ _ _ k => lr_istore hx hb dX1_show_63 hl (Nat.le_of_ble_eq_true rfl) [0, 1, 2, 3, 4] rfl ⟨trivial, ⟨trivial, ⟨trivial, ⟨trivial, ⟨rfl, trivial⟩⟩⟩⟩⟩ k) (fun ls hl => ?_)
      refine rk_of (fun _ _ _ _ _ k => lr_aload hx hb dX1_show_65 (lv_at hl 4 rfl) (lv_iload hx hb dX1_show_67 (lv_at hl 0 rfl) (lv_iconst (v := 5) hx hb dX1_show_69 rfl k))) ?_
      refine rk_join (β := Int32) (fun (b90 : Int32) ls => lv_has ls 7 [(0, va_rf p0), (2, .int p2), (3, va_rf p3), (4, va_rf p4), (5, .int x5)]) (fun (b90 : Int32) ls => F0 m 90 ls [.int b90, va_rf p4]) (fun b90 ls hl => ?_) (fun hJ90 => ?_)
      · refine rk_callR hX (cl_V (rest := []) (av := [.int b90]) C (hc_J6 H) (ct_J6_append_3 H p4 b90) (lw_V q1944 q1945 q1946 q109 q1947) ⟨rfl, hd_J6_append_3⟩ ⟨(Nat.le_of_ble_eq_true rfl), (Nat.le_of_ble_eq_true rfl)⟩ rfl hl.1 rfl (zw_le zw_nil (Nat.le_of_ble_eq_true rfl)) dX1_show_90) (fun v90 => ?_)
        refine rk_ofs (fun _ _ _ _ _ k => lv_pop hx hb dX1_show_93 (va_rf_cat _) (lr_iinc (v := x5 + 5) hx hb dX1_show_94 hl (k := 4) rfl rfl (Nat.le_of_ble_eq_true rfl) [0, 1, 2, 3] rfl ⟨trivial, ⟨trivial, ⟨trivial, ⟨(by first | exact va_rf_cat _ | rfl), trivial⟩⟩⟩⟩ k)) (fun ls hl => ?_)
        refine rk_of (fun _ _ _ _ _ k => lv_goto (tgt := 39) hx hb dX1_show_97 (by decide) k) ?_
        exact ih (x5 + 5) J ls (lv_sub hl [1, 2, 3, 4, 0] rfl) hJ
      · refine rk_ite (fun _ _ _ _ _ k1 k2 => lv_icmp_ne (tgt := 78) hx hb dX1_show_70 (by decide) k2 k1) (fun c_70 => ?_) (fun c_70 => ?_)
        · refine rk_of (fun _ _ _ _ _ k => lv_bipush (v := 35) hx hb dX1_show_73 rfl (lv_goto (tgt := 90) hx hb dX1_show_75 (by decide) k)) ?_
          exact hJ90 35 ls (lv_sub hl [1, 2, 3, 4, 5] rfl)
        · refine rk_ite (fun _ _ _ _ _ k1 k2 => lv_iload hx hb dX1_show_78 (lv_at hl 0 rfl) (lv_if_le (tgt := 88) hx hb dX1_show_80 (by decide) k1 k2)) (fun c_80 => ?_) (fun c_80 => ?_)
          · refine rk_of (fun _ _ _ _ _ k => lv_bipush (v := 46) hx hb dX1_show_88 rfl k) ?_
            exact hJ90 46 ls (lv_sub hl [1, 2, 3, 4, 5] rfl)
          · refine rk_of (fun _ _ _ _ _ k => lv_bipush (v := 43) hx hb dX1_show_83 rfl (lv_goto (tgt := 90) hx hb dX1_show_85 (by decide) k)) ?_
            exact hJ90 43 ls (lv_sub hl [1, 2, 3, 4, 5] rfl)
theorem ct_X1_show {l : Launch} {Ω : zm_W} {K : zm_K} (H : zm_H Ω K) (a0 : zm_R) (a1 : Int32) (a2 : Int32) : zm_Ct l Ω yX1_show (ws_ yX1_show cX1_show 7 (Option.some Jvm.ClassFile.FieldType.int)) 18 3200 [va_rf a0, .int a1, .int a2] zm_tvI (fn_X1_show K a0 a1 a2) := by
  refine zm_ctN H.1 (by decide +kernel) (zl_le (zl_R (zl_I (zl_I zl_nil))) (Nat.le_of_ble_eq_true rfl)) ?_
  intro p e R s m args below meth c n0 k0 C hX hN ls hl
  have hx := C.1
  have hb := C.2.1
  simp only [zg_I, zg_R, zg_nil] at hl
  have hl : lv_has ls 7 [(0, va_rf a0), (1, .int a1), (2, .int a2)] := hl
  refine rk_rf ?_
  unfold fn_X1_show
  refine rk_of (fun _ _ _ _ _ k => lr_aload_n hx hb dX1_show_0 rfl (lv_at hl 0 rfl) (lv_iload_n hx hb dX1_show_1 rfl (lv_at hl 1 rfl) k)) ?_
  refine rk_callV hX (cl_V (rest := []) (av := [.int a1]) C (hc_X1 H) (ct_X1_requireBox H a0 a1) (lw_V q1393 q1395 qs15 q101 q1396) ⟨rfl, hd_X1_requireBox⟩ ⟨(Nat.le_of_ble_eq_true rfl), (Nat.le_of_ble_eq_true rfl)⟩ rfl hl.1 rfl (zw_le zw_nil (Nat.le_of_ble_eq_true rfl)) dX1_show_2) (fun _ => ?_)
  refine rk_of (fun _ _ _ _ _ k => lv_iload_n hx hb dX1_show_5 rfl (lv_at hl 2 rfl) (lv_iconst (v := 0) hx hb dX1_show_6 rfl (lv_bipush (v := 9) hx hb dX1_show_7 rfl k))) ?_
  refine rk_callI hX (cl_S (rest := []) C (ct_X1_isIn H a2 0 9) (lw_S q1132 q1133 q101 q1134) hd_X1_isIn ⟨(Nat.le_of_ble_eq_true rfl), (Nat.le_of_ble_eq_true rfl)⟩ rfl hl.1 rfl (zw_le zw_nil (Nat.le_of_ble_eq_true rfl)) dX1_show_9) (fun v9 => ?_)
  refine rk_callV hX (cl_S (rest := []) C (ct_X1_require H v9) (lw_S q1135 q1136 q101 q1137) hd_X1_require ⟨(Nat.le_of_ble_eq_true rfl), (Nat.le_of_ble_eq_true rfl)⟩ rfl hl.1 rfl (zw_le zw_nil (Nat.le_of_ble_eq_true rfl)) dX1_show_12) (fun _ => ?_)
  refine rk_of (fun _ _ _ _ _ k => lr_aload_n hx hb dX1_show_15 rfl (lv_at hl 0 rfl) k) ?_
  refine rk_get zm_rdR_eq C (hc_X1 H) (k := 0) (Nat.le_of_ble_eq_true rfl) in_X1 q271 (fun _ h => h) dX1_show_16 (fun v16 => ?_)
  refine rk_of (fun _ _ _ _ _ k => lv_iload_n hx hb dX1_show_19 rfl (lv_at hl 1 rfl) k) ?_
  refine rk_callR hX (cl_V (rest := []) (av := [.int a1]) C (hc_X2 H) (ct_X2_lit H v16 a1) (lw_V q1892 q1789 q1790 q102 q1791) ⟨rfl, hd_X2_lit⟩ ⟨(Nat.le_of_ble_eq_true rfl), (Nat.le_of_ble_eq_true rfl)⟩ rfl hl.1 rfl (zw_le zw_nil (Nat.le_of_ble_eq_true rfl)) dX1_show_20) (fun v20 => ?_)
  refine rk_ofs (fun _ _ _ _ _ k => lr_astore_n hx hb dX1_show_23 rfl hl (Nat.le_of_ble_eq_true rfl) [0, 2] rfl ⟨trivial, ⟨rfl, trivial⟩⟩ k) (fun ls hl => ?_)
  refine rk_new C (hc_J6 H) in_J6 tyJ6_ok q237 q238 q109 (fs := [.null, .int 0, .int 0, .int 0]) rfl (fun j hj => zdf_J6 j hj) dX1_show_24 (fun v24 => ?_)
  refine rk_of (fun _ _ _ _ _ k => lv_dup hx hb dX1_show_27 (va_rf_cat _) k) ?_
  refine rk_callV hX (cl_I (rest := [va_rf (some v24)]) C (ct_J6_init H (some v24)) (lw_meth q241) q109 q239 q240 rfl hd_J6_init ⟨(Nat.le_of_ble_eq_true rfl), (Nat.le_of_ble_eq_true rfl)⟩ rfl hl.1 rfl (zw_le (zw_R zw_nil) (Nat.le_of_ble_eq_true rfl)) dX1_show_28) (fun _ => ?_)
  refine rk_ofs (fun _ _ _ _ _ k => lr_astore hx hb dX1_show_31 hl (Nat.le_of_ble_eq_true rfl) [0, 1, 2] rfl ⟨(by first | exact va_rf_cat _ | rfl), ⟨trivial, ⟨trivial, trivial⟩⟩⟩ k) (fun ls hl => ?_)
  refine rk_ofs (fun _ _ _ _ _ k => lv_bipush (v := 60) hx hb dX1_show_33 rfl (lv_iload_n hx hb dX1_show_35 rfl (lv_at hl 3 rfl) (lv_imul hx hb dX1_show_36 (lr_istore hx hb dX1_show_37 hl (Nat.le_of_ble_eq_true rfl) [0, 1, 2, 3] rfl ⟨(by first | exact va_rf_cat _ | rfl), ⟨trivial, ⟨trivial, ⟨trivial, trivial⟩⟩⟩⟩ k)))) (fun ls hl => ?_)
  refine rk_join (β := Unit) (fun (b100 : Unit) ls => lv_has ls 7 [(0, va_rf a0), (4, va_rf (some v24))]) (fun (b100 : Unit) ls => F0 m 100 ls []) (fun b100 ls hl => ?_) (fun hJ100 => ?_)
  · refine rk_of (fun _ _ _ _ _ k => lr_aload_n hx hb dX1_show_100 rfl (lv_at hl 0 rfl) (lr_aload hx hb dX1_show_101 (lv_at hl 1 rfl) k)) ?_
    refine rk_callI hX (cl_V (rest := []) (av := [va_rf (some v24)]) C (hc_X1 H) (ct_X1_lineBecomes H a0 (some v24)) (lw_V q2465 q2467 qs43 q101 q2468) ⟨rfl, hd_X1_lineBecomes⟩ ⟨(Nat.le_of_ble_eq_true rfl), (Nat.le_of_ble_eq_true rfl)⟩ rfl hl.1 rfl (zw_le zw_nil (Nat.le_of_ble_eq_true rfl)) dX1_show_103) (fun v103 => ?_)
    exact rk_top (rf_iret C rfl dX1_show_106)
  · exact rf_X1_show_39 H C hX hN a0 a2 v20 (some v24) zm_N (60 * a2) _ ls (lv_sub hl [3, 4, 2, 1, 0] rfl) hJ100
theorem hd_X0_show : yX0_show.cls ≠ "java/lang/invoke/MethodHandle" ∧ yX0_show.cls ≠ "java/lang/invoke/VarHandle" ∧ (parseMethodDescriptor yX0_show.desc).map (fun d => d.parameters.length) = some 4 := by decide +kernel
noncomputable def fn_X0_show (K : zm_K) (a0 : zm_R) (a1 : Int32) (a2 : Int32) (a3 : zm_R) : zm_M Int32 :=
  zm_cth (zm_bnd (zm_is a0 18) fun _ => fn_X1_show K a0 a1 a2) (fun (E5 : String) (q5 : Nat) =>
      if E5 ∈ (["java/lang/IndexOutOfBoundsException", "java/lang/ArrayIndexOutOfBoundsException", "java/lang/StringIndexOutOfBoundsException"] : List String) then
        zm_ret 1
      else
        if E5 ∈ (["java/lang/IllegalArgumentException"] : List String) then
          zm_ret 2
        else
          if E5 ∈ (["java/util/NoSuchElementException", "java/lang/UnsupportedOperationException", "java/lang/IllegalStateException", "java/lang/ArithmeticException", "BoxSpans$Refusal", "BoxSpans$TextError"] : List String) then
            zm_thr E5 q5
          else
            zm_fl
    ) fun v5 =>
  zm_bnd (zm_astJ K a3 0 ((v5).toInt64)) fun _ =>
  zm_ret 0
theorem ct_X0_show {l : Launch} {Ω : zm_W} {K : zm_K} (H : zm_H Ω K) (a0 : zm_R) (a1 : Int32) (a2 : Int32) (a3 : zm_R) : zm_Ct l Ω yX0_show (wsW_ yX0_show cX0_show 5 (Option.some Jvm.ClassFile.FieldType.int) [(0, 10, 13, 21), (0, 10, 17, 13)]) 19 3226 [va_rf a0, .int a1, .int a2, va_rf a3] zm_tvI (fn_X0_show K a0 a1 a2 a3) := by
  refine zm_ctW H.1 (by decide +kernel) (zl_le (zl_R (zl_I (zl_I (zl_R zl_nil)))) (Nat.le_of_ble_eq_true rfl)) ?_
  intro p e R s m args below meth c n0 k0 C hN hT ls hl
  have hx := C.1
  have hb := C.2.1
  simp only [zg_I, zg_R, zg_nil] at hl
  have hl : lv_has ls 5 [(0, va_rf a0), (1, .int a1), (2, .int a2), (3, va_rf a3)] := hl
  refine rk_rf ?_
  unfold fn_X0_show
  refine rk_of (fun _ _ _ _ _ k => lr_aload_n hx hb dX0_show_0 rfl (lv_at hl 3 rfl) (lv_iconst (v := 0) hx hb dX0_show_1 rfl (lr_aload_n hx hb dX0_show_2 rfl (lv_at hl 0 rfl) (lv_iload_n hx hb dX0_show_3 rfl (lv_at hl 1 rfl) (lv_iload_n hx hb dX0_show_4 rfl (lv_at hl 2 rfl) k))))) ?_
  refine rk_cthI (cl_V (rest := [.int 0, va_rf a3]) (av := [.int a1, .int a2]) C (hc_X1 H) (ct_X1_show H a0 a1 a2) (lw_V q2474 q2475 q2476 q101 q2477) ⟨rfl, hd_X1_show⟩ ⟨(Nat.le_of_ble_eq_true rfl), (Nat.le_of_ble_eq_true rfl)⟩ rfl hl.1 rfl (zw_le (zw_I (zw_R zw_nil)) (Nat.le_of_ble_eq_true rfl)) dX0_show_5) (fun E5 q5 => ?_) (fun v5 => ?_)
  · refine rx_ite (fun h5_0 => ?_) (fun h5_0 => ?_)
    · refine rx_cat (k := 0) C hT rfl zp_nil ⟨by decide, by decide⟩ (by decide) q1373 ((zp_cons (P := fun E => (Cond.castable E "java/lang/IndexOutOfBoundsException").before args s = true) (zn_wC H C q360) (zp_cons (P := fun E => (Cond.castable E "java/lang/IndexOutOfBoundsException").before args s = true) (zn_wC H C q3093) (zp_cons (P := fun E => (Cond.castable E "java/lang/IndexOutOfBoundsException").before args s = true) (zn_wC H C q3094) zp_nil))) E5 h5_0) ?_
      refine rk_ofs (fun _ _ _ _ _ k => lr_astore hx hb dX0_show_13 hl (Nat.le_of_ble_eq_true rfl) [] rfl trivial k) (fun ls hl => ?_)
      refine rk_of (fun _ _ _ _ _ k => lv_iconst (v := 1) hx hb dX0_show_15 rfl k) ?_
      exact rk_top (rf_iret C rfl dX0_show_16)
    · refine rx_ite (fun h5_1 => ?_) (fun h5_1 => ?_)
      · refine rx_cat (k := 1) C hT rfl (zp_cons (Or.inr ⟨by decide, _, q1373, zh_ncs H C (L := ["java/lang/IllegalArgumentException"]) (by decide) h5_1⟩) zp_nil) ⟨by decide, by decide⟩ (by decide) q1126 ((zp_cons (P := fun E => (Cond.castable E "java/lang/IllegalArgumentException").before args s = true) (zn_wC H C q597) zp_nil) E5 h5_1) ?_
        refine rk_ofs (fun _ _ _ _ _ k => lr_astore hx hb dX0_show_17 hl (Nat.le_of_ble_eq_true rfl) [] rfl trivial k) (fun ls hl => ?_)
        refine rk_of (fun _ _ _ _ _ k => lv_iconst (v := 2) hx hb dX0_show_19 rfl k) ?_
        exact rk_top (rf_iret C rfl dX0_show_20)
      · refine rx_ite (fun h5_x => ?_) (fun _ => rx_fl)
        exact rx_out C hT (zp_cons (Or.inr ⟨by decide, _, q1373, zh_ncs H C (L := ["java/util/NoSuchElementException", "java/lang/UnsupportedOperationException", "java/lang/IllegalStateException", "java/lang/ArithmeticException", "BoxSpans$Refusal", "BoxSpans$TextError"]) (by decide) h5_x⟩) (zp_cons (Or.inr ⟨by decide, _, q1126, zh_ncs H C (L := ["java/util/NoSuchElementException", "java/lang/UnsupportedOperationException", "java/lang/IllegalStateException", "java/lang/ArithmeticException", "BoxSpans$Refusal", "BoxSpans$TextError"]) (by decide) h5_x⟩) zp_nil))
  refine rk_of (fun _ _ _ _ _ k => lv_i2l hx hb dX0_show_8 rfl k) ?_
  refine rk_last C H.2.2.1 dX0_show_9 ?_
  refine rk_of (fun _ _ _ _ _ k => lv_goto (tgt := 21) hx hb dX0_show_10 (by decide) (lv_iconst (v := 0) hx hb dX0_show_21 rfl k)) ?_
  exact rk_top (rf_iret C rfl dX0_show_22)
theorem hd_X1_written : yX1_written.cls ≠ "java/lang/invoke/MethodHandle" ∧ yX1_written.cls ≠ "java/lang/invoke/VarHandle" ∧ (parseMethodDescriptor yX1_written.desc).map (fun d => d.parameters.length) = some 1 := by decide +kernel
noncomputable def fn_X1_written (K : zm_K) (a0 : zm_R) (a1 : Int32) : zm_M Int32 :=
  zm_bnd (zm_getR a0 18 6) fun v3 =>
  zm_bnd (zm_bnd (zm_is v3 3) fun _ => fn_J7_length K v3) fun v6 =>
  zm_bnd (fn_X1_isIn K a1 0 (v6 - 1)) fun v11 =>
  zm_bnd (fn_X1_requireElement K v11) fun _ =>
  zm_bnd (zm_getR a0 18 6) fun v18 =>
  zm_bnd (zm_bnd (zm_is v18 3) fun _ => fn_J7_charAt K v18 a1) fun v22 =>
  zm_bnd (zm_grd ((0 : Int32) ≤ v22 ∧ v22 ≤ 65535)) fun _ =>
  zm_ret v22
theorem ct_X1_written {l : Launch} {Ω : zm_W} {K : zm_K} (H : zm_H Ω K) (a0 : zm_R) (a1 : Int32) : zm_Ct l Ω yX1_written (ws_ yX1_written cX1_written 2 (Option.some Jvm.ClassFile.FieldType.char)) 9 228 [va_rf a0, .int a1] zm_tvI (fn_X1_written K a0 a1) := by
  refine zm_ct H.1 (by decide +kernel) (zl_le (zl_R (zl_I zl_nil)) (Nat.le_of_ble_eq_true rfl)) ?_
  intro p e R s m args below meth c n0 k0 C hX ls hl
  have hx := C.1
  have hb := C.2.1
  simp only [zg_I, zg_R, zg_nil] at hl
  have hl : lv_has ls 2 [(0, va_rf a0), (1, .int a1)] := hl
  refine rk_rf ?_
  unfold fn_X1_written
  refine rk_of (fun _ _ _ _ _ k => lv_iload_n hx hb dX1_written_0 rfl (lv_at hl 1 rfl) (lv_iconst (v := 0) hx hb dX1_written_1 rfl (lr_aload_n hx hb dX1_written_2 rfl (lv_at hl 0 rfl) k))) ?_
  refine rk_get zm_rdR_eq C (hc_X1 H) (k := 6) (Nat.le_of_ble_eq_true rfl) in_X1 q277 (fun _ h => h) dX1_written_3 (fun v3 => ?_)
  refine rk_callI hX (cl_V (rest := [.int 0, .int a1]) (av := []) C (hc_J7 H) (ct_J7_length H v3) (lw_V q2470 q491 q492 q110 q493) ⟨rfl, hd_J7_length⟩ ⟨(Nat.le_of_ble_eq_true rfl), (Nat.le_of_ble_eq_true rfl)⟩ rfl hl.1 rfl (zw_le (zw_I (zw_I zw_nil)) (Nat.le_of_ble_eq_true rfl)) dX1_written_6) (fun v6 => ?_)
  refine rk_of (fun _ _ _ _ _ k => lv_iconst (v := 1) hx hb dX1_written_9 rfl (lv_isub hx hb dX1_written_10 k)) ?_
  refine rk_callI hX (cl_S (rest := []) C (ct_X1_isIn H a1 0 (v6 - 1)) (lw_S q1132 q1133 q101 q1134) hd_X1_isIn ⟨(Nat.le_of_ble_eq_true rfl), (Nat.le_of_ble_eq_true rfl)⟩ rfl hl.1 rfl (zw_le zw_nil (Nat.le_of_ble_eq_true rfl)) dX1_written_11) (fun v11 => ?_)
  refine rk_callV hX (cl_S (rest := []) C (ct_X1_requireElement H v11) (lw_S q1717 q1718 q101 q1719) hd_X1_requireElement ⟨(Nat.le_of_ble_eq_true rfl), (Nat.le_of_ble_eq_true rfl)⟩ rfl hl.1 rfl (zw_le zw_nil (Nat.le_of_ble_eq_true rfl)) dX1_written_14) (fun _ => ?_)
  refine rk_of (fun _ _ _ _ _ k => lr_aload_n hx hb dX1_written_17 rfl (lv_at hl 0 rfl) k) ?_
  refine rk_get zm_rdR_eq C (hc_X1 H) (k := 6) (Nat.le_of_ble_eq_true rfl) in_X1 q277 (fun _ h => h) dX1_written_18 (fun v18 => ?_)
  refine rk_of (fun _ _ _ _ _ k => lv_iload_n hx hb dX1_written_21 rfl (lv_at hl 1 rfl) k) ?_
  refine rk_callI hX (cl_V (rest := []) (av := [.int a1]) C (hc_J7 H) (ct_J7_charAt H v18 a1) (lw_V q2487 q2023 q3091 q110 q2025) ⟨rfl, hd_J7_charAt⟩ ⟨(Nat.le_of_ble_eq_true rfl), (Nat.le_of_ble_eq_true rfl)⟩ rfl hl.1 rfl (zw_le zw_nil (Nat.le_of_ble_eq_true rfl)) dX1_written_22) (fun v22 => ?_)
  refine rk_grd (fun hg_25 => ?_)
  exact rk_top (rf_iret C (zn_C hg_25) dX1_written_25)
theorem hd_X0_written : yX0_written.cls ≠ "java/lang/invoke/MethodHandle" ∧ yX0_written.cls ≠ "java/lang/invoke/VarHandle" ∧ (parseMethodDescriptor yX0_written.desc).map (fun d => d.parameters.length) = some 3 := by decide +kernel
noncomputable def fn_X0_written (K : zm_K) (a0 : zm_R) (a1 : Int32) (a2 : zm_R) : zm_M Int32 :=
  zm_cth (zm_bnd (zm_is a0 18) fun _ => fn_X1_written K a0 a1) (fun (E4 : String) (q4 : Nat) =>
      if E4 ∈ (["java/util/NoSuchElementException"] : List String) then
        zm_ret 1
      else
        if E4 ∈ (["java/lang/IllegalArgumentException", "java/lang/IndexOutOfBoundsException", "java/lang/UnsupportedOperationException", "java/lang/ArrayIndexOutOfBoundsException", "java/lang/IllegalStateException", "java/lang/StringIndexOutOfBoundsException", "java/lang/ArithmeticException", "BoxSpans$Refusal", "BoxSpans$TextError"] : List String) then
          zm_thr E4 q4
        else
          zm_fl
    ) fun v4 =>
  zm_bnd (zm_astJ K a2 0 ((v4).toInt64)) fun _ =>
  zm_ret 0
theorem ct_X0_written {l : Launch} {Ω : zm_W} {K : zm_K} (H : zm_H Ω K) (a0 : zm_R) (a1 : Int32) (a2 : zm_R) : zm_Ct l Ω yX0_written (wsW_ yX0_written cX0_written 4 (Option.some Jvm.ClassFile.FieldType.int) [(0, 9, 12, 62)]) 10 249 [va_rf a0, .int a1, va_rf a2] zm_tvI (fn_X0_written K a0 a1 a2) := by
  refine zm_ctW H.1 (by decide +kernel) (zl_le (zl_R (zl_I (zl_R zl_nil))) (Nat.le_of_ble_eq_true rfl)) ?_
  intro p e R s m args below meth c n0 k0 C hN hT ls hl
  have hx := C.1
  have hb := C.2.1
  simp only [zg_I, zg_R, zg_nil] at hl
  have hl : lv_has ls 4 [(0, va_rf a0), (1, .int a1), (2, va_rf a2)] := hl
  refine rk_rf ?_
  unfold fn_X0_written
  refine rk_of (fun _ _ _ _ _ k => lr_aload_n hx hb dX0_written_0 rfl (lv_at hl 2 rfl) (lv_iconst (v := 0) hx hb dX0_written_1 rfl (lr_aload_n hx hb dX0_written_2 rfl (lv_at hl 0 rfl) (lv_iload_n hx hb dX0_written_3 rfl (lv_at hl 1 rfl) k)))) ?_
  refine rk_cthI (cl_V (rest := [.int 0, va_rf a2]) (av := [.int a1]) C (hc_X1 H) (ct_X1_written H a0 a1) (lw_V q2483 q2484 q2485 q101 q2486) ⟨rfl, hd_X1_written⟩ ⟨(Nat.le_of_ble_eq_true rfl), (Nat.le_of_ble_eq_true rfl)⟩ rfl hl.1 rfl (zw_le (zw_I (zw_R zw_nil)) (Nat.le_of_ble_eq_true rfl)) dX0_written_4) (fun E4 q4 => ?_) (fun v4 => ?_)
  · refine rx_ite (fun h4_0 => ?_) (fun h4_0 => ?_)
    · refine rx_cat (k := 0) C hT rfl zp_nil ⟨by decide, by decide⟩ (by decide) q1697 ((zp_cons (P := fun E => (Cond.castable E "java/util/NoSuchElementException").before args s = true) (zn_wC H C q788) zp_nil) E4 h4_0) ?_
      refine rk_ofs (fun _ _ _ _ _ k => lr_astore_n hx hb dX0_written_12 rfl hl (Nat.le_of_ble_eq_true rfl) [] rfl trivial k) (fun ls hl => ?_)
      refine rk_of (fun _ _ _ _ _ k => lv_iconst (v := 1) hx hb dX0_written_13 rfl k) ?_
      exact rk_top (rf_iret C rfl dX0_written_14)
    · refine rx_ite (fun h4_x => ?_) (fun _ => rx_fl)
      exact rx_out C hT (zp_cons (Or.inr ⟨by decide, _, q1697, zh_ncs H C (L := ["java/lang/IllegalArgumentException", "java/lang/IndexOutOfBoundsException", "java/lang/UnsupportedOperationException", "java/lang/ArrayIndexOutOfBoundsException", "java/lang/IllegalStateException", "java/lang/StringIndexOutOfBoundsException", "java/lang/ArithmeticException", "BoxSpans$Refusal", "BoxSpans$TextError"]) (by decide) h4_x⟩) zp_nil)
  refine rk_of (fun _ _ _ _ _ k => lv_i2l hx hb dX0_written_7 rfl k) ?_
  refine rk_last C H.2.2.1 dX0_written_8 ?_
  refine rk_of (fun _ _ _ _ _ k => lv_goto (tgt := 15) hx hb dX0_written_9 (by decide) (lv_iconst (v := 0) hx hb dX0_written_15 rfl k)) ?_
  exact rk_top (rf_iret C rfl dX0_written_16)
theorem hd_X2_ofAll : yX2_ofAll.cls ≠ "java/lang/invoke/MethodHandle" ∧ yX2_ofAll.cls ≠ "java/lang/invoke/VarHandle" ∧ (parseMethodDescriptor yX2_ofAll.desc).map (fun d => d.parameters.length) = some 1 := by decide +kernel
noncomputable def fn_X2_ofAll_4 (K : zm_K) (p0 : zm_R) (p1 : Int32) : Nat → Int32 → Int32 → zm_M (Int32)
  | 0, _, _ => zm_fl
  | n + 1, x2, x3 =>
    zm_bnd (zm_bnd (zm_is p0 19) fun _ => fn_X2_boxes K p0) fun v6 =>
    if v6 ≤ x3 then
      zm_ret x2
    else
      zm_bnd (zm_bnd (zm_is p0 19) fun _ => fn_X2_ofBox K p0 x3 p1) fun v16 =>
      fn_X2_ofAll_4 K p0 p1 n (x2 + v16) (x3 + 1)
noncomputable def fn_X2_ofAll (K : zm_K) (a0 : zm_R) (a1 : Int32) : zm_M Int32 :=
  zm_bnd (α := Int32) (fn_X2_ofAll_4 K a0 a1 zm_N 0 0) fun b27 =>
  zm_ret b27
theorem rf_X2_ofAll_4 (H : zm_H Ω K) (C : zm_C p l R s m args meth c Ω lw_all cX2_ofAll yX2_ofAll.cls yX2_ofAll.name 4 18 441 (Option.some Jvm.ClassFile.FieldType.int)) (hX : zm_XO p l e R s m args below meth c Ω n0 k0 (zm_QFs below args s Ω n0 k0 zm_tvI)) (p0 : zm_R) (p1 : Int32) : ∀ (n : Nat) (x2 : Int32) (x3 : Int32) (J : (Int32) → zm_M Int32) (ls : Array Slot), lv_has ls 4 [(0, va_rf p0), (1, .int p1), (2, .int x2), (3, .int x3)] → (∀ (b : Int32) (ls : Array Slot), lv_has ls 4 [(2, .int b)] → zm_RK p l e R s m args below meth c Ω n0 k0 (zm_QFs below args s Ω n0 k0 zm_tvI) (zm_ret b) J (F0 m 27 ls [])) → zm_RK p l e R s m args below meth c Ω n0 k0 (zm_QFs below args s Ω n0 k0 zm_tvI) (fn_X2_ofAll_4 K p0 p1 n x2 x3) J (F0 m 4 ls []) := by
  have hx := C.1
  have hb := C.2.1
  intro n
  induction n with
  | zero => intro x2 x3 J ls hl hJ; exact rk_fl
  | succ n ih =>
    intro x2 x3 J ls hl hJ
    unfold fn_X2_ofAll_4
    refine rk_of (fun _ _ _ _ _ k => lv_iload_n hx hb dX2_ofAll_4 rfl (lv_at hl 3 rfl) (lr_aload_n hx hb dX2_ofAll_5 rfl (lv_at hl 0 rfl) k)) ?_
    refine rk_callI hX (cl_V (rest := [.int x3]) (av := []) C (hc_X2 H) (ct_X2_boxes H p0) (lw_V q1086 q1087 q1088 q102 q1089) ⟨rfl, hd_X2_boxes⟩ ⟨(Nat.le_of_ble_eq_true rfl), (Nat.le_of_ble_eq_true rfl)⟩ rfl hl.1 rfl (zw_le (zw_I zw_nil) (Nat.le_of_ble_eq_true rfl)) dX2_ofAll_6) (fun v6 => ?_)
    refine rk_ite (fun _ _ _ _ _ k1 k2 => lv_icmp_ge (tgt := 27) hx hb dX2_ofAll_9 (by decide) k1 k2) (fun c_9 => ?_) (fun c_9 => ?_)
    · exact hJ x2 ls (lv_sub hl [2] rfl)
    · refine rk_of (fun _ _ _ _ _ k => lv_iload_n hx hb dX2_ofAll_12 rfl (lv_at hl 2 rfl) (lr_aload_n hx hb dX2_ofAll_13 rfl (lv_at hl 0 rfl) (lv_iload_n hx hb dX2_ofAll_14 rfl (lv_at hl 3 rfl) (lv_iload_n hx hb dX2_ofAll_15 rfl (lv_at hl 1 rfl) k)))) ?_
      refine rk_callI hX (cl_V (rest := [.int x2]) (av := [.int x3, .int p1]) C (hc_X2 H) (ct_X2_ofBox H p0 x3 p1) (lw_V q1105 q1106 q1107 q102 q1108) ⟨rfl, hd_X2_ofBox⟩ ⟨(Nat.le_of_ble_eq_true rfl), (Nat.le_of_ble_eq_true rfl)⟩ rfl hl.1 rfl (zw_le (zw_I zw_nil) (Nat.le_of_ble_eq_true rfl)) dX2_ofAll_16) (fun v16 => ?_)
      refine rk_ofs (fun _ _ _ _ _ k => lv_iadd hx hb dX2_ofAll_19 (lr_istore_n hx hb dX2_ofAll_20 rfl hl (Nat.le_of_ble_eq_true rfl) [0, 1, 3] rfl ⟨trivial, ⟨rfl, ⟨trivial, trivial⟩⟩⟩ k)) (fun ls hl => ?_)
      refine rk_ofs (fun _ _ _ _ _ k => lr_iinc (v := x3 + 1) hx hb dX2_ofAll_21 hl (k := 3) rfl rfl (Nat.le_of_ble_eq_true rfl) [0, 1, 2] rfl ⟨rfl, ⟨trivial, ⟨trivial, trivial⟩⟩⟩ k) (fun ls hl => ?_)
      refine rk_of (fun _ _ _ _ _ k => lv_goto (tgt := 4) hx hb dX2_ofAll_24 (by decide) k) ?_
      exact ih (x2 + v16) (x3 + 1) J ls (lv_sub hl [2, 3, 1, 0] rfl) hJ
theorem ct_X2_ofAll {l : Launch} {Ω : zm_W} {K : zm_K} (H : zm_H Ω K) (a0 : zm_R) (a1 : Int32) : zm_Ct l Ω yX2_ofAll (ws_ yX2_ofAll cX2_ofAll 4 (Option.some Jvm.ClassFile.FieldType.int)) 18 441 [va_rf a0, .int a1] zm_tvI (fn_X2_ofAll K a0 a1) := by
  refine zm_ct H.1 (by decide +kernel) (zl_le (zl_R (zl_I zl_nil)) (Nat.le_of_ble_eq_true rfl)) ?_
  intro p e R s m args below meth c n0 k0 C hX ls hl
  have hx := C.1
  have hb := C.2.1
  simp only [zg_I, zg_R, zg_nil] at hl
  have hl : lv_has ls 4 [(0, va_rf a0), (1, .int a1)] := hl
  refine rk_rf ?_
  unfold fn_X2_ofAll
  refine rk_ofs (fun _ _ _ _ _ k => lv_iconst (v := 0) hx hb dX2_ofAll_0 rfl (lr_istore_n hx hb dX2_ofAll_1 rfl hl (Nat.le_of_ble_eq_true rfl) [0, 1] rfl ⟨trivial, ⟨rfl, trivial⟩⟩ k)) (fun ls hl => ?_)
  refine rk_ofs (fun _ _ _ _ _ k => lv_iconst (v := 0) hx hb dX2_ofAll_2 rfl (lr_istore_n hx hb dX2_ofAll_3 rfl hl (Nat.le_of_ble_eq_true rfl) [0, 1, 2] rfl ⟨rfl, ⟨trivial, ⟨trivial, trivial⟩⟩⟩ k)) (fun ls hl => ?_)
  refine rk_join (β := Int32) (fun (b27 : Int32) ls => lv_has ls 4 [(2, .int b27)]) (fun (b27 : Int32) ls => F0 m 27 ls []) (fun b27 ls hl => ?_) (fun hJ27 => ?_)
  · refine rk_of (fun _ _ _ _ _ k => lv_iload_n hx hb dX2_ofAll_27 rfl (lv_at hl 0 rfl) k) ?_
    exact rk_top (rf_iret C rfl dX2_ofAll_28)
  · exact rf_X2_ofAll_4 H C hX a0 a1 zm_N 0 0 _ ls (lv_sub hl [2, 3, 1, 0] rfl) hJ27
theorem hd_X2_allotted : yX2_allotted.cls ≠ "java/lang/invoke/MethodHandle" ∧ yX2_allotted.cls ≠ "java/lang/invoke/VarHandle" ∧ (parseMethodDescriptor yX2_allotted.desc).map (fun d => d.parameters.length) = some 0 := by decide +kernel
noncomputable def fn_X2_allotted (K : zm_K) (a0 : zm_R) : zm_M Int32 :=
  zm_bnd (zm_getI a0 19 3) fun v1 =>
  zm_ret v1
theorem ct_X2_allotted {l : Launch} {Ω : zm_W} {K : zm_K} (H : zm_H Ω K) (a0 : zm_R) : zm_Ct l Ω yX2_allotted (ws_ yX2_allotted cX2_allotted 1 (Option.some Jvm.ClassFile.FieldType.int)) 1 64 [va_rf a0] zm_tvI (fn_X2_allotted K a0) := by
  refine zm_ct H.1 (by decide +kernel) (zl_le (zl_R zl_nil) (Nat.le_of_ble_eq_true rfl)) ?_
  intro p e R s m args below meth c n0 k0 C hX ls hl
  have hx := C.1
  have hb := C.2.1
  simp only [zg_R, zg_nil] at hl
  have hl : lv_has ls 1 [(0, va_rf a0)] := hl
  refine rk_rf ?_
  unfold fn_X2_allotted
  refine rk_of (fun _ _ _ _ _ k => lr_aload_n hx hb dX2_allotted_0 rfl (lv_at hl 0 rfl) k) ?_
  refine rk_get zm_rdI_eq C (hc_X2 H) (k := 3) (Nat.le_of_ble_eq_true rfl) in_X2 q200 (fun _ h => h) dX2_allotted_1 (fun v1 => ?_)
  exact rk_top (rf_iret C rfl dX2_allotted_4)
theorem hd_X2_cancelled : yX2_cancelled.cls ≠ "java/lang/invoke/MethodHandle" ∧ yX2_cancelled.cls ≠ "java/lang/invoke/VarHandle" ∧ (parseMethodDescriptor yX2_cancelled.desc).map (fun d => d.parameters.length) = some 0 := by decide +kernel
noncomputable def fn_X2_cancelled (K : zm_K) (a0 : zm_R) : zm_M Int32 :=
  zm_bnd (zm_getI a0 19 4) fun v1 =>
  zm_ret v1
theorem ct_X2_cancelled {l : Launch} {Ω : zm_W} {K : zm_K} (H : zm_H Ω K) (a0 : zm_R) : zm_Ct l Ω yX2_cancelled (ws_ yX2_cancelled cX2_cancelled 1 (Option.some Jvm.ClassFile.FieldType.int)) 1 64 [va_rf a0] zm_tvI (fn_X2_cancelled K a0) := by
  refine zm_ct H.1 (by decide +kernel) (zl_le (zl_R zl_nil) (Nat.le_of_ble_eq_true rfl)) ?_
  intro p e R s m args below meth c n0 k0 C hX ls hl
  have hx := C.1
  have hb := C.2.1
  simp only [zg_R, zg_nil] at hl
  have hl : lv_has ls 1 [(0, va_rf a0)] := hl
  refine rk_rf ?_
  unfold fn_X2_cancelled
  refine rk_of (fun _ _ _ _ _ k => lr_aload_n hx hb dX2_cancelled_0 rfl (lv_at hl 0 rfl) k) ?_
  refine rk_get zm_rdI_eq C (hc_X2 H) (k := 4) (Nat.le_of_ble_eq_true rfl) in_X2 q201 (fun _ h => h) dX2_cancelled_1 (fun v1 => ?_)
  exact rk_top (rf_iret C rfl dX2_cancelled_4)
theorem hd_X2_joinings : yX2_joinings.cls ≠ "java/lang/invoke/MethodHandle" ∧ yX2_joinings.cls ≠ "java/lang/invoke/VarHandle" ∧ (parseMethodDescriptor yX2_joinings.desc).map (fun d => d.parameters.length) = some 0 := by decide +kernel
noncomputable def fn_X2_joinings (K : zm_K) (a0 : zm_R) : zm_M Int32 :=
  zm_bnd (zm_getI a0 19 5) fun v1 =>
  zm_ret v1
theorem ct_X2_joinings {l : Launch} {Ω : zm_W} {K : zm_K} (H : zm_H Ω K) (a0 : zm_R) : zm_Ct l Ω yX2_joinings (ws_ yX2_joinings cX2_joinings 1 (Option.some Jvm.ClassFile.FieldType.int)) 1 64 [va_rf a0] zm_tvI (fn_X2_joinings K a0) := by
  refine zm_ct H.1 (by decide +kernel) (zl_le (zl_R zl_nil) (Nat.le_of_ble_eq_true rfl)) ?_
  intro p e R s m args below meth c n0 k0 C hX ls hl
  have hx := C.1
  have hb := C.2.1
  simp only [zg_R, zg_nil] at hl
  have hl : lv_has ls 1 [(0, va_rf a0)] := hl
  refine rk_rf ?_
  unfold fn_X2_joinings
  refine rk_of (fun _ _ _ _ _ k => lr_aload_n hx hb dX2_joinings_0 rfl (lv_at hl 0 rfl) k) ?_
  refine rk_get zm_rdI_eq C (hc_X2 H) (k := 5) (Nat.le_of_ble_eq_true rfl) in_X2 q202 (fun _ h => h) dX2_joinings_1 (fun v1 => ?_)
  exact rk_top (rf_iret C rfl dX2_joinings_4)
theorem hd_X1_account : yX1_account.cls ≠ "java/lang/invoke/MethodHandle" ∧ yX1_account.cls ≠ "java/lang/invoke/VarHandle" ∧ (parseMethodDescriptor yX1_account.desc).map (fun d => d.parameters.length) = some 1 := by decide +kernel
noncomputable def fn_X1_account (K : zm_K) (a0 : zm_R) (a1 : Int32) : zm_M Int32 :=
  if a1 = 0 then
    zm_bnd (zm_getR a0 18 0) fun v61 =>
    zm_bnd (zm_bnd (zm_is v61 19) fun _ => fn_X2_boxes K v61) fun v64 =>
    zm_ret v64
  else
    if a1 = 1 then
      zm_bnd (zm_getR a0 18 0) fun v71 =>
      zm_bnd (zm_bnd (zm_is v71 19) fun _ => fn_X2_lettings K v71) fun v74 =>
      zm_bnd (zm_bnd (zm_cls v74) fun ci => if ci = 0 then fn_J2_size K v74 else if ci = 1 then fn_J4_size K v74 else zm_fl) fun v77 =>
      zm_ret v77
    else
      if a1 = 2 then
        zm_bnd (zm_getR a0 18 0) fun v86 =>
        zm_bnd (zm_bnd (zm_is v86 19) fun _ => fn_X2_ofAll K v86 0) fun v90 =>
        zm_ret v90
      else
        if a1 = 3 then
          zm_bnd (zm_getR a0 18 0) fun v97 =>
          zm_bnd (zm_bnd (zm_is v97 19) fun _ => fn_X2_wishes_2 K v97) fun v100 =>
          zm_bnd (zm_bnd (zm_cls v100) fun ci => if ci = 0 then fn_J2_size K v100 else if ci = 1 then fn_J4_size K v100 else zm_fl) fun v103 =>
          zm_ret v103
        else
          if a1 = 4 then
            zm_bnd (zm_getR a0 18 0) fun v112 =>
            zm_bnd (zm_bnd (zm_is v112 19) fun _ => fn_X2_allotted K v112) fun v115 =>
            zm_ret v115
          else
            if a1 = 5 then
              zm_bnd (zm_getR a0 18 0) fun v122 =>
              zm_bnd (zm_bnd (zm_is v122 19) fun _ => fn_X2_ofAll K v122 (a1 - 4)) fun v128 =>
              zm_ret v128
            else
              if a1 = 6 then
                zm_bnd (zm_getR a0 18 0) fun v122 =>
                zm_bnd (zm_bnd (zm_is v122 19) fun _ => fn_X2_ofAll K v122 (a1 - 4)) fun v128 =>
                zm_ret v128
              else
                if a1 = 7 then
                  zm_bnd (zm_getR a0 18 0) fun v135 =>
                  zm_bnd (zm_bnd (zm_is v135 19) fun _ => fn_X2_cancelled K v135) fun v138 =>
                  zm_ret v138
                else
                  if a1 = 8 then
                    zm_bnd (zm_getR a0 18 0) fun v145 =>
                    zm_bnd (zm_bnd (zm_is v145 19) fun _ => fn_X2_joinings K v145) fun v148 =>
                    zm_ret v148
                  else
                    if a1 = 9 then
                      zm_bnd (zm_getR a0 18 3) fun v155 =>
                      zm_bnd (zm_bnd (zm_is v155 2) fun _ => fn_J6_length K v155) fun v158 =>
                      zm_ret v158
                    else
                      if a1 = 10 then
                        zm_bnd (zm_getR a0 18 2) fun v165 =>
                        zm_bnd (zm_bnd (zm_is v165 1) fun _ => fn_J4_size K v165) fun v168 =>
                        zm_ret v168
                      else
                        zm_bnd (zm_new 5 [.null, .null, .null, .null, .null, .int 0]) fun v174 =>
                        zm_bnd (fn_J12_init_2 K (some v174)) fun _ =>
                        zm_ath (some v174)
theorem ct_X1_account {l : Launch} {Ω : zm_W} {K : zm_K} (H : zm_H Ω K) (a0 : zm_R) (a1 : Int32) : zm_Ct l Ω yX1_account (ws_ yX1_account cX1_account 2 (Option.some Jvm.ClassFile.FieldType.int)) 19 464 [va_rf a0, .int a1] zm_tvI (fn_X1_account K a0 a1) := by
  refine zm_ct H.1 (by decide +kernel) (zl_le (zl_R (zl_I zl_nil)) (Nat.le_of_ble_eq_true rfl)) ?_
  intro p e R s m args below meth c n0 k0 C hX ls hl
  have hx := C.1
  have hb := C.2.1
  simp only [zg_I, zg_R, zg_nil] at hl
  have hl : lv_has ls 2 [(0, va_rf a0), (1, .int a1)] := hl
  refine rk_rf ?_
  unfold fn_X1_account
  refine rk_of (fun _ _ _ _ _ k => lv_iload_n hx hb dX1_account_0 rfl (lv_at hl 1 rfl) k) ?_
  refine rk_case (fun c_1_0 => ?_) (fun c_1_0 => ?_)
  · refine rk_of (fun _ _ _ _ _ k => by rw [c_1_0]; exact lv_tableIn (off := 59) (tgt := 60) hx hb dX1_account_1 (by decide) (by decide) rfl (by decide) k) ?_
    refine rk_of (fun _ _ _ _ _ k => lr_aload_n hx hb dX1_account_60 rfl (lv_at hl 0 rfl) k) ?_
    refine rk_get zm_rdR_eq C (hc_X1 H) (k := 0) (Nat.le_of_ble_eq_true rfl) in_X1 q271 (fun _ h => h) dX1_account_61 (fun v61 => ?_)
    refine rk_callI hX (cl_V (rest := []) (av := []) C (hc_X2 H) (ct_X2_boxes H v61) (lw_V q1397 q1087 q1088 q102 q1089) ⟨rfl, hd_X2_boxes⟩ ⟨(Nat.le_of_ble_eq_true rfl), (Nat.le_of_ble_eq_true rfl)⟩ rfl hl.1 rfl (zw_le zw_nil (Nat.le_of_ble_eq_true rfl)) dX1_account_64) (fun v64 => ?_)
    refine rk_of (fun _ _ _ _ _ k => lv_goto (tgt := 182) hx hb dX1_account_67 (by decide) k) ?_
    exact rk_top (rf_iret C rfl dX1_account_182)
  · refine rk_case (fun c_1_1 => ?_) (fun c_1_1 => ?_)
    · refine rk_of (fun _ _ _ _ _ k => by rw [c_1_1]; exact lv_tableIn (off := 69) (tgt := 70) hx hb dX1_account_1 (by decide) (by decide) rfl (by decide) k) ?_
      refine rk_of (fun _ _ _ _ _ k => lr_aload_n hx hb dX1_account_70 rfl (lv_at hl 0 rfl) k) ?_
      refine rk_get zm_rdR_eq C (hc_X1 H) (k := 0) (Nat.le_of_ble_eq_true rfl) in_X1 q271 (fun _ h => h) dX1_account_71 (fun v71 => ?_)
      refine rk_callR hX (cl_V (rest := []) (av := []) C (hc_X2 H) (ct_X2_lettings H v71) (lw_V q1457 q1458 q1459 q102 q1460) ⟨rfl, hd_X2_lettings⟩ ⟨(Nat.le_of_ble_eq_true rfl), (Nat.le_of_ble_eq_true rfl)⟩ rfl hl.1 rfl (zw_le zw_nil (Nat.le_of_ble_eq_true rfl)) dX1_account_74) (fun v74 => ?_)
      refine rk_callI hX (cl_dsp (fun ci => cl_case (cl_F (n := 0) (rest := []) (av := []) C (hc_J2 H) (ct_J2_size H v74) (lw_F q1462 q1057 q752 q105 q753) (zh_Fw H C (by decide) q1056 q1055 q1059 q1058 q309) (by decide +kernel) ⟨(Nat.le_of_ble_eq_true rfl), (Nat.le_of_ble_eq_true rfl)⟩ rfl hl.1 rfl (zw_le zw_nil (Nat.le_of_ble_eq_true rfl)) dX1_account_77) (cl_case (cl_F (n := 0) (rest := []) (av := []) C (hc_J4 H) (ct_J4_size H v74) (lw_F q1462 q1060 q755 q107 q756) (zh_Fw H C (by decide) q1056 q1055 q1062 q1061 q336) (by decide +kernel) ⟨(Nat.le_of_ble_eq_true rfl), (Nat.le_of_ble_eq_true rfl)⟩ rfl hl.1 rfl (zw_le zw_nil (Nat.le_of_ble_eq_true rfl)) dX1_account_77) (cl_fl)))) (fun v77 => ?_)
      refine rk_of (fun _ _ _ _ _ k => lv_goto (tgt := 182) hx hb dX1_account_82 (by decide) k) ?_
      exact rk_top (rf_iret C rfl dX1_account_182)
    · refine rk_case (fun c_1_2 => ?_) (fun c_1_2 => ?_)
      · refine rk_of (fun _ _ _ _ _ k => by rw [c_1_2]; exact lv_tableIn (off := 84) (tgt := 85) hx hb dX1_account_1 (by decide) (by decide) rfl (by decide) k) ?_
        refine rk_of (fun _ _ _ _ _ k => lr_aload_n hx hb dX1_account_85 rfl (lv_at hl 0 rfl) k) ?_
        refine rk_get zm_rdR_eq C (hc_X1 H) (k := 0) (Nat.le_of_ble_eq_true rfl) in_X1 q271 (fun _ h => h) dX1_account_86 (fun v86 => ?_)
        refine rk_of (fun _ _ _ _ _ k => lv_iconst (v := 0) hx hb dX1_account_89 rfl k) ?_
        refine rk_callI hX (cl_V (rest := []) (av := [.int 0]) C (hc_X2 H) (ct_X2_ofAll H v86 0) (lw_V q1122 q1102 q1103 q102 q1104) ⟨rfl, hd_X2_ofAll⟩ ⟨(Nat.le_of_ble_eq_true rfl), (Nat.le_of_ble_eq_true rfl)⟩ rfl hl.1 rfl (zw_le zw_nil (Nat.le_of_ble_eq_true rfl)) dX1_account_90) (fun v90 => ?_)
        refine rk_of (fun _ _ _ _ _ k => lv_goto (tgt := 182) hx hb dX1_account_93 (by decide) k) ?_
        exact rk_top (rf_iret C rfl dX1_account_182)
      · refine rk_case (fun c_1_3 => ?_) (fun c_1_3 => ?_)
        · refine rk_of (fun _ _ _ _ _ k => by rw [c_1_3]; exact lv_tableIn (off := 95) (tgt := 96) hx hb dX1_account_1 (by decide) (by decide) rfl (by decide) k) ?_
          refine rk_of (fun _ _ _ _ _ k => lr_aload_n hx hb dX1_account_96 rfl (lv_at hl 0 rfl) k) ?_
          refine rk_get zm_rdR_eq C (hc_X1 H) (k := 0) (Nat.le_of_ble_eq_true rfl) in_X1 q271 (fun _ h => h) dX1_account_97 (fun v97 => ?_)
          refine rk_callR hX (cl_V (rest := []) (av := []) C (hc_X2 H) (ct_X2_wishes_2 H v97) (lw_V q1628 q1629 q1630 q102 q1631) ⟨rfl, hd_X2_wishes_2⟩ ⟨(Nat.le_of_ble_eq_true rfl), (Nat.le_of_ble_eq_true rfl)⟩ rfl hl.1 rfl (zw_le zw_nil (Nat.le_of_ble_eq_true rfl)) dX1_account_100) (fun v100 => ?_)
          refine rk_callI hX (cl_dsp (fun ci => cl_case (cl_F (n := 0) (rest := []) (av := []) C (hc_J2 H) (ct_J2_size H v100) (lw_F q1462 q1057 q752 q105 q753) (zh_Fw H C (by decide) q1056 q1055 q1059 q1058 q309) (by decide +kernel) ⟨(Nat.le_of_ble_eq_true rfl), (Nat.le_of_ble_eq_true rfl)⟩ rfl hl.1 rfl (zw_le zw_nil (Nat.le_of_ble_eq_true rfl)) dX1_account_103) (cl_case (cl_F (n := 0) (rest := []) (av := []) C (hc_J4 H) (ct_J4_size H v100) (lw_F q1462 q1060 q755 q107 q756) (zh_Fw H C (by decide) q1056 q1055 q1062 q1061 q336) (by decide +kernel) ⟨(Nat.le_of_ble_eq_true rfl), (Nat.le_of_ble_eq_true rfl)⟩ rfl hl.1 rfl (zw_le zw_nil (Nat.le_of_ble_eq_true rfl)) dX1_account_103) (cl_fl)))) (fun v103 => ?_)
          refine rk_of (fun _ _ _ _ _ k => lv_goto (tgt := 182) hx hb dX1_account_108 (by decide) k) ?_
          exact rk_top (rf_iret C rfl dX1_account_182)
        · refine rk_case (fun c_1_4 => ?_) (fun c_1_4 => ?_)
          · refine rk_of (fun _ _ _ _ _ k => by rw [c_1_4]; exact lv_tableIn (off := 110) (tgt := 111) hx hb dX1_account_1 (by decide) (by decide) rfl (by decide) k) ?_
            refine rk_of (fun _ _ _ _ _ k => lr_aload_n hx hb dX1_account_111 rfl (lv_at hl 0 rfl) k) ?_
            refine rk_get zm_rdR_eq C (hc_X1 H) (k := 0) (Nat.le_of_ble_eq_true rfl) in_X1 q271 (fun _ h => h) dX1_account_112 (fun v112 => ?_)
            refine rk_callI hX (cl_V (rest := []) (av := []) C (hc_X2 H) (ct_X2_allotted H v112) (lw_V q2495 q2496 q2497 q102 q2498) ⟨rfl, hd_X2_allotted⟩ ⟨(Nat.le_of_ble_eq_true rfl), (Nat.le_of_ble_eq_true rfl)⟩ rfl hl.1 rfl (zw_le zw_nil (Nat.le_of_ble_eq_true rfl)) dX1_account_115) (fun v115 => ?_)
            refine rk_of (fun _ _ _ _ _ k => lv_goto (tgt := 182) hx hb dX1_account_118 (by decide) k) ?_
            exact rk_top (rf_iret C rfl dX1_account_182)
          · refine rk_case (fun c_1_5 => ?_) (fun c_1_5 => ?_)
            · refine rk_of (fun _ _ _ _ _ k => by rw [c_1_5]; exact lv_tableIn (off := 120) (tgt := 121) hx hb dX1_account_1 (by decide) (by decide) rfl (by decide) k) ?_
              refine rk_of (fun _ _ _ _ _ k => lr_aload_n hx hb dX1_account_121 rfl (lv_at hl 0 rfl) k) ?_
              refine rk_get zm_rdR_eq C (hc_X1 H) (k := 0) (Nat.le_of_ble_eq_true rfl) in_X1 q271 (fun _ h => h) dX1_account_122 (fun v122 => ?_)
              refine rk_of (fun _ _ _ _ _ k => lv_iload_n hx hb dX1_account_125 rfl (lv_at hl 1 rfl) (lv_iconst (v := 4) hx hb dX1_account_126 rfl (lv_isub hx hb dX1_account_127 k))) ?_
              refine rk_callI hX (cl_V (rest := []) (av := [.int (a1 - 4)]) C (hc_X2 H) (ct_X2_ofAll H v122 (a1 - 4)) (lw_V q1122 q1102 q1103 q102 q1104) ⟨rfl, hd_X2_ofAll⟩ ⟨(Nat.le_of_ble_eq_true rfl), (Nat.le_of_ble_eq_true rfl)⟩ rfl hl.1 rfl (zw_le zw_nil (Nat.le_of_ble_eq_true rfl)) dX1_account_128) (fun v128 => ?_)
              refine rk_of (fun _ _ _ _ _ k => lv_goto (tgt := 182) hx hb dX1_account_131 (by decide) k) ?_
              exact rk_top (rf_iret C rfl dX1_account_182)
            · refine rk_case (fun c_1_6 => ?_) (fun c_1_6 => ?_)
              · refine rk_of (fun _ _ _ _ _ k => by rw [c_1_6]; exact lv_tableIn (off := 120) (tgt := 121) hx hb dX1_account_1 (by decide) (by decide) rfl (by decide) k) ?_
                refine rk_of (fun _ _ _ _ _ k => lr_aload_n hx hb dX1_account_121 rfl (lv_at hl 0 rfl) k) ?_
                refine rk_get zm_rdR_eq C (hc_X1 H) (k := 0) (Nat.le_of_ble_eq_true rfl) in_X1 q271 (fun _ h => h) dX1_account_122 (fun v122 => ?_)
                refine rk_of (fun _ _ _ _ _ k => lv_iload_n hx hb dX1_account_125 rfl (lv_at hl 1 rfl) (lv_iconst (v := 4) hx hb dX1_account_126 rfl (lv_isub hx hb dX1_account_127 k))) ?_
                refine rk_callI hX (cl_V (rest := []) (av := [.int (a1 - 4)]) C (hc_X2 H) (ct_X2_ofAll H v122 (a1 - 4)) (lw_V q1122 q1102 q1103 q102 q1104) ⟨rfl, hd_X2_ofAll⟩ ⟨(Nat.le_of_ble_eq_true rfl), (Nat.le_of_ble_eq_true rfl)⟩ rfl hl.1 rfl (zw_le zw_nil (Nat.le_of_ble_eq_true rfl)) dX1_account_128) (fun v128 => ?_)
                refine rk_of (fun _ _ _ _ _ k => lv_goto (tgt := 182) hx hb dX1_account_131 (by decide) k) ?_
                exact rk_top (rf_iret C rfl dX1_account_182)
              · refine rk_case (fun c_1_7 => ?_) (fun c_1_7 => ?_)
                · refine rk_of (fun _ _ _ _ _ k => by rw [c_1_7]; exact lv_tableIn (off := 133) (tgt := 134) hx hb dX1_account_1 (by decide) (by decide) rfl (by decide) k) ?_
                  refine rk_of (fun _ _ _ _ _ k => lr_aload_n hx hb dX1_account_134 rfl (lv_at hl 0 rfl) k) ?_
                  refine rk_get zm_rdR_eq C (hc_X1 H) (k := 0) (Nat.le_of_ble_eq_true rfl) in_X1 q271 (fun _ h => h) dX1_account_135 (fun v135 => ?_)
                  refine rk_callI hX (cl_V (rest := []) (av := []) C (hc_X2 H) (ct_X2_cancelled H v135) (lw_V q2499 q2500 q2501 q102 q2502) ⟨rfl, hd_X2_cancelled⟩ ⟨(Nat.le_of_ble_eq_true rfl), (Nat.le_of_ble_eq_true rfl)⟩ rfl hl.1 rfl (zw_le zw_nil (Nat.le_of_ble_eq_true rfl)) dX1_account_138) (fun v138 => ?_)
                  refine rk_of (fun _ _ _ _ _ k => lv_goto (tgt := 182) hx hb dX1_account_141 (by decide) k) ?_
                  exact rk_top (rf_iret C rfl dX1_account_182)
                · refine rk_case (fun c_1_8 => ?_) (fun c_1_8 => ?_)
                  · refine rk_of (fun _ _ _ _ _ k => by rw [c_1_8]; exact lv_tableIn (off := 143) (tgt := 144) hx hb dX1_account_1 (by decide) (by decide) rfl (by decide) k) ?_
                    refine rk_of (fun _ _ _ _ _ k => lr_aload_n hx hb dX1_account_144 rfl (lv_at hl 0 rfl) k) ?_
                    refine rk_get zm_rdR_eq C (hc_X1 H) (k := 0) (Nat.le_of_ble_eq_true rfl) in_X1 q271 (fun _ h => h) dX1_account_145 (fun v145 => ?_)
                    refine rk_callI hX (cl_V (rest := []) (av := []) C (hc_X2 H) (ct_X2_joinings H v145) (lw_V q2503 q2504 q2505 q102 q2506) ⟨rfl, hd_X2_joinings⟩ ⟨(Nat.le_of_ble_eq_true rfl), (Nat.le_of_ble_eq_true rfl)⟩ rfl hl.1 rfl (zw_le zw_nil (Nat.le_of_ble_eq_true rfl)) dX1_account_148) (fun v148 => ?_)
                    refine rk_of (fun _ _ _ _ _ k => lv_goto (tgt := 182) hx hb dX1_account_151 (by decide) k) ?_
                    exact rk_top (rf_iret C rfl dX1_account_182)
                  · refine rk_case (fun c_1_9 => ?_) (fun c_1_9 => ?_)
                    · refine rk_of (fun _ _ _ _ _ k => by rw [c_1_9]; exact lv_tableIn (off := 153) (tgt := 154) hx hb dX1_account_1 (by decide) (by decide) rfl (by decide) k) ?_
                      refine rk_of (fun _ _ _ _ _ k => lr_aload_n hx hb dX1_account_154 rfl (lv_at hl 0 rfl) k) ?_
                      refine rk_get zm_rdR_eq C (hc_X1 H) (k := 3) (Nat.le_of_ble_eq_true rfl) in_X1 q274 (fun _ h => h) dX1_account_155 (fun v155 => ?_)
                      refine rk_callI hX (cl_V (rest := []) (av := []) C (hc_J6 H) (ct_J6_length H v155) (lw_V q1925 q581 q3087 q109 q582) ⟨rfl, hd_J6_length⟩ ⟨(Nat.le_of_ble_eq_true rfl), (Nat.le_of_ble_eq_true rfl)⟩ rfl hl.1 rfl (zw_le zw_nil (Nat.le_of_ble_eq_true rfl)) dX1_account_158) (fun v158 => ?_)
                      refine rk_of (fun _ _ _ _ _ k => lv_goto (tgt := 182) hx hb dX1_account_161 (by decide) k) ?_
                      exact rk_top (rf_iret C rfl dX1_account_182)
                    · refine rk_case (fun c_1_10 => ?_) (fun c_1_10 => ?_)
                      · refine rk_of (fun _ _ _ _ _ k => by rw [c_1_10]; exact lv_tableIn (off := 163) (tgt := 164) hx hb dX1_account_1 (by decide) (by decide) rfl (by decide) k) ?_
                        refine rk_of (fun _ _ _ _ _ k => lr_aload_n hx hb dX1_account_164 rfl (lv_at hl 0 rfl) k) ?_
                        refine rk_get zm_rdR_eq C (hc_X1 H) (k := 2) (Nat.le_of_ble_eq_true rfl) in_X1 q273 (fun _ h => h) dX1_account_165 (fun v165 => ?_)
                        refine rk_callI hX (cl_V (rest := []) (av := []) C (hc_J4 H) (ct_J4_size H v165) (lw_V q1340 q755 q3081 q107 q756) ⟨rfl, hd_J4_size⟩ ⟨(Nat.le_of_ble_eq_true rfl), (Nat.le_of_ble_eq_true rfl)⟩ rfl hl.1 rfl (zw_le zw_nil (Nat.le_of_ble_eq_true rfl)) dX1_account_168) (fun v168 => ?_)
                        refine rk_of (fun _ _ _ _ _ k => lv_goto (tgt := 182) hx hb dX1_account_171 (by decide) k) ?_
                        exact rk_top (rf_iret C rfl dX1_account_182)
                      · have q_0 : (a1).toInt ≠ 0 := fun q => c_1_0 (zs_eq q rfl)
                        have q_1 : (a1).toInt ≠ 1 := fun q => c_1_1 (zs_eq q rfl)
                        have q_2 : (a1).toInt ≠ 2 := fun q => c_1_2 (zs_eq q rfl)
                        have q_3 : (a1).toInt ≠ 3 := fun q => c_1_3 (zs_eq q rfl)
                        have q_4 : (a1).toInt ≠ 4 := fun q => c_1_4 (zs_eq q rfl)
                        have q_5 : (a1).toInt ≠ 5 := fun q => c_1_5 (zs_eq q rfl)
                        have q_6 : (a1).toInt ≠ 6 := fun q => c_1_6 (zs_eq q rfl)
                        have q_7 : (a1).toInt ≠ 7 := fun q => c_1_7 (zs_eq q rfl)
                        have q_8 : (a1).toInt ≠ 8 := fun q => c_1_8 (zs_eq q rfl)
                        have q_9 : (a1).toInt ≠ 9 := fun q => c_1_9 (zs_eq q rfl)
                        have q_10 : (a1).toInt ≠ 10 := fun q => c_1_10 (zs_eq q rfl)
                        refine rk_of (fun _ _ _ _ _ k => lv_tableOut (tgt := 174) hx hb dX1_account_1 (by omega) (by decide) k) ?_
                        refine rk_new C (hc_J12 H) in_J12 tyJ12_ok q1138 q596 q116 (fs := [.null, .null, .null, .null, .null, .int 0]) rfl (fun j hj => zdf_J12 j hj) dX1_account_174 (fun v174 => ?_)
                        refine rk_of (fun _ _ _ _ _ k => lv_dup hx hb dX1_account_177 (va_rf_cat _) k) ?_
                        refine rk_callV hX (cl_I (rest := [va_rf (some v174)]) C (ct_J12_init_2 H (some v174)) (lw_meth q1141) q116 q1139 q1140 rfl hd_J12_init_2 ⟨(Nat.le_of_ble_eq_true rfl), (Nat.le_of_ble_eq_true rfl)⟩ rfl hl.1 rfl (zw_le (zw_R zw_nil) (Nat.le_of_ble_eq_true rfl)) dX1_account_178) (fun _ => ?_)
                        exact rk_ath H C hX dX1_account_181
end
