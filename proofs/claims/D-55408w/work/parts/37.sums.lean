/-! the summing loops of the model (printed by gen/mksums.py) -/
def zq_coins (l : zq_L) : Int := if l.2.2.2.2 = true then 0 else (l.2.2.1 - l.2.1) * l.2.2.2.1
def zq_len (l : zq_L) : Int := l.2.2.1 - l.2.1
theorem sd_letIn {K : zm_K} {m : Nat} {M : zd_M} {T : zq_T} (hA : M.2 1 = zq_row T) (hT : zq_ok T) (b f t : Int) (hb : -2147483648 ≤ b ∧ b ≤ 2147483647) (hf : 0 ≤ f ∧ f ≤ 1200) (ht : 0 ≤ t ∧ t ≤ 1200) (n c : Nat) (h : Nat → Option zm_E) (Q : Int32 → zm_S → Prop) (E : String → Nat → zm_S → Prop) : zx (fn_X3_letIn K (some m) (zi b) (zi f) (zi t)) (n, c, zd_put m M h) Q E = Q (zi (zq_letIn T b f t)) (n, c, zd_put m M h) := zx_eq (fun Q E hQ => by
  have h30 := hT.1.2.1
  simp only [fn_X3_letIn, zx_bnd, zx_ret, zx_ite, zx_grd, zx_fl, zi_l0, zi_l1, zi_l2, zi_l3, zi_l4, zi_l5, zi_l6, zi_l7, zi_l8, zi_l9, zi_l10, zi_l11, zi_l12, zi_l13, zi_l14, zi_l15, zi_l16, zi_l17, zi_l18, zi_l19, zi_l20, zi_l21, zi_l22, zi_l23, zi_l24, zi_l25, zi_l26, zi_l27, zi_l28, zi_l29, zi_l30, zi_l31, zi_l32, zi_l33, zi_l34, zi_l35, zi_l36, zi_l37, zi_l38, zi_l43, zi_l45, zi_l46, zi_l48, zi_l57, zi_l59, zi_l60, zi_l63, zi_l97, zi_l100, zi_l119, zi_l120, zi_l122, zi_l127, zi_l128, zi_l161, zi_l197, zi_l255, zi_l400, zi_l599, zi_l600, zi_l1576, zi_l65535, zm_N_eq]
  exact sd_letIn_6 hA hT b f t hb hf ht n c h _ _ 5000 0 0 (by omega) (by omega) rfl hQ) Q E
theorem sd_minutesLet {K : zm_K} {m : Nat} {M : zd_M} {T : zq_T} (hA : M.2 1 = zq_row T) (hT : zq_ok T) (b : Int) (hb : -2147483648 ≤ b ∧ b ≤ 2147483647) (n c : Nat) (h : Nat → Option zm_E) (Q : Int32 → zm_S → Prop) (E : String → Nat → zm_S → Prop) : zx (fn_X3_minutesLet K (some m) (zi b)) (n, c, zd_put m M h) Q E = Q (zi (zq_letIn T b 0 600)) (n, c, zd_put m M h) := by
  simp (disch := omega) only [fn_X3_minutesLet, zx_bnd, zx_ret, zx_ite, zx_grd, zx_fl, zi_l0, zi_l1, zi_l2, zi_l3, zi_l4, zi_l5, zi_l6, zi_l7, zi_l8, zi_l9, zi_l10, zi_l11, zi_l12, zi_l13, zi_l14, zi_l15, zi_l16, zi_l17, zi_l18, zi_l19, zi_l20, zi_l21, zi_l22, zi_l23, zi_l24, zi_l25, zi_l26, zi_l27, zi_l28, zi_l29, zi_l30, zi_l31, zi_l32, zi_l33, zi_l34, zi_l35, zi_l36, zi_l37, zi_l38, zi_l43, zi_l45, zi_l46, zi_l48, zi_l57, zi_l59, zi_l60, zi_l63, zi_l97, zi_l100, zi_l119, zi_l120, zi_l122, zi_l127, zi_l128, zi_l161, zi_l197, zi_l255, zi_l400, zi_l599, zi_l600, zi_l1576, zi_l65535, sd_is, sd_getR0, sd_getR1, sd_getR2, sd_getR3, sd_getR12, sd_getR13, sd_getR15, sd_getR17, sd_getR18, sd_getI4, sd_getI5, sd_getI6, sd_getI7, sd_getI8, sd_getI9, sd_getI10, sd_getI11, sd_getI14, sd_getI16, sd_getI19, sd_getI20, sd_getI21, sd_getI22, sd_ald1, sd_ald2, sd_ald3, sd_ald4, sd_ald5, sd_ald6, sd_ald7, sd_ald8, sd_ald9, sd_letIn hA hT]
theorem sd_minutesOf {K : zm_K} {m : Nat} {M : zd_M} {T : zq_T} (hA : M.2 1 = zq_row T) (hT : zq_ok T) (k : Int) (hk : 0 ≤ k ∧ k < 30) (n c : Nat) (h : Nat → Option zm_E) (Q : Int32 → zm_S → Prop) (E : String → Nat → zm_S → Prop) : zx (fn_X3_minutesOf K (some m) (zi k)) (n, c, zd_put m M h) Q E = Q (zi (zq_len (zq_lt T k.toNat))) (n, c, zd_put m M h) := by
  simp (disch := omega) only [fn_X3_minutesOf, zx_bnd, zx_ret, zx_ite, zx_grd, zx_fl, zi_l0, zi_l1, zi_l2, zi_l3, zi_l4, zi_l5, zi_l6, zi_l7, zi_l8, zi_l9, zi_l10, zi_l11, zi_l12, zi_l13, zi_l14, zi_l15, zi_l16, zi_l17, zi_l18, zi_l19, zi_l20, zi_l21, zi_l22, zi_l23, zi_l24, zi_l25, zi_l26, zi_l27, zi_l28, zi_l29, zi_l30, zi_l31, zi_l32, zi_l33, zi_l34, zi_l35, zi_l36, zi_l37, zi_l38, zi_l43, zi_l45, zi_l46, zi_l48, zi_l57, zi_l59, zi_l60, zi_l63, zi_l97, zi_l100, zi_l119, zi_l120, zi_l122, zi_l127, zi_l128, zi_l161, zi_l197, zi_l255, zi_l400, zi_l599, zi_l600, zi_l1576, zi_l65535, sd_is, sd_getR0, sd_getR1, sd_getR2, sd_getR3, sd_getR12, sd_getR13, sd_getR15, sd_getR17, sd_getR18, sd_getI4, sd_getI5, sd_getI6, sd_getI7, sd_getI8, sd_getI9, sd_getI10, sd_getI11, sd_getI14, sd_getI16, sd_getI19, sd_getI20, sd_getI21, sd_getI22, sd_ald1, sd_ald2, sd_ald3, sd_ald4, sd_ald5, sd_ald6, sd_ald7, sd_ald8, sd_ald9, zi_add, zi_sub, zi_mul, zi_neg, sd_isOver hA, sd_oL0 hA, sd_oL1 hA, sd_oL2 hA, sd_oL3 hA, sd_oL4 hA, sd_oW0 hA, sd_oW1 hA, sd_oW2 hA, zb_b0, zb_b1, zb_p0, zb_p1, Int.toNat_natCast, sd_lesser, sd_greater, sd_isIn, zi_eq, zi_le, zi_lt, zq_len]
theorem sd_coinsOf {K : zm_K} {m : Nat} {M : zd_M} {T : zq_T} (hA : M.2 1 = zq_row T) (hT : zq_ok T) (k : Int) (hk : 0 ≤ k ∧ k < 30) (n c : Nat) (h : Nat → Option zm_E) (Q : Int32 → zm_S → Prop) (E : String → Nat → zm_S → Prop) : zx (fn_X3_coinsOf K (some m) (zi k)) (n, c, zd_put m M h) Q E = Q (zi (zq_coins (zq_lt T k.toNat))) (n, c, zd_put m M h) := by
  simp (disch := omega) only [fn_X3_coinsOf, zx_bnd, zx_ret, zx_ite, zx_grd, zx_fl, zi_l0, zi_l1, zi_l2, zi_l3, zi_l4, zi_l5, zi_l6, zi_l7, zi_l8, zi_l9, zi_l10, zi_l11, zi_l12, zi_l13, zi_l14, zi_l15, zi_l16, zi_l17, zi_l18, zi_l19, zi_l20, zi_l21, zi_l22, zi_l23, zi_l24, zi_l25, zi_l26, zi_l27, zi_l28, zi_l29, zi_l30, zi_l31, zi_l32, zi_l33, zi_l34, zi_l35, zi_l36, zi_l37, zi_l38, zi_l43, zi_l45, zi_l46, zi_l48, zi_l57, zi_l59, zi_l60, zi_l63, zi_l97, zi_l100, zi_l119, zi_l120, zi_l122, zi_l127, zi_l128, zi_l161, zi_l197, zi_l255, zi_l400, zi_l599, zi_l600, zi_l1576, zi_l65535, sd_is, sd_getR0, sd_getR1, sd_getR2, sd_getR3, sd_getR12, sd_getR13, sd_getR15, sd_getR17, sd_getR18, sd_getI4, sd_getI5, sd_getI6, sd_getI7, sd_getI8, sd_getI9, sd_getI10, sd_getI11, sd_getI14, sd_getI16, sd_getI19, sd_getI20, sd_getI21, sd_getI22, sd_ald1, sd_ald2, sd_ald3, sd_ald4, sd_ald5, sd_ald6, sd_ald7, sd_ald8, sd_ald9, zi_add, zi_sub, zi_mul, zi_neg, sd_isOver hA, sd_oL0 hA, sd_oL1 hA, sd_oL2 hA, sd_oL3 hA, sd_oL4 hA, sd_oW0 hA, sd_oW1 hA, sd_oW2 hA, zb_b0, zb_b1, zb_p0, zb_p1, Int.toNat_natCast, sd_lesser, sd_greater, sd_isIn, zi_eq, zi_le, zi_lt, sd_minutesOf hA hT, zq_len, zq_coins]
  cases (zq_lt T k.toNat).2.2.2.2 <;> simp
theorem sd_allLettings_4 {K : zm_K} {m : Nat} {M : zd_M} {T : zq_T} (hA : M.2 1 = zq_row T) (hT : zq_ok T) (n c : Nat) (h : Nat → Option zm_E) (Q : Int32 → zm_S → Prop) (E : String → Nat → zm_S → Prop) : ∀ (fuel i : Nat) (x : Int), i ≤ zq_nl T → zq_nl T - i < fuel → x = zq_sum (fun k => zq_b (!(zq_lt T k).2.2.2.2)) i → Q (zi (zq_sum (fun k => zq_b (!(zq_lt T k).2.2.2.2)) (zq_nl T))) (n, c, zd_put m M h) → zx (fn_X3_allLettings_4 K (some m) fuel (zi x) (zi i)) (n, c, zd_put m M h) Q E := by
  intro fuel
  induction fuel with
  | zero => intro i x h1 h2; omega
  | succ fuel ih =>
    intro i x h1 h2 hx hQ
    have h30 := hT.1.2.1
    have h5 := hT.1.1
    have h12 := hT.1.2.2
    simp (disch := omega) only [fn_X3_allLettings_4, zx_bnd, zx_ret, zx_ite, zx_grd, zx_fl, zi_l0, zi_l1, zi_l2, zi_l3, zi_l4, zi_l5, zi_l6, zi_l7, zi_l8, zi_l9, zi_l10, zi_l11, zi_l12, zi_l13, zi_l14, zi_l15, zi_l16, zi_l17, zi_l18, zi_l19, zi_l20, zi_l21, zi_l22, zi_l23, zi_l24, zi_l25, zi_l26, zi_l27, zi_l28, zi_l29, zi_l30, zi_l31, zi_l32, zi_l33, zi_l34, zi_l35, zi_l36, zi_l37, zi_l38, zi_l43, zi_l45, zi_l46, zi_l48, zi_l57, zi_l59, zi_l60, zi_l63, zi_l97, zi_l100, zi_l119, zi_l120, zi_l122, zi_l127, zi_l128, zi_l161, zi_l197, zi_l255, zi_l400, zi_l599, zi_l600, zi_l1576, zi_l65535, sd_is, sd_getR0, sd_getR1, sd_getR2, sd_getR3, sd_getR12, sd_getR13, sd_getR15, sd_getR17, sd_getR18, sd_getI4, sd_getI5, sd_getI6, sd_getI7, sd_getI8, sd_getI9, sd_getI10, sd_getI11, sd_getI14, sd_getI16, sd_getI19, sd_getI20, sd_getI21, sd_getI22, sd_ald1, sd_ald2, sd_ald3, sd_ald4, sd_ald5, sd_ald6, sd_ald7, sd_ald8, sd_ald9, zi_add, zi_sub, zi_mul, zi_neg, zi_toInt, (zq_at_hd hA).2.1, zi_le, show (1 : Int).toNat = 1 from rfl]
    refine ⟨⟨by omega, by omega⟩, fun e => ?_, fun e => ?_⟩
    · rw [hx, show i = zq_nl T by omega]
      exact hQ
    · have hl := hT.2.2.1 i (by omega)
      have e1 := hl.2.1
      have e2 := hl.1
      have e3 := hl.2.2
      simp (disch := omega) only [zx_bnd, zx_ret, zx_ite, zx_grd, zx_fl, sd_is, sd_getR0, sd_getR1, sd_getR2, sd_getR3, sd_getR12, sd_getR13, sd_getR15, sd_getR17, sd_getR18, sd_getI4, sd_getI5, sd_getI6, sd_getI7, sd_getI8, sd_getI9, sd_getI10, sd_getI11, sd_getI14, sd_getI16, sd_getI19, sd_getI20, sd_getI21, sd_getI22, sd_ald1, sd_ald2, sd_ald3, sd_ald4, sd_ald5, sd_ald6, sd_ald7, sd_ald8, sd_ald9, zi_add, zi_sub, zi_mul, zi_neg, sd_isOver hA, sd_oL0 hA, sd_oL1 hA, sd_oL2 hA, sd_oL3 hA, sd_oL4 hA, sd_oW0 hA, sd_oW1 hA, sd_oW2 hA, zb_b0, zb_b1, zb_p0, zb_p1, Int.toNat_natCast, sd_lesser, sd_greater, sd_isIn, zi_eq, zi_le, zi_lt]
      repeat' (first | refine ⟨?_, ?_⟩ | intro _)
      all_goals exact ih (i + 1) _ (by omega) (by omega) (by simp [zq_sum, *, zq_b]) hQ
theorem sd_allLettings {K : zm_K} {m : Nat} {M : zd_M} {T : zq_T} (hA : M.2 1 = zq_row T) (hT : zq_ok T) (n c : Nat) (h : Nat → Option zm_E) (Q : Int32 → zm_S → Prop) (E : String → Nat → zm_S → Prop) : zx (fn_X3_allLettings K (some m)) (n, c, zd_put m M h) Q E = Q (zi (zq_sum (fun k => zq_b (!(zq_lt T k).2.2.2.2)) (zq_nl T))) (n, c, zd_put m M h) := zx_eq (fun Q E hQ => by
  have h30 := hT.1.2.1
  have h5 := hT.1.1
  have h12 := hT.1.2.2
  simp only [fn_X3_allLettings, zx_bnd, zx_ret, zx_ite, zx_grd, zx_fl, zi_l0, zi_l1, zi_l2, zi_l3, zi_l4, zi_l5, zi_l6, zi_l7, zi_l8, zi_l9, zi_l10, zi_l11, zi_l12, zi_l13, zi_l14, zi_l15, zi_l16, zi_l17, zi_l18, zi_l19, zi_l20, zi_l21, zi_l22, zi_l23, zi_l24, zi_l25, zi_l26, zi_l27, zi_l28, zi_l29, zi_l30, zi_l31, zi_l32, zi_l33, zi_l34, zi_l35, zi_l36, zi_l37, zi_l38, zi_l43, zi_l45, zi_l46, zi_l48, zi_l57, zi_l59, zi_l60, zi_l63, zi_l97, zi_l100, zi_l119, zi_l120, zi_l122, zi_l127, zi_l128, zi_l161, zi_l197, zi_l255, zi_l400, zi_l599, zi_l600, zi_l1576, zi_l65535, zm_N_eq]
  exact sd_allLettings_4 hA hT n c h _ _ 5000 0 0 (by omega) (by omega) rfl hQ) Q E
theorem sd_allMinutes_4 {K : zm_K} {m : Nat} {M : zd_M} {T : zq_T} (hA : M.2 1 = zq_row T) (hT : zq_ok T) (n c : Nat) (h : Nat → Option zm_E) (Q : Int32 → zm_S → Prop) (E : String → Nat → zm_S → Prop) : ∀ (fuel i : Nat) (x : Int), i ≤ zq_nb T → zq_nb T - i < fuel → x = zq_sum (fun b => zq_letIn T b 0 600) i → Q (zi (zq_sum (fun b => zq_letIn T b 0 600) (zq_nb T))) (n, c, zd_put m M h) → zx (fn_X3_allMinutes_4 K (some m) fuel (zi x) (zi i)) (n, c, zd_put m M h) Q E := by
  intro fuel
  induction fuel with
  | zero => intro i x h1 h2; omega
  | succ fuel ih =>
    intro i x h1 h2 hx hQ
    have h30 := hT.1.2.1
    have h5 := hT.1.1
    have h12 := hT.1.2.2
    simp (disch := omega) only [fn_X3_allMinutes_4, zx_bnd, zx_ret, zx_ite, zx_grd, zx_fl, zi_l0, zi_l1, zi_l2, zi_l3, zi_l4, zi_l5, zi_l6, zi_l7, zi_l8, zi_l9, zi_l10, zi_l11, zi_l12, zi_l13, zi_l14, zi_l15, zi_l16, zi_l17, zi_l18, zi_l19, zi_l20, zi_l21, zi_l22, zi_l23, zi_l24, zi_l25, zi_l26, zi_l27, zi_l28, zi_l29, zi_l30, zi_l31, zi_l32, zi_l33, zi_l34, zi_l35, zi_l36, zi_l37, zi_l38, zi_l43, zi_l45, zi_l46, zi_l48, zi_l57, zi_l59, zi_l60, zi_l63, zi_l97, zi_l100, zi_l119, zi_l120, zi_l122, zi_l127, zi_l128, zi_l161, zi_l197, zi_l255, zi_l400, zi_l599, zi_l600, zi_l1576, zi_l65535, sd_is, sd_getR0, sd_getR1, sd_getR2, sd_getR3, sd_getR12, sd_getR13, sd_getR15, sd_getR17, sd_getR18, sd_getI4, sd_getI5, sd_getI6, sd_getI7, sd_getI8, sd_getI9, sd_getI10, sd_getI11, sd_getI14, sd_getI16, sd_getI19, sd_getI20, sd_getI21, sd_getI22, sd_ald1, sd_ald2, sd_ald3, sd_ald4, sd_ald5, sd_ald6, sd_ald7, sd_ald8, sd_ald9, zi_add, zi_sub, zi_mul, zi_neg, zi_toInt, (zq_at_hd hA).1, zi_le, show (0 : Int).toNat = 0 from rfl]
    refine ⟨⟨by omega, by omega⟩, fun e => ?_, fun e => ?_⟩
    · rw [hx, show i = zq_nb T by omega]
      exact hQ
    · skip
      simp (disch := omega) only [zx_bnd, zx_ret, zx_ite, zx_grd, zx_fl, sd_is, sd_getR0, sd_getR1, sd_getR2, sd_getR3, sd_getR12, sd_getR13, sd_getR15, sd_getR17, sd_getR18, sd_getI4, sd_getI5, sd_getI6, sd_getI7, sd_getI8, sd_getI9, sd_getI10, sd_getI11, sd_getI14, sd_getI16, sd_getI19, sd_getI20, sd_getI21, sd_getI22, sd_ald1, sd_ald2, sd_ald3, sd_ald4, sd_ald5, sd_ald6, sd_ald7, sd_ald8, sd_ald9, zi_add, zi_sub, zi_mul, zi_neg, sd_isOver hA, sd_oL0 hA, sd_oL1 hA, sd_oL2 hA, sd_oL3 hA, sd_oL4 hA, sd_oW0 hA, sd_oW1 hA, sd_oW2 hA, zb_b0, zb_b1, zb_p0, zb_p1, Int.toNat_natCast, sd_lesser, sd_greater, sd_isIn, zi_eq, zi_le, zi_lt, sd_minutesLet hA hT]
      repeat' (first | refine ⟨?_, ?_⟩ | intro _)
      all_goals exact ih (i + 1) _ (by omega) (by omega) (by simp [zq_sum, *]) hQ
theorem sd_allMinutes {K : zm_K} {m : Nat} {M : zd_M} {T : zq_T} (hA : M.2 1 = zq_row T) (hT : zq_ok T) (n c : Nat) (h : Nat → Option zm_E) (Q : Int32 → zm_S → Prop) (E : String → Nat → zm_S → Prop) : zx (fn_X3_allMinutes K (some m)) (n, c, zd_put m M h) Q E = Q (zi (zq_sum (fun b => zq_letIn T b 0 600) (zq_nb T))) (n, c, zd_put m M h) := zx_eq (fun Q E hQ => by
  have h30 := hT.1.2.1
  have h5 := hT.1.1
  have h12 := hT.1.2.2
  simp only [fn_X3_allMinutes, zx_bnd, zx_ret, zx_ite, zx_grd, zx_fl, zi_l0, zi_l1, zi_l2, zi_l3, zi_l4, zi_l5, zi_l6, zi_l7, zi_l8, zi_l9, zi_l10, zi_l11, zi_l12, zi_l13, zi_l14, zi_l15, zi_l16, zi_l17, zi_l18, zi_l19, zi_l20, zi_l21, zi_l22, zi_l23, zi_l24, zi_l25, zi_l26, zi_l27, zi_l28, zi_l29, zi_l30, zi_l31, zi_l32, zi_l33, zi_l34, zi_l35, zi_l36, zi_l37, zi_l38, zi_l43, zi_l45, zi_l46, zi_l48, zi_l57, zi_l59, zi_l60, zi_l63, zi_l97, zi_l100, zi_l119, zi_l120, zi_l122, zi_l127, zi_l128, zi_l161, zi_l197, zi_l255, zi_l400, zi_l599, zi_l600, zi_l1576, zi_l65535, zm_N_eq]
  exact sd_allMinutes_4 hA hT n c h _ _ 5000 0 0 (by omega) (by omega) rfl hQ) Q E
theorem sd_allCoins_4 {K : zm_K} {m : Nat} {M : zd_M} {T : zq_T} (hA : M.2 1 = zq_row T) (hT : zq_ok T) (n c : Nat) (h : Nat → Option zm_E) (Q : Int32 → zm_S → Prop) (E : String → Nat → zm_S → Prop) : ∀ (fuel i : Nat) (x : Int), i ≤ zq_nl T → zq_nl T - i < fuel → x = zq_sum (fun k => zq_coins (zq_lt T k)) i → Q (zi (zq_sum (fun k => zq_coins (zq_lt T k)) (zq_nl T))) (n, c, zd_put m M h) → zx (fn_X3_allCoins_4 K (some m) fuel (zi x) (zi i)) (n, c, zd_put m M h) Q E := by
  intro fuel
  induction fuel with
  | zero => intro i x h1 h2; omega
  | succ fuel ih =>
    intro i x h1 h2 hx hQ
    have h30 := hT.1.2.1
    have h5 := hT.1.1
    have h12 := hT.1.2.2
    simp (disch := omega) only [fn_X3_allCoins_4, zx_bnd, zx_ret, zx_ite, zx_grd, zx_fl, zi_l0, zi_l1, zi_l2, zi_l3, zi_l4, zi_l5, zi_l6, zi_l7, zi_l8, zi_l9, zi_l10, zi_l11, zi_l12, zi_l13, zi_l14, zi_l15, zi_l16, zi_l17, zi_l18, zi_l19, zi_l20, zi_l21, zi_l22, zi_l23, zi_l24, zi_l25, zi_l26, zi_l27, zi_l28, zi_l29, zi_l30, zi_l31, zi_l32, zi_l33, zi_l34, zi_l35, zi_l36, zi_l37, zi_l38, zi_l43, zi_l45, zi_l46, zi_l48, zi_l57, zi_l59, zi_l60, zi_l63, zi_l97, zi_l100, zi_l119, zi_l120, zi_l122, zi_l127, zi_l128, zi_l161, zi_l197, zi_l255, zi_l400, zi_l599, zi_l600, zi_l1576, zi_l65535, sd_is, sd_getR0, sd_getR1, sd_getR2, sd_getR3, sd_getR12, sd_getR13, sd_getR15, sd_getR17, sd_getR18, sd_getI4, sd_getI5, sd_getI6, sd_getI7, sd_getI8, sd_getI9, sd_getI10, sd_getI11, sd_getI14, sd_getI16, sd_getI19, sd_getI20, sd_getI21, sd_getI22, sd_ald1, sd_ald2, sd_ald3, sd_ald4, sd_ald5, sd_ald6, sd_ald7, sd_ald8, sd_ald9, zi_add, zi_sub, zi_mul, zi_neg, zi_toInt, (zq_at_hd hA).2.1, zi_le, show (1 : Int).toNat = 1 from rfl]
    refine ⟨⟨by omega, by omega⟩, fun e => ?_, fun e => ?_⟩
    · rw [hx, show i = zq_nl T by omega]
      exact hQ
    · have hl := hT.2.2.1 i (by omega)
      have e1 := hl.2.1
      have e2 := hl.1
      have e3 := hl.2.2
      simp (disch := omega) only [zx_bnd, zx_ret, zx_ite, zx_grd, zx_fl, sd_is, sd_getR0, sd_getR1, sd_getR2, sd_getR3, sd_getR12, sd_getR13, sd_getR15, sd_getR17, sd_getR18, sd_getI4, sd_getI5, sd_getI6, sd_getI7, sd_getI8, sd_getI9, sd_getI10, sd_getI11, sd_getI14, sd_getI16, sd_getI19, sd_getI20, sd_getI21, sd_getI22, sd_ald1, sd_ald2, sd_ald3, sd_ald4, sd_ald5, sd_ald6, sd_ald7, sd_ald8, sd_ald9, zi_add, zi_sub, zi_mul, zi_neg, sd_isOver hA, sd_oL0 hA, sd_oL1 hA, sd_oL2 hA, sd_oL3 hA, sd_oL4 hA, sd_oW0 hA, sd_oW1 hA, sd_oW2 hA, zb_b0, zb_b1, zb_p0, zb_p1, Int.toNat_natCast, sd_lesser, sd_greater, sd_isIn, zi_eq, zi_le, zi_lt, sd_coinsOf hA hT]
      repeat' (first | refine ⟨?_, ?_⟩ | intro _)
      all_goals exact ih (i + 1) _ (by omega) (by omega) (by simp [zq_sum, *]) hQ
theorem sd_allCoins {K : zm_K} {m : Nat} {M : zd_M} {T : zq_T} (hA : M.2 1 = zq_row T) (hT : zq_ok T) (n c : Nat) (h : Nat → Option zm_E) (Q : Int32 → zm_S → Prop) (E : String → Nat → zm_S → Prop) : zx (fn_X3_allCoins K (some m)) (n, c, zd_put m M h) Q E = Q (zi (zq_sum (fun k => zq_coins (zq_lt T k)) (zq_nl T))) (n, c, zd_put m M h) := zx_eq (fun Q E hQ => by
  have h30 := hT.1.2.1
  have h5 := hT.1.1
  have h12 := hT.1.2.2
  simp only [fn_X3_allCoins, zx_bnd, zx_ret, zx_ite, zx_grd, zx_fl, zi_l0, zi_l1, zi_l2, zi_l3, zi_l4, zi_l5, zi_l6, zi_l7, zi_l8, zi_l9, zi_l10, zi_l11, zi_l12, zi_l13, zi_l14, zi_l15, zi_l16, zi_l17, zi_l18, zi_l19, zi_l20, zi_l21, zi_l22, zi_l23, zi_l24, zi_l25, zi_l26, zi_l27, zi_l28, zi_l29, zi_l30, zi_l31, zi_l32, zi_l33, zi_l34, zi_l35, zi_l36, zi_l37, zi_l38, zi_l43, zi_l45, zi_l46, zi_l48, zi_l57, zi_l59, zi_l60, zi_l63, zi_l97, zi_l100, zi_l119, zi_l120, zi_l122, zi_l127, zi_l128, zi_l161, zi_l197, zi_l255, zi_l400, zi_l599, zi_l600, zi_l1576, zi_l65535, zm_N_eq]
  exact sd_allCoins_4 hA hT n c h _ _ 5000 0 0 (by omega) (by omega) rfl hQ) Q E
theorem sd_lettingsIn_4 {K : zm_K} {m : Nat} {M : zd_M} {T : zq_T} (hA : M.2 1 = zq_row T) (hT : zq_ok T) (b : Int) (hb : -2147483648 ≤ b ∧ b ≤ 2147483647) (n c : Nat) (h : Nat → Option zm_E) (Q : Int32 → zm_S → Prop) (E : String → Nat → zm_S → Prop) : ∀ (fuel i : Nat) (x : Int), i ≤ zq_nl T → zq_nl T - i < fuel → x = zq_sum (fun k => zq_b (zq_in b (zq_lt T k))) i → Q (zi (zq_sum (fun k => zq_b (zq_in b (zq_lt T k))) (zq_nl T))) (n, c, zd_put m M h) → zx (fn_X3_lettingsIn_4 K (some m) (zi b) fuel (zi x) (zi i)) (n, c, zd_put m M h) Q E := by
  intro fuel
  induction fuel with
  | zero => intro i x h1 h2; omega
  | succ fuel ih =>
    intro i x h1 h2 hx hQ
    have h30 := hT.1.2.1
    have h5 := hT.1.1
    have h12 := hT.1.2.2
    simp (disch := omega) only [fn_X3_lettingsIn_4, zx_bnd, zx_ret, zx_ite, zx_grd, zx_fl, zi_l0, zi_l1, zi_l2, zi_l3, zi_l4, zi_l5, zi_l6, zi_l7, zi_l8, zi_l9, zi_l10, zi_l11, zi_l12, zi_l13, zi_l14, zi_l15, zi_l16, zi_l17, zi_l18, zi_l19, zi_l20, zi_l21, zi_l22, zi_l23, zi_l24, zi_l25, zi_l26, zi_l27, zi_l28, zi_l29, zi_l30, zi_l31, zi_l32, zi_l33, zi_l34, zi_l35, zi_l36, zi_l37, zi_l38, zi_l43, zi_l45, zi_l46, zi_l48, zi_l57, zi_l59, zi_l60, zi_l63, zi_l97, zi_l100, zi_l119, zi_l120, zi_l122, zi_l127, zi_l128, zi_l161, zi_l197, zi_l255, zi_l400, zi_l599, zi_l600, zi_l1576, zi_l65535, sd_is, sd_getR0, sd_getR1, sd_getR2, sd_getR3, sd_getR12, sd_getR13, sd_getR15, sd_getR17, sd_getR18, sd_getI4, sd_getI5, sd_getI6, sd_getI7, sd_getI8, sd_getI9, sd_getI10, sd_getI11, sd_getI14, sd_getI16, sd_getI19, sd_getI20, sd_getI21, sd_getI22, sd_ald1, sd_ald2, sd_ald3, sd_ald4, sd_ald5, sd_ald6, sd_ald7, sd_ald8, sd_ald9, zi_add, zi_sub, zi_mul, zi_neg, zi_toInt, (zq_at_hd hA).2.1, zi_le, show (1 : Int).toNat = 1 from rfl]
    refine ⟨⟨by omega, by omega⟩, fun e => ?_, fun e => ?_⟩
    · rw [hx, show i = zq_nl T by omega]
      exact hQ
    · have hl := hT.2.2.1 i (by omega)
      have e1 := hl.2.1
      have e2 := hl.1
      have e3 := hl.2.2
      simp (disch := omega) only [zx_bnd, zx_ret, zx_ite, zx_grd, zx_fl, sd_is, sd_getR0, sd_getR1, sd_getR2, sd_getR3, sd_getR12, sd_getR13, sd_getR15, sd_getR17, sd_getR18, sd_getI4, sd_getI5, sd_getI6, sd_getI7, sd_getI8, sd_getI9, sd_getI10, sd_getI11, sd_getI14, sd_getI16, sd_getI19, sd_getI20, sd_getI21, sd_getI22, sd_ald1, sd_ald2, sd_ald3, sd_ald4, sd_ald5, sd_ald6, sd_ald7, sd_ald8, sd_ald9, zi_add, zi_sub, zi_mul, zi_neg, sd_isOver hA, sd_oL0 hA, sd_oL1 hA, sd_oL2 hA, sd_oL3 hA, sd_oL4 hA, sd_oW0 hA, sd_oW1 hA, sd_oW2 hA, zb_b0, zb_b1, zb_p0, zb_p1, Int.toNat_natCast, sd_lesser, sd_greater, sd_isIn, zi_eq, zi_le, zi_lt]
      repeat' (first | refine ⟨?_, ?_⟩ | intro _)
      all_goals exact ih (i + 1) _ (by omega) (by omega) (by simp [zq_sum, *, zq_b, zq_in]) hQ
theorem sd_lettingsIn {K : zm_K} {m : Nat} {M : zd_M} {T : zq_T} (hA : M.2 1 = zq_row T) (hT : zq_ok T) (b : Int) (hb : -2147483648 ≤ b ∧ b ≤ 2147483647) (n c : Nat) (h : Nat → Option zm_E) (Q : Int32 → zm_S → Prop) (E : String → Nat → zm_S → Prop) : zx (fn_X3_lettingsIn K (some m) (zi b)) (n, c, zd_put m M h) Q E = Q (zi (zq_sum (fun k => zq_b (zq_in b (zq_lt T k))) (zq_nl T))) (n, c, zd_put m M h) := zx_eq (fun Q E hQ => by
  have h30 := hT.1.2.1
  have h5 := hT.1.1
  have h12 := hT.1.2.2
  simp only [fn_X3_lettingsIn, zx_bnd, zx_ret, zx_ite, zx_grd, zx_fl, zi_l0, zi_l1, zi_l2, zi_l3, zi_l4, zi_l5, zi_l6, zi_l7, zi_l8, zi_l9, zi_l10, zi_l11, zi_l12, zi_l13, zi_l14, zi_l15, zi_l16, zi_l17, zi_l18, zi_l19, zi_l20, zi_l21, zi_l22, zi_l23, zi_l24, zi_l25, zi_l26, zi_l27, zi_l28, zi_l29, zi_l30, zi_l31, zi_l32, zi_l33, zi_l34, zi_l35, zi_l36, zi_l37, zi_l38, zi_l43, zi_l45, zi_l46, zi_l48, zi_l57, zi_l59, zi_l60, zi_l63, zi_l97, zi_l100, zi_l119, zi_l120, zi_l122, zi_l127, zi_l128, zi_l161, zi_l197, zi_l255, zi_l400, zi_l599, zi_l600, zi_l1576, zi_l65535, zm_N_eq]
  exact sd_lettingsIn_4 hA hT b hb n c h _ _ 5000 0 0 (by omega) (by omega) rfl hQ) Q E
theorem sd_coinsIn_4 {K : zm_K} {m : Nat} {M : zd_M} {T : zq_T} (hA : M.2 1 = zq_row T) (hT : zq_ok T) (b : Int) (hb : -2147483648 ≤ b ∧ b ≤ 2147483647) (n c : Nat) (h : Nat → Option zm_E) (Q : Int32 → zm_S → Prop) (E : String → Nat → zm_S → Prop) : ∀ (fuel i : Nat) (x : Int), i ≤ zq_nl T → zq_nl T - i < fuel → x = zq_sum (fun k => if (zq_lt T k).1 = b then zq_coins (zq_lt T k) else 0) i → Q (zi (zq_sum (fun k => if (zq_lt T k).1 = b then zq_coins (zq_lt T k) else 0) (zq_nl T))) (n, c, zd_put m M h) → zx (fn_X3_coinsIn_4 K (some m) (zi b) fuel (zi x) (zi i)) (n, c, zd_put m M h) Q E := by
  intro fuel
  induction fuel with
  | zero => intro i x h1 h2; omega
  | succ fuel ih =>
    intro i x h1 h2 hx hQ
    have h30 := hT.1.2.1
    have h5 := hT.1.1
    have h12 := hT.1.2.2
    simp (disch := omega) only [fn_X3_coinsIn_4, zx_bnd, zx_ret, zx_ite, zx_grd, zx_fl, zi_l0, zi_l1, zi_l2, zi_l3, zi_l4, zi_l5, zi_l6, zi_l7, zi_l8, zi_l9, zi_l10, zi_l11, zi_l12, zi_l13, zi_l14, zi_l15, zi_l16, zi_l17, zi_l18, zi_l19, zi_l20, zi_l21, zi_l22, zi_l23, zi_l24, zi_l25, zi_l26, zi_l27, zi_l28, zi_l29, zi_l30, zi_l31, zi_l32, zi_l33, zi_l34, zi_l35, zi_l36, zi_l37, zi_l38, zi_l43, zi_l45, zi_l46, zi_l48, zi_l57, zi_l59, zi_l60, zi_l63, zi_l97, zi_l100, zi_l119, zi_l120, zi_l122, zi_l127, zi_l128, zi_l161, zi_l197, zi_l255, zi_l400, zi_l599, zi_l600, zi_l1576, zi_l65535, sd_is, sd_getR0, sd_getR1, sd_getR2, sd_getR3, sd_getR12, sd_getR13, sd_getR15, sd_getR17, sd_getR18, sd_getI4, sd_getI5, sd_getI6, sd_getI7, sd_getI8, sd_getI9, sd_getI10, sd_getI11, sd_getI14, sd_getI16, sd_getI19, sd_getI20, sd_getI21, sd_getI22, sd_ald1, sd_ald2, sd_ald3, sd_ald4, sd_ald5, sd_ald6, sd_ald7, sd_ald8, sd_ald9, zi_add, zi_sub, zi_mul, zi_neg, zi_toInt, (zq_at_hd hA).2.1, zi_le, show (1 : Int).toNat = 1 from rfl]
    refine ⟨⟨by omega, by omega⟩, fun e => ?_, fun e => ?_⟩
    · rw [hx, show i = zq_nl T by omega]
      exact hQ
    · have hl := hT.2.2.1 i (by omega)
      have e1 := hl.2.1
      have e2 := hl.1
      have e3 := hl.2.2
      simp (disch := omega) only [zx_bnd, zx_ret, zx_ite, zx_grd, zx_fl, sd_is, sd_getR0, sd_getR1, sd_getR2, sd_getR3, sd_getR12, sd_getR13, sd_getR15, sd_getR17, sd_getR18, sd_getI4, sd_getI5, sd_getI6, sd_getI7, sd_getI8, sd_getI9, sd_getI10, sd_getI11, sd_getI14, sd_getI16, sd_getI19, sd_getI20, sd_getI21, sd_getI22, sd_ald1, sd_ald2, sd_ald3, sd_ald4, sd_ald5, sd_ald6, sd_ald7, sd_ald8, sd_ald9, zi_add, zi_sub, zi_mul, zi_neg, sd_isOver hA, sd_oL0 hA, sd_oL1 hA, sd_oL2 hA, sd_oL3 hA, sd_oL4 hA, sd_oW0 hA, sd_oW1 hA, sd_oW2 hA, zb_b0, zb_b1, zb_p0, zb_p1, Int.toNat_natCast, sd_lesser, sd_greater, sd_isIn, zi_eq, zi_le, zi_lt, sd_coinsOf hA hT]
      repeat' (first | refine ⟨?_, ?_⟩ | intro _)
      all_goals exact ih (i + 1) _ (by omega) (by omega) (by simp [zq_sum, *]) hQ
theorem sd_coinsIn {K : zm_K} {m : Nat} {M : zd_M} {T : zq_T} (hA : M.2 1 = zq_row T) (hT : zq_ok T) (b : Int) (hb : -2147483648 ≤ b ∧ b ≤ 2147483647) (n c : Nat) (h : Nat → Option zm_E) (Q : Int32 → zm_S → Prop) (E : String → Nat → zm_S → Prop) : zx (fn_X3_coinsIn K (some m) (zi b)) (n, c, zd_put m M h) Q E = Q (zi (zq_sum (fun k => if (zq_lt T k).1 = b then zq_coins (zq_lt T k) else 0) (zq_nl T))) (n, c, zd_put m M h) := zx_eq (fun Q E hQ => by
  have h30 := hT.1.2.1
  have h5 := hT.1.1
  have h12 := hT.1.2.2
  simp only [fn_X3_coinsIn, zx_bnd, zx_ret, zx_ite, zx_grd, zx_fl, zi_l0, zi_l1, zi_l2, zi_l3, zi_l4, zi_l5, zi_l6, zi_l7, zi_l8, zi_l9, zi_l10, zi_l11, zi_l12, zi_l13, zi_l14, zi_l15, zi_l16, zi_l17, zi_l18, zi_l19, zi_l20, zi_l21, zi_l22, zi_l23, zi_l24, zi_l25, zi_l26, zi_l27, zi_l28, zi_l29, zi_l30, zi_l31, zi_l32, zi_l33, zi_l34, zi_l35, zi_l36, zi_l37, zi_l38, zi_l43, zi_l45, zi_l46, zi_l48, zi_l57, zi_l59, zi_l60, zi_l63, zi_l97, zi_l100, zi_l119, zi_l120, zi_l122, zi_l127, zi_l128, zi_l161, zi_l197, zi_l255, zi_l400, zi_l599, zi_l600, zi_l1576, zi_l65535, zm_N_eq]
  exact sd_coinsIn_4 hA hT b hb n c h _ _ 5000 0 0 (by omega) (by omega) rfl hQ) Q E
theorem sd_wishesOver_4 {K : zm_K} {m : Nat} {M : zd_M} {T : zq_T} (hA : M.2 1 = zq_row T) (hT : zq_ok T) (mi : Int) (hm : 0 ≤ mi ∧ mi ≤ 1200) (n c : Nat) (h : Nat → Option zm_E) (Q : Int32 → zm_S → Prop) (E : String → Nat → zm_S → Prop) : ∀ (fuel i : Nat) (x : Int), i ≤ zq_nw T → zq_nw T - i < fuel → x = zq_sum (fun k => zq_p ((zq_ws T k).1 ≤ mi ∧ mi ≤ (zq_ws T k).2.1 - 1)) i → Q (zi (zq_sum (fun k => zq_p ((zq_ws T k).1 ≤ mi ∧ mi ≤ (zq_ws T k).2.1 - 1)) (zq_nw T))) (n, c, zd_put m M h) → zx (fn_X3_wishesOver_4 K (some m) (zi mi) fuel (zi x) (zi i)) (n, c, zd_put m M h) Q E := by
  intro fuel
  induction fuel with
  | zero => intro i x h1 h2; omega
  | succ fuel ih =>
    intro i x h1 h2 hx hQ
    have h30 := hT.1.2.1
    have h5 := hT.1.1
    have h12 := hT.1.2.2
    simp (disch := omega) only [fn_X3_wishesOver_4, zx_bnd, zx_ret, zx_ite, zx_grd, zx_fl, zi_l0, zi_l1, zi_l2, zi_l3, zi_l4, zi_l5, zi_l6, zi_l7, zi_l8, zi_l9, zi_l10, zi_l11, zi_l12, zi_l13, zi_l14, zi_l15, zi_l16, zi_l17, zi_l18, zi_l19, zi_l20, zi_l21, zi_l22, zi_l23, zi_l24, zi_l25, zi_l26, zi_l27, zi_l28, zi_l29, zi_l30, zi_l31, zi_l32, zi_l33, zi_l34, zi_l35, zi_l36, zi_l37, zi_l38, zi_l43, zi_l45, zi_l46, zi_l48, zi_l57, zi_l59, zi_l60, zi_l63, zi_l97, zi_l100, zi_l119, zi_l120, zi_l122, zi_l127, zi_l128, zi_l161, zi_l197, zi_l255, zi_l400, zi_l599, zi_l600, zi_l1576, zi_l65535, sd_is, sd_getR0, sd_getR1, sd_getR2, sd_getR3, sd_getR12, sd_getR13, sd_getR15, sd_getR17, sd_getR18, sd_getI4, sd_getI5, sd_getI6, sd_getI7, sd_getI8, sd_getI9, sd_getI10, sd_getI11, sd_getI14, sd_getI16, sd_getI19, sd_getI20, sd_getI21, sd_getI22, sd_ald1, sd_ald2, sd_ald3, sd_ald4, sd_ald5, sd_ald6, sd_ald7, sd_ald8, sd_ald9, zi_add, zi_sub, zi_mul, zi_neg, zi_toInt, (zq_at_hd hA).2.2, zi_le, show (2 : Int).toNat = 2 from rfl]
    refine ⟨⟨by omega, by omega⟩, fun e => ?_, fun e => ?_⟩
    · rw [hx, show i = zq_nw T by omega]
      exact hQ
    · have hl := hT.2.2.2.1 i (by omega)
      have e1 := hl.1
      have e3 := hl.2
      simp (disch := omega) only [zx_bnd, zx_ret, zx_ite, zx_grd, zx_fl, sd_is, sd_getR0, sd_getR1, sd_getR2, sd_getR3, sd_getR12, sd_getR13, sd_getR15, sd_getR17, sd_getR18, sd_getI4, sd_getI5, sd_getI6, sd_getI7, sd_getI8, sd_getI9, sd_getI10, sd_getI11, sd_getI14, sd_getI16, sd_getI19, sd_getI20, sd_getI21, sd_getI22, sd_ald1, sd_ald2, sd_ald3, sd_ald4, sd_ald5, sd_ald6, sd_ald7, sd_ald8, sd_ald9, zi_add, zi_sub, zi_mul, zi_neg, sd_isOver hA, sd_oL0 hA, sd_oL1 hA, sd_oL2 hA, sd_oL3 hA, sd_oL4 hA, sd_oW0 hA, sd_oW1 hA, sd_oW2 hA, zb_b0, zb_b1, zb_p0, zb_p1, Int.toNat_natCast, sd_lesser, sd_greater, sd_isIn, zi_eq, zi_le, zi_lt]
      repeat' (first | refine ⟨?_, ?_⟩ | intro _)
      all_goals exact ih (i + 1) _ (by omega) (by omega) (by simp [zq_sum, *, zq_p]) hQ
theorem sd_wishesOver {K : zm_K} {m : Nat} {M : zd_M} {T : zq_T} (hA : M.2 1 = zq_row T) (hT : zq_ok T) (mi : Int) (hm : 0 ≤ mi ∧ mi ≤ 1200) (n c : Nat) (h : Nat → Option zm_E) (Q : Int32 → zm_S → Prop) (E : String → Nat → zm_S → Prop) : zx (fn_X3_wishesOver K (some m) (zi mi)) (n, c, zd_put m M h) Q E = Q (zi (zq_sum (fun k => zq_p ((zq_ws T k).1 ≤ mi ∧ mi ≤ (zq_ws T k).2.1 - 1)) (zq_nw T))) (n, c, zd_put m M h) := zx_eq (fun Q E hQ => by
  have h30 := hT.1.2.1
  have h5 := hT.1.1
  have h12 := hT.1.2.2
  simp only [fn_X3_wishesOver, zx_bnd, zx_ret, zx_ite, zx_grd, zx_fl, zi_l0, zi_l1, zi_l2, zi_l3, zi_l4, zi_l5, zi_l6, zi_l7, zi_l8, zi_l9, zi_l10, zi_l11, zi_l12, zi_l13, zi_l14, zi_l15, zi_l16, zi_l17, zi_l18, zi_l19, zi_l20, zi_l21, zi_l22, zi_l23, zi_l24, zi_l25, zi_l26, zi_l27, zi_l28, zi_l29, zi_l30, zi_l31, zi_l32, zi_l33, zi_l34, zi_l35, zi_l36, zi_l37, zi_l38, zi_l43, zi_l45, zi_l46, zi_l48, zi_l57, zi_l59, zi_l60, zi_l63, zi_l97, zi_l100, zi_l119, zi_l120, zi_l122, zi_l127, zi_l128, zi_l161, zi_l197, zi_l255, zi_l400, zi_l599, zi_l600, zi_l1576, zi_l65535, zm_N_eq]
  exact sd_wishesOver_4 hA hT mi hm n c h _ _ 5000 0 0 (by omega) (by omega) rfl hQ) Q E
