/-! the model's counting loops (made by gen/xp.py from src/36.mdl2.txt) -/
theorem zx_eq {α : Type} {x : zm_M α} {σ τ : zm_S} {a : α} (h : ∀ Q E, Q a τ → zx x σ Q E) (Q : α → zm_S → Prop) (E : String → Nat → zm_S → Prop) : zx x σ Q E = Q a τ := zx_of (zr_of (h _ _ ⟨rfl, rfl⟩)) Q E
theorem zq_ov_le {l : zq_L} (hl : 0 ≤ l.2.1 ∧ l.2.2.1 ≤ 600) (f t : Int) : 0 ≤ zq_ov f t l ∧ zq_ov f t l ≤ 600 := by
  unfold zq_ov
  omega
theorem sd_letIn_6 {K : zm_K} {m : Nat} {M : zd_M} {T : zq_T} (hA : M.2 1 = zq_row T) (hT : zq_ok T) (b f t : Int) (hb : -2147483648 ≤ b ∧ b ≤ 2147483647) (hf : 0 ≤ f ∧ f ≤ 1200) (ht : 0 ≤ t ∧ t ≤ 1200) (n c : Nat) (h : Nat → Option zm_E) (Q : Int32 → zm_S → Prop) (E : String → Nat → zm_S → Prop) : ∀ (fuel i : Nat) (x : Int), i ≤ zq_nl T → zq_nl T - i < fuel → x = zq_sum (fun k => if zq_in b (zq_lt T k) = true then zq_ov f t (zq_lt T k) else 0) i → Q (zi (zq_letIn T b f t)) (n, c, zd_put m M h) → zx (fn_X3_letIn_6 K (some m) (zi b) (zi f) (zi t) fuel (zi x) (zi i)) (n, c, zd_put m M h) Q E := by
  intro fuel
  induction fuel with
  | zero => intro i x h1 h2; omega
  | succ fuel ih =>
    intro i x h1 h2 hx hQ
    have h30 := hT.1.2.1
    have h5 := hT.1.1
    simp (disch := omega) only [fn_X3_letIn_6, zx_bnd, zx_ret, zx_ite, zx_grd, zx_fl, zi_l0, zi_l1, zi_l2, zi_l3, zi_l4, zi_l5, zi_l6, zi_l7, zi_l8, zi_l9, zi_l10, zi_l11, zi_l12, zi_l13, zi_l14, zi_l15, zi_l16, zi_l17, zi_l18, zi_l19, zi_l20, zi_l21, zi_l22, zi_l23, zi_l24, zi_l25, zi_l26, zi_l27, zi_l28, zi_l29, zi_l30, zi_l31, zi_l32, zi_l33, zi_l34, zi_l35, zi_l36, zi_l37, zi_l38, zi_l43, zi_l45, zi_l46, zi_l48, zi_l57, zi_l59, zi_l60, zi_l63, zi_l97, zi_l100, zi_l119, zi_l120, zi_l122, zi_l127, zi_l128, zi_l161, zi_l197, zi_l255, zi_l400, zi_l599, zi_l600, zi_l1576, zi_l65535, sd_is, sd_getR0, sd_getR1, sd_getR2, sd_getR3, sd_getR12, sd_getR13, sd_getR15, sd_getR17, sd_getR18, sd_getI4, sd_getI5, sd_getI6, sd_getI7, sd_getI8, sd_getI9, sd_getI10, sd_getI11, sd_getI14, sd_getI16, sd_getI19, sd_getI20, sd_getI21, sd_getI22, sd_ald1, sd_ald2, sd_ald3, sd_ald4, sd_ald5, sd_ald6, sd_ald7, sd_ald8, sd_ald9, zi_add, zi_sub, zi_mul, zi_neg, zi_toInt, (zq_at_hd hA).2.1, zi_le, show (1 : Int).toNat = 1 from rfl]
    refine ⟨⟨by omega, by omega⟩, fun e => ?_, fun e => ?_⟩
    · rw [hx, show i = zq_nl T by omega]
      exact hQ
    · have hl := hT.2.2.1 i (by omega)
      have e1 := hl.2.1
      have e2 := hl.1
      simp (disch := omega) only [zx_bnd, zx_ret, zx_ite, zx_grd, zx_fl, sd_is, sd_getR0, sd_getR1, sd_getR2, sd_getR3, sd_getR12, sd_getR13, sd_getR15, sd_getR17, sd_getR18, sd_getI4, sd_getI5, sd_getI6, sd_getI7, sd_getI8, sd_getI9, sd_getI10, sd_getI11, sd_getI14, sd_getI16, sd_getI19, sd_getI20, sd_getI21, sd_getI22, sd_ald1, sd_ald2, sd_ald3, sd_ald4, sd_ald5, sd_ald6, sd_ald7, sd_ald8, sd_ald9, sd_isOver hA, sd_oL0 hA, sd_oL1 hA, sd_oL2 hA, zb_b0, Int.toNat_natCast, sd_lesser, sd_greater, zi_eq, zi_add, zi_sub, zi_mul, zi_neg]
      refine ⟨fun c0 => ⟨fun c1 => ?_, fun c1 => ?_⟩, fun c0 => ?_⟩
      · exact ih (i + 1) _ (by omega) (by omega) (by simp [zq_sum, zq_in, c0, c1, hx, zq_ov]) hQ
      · exact ih (i + 1) _ (by omega) (by omega) (by simp [zq_sum, zq_in, c0, c1, hx]) hQ
      · exact ih (i + 1) _ (by omega) (by omega) (by simp [zq_sum, zq_in, c0, hx]) hQ
