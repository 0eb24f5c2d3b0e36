/-! the model's readers (made by gen/xp.py from src/35.mdl.txt) -/
def zi_ok (z : Int) : Prop := -2147483648 ≤ z ∧ z ≤ 2147483647
theorem zb_p0 (P : Prop) [Decidable P] : (zi (zq_p P) = zi 0) = ¬ P := by
  unfold zq_p
  by_cases h : P <;> simp [h] <;> decide
theorem zb_p1 (P : Prop) [Decidable P] : (zi (zq_p P) = zi 1) = P := by
  unfold zq_p
  by_cases h : P <;> simp [h] <;> decide
theorem zb_b0 (o : Bool) : (zi (zq_b o) = zi 0) = (o = false) := by
  cases o <;> simp [zq_b] <;> decide
theorem zb_b1 (o : Bool) : (zi (zq_b o) = zi 1) = (o = true) := by
  cases o <;> simp [zq_b] <;> decide
theorem sd_ofLetting {K : zm_K} {m : Nat} {M : zd_M} (k r : Int) (hk : 0 ≤ k ∧ k < 30) (hr : 0 ≤ r ∧ r < 5) (n c : Nat) (h : Nat → Option zm_E) (Q : Int32 → zm_S → Prop) (E : String → Nat → zm_S → Prop) : zx (fn_X3_ofLetting K (some m) (zi k) (zi r)) (n, c, zd_put m M h) Q E = Q (M.2 1 (11 + 5 * k + r).toNat) (n, c, zd_put m M h) := by
  simp (disch := omega) only [fn_X3_ofLetting, fn_X3_lettingAt, zx_bnd, zx_ret, zx_ite, zx_grd, zx_fl, zi_l0, zi_l1, zi_l2, zi_l3, zi_l4, zi_l5, zi_l6, zi_l7, zi_l8, zi_l9, zi_l10, zi_l11, zi_l12, zi_l13, zi_l14, zi_l15, zi_l16, zi_l17, zi_l18, zi_l19, zi_l20, zi_l21, zi_l22, zi_l23, zi_l24, zi_l25, zi_l26, zi_l27, zi_l28, zi_l29, zi_l30, zi_l31, zi_l32, zi_l33, zi_l34, zi_l35, zi_l36, zi_l37, zi_l38, zi_l43, zi_l45, zi_l46, zi_l48, zi_l57, zi_l59, zi_l60, zi_l63, zi_l97, zi_l100, zi_l119, zi_l120, zi_l122, zi_l127, zi_l128, zi_l161, zi_l197, zi_l255, zi_l400, zi_l599, zi_l600, zi_l1576, zi_l65535, sd_is, sd_getR0, sd_getR1, sd_getR2, sd_getR3, sd_getR12, sd_getR13, sd_getR15, sd_getR17, sd_getR18, sd_getI4, sd_getI5, sd_getI6, sd_getI7, sd_getI8, sd_getI9, sd_getI10, sd_getI11, sd_getI14, sd_getI16, sd_getI19, sd_getI20, sd_getI21, sd_getI22, sd_ald1, sd_ald2, sd_ald3, sd_ald4, sd_ald5, sd_ald6, sd_ald7, sd_ald8, sd_ald9, zi_add, zi_sub, zi_mul, zi_neg, zi_toInt]
  simp only [show 0 ≤ 11 + 5 * k + r ∧ 11 + 5 * k + r < 197 by omega, and_self, true_and]
theorem sd_ofWish {K : zm_K} {m : Nat} {M : zd_M} (k r : Int) (hk : 0 ≤ k ∧ k < 12) (hr : 0 ≤ r ∧ r < 3) (n c : Nat) (h : Nat → Option zm_E) (Q : Int32 → zm_S → Prop) (E : String → Nat → zm_S → Prop) : zx (fn_X3_ofWish K (some m) (zi k) (zi r)) (n, c, zd_put m M h) Q E = Q (M.2 1 (161 + 3 * k + r).toNat) (n, c, zd_put m M h) := by
  simp (disch := omega) only [fn_X3_ofWish, fn_X3_wishAt, zx_bnd, zx_ret, zx_ite, zx_grd, zx_fl, zi_l0, zi_l1, zi_l2, zi_l3, zi_l4, zi_l5, zi_l6, zi_l7, zi_l8, zi_l9, zi_l10, zi_l11, zi_l12, zi_l13, zi_l14, zi_l15, zi_l16, zi_l17, zi_l18, zi_l19, zi_l20, zi_l21, zi_l22, zi_l23, zi_l24, zi_l25, zi_l26, zi_l27, zi_l28, zi_l29, zi_l30, zi_l31, zi_l32, zi_l33, zi_l34, zi_l35, zi_l36, zi_l37, zi_l38, zi_l43, zi_l45, zi_l46, zi_l48, zi_l57, zi_l59, zi_l60, zi_l63, zi_l97, zi_l100, zi_l119, zi_l120, zi_l122, zi_l127, zi_l128, zi_l161, zi_l197, zi_l255, zi_l400, zi_l599, zi_l600, zi_l1576, zi_l65535, sd_is, sd_getR0, sd_getR1, sd_getR2, sd_getR3, sd_getR12, sd_getR13, sd_getR15, sd_getR17, sd_getR18, sd_getI4, sd_getI5, sd_getI6, sd_getI7, sd_getI8, sd_getI9, sd_getI10, sd_getI11, sd_getI14, sd_getI16, sd_getI19, sd_getI20, sd_getI21, sd_getI22, sd_ald1, sd_ald2, sd_ald3, sd_ald4, sd_ald5, sd_ald6, sd_ald7, sd_ald8, sd_ald9, zi_add, zi_sub, zi_mul, zi_neg, zi_toInt]
  simp only [show 0 ≤ 161 + 3 * k + r ∧ 161 + 3 * k + r < 197 by omega, and_self, true_and]
theorem sd_oL {K : zm_K} {m : Nat} {M : zd_M} {T : zq_T} (hA : M.2 1 = zq_row T) (r : Nat) (hr : r < 5) (k : Int) (hk : 0 ≤ k ∧ k < 30) (n c : Nat) (h : Nat → Option zm_E) (Q : Int32 → zm_S → Prop) (E : String → Nat → zm_S → Prop) : zx (fn_X3_ofLetting K (some m) (zi k) (zi r)) (n, c, zd_put m M h) Q E = Q (zq_lf (zq_lt T k.toNat) r) (n, c, zd_put m M h) := by
  rw [sd_ofLetting k r hk (by omega), hA, show (11 + 5 * k + (r : Int)).toNat = 11 + 5 * k.toNat + r by omega, zq_row_lt (by omega) hr]
theorem sd_oW {K : zm_K} {m : Nat} {M : zd_M} {T : zq_T} (hA : M.2 1 = zq_row T) (r : Nat) (hr : r < 3) (k : Int) (hk : 0 ≤ k ∧ k < 12) (n c : Nat) (h : Nat → Option zm_E) (Q : Int32 → zm_S → Prop) (E : String → Nat → zm_S → Prop) : zx (fn_X3_ofWish K (some m) (zi k) (zi r)) (n, c, zd_put m M h) Q E = Q (zq_wf (zq_ws T k.toNat) r) (n, c, zd_put m M h) := by
  rw [sd_ofWish k r hk (by omega), hA, show (161 + 3 * k + (r : Int)).toNat = 161 + 3 * k.toNat + r by omega, zq_row_ws (by omega) hr]
theorem sd_oL0 {K : zm_K} {m : Nat} {M : zd_M} {T : zq_T} (hA : M.2 1 = zq_row T) (k : Int) (hk : 0 ≤ k ∧ k < 30) (n c : Nat) (h : Nat → Option zm_E) (Q : Int32 → zm_S → Prop) (E : String → Nat → zm_S → Prop) : zx (fn_X3_ofLetting K (some m) (zi k) (zi 0)) (n, c, zd_put m M h) Q E = Q (zi (zq_lt T k.toNat).1) (n, c, zd_put m M h) := sd_oL hA 0 (by omega) k hk n c h Q E
theorem sd_oL1 {K : zm_K} {m : Nat} {M : zd_M} {T : zq_T} (hA : M.2 1 = zq_row T) (k : Int) (hk : 0 ≤ k ∧ k < 30) (n c : Nat) (h : Nat → Option zm_E) (Q : Int32 → zm_S → Prop) (E : String → Nat → zm_S → Prop) : zx (fn_X3_ofLetting K (some m) (zi k) (zi 1)) (n, c, zd_put m M h) Q E = Q (zi (zq_lt T k.toNat).2.1) (n, c, zd_put m M h) := sd_oL hA 1 (by omega) k hk n c h Q E
theorem sd_oL2 {K : zm_K} {m : Nat} {M : zd_M} {T : zq_T} (hA : M.2 1 = zq_row T) (k : Int) (hk : 0 ≤ k ∧ k < 30) (n c : Nat) (h : Nat → Option zm_E) (Q : Int32 → zm_S → Prop) (E : String → Nat → zm_S → Prop) : zx (fn_X3_ofLetting K (some m) (zi k) (zi 2)) (n, c, zd_put m M h) Q E = Q (zi (zq_lt T k.toNat).2.2.1) (n, c, zd_put m M h) := sd_oL hA 2 (by omega) k hk n c h Q E
theorem sd_oL3 {K : zm_K} {m : Nat} {M : zd_M} {T : zq_T} (hA : M.2 1 = zq_row T) (k : Int) (hk : 0 ≤ k ∧ k < 30) (n c : Nat) (h : Nat → Option zm_E) (Q : Int32 → zm_S → Prop) (E : String → Nat → zm_S → Prop) : zx (fn_X3_ofLetting K (some m) (zi k) (zi 3)) (n, c, zd_put m M h) Q E = Q (zi (zq_lt T k.toNat).2.2.2.1) (n, c, zd_put m M h) := sd_oL hA 3 (by omega) k hk n c h Q E
theorem sd_oL4 {K : zm_K} {m : Nat} {M : zd_M} {T : zq_T} (hA : M.2 1 = zq_row T) (k : Int) (hk : 0 ≤ k ∧ k < 30) (n c : Nat) (h : Nat → Option zm_E) (Q : Int32 → zm_S → Prop) (E : String → Nat → zm_S → Prop) : zx (fn_X3_ofLetting K (some m) (zi k) (zi 4)) (n, c, zd_put m M h) Q E = Q (zi (zq_b (zq_lt T k.toNat).2.2.2.2)) (n, c, zd_put m M h) := sd_oL hA 4 (by omega) k hk n c h Q E
theorem sd_oW0 {K : zm_K} {m : Nat} {M : zd_M} {T : zq_T} (hA : M.2 1 = zq_row T) (k : Int) (hk : 0 ≤ k ∧ k < 12) (n c : Nat) (h : Nat → Option zm_E) (Q : Int32 → zm_S → Prop) (E : String → Nat → zm_S → Prop) : zx (fn_X3_ofWish K (some m) (zi k) (zi 0)) (n, c, zd_put m M h) Q E = Q (zi (zq_ws T k.toNat).1) (n, c, zd_put m M h) := sd_oW hA 0 (by omega) k hk n c h Q E
theorem sd_oW1 {K : zm_K} {m : Nat} {M : zd_M} {T : zq_T} (hA : M.2 1 = zq_row T) (k : Int) (hk : 0 ≤ k ∧ k < 12) (n c : Nat) (h : Nat → Option zm_E) (Q : Int32 → zm_S → Prop) (E : String → Nat → zm_S → Prop) : zx (fn_X3_ofWish K (some m) (zi k) (zi 1)) (n, c, zd_put m M h) Q E = Q (zi (zq_ws T k.toNat).2.1) (n, c, zd_put m M h) := sd_oW hA 1 (by omega) k hk n c h Q E
theorem sd_oW2 {K : zm_K} {m : Nat} {M : zd_M} {T : zq_T} (hA : M.2 1 = zq_row T) (k : Int) (hk : 0 ≤ k ∧ k < 12) (n c : Nat) (h : Nat → Option zm_E) (Q : Int32 → zm_S → Prop) (E : String → Nat → zm_S → Prop) : zx (fn_X3_ofWish K (some m) (zi k) (zi 2)) (n, c, zd_put m M h) Q E = Q (zi (zq_ws T k.toNat).2.2) (n, c, zd_put m M h) := sd_oW hA 2 (by omega) k hk n c h Q E
theorem sd_isOver {K : zm_K} {m : Nat} {M : zd_M} {T : zq_T} (hA : M.2 1 = zq_row T) (k : Int) (hk : 0 ≤ k ∧ k < 30) (n c : Nat) (h : Nat → Option zm_E) (Q : Int32 → zm_S → Prop) (E : String → Nat → zm_S → Prop) : zx (fn_X3_isOver K (some m) (zi k)) (n, c, zd_put m M h) Q E = Q (zi (zq_b (zq_lt T k.toNat).2.2.2.2)) (n, c, zd_put m M h) := by
  simp (disch := omega) only [fn_X3_isOver, zx_bnd, zx_ret, zx_ite, zx_grd, zx_fl, zi_l0, zi_l1, zi_l2, zi_l3, zi_l4, zi_l5, zi_l6, zi_l7, zi_l8, zi_l9, zi_l10, zi_l11, zi_l12, zi_l13, zi_l14, zi_l15, zi_l16, zi_l17, zi_l18, zi_l19, zi_l20, zi_l21, zi_l22, zi_l23, zi_l24, zi_l25, zi_l26, zi_l27, zi_l28, zi_l29, zi_l30, zi_l31, zi_l32, zi_l33, zi_l34, zi_l35, zi_l36, zi_l37, zi_l38, zi_l43, zi_l45, zi_l46, zi_l48, zi_l57, zi_l59, zi_l60, zi_l63, zi_l97, zi_l100, zi_l119, zi_l120, zi_l122, zi_l127, zi_l128, zi_l161, zi_l197, zi_l255, zi_l400, zi_l599, zi_l600, zi_l1576, zi_l65535, sd_is, sd_getR0, sd_getR1, sd_getR2, sd_getR3, sd_getR12, sd_getR13, sd_getR15, sd_getR17, sd_getR18, sd_getI4, sd_getI5, sd_getI6, sd_getI7, sd_getI8, sd_getI9, sd_getI10, sd_getI11, sd_getI14, sd_getI16, sd_getI19, sd_getI20, sd_getI21, sd_getI22, sd_ald1, sd_ald2, sd_ald3, sd_ald4, sd_ald5, sd_ald6, sd_ald7, sd_ald8, sd_ald9, sd_oL4 hA, zb_b1]
  cases (zq_lt T k.toNat).2.2.2.2 <;> simp [zq_b]
theorem sd_lesser (K : zm_K) (a b : Int) (ha : -2147483648 ≤ a ∧ a ≤ 2147483647) (hb : -2147483648 ≤ b ∧ b ≤ 2147483647) (σ : zm_S) (Q : Int32 → zm_S → Prop) (E : String → Nat → zm_S → Prop) : zx (fn_X3_lesser K (zi a) (zi b)) σ Q E = Q (zi (min a b)) σ := by
  simp (disch := omega) only [fn_X3_lesser, zx_bnd, zx_ret, zx_ite, zx_grd, zx_fl, zi_le]
  by_cases e : b ≤ a
  · simp only [e, true_implies, not_true_eq_false, false_implies, and_true, show min a b = b by omega]
  · simp only [e, true_implies, not_false_eq_true, false_implies, true_and, show min a b = a by omega]
theorem sd_greater (K : zm_K) (a b : Int) (ha : -2147483648 ≤ a ∧ a ≤ 2147483647) (hb : -2147483648 ≤ b ∧ b ≤ 2147483647) (σ : zm_S) (Q : Int32 → zm_S → Prop) (E : String → Nat → zm_S → Prop) : zx (fn_X3_greater K (zi a) (zi b)) σ Q E = Q (zi (max a b)) σ := by
  simp (disch := omega) only [fn_X3_greater, zx_bnd, zx_ret, zx_ite, zx_grd, zx_fl, zi_le]
  by_cases e : a ≤ b
  · simp only [e, true_implies, not_true_eq_false, false_implies, and_true, show max a b = b by omega]
  · simp only [e, true_implies, not_false_eq_true, false_implies, true_and, show max a b = a by omega]
theorem sd_isIn (K : zm_K) (a b d : Int) (ha : -2147483648 ≤ a ∧ a ≤ 2147483647) (hb : -2147483648 ≤ b ∧ b ≤ 2147483647) (hd : -2147483648 ≤ d ∧ d ≤ 2147483647) (σ : zm_S) (Q : Int32 → zm_S → Prop) (E : String → Nat → zm_S → Prop) : zx (fn_X3_isIn K (zi a) (zi b) (zi d)) σ Q E = Q (zi (zq_p (b ≤ a ∧ a ≤ d))) σ := by
  simp (disch := omega) only [fn_X3_isIn, zx_bnd, zx_ret, zx_ite, zx_grd, zx_fl, zi_lt, zi_l0, zi_l1, zi_l2, zi_l3, zi_l4, zi_l5, zi_l6, zi_l7, zi_l8, zi_l9, zi_l10, zi_l11, zi_l12, zi_l13, zi_l14, zi_l15, zi_l16, zi_l17, zi_l18, zi_l19, zi_l20, zi_l21, zi_l22, zi_l23, zi_l24, zi_l25, zi_l26, zi_l27, zi_l28, zi_l29, zi_l30, zi_l31, zi_l32, zi_l33, zi_l34, zi_l35, zi_l36, zi_l37, zi_l38, zi_l43, zi_l45, zi_l46, zi_l48, zi_l57, zi_l59, zi_l60, zi_l63, zi_l97, zi_l100, zi_l119, zi_l120, zi_l122, zi_l127, zi_l128, zi_l161, zi_l197, zi_l255, zi_l400, zi_l599, zi_l600, zi_l1576, zi_l65535]
  unfold zq_p
  by_cases e : b ≤ a ∧ a ≤ d
  · rw [if_pos e]
    apply propext
    constructor
    · intro g; exact (g.2 (by omega)).2 (by omega)
    · intro g; exact ⟨fun x => by omega, fun _ => ⟨fun x => by omega, fun _ => g⟩⟩
  · rw [if_neg e]
    apply propext
    constructor
    · intro g
      by_cases e1 : a < b
      · exact g.1 e1
      · exact (g.2 e1).1 (by omega)
    · intro g; exact ⟨fun _ => g, fun _ => ⟨fun _ => g, fun x => by omega⟩⟩
theorem zq_at_hd {T : zq_T} {M : zd_M} (hA : M.2 1 = zq_row T) : M.2 1 0 = zi (zq_nb T) ∧ M.2 1 1 = zi (zq_nl T) ∧ M.2 1 2 = zi (zq_nw T) := by
  rw [hA]
  exact ⟨rfl, rfl, rfl⟩
