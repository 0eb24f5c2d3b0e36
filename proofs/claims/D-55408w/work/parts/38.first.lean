/-! first ones, checks (made by gen/xp.py from src/38.first.txt) -/
def zq_first (hit : Nat → Bool) (lt : Nat → Nat → Bool) : Nat → Int
  | 0 => -1
  | j + 1 => if hit j = true ∧ (zq_first hit lt j < 0 ∨ lt j (zq_first hit lt j).toNat = true) then j else zq_first hit lt j
theorem zq_first_lt (hit : Nat → Bool) (lt : Nat → Nat → Bool) (j : Nat) : -1 ≤ zq_first hit lt j ∧ zq_first hit lt j < j := by
  induction j with
  | zero => simp [zq_first]
  | succ j ih =>
    unfold zq_first
    split <;> omega
theorem zq_first_hit (hit : Nat → Bool) (lt : Nat → Nat → Bool) (j : Nat) (h : 0 ≤ zq_first hit lt j) : hit (zq_first hit lt j).toNat = true := by
  induction j with
  | zero => simp [zq_first] at h
  | succ j ih =>
    unfold zq_first at h ⊢
    split
    · rename_i e
      exact e.1
    · rename_i e
      rw [if_neg e] at h
      exact ih h
theorem zq_first_no (hit : Nat → Bool) (lt : Nat → Nat → Bool) (j : Nat) (h : zq_first hit lt j < 0) : ∀ k, k < j → hit k = false := by
  induction j with
  | zero => intro k hk; omega
  | succ j ih =>
    unfold zq_first at h
    split at h
    · omega
    · rename_i e
      intro k hk
      by_cases c : k = j
      · subst c
        cases hh : hit k with
        | false => rfl
        | true => exact absurd ⟨hh, Or.inl h⟩ e
      · exact ih h k (by omega)
def zq_hit (T : zq_T) (b f t but : Int) (k : Nat) : Bool := decide (¬ (k : Int) = but) && (zq_in b (zq_lt T k) && (decide ((zq_lt T k).2.1 < t) && decide (f < (zq_lt T k).2.2.1)))
def zq_ear (T : zq_T) (k j : Nat) : Bool := decide ((zq_lt T k).2.1 < (zq_lt T j).2.1)
def zq_way (T : zq_T) (b f t but : Int) : Int := zq_first (zq_hit T b f t but) (zq_ear T) (zq_nl T)
def zq_nextL (T : zq_T) (b f : Int) : Int := zq_first (fun k => zq_in b (zq_lt T k) && decide (f ≤ (zq_lt T k).2.1)) (zq_ear T) (zq_nl T)
theorem sd_inTheWay_6 {K : zm_K} {m : Nat} {M : zd_M} {T : zq_T} (hA : M.2 1 = zq_row T) (hT : zq_ok T) (b f t but : Int) (hb : -2147483648 ≤ b ∧ b ≤ 2147483647) (hf : -1000 ≤ f ∧ f ≤ 1300) (ht : -1000 ≤ t ∧ t ≤ 1300) (hu : -2147483648 ≤ but ∧ but ≤ 2147483647) (n c : Nat) (h : Nat → Option zm_E) (Q : Int32 → zm_S → Prop) (E : String → Nat → zm_S → Prop) : ∀ (fuel i : Nat) (x : Int), i ≤ zq_nl T → zq_nl T - i < fuel → x = zq_first (zq_hit T b f t but) (zq_ear T) i → Q (zi (zq_way T b f t but)) (n, c, zd_put m M h) → zx (fn_X3_inTheWay_6 K (some m) (zi b) (zi f) (zi t) (zi but) fuel (zi x) (zi i)) (n, c, zd_put m M h) Q E := by
  intro fuel
  induction fuel with
  | zero => intro i x h1 h2; omega
  | succ fuel ih =>
    intro i x h1 h2 hx hQ
    have h30 := hT.1.2.1
    have h5 := hT.1.1
    have h12 := hT.1.2.2
    have hx1 := zq_first_lt (zq_hit T b f t but) (zq_ear T) i
    rw [← hx] at hx1
    simp (disch := omega) only [fn_X3_inTheWay_6, zx_bnd, zx_ret, zx_ite, zx_grd, zx_fl, zi_l0, zi_l1, zi_l2, zi_l3, zi_l4, zi_l5, zi_l6, zi_l7, zi_l8, zi_l9, zi_l10, zi_l11, zi_l12, zi_l13, zi_l14, zi_l15, zi_l16, zi_l17, zi_l18, zi_l19, zi_l20, zi_l21, zi_l22, zi_l23, zi_l24, zi_l25, zi_l26, zi_l27, zi_l28, zi_l29, zi_l30, zi_l31, zi_l32, zi_l33, zi_l34, zi_l35, zi_l36, zi_l37, zi_l38, zi_l43, zi_l45, zi_l46, zi_l48, zi_l57, zi_l59, zi_l60, zi_l63, zi_l97, zi_l100, zi_l119, zi_l120, zi_l122, zi_l127, zi_l128, zi_l161, zi_l197, zi_l255, zi_l400, zi_l599, zi_l600, zi_l1576, zi_l65535, sd_is, sd_getR0, sd_getR1, sd_getR2, sd_getR3, sd_getR12, sd_getR13, sd_getR15, sd_getR17, sd_getR18, sd_getI4, sd_getI5, sd_getI6, sd_getI7, sd_getI8, sd_getI9, sd_getI10, sd_getI11, sd_getI14, sd_getI16, sd_getI19, sd_getI20, sd_getI21, sd_getI22, sd_ald1, sd_ald2, sd_ald3, sd_ald4, sd_ald5, sd_ald6, sd_ald7, sd_ald8, sd_ald9, zi_add, zi_sub, zi_mul, zi_neg, zi_toInt, (zq_at_hd hA).2.1, zi_le, show (1 : Int).toNat = 1 from rfl]
    refine ⟨⟨by omega, by omega⟩, fun e => ?_, fun e => ?_⟩
    · rw [hx, show i = zq_nl T by omega]
      exact hQ
    · have hl := hT.2.2.1 i (by omega)
      have e1 := hl.2.1
      have e2 := hl.1
      have e3 := hl.2.2
      have hr : ∀ j : Int, 0 ≤ j → j < zq_nl T → (0 ≤ (zq_lt T j.toNat).2.1 ∧ (zq_lt T j.toNat).2.1 < 600) := fun j h0 h9 => by
        have := (hT.2.2.1 j.toNat (by omega)).2.1
        omega
      simp (disch := omega) only [zx_bnd, zx_ret, zx_ite, zx_grd, zx_fl, sd_is, sd_getR0, sd_getR1, sd_getR2, sd_getR3, sd_getR12, sd_getR13, sd_getR15, sd_getR17, sd_getR18, sd_getI4, sd_getI5, sd_getI6, sd_getI7, sd_getI8, sd_getI9, sd_getI10, sd_getI11, sd_getI14, sd_getI16, sd_getI19, sd_getI20, sd_getI21, sd_getI22, sd_ald1, sd_ald2, sd_ald3, sd_ald4, sd_ald5, sd_ald6, sd_ald7, sd_ald8, sd_ald9, zi_add, zi_sub, zi_mul, zi_neg, sd_isOver hA, sd_oL0 hA, sd_oL1 hA, sd_oL2 hA, sd_oL3 hA, sd_oL4 hA, sd_oW0 hA, sd_oW1 hA, sd_oW2 hA, zb_b0, zb_b1, zb_p0, zb_p1, Int.toNat_natCast, sd_lesser, sd_greater, sd_isIn, zi_eq, zi_le, zi_lt]
      repeat' (first | refine ⟨?_, ?_⟩ | intro _)
      all_goals first | (have hr' := hr x (by omega) (by omega); simp (disch := omega) only [zx_bnd, zx_ret, zx_ite, zx_grd, zx_fl, sd_is, sd_getR0, sd_getR1, sd_getR2, sd_getR3, sd_getR12, sd_getR13, sd_getR15, sd_getR17, sd_getR18, sd_getI4, sd_getI5, sd_getI6, sd_getI7, sd_getI8, sd_getI9, sd_getI10, sd_getI11, sd_getI14, sd_getI16, sd_getI19, sd_getI20, sd_getI21, sd_getI22, sd_ald1, sd_ald2, sd_ald3, sd_ald4, sd_ald5, sd_ald6, sd_ald7, sd_ald8, sd_ald9, zi_add, zi_sub, zi_mul, zi_neg, sd_isOver hA, sd_oL0 hA, sd_oL1 hA, sd_oL2 hA, sd_oL3 hA, sd_oL4 hA, sd_oW0 hA, sd_oW1 hA, sd_oW2 hA, zb_b0, zb_b1, zb_p0, zb_p1, Int.toNat_natCast, sd_lesser, sd_greater, sd_isIn, zi_eq, zi_le, zi_lt]; repeat' (first | refine ⟨?_, ?_⟩ | intro _)) | skip
      all_goals first | contradiction | (exfalso; omega) | exact ih (i + 1) _ (by omega) (by omega) (by simp only [zq_first, ← hx]; clear hx; simp [zq_hit, zq_in, zq_ear, *] <;> omega) hQ
theorem sd_inTheWay {K : zm_K} {m : Nat} {M : zd_M} {T : zq_T} (hA : M.2 1 = zq_row T) (hT : zq_ok T) (b f t but : Int) (hb : -2147483648 ≤ b ∧ b ≤ 2147483647) (hf : -1000 ≤ f ∧ f ≤ 1300) (ht : -1000 ≤ t ∧ t ≤ 1300) (hu : -2147483648 ≤ but ∧ but ≤ 2147483647) (n c : Nat) (h : Nat → Option zm_E) (Q : Int32 → zm_S → Prop) (E : String → Nat → zm_S → Prop) : zx (fn_X3_inTheWay K (some m) (zi b) (zi f) (zi t) (zi but)) (n, c, zd_put m M h) Q E = Q (zi (zq_way T b f t but)) (n, c, zd_put m M h) := zx_eq (fun Q E hQ => by
  have h30 := hT.1.2.1
  simp only [fn_X3_inTheWay, zx_bnd, zx_ret, zx_ite, zx_grd, zx_fl, zi_l0, zi_l1, zi_l2, zi_l3, zi_l4, zi_l5, zi_l6, zi_l7, zi_l8, zi_l9, zi_l10, zi_l11, zi_l12, zi_l13, zi_l14, zi_l15, zi_l16, zi_l17, zi_l18, zi_l19, zi_l20, zi_l21, zi_l22, zi_l23, zi_l24, zi_l25, zi_l26, zi_l27, zi_l28, zi_l29, zi_l30, zi_l31, zi_l32, zi_l33, zi_l34, zi_l35, zi_l36, zi_l37, zi_l38, zi_l43, zi_l45, zi_l46, zi_l48, zi_l57, zi_l59, zi_l60, zi_l63, zi_l97, zi_l100, zi_l119, zi_l120, zi_l122, zi_l127, zi_l128, zi_l161, zi_l197, zi_l255, zi_l400, zi_l599, zi_l600, zi_l1576, zi_l65535, zi_add, zi_sub, zi_mul, zi_neg, zm_N_eq]
  exact sd_inTheWay_6 hA hT b f t but hb hf ht hu n c h _ _ 5000 0 (-1) (by omega) (by omega) rfl hQ) Q E
theorem sd_nextLetting_5 {K : zm_K} {m : Nat} {M : zd_M} {T : zq_T} (hA : M.2 1 = zq_row T) (hT : zq_ok T) (b f : Int) (hb : -2147483648 ≤ b ∧ b ≤ 2147483647) (hf : -1000 ≤ f ∧ f ≤ 1300) (n c : Nat) (h : Nat → Option zm_E) (Q : Int32 → zm_S → Prop) (E : String → Nat → zm_S → Prop) : ∀ (fuel i : Nat) (x : Int), i ≤ zq_nl T → zq_nl T - i < fuel → x = zq_first (fun k => zq_in b (zq_lt T k) && decide (f ≤ (zq_lt T k).2.1)) (zq_ear T) i → Q (zi (zq_nextL T b f)) (n, c, zd_put m M h) → zx (fn_X3_nextLetting_5 K (some m) (zi b) (zi f) fuel (zi x) (zi i)) (n, c, zd_put m M h) Q E := by
  intro fuel
  induction fuel with
  | zero => intro i x h1 h2; omega
  | succ fuel ih =>
    intro i x h1 h2 hx hQ
    have h30 := hT.1.2.1
    have h5 := hT.1.1
    have h12 := hT.1.2.2
    have hx1 := zq_first_lt (fun k => zq_in b (zq_lt T k) && decide (f ≤ (zq_lt T k).2.1)) (zq_ear T) i
    rw [← hx] at hx1
    simp (disch := omega) only [fn_X3_nextLetting_5, zx_bnd, zx_ret, zx_ite, zx_grd, zx_fl, zi_l0, zi_l1, zi_l2, zi_l3, zi_l4, zi_l5, zi_l6, zi_l7, zi_l8, zi_l9, zi_l10, zi_l11, zi_l12, zi_l13, zi_l14, zi_l15, zi_l16, zi_l17, zi_l18, zi_l19, zi_l20, zi_l21, zi_l22, zi_l23, zi_l24, zi_l25, zi_l26, zi_l27, zi_l28, zi_l29, zi_l30, zi_l31, zi_l32, zi_l33, zi_l34, zi_l35, zi_l36, zi_l37, zi_l38, zi_l43, zi_l45, zi_l46, zi_l48, zi_l57, zi_l59, zi_l60, zi_l63, zi_l97, zi_l100, zi_l119, zi_l120, zi_l122, zi_l127, zi_l128, zi_l161, zi_l197, zi_l255, zi_l400, zi_l599, zi_l600, zi_l1576, zi_l65535, sd_is, sd_getR0, sd_getR1, sd_getR2, sd_getR3, sd_getR12, sd_getR13, sd_getR15, sd_getR17, sd_getR18, sd_getI4, sd_getI5, sd_getI6, sd_getI7, sd_getI8, sd_getI9, sd_getI10, sd_getI11, sd_getI14, sd_getI16, sd_getI19, sd_getI20, sd_getI21, sd_getI22, sd_ald1, sd_ald2, sd_ald3, sd_ald4, sd_ald5, sd_ald6, sd_ald7, sd_ald8, sd_ald9, zi_add, zi_sub, zi_mul, zi_neg, zi_toInt, (zq_at_hd hA).2.1, zi_le, show (1 : Int).toNat = 1 from rfl]
    refine ⟨⟨by omega, by omega⟩, fun e => ?_, fun e => ?_⟩
    · rw [hx, show i = zq_nl T by omega]
      exact hQ
    · have hl := hT.2.2.1 i (by omega)
      have e1 := hl.2.1
      have e2 := hl.1
      have e3 := hl.2.2
      have hr : ∀ j : Int, 0 ≤ j → j < zq_nl T → (0 ≤ (zq_lt T j.toNat).2.1 ∧ (zq_lt T j.toNat).2.1 < 600) := fun j h0 h9 => by
        have := (hT.2.2.1 j.toNat (by omega)).2.1
        omega
      simp (disch := omega) only [zx_bnd, zx_ret, zx_ite, zx_grd, zx_fl, sd_is, sd_getR0, sd_getR1, sd_getR2, sd_getR3, sd_getR12, sd_getR13, sd_getR15, sd_getR17, sd_getR18, sd_getI4, sd_getI5, sd_getI6, sd_getI7, sd_getI8, sd_getI9, sd_getI10, sd_getI11, sd_getI14, sd_getI16, sd_getI19, sd_getI20, sd_getI21, sd_getI22, sd_ald1, sd_ald2, sd_ald3, sd_ald4, sd_ald5, sd_ald6, sd_ald7, sd_ald8, sd_ald9, zi_add, zi_sub, zi_mul, zi_neg, sd_isOver hA, sd_oL0 hA, sd_oL1 hA, sd_oL2 hA, sd_oL3 hA, sd_oL4 hA, sd_oW0 hA, sd_oW1 hA, sd_oW2 hA, zb_b0, zb_b1, zb_p0, zb_p1, Int.toNat_natCast, sd_lesser, sd_greater, sd_isIn, zi_eq, zi_le, zi_lt]
      repeat' (first | refine ⟨?_, ?_⟩ | intro _)
      all_goals first | (have hr' := hr x (by omega) (by omega); simp (disch := omega) only [zx_bnd, zx_ret, zx_ite, zx_grd, zx_fl, sd_is, sd_getR0, sd_getR1, sd_getR2, sd_getR3, sd_getR12, sd_getR13, sd_getR15, sd_getR17, sd_getR18, sd_getI4, sd_getI5, sd_getI6, sd_getI7, sd_getI8, sd_getI9, sd_getI10, sd_getI11, sd_getI14, sd_getI16, sd_getI19, sd_getI20, sd_getI21, sd_getI22, sd_ald1, sd_ald2, sd_ald3, sd_ald4, sd_ald5, sd_ald6, sd_ald7, sd_ald8, sd_ald9, zi_add, zi_sub, zi_mul, zi_neg, sd_isOver hA, sd_oL0 hA, sd_oL1 hA, sd_oL2 hA, sd_oL3 hA, sd_oL4 hA, sd_oW0 hA, sd_oW1 hA, sd_oW2 hA, zb_b0, zb_b1, zb_p0, zb_p1, Int.toNat_natCast, sd_lesser, sd_greater, sd_isIn, zi_eq, zi_le, zi_lt]; repeat' (first | refine ⟨?_, ?_⟩ | intro _)) | skip
      all_goals first | contradiction | (exfalso; omega) | exact ih (i + 1) _ (by omega) (by omega) (by simp only [zq_first, ← hx]; clear hx; simp [zq_in, zq_ear, *] <;> omega) hQ
theorem sd_nextLetting {K : zm_K} {m : Nat} {M : zd_M} {T : zq_T} (hA : M.2 1 = zq_row T) (hT : zq_ok T) (b f : Int) (hb : -2147483648 ≤ b ∧ b ≤ 2147483647) (hf : -1000 ≤ f ∧ f ≤ 1300) (n c : Nat) (h : Nat → Option zm_E) (Q : Int32 → zm_S → Prop) (E : String → Nat → zm_S → Prop) : zx (fn_X3_nextLetting K (some m) (zi b) (zi f)) (n, c, zd_put m M h) Q E = Q (zi (zq_nextL T b f)) (n, c, zd_put m M h) := zx_eq (fun Q E hQ => by
  have h30 := hT.1.2.1
  simp only [fn_X3_nextLetting, zx_bnd, zx_ret, zx_ite, zx_grd, zx_fl, zi_l0, zi_l1, zi_l2, zi_l3, zi_l4, zi_l5, zi_l6, zi_l7, zi_l8, zi_l9, zi_l10, zi_l11, zi_l12, zi_l13, zi_l14, zi_l15, zi_l16, zi_l17, zi_l18, zi_l19, zi_l20, zi_l21, zi_l22, zi_l23, zi_l24, zi_l25, zi_l26, zi_l27, zi_l28, zi_l29, zi_l30, zi_l31, zi_l32, zi_l33, zi_l34, zi_l35, zi_l36, zi_l37, zi_l38, zi_l43, zi_l45, zi_l46, zi_l48, zi_l57, zi_l59, zi_l60, zi_l63, zi_l97, zi_l100, zi_l119, zi_l120, zi_l122, zi_l127, zi_l128, zi_l161, zi_l197, zi_l255, zi_l400, zi_l599, zi_l600, zi_l1576, zi_l65535, zi_add, zi_sub, zi_mul, zi_neg, zm_N_eq]
  exact sd_nextLetting_5 hA hT b f hb hf n c h _ _ 5000 0 (-1) (by omega) (by omega) rfl hQ) Q E
theorem sd_isMinute (K : zm_K) (a : Int) (ha : -2147483648 ≤ a ∧ a ≤ 2147483647) (σ : zm_S) (Q : Int32 → zm_S → Prop) (E : String → Nat → zm_S → Prop) : zx (fn_X3_isMinute K (zi a)) σ Q E = Q (zi (zq_p (0 ≤ a ∧ a ≤ 599))) σ := by
  simp (disch := omega) only [fn_X3_isMinute, zx_bnd, zx_ret, zx_ite, zx_grd, zx_fl, zi_l0, zi_l1, zi_l2, zi_l3, zi_l4, zi_l5, zi_l6, zi_l7, zi_l8, zi_l9, zi_l10, zi_l11, zi_l12, zi_l13, zi_l14, zi_l15, zi_l16, zi_l17, zi_l18, zi_l19, zi_l20, zi_l21, zi_l22, zi_l23, zi_l24, zi_l25, zi_l26, zi_l27, zi_l28, zi_l29, zi_l30, zi_l31, zi_l32, zi_l33, zi_l34, zi_l35, zi_l36, zi_l37, zi_l38, zi_l43, zi_l45, zi_l46, zi_l48, zi_l57, zi_l59, zi_l60, zi_l63, zi_l97, zi_l100, zi_l119, zi_l120, zi_l122, zi_l127, zi_l128, zi_l161, zi_l197, zi_l255, zi_l400, zi_l599, zi_l600, zi_l1576, zi_l65535, sd_isIn, zb_p0, zb_p1]
  rw [show ((¬ (0 ≤ a ∧ a ≤ 599) ∨ (0 ≤ a ∧ a ≤ 599)) = True) from propext ⟨fun _ => trivial, fun _ => by omega⟩, true_and]
theorem sd_isHour (K : zm_K) (a : Int) (ha : -2147483648 ≤ a ∧ a ≤ 2147483647) (σ : zm_S) (Q : Int32 → zm_S → Prop) (E : String → Nat → zm_S → Prop) : zx (fn_X3_isHour K (zi a)) σ Q E = Q (zi (zq_p (0 ≤ a ∧ a ≤ 9))) σ := by
  simp (disch := omega) only [fn_X3_isHour, zx_bnd, zx_ret, zx_ite, zx_grd, zx_fl, zi_l0, zi_l1, zi_l2, zi_l3, zi_l4, zi_l5, zi_l6, zi_l7, zi_l8, zi_l9, zi_l10, zi_l11, zi_l12, zi_l13, zi_l14, zi_l15, zi_l16, zi_l17, zi_l18, zi_l19, zi_l20, zi_l21, zi_l22, zi_l23, zi_l24, zi_l25, zi_l26, zi_l27, zi_l28, zi_l29, zi_l30, zi_l31, zi_l32, zi_l33, zi_l34, zi_l35, zi_l36, zi_l37, zi_l38, zi_l43, zi_l45, zi_l46, zi_l48, zi_l57, zi_l59, zi_l60, zi_l63, zi_l97, zi_l100, zi_l119, zi_l120, zi_l122, zi_l127, zi_l128, zi_l161, zi_l197, zi_l255, zi_l400, zi_l599, zi_l600, zi_l1576, zi_l65535, sd_isIn, zb_p0, zb_p1]
  rw [show ((¬ (0 ≤ a ∧ a ≤ 9) ∨ (0 ≤ a ∧ a ≤ 9)) = True) from propext ⟨fun _ => trivial, fun _ => by omega⟩, true_and]
theorem sd_isBy (K : zm_K) (a : Int) (ha : -2147483648 ≤ a ∧ a ≤ 2147483647) (σ : zm_S) (Q : Int32 → zm_S → Prop) (E : String → Nat → zm_S → Prop) : zx (fn_X3_isBy K (zi a)) σ Q E = Q (zi (zq_p (-599 ≤ a ∧ a ≤ 599))) σ := by
  simp (disch := omega) only [fn_X3_isBy, zx_bnd, zx_ret, zx_ite, zx_grd, zx_fl, zi_l0, zi_l1, zi_l2, zi_l3, zi_l4, zi_l5, zi_l6, zi_l7, zi_l8, zi_l9, zi_l10, zi_l11, zi_l12, zi_l13, zi_l14, zi_l15, zi_l16, zi_l17, zi_l18, zi_l19, zi_l20, zi_l21, zi_l22, zi_l23, zi_l24, zi_l25, zi_l26, zi_l27, zi_l28, zi_l29, zi_l30, zi_l31, zi_l32, zi_l33, zi_l34, zi_l35, zi_l36, zi_l37, zi_l38, zi_l43, zi_l45, zi_l46, zi_l48, zi_l57, zi_l59, zi_l60, zi_l63, zi_l97, zi_l100, zi_l119, zi_l120, zi_l122, zi_l127, zi_l128, zi_l161, zi_l197, zi_l255, zi_l400, zi_l599, zi_l600, zi_l1576, zi_l65535, zi_add, zi_sub, zi_mul, zi_neg, sd_isIn, zb_p0, zb_p1]
  rw [show ((¬ (-599 ≤ a ∧ a ≤ 599) ∨ (-599 ≤ a ∧ a ≤ 599)) = True) from propext ⟨fun _ => trivial, fun _ => by omega⟩, true_and]
theorem sd_isBox {K : zm_K} {m : Nat} {M : zd_M} {T : zq_T} (hA : M.2 1 = zq_row T) (hT : zq_ok T) (a : Int) (ha : -2147483648 ≤ a ∧ a ≤ 2147483647) (n c : Nat) (h : Nat → Option zm_E) (Q : Int32 → zm_S → Prop) (E : String → Nat → zm_S → Prop) : zx (fn_X3_isBox K (some m) (zi a)) (n, c, zd_put m M h) Q E = Q (zi (zq_p (0 ≤ a ∧ a ≤ (zq_nb T : Int) - 1))) (n, c, zd_put m M h) := by
  have h5 := hT.1.1
  simp (disch := omega) only [fn_X3_isBox, zx_bnd, zx_ret, zx_ite, zx_grd, zx_fl, zi_l0, zi_l1, zi_l2, zi_l3, zi_l4, zi_l5, zi_l6, zi_l7, zi_l8, zi_l9, zi_l10, zi_l11, zi_l12, zi_l13, zi_l14, zi_l15, zi_l16, zi_l17, zi_l18, zi_l19, zi_l20, zi_l21, zi_l22, zi_l23, zi_l24, zi_l25, zi_l26, zi_l27, zi_l28, zi_l29, zi_l30, zi_l31, zi_l32, zi_l33, zi_l34, zi_l35, zi_l36, zi_l37, zi_l38, zi_l43, zi_l45, zi_l46, zi_l48, zi_l57, zi_l59, zi_l60, zi_l63, zi_l97, zi_l100, zi_l119, zi_l120, zi_l122, zi_l127, zi_l128, zi_l161, zi_l197, zi_l255, zi_l400, zi_l599, zi_l600, zi_l1576, zi_l65535, sd_is, sd_getR0, sd_getR1, sd_getR2, sd_getR3, sd_getR12, sd_getR13, sd_getR15, sd_getR17, sd_getR18, sd_getI4, sd_getI5, sd_getI6, sd_getI7, sd_getI8, sd_getI9, sd_getI10, sd_getI11, sd_getI14, sd_getI16, sd_getI19, sd_getI20, sd_getI21, sd_getI22, sd_ald1, sd_ald2, sd_ald3, sd_ald4, sd_ald5, sd_ald6, sd_ald7, sd_ald8, sd_ald9, zi_add, zi_sub, zi_mul, zi_neg, zi_toInt, show (0 : Int).toNat = 0 from rfl, (zq_at_hd hA).1, sd_isIn, zb_p0, zb_p1]
  rw [show ((¬ (0 ≤ a ∧ a ≤ (zq_nb T : Int) - 1) ∨ (0 ≤ a ∧ a ≤ (zq_nb T : Int) - 1)) = True) from propext ⟨fun _ => trivial, fun _ => by omega⟩, true_and]
  simp
theorem sd_isLetting {K : zm_K} {m : Nat} {M : zd_M} {T : zq_T} (hA : M.2 1 = zq_row T) (hT : zq_ok T) (a : Int) (ha : -2147483648 ≤ a ∧ a ≤ 2147483647) (n c : Nat) (h : Nat → Option zm_E) (Q : Int32 → zm_S → Prop) (E : String → Nat → zm_S → Prop) : zx (fn_X3_isLetting K (some m) (zi a)) (n, c, zd_put m M h) Q E = Q (zi (zq_p (0 ≤ a ∧ a ≤ (zq_nl T : Int) - 1))) (n, c, zd_put m M h) := by
  have h5 := hT.1.2.1
  simp (disch := omega) only [fn_X3_isLetting, zx_bnd, zx_ret, zx_ite, zx_grd, zx_fl, zi_l0, zi_l1, zi_l2, zi_l3, zi_l4, zi_l5, zi_l6, zi_l7, zi_l8, zi_l9, zi_l10, zi_l11, zi_l12, zi_l13, zi_l14, zi_l15, zi_l16, zi_l17, zi_l18, zi_l19, zi_l20, zi_l21, zi_l22, zi_l23, zi_l24, zi_l25, zi_l26, zi_l27, zi_l28, zi_l29, zi_l30, zi_l31, zi_l32, zi_l33, zi_l34, zi_l35, zi_l36, zi_l37, zi_l38, zi_l43, zi_l45, zi_l46, zi_l48, zi_l57, zi_l59, zi_l60, zi_l63, zi_l97, zi_l100, zi_l119, zi_l120, zi_l122, zi_l127, zi_l128, zi_l161, zi_l197, zi_l255, zi_l400, zi_l599, zi_l600, zi_l1576, zi_l65535, sd_is, sd_getR0, sd_getR1, sd_getR2, sd_getR3, sd_getR12, sd_getR13, sd_getR15, sd_getR17, sd_getR18, sd_getI4, sd_getI5, sd_getI6, sd_getI7, sd_getI8, sd_getI9, sd_getI10, sd_getI11, sd_getI14, sd_getI16, sd_getI19, sd_getI20, sd_getI21, sd_getI22, sd_ald1, sd_ald2, sd_ald3, sd_ald4, sd_ald5, sd_ald6, sd_ald7, sd_ald8, sd_ald9, zi_add, zi_sub, zi_mul, zi_neg, zi_toInt, show (1 : Int).toNat = 1 from rfl, (zq_at_hd hA).2.1, sd_isIn, zb_p0, zb_p1]
  rw [show ((¬ (0 ≤ a ∧ a ≤ (zq_nl T : Int) - 1) ∨ (0 ≤ a ∧ a ≤ (zq_nl T : Int) - 1)) = True) from propext ⟨fun _ => trivial, fun _ => by omega⟩, true_and]
  simp
theorem sd_isWish {K : zm_K} {m : Nat} {M : zd_M} {T : zq_T} (hA : M.2 1 = zq_row T) (hT : zq_ok T) (a : Int) (ha : -2147483648 ≤ a ∧ a ≤ 2147483647) (n c : Nat) (h : Nat → Option zm_E) (Q : Int32 → zm_S → Prop) (E : String → Nat → zm_S → Prop) : zx (fn_X3_isWish K (some m) (zi a)) (n, c, zd_put m M h) Q E = Q (zi (zq_p (0 ≤ a ∧ a ≤ (zq_nw T : Int) - 1))) (n, c, zd_put m M h) := by
  have h5 := hT.1.2.2
  simp (disch := omega) only [fn_X3_isWish, zx_bnd, zx_ret, zx_ite, zx_grd, zx_fl, zi_l0, zi_l1, zi_l2, zi_l3, zi_l4, zi_l5, zi_l6, zi_l7, zi_l8, zi_l9, zi_l10, zi_l11, zi_l12, zi_l13, zi_l14, zi_l15, zi_l16, zi_l17, zi_l18, zi_l19, zi_l20, zi_l21, zi_l22, zi_l23, zi_l24, zi_l25, zi_l26, zi_l27, zi_l28, zi_l29, zi_l30, zi_l31, zi_l32, zi_l33, zi_l34, zi_l35, zi_l36, zi_l37, zi_l38, zi_l43, zi_l45, zi_l46, zi_l48, zi_l57, zi_l59, zi_l60, zi_l63, zi_l97, zi_l100, zi_l119, zi_l120, zi_l122, zi_l127, zi_l128, zi_l161, zi_l197, zi_l255, zi_l400, zi_l599, zi_l600, zi_l1576, zi_l65535, sd_is, sd_getR0, sd_getR1, sd_getR2, sd_getR3, sd_getR12, sd_getR13, sd_getR15, sd_getR17, sd_getR18, sd_getI4, sd_getI5, sd_getI6, sd_getI7, sd_getI8, sd_getI9, sd_getI10, sd_getI11, sd_getI14, sd_getI16, sd_getI19, sd_getI20, sd_getI21, sd_getI22, sd_ald1, sd_ald2, sd_ald3, sd_ald4, sd_ald5, sd_ald6, sd_ald7, sd_ald8, sd_ald9, zi_add, zi_sub, zi_mul, zi_neg, zi_toInt, show (2 : Int).toNat = 2 from rfl, (zq_at_hd hA).2.2, sd_isIn, zb_p0, zb_p1]
  rw [show ((¬ (0 ≤ a ∧ a ≤ (zq_nw T : Int) - 1) ∨ (0 ≤ a ∧ a ≤ (zq_nw T : Int) - 1)) = True) from propext ⟨fun _ => trivial, fun _ => by omega⟩, true_and]
  simp
theorem sd_isFor (K : zm_K) (p f t : Int) (hp : -2147483648 ≤ p ∧ p ≤ 2147483647) (hf : -2147483648 ≤ f ∧ f ≤ 2147483647) (ht : -2147483648 ≤ t ∧ t ≤ 2147483647) (σ : zm_S) (Q : Int32 → zm_S → Prop) (E : String → Nat → zm_S → Prop) : zx (fn_X3_isFor K (zi p) (zi f) (zi t)) σ Q E = Q (zi (zq_p ((1 ≤ p ∧ p ≤ 8) ∧ (0 ≤ f ∧ f ≤ 599) ∧ (f + 1 ≤ t ∧ t ≤ 600)))) σ := by
  apply zx_eq
  intro Q E hQ
  simp (disch := omega) only [fn_X3_isFor, zx_bnd, zx_ret, zx_ite, zx_grd, zx_fl, zi_l0, zi_l1, zi_l2, zi_l3, zi_l4, zi_l5, zi_l6, zi_l7, zi_l8, zi_l9, zi_l10, zi_l11, zi_l12, zi_l13, zi_l14, zi_l15, zi_l16, zi_l17, zi_l18, zi_l19, zi_l20, zi_l21, zi_l22, zi_l23, zi_l24, zi_l25, zi_l26, zi_l27, zi_l28, zi_l29, zi_l30, zi_l31, zi_l32, zi_l33, zi_l34, zi_l35, zi_l36, zi_l37, zi_l38, zi_l43, zi_l45, zi_l46, zi_l48, zi_l57, zi_l59, zi_l60, zi_l63, zi_l97, zi_l100, zi_l119, zi_l120, zi_l122, zi_l127, zi_l128, zi_l161, zi_l197, zi_l255, zi_l400, zi_l599, zi_l600, zi_l1576, zi_l65535, zi_add, zi_sub, zi_mul, zi_neg, sd_isIn, sd_isMinute, zb_p0, zb_p1]
  refine ⟨fun e1 => ?_, fun e1 => ⟨fun e2 => ?_, fun e2 => ?_⟩⟩
  · simpa [zq_p, e1] using hQ
  · simpa [zq_p, e2] using hQ
  · simp (disch := omega) only [sd_isIn, zb_p0]
    refine ⟨fun e3 => ?_, fun e3 => ?_⟩
    · simpa [zq_p, e3] using hQ
    · simp only [Classical.not_not] at e1 e2 e3
      simpa [zq_p, e1, e2, e3] using hQ
theorem sd_isThrown {K : zm_K} {m : Nat} (hK : K.1 ≤ m) (M : zd_M) (b t : Int) (hb : b = 0 ∨ b = 1) (n c : Nat) (h : Nat → Option zm_E) (Q : Int32 → zm_S → Prop) (E : String → Nat → zm_S → Prop) : zx (fn_X3_isThrown K (some m) (zi b) (zi t)) (n, c, zd_put m M h) Q E = Q (zi b) (n, c, zd_put m (va_up M.1 5 (zi (if b = 0 then 0 else t)), M.2) h) := by
  simp (disch := omega) only [fn_X3_isThrown, zx_bnd, zx_ret, zx_ite, zx_grd, zx_fl, zi_l0, zi_l1, zi_l2, zi_l3, zi_l4, zi_l5, zi_l6, zi_l7, zi_l8, zi_l9, zi_l10, zi_l11, zi_l12, zi_l13, zi_l14, zi_l15, zi_l16, zi_l17, zi_l18, zi_l19, zi_l20, zi_l21, zi_l22, zi_l23, zi_l24, zi_l25, zi_l26, zi_l27, zi_l28, zi_l29, zi_l30, zi_l31, zi_l32, zi_l33, zi_l34, zi_l35, zi_l36, zi_l37, zi_l38, zi_l43, zi_l45, zi_l46, zi_l48, zi_l57, zi_l59, zi_l60, zi_l63, zi_l97, zi_l100, zi_l119, zi_l120, zi_l122, zi_l127, zi_l128, zi_l161, zi_l197, zi_l255, zi_l400, zi_l599, zi_l600, zi_l1576, zi_l65535, sd_is, sd_getR0, sd_getR1, sd_getR2, sd_getR3, sd_getR12, sd_getR13, sd_getR15, sd_getR17, sd_getR18, sd_getI4, sd_getI5, sd_getI6, sd_getI7, sd_getI8, sd_getI9, sd_getI10, sd_getI11, sd_getI14, sd_getI16, sd_getI19, sd_getI20, sd_getI21, sd_getI22, sd_ald1, sd_ald2, sd_ald3, sd_ald4, sd_ald5, sd_ald6, sd_ald7, sd_ald8, sd_ald9, sd_putI4 hK, sd_putI5 hK, sd_putI6 hK, sd_putI7 hK, sd_putI8 hK, sd_putI9 hK, sd_putI10 hK, sd_putI11 hK, sd_putI14 hK, sd_putI16 hK, sd_putI19 hK, sd_putI20 hK, sd_putI21 hK, sd_putI22 hK, sd_ast1 hK, sd_ast2 hK, sd_ast3 hK, sd_ast4 hK, sd_ast5 hK, sd_ast6 hK, sd_ast7 hK, sd_ast8 hK, sd_ast9 hK, zi_eq]
  rcases hb with hb | hb <;> simp [hb]
theorem sd_isRefused {K : zm_K} {m : Nat} (hK : K.1 ≤ m) (M : zd_M) (b w d : Int) (hb : b = 0 ∨ b = 1) (n c : Nat) (h : Nat → Option zm_E) (Q : Int32 → zm_S → Prop) (E : String → Nat → zm_S → Prop) : zx (fn_X3_isRefused K (some m) (zi b) (zi w) (zi d)) (n, c, zd_put m M h) Q E = Q (zi b) (n, c, zd_put m (if b = 0 then M else (va_up (va_up (va_up (va_up M.1 6 (zi w)) 7 (zi d)) 8 (zi 0)) 5 (zi 9), M.2)) h) := by
  simp (disch := omega) only [fn_X3_isRefused, zx_bnd, zx_ret, zx_ite, zx_grd, zx_fl, zi_l0, zi_l1, zi_l2, zi_l3, zi_l4, zi_l5, zi_l6, zi_l7, zi_l8, zi_l9, zi_l10, zi_l11, zi_l12, zi_l13, zi_l14, zi_l15, zi_l16, zi_l17, zi_l18, zi_l19, zi_l20, zi_l21, zi_l22, zi_l23, zi_l24, zi_l25, zi_l26, zi_l27, zi_l28, zi_l29, zi_l30, zi_l31, zi_l32, zi_l33, zi_l34, zi_l35, zi_l36, zi_l37, zi_l38, zi_l43, zi_l45, zi_l46, zi_l48, zi_l57, zi_l59, zi_l60, zi_l63, zi_l97, zi_l100, zi_l119, zi_l120, zi_l122, zi_l127, zi_l128, zi_l161, zi_l197, zi_l255, zi_l400, zi_l599, zi_l600, zi_l1576, zi_l65535, sd_is, sd_getR0, sd_getR1, sd_getR2, sd_getR3, sd_getR12, sd_getR13, sd_getR15, sd_getR17, sd_getR18, sd_getI4, sd_getI5, sd_getI6, sd_getI7, sd_getI8, sd_getI9, sd_getI10, sd_getI11, sd_getI14, sd_getI16, sd_getI19, sd_getI20, sd_getI21, sd_getI22, sd_ald1, sd_ald2, sd_ald3, sd_ald4, sd_ald5, sd_ald6, sd_ald7, sd_ald8, sd_ald9, sd_putI4 hK, sd_putI5 hK, sd_putI6 hK, sd_putI7 hK, sd_putI8 hK, sd_putI9 hK, sd_putI10 hK, sd_putI11 hK, sd_putI14 hK, sd_putI16 hK, sd_putI19 hK, sd_putI20 hK, sd_putI21 hK, sd_putI22 hK, sd_ast1 hK, sd_ast2 hK, sd_ast3 hK, sd_ast4 hK, sd_ast5 hK, sd_ast6 hK, sd_ast7 hK, sd_ast8 hK, sd_ast9 hK, zi_eq]
  rcases hb with hb | hb <;> simp [hb]
