/-! the deeds as plain functions, and the model's (made by gen/xp.py from src/40.ops.txt) -/
abbrev zo_R : Type := (Int × Int) ⊕ (zq_T × Int)
def zo_lets (T : zq_T) (b p f t : Int) : zo_R :=
  if zq_st T b.toNat < p then .inl (2, zq_st T b.toNat)
  else if 0 ≤ zq_way T b f t (-1) then .inl (3, zq_way T b f t (-1))
  else if zq_nl T = 30 then .inl (1, 30)
  else .inr (zq_add T (b, f, t, p, false), zq_nl T)
def zo_cancels (T : zq_T) (k : Nat) : zo_R :=
  if (zq_lt T k).2.2.2.2 = true then .inl (4, k)
  else .inr (zq_cC (zq_setL T k ((zq_lt T k).1, (zq_lt T k).2.1, (zq_lt T k).2.2.1, (zq_lt T k).2.2.2.1, true)), zq_coins (zq_lt T k))
def zo_outside (f t : Int) : Int := t - f - max 0 (min 600 t - max 0 f)
def zo_moves (T : zq_T) (k : Nat) (d : Int) : zo_R :=
  if (zq_lt T k).2.2.2.2 = true then .inl (4, k)
  else if 0 < zo_outside ((zq_lt T k).2.1 + d) ((zq_lt T k).2.2.1 + d) then .inl (5, zo_outside ((zq_lt T k).2.1 + d) ((zq_lt T k).2.2.1 + d))
  else if 0 ≤ zq_way T (zq_lt T k).1 ((zq_lt T k).2.1 + d) ((zq_lt T k).2.2.1 + d) k then .inl (3, zq_way T (zq_lt T k).1 ((zq_lt T k).2.1 + d) ((zq_lt T k).2.2.1 + d) k)
  else .inr (zq_setL T k ((zq_lt T k).1, (zq_lt T k).2.1 + d, (zq_lt T k).2.2.1 + d, (zq_lt T k).2.2.2), (zq_lt T k).2.1 + d)
def zo_splits (T : zq_T) (k : Nat) (d : Int) : zo_R :=
  if (zq_lt T k).2.2.2.2 = true then .inl (4, k)
  else if ¬ ((zq_lt T k).2.1 + 1 ≤ d ∧ d ≤ (zq_lt T k).2.2.1 - 1) then .inl (6, zq_len (zq_lt T k))
  else if zq_nl T = 30 then .inl (1, 30)
  else .inr (zq_add (zq_setL T k ((zq_lt T k).1, (zq_lt T k).2.1, d, (zq_lt T k).2.2.2)) ((zq_lt T k).1, d, (zq_lt T k).2.2.1, (zq_lt T k).2.2.2.1, false), zq_nl T)
def zo_gap (l r : zq_L) : Int := max (r.2.1 - l.2.2.1) (l.2.1 - r.2.2.1)
def zo_joins (T : zq_T) (i j : Nat) : zo_R :=
  if (zq_lt T i).2.2.2.2 = true then .inl (4, i)
  else if (zq_lt T j).2.2.2.2 = true then .inl (4, j)
  else if ¬ ((zq_lt T i).1 = (zq_lt T j).1 ∧ (zq_lt T i).2.2.2.1 = (zq_lt T j).2.2.2.1) then .inl (7, (zq_lt T j).1)
  else if 0 < zo_gap (zq_lt T i) (zq_lt T j) then .inl (8, zo_gap (zq_lt T i) (zq_lt T j))
  else .inr (zq_cJ (zq_setL (zq_setL T i ((zq_lt T i).1, min (zq_lt T i).2.1 (zq_lt T j).2.1, max (zq_lt T i).2.2.1 (zq_lt T j).2.2.1, (zq_lt T i).2.2.2)) j ((zq_lt T j).1, (zq_lt T j).2.1, (zq_lt T j).2.2.1, (zq_lt T j).2.2.2.1, true)), max (zq_lt T i).2.2.1 (zq_lt T j).2.2.1 - min (zq_lt T i).2.1 (zq_lt T j).2.1)
def zo_wishes (T : zq_T) (p f t : Int) : zo_R :=
  if zq_nw T = 12 then .inl (1, 12) else .inr (zq_addW T (f, t, p), zq_nw T)
def zo_drops (T : zq_T) (k : Nat) : zq_T × Int := (zq_delW T k, (zq_nw T : Int) - 1)
/-! what the model's state becomes -/
def zd_ref (M : zd_M) (w d : Int) : zd_M := (va_up (va_up (va_up (va_up M.1 6 (zi w)) 7 (zi d)) 8 (zi 0)) 5 (zi 9), M.2)
def zd_s (M : zd_M) (T : zq_T) : zd_M := (M.1, va_up M.2 1 (zq_row T))
def zd_o (M : zd_M) (o : zo_R) : zd_M := match o with
  | .inl (w, d) => zd_ref M w d
  | .inr (T, _) => zd_s M T
def zd_v (o : zo_R) : Int := match o with
  | .inl _ => 0
  | .inr (_, v) => v
theorem sd_isRefusedAsOver {K : zm_K} {m : Nat} {M : zd_M} {T : zq_T} (hK : K.1 ≤ m) (hA : M.2 1 = zq_row T) (k : Int) (hk : 0 ≤ k ∧ k < 30) (n c : Nat) (h : Nat → Option zm_E) (Q : Int32 → zm_S → Prop) (E : String → Nat → zm_S → Prop) : zx (fn_X3_isRefusedAsOver K (some m) (zi k)) (n, c, zd_put m M h) Q E = Q (zi (zq_b (zq_lt T k.toNat).2.2.2.2)) (n, c, zd_put m (if (zq_lt T k.toNat).2.2.2.2 = true then zd_ref M 4 k else M) h) := by
  have hb : zq_b (zq_lt T k.toNat).2.2.2.2 = 0 ∨ zq_b (zq_lt T k.toNat).2.2.2.2 = 1 := by
    cases (zq_lt T k.toNat).2.2.2.2 <;> simp [zq_b]
  simp (disch := omega) only [fn_X3_isRefusedAsOver, zx_bnd, zx_ret, zx_ite, zx_grd, zx_fl, zi_l0, zi_l1, zi_l2, zi_l3, zi_l4, zi_l5, zi_l6, zi_l7, zi_l8, zi_l9, zi_l10, zi_l11, zi_l12, zi_l13, zi_l14, zi_l15, zi_l16, zi_l17, zi_l18, zi_l19, zi_l20, zi_l21, zi_l22, zi_l23, zi_l24, zi_l25, zi_l26, zi_l27, zi_l28, zi_l29, zi_l30, zi_l31, zi_l32, zi_l33, zi_l34, zi_l35, zi_l36, zi_l37, zi_l38, zi_l43, zi_l45, zi_l46, zi_l48, zi_l57, zi_l59, zi_l60, zi_l63, zi_l97, zi_l100, zi_l119, zi_l120, zi_l122, zi_l127, zi_l128, zi_l161, zi_l197, zi_l255, zi_l400, zi_l599, zi_l600, zi_l1576, zi_l65535, sd_is, sd_getR0, sd_getR1, sd_getR2, sd_getR3, sd_getR12, sd_getR13, sd_getR15, sd_getR17, sd_getR18, sd_getI4, sd_getI5, sd_getI6, sd_getI7, sd_getI8, sd_getI9, sd_getI10, sd_getI11, sd_getI14, sd_getI16, sd_getI19, sd_getI20, sd_getI21, sd_getI22, sd_ald1, sd_ald2, sd_ald3, sd_ald4, sd_ald5, sd_ald6, sd_ald7, sd_ald8, sd_ald9, sd_isOver hA, sd_isRefused hK _ _ 4 k hb, zb_b0, zb_b1]
  cases (zq_lt T k.toNat).2.2.2.2 <;> simp [zq_b, zd_ref]
theorem sd_raoT {K : zm_K} {m : Nat} {M : zd_M} {T : zq_T} (hK : K.1 ≤ m) (hA : M.2 1 = zq_row T) (k : Int) (hk : 0 ≤ k ∧ k < 30) (e : (zq_lt T k.toNat).2.2.2.2 = true) (n c : Nat) (h : Nat → Option zm_E) (Q : Int32 → zm_S → Prop) (E : String → Nat → zm_S → Prop) : zx (fn_X3_isRefusedAsOver K (some m) (zi k)) (n, c, zd_put m M h) Q E = Q (zi 1) (n, c, zd_put m (zd_ref M 4 k) h) := by
  rw [sd_isRefusedAsOver hK hA k hk, e]
  rfl
theorem sd_raoF {K : zm_K} {m : Nat} {M : zd_M} {T : zq_T} (hK : K.1 ≤ m) (hA : M.2 1 = zq_row T) (k : Int) (hk : 0 ≤ k ∧ k < 30) (e : (zq_lt T k.toNat).2.2.2.2 = false) (n c : Nat) (h : Nat → Option zm_E) (Q : Int32 → zm_S → Prop) (E : String → Nat → zm_S → Prop) : zx (fn_X3_isRefusedAsOver K (some m) (zi k)) (n, c, zd_put m M h) Q E = Q (zi 0) (n, c, zd_put m M h) := by
  rw [sd_isRefusedAsOver hK hA k hk, e]
  rfl
theorem sd_refT {K : zm_K} {m : Nat} (hK : K.1 ≤ m) (M : zd_M) (w d : Int) (n c : Nat) (h : Nat → Option zm_E) (Q : Int32 → zm_S → Prop) (E : String → Nat → zm_S → Prop) : zx (fn_X3_isRefused K (some m) (zi 1) (zi w) (zi d)) (n, c, zd_put m M h) Q E = Q (zi 1) (n, c, zd_put m (zd_ref M w d) h) := by
  rw [sd_isRefused hK M 1 w d (Or.inr rfl)]
  rfl
theorem sd_refF {K : zm_K} {m : Nat} (hK : K.1 ≤ m) (M : zd_M) (w d : Int) (n c : Nat) (h : Nat → Option zm_E) (Q : Int32 → zm_S → Prop) (E : String → Nat → zm_S → Prop) : zx (fn_X3_isRefused K (some m) (zi 0) (zi w) (zi d)) (n, c, zd_put m M h) Q E = Q (zi 0) (n, c, zd_put m M h) := by
  rw [sd_isRefused hK M 0 w d (Or.inl rfl)]
  rfl
theorem zi_t10 : (zi 1 = zi 0) = False := by simp only [eq_iff_iff, iff_false]; decide
theorem zi_t00 : (zi 0 = zi 0) = True := by simp
theorem sd_cancels {K : zm_K} {m : Nat} {M : zd_M} {T : zq_T} (hK : K.1 ≤ m) (hA : M.2 1 = zq_row T) (hT : zq_ok T) (k : Int) (hk : 0 ≤ k ∧ k < zq_nl T) (n c : Nat) (h : Nat → Option zm_E) (Q : Int32 → zm_S → Prop) (E : String → Nat → zm_S → Prop) : zx (fn_X3_cancels K (some m) (zi k)) (n, c, zd_put m M h) Q E = Q (zi (zd_v (zo_cancels T k.toNat))) (n, c, zd_put m (zd_o M (zo_cancels T k.toNat)) h) := by
  apply zx_eq
  intro Q E hQ
  have h30 := hT.1.2.1
  cases e : (zq_lt T k.toNat).2.2.2.2 with
  | true =>
    simp only [zo_cancels, e, if_true, zd_v, zd_o] at hQ
    simp (disch := first | omega | exact e) only [fn_X3_cancels, zx_bnd, zx_ret, zx_ite, zx_grd, zx_fl, zi_l0, zi_l1, zi_l2, zi_l3, zi_l4, zi_l5, zi_l6, zi_l7, zi_l8, zi_l9, zi_l10, zi_l11, zi_l12, zi_l13, zi_l14, zi_l15, zi_l16, zi_l17, zi_l18, zi_l19, zi_l20, zi_l21, zi_l22, zi_l23, zi_l24, zi_l25, zi_l26, zi_l27, zi_l28, zi_l29, zi_l30, zi_l31, zi_l32, zi_l33, zi_l34, zi_l35, zi_l36, zi_l37, zi_l38, zi_l43, zi_l45, zi_l46, zi_l48, zi_l57, zi_l59, zi_l60, zi_l63, zi_l97, zi_l100, zi_l119, zi_l120, zi_l122, zi_l127, zi_l128, zi_l161, zi_l197, zi_l255, zi_l400, zi_l599, zi_l600, zi_l1576, zi_l65535, sd_is, sd_getR0, sd_getR1, sd_getR2, sd_getR3, sd_getR12, sd_getR13, sd_getR15, sd_getR17, sd_getR18, sd_getI4, sd_getI5, sd_getI6, sd_getI7, sd_getI8, sd_getI9, sd_getI10, sd_getI11, sd_getI14, sd_getI16, sd_getI19, sd_getI20, sd_getI21, sd_getI22, sd_ald1, sd_ald2, sd_ald3, sd_ald4, sd_ald5, sd_ald6, sd_ald7, sd_ald8, sd_ald9, sd_raoT hK hA, zi_t10, zi_t00, true_implies, false_implies, not_true_eq_false, not_false_eq_true, and_true, true_and]
    simpa [show ((k.toNat : Nat) : Int) = k by omega] using hQ
  | false =>
    simp only [zo_cancels, e, Bool.false_eq_true, if_false, zd_v, zd_o] at hQ
    simp (disch := first | omega | exact e) only [fn_X3_cancels, fn_X3_lettingAt, zx_bnd, zx_ret, zx_ite, zx_grd, zx_fl, zi_l0, zi_l1, zi_l2, zi_l3, zi_l4, zi_l5, zi_l6, zi_l7, zi_l8, zi_l9, zi_l10, zi_l11, zi_l12, zi_l13, zi_l14, zi_l15, zi_l16, zi_l17, zi_l18, zi_l19, zi_l20, zi_l21, zi_l22, zi_l23, zi_l24, zi_l25, zi_l26, zi_l27, zi_l28, zi_l29, zi_l30, zi_l31, zi_l32, zi_l33, zi_l34, zi_l35, zi_l36, zi_l37, zi_l38, zi_l43, zi_l45, zi_l46, zi_l48, zi_l57, zi_l59, zi_l60, zi_l63, zi_l97, zi_l100, zi_l119, zi_l120, zi_l122, zi_l127, zi_l128, zi_l161, zi_l197, zi_l255, zi_l400, zi_l599, zi_l600, zi_l1576, zi_l65535, zi_add, zi_sub, zi_mul, zi_neg, sd_is, sd_getR0, sd_getR1, sd_getR2, sd_getR3, sd_getR12, sd_getR13, sd_getR15, sd_getR17, sd_getR18, sd_getI4, sd_getI5, sd_getI6, sd_getI7, sd_getI8, sd_getI9, sd_getI10, sd_getI11, sd_getI14, sd_getI16, sd_getI19, sd_getI20, sd_getI21, sd_getI22, sd_ald1, sd_ald2, sd_ald3, sd_ald4, sd_ald5, sd_ald6, sd_ald7, sd_ald8, sd_ald9, sd_putI4 hK, sd_putI5 hK, sd_putI6 hK, sd_putI7 hK, sd_putI8 hK, sd_putI9 hK, sd_putI10 hK, sd_putI11 hK, sd_putI14 hK, sd_putI16 hK, sd_putI19 hK, sd_putI20 hK, sd_putI21 hK, sd_putI22 hK, sd_ast1 hK, sd_ast2 hK, sd_ast3 hK, sd_ast4 hK, sd_ast5 hK, sd_ast6 hK, sd_ast7 hK, sd_ast8 hK, sd_ast9 hK, sd_raoF hK hA, zi_t10, zi_t00, true_implies, false_implies, not_true_eq_false, not_false_eq_true, and_true, true_and, sd_coinsOf hA hT, hA, zi_toInt, show (4 : Int).toNat = 4 from rfl, va_ne, va_eq, va_over]
    refine ⟨⟨by omega, by omega⟩, ⟨by omega, by omega⟩, ⟨by omega, by omega⟩, ?_⟩
    rw [show zi 1 = zi (zq_b true) from rfl, zq_row_set4 k hk h30 true]
    rw [show zq_row T 4 = zq_row (zq_setL T k.toNat ((zq_lt T k.toNat).1, (zq_lt T k.toNat).2.1, (zq_lt T k.toNat).2.2.1, (zq_lt T k.toNat).2.2.2.1, true)) 4 from rfl, show zi (zq_b true) = zi 1 from rfl, zq_row_cnt4]
    exact hQ
theorem zb_i01 (c : Prop) [Decidable c] : (if c then zm_ret (zi 0) else zm_ret (zi 1) : zm_M Int32) = zm_ret (zi (zq_p (¬ c))) := by
  unfold zq_p
  by_cases e : c <;> simp [e]
theorem zb_i10 (c : Prop) [Decidable c] : (if c then zm_ret (zi 1) else zm_ret (zi 0) : zm_M Int32) = zm_ret (zi (zq_p c)) := by
  unfold zq_p
  by_cases e : c <;> simp [e]
theorem sd_refP {K : zm_K} {m : Nat} (hK : K.1 ≤ m) (M : zd_M) (P : Prop) [Decidable P] (w d : Int) (n c : Nat) (h : Nat → Option zm_E) (Q : Int32 → zm_S → Prop) (E : String → Nat → zm_S → Prop) : zx (fn_X3_isRefused K (some m) (zi (zq_p P)) (zi w) (zi d)) (n, c, zd_put m M h) Q E = if P then Q (zi 1) (n, c, zd_put m (zd_ref M w d) h) else Q (zi 0) (n, c, zd_put m M h) := by
  by_cases e : P
  · simp only [e, zq_p, if_true]
    exact sd_refT hK M w d n c h Q E
  · simp only [e, zq_p, if_false]
    exact sd_refF hK M w d n c h Q E
theorem zi_ite (P : Prop) [Decidable P] (A B : Prop) : (if P then A else B) = ((P → A) ∧ (¬ P → B)) := by
  by_cases e : P <;> simp [e]
theorem zd_h (F : Nat → Int32) (A : Nat → Nat → Int32) (T : zq_T) : ((F, va_up A 1 (zq_row T)) : zd_M).2 1 = zq_row T := by
  show va_up A 1 (zq_row T) 1 = zq_row T
  exact va_eq rfl
