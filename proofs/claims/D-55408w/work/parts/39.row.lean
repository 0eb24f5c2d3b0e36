/-! changes of the theatre and its row (made by gen/xp.py from src/39.row.txt) -/
theorem va_ne {α : Type} {f : Nat → α} {k j : Nat} {v : α} (h : j ≠ k) : va_up f k v j = f j := if_neg h
theorem va_eq {α : Type} {f : Nat → α} {k j : Nat} {v : α} (h : j = k) : va_up f k v j = v := if_pos h
theorem va_over {α : Type} (f : Nat → α) (k : Nat) (v w : α) : va_up (va_up f k v) k w = va_up f k w := by
  funext j
  unfold va_up
  by_cases h : j = k <;> simp [h]
theorem va_self {α : Type} (f : Nat → α) (k : Nat) : va_up f k (f k) = f := by
  funext j
  unfold va_up
  by_cases h : j = k <;> simp [h]
def zq_addS (T : zq_T) (s : Int) : zq_T := (T.1 ++ [s], T.2)
def zq_add (T : zq_T) (l : zq_L) : zq_T := (T.1, T.2.1 ++ [l], T.2.2)
def zq_setL (T : zq_T) (k : Nat) (l : zq_L) : zq_T := (T.1, T.2.1.set k l, T.2.2)
def zq_addW (T : zq_T) (w : zq_W) : zq_T := (T.1, T.2.1, T.2.2.1 ++ [w], T.2.2.2)
def zq_delW (T : zq_T) (k : Nat) : zq_T := (T.1, T.2.1, T.2.2.1.eraseIdx k, T.2.2.2)
def zq_cA (T : zq_T) (d : Int32) : zq_T := (T.1, T.2.1, T.2.2.1, T.2.2.2.1 + d, T.2.2.2.2)
def zq_cC (T : zq_T) : zq_T := (T.1, T.2.1, T.2.2.1, T.2.2.2.1, T.2.2.2.2.1 + zi 1, T.2.2.2.2.2)
def zq_cJ (T : zq_T) : zq_T := (T.1, T.2.1, T.2.2.1, T.2.2.2.1, T.2.2.2.2.1, T.2.2.2.2.2 + zi 1)
theorem zq_getD_app {α : Type} (L : List α) (x d : α) (k : Nat) : (L ++ [x]).getD k d = if k = L.length then x else L.getD k d := by
  simp only [List.getD_eq_getElem?_getD]
  by_cases c : k < L.length
  · rw [List.getElem?_append_left c, if_neg (by omega)]
  · rw [List.getElem?_append_right (by omega)]
    by_cases e : k = L.length
    · simp [e]
    · rw [if_neg e, List.getElem?_eq_none (by simp; omega), List.getElem?_eq_none (by omega)]
theorem zq_getD_set {α : Type} (L : List α) (x d : α) (j k : Nat) (h : j < L.length) : (L.set j x).getD k d = if k = j then x else L.getD k d := by
  simp only [List.getD_eq_getElem?_getD]
  by_cases e : k = j
  · subst e
    simp [h]
  · rw [if_neg e, List.getElem?_set_ne (by omega)]
theorem zq_lt_add (T : zq_T) (l : zq_L) (k : Nat) : zq_lt (zq_add T l) k = if k = zq_nl T then l else zq_lt T k := zq_getD_app T.2.1 l _ k
theorem zq_st_add (T : zq_T) (s : Int) (k : Nat) : zq_st (zq_addS T s) k = if k = zq_nb T then s else zq_st T k := zq_getD_app T.1 s _ k
theorem zq_ws_add (T : zq_T) (w : zq_W) (k : Nat) : zq_ws (zq_addW T w) k = if k = zq_nw T then w else zq_ws T k := zq_getD_app T.2.2.1 w _ k
theorem zq_lt_set (T : zq_T) (l : zq_L) (j k : Nat) (h : j < zq_nl T) : zq_lt (zq_setL T j l) k = if k = j then l else zq_lt T k := zq_getD_set T.2.1 l _ j k h
theorem zq_nl_add (T : zq_T) (l : zq_L) : zq_nl (zq_add T l) = zq_nl T + 1 := by simp [zq_add, zq_nl]
theorem zq_nl_set (T : zq_T) (l : zq_L) (j : Nat) : zq_nl (zq_setL T j l) = zq_nl T := by simp [zq_setL, zq_nl]
theorem zq_nw_add (T : zq_T) (w : zq_W) : zq_nw (zq_addW T w) = zq_nw T + 1 := by simp [zq_addW, zq_nw]
theorem zq_nb_add (T : zq_T) (s : Int) : zq_nb (zq_addS T s) = zq_nb T + 1 := by simp [zq_addS, zq_nb]
theorem zq_row_off {T : zq_T} {i : Nat} (h : 197 ≤ i) : zq_row T i = 0 := by
  unfold zq_row
  rw [if_neg (by omega), if_neg (by omega), if_neg (by omega), if_neg (by omega)]
theorem zi_cast1 (k : Nat) : zi ((k + 1 : Nat) : Int) = zi (k + 1) := rfl
theorem sd_makes {K : zm_K} {m : Nat} {M : zd_M} {T : zq_T} (hK : K.1 ≤ m) (hA : M.2 1 = zq_row T) (hl : zq_nl T < 30) (b p f t : Int) (n c : Nat) (h : Nat → Option zm_E) (Q : Int32 → zm_S → Prop) (E : String → Nat → zm_S → Prop) : zx (fn_X3_makes K (some m) (zi b) (zi p) (zi f) (zi t)) (n, c, zd_put m M h) Q E = Q (zi (zq_nl T)) (n, c, zd_put m (M.1, va_up M.2 1 (zq_row (zq_add T (b, f, t, p, false)))) h) := by
  simp (disch := omega) only [fn_X3_makes, fn_X3_lettingAt, zx_bnd, zx_ret, zx_ite, zx_grd, zx_fl, zi_l0, zi_l1, zi_l2, zi_l3, zi_l4, zi_l5, zi_l6, zi_l7, zi_l8, zi_l9, zi_l10, zi_l11, zi_l12, zi_l13, zi_l14, zi_l15, zi_l16, zi_l17, zi_l18, zi_l19, zi_l20, zi_l21, zi_l22, zi_l23, zi_l24, zi_l25, zi_l26, zi_l27, zi_l28, zi_l29, zi_l30, zi_l31, zi_l32, zi_l33, zi_l34, zi_l35, zi_l36, zi_l37, zi_l38, zi_l43, zi_l45, zi_l46, zi_l48, zi_l57, zi_l59, zi_l60, zi_l63, zi_l97, zi_l100, zi_l119, zi_l120, zi_l122, zi_l127, zi_l128, zi_l161, zi_l197, zi_l255, zi_l400, zi_l599, zi_l600, zi_l1576, zi_l65535, sd_is, sd_getR0, sd_getR1, sd_getR2, sd_getR3, sd_getR12, sd_getR13, sd_getR15, sd_getR17, sd_getR18, sd_getI4, sd_getI5, sd_getI6, sd_getI7, sd_getI8, sd_getI9, sd_getI10, sd_getI11, sd_getI14, sd_getI16, sd_getI19, sd_getI20, sd_getI21, sd_getI22, sd_ald1, sd_ald2, sd_ald3, sd_ald4, sd_ald5, sd_ald6, sd_ald7, sd_ald8, sd_ald9, sd_putI4 hK, sd_putI5 hK, sd_putI6 hK, sd_putI7 hK, sd_putI8 hK, sd_putI9 hK, sd_putI10 hK, sd_putI11 hK, sd_putI14 hK, sd_putI16 hK, sd_putI19 hK, sd_putI20 hK, sd_putI21 hK, sd_putI22 hK, sd_ast1 hK, sd_ast2 hK, sd_ast3 hK, sd_ast4 hK, sd_ast5 hK, sd_ast6 hK, sd_ast7 hK, sd_ast8 hK, sd_ast9 hK, zi_add, zi_sub, zi_mul, zi_neg, zi_toInt, (zq_at_hd hA).2.1, show (1 : Int).toNat = 1 from rfl, va_ne, va_eq, va_over]
  simp only [show (0 : Int) ≤ 1 ∧ (1 : Int) < 197 by omega, show ∀ r : Int, (r = 0 ∨ r = 1 ∨ r = 2 ∨ r = 3 ∨ r = 4) → (0 ≤ 11 + 5 * (zq_nl T : Int) + r ∧ 11 + 5 * (zq_nl T : Int) + r < 197) from fun r h => by omega, true_and, true_or, or_true, and_self]
  refine congrArg (fun r => Q (zi (zq_nl T)) (n, c, zd_put m (M.1, va_up M.2 1 r) h)) ?_
  apply zq_row_ext
  · intro i hi
    rcases (show i = 0 ∨ i = 1 ∨ i = 2 ∨ i = 3 ∨ i = 4 ∨ i = 5 by omega) with e | e | e | e | e | e <;> subst e <;> simp (disch := omega) only [va_ne, va_eq, va_over, hA, zq_row_hd] <;> simp [zq_hd, zq_add, zq_nl, zq_nb, zq_nw]
  · intro b hb
    simp (disch := omega) only [va_ne, va_eq, va_over, hA, zq_row_st]
    rfl
  · intro k r hk hr
    rw [zq_lt_add]
    by_cases e : k = zq_nl T
    · rw [if_pos e]
      rcases (show r = 0 ∨ r = 1 ∨ r = 2 ∨ r = 3 ∨ r = 4 by omega) with e | e | e | e | e <;> subst e <;> simp (disch := omega) only [va_ne, va_eq, va_over] <;> rfl
    · rw [if_neg e]
      simp (disch := omega) only [va_ne, va_eq, va_over, hA, zq_row_lt]
  · intro k r hk hr
    simp (disch := omega) only [va_ne, va_eq, va_over, hA, zq_row_ws]
    rfl
  · intro i hi
    simp (disch := omega) only [va_ne, va_eq, va_over, hA, zq_row_off]
theorem zq_row_set1 {T : zq_T} (k : Int) (hk : 0 ≤ k ∧ k < zq_nl T) (hl : zq_nl T ≤ 30) (v : Int) : va_up (zq_row T) (11 + 5 * k + 1).toNat (zi v) = zq_row (zq_setL T k.toNat ((zq_lt T k.toNat).1, v, (zq_lt T k.toNat).2.2)) := by
  apply zq_row_ext
  · intro i hi
    rcases (show i = 0 ∨ i = 1 ∨ i = 2 ∨ i = 3 ∨ i = 4 ∨ i = 5 by omega) with e | e | e | e | e | e <;> subst e <;> simp (disch := omega) only [va_ne, va_eq, va_over, zq_row_hd] <;> simp [zq_hd, zq_setL, zq_nl, zq_nb, zq_nw]
  · intro b hb
    simp (disch := omega) only [va_ne, va_eq, va_over, zq_row_st]
    rfl
  · intro j r hj hr
    rw [zq_lt_set _ _ _ _ (by omega)]
    by_cases e : j = k.toNat
    · rw [if_pos e, e]
      rcases (show r = 0 ∨ r = 1 ∨ r = 2 ∨ r = 3 ∨ r = 4 by omega) with e | e | e | e | e <;> subst e <;> simp (disch := omega) only [va_ne, va_eq, va_over, zq_row_lt] <;> rfl
    · rw [if_neg e]
      simp (disch := omega) only [va_ne, va_eq, va_over, zq_row_lt]
  · intro j r hj hr
    simp (disch := omega) only [va_ne, va_eq, va_over, zq_row_ws]
    rfl
  · intro i hi
    simp (disch := omega) only [va_ne, va_eq, va_over, zq_row_off]
theorem zq_row_set2 {T : zq_T} (k : Int) (hk : 0 ≤ k ∧ k < zq_nl T) (hl : zq_nl T ≤ 30) (v : Int) : va_up (zq_row T) (11 + 5 * k + 2).toNat (zi v) = zq_row (zq_setL T k.toNat ((zq_lt T k.toNat).1, (zq_lt T k.toNat).2.1, v, (zq_lt T k.toNat).2.2.2)) := by
  apply zq_row_ext
  · intro i hi
    rcases (show i = 0 ∨ i = 1 ∨ i = 2 ∨ i = 3 ∨ i = 4 ∨ i = 5 by omega) with e | e | e | e | e | e <;> subst e <;> simp (disch := omega) only [va_ne, va_eq, va_over, zq_row_hd] <;> simp [zq_hd, zq_setL, zq_nl, zq_nb, zq_nw]
  · intro b hb
    simp (disch := omega) only [va_ne, va_eq, va_over, zq_row_st]
    rfl
  · intro j r hj hr
    rw [zq_lt_set _ _ _ _ (by omega)]
    by_cases e : j = k.toNat
    · rw [if_pos e, e]
      rcases (show r = 0 ∨ r = 1 ∨ r = 2 ∨ r = 3 ∨ r = 4 by omega) with e | e | e | e | e <;> subst e <;> simp (disch := omega) only [va_ne, va_eq, va_over, zq_row_lt] <;> rfl
    · rw [if_neg e]
      simp (disch := omega) only [va_ne, va_eq, va_over, zq_row_lt]
  · intro j r hj hr
    simp (disch := omega) only [va_ne, va_eq, va_over, zq_row_ws]
    rfl
  · intro i hi
    simp (disch := omega) only [va_ne, va_eq, va_over, zq_row_off]
theorem zq_row_set4 {T : zq_T} (k : Int) (hk : 0 ≤ k ∧ k < zq_nl T) (hl : zq_nl T ≤ 30) (v : Bool) : va_up (zq_row T) (11 + 5 * k + 4).toNat (zi (zq_b v)) = zq_row (zq_setL T k.toNat ((zq_lt T k.toNat).1, (zq_lt T k.toNat).2.1, (zq_lt T k.toNat).2.2.1, (zq_lt T k.toNat).2.2.2.1, v)) := by
  apply zq_row_ext
  · intro i hi
    rcases (show i = 0 ∨ i = 1 ∨ i = 2 ∨ i = 3 ∨ i = 4 ∨ i = 5 by omega) with e | e | e | e | e | e <;> subst e <;> simp (disch := omega) only [va_ne, va_eq, va_over, zq_row_hd] <;> simp [zq_hd, zq_setL, zq_nl, zq_nb, zq_nw]
  · intro b hb
    simp (disch := omega) only [va_ne, va_eq, va_over, zq_row_st]
    rfl
  · intro j r hj hr
    rw [zq_lt_set _ _ _ _ (by omega)]
    by_cases e : j = k.toNat
    · rw [if_pos e, e]
      rcases (show r = 0 ∨ r = 1 ∨ r = 2 ∨ r = 3 ∨ r = 4 by omega) with e | e | e | e | e <;> subst e <;> simp (disch := omega) only [va_ne, va_eq, va_over, zq_row_lt] <;> rfl
    · rw [if_neg e]
      simp (disch := omega) only [va_ne, va_eq, va_over, zq_row_lt]
  · intro j r hj hr
    simp (disch := omega) only [va_ne, va_eq, va_over, zq_row_ws]
    rfl
  · intro i hi
    simp (disch := omega) only [va_ne, va_eq, va_over, zq_row_off]
theorem zq_row_cnt3 {T : zq_T} (d : Int32) : va_up (zq_row T) 3 (zq_row T 3 + d) = zq_row (zq_cA T d) := by
  apply zq_row_ext
  · intro i hi
    rcases (show i = 0 ∨ i = 1 ∨ i = 2 ∨ i = 3 ∨ i = 4 ∨ i = 5 by omega) with e | e | e | e | e | e <;> subst e <;> simp (disch := omega) only [va_ne, va_eq, va_over, zq_row_hd] <;> simp [zq_hd, zq_cA, zq_cC, zq_cJ, zq_nl, zq_nb, zq_nw]
  · intro b hb
    simp (disch := omega) only [va_ne, va_eq, va_over, zq_row_st]
    rfl
  · intro j r hj hr
    simp (disch := omega) only [va_ne, va_eq, va_over, zq_row_lt]
    rfl
  · intro j r hj hr
    simp (disch := omega) only [va_ne, va_eq, va_over, zq_row_ws]
    rfl
  · intro i hi
    simp (disch := omega) only [va_ne, va_eq, va_over, zq_row_off]
theorem zq_row_cnt4 {T : zq_T} : va_up (zq_row T) 4 (zq_row T 4 + zi 1) = zq_row (zq_cC T) := by
  apply zq_row_ext
  · intro i hi
    rcases (show i = 0 ∨ i = 1 ∨ i = 2 ∨ i = 3 ∨ i = 4 ∨ i = 5 by omega) with e | e | e | e | e | e <;> subst e <;> simp (disch := omega) only [va_ne, va_eq, va_over, zq_row_hd] <;> simp [zq_hd, zq_cA, zq_cC, zq_cJ, zq_nl, zq_nb, zq_nw]
  · intro b hb
    simp (disch := omega) only [va_ne, va_eq, va_over, zq_row_st]
    rfl
  · intro j r hj hr
    simp (disch := omega) only [va_ne, va_eq, va_over, zq_row_lt]
    rfl
  · intro j r hj hr
    simp (disch := omega) only [va_ne, va_eq, va_over, zq_row_ws]
    rfl
  · intro i hi
    simp (disch := omega) only [va_ne, va_eq, va_over, zq_row_off]
theorem zq_row_cnt5 {T : zq_T} : va_up (zq_row T) 5 (zq_row T 5 + zi 1) = zq_row (zq_cJ T) := by
  apply zq_row_ext
  · intro i hi
    rcases (show i = 0 ∨ i = 1 ∨ i = 2 ∨ i = 3 ∨ i = 4 ∨ i = 5 by omega) with e | e | e | e | e | e <;> subst e <;> simp (disch := omega) only [va_ne, va_eq, va_over, zq_row_hd] <;> simp [zq_hd, zq_cA, zq_cC, zq_cJ, zq_nl, zq_nb, zq_nw]
  · intro b hb
    simp (disch := omega) only [va_ne, va_eq, va_over, zq_row_st]
    rfl
  · intro j r hj hr
    simp (disch := omega) only [va_ne, va_eq, va_over, zq_row_lt]
    rfl
  · intro j r hj hr
    simp (disch := omega) only [va_ne, va_eq, va_over, zq_row_ws]
    rfl
  · intro i hi
    simp (disch := omega) only [va_ne, va_eq, va_over, zq_row_off]
theorem zq_row_addW {T : zq_T} (hl : zq_nw T < 12) (p f t : Int) : va_up (va_up (va_up (va_up (zq_row T) (161 + 3 * (zq_nw T : Int) + 0).toNat (zi f)) (161 + 3 * (zq_nw T : Int) + 1).toNat (zi t)) (161 + 3 * (zq_nw T : Int) + 2).toNat (zi p)) 2 (zi ((zq_nw T : Int) + 1)) = zq_row (zq_addW T (f, t, p)) := by
  apply zq_row_ext
  · intro i hi
    rcases (show i = 0 ∨ i = 1 ∨ i = 2 ∨ i = 3 ∨ i = 4 ∨ i = 5 by omega) with e | e | e | e | e | e <;> subst e <;> simp (disch := omega) only [va_ne, va_eq, va_over, zq_row_hd] <;> simp [zq_hd, zq_addW, zq_nl, zq_nb, zq_nw]
  · intro b hb
    simp (disch := omega) only [va_ne, va_eq, va_over, zq_row_st]
    rfl
  · intro k r hk hr
    simp (disch := omega) only [va_ne, va_eq, va_over, zq_row_lt]
    rfl
  · intro k r hk hr
    rw [zq_ws_add]
    by_cases e : k = zq_nw T
    · rw [if_pos e]
      rcases (show r = 0 ∨ r = 1 ∨ r = 2 by omega) with e | e | e <;> subst e <;> simp (disch := omega) only [va_ne, va_eq, va_over] <;> rfl
    · rw [if_neg e]
      simp (disch := omega) only [va_ne, va_eq, va_over, zq_row_ws]
  · intro i hi
    simp (disch := omega) only [va_ne, va_eq, va_over, zq_row_off]
theorem zq_row_addS {T : zq_T} (hl : zq_nb T < 5) (s : Int) : va_up (va_up (zq_row T) (6 + (zq_nb T : Int)).toNat (zi s)) 0 (zi ((zq_nb T : Int) + 1)) = zq_row (zq_addS T s) := by
  apply zq_row_ext
  · intro i hi
    rcases (show i = 0 ∨ i = 1 ∨ i = 2 ∨ i = 3 ∨ i = 4 ∨ i = 5 by omega) with e | e | e | e | e | e <;> subst e <;> simp (disch := omega) only [va_ne, va_eq, va_over, zq_row_hd] <;> simp [zq_hd, zq_addS, zq_nl, zq_nb, zq_nw]
  · intro b hb
    rw [zq_st_add]
    by_cases e : b = zq_nb T
    · rw [if_pos e]
      simp (disch := omega) only [va_ne, va_eq, va_over]
    · rw [if_neg e]
      simp (disch := omega) only [va_ne, va_eq, va_over, zq_row_st]
  · intro k r hk hr
    simp (disch := omega) only [va_ne, va_eq, va_over, zq_row_lt]
    rfl
  · intro k r hk hr
    simp (disch := omega) only [va_ne, va_eq, va_over, zq_row_ws]
    rfl
  · intro i hi
    simp (disch := omega) only [va_ne, va_eq, va_over, zq_row_off]
