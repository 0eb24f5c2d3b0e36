/-! the model: object m (class 20) and its nine arrays m + 1 .. m + 9; M.1 its int fields, M.2 its arrays (printed by gen/mkmod.py) -/
abbrev zd_M : Type := (Nat → Int32) × (Nat → Nat → Int32)
def zd_len (j : Nat) : Nat := if j = 1 then 197 else if j = 2 then 197 else if j = 3 then 197 else if j = 4 then 1576 else if j = 5 then 12 else if j = 6 then 2 else if j = 7 then 400 else if j = 8 then 60 else 60
def zd_obj (m : Nat) (M : zd_M) : List Value := [.ref (m + 1), .ref (m + 2), .ref (m + 3), .ref (m + 4), .int (M.1 4), .int (M.1 5), .int (M.1 6), .int (M.1 7), .int (M.1 8), .int (M.1 9), .int (M.1 10), .int (M.1 11), .ref (m + 5), .ref (m + 6), .int (M.1 14), .ref (m + 7), .int (M.1 16), .ref (m + 8), .ref (m + 9), .int (M.1 19), .int (M.1 20), .int (M.1 21), .int (M.1 22)]
def zd_put (m : Nat) (M : zd_M) (h : Nat → Option zm_E) : Nat → Option zm_E := fun a => if a = m then some (.inr (20, zd_obj m M)) else if m < a ∧ a ≤ m + 9 then some (.inl (.int, zd_len (a - m), .inl (M.2 (a - m)))) else h a
theorem zd_put_obj (m : Nat) (M : zd_M) (h : Nat → Option zm_E) : zd_put m M h m = some (.inr (20, zd_obj m M)) := if_pos rfl
theorem zd_put_arr {j : Nat} (hj : 1 ≤ j ∧ j ≤ 9) (m : Nat) (M : zd_M) (h : Nat → Option zm_E) : zd_put m M h (m + j) = some (.inl (.int, zd_len j, .inl (M.2 j))) := by
  unfold zd_put
  rw [if_neg (by omega), if_pos (by omega), show m + j - m = j by omega]
theorem zd_put_off {m a : Nat} (ha : a < m ∨ m + 9 < a) (M : zd_M) (h : Nat → Option zm_E) : zd_put m M h a = h a := by
  unfold zd_put
  rw [if_neg (by omega), if_neg (by omega)]
theorem zd_setI (m k : Nat) (v : Int32) (M : zd_M) (h : Nat → Option zm_E) (e : (zd_obj m M).set k (.int v) = zd_obj m (va_up M.1 k v, M.2)) : zm_up (zd_put m M h) m (.inr (20, (zd_obj m M).set k (.int v))) = zd_put m (va_up M.1 k v, M.2) h := by
  funext a
  unfold zm_up zd_put
  rw [e]
  by_cases c : a = m <;> simp [c]
theorem zd_setA {j : Nat} (hj : 1 ≤ j ∧ j ≤ 9) (m : Nat) (f : Nat → Int32) (M : zd_M) (h : Nat → Option zm_E) : zm_up (zd_put m M h) (m + j) (.inl (.int, zd_len j, .inl f)) = zd_put m (M.1, va_up M.2 j f) h := by
  funext a
  unfold zm_up zd_put va_up
  by_cases c : a = m + j
  · rw [if_pos c, if_neg (by omega), if_pos (by omega), show a - m = j by omega]
    simp only [if_true]
  · rw [if_neg c]
    by_cases d : a = m
    · rw [if_pos d, if_pos d]
      rfl
    · rw [if_neg d, if_neg d]
      by_cases g : m < a ∧ a ≤ m + 9
      · rw [if_pos g, if_pos g]
        simp only [show ¬ (a - m = j) by omega, if_false]
      · rw [if_neg g, if_neg g]
theorem sd_is (m n c : Nat) (M : zd_M) (h : Nat → Option zm_E) (Q : Unit → zm_S → Prop) (E : String → Nat → zm_S → Prop) : zx (zm_is (some m) 20) (n, c, zd_put m M h) Q E = Q () (n, c, zd_put m M h) := by
  rw [zx_is, zd_put_obj, zy_obj_mk, eq_self, true_and]
theorem sd_getR0 (m n c : Nat) (M : zd_M) (h : Nat → Option zm_E) (Q : zm_R → zm_S → Prop) (E : String → Nat → zm_S → Prop) : zx (zm_getR (some m) 20 0) (n, c, zd_put m M h) Q E = Q (some (m + 1)) (n, c, zd_put m M h) := by
  rw [zx_getR, zd_put_obj, zy_obj_mk, eq_self, true_and]
  rfl
theorem sd_getR1 (m n c : Nat) (M : zd_M) (h : Nat → Option zm_E) (Q : zm_R → zm_S → Prop) (E : String → Nat → zm_S → Prop) : zx (zm_getR (some m) 20 1) (n, c, zd_put m M h) Q E = Q (some (m + 2)) (n, c, zd_put m M h) := by
  rw [zx_getR, zd_put_obj, zy_obj_mk, eq_self, true_and]
  rfl
theorem sd_getR2 (m n c : Nat) (M : zd_M) (h : Nat → Option zm_E) (Q : zm_R → zm_S → Prop) (E : String → Nat → zm_S → Prop) : zx (zm_getR (some m) 20 2) (n, c, zd_put m M h) Q E = Q (some (m + 3)) (n, c, zd_put m M h) := by
  rw [zx_getR, zd_put_obj, zy_obj_mk, eq_self, true_and]
  rfl
theorem sd_getR3 (m n c : Nat) (M : zd_M) (h : Nat → Option zm_E) (Q : zm_R → zm_S → Prop) (E : String → Nat → zm_S → Prop) : zx (zm_getR (some m) 20 3) (n, c, zd_put m M h) Q E = Q (some (m + 4)) (n, c, zd_put m M h) := by
  rw [zx_getR, zd_put_obj, zy_obj_mk, eq_self, true_and]
  rfl
theorem sd_getR12 (m n c : Nat) (M : zd_M) (h : Nat → Option zm_E) (Q : zm_R → zm_S → Prop) (E : String → Nat → zm_S → Prop) : zx (zm_getR (some m) 20 12) (n, c, zd_put m M h) Q E = Q (some (m + 5)) (n, c, zd_put m M h) := by
  rw [zx_getR, zd_put_obj, zy_obj_mk, eq_self, true_and]
  rfl
theorem sd_getR13 (m n c : Nat) (M : zd_M) (h : Nat → Option zm_E) (Q : zm_R → zm_S → Prop) (E : String → Nat → zm_S → Prop) : zx (zm_getR (some m) 20 13) (n, c, zd_put m M h) Q E = Q (some (m + 6)) (n, c, zd_put m M h) := by
  rw [zx_getR, zd_put_obj, zy_obj_mk, eq_self, true_and]
  rfl
theorem sd_getR15 (m n c : Nat) (M : zd_M) (h : Nat → Option zm_E) (Q : zm_R → zm_S → Prop) (E : String → Nat → zm_S → Prop) : zx (zm_getR (some m) 20 15) (n, c, zd_put m M h) Q E = Q (some (m + 7)) (n, c, zd_put m M h) := by
  rw [zx_getR, zd_put_obj, zy_obj_mk, eq_self, true_and]
  rfl
theorem sd_getR17 (m n c : Nat) (M : zd_M) (h : Nat → Option zm_E) (Q : zm_R → zm_S → Prop) (E : String → Nat → zm_S → Prop) : zx (zm_getR (some m) 20 17) (n, c, zd_put m M h) Q E = Q (some (m + 8)) (n, c, zd_put m M h) := by
  rw [zx_getR, zd_put_obj, zy_obj_mk, eq_self, true_and]
  rfl
theorem sd_getR18 (m n c : Nat) (M : zd_M) (h : Nat → Option zm_E) (Q : zm_R → zm_S → Prop) (E : String → Nat → zm_S → Prop) : zx (zm_getR (some m) 20 18) (n, c, zd_put m M h) Q E = Q (some (m + 9)) (n, c, zd_put m M h) := by
  rw [zx_getR, zd_put_obj, zy_obj_mk, eq_self, true_and]
  rfl
theorem sd_getI4 (m n c : Nat) (M : zd_M) (h : Nat → Option zm_E) (Q : Int32 → zm_S → Prop) (E : String → Nat → zm_S → Prop) : zx (zm_getI (some m) 20 4) (n, c, zd_put m M h) Q E = Q (M.1 4) (n, c, zd_put m M h) := by
  rw [zx_getI, zd_put_obj, zy_obj_mk, eq_self, true_and]
  rfl
theorem sd_putI4 {K : zm_K} {m : Nat} (hK : K.1 ≤ m) (n c : Nat) (v : Int32) (M : zd_M) (h : Nat → Option zm_E) (Q : Unit → zm_S → Prop) (E : String → Nat → zm_S → Prop) : zx (zm_putF K (some m) 20 4 (.int v)) (n, c, zd_put m M h) Q E = Q () (n, c, zd_put m (va_up M.1 4 v, M.2) h) := by
  rw [zx_putF, zd_put_obj, zy_obj_mk, zd_setI m 4 v M h rfl]
  simp only [true_and, hK, show 4 < (zd_obj m M).length from Nat.le_of_ble_eq_true rfl, and_self]
theorem sd_getI5 (m n c : Nat) (M : zd_M) (h : Nat → Option zm_E) (Q : Int32 → zm_S → Prop) (E : String → Nat → zm_S → Prop) : zx (zm_getI (some m) 20 5) (n, c, zd_put m M h) Q E = Q (M.1 5) (n, c, zd_put m M h) := by
  rw [zx_getI, zd_put_obj, zy_obj_mk, eq_self, true_and]
  rfl
theorem sd_putI5 {K : zm_K} {m : Nat} (hK : K.1 ≤ m) (n c : Nat) (v : Int32) (M : zd_M) (h : Nat → Option zm_E) (Q : Unit → zm_S → Prop) (E : String → Nat → zm_S → Prop) : zx (zm_putF K (some m) 20 5 (.int v)) (n, c, zd_put m M h) Q E = Q () (n, c, zd_put m (va_up M.1 5 v, M.2) h) := by
  rw [zx_putF, zd_put_obj, zy_obj_mk, zd_setI m 5 v M h rfl]
  simp only [true_and, hK, show 5 < (zd_obj m M).length from Nat.le_of_ble_eq_true rfl, and_self]
theorem sd_getI6 (m n c : Nat) (M : zd_M) (h : Nat → Option zm_E) (Q : Int32 → zm_S → Prop) (E : String → Nat → zm_S → Prop) : zx (zm_getI (some m) 20 6) (n, c, zd_put m M h) Q E = Q (M.1 6) (n, c, zd_put m M h) := by
  rw [zx_getI, zd_put_obj, zy_obj_mk, eq_self, true_and]
  rfl
theorem sd_putI6 {K : zm_K} {m : Nat} (hK : K.1 ≤ m) (n c : Nat) (v : Int32) (M : zd_M) (h : Nat → Option zm_E) (Q : Unit → zm_S → Prop) (E : String → Nat → zm_S → Prop) : zx (zm_putF K (some m) 20 6 (.int v)) (n, c, zd_put m M h) Q E = Q () (n, c, zd_put m (va_up M.1 6 v, M.2) h) := by
  rw [zx_putF, zd_put_obj, zy_obj_mk, zd_setI m 6 v M h rfl]
  simp only [true_and, hK, show 6 < (zd_obj m M).length from Nat.le_of_ble_eq_true rfl, and_self]
theorem sd_getI7 (m n c : Nat) (M : zd_M) (h : Nat → Option zm_E) (Q : Int32 → zm_S → Prop) (E : String → Nat → zm_S → Prop) : zx (zm_getI (some m) 20 7) (n, c, zd_put m M h) Q E = Q (M.1 7) (n, c, zd_put m M h) := by
  rw [zx_getI, zd_put_obj, zy_obj_mk, eq_self, true_and]
  rfl
theorem sd_putI7 {K : zm_K} {m : Nat} (hK : K.1 ≤ m) (n c : Nat) (v : Int32) (M : zd_M) (h : Nat → Option zm_E) (Q : Unit → zm_S → Prop) (E : String → Nat → zm_S → Prop) : zx (zm_putF K (some m) 20 7 (.int v)) (n, c, zd_put m M h) Q E = Q () (n, c, zd_put m (va_up M.1 7 v, M.2) h) := by
  rw [zx_putF, zd_put_obj, zy_obj_mk, zd_setI m 7 v M h rfl]
  simp only [true_and, hK, show 7 < (zd_obj m M).length from Nat.le_of_ble_eq_true rfl, and_self]
theorem sd_getI8 (m n c : Nat) (M : zd_M) (h : Nat → Option zm_E) (Q : Int32 → zm_S → Prop) (E : String → Nat → zm_S → Prop) : zx (zm_getI (some m) 20 8) (n, c, zd_put m M h) Q E = Q (M.1 8) (n, c, zd_put m M h) := by
  rw [zx_getI, zd_put_obj, zy_obj_mk, eq_self, true_and]
  rfl
theorem sd_putI8 {K : zm_K} {m : Nat} (hK : K.1 ≤ m) (n c : Nat) (v : Int32) (M : zd_M) (h : Nat → Option zm_E) (Q : Unit → zm_S → Prop) (E : String → Nat → zm_S → Prop) : zx (zm_putF K (some m) 20 8 (.int v)) (n, c, zd_put m M h) Q E = Q () (n, c, zd_put m (va_up M.1 8 v, M.2) h) := by
  rw [zx_putF, zd_put_obj, zy_obj_mk, zd_setI m 8 v M h rfl]
  simp only [true_and, hK, show 8 < (zd_obj m M).length from Nat.le_of_ble_eq_true rfl, and_self]
theorem sd_getI9 (m n c : Nat) (M : zd_M) (h : Nat → Option zm_E) (Q : Int32 → zm_S → Prop) (E : String → Nat → zm_S → Prop) : zx (zm_getI (some m) 20 9) (n, c, zd_put m M h) Q E = Q (M.1 9) (n, c, zd_put m M h) := by
  rw [zx_getI, zd_put_obj, zy_obj_mk, eq_self, true_and]
  rfl
theorem sd_putI9 {K : zm_K} {m : Nat} (hK : K.1 ≤ m) (n c : Nat) (v : Int32) (M : zd_M) (h : Nat → Option zm_E) (Q : Unit → zm_S → Prop) (E : String → Nat → zm_S → Prop) : zx (zm_putF K (some m) 20 9 (.int v)) (n, c, zd_put m M h) Q E = Q () (n, c, zd_put m (va_up M.1 9 v, M.2) h) := by
  rw [zx_putF, zd_put_obj, zy_obj_mk, zd_setI m 9 v M h rfl]
  simp only [true_and, hK, show 9 < (zd_obj m M).length from Nat.le_of_ble_eq_true rfl, and_self]
theorem sd_getI10 (m n c : Nat) (M : zd_M) (h : Nat → Option zm_E) (Q : Int32 → zm_S → Prop) (E : String → Nat → zm_S → Prop) : zx (zm_getI (some m) 20 10) (n, c, zd_put m M h) Q E = Q (M.1 10) (n, c, zd_put m M h) := by
  rw [zx_getI, zd_put_obj, zy_obj_mk, eq_self, true_and]
  rfl
theorem sd_putI10 {K : zm_K} {m : Nat} (hK : K.1 ≤ m) (n c : Nat) (v : Int32) (M : zd_M) (h : Nat → Option zm_E) (Q : Unit → zm_S → Prop) (E : String → Nat → zm_S → Prop) : zx (zm_putF K (some m) 20 10 (.int v)) (n, c, zd_put m M h) Q E = Q () (n, c, zd_put m (va_up M.1 10 v, M.2) h) := by
  rw [zx_putF, zd_put_obj, zy_obj_mk, zd_setI m 10 v M h rfl]
  simp only [true_and, hK, show 10 < (zd_obj m M).length from Nat.le_of_ble_eq_true rfl, and_self]
theorem sd_getI11 (m n c : Nat) (M : zd_M) (h : Nat → Option zm_E) (Q : Int32 → zm_S → Prop) (E : String → Nat → zm_S → Prop) : zx (zm_getI (some m) 20 11) (n, c, zd_put m M h) Q E = Q (M.1 11) (n, c, zd_put m M h) := by
  rw [zx_getI, zd_put_obj, zy_obj_mk, eq_self, true_and]
  rfl
theorem sd_putI11 {K : zm_K} {m : Nat} (hK : K.1 ≤ m) (n c : Nat) (v : Int32) (M : zd_M) (h : Nat → Option zm_E) (Q : Unit → zm_S → Prop) (E : String → Nat → zm_S → Prop) : zx (zm_putF K (some m) 20 11 (.int v)) (n, c, zd_put m M h) Q E = Q () (n, c, zd_put m (va_up M.1 11 v, M.2) h) := by
  rw [zx_putF, zd_put_obj, zy_obj_mk, zd_setI m 11 v M h rfl]
  simp only [true_and, hK, show 11 < (zd_obj m M).length from Nat.le_of_ble_eq_true rfl, and_self]
theorem sd_getI14 (m n c : Nat) (M : zd_M) (h : Nat → Option zm_E) (Q : Int32 → zm_S → Prop) (E : String → Nat → zm_S → Prop) : zx (zm_getI (some m) 20 14) (n, c, zd_put m M h) Q E = Q (M.1 14) (n, c, zd_put m M h) := by
  rw [zx_getI, zd_put_obj, zy_obj_mk, eq_self, true_and]
  rfl
theorem sd_putI14 {K : zm_K} {m : Nat} (hK : K.1 ≤ m) (n c : Nat) (v : Int32) (M : zd_M) (h : Nat → Option zm_E) (Q : Unit → zm_S → Prop) (E : String → Nat → zm_S → Prop) : zx (zm_putF K (some m) 20 14 (.int v)) (n, c, zd_put m M h) Q E = Q () (n, c, zd_put m (va_up M.1 14 v, M.2) h) := by
  rw [zx_putF, zd_put_obj, zy_obj_mk, zd_setI m 14 v M h rfl]
  simp only [true_and, hK, show 14 < (zd_obj m M).length from Nat.le_of_ble_eq_true rfl, and_self]
theorem sd_getI16 (m n c : Nat) (M : zd_M) (h : Nat → Option zm_E) (Q : Int32 → zm_S → Prop) (E : String → Nat → zm_S → Prop) : zx (zm_getI (some m) 20 16) (n, c, zd_put m M h) Q E = Q (M.1 16) (n, c, zd_put m M h) := by
  rw [zx_getI, zd_put_obj, zy_obj_mk, eq_self, true_and]
  rfl
theorem sd_putI16 {K : zm_K} {m : Nat} (hK : K.1 ≤ m) (n c : Nat) (v : Int32) (M : zd_M) (h : Nat → Option zm_E) (Q : Unit → zm_S → Prop) (E : String → Nat → zm_S → Prop) : zx (zm_putF K (some m) 20 16 (.int v)) (n, c, zd_put m M h) Q E = Q () (n, c, zd_put m (va_up M.1 16 v, M.2) h) := by
  rw [zx_putF, zd_put_obj, zy_obj_mk, zd_setI m 16 v M h rfl]
  simp only [true_and, hK, show 16 < (zd_obj m M).length from Nat.le_of_ble_eq_true rfl, and_self]
theorem sd_getI19 (m n c : Nat) (M : zd_M) (h : Nat → Option zm_E) (Q : Int32 → zm_S → Prop) (E : String → Nat → zm_S → Prop) : zx (zm_getI (some m) 20 19) (n, c, zd_put m M h) Q E = Q (M.1 19) (n, c, zd_put m M h) := by
  rw [zx_getI, zd_put_obj, zy_obj_mk, eq_self, true_and]
  rfl
theorem sd_putI19 {K : zm_K} {m : Nat} (hK : K.1 ≤ m) (n c : Nat) (v : Int32) (M : zd_M) (h : Nat → Option zm_E) (Q : Unit → zm_S → Prop) (E : String → Nat → zm_S → Prop) : zx (zm_putF K (some m) 20 19 (.int v)) (n, c, zd_put m M h) Q E = Q () (n, c, zd_put m (va_up M.1 19 v, M.2) h) := by
  rw [zx_putF, zd_put_obj, zy_obj_mk, zd_setI m 19 v M h rfl]
  simp only [true_and, hK, show 19 < (zd_obj m M).length from Nat.le_of_ble_eq_true rfl, and_self]
theorem sd_getI20 (m n c : Nat) (M : zd_M) (h : Nat → Option zm_E) (Q : Int32 → zm_S → Prop) (E : String → Nat → zm_S → Prop) : zx (zm_getI (some m) 20 20) (n, c, zd_put m M h) Q E = Q (M.1 20) (n, c, zd_put m M h) := by
  rw [zx_getI, zd_put_obj, zy_obj_mk, eq_self, true_and]
  rfl
theorem sd_putI20 {K : zm_K} {m : Nat} (hK : K.1 ≤ m) (n c : Nat) (v : Int32) (M : zd_M) (h : Nat → Option zm_E) (Q : Unit → zm_S → Prop) (E : String → Nat → zm_S → Prop) : zx (zm_putF K (some m) 20 20 (.int v)) (n, c, zd_put m M h) Q E = Q () (n, c, zd_put m (va_up M.1 20 v, M.2) h) := by
  rw [zx_putF, zd_put_obj, zy_obj_mk, zd_setI m 20 v M h rfl]
  simp only [true_and, hK, show 20 < (zd_obj m M).length from Nat.le_of_ble_eq_true rfl, and_self]
theorem sd_getI21 (m n c : Nat) (M : zd_M) (h : Nat → Option zm_E) (Q : Int32 → zm_S → Prop) (E : String → Nat → zm_S → Prop) : zx (zm_getI (some m) 20 21) (n, c, zd_put m M h) Q E = Q (M.1 21) (n, c, zd_put m M h) := by
  rw [zx_getI, zd_put_obj, zy_obj_mk, eq_self, true_and]
  rfl
theorem sd_putI21 {K : zm_K} {m : Nat} (hK : K.1 ≤ m) (n c : Nat) (v : Int32) (M : zd_M) (h : Nat → Option zm_E) (Q : Unit → zm_S → Prop) (E : String → Nat → zm_S → Prop) : zx (zm_putF K (some m) 20 21 (.int v)) (n, c, zd_put m M h) Q E = Q () (n, c, zd_put m (va_up M.1 21 v, M.2) h) := by
  rw [zx_putF, zd_put_obj, zy_obj_mk, zd_setI m 21 v M h rfl]
  simp only [true_and, hK, show 21 < (zd_obj m M).length from Nat.le_of_ble_eq_true rfl, and_self]
theorem sd_getI22 (m n c : Nat) (M : zd_M) (h : Nat → Option zm_E) (Q : Int32 → zm_S → Prop) (E : String → Nat → zm_S → Prop) : zx (zm_getI (some m) 20 22) (n, c, zd_put m M h) Q E = Q (M.1 22) (n, c, zd_put m M h) := by
  rw [zx_getI, zd_put_obj, zy_obj_mk, eq_self, true_and]
  rfl
theorem sd_putI22 {K : zm_K} {m : Nat} (hK : K.1 ≤ m) (n c : Nat) (v : Int32) (M : zd_M) (h : Nat → Option zm_E) (Q : Unit → zm_S → Prop) (E : String → Nat → zm_S → Prop) : zx (zm_putF K (some m) 20 22 (.int v)) (n, c, zd_put m M h) Q E = Q () (n, c, zd_put m (va_up M.1 22 v, M.2) h) := by
  rw [zx_putF, zd_put_obj, zy_obj_mk, zd_setI m 22 v M h rfl]
  simp only [true_and, hK, show 22 < (zd_obj m M).length from Nat.le_of_ble_eq_true rfl, and_self]
theorem sd_ald1 (m n c : Nat) (M : zd_M) (h : Nat → Option zm_E) (i : Int32) (Q : Int32 → zm_S → Prop) (E : String → Nat → zm_S → Prop) : zx (zm_aldI .int (some (m + 1)) i) (n, c, zd_put m M h) Q E = ((0 ≤ i.toInt ∧ i.toInt < 197) ∧ Q (M.2 1 i.toInt.toNat) (n, c, zd_put m M h)) := by
  rw [zx_ald, zd_put_arr (by omega), zy_arr_mk, eq_self, true_and]
  rfl
theorem sd_ast1 {K : zm_K} {m : Nat} (hK : K.1 ≤ m) (n c : Nat) (v : Int32) (M : zd_M) (h : Nat → Option zm_E) (i : Int32) (Q : Unit → zm_S → Prop) (E : String → Nat → zm_S → Prop) : zx (zm_astI K .int (some (m + 1)) i v) (n, c, zd_put m M h) Q E = ((0 ≤ i.toInt ∧ i.toInt < 197) ∧ Q () (n, c, zd_put m (M.1, va_up M.2 1 (va_up (M.2 1) i.toInt.toNat v)) h)) := by
  have hK2 : K.1 ≤ m + 1 := by omega
  rw [zx_ast, zd_put_arr (by omega), zy_arr_mk, eq_self, true_and]
  simp only [zm_cI, zy_opt_mk, zd_setA (show 1 ≤ 1 ∧ 1 ≤ 9 by omega), hK2, true_and, vp_nar]
  rfl
theorem sd_ald2 (m n c : Nat) (M : zd_M) (h : Nat → Option zm_E) (i : Int32) (Q : Int32 → zm_S → Prop) (E : String → Nat → zm_S → Prop) : zx (zm_aldI .int (some (m + 2)) i) (n, c, zd_put m M h) Q E = ((0 ≤ i.toInt ∧ i.toInt < 197) ∧ Q (M.2 2 i.toInt.toNat) (n, c, zd_put m M h)) := by
  rw [zx_ald, zd_put_arr (by omega), zy_arr_mk, eq_self, true_and]
  rfl
theorem sd_ast2 {K : zm_K} {m : Nat} (hK : K.1 ≤ m) (n c : Nat) (v : Int32) (M : zd_M) (h : Nat → Option zm_E) (i : Int32) (Q : Unit → zm_S → Prop) (E : String → Nat → zm_S → Prop) : zx (zm_astI K .int (some (m + 2)) i v) (n, c, zd_put m M h) Q E = ((0 ≤ i.toInt ∧ i.toInt < 197) ∧ Q () (n, c, zd_put m (M.1, va_up M.2 2 (va_up (M.2 2) i.toInt.toNat v)) h)) := by
  have hK2 : K.1 ≤ m + 2 := by omega
  rw [zx_ast, zd_put_arr (by omega), zy_arr_mk, eq_self, true_and]
  simp only [zm_cI, zy_opt_mk, zd_setA (show 1 ≤ 2 ∧ 2 ≤ 9 by omega), hK2, true_and, vp_nar]
  rfl
theorem sd_ald3 (m n c : Nat) (M : zd_M) (h : Nat → Option zm_E) (i : Int32) (Q : Int32 → zm_S → Prop) (E : String → Nat → zm_S → Prop) : zx (zm_aldI .int (some (m + 3)) i) (n, c, zd_put m M h) Q E = ((0 ≤ i.toInt ∧ i.toInt < 197) ∧ Q (M.2 3 i.toInt.toNat) (n, c, zd_put m M h)) := by
  rw [zx_ald, zd_put_arr (by omega), zy_arr_mk, eq_self, true_and]
  rfl
theorem sd_ast3 {K : zm_K} {m : Nat} (hK : K.1 ≤ m) (n c : Nat) (v : Int32) (M : zd_M) (h : Nat → Option zm_E) (i : Int32) (Q : Unit → zm_S → Prop) (E : String → Nat → zm_S → Prop) : zx (zm_astI K .int (some (m + 3)) i v) (n, c, zd_put m M h) Q E = ((0 ≤ i.toInt ∧ i.toInt < 197) ∧ Q () (n, c, zd_put m (M.1, va_up M.2 3 (va_up (M.2 3) i.toInt.toNat v)) h)) := by
  have hK2 : K.1 ≤ m + 3 := by omega
  rw [zx_ast, zd_put_arr (by omega), zy_arr_mk, eq_self, true_and]
  simp only [zm_cI, zy_opt_mk, zd_setA (show 1 ≤ 3 ∧ 3 ≤ 9 by omega), hK2, true_and, vp_nar]
  rfl
theorem sd_ald4 (m n c : Nat) (M : zd_M) (h : Nat → Option zm_E) (i : Int32) (Q : Int32 → zm_S → Prop) (E : String → Nat → zm_S → Prop) : zx (zm_aldI .int (some (m + 4)) i) (n, c, zd_put m M h) Q E = ((0 ≤ i.toInt ∧ i.toInt < 1576) ∧ Q (M.2 4 i.toInt.toNat) (n, c, zd_put m M h)) := by
  rw [zx_ald, zd_put_arr (by omega), zy_arr_mk, eq_self, true_and]
  rfl
theorem sd_ast4 {K : zm_K} {m : Nat} (hK : K.1 ≤ m) (n c : Nat) (v : Int32) (M : zd_M) (h : Nat → Option zm_E) (i : Int32) (Q : Unit → zm_S → Prop) (E : String → Nat → zm_S → Prop) : zx (zm_astI K .int (some (m + 4)) i v) (n, c, zd_put m M h) Q E = ((0 ≤ i.toInt ∧ i.toInt < 1576) ∧ Q () (n, c, zd_put m (M.1, va_up M.2 4 (va_up (M.2 4) i.toInt.toNat v)) h)) := by
  have hK2 : K.1 ≤ m + 4 := by omega
  rw [zx_ast, zd_put_arr (by omega), zy_arr_mk, eq_self, true_and]
  simp only [zm_cI, zy_opt_mk, zd_setA (show 1 ≤ 4 ∧ 4 ≤ 9 by omega), hK2, true_and, vp_nar]
  rfl
theorem sd_ald5 (m n c : Nat) (M : zd_M) (h : Nat → Option zm_E) (i : Int32) (Q : Int32 → zm_S → Prop) (E : String → Nat → zm_S → Prop) : zx (zm_aldI .int (some (m + 5)) i) (n, c, zd_put m M h) Q E = ((0 ≤ i.toInt ∧ i.toInt < 12) ∧ Q (M.2 5 i.toInt.toNat) (n, c, zd_put m M h)) := by
  rw [zx_ald, zd_put_arr (by omega), zy_arr_mk, eq_self, true_and]
  rfl
theorem sd_ast5 {K : zm_K} {m : Nat} (hK : K.1 ≤ m) (n c : Nat) (v : Int32) (M : zd_M) (h : Nat → Option zm_E) (i : Int32) (Q : Unit → zm_S → Prop) (E : String → Nat → zm_S → Prop) : zx (zm_astI K .int (some (m + 5)) i v) (n, c, zd_put m M h) Q E = ((0 ≤ i.toInt ∧ i.toInt < 12) ∧ Q () (n, c, zd_put m (M.1, va_up M.2 5 (va_up (M.2 5) i.toInt.toNat v)) h)) := by
  have hK2 : K.1 ≤ m + 5 := by omega
  rw [zx_ast, zd_put_arr (by omega), zy_arr_mk, eq_self, true_and]
  simp only [zm_cI, zy_opt_mk, zd_setA (show 1 ≤ 5 ∧ 5 ≤ 9 by omega), hK2, true_and, vp_nar]
  rfl
theorem sd_ald6 (m n c : Nat) (M : zd_M) (h : Nat → Option zm_E) (i : Int32) (Q : Int32 → zm_S → Prop) (E : String → Nat → zm_S → Prop) : zx (zm_aldI .int (some (m + 6)) i) (n, c, zd_put m M h) Q E = ((0 ≤ i.toInt ∧ i.toInt < 2) ∧ Q (M.2 6 i.toInt.toNat) (n, c, zd_put m M h)) := by
  rw [zx_ald, zd_put_arr (by omega), zy_arr_mk, eq_self, true_and]
  rfl
theorem sd_ast6 {K : zm_K} {m : Nat} (hK : K.1 ≤ m) (n c : Nat) (v : Int32) (M : zd_M) (h : Nat → Option zm_E) (i : Int32) (Q : Unit → zm_S → Prop) (E : String → Nat → zm_S → Prop) : zx (zm_astI K .int (some (m + 6)) i v) (n, c, zd_put m M h) Q E = ((0 ≤ i.toInt ∧ i.toInt < 2) ∧ Q () (n, c, zd_put m (M.1, va_up M.2 6 (va_up (M.2 6) i.toInt.toNat v)) h)) := by
  have hK2 : K.1 ≤ m + 6 := by omega
  rw [zx_ast, zd_put_arr (by omega), zy_arr_mk, eq_self, true_and]
  simp only [zm_cI, zy_opt_mk, zd_setA (show 1 ≤ 6 ∧ 6 ≤ 9 by omega), hK2, true_and, vp_nar]
  rfl
theorem sd_ald7 (m n c : Nat) (M : zd_M) (h : Nat → Option zm_E) (i : Int32) (Q : Int32 → zm_S → Prop) (E : String → Nat → zm_S → Prop) : zx (zm_aldI .int (some (m + 7)) i) (n, c, zd_put m M h) Q E = ((0 ≤ i.toInt ∧ i.toInt < 400) ∧ Q (M.2 7 i.toInt.toNat) (n, c, zd_put m M h)) := by
  rw [zx_ald, zd_put_arr (by omega), zy_arr_mk, eq_self, true_and]
  rfl
theorem sd_ast7 {K : zm_K} {m : Nat} (hK : K.1 ≤ m) (n c : Nat) (v : Int32) (M : zd_M) (h : Nat → Option zm_E) (i : Int32) (Q : Unit → zm_S → Prop) (E : String → Nat → zm_S → Prop) : zx (zm_astI K .int (some (m + 7)) i v) (n, c, zd_put m M h) Q E = ((0 ≤ i.toInt ∧ i.toInt < 400) ∧ Q () (n, c, zd_put m (M.1, va_up M.2 7 (va_up (M.2 7) i.toInt.toNat v)) h)) := by
  have hK2 : K.1 ≤ m + 7 := by omega
  rw [zx_ast, zd_put_arr (by omega), zy_arr_mk, eq_self, true_and]
  simp only [zm_cI, zy_opt_mk, zd_setA (show 1 ≤ 7 ∧ 7 ≤ 9 by omega), hK2, true_and, vp_nar]
  rfl
theorem sd_ald8 (m n c : Nat) (M : zd_M) (h : Nat → Option zm_E) (i : Int32) (Q : Int32 → zm_S → Prop) (E : String → Nat → zm_S → Prop) : zx (zm_aldI .int (some (m + 8)) i) (n, c, zd_put m M h) Q E = ((0 ≤ i.toInt ∧ i.toInt < 60) ∧ Q (M.2 8 i.toInt.toNat) (n, c, zd_put m M h)) := by
  rw [zx_ald, zd_put_arr (by omega), zy_arr_mk, eq_self, true_and]
  rfl
theorem sd_ast8 {K : zm_K} {m : Nat} (hK : K.1 ≤ m) (n c : Nat) (v : Int32) (M : zd_M) (h : Nat → Option zm_E) (i : Int32) (Q : Unit → zm_S → Prop) (E : String → Nat → zm_S → Prop) : zx (zm_astI K .int (some (m + 8)) i v) (n, c, zd_put m M h) Q E = ((0 ≤ i.toInt ∧ i.toInt < 60) ∧ Q () (n, c, zd_put m (M.1, va_up M.2 8 (va_up (M.2 8) i.toInt.toNat v)) h)) := by
  have hK2 : K.1 ≤ m + 8 := by omega
  rw [zx_ast, zd_put_arr (by omega), zy_arr_mk, eq_self, true_and]
  simp only [zm_cI, zy_opt_mk, zd_setA (show 1 ≤ 8 ∧ 8 ≤ 9 by omega), hK2, true_and, vp_nar]
  rfl
theorem sd_ald9 (m n c : Nat) (M : zd_M) (h : Nat → Option zm_E) (i : Int32) (Q : Int32 → zm_S → Prop) (E : String → Nat → zm_S → Prop) : zx (zm_aldI .int (some (m + 9)) i) (n, c, zd_put m M h) Q E = ((0 ≤ i.toInt ∧ i.toInt < 60) ∧ Q (M.2 9 i.toInt.toNat) (n, c, zd_put m M h)) := by
  rw [zx_ald, zd_put_arr (by omega), zy_arr_mk, eq_self, true_and]
  rfl
theorem sd_ast9 {K : zm_K} {m : Nat} (hK : K.1 ≤ m) (n c : Nat) (v : Int32) (M : zd_M) (h : Nat → Option zm_E) (i : Int32) (Q : Unit → zm_S → Prop) (E : String → Nat → zm_S → Prop) : zx (zm_astI K .int (some (m + 9)) i v) (n, c, zd_put m M h) Q E = ((0 ≤ i.toInt ∧ i.toInt < 60) ∧ Q () (n, c, zd_put m (M.1, va_up M.2 9 (va_up (M.2 9) i.toInt.toNat v)) h)) := by
  have hK2 : K.1 ≤ m + 9 := by omega
  rw [zx_ast, zd_put_arr (by omega), zy_arr_mk, eq_self, true_and]
  simp only [zm_cI, zy_opt_mk, zd_setA (show 1 ≤ 9 ∧ 9 ≤ 9 by omega), hK2, true_and, vp_nar]
  rfl
