/-! the theatre as plain data: seats; lettings (box, from, to, party, over); wishes (from, to, party); three counters -/
abbrev zq_L : Type := Int × Int × Int × Int × Bool
abbrev zq_W : Type := Int × Int × Int
abbrev zq_T : Type := List Int × List zq_L × List zq_W × Int32 × Int32 × Int32
def zq_st (T : zq_T) (b : Nat) : Int := T.1.getD b 0
def zq_lt (T : zq_T) (k : Nat) : zq_L := T.2.1.getD k (0, 0, 0, 0, false)
def zq_ws (T : zq_T) (k : Nat) : zq_W := T.2.2.1.getD k (0, 0, 0)
abbrev zq_nb (T : zq_T) : Nat := T.1.length
abbrev zq_nl (T : zq_T) : Nat := T.2.1.length
abbrev zq_nw (T : zq_T) : Nat := T.2.2.1.length
def zq_b (b : Bool) : Int := if b then 1 else 0
def zq_p (P : Prop) [Decidable P] : Int := if P then 1 else 0
def zq_lf (l : zq_L) (r : Nat) : Int32 := match r with
  | 0 => zi l.1
  | 1 => zi l.2.1
  | 2 => zi l.2.2.1
  | 3 => zi l.2.2.2.1
  | _ => zi (zq_b l.2.2.2.2)
def zq_wf (l : zq_W) (r : Nat) : Int32 := match r with
  | 0 => zi l.1
  | 1 => zi l.2.1
  | _ => zi l.2.2
def zq_hd (T : zq_T) (i : Nat) : Int32 := match i with
  | 0 => zi (zq_nb T)
  | 1 => zi (zq_nl T)
  | 2 => zi (zq_nw T)
  | 3 => T.2.2.2.1
  | 4 => T.2.2.2.2.1
  | _ => T.2.2.2.2.2
def zq_row (T : zq_T) (i : Nat) : Int32 :=
  if i < 6 then zq_hd T i
  else if i < 11 then zi (zq_st T (i - 6))
  else if i < 161 then zq_lf (zq_lt T ((i - 11) / 5)) ((i - 11) % 5)
  else if i < 197 then zq_wf (zq_ws T ((i - 161) / 3)) ((i - 161) % 3)
  else 0
def zq_okL (T : zq_T) (l : zq_L) : Prop := (0 ≤ l.1 ∧ l.1 < zq_nb T) ∧ (0 ≤ l.2.1 ∧ l.2.1 < l.2.2.1 ∧ l.2.2.1 ≤ 600) ∧ (1 ≤ l.2.2.2.1 ∧ l.2.2.2.1 ≤ 8)
def zq_okW (l : zq_W) : Prop := (0 ≤ l.1 ∧ l.1 < l.2.1 ∧ l.2.1 ≤ 600) ∧ (1 ≤ l.2.2 ∧ l.2.2 ≤ 8)
def zq_apart (l r : zq_L) : Prop := l.2.2.2.2 = false → r.2.2.2.2 = false → l.1 = r.1 → l.2.2.1 ≤ r.2.1 ∨ r.2.2.1 ≤ l.2.1
def zq_ok (T : zq_T) : Prop := (zq_nb T ≤ 5 ∧ zq_nl T ≤ 30 ∧ zq_nw T ≤ 12) ∧ (∀ b, b < zq_nb T → 1 ≤ zq_st T b ∧ zq_st T b ≤ 8) ∧ (∀ k, k < zq_nl T → zq_okL T (zq_lt T k)) ∧ (∀ k, k < zq_nw T → zq_okW (zq_ws T k)) ∧ (∀ i j, i < zq_nl T → j < zq_nl T → i ≠ j → zq_apart (zq_lt T i) (zq_lt T j))
/-! the row -/
theorem zq_row_hd {T : zq_T} {i : Nat} (h : i < 6) : zq_row T i = zq_hd T i := by
  unfold zq_row
  rw [if_pos h]
theorem zq_row_st {T : zq_T} {b : Nat} (h : b < 5) : zq_row T (6 + b) = zi (zq_st T b) := by
  unfold zq_row
  rw [if_neg (by omega), if_pos (by omega), show 6 + b - 6 = b by omega]
theorem zq_row_lt {T : zq_T} {k r : Nat} (h : k < 30) (hr : r < 5) : zq_row T (11 + 5 * k + r) = zq_lf (zq_lt T k) r := by
  unfold zq_row
  rw [if_neg (by omega), if_neg (by omega), if_pos (by omega), show (11 + 5 * k + r - 11) / 5 = k by omega, show (11 + 5 * k + r - 11) % 5 = r by omega]
theorem zq_row_ws {T : zq_T} {k r : Nat} (h : k < 12) (hr : r < 3) : zq_row T (161 + 3 * k + r) = zq_wf (zq_ws T k) r := by
  unfold zq_row
  rw [if_neg (by omega), if_neg (by omega), if_neg (by omega), if_pos (by omega), show (161 + 3 * k + r - 161) / 3 = k by omega, show (161 + 3 * k + r - 161) % 3 = r by omega]
/-- two rows that agree where a row has its places -/
theorem zq_row_ext {T : zq_T} {f : Nat → Int32} (h0 : ∀ i, i < 6 → f i = zq_hd T i) (h1 : ∀ b, b < 5 → f (6 + b) = zi (zq_st T b)) (h2 : ∀ k r, k < 30 → r < 5 → f (11 + 5 * k + r) = zq_lf (zq_lt T k) r) (h3 : ∀ k r, k < 12 → r < 3 → f (161 + 3 * k + r) = zq_wf (zq_ws T k) r) (h4 : ∀ i, 197 ≤ i → f i = 0) : f = zq_row T := by
  funext i
  unfold zq_row
  by_cases c0 : i < 6
  · rw [if_pos c0, h0 i c0]
  rw [if_neg c0]
  by_cases c1 : i < 11
  · rw [if_pos c1]
    have := h1 (i - 6) (by omega)
    rwa [show 6 + (i - 6) = i by omega] at this
  rw [if_neg c1]
  by_cases c2 : i < 161
  · rw [if_pos c2]
    have := h2 ((i - 11) / 5) ((i - 11) % 5) (by omega) (by omega)
    rwa [show 11 + 5 * ((i - 11) / 5) + (i - 11) % 5 = i by omega] at this
  rw [if_neg c2]
  by_cases c3 : i < 197
  · rw [if_pos c3]
    have := h3 ((i - 161) / 3) ((i - 161) % 3) (by omega) (by omega)
    rwa [show 161 + 3 * ((i - 161) / 3) + (i - 161) % 3 = i by omega] at this
  rw [if_neg c3, h4 i (by omega)]
