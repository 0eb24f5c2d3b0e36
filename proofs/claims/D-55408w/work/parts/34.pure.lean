/-! sums, counting, minutes -/
def zq_sum (g : Nat → Int) : Nat → Int
  | 0 => 0
  | n + 1 => zq_sum g n + g n
def zq_any (p : Nat → Bool) : Nat → Bool
  | 0 => false
  | n + 1 => zq_any p n || p n
theorem zq_any_iff (p : Nat → Bool) (n : Nat) : zq_any p n = true ↔ ∃ k, k < n ∧ p k = true := by
  induction n with
  | zero => simp [zq_any]
  | succ n ih =>
    simp only [zq_any, Bool.or_eq_true, ih]
    constructor
    · rintro (⟨k, h, e⟩ | h)
      · exact ⟨k, by omega, e⟩
      · exact ⟨n, by omega, h⟩
    · rintro ⟨k, h, e⟩
      by_cases c : k = n
      · exact Or.inr (c ▸ e)
      · exact Or.inl ⟨k, by omega, e⟩
theorem zq_any_no {p : Nat → Bool} {n : Nat} (h : zq_any p n = false) (k : Nat) (hk : k < n) : p k = false := by
  cases e : p k with
  | false => rfl
  | true =>
    have := (zq_any_iff p n).2 ⟨k, hk, e⟩
    rw [this] at h
    cases h
theorem zq_sum_congr {g g' : Nat → Int} {n : Nat} (h : ∀ k, k < n → g k = g' k) : zq_sum g n = zq_sum g' n := by
  induction n with
  | zero => rfl
  | succ n ih => simp only [zq_sum, ih (fun k hk => h k (by omega)), h n (by omega)]
theorem zq_sum_zero (n : Nat) : zq_sum (fun _ => 0) n = 0 := by
  induction n with
  | zero => rfl
  | succ n ih => simp only [zq_sum, ih]; omega
theorem zq_sum_add (g g' : Nat → Int) (n : Nat) : zq_sum (fun k => g k + g' k) n = zq_sum g n + zq_sum g' n := by
  induction n with
  | zero => rfl
  | succ n ih => simp only [zq_sum, ih]; omega
theorem zq_sum_swap (g : Nat → Nat → Int) (m n : Nat) : zq_sum (fun i => zq_sum (fun k => g i k) n) m = zq_sum (fun k => zq_sum (fun i => g i k) m) n := by
  induction m with
  | zero => exact (zq_sum_zero n).symm
  | succ m ih => simp only [zq_sum, ih, zq_sum_add]
theorem zq_sum_nonneg {g : Nat → Int} {n : Nat} (h : ∀ k, k < n → 0 ≤ g k) : 0 ≤ zq_sum g n := by
  induction n with
  | zero => exact Int.le_refl _
  | succ n ih =>
    have h1 := ih (fun k hk => h k (by omega))
    have h2 := h n (by omega)
    simp only [zq_sum]
    omega
theorem zq_sum_le {g : Nat → Int} {n : Nat} (B : Int) (h : ∀ k, k < n → g k ≤ B) : zq_sum g n ≤ B * n := by
  induction n with
  | zero => simp [zq_sum]
  | succ n ih =>
    have h1 := ih (fun k hk => h k (by omega))
    have h2 := h n (by omega)
    simp only [zq_sum]
    rw [show B * ((n + 1 : Nat) : Int) = B * n + B by rw [Int.natCast_add]; simp [Int.mul_add]]
    omega
theorem zq_b_or (a b : Bool) : zq_b (a || b) ≤ zq_b a + zq_b b := by
  cases a <;> cases b <;> decide
theorem zq_b_01 (a : Bool) : 0 ≤ zq_b a ∧ zq_b a ≤ 1 := by
  cases a <;> decide
/-- a letting that counts for a box -/
def zq_in (b : Int) (l : zq_L) : Bool := !l.2.2.2.2 && decide (l.1 = b)
def zq_has (m : Int) (l : zq_L) : Bool := decide (l.2.1 ≤ m) && decide (m < l.2.2.1)
def zq_ov (f t : Int) (l : zq_L) : Int := max 0 (min t l.2.2.1 - max f l.2.1)
def zq_letIn (T : zq_T) (b f t : Int) : Int := zq_sum (fun k => if zq_in b (zq_lt T k) = true then zq_ov f t (zq_lt T k) else 0) (zq_nl T)
def zq_lit (T : zq_T) (b m : Int) : Bool := zq_any (fun k => zq_in b (zq_lt T k) && zq_has m (zq_lt T k)) (zq_nl T)
theorem zq_ov_sum {l : zq_L} (hl : l.2.1 < l.2.2.1) (f : Int) (n : Nat) : zq_ov f (f + n) l = zq_sum (fun i => zq_b (zq_has (f + i) l)) n := by
  induction n with
  | zero =>
    simp only [zq_sum, zq_ov]
    omega
  | succ n ih =>
    simp only [zq_sum]
    rw [← ih]
    simp only [zq_ov, zq_b, zq_has, Bool.and_eq_true, decide_eq_true_eq]
    split <;> omega
theorem zq_lit_sum {T : zq_T} (hT : zq_ok T) (b m : Int) : ∀ j, j ≤ zq_nl T → zq_sum (fun k => if zq_in b (zq_lt T k) = true then zq_b (zq_has m (zq_lt T k)) else 0) j = zq_b (zq_any (fun k => zq_in b (zq_lt T k) && zq_has m (zq_lt T k)) j) := by
  intro j
  induction j with
  | zero => intro _; rfl
  | succ j ih =>
    intro hj
    simp only [zq_sum, zq_any]
    rw [ih (by omega)]
    cases hA : zq_any (fun k => zq_in b (zq_lt T k) && zq_has m (zq_lt T k)) j with
    | false =>
      cases zq_in b (zq_lt T j) <;> simp [zq_b]
    | true =>
      obtain ⟨k, hk, e⟩ := (zq_any_iff _ _).1 hA
      have hap := hT.2.2.2.2 k j (by omega) (by omega) (by omega)
      cases hi : zq_in b (zq_lt T j) with
      | false => simp [zq_b]
      | true =>
        cases hh : zq_has m (zq_lt T j) with
        | false => simp [zq_b]
        | true =>
          exfalso
          simp only [zq_in, zq_has, Bool.and_eq_true, Bool.not_eq_true', decide_eq_true_eq] at e hi hh
          rcases hap e.1.1 hi.1 (by rw [e.1.2, hi.2]) with h | h <;> omega
theorem zq_letIn_lit {T : zq_T} (hT : zq_ok T) (b f : Int) (n : Nat) : zq_letIn T b f (f + n) = zq_sum (fun i => zq_b (zq_lit T b (f + i))) n := by
  unfold zq_letIn zq_lit
  rw [zq_sum_congr (g' := fun k => zq_sum (fun i => if zq_in b (zq_lt T k) = true then zq_b (zq_has (f + i) (zq_lt T k)) else 0) n), zq_sum_swap (fun k i => if zq_in b (zq_lt T k) = true then zq_b (zq_has (f + i) (zq_lt T k)) else 0)]
  · apply zq_sum_congr
    intro i _
    exact zq_lit_sum hT b (f + i) _ (Nat.le_refl _)
  · intro k hk
    have hl := (hT.2.2.1 k hk).2.1
    split
    · exact zq_ov_sum (by omega) f n
    · exact (zq_sum_zero n).symm
theorem zq_letIn_01 {T : zq_T} (hT : zq_ok T) (b m : Int) : zq_letIn T b m (m + 1) = zq_b (zq_lit T b m) := by
  have := zq_letIn_lit hT b m 1
  simp only [zq_sum] at this
  simpa using this
