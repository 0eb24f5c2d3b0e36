/-! weakest preconditions of the monad, and Int32 as integers -/
def zx {α : Type} (x : zm_M α) (σ : zm_S) (Q : α → zm_S → Prop) (E : String → Nat → zm_S → Prop) : Prop := match zm_run x σ with
  | some (.inl a, τ) => Q a τ
  | some (.inr e, τ) => E e.1 e.2 τ
  | none => False
/-- runs to an answer -/
def zr {α : Type} (x : zm_M α) (σ : zm_S) (a : α) (τ : zm_S) : Prop := zm_run x σ = some (.inl a, τ)
/-- runs to a throw -/
def zrx {α : Type} (x : zm_M α) (σ : zm_S) (e : String) (q : Nat) (τ : zm_S) : Prop := zm_run x σ = some (.inr (e, q), τ)
theorem zx_of {α : Type} {x : zm_M α} {σ τ : zm_S} {a : α} (h : zr x σ a τ) (Q : α → zm_S → Prop) (E : String → Nat → zm_S → Prop) : zx x σ Q E = Q a τ := by
  unfold zx
  rw [show zm_run x σ = _ from h]
theorem zx_ofx {α : Type} {x : zm_M α} {σ τ : zm_S} {e : String} {q : Nat} (h : zrx x σ e q τ) (Q : α → zm_S → Prop) (E : String → Nat → zm_S → Prop) : zx x σ Q E = E e q τ := by
  unfold zx
  rw [show zm_run x σ = _ from h]
theorem zr_of {α : Type} {x : zm_M α} {σ τ : zm_S} {a : α} (h : zx x σ (fun b υ => b = a ∧ υ = τ) (fun _ _ _ => False)) : zr x σ a τ := by
  unfold zx at h
  unfold zr
  cases hx : zm_run x σ with
  | none => simp [hx] at h
  | some v =>
    obtain ⟨o, υ⟩ := v
    cases o with
    | inl b => simp only [hx] at h; rw [h.1, h.2]
    | inr e => simp [hx] at h
theorem zrx_of {α : Type} {x : zm_M α} {σ τ : zm_S} {e : String} {q : Nat} (h : zx x σ (fun _ _ => False) (fun b r υ => b = e ∧ r = q ∧ υ = τ)) : zrx x σ e q τ := by
  unfold zx at h
  unfold zrx
  cases hx : zm_run x σ with
  | none => simp [hx] at h
  | some v =>
    obtain ⟨o, υ⟩ := v
    cases o with
    | inl b => simp [hx] at h
    | inr b =>
      obtain ⟨b, r⟩ := b
      simp only [hx] at h
      rw [h.1, h.2.1, h.2.2]
theorem zx_ex {α : Type} {x : zm_M α} {σ : zm_S} {Q : α → zm_S → Prop} (h : zx x σ Q (fun _ _ _ => False)) : ∃ a τ, zr x σ a τ ∧ Q a τ := by
  unfold zx at h
  cases hx : zm_run x σ with
  | none => simp [hx] at h
  | some v =>
    obtain ⟨o, υ⟩ := v
    cases o with
    | inl b => simp only [hx] at h; exact ⟨b, υ, hx, h⟩
    | inr e => simp [hx] at h
theorem zx_mono {α : Type} {x : zm_M α} {σ : zm_S} {Q Q' : α → zm_S → Prop} {E E' : String → Nat → zm_S → Prop} (h : zx x σ Q E) (hQ : ∀ a τ, Q a τ → Q' a τ) (hE : ∀ e q τ, E e q τ → E' e q τ) : zx x σ Q' E' := by
  unfold zx at h ⊢
  split <;> simp_all
theorem zx_ret {α : Type} (a : α) (σ : zm_S) (Q : α → zm_S → Prop) (E : String → Nat → zm_S → Prop) : zx (zm_ret a) σ Q E = Q a σ := rfl
theorem zx_thr {α : Type} (e : String) (q : Nat) (σ : zm_S) (Q : α → zm_S → Prop) (E : String → Nat → zm_S → Prop) : zx (zm_thr e q) σ Q E = E e q σ := rfl
theorem zx_fl {α : Type} (σ : zm_S) (Q : α → zm_S → Prop) (E : String → Nat → zm_S → Prop) : zx zm_fl σ Q E = False := rfl
theorem zx_ctc {α β : Type} (x : zm_M α) (f : α → zm_M β) (g : String → Nat → zm_M β) (σ : zm_S) (Q : β → zm_S → Prop) (E : String → Nat → zm_S → Prop) : zx (zm_ctc x f g) σ Q E = zx x σ (fun a τ => zx (f a) τ Q E) (fun e q τ => zx (g e q) τ Q E) := by
  unfold zx
  rw [zm_run_ctc]
  cases zm_run x σ with
  | none => rfl
  | some v =>
    obtain ⟨o, υ⟩ := v
    cases o <;> rfl
theorem zx_cth {α β : Type} (x : zm_M α) (f : α → zm_M β) (g : String → Nat → zm_M β) (σ : zm_S) (Q : β → zm_S → Prop) (E : String → Nat → zm_S → Prop) : zx (zm_cth x g f) σ Q E = zx x σ (fun a τ => zx (f a) τ Q E) (fun e q τ => zx (g e q) τ Q E) := zx_ctc x f g σ Q E
theorem zx_bnd {α β : Type} (x : zm_M α) (f : α → zm_M β) (σ : zm_S) (Q : β → zm_S → Prop) (E : String → Nat → zm_S → Prop) : zx (zm_bnd x f) σ Q E = zx x σ (fun a τ => zx (f a) τ Q E) E := by
  unfold zm_bnd
  rw [zx_ctc]
  rfl
theorem zx_bnx {α β : Type} (x : zm_M (β ⊕ α)) (f : β → zm_M α) (σ : zm_S) (Q : α → zm_S → Prop) (E : String → Nat → zm_S → Prop) : zx (zm_bnx x f) σ Q E = zx x σ (fun a τ => zx (Sum.elim f zm_ret a) τ Q E) E := by
  unfold zm_bnx
  rw [zx_bnd]
theorem zx_elimL {α β : Type} (b : β) (f : β → zm_M α) : Sum.elim f zm_ret (.inl b) = f b := rfl
theorem zx_elimR {α β : Type} (a : α) (f : β → zm_M α) : Sum.elim f zm_ret (.inr a) = zm_ret a := rfl
theorem zx_ite {α : Type} {P : Prop} [Decidable P] (x y : zm_M α) (σ : zm_S) (Q : α → zm_S → Prop) (E : String → Nat → zm_S → Prop) : zx (if P then x else y) σ Q E = ((P → zx x σ Q E) ∧ (¬ P → zx y σ Q E)) := by
  by_cases h : P <;> simp [h]
theorem zx_grd (c : Prop) [Decidable c] (σ : zm_S) (Q : Unit → zm_S → Prop) (E : String → Nat → zm_S → Prop) : zx (zm_grd c) σ Q E = (c ∧ Q () σ) := by
  unfold zx zm_grd zm_run
  by_cases h : c <;> simp [h]
theorem zx_nn (r : zm_R) (σ : zm_S) (Q : Unit → zm_S → Prop) (E : String → Nat → zm_S → Prop) : zx (zm_nn r) σ Q E = (r ≠ none ∧ Q () σ) := zx_grd _ σ Q E
/-! what a cell holds -/
def zy_obj (e : Option zm_E) (ci : Nat) (P : List Value → Prop) : Prop := match e with
  | some (.inr (d, fs)) => d = ci ∧ P fs
  | _ => False
def zy_arr (e : Option zm_E) (ty : FieldType) (P : vp_A → Prop) : Prop := match e with
  | some (.inl (t, x)) => t = ty ∧ P x
  | _ => False
def zy_int (v : Option Value) (P : Int32 → Prop) : Prop := match v with
  | some (.int x) => P x
  | _ => False
def zy_ref (v : Option Value) (P : zm_R → Prop) : Prop := match v with
  | some .null => P none
  | some (.ref q) => P (some q)
  | _ => False
def zy_opt {τ : Type} (v : Option τ) (P : τ → Prop) : Prop := match v with
  | some x => P x
  | none => False
theorem zy_obj_mk (d : Nat) (fs : List Value) (ci : Nat) (P : List Value → Prop) : zy_obj (some (.inr (d, fs))) ci P = (d = ci ∧ P fs) := rfl
theorem zy_arr_mk (t : FieldType) (x : vp_A) (ty : FieldType) (P : vp_A → Prop) : zy_arr (some (.inl (t, x))) ty P = (t = ty ∧ P x) := rfl
theorem zy_int_mk (x : Int32) (P : Int32 → Prop) : zy_int (some (.int x)) P = P x := rfl
theorem zy_ref_null (P : zm_R → Prop) : zy_ref (some .null) P = P none := rfl
theorem zy_ref_ref (q : Nat) (P : zm_R → Prop) : zy_ref (some (.ref q)) P = P (some q) := rfl
theorem zy_ref_rf (r : zm_R) (P : zm_R → Prop) : zy_ref (some (va_rf r)) P = P r := by
  cases r <;> rfl
theorem zy_opt_mk {τ : Type} (x : τ) (P : τ → Prop) : zy_opt (some x) P = P x := rfl
theorem zx_getI (a ci k n c : Nat) (h : Nat → Option zm_E) (Q : Int32 → zm_S → Prop) (E : String → Nat → zm_S → Prop) : zx (zm_getI (some a) ci k) (n, c, h) Q E = zy_obj (h a) ci (fun fs => zy_int (fs[k]?) (fun x => Q x (n, c, h))) := by
  simp only [zx, zm_run, zm_getF, zm_getF0, zm_obj, Option.bind_some, zy_obj]
  cases hh : h a with
  | none => rfl
  | some e =>
    cases e with
    | inl x => rfl
    | inr o =>
      obtain ⟨d, fs⟩ := o
      by_cases hd : d = ci
      · simp only [hd, if_true, Option.bind_some, true_and, zy_int]
        cases hk : fs[k]? with
        | none => rfl
        | some v => cases v <;> rfl
      · simp [hd]
theorem zx_getR (a ci k n c : Nat) (h : Nat → Option zm_E) (Q : zm_R → zm_S → Prop) (E : String → Nat → zm_S → Prop) : zx (zm_getR (some a) ci k) (n, c, h) Q E = zy_obj (h a) ci (fun fs => zy_ref (fs[k]?) (fun x => Q x (n, c, h))) := by
  simp only [zx, zm_run, zm_getF, zm_getF0, zm_obj, Option.bind_some, zy_obj]
  cases hh : h a with
  | none => rfl
  | some e =>
    cases e with
    | inl x => rfl
    | inr o =>
      obtain ⟨d, fs⟩ := o
      by_cases hd : d = ci
      · simp only [hd, if_true, Option.bind_some, true_and, zy_ref]
        cases hk : fs[k]? with
        | none => rfl
        | some v => cases v <;> rfl
      · simp [hd]
theorem zx_putF (K : zm_K) (a ci k n c : Nat) (v : Value) (h : Nat → Option zm_E) (Q : Unit → zm_S → Prop) (E : String → Nat → zm_S → Prop) : zx (zm_putF K (some a) ci k v) (n, c, h) Q E = zy_obj (h a) ci (fun fs => (K.1 ≤ a ∧ k < fs.length) ∧ Q () (n, c, zm_up h a (.inr (ci, fs.set k v)))) := by
  simp only [zx, zm_run, zm_putF, zm_putF0, zm_obj, Option.bind_some, zy_obj]
  cases hh : h a with
  | none => rfl
  | some e =>
    cases e with
    | inl x => rfl
    | inr o =>
      obtain ⟨d, fs⟩ := o
      by_cases hd : d = ci
      · simp only [hd, if_true, Option.bind_some, true_and]
        by_cases hk : K.1 ≤ a ∧ k < fs.length <;> simp [hk]
      · simp [hd]
theorem zx_is (a ci n c : Nat) (h : Nat → Option zm_E) (Q : Unit → zm_S → Prop) (E : String → Nat → zm_S → Prop) : zx (zm_is (some a) ci) (n, c, h) Q E = zy_obj (h a) ci (fun _ => Q () (n, c, h)) := by
  simp only [zx, zm_run, zm_is, zm_is0, zm_obj, Option.bind_some, zy_obj]
  cases hh : h a with
  | none => rfl
  | some e =>
    cases e with
    | inl x => rfl
    | inr o =>
      obtain ⟨d, fs⟩ := o
      by_cases hd : d = ci <;> simp [hd]
def zy_cls (e : Option zm_E) (P : Nat → Prop) : Prop := match e with
  | some (.inr (d, _)) => P d
  | _ => False
theorem zy_cls_mk (d : Nat) (fs : List Value) (P : Nat → Prop) : zy_cls (some (.inr (d, fs))) P = P d := rfl
theorem zx_cls (a n c : Nat) (h : Nat → Option zm_E) (Q : Nat → zm_S → Prop) (E : String → Nat → zm_S → Prop) : zx (zm_cls (some a)) (n, c, h) Q E = zy_cls (h a) (fun d => Q d (n, c, h)) := by
  simp only [zx, zm_run, zm_cls, zm_cls0, Option.bind_some, zy_cls]
  cases hh : h a with
  | none => rfl
  | some e =>
    cases e with
    | inl x => rfl
    | inr o => rfl
theorem zx_new (ci n c : Nat) (fs : List Value) (h : Nat → Option zm_E) (Q : Nat → zm_S → Prop) (E : String → Nat → zm_S → Prop) : zx (zm_new ci fs) (n, c, h) Q E = Q n (n + 1, c + fs.length, zm_up h n (.inr (ci, fs))) := rfl
theorem zx_ald {τ : Type} (rd : vp_A → Option (Nat → τ)) (ty : FieldType) (a n c : Nat) (i : Int32) (h : Nat → Option zm_E) (Q : τ → zm_S → Prop) (E : String → Nat → zm_S → Prop) : zx (zm_ald rd ty (some a) i) (n, c, h) Q E = zy_arr (h a) ty (fun x => zy_opt (rd x) (fun f => (0 ≤ i.toInt ∧ i.toInt < x.1) ∧ Q (f i.toInt.toNat) (n, c, h))) := by
  have h0 : (i < 0) = (i.toInt < 0) := by rw [Int32.lt_iff_toInt_lt]; rfl
  have h1 : i.toNatClampNeg = i.toInt.toNat := rfl
  simp only [zx, zm_run, zm_ald, zm_ald0, zm_arr, Option.bind_some, zy_arr]
  cases hh : h a with
  | none => rfl
  | some e =>
    cases e with
    | inr x => rfl
    | inl o =>
      obtain ⟨t, x⟩ := o
      by_cases hd : t = ty
      · simp only [hd, if_true, Option.bind_some, true_and, zy_opt]
        cases hk : rd x with
        | none => rfl
        | some f =>
          simp only [Option.bind_some, h0, h1]
          by_cases hc : 0 ≤ i.toInt ∧ i.toInt < x.1
          · have : ¬ (i.toInt < 0 ∨ x.1 ≤ i.toInt.toNat) := by omega
            rw [if_pos this]
            exact propext ⟨fun h => ⟨hc, h⟩, fun h => h.2⟩
          · have : (i.toInt < 0 ∨ x.1 ≤ i.toInt.toNat) := by omega
            rw [if_neg (fun h => h this)]
            exact propext ⟨fun h => h.elim, fun h => absurd h.1 hc⟩
      · simp [hd]
theorem zx_ast {τ : Type} (rd : vp_A → Option (Nat → τ)) (wr : (Nat → τ) → ((Nat → Int32) ⊕ (Nat → Int64) ⊕ (Nat → UInt32) ⊕ (Nat → UInt64) ⊕ (Nat → Option Nat))) (K : zm_K) (ty : FieldType) (a n c : Nat) (i : Int32) (v : τ) (h : Nat → Option zm_E) (Q : Unit → zm_S → Prop) (E : String → Nat → zm_S → Prop) : zx (zm_ast rd wr K ty (some a) i v) (n, c, h) Q E = zy_arr (h a) ty (fun x => zy_opt (rd x) (fun f => (K.1 ≤ a ∧ 0 ≤ i.toInt ∧ i.toInt < x.1) ∧ Q () (n, c, zm_up h a (.inl (ty, x.1, wr (va_up f i.toInt.toNat v)))))) := by
  have h0 : (i < 0) = (i.toInt < 0) := by rw [Int32.lt_iff_toInt_lt]; rfl
  have h1 : i.toNatClampNeg = i.toInt.toNat := rfl
  simp only [zx, zm_run, zm_ast, zm_ast0, zm_arr, Option.bind_some, zy_arr]
  cases hh : h a with
  | none => rfl
  | some e =>
    cases e with
    | inr x => rfl
    | inl o =>
      obtain ⟨t, x⟩ := o
      by_cases hd : t = ty
      · simp only [hd, if_true, Option.bind_some, true_and, zy_opt]
        cases hk : rd x with
        | none => rfl
        | some f =>
          simp only [Option.bind_some, h0, h1]
          by_cases hc : K.1 ≤ a ∧ 0 ≤ i.toInt ∧ i.toInt < x.1
          · have : K.1 ≤ a ∧ ¬ (i.toInt < 0 ∨ x.1 ≤ i.toInt.toNat) := by omega
            rw [if_pos this]
            exact propext ⟨fun h => ⟨hc, h⟩, fun h => h.2⟩
          · have : ¬ (K.1 ≤ a ∧ ¬ (i.toInt < 0 ∨ x.1 ≤ i.toInt.toNat)) := by omega
            rw [if_neg this]
            exact propext ⟨fun h => h.elim, fun h => absurd h.1 hc⟩
      · simp [hd]
def zy_len (e : Option zm_E) (P : Nat → Prop) : Prop := match e with
  | some (.inl (_, x)) => P x.1
  | _ => False
theorem zy_len_mk (t : FieldType) (x : vp_A) (P : Nat → Prop) : zy_len (some (.inl (t, x))) P = P x.1 := rfl
theorem zx_alen (a n c : Nat) (h : Nat → Option zm_E) (Q : Int32 → zm_S → Prop) (E : String → Nat → zm_S → Prop) : zx (zm_alen (some a)) (n, c, h) Q E = zy_len (h a) (fun l => Q (Int32.ofNat l) (n, c, h)) := by
  simp only [zx, zm_run, zm_alen, zm_alen0, Option.bind_some, zy_len]
  cases hh : h a with
  | none => rfl
  | some e =>
    cases e with
    | inl x => rfl
    | inr o => rfl
theorem zx_newa (ty : FieldType) (z : (Nat → Int32) ⊕ (Nat → Int64) ⊕ (Nat → UInt32) ⊕ (Nat → UInt64) ⊕ (Nat → Option Nat)) (i : Int32) (n c : Nat) (h : Nat → Option zm_E) (Q : Nat → zm_S → Prop) (E : String → Nat → zm_S → Prop) : zx (zm_newa ty z i) (n, c, h) Q E = ((0 ≤ i.toInt ∧ i.toInt.toNat * componentBytes ty ≤ 536870912) ∧ Q n (n + 1, c + i.toInt.toNat, zm_up h n (.inl (ty, i.toInt.toNat, z)))) := by
  have h0 : (i < 0) = (i.toInt < 0) := by rw [Int32.lt_iff_toInt_lt]; rfl
  have h1 : i.toNatClampNeg = i.toInt.toNat := rfl
  simp only [zx, zm_run, zm_newa, zm_newa0, h0, h1]
  by_cases hc : 0 ≤ i.toInt ∧ i.toInt.toNat * componentBytes ty ≤ 536870912
  · have : ¬ i.toInt < 0 ∧ i.toInt.toNat * componentBytes ty ≤ 536870912 := by omega
    rw [if_pos this]
    exact propext ⟨fun h => ⟨hc, h⟩, fun h => h.2⟩
  · have : ¬ (¬ i.toInt < 0 ∧ i.toInt.toNat * componentBytes ty ≤ 536870912) := by omega
    rw [if_neg this]
    exact propext ⟨fun h => h.elim, fun h => absurd h.1 hc⟩
/-! integers as Int32 -/
def zi (z : Int) : Int32 := Int32.ofInt z
theorem zi_all (x : Int32) : ∃ z : Int, x = zi z ∧ -2147483648 ≤ z ∧ z ≤ 2147483647 := ⟨x.toInt, (Int32.ofInt_toInt x).symm, by
  have h1 := Int32.le_toInt x
  have h2 := Int32.toInt_le x
  have h3 : Int32.minValue.toInt = -2147483648 := by decide
  have h4 : Int32.maxValue.toInt = 2147483647 := by decide
  omega⟩
theorem zi_toInt {z : Int} (h : -2147483648 ≤ z ∧ z ≤ 2147483647) : (zi z).toInt = z := by
  unfold zi
  rw [Int32.toInt_ofInt, Int.bmod_eq_of_le] <;> simp <;> omega
theorem zi_add (a b : Int) : zi a + zi b = zi (a + b) := (Int32.ofInt_add a b).symm
theorem zi_sub (a b : Int) : zi a - zi b = zi (a - b) := (Int32.ofInt_sub a b).symm
theorem zi_mul (a b : Int) : zi a * zi b = zi (a * b) := (Int32.ofInt_mul a b).symm
theorem zi_neg (a : Int) : - zi a = zi (-a) := (Int32.ofInt_neg a).symm
theorem zi_lit (n : Nat) : (OfNat.ofNat n : Int32) = zi (OfNat.ofNat n : Int) := rfl
theorem zi_le {a b : Int} (ha : -2147483648 ≤ a ∧ a ≤ 2147483647) (hb : -2147483648 ≤ b ∧ b ≤ 2147483647) : (zi a ≤ zi b) = (a ≤ b) := by
  rw [Int32.le_iff_toInt_le, zi_toInt ha, zi_toInt hb]
theorem zi_lt {a b : Int} (ha : -2147483648 ≤ a ∧ a ≤ 2147483647) (hb : -2147483648 ≤ b ∧ b ≤ 2147483647) : (zi a < zi b) = (a < b) := by
  rw [Int32.lt_iff_toInt_lt, zi_toInt ha, zi_toInt hb]
theorem zi_eq {a b : Int} (ha : -2147483648 ≤ a ∧ a ≤ 2147483647) (hb : -2147483648 ≤ b ∧ b ≤ 2147483647) : (zi a = zi b) = (a = b) := by
  apply propext
  constructor
  · intro h
    have := congrArg Int32.toInt h
    rwa [zi_toInt ha, zi_toInt hb] at this
  · intro h
    rw [h]
theorem zi_l0 : (0 : Int32) = zi 0 := Eq.trans rfl rfl
theorem zi_l1 : (1 : Int32) = zi 1 := Eq.trans rfl rfl
theorem zi_l2 : (2 : Int32) = zi 2 := Eq.trans rfl rfl
theorem zi_l3 : (3 : Int32) = zi 3 := Eq.trans rfl rfl
theorem zi_l4 : (4 : Int32) = zi 4 := Eq.trans rfl rfl
theorem zi_l5 : (5 : Int32) = zi 5 := Eq.trans rfl rfl
theorem zi_l6 : (6 : Int32) = zi 6 := Eq.trans rfl rfl
theorem zi_l7 : (7 : Int32) = zi 7 := Eq.trans rfl rfl
theorem zi_l8 : (8 : Int32) = zi 8 := Eq.trans rfl rfl
theorem zi_l9 : (9 : Int32) = zi 9 := Eq.trans rfl rfl
theorem zi_l10 : (10 : Int32) = zi 10 := Eq.trans rfl rfl
theorem zi_l11 : (11 : Int32) = zi 11 := Eq.trans rfl rfl
theorem zi_l12 : (12 : Int32) = zi 12 := Eq.trans rfl rfl
theorem zi_l13 : (13 : Int32) = zi 13 := Eq.trans rfl rfl
theorem zi_l14 : (14 : Int32) = zi 14 := Eq.trans rfl rfl
theorem zi_l15 : (15 : Int32) = zi 15 := Eq.trans rfl rfl
theorem zi_l16 : (16 : Int32) = zi 16 := Eq.trans rfl rfl
theorem zi_l17 : (17 : Int32) = zi 17 := Eq.trans rfl rfl
theorem zi_l18 : (18 : Int32) = zi 18 := Eq.trans rfl rfl
theorem zi_l19 : (19 : Int32) = zi 19 := Eq.trans rfl rfl
theorem zi_l20 : (20 : Int32) = zi 20 := Eq.trans rfl rfl
theorem zi_l21 : (21 : Int32) = zi 21 := Eq.trans rfl rfl
theorem zi_l22 : (22 : Int32) = zi 22 := Eq.trans rfl rfl
theorem zi_l23 : (23 : Int32) = zi 23 := Eq.trans rfl rfl
theorem zi_l24 : (24 : Int32) = zi 24 := Eq.trans rfl rfl
theorem zi_l25 : (25 : Int32) = zi 25 := Eq.trans rfl rfl
theorem zi_l26 : (26 : Int32) = zi 26 := Eq.trans rfl rfl
theorem zi_l27 : (27 : Int32) = zi 27 := Eq.trans rfl rfl
theorem zi_l28 : (28 : Int32) = zi 28 := Eq.trans rfl rfl
theorem zi_l29 : (29 : Int32) = zi 29 := Eq.trans rfl rfl
theorem zi_l30 : (30 : Int32) = zi 30 := Eq.trans rfl rfl
theorem zi_l31 : (31 : Int32) = zi 31 := Eq.trans rfl rfl
theorem zi_l32 : (32 : Int32) = zi 32 := Eq.trans rfl rfl
theorem zi_l33 : (33 : Int32) = zi 33 := Eq.trans rfl rfl
theorem zi_l34 : (34 : Int32) = zi 34 := Eq.trans rfl rfl
theorem zi_l35 : (35 : Int32) = zi 35 := Eq.trans rfl rfl
theorem zi_l36 : (36 : Int32) = zi 36 := Eq.trans rfl rfl
theorem zi_l37 : (37 : Int32) = zi 37 := Eq.trans rfl rfl
theorem zi_l38 : (38 : Int32) = zi 38 := Eq.trans rfl rfl
theorem zi_l43 : (43 : Int32) = zi 43 := Eq.trans rfl rfl
theorem zi_l45 : (45 : Int32) = zi 45 := Eq.trans rfl rfl
theorem zi_l46 : (46 : Int32) = zi 46 := Eq.trans rfl rfl
theorem zi_l48 : (48 : Int32) = zi 48 := Eq.trans rfl rfl
theorem zi_l57 : (57 : Int32) = zi 57 := Eq.trans rfl rfl
theorem zi_l59 : (59 : Int32) = zi 59 := Eq.trans rfl rfl
theorem zi_l60 : (60 : Int32) = zi 60 := Eq.trans rfl rfl
theorem zi_l63 : (63 : Int32) = zi 63 := Eq.trans rfl rfl
theorem zi_l97 : (97 : Int32) = zi 97 := Eq.trans rfl rfl
theorem zi_l100 : (100 : Int32) = zi 100 := Eq.trans rfl rfl
theorem zi_l119 : (119 : Int32) = zi 119 := Eq.trans rfl rfl
theorem zi_l120 : (120 : Int32) = zi 120 := Eq.trans rfl rfl
theorem zi_l122 : (122 : Int32) = zi 122 := Eq.trans rfl rfl
theorem zi_l127 : (127 : Int32) = zi 127 := Eq.trans rfl rfl
theorem zi_l128 : (128 : Int32) = zi 128 := Eq.trans rfl rfl
theorem zi_l161 : (161 : Int32) = zi 161 := Eq.trans rfl rfl
theorem zi_l197 : (197 : Int32) = zi 197 := Eq.trans rfl rfl
theorem zi_l255 : (255 : Int32) = zi 255 := Eq.trans rfl rfl
theorem zi_l400 : (400 : Int32) = zi 400 := Eq.trans rfl rfl
theorem zi_l599 : (599 : Int32) = zi 599 := Eq.trans rfl rfl
theorem zi_l600 : (600 : Int32) = zi 600 := Eq.trans rfl rfl
theorem zi_l1576 : (1576 : Int32) = zi 1576 := Eq.trans rfl rfl
theorem zi_l65535 : (65535 : Int32) = zi 65535 := Eq.trans rfl rfl
