
abbrev zm_E : Type := (FieldType × vp_A) ⊕ (Nat × List Value)
abbrev zm_S : Type := Nat × Nat × (Nat → Option zm_E)
abbrev zm_X : Type := String × Nat
abbrev zm_F (α : Type) : Type := zm_S → Option ((α ⊕ zm_X) × zm_S)
abbrev zm_R : Type := Option Nat
abbrev zm_K : Type := Nat × (Nat → zm_R)
def zm_le (σ τ : zm_S) : Prop := σ.1 ≤ τ.1 ∧ σ.2.1 ≤ τ.2.1
theorem zm_le.refl (σ : zm_S) : zm_le σ σ := ⟨Nat.le_refl _, Nat.le_refl _⟩
theorem zm_le.trans {a b c : zm_S} (h : zm_le a b) (k : zm_le b c) : zm_le a c := ⟨Nat.le_trans h.1 k.1, Nat.le_trans h.2 k.2⟩
/-- a computation never gives cells back -/
def zm_mo {α : Type} (x : zm_F α) : Prop := ∀ σ o τ, x σ = some (o, τ) → zm_le σ τ
/-- a step of the computation: one that does not throw -/
def zm_st {α : Type} (x : zm_F α) : Prop := ∀ σ o τ, x σ = some (o, τ) → zm_le σ τ ∧ ∃ a, o = .inl a
theorem zm_st.mo {α : Type} {x : zm_F α} (h : zm_st x) : zm_mo x := fun σ o τ e => (h σ o τ e).1
def zm_M (α : Type) : Type := { x : zm_F α // zm_mo x }
def zm_run {α : Type} (x : zm_M α) (σ : zm_S) : Option ((α ⊕ zm_X) × zm_S) := x.1 σ
theorem zm_run.le {α : Type} {x : zm_M α} {σ τ : zm_S} {o : α ⊕ zm_X} (h : zm_run x σ = some (o, τ)) : zm_le σ τ := x.2 σ o τ h
theorem zm_ext {α : Type} {x y : zm_M α} (h : ∀ σ, zm_run x σ = zm_run y σ) : x = y := Subtype.ext (funext h)
def zm_ret {α : Type} (a : α) : zm_M α := ⟨fun σ => some (.inl a, σ), by
  intro σ o τ h
  simp only [Option.some.injEq, Prod.mk.injEq] at h
  rw [← h.2]
  exact zm_le.refl _⟩
def zm_fl {α : Type} : zm_M α := ⟨fun _ => none, by
  intro σ o τ h
  cases h⟩
def zm_thr {α : Type} (E : String) (q : Nat) : zm_M α := ⟨fun σ => some (.inr (E, q), σ), by
  intro σ o τ h
  simp only [Option.some.injEq, Prod.mk.injEq] at h
  rw [← h.2]
  exact zm_le.refl _⟩
/-- on with f where x answers, with g where x throws -/
def zm_ctc {α β : Type} (x : zm_M α) (f : α → zm_M β) (g : String → Nat → zm_M β) : zm_M β := ⟨fun σ => match zm_run x σ with
  | some (.inl a, τ) => zm_run (f a) τ
  | some (.inr e, τ) => zm_run (g e.1 e.2) τ
  | none => none, by
  intro σ o τ h
  cases hx : zm_run x σ with
  | none => simp [hx] at h
  | some v =>
    obtain ⟨w, υ⟩ := v
    cases w with
    | inl a =>
      simp only [hx] at h
      exact (zm_run.le hx).trans (zm_run.le h)
    | inr e =>
      simp only [hx] at h
      exact (zm_run.le hx).trans (zm_run.le h)⟩
def zm_bnd {α β : Type} (x : zm_M α) (f : α → zm_M β) : zm_M β := zm_ctc x f zm_thr
theorem zm_run_ret {α : Type} (a : α) (σ : zm_S) : zm_run (zm_ret a) σ = some (.inl a, σ) := rfl
theorem zm_run_fl {α : Type} (σ : zm_S) : zm_run (zm_fl : zm_M α) σ = none := rfl
theorem zm_run_thr {α : Type} (E : String) (q : Nat) (σ : zm_S) : zm_run (zm_thr E q : zm_M α) σ = some (.inr (E, q), σ) := rfl
theorem zm_run_ctc {α β : Type} (x : zm_M α) (f : α → zm_M β) (g : String → Nat → zm_M β) (σ : zm_S) : zm_run (zm_ctc x f g) σ = match zm_run x σ with
  | some (.inl a, τ) => zm_run (f a) τ
  | some (.inr e, τ) => zm_run (g e.1 e.2) τ
  | none => none := rfl
theorem zm_run_bnd {α β : Type} (x : zm_M α) (f : α → zm_M β) (σ : zm_S) : zm_run (zm_bnd x f) σ = match zm_run x σ with
  | some (.inl a, τ) => zm_run (f a) τ
  | some (.inr e, τ) => some (.inr e, τ)
  | none => none := rfl
theorem zm_run_ite {α : Type} {P : Prop} [Decidable P] (x y : zm_M α) (σ : zm_S) : zm_run (if P then x else y) σ = if P then zm_run x σ else zm_run y σ := by
  split <;> rfl
theorem zm_assoc {α β γ : Type} (x : zm_M α) (f : α → zm_M β) (g : β → zm_M γ) : zm_bnd (zm_bnd x f) g = zm_bnd x (fun a => zm_bnd (f a) g) := by
  apply zm_ext
  intro σ
  simp only [zm_run_bnd]
  cases zm_run x σ with
  | none => rfl
  | some v =>
    obtain ⟨o, τ⟩ := v
    cases o <;> rfl
theorem zm_ret_bnd {α β : Type} (a : α) (f : α → zm_M β) : zm_bnd (zm_ret a) f = f a := rfl
theorem zm_fl_bnd {α β : Type} (f : α → zm_M β) : zm_bnd zm_fl f = zm_fl := rfl
theorem zm_thr_bnd {α β : Type} (E : String) (q : Nat) (f : α → zm_M β) : zm_bnd (zm_thr E q) f = zm_thr E q := rfl
theorem zm_bnd_ret {α : Type} (x : zm_M α) : zm_bnd x zm_ret = x := by
  apply zm_ext
  intro σ
  simp only [zm_run_bnd]
  cases zm_run x σ with
  | none => rfl
  | some v =>
    obtain ⟨o, τ⟩ := v
    cases o <;> rfl
theorem zm_bnd_ok {α β : Type} {x : zm_M α} {f : α → zm_M β} {σ τ : zm_S} {a : α} (h : zm_run x σ = some (.inl a, τ)) : zm_run (zm_bnd x f) σ = zm_run (f a) τ := by
  simp only [zm_run_bnd, h]
theorem zm_bnd_ex {α β : Type} {x : zm_M α} {f : α → zm_M β} {σ τ : zm_S} {e : zm_X} (h : zm_run x σ = some (.inr e, τ)) : zm_run (zm_bnd x f) σ = some (.inr e, τ) := by
  simp only [zm_run_bnd, h]
def zm_up (h : Nat → Option zm_E) (a : Nat) (e : zm_E) : Nat → Option zm_E := fun j => if j = a then some e else h j
def zm_rdI (v : Value) : Option Int32 := match v with
  | .int x => some x
  | _ => none
def zm_rdR (v : Value) : Option zm_R := match v with
  | .null => some none
  | .ref q => some (some q)
  | _ => none
theorem zm_rdI_eq : ∀ (v : Value) (x : Int32), zm_rdI v = some x → v = .int x := by
  intro v x h
  cases v <;> simp [zm_rdI] at h
  rw [h]
theorem zm_rdR_eq : ∀ (v : Value) (x : zm_R), zm_rdR v = some x → v = va_rf x := by
  intro v x h
  cases v <;> simp [zm_rdR] at h <;> subst h <;> rfl

def zm_obj (r : zm_R) (ci : Nat) (σ : zm_S) : Option (Nat × List Value) := r.bind fun a => match σ.2.2 a with
  | some (.inr (c, fs)) => if c = ci then some (a, fs) else none
  | _ => none
def zm_arr (r : zm_R) (ty : FieldType) (σ : zm_S) : Option (Nat × vp_A) := r.bind fun a => match σ.2.2 a with
  | some (.inl (t, x)) => if t = ty then some (a, x) else none
  | _ => none
def zm_grd (c : Prop) [Decidable c] : zm_M Unit := ⟨fun σ => if c then some (.inl (), σ) else none, by
  intro σ o τ h
  split at h
  · simp only [Option.some.injEq, Prod.mk.injEq] at h
    rw [← h.2]
    exact zm_le.refl _
  · cases h⟩
def zm_getF0 {τ : Type} (rd : Value → Option τ) (r : zm_R) (ci k : Nat) : zm_F τ := fun σ => (zm_obj r ci σ).bind fun q => (q.2[k]?).bind fun v => (rd v).map fun x => (.inl x, σ)
def zm_putF0 (K : zm_K) (r : zm_R) (ci k : Nat) (v : Value) : zm_F Unit := fun σ => (zm_obj r ci σ).bind fun q => if K.1 ≤ q.1 ∧ k < q.2.length then some (.inl (), (σ.1, σ.2.1, zm_up σ.2.2 q.1 (.inr (ci, q.2.set k v)))) else none
def zm_cls0 (r : zm_R) : zm_F Nat := fun σ => r.bind fun a => match σ.2.2 a with
  | some (.inr (c, _)) => some (.inl c, σ)
  | _ => none
def zm_is0 (r : zm_R) (ci : Nat) : zm_F Unit := fun σ => (zm_obj r ci σ).map fun _ => (.inl (), σ)
def zm_new0 (ci : Nat) (fs : List Value) : zm_F Nat := fun σ => some (.inl σ.1, (σ.1 + 1, σ.2.1 + fs.length, zm_up σ.2.2 σ.1 (.inr (ci, fs))))

def zm_cI (x : vp_A) : Option (Nat → Int32) := match x.2 with
  | .inl f => some f
  | _ => none
def zm_cJ (x : vp_A) : Option (Nat → Int64) := match x.2 with
  | .inr (.inl f) => some f
  | _ => none
def zm_cD (x : vp_A) : Option (Nat → UInt64) := match x.2 with
  | .inr (.inr (.inr (.inl f))) => some f
  | _ => none
def zm_cR (x : vp_A) : Option (Nat → Option Nat) := match x.2 with
  | .inr (.inr (.inr (.inr f))) => some f
  | _ => none
def zm_ald0 {τ : Type} (rd : vp_A → Option (Nat → τ)) (ty : FieldType) (r : zm_R) (i : Int32) : zm_F τ := fun σ => (zm_arr r ty σ).bind fun q => (rd q.2).bind fun f => if ¬ (i < 0 ∨ q.2.1 ≤ i.toNatClampNeg) then some (.inl (f i.toNatClampNeg), σ) else none
def zm_ast0 {τ : Type} (rd : vp_A → Option (Nat → τ)) (wr : (Nat → τ) → ((Nat → Int32) ⊕ (Nat → Int64) ⊕ (Nat → UInt32) ⊕ (Nat → UInt64) ⊕ (Nat → Option Nat))) (K : zm_K) (ty : FieldType) (r : zm_R) (i : Int32) (x : τ) : zm_F Unit := fun σ => (zm_arr r ty σ).bind fun q => (rd q.2).bind fun f => if K.1 ≤ q.1 ∧ ¬ (i < 0 ∨ q.2.1 ≤ i.toNatClampNeg) then some (.inl (), (σ.1, σ.2.1, zm_up σ.2.2 q.1 (.inl (ty, q.2.1, wr (va_up f i.toNatClampNeg x))))) else none
def zm_alen0 (r : zm_R) : zm_F Int32 := fun σ => r.bind fun a => match σ.2.2 a with
  | some (.inl (_, x)) => some (.inl (Int32.ofNat x.1), σ)
  | _ => none
def zm_newa0 (ty : FieldType) (z : (Nat → Int32) ⊕ (Nat → Int64) ⊕ (Nat → UInt32) ⊕ (Nat → UInt64) ⊕ (Nat → Option Nat)) (n : Int32) : zm_F Nat := fun σ => if ¬ n < 0 ∧ n.toNatClampNeg * componentBytes ty ≤ 536870912 then some (.inl σ.1, (σ.1 + 1, σ.2.1 + n.toNatClampNeg, zm_up σ.2.2 σ.1 (.inl (ty, n.toNatClampNeg, z)))) else none

theorem zm_obj_some {r : zm_R} {ci : Nat} {σ : zm_S} {q : Nat × List Value} (h : zm_obj r ci σ = some q) : r = some q.1 ∧ σ.2.2 q.1 = some (.inr (ci, q.2)) := by
  cases r with
  | none => simp [zm_obj] at h
  | some a =>
    simp only [zm_obj, Option.bind_some] at h
    cases hh : σ.2.2 a with
    | none => simp [hh] at h
    | some e =>
      cases e with
      | inl x => simp [hh] at h
      | inr o =>
        obtain ⟨c, fs⟩ := o
        simp only [hh] at h
        split at h
        · rename_i hc
          simp only [Option.some.injEq] at h
          subst h
          subst hc
          exact ⟨rfl, hh⟩
        · simp at h
theorem zm_arr_some {r : zm_R} {ty : FieldType} {σ : zm_S} {q : Nat × vp_A} (h : zm_arr r ty σ = some q) : r = some q.1 ∧ σ.2.2 q.1 = some (.inl (ty, q.2)) := by
  cases r with
  | none => simp [zm_arr] at h
  | some a =>
    simp only [zm_arr, Option.bind_some] at h
    cases hh : σ.2.2 a with
    | none => simp [hh] at h
    | some e =>
      cases e with
      | inr x => simp [hh] at h
      | inl o =>
        obtain ⟨c, fs⟩ := o
        simp only [hh] at h
        split at h
        · rename_i hc
          simp only [Option.some.injEq] at h
          subst h
          subst hc
          exact ⟨rfl, hh⟩
        · simp at h
theorem zm_getF_some {τ : Type} {rd : Value → Option τ} {r : zm_R} {ci k : Nat} {σ υ : zm_S} {o : τ ⊕ zm_X} (h : zm_getF0 rd r ci k σ = some (o, υ)) : υ = σ ∧ ∃ a fs v x, r = some a ∧ σ.2.2 a = some (.inr (ci, fs)) ∧ fs[k]? = some v ∧ rd v = some x ∧ o = .inl x := by
  simp only [zm_getF0, Option.bind_eq_some_iff, Option.map_eq_some_iff, Prod.mk.injEq] at h
  obtain ⟨q, h1, v, h2, x, h3, h4, h5⟩ := h
  obtain ⟨e1, e2⟩ := zm_obj_some h1
  exact ⟨h5.symm, q.1, q.2, v, x, e1, e2, h2, h3, h4.symm⟩
theorem zm_getF_st {τ : Type} (rd : Value → Option τ) (r : zm_R) (ci k : Nat) : zm_st (zm_getF0 rd r ci k) := by
  intro σ o υ h
  obtain ⟨rfl, a, fs, v, x, -, -, -, -, rfl⟩ := zm_getF_some h
  exact ⟨zm_le.refl _, x, rfl⟩
theorem zm_putF_some {K : zm_K} {r : zm_R} {ci k : Nat} {v : Value} {σ υ : zm_S} {o : Unit ⊕ zm_X} (h : zm_putF0 K r ci k v σ = some (o, υ)) : o = .inl () ∧ ∃ a fs, r = some a ∧ σ.2.2 a = some (.inr (ci, fs)) ∧ K.1 ≤ a ∧ k < fs.length ∧ υ = (σ.1, σ.2.1, zm_up σ.2.2 a (.inr (ci, fs.set k v))) := by
  simp only [zm_putF0, Option.bind_eq_some_iff] at h
  obtain ⟨q, h1, h2⟩ := h
  obtain ⟨e1, e2⟩ := zm_obj_some h1
  split at h2
  · rename_i hc
    simp only [Option.some.injEq, Prod.mk.injEq] at h2
    exact ⟨h2.1.symm, q.1, q.2, e1, e2, hc.1, hc.2, by rw [← h2.2]⟩
  · simp at h2
theorem zm_putF_st (K : zm_K) (r : zm_R) (ci k : Nat) (v : Value) : zm_st (zm_putF0 K r ci k v) := by
  intro σ o υ h
  obtain ⟨rfl, a, fs, -, -, -, -, rfl⟩ := zm_putF_some h
  exact ⟨zm_le.refl _, (), rfl⟩
theorem zm_ald_some {τ : Type} {rd : vp_A → Option (Nat → τ)} {ty : FieldType} {r : zm_R} {i : Int32} {σ υ : zm_S} {o : τ ⊕ zm_X} (h : zm_ald0 rd ty r i σ = some (o, υ)) : υ = σ ∧ ∃ a x f, r = some a ∧ σ.2.2 a = some (.inl (ty, x)) ∧ rd x = some f ∧ vp_in i x.1 ∧ o = .inl (f i.toNatClampNeg) := by
  simp only [zm_ald0, Option.bind_eq_some_iff] at h
  obtain ⟨q, h1, f, h2, h3⟩ := h
  obtain ⟨e1, e2⟩ := zm_arr_some h1
  split at h3
  · rename_i hc
    simp only [Option.some.injEq, Prod.mk.injEq] at h3
    exact ⟨h3.2.symm, q.1, q.2, f, e1, e2, h2, hc, h3.1.symm⟩
  · simp at h3
theorem zm_ald_st {τ : Type} (rd : vp_A → Option (Nat → τ)) (ty : FieldType) (r : zm_R) (i : Int32) : zm_st (zm_ald0 rd ty r i) := by
  intro σ o υ h
  obtain ⟨rfl, a, x, f, -, -, -, -, rfl⟩ := zm_ald_some h
  exact ⟨zm_le.refl _, _, rfl⟩
theorem zm_ast_some {τ : Type} {rd : vp_A → Option (Nat → τ)} {wr : (Nat → τ) → ((Nat → Int32) ⊕ (Nat → Int64) ⊕ (Nat → UInt32) ⊕ (Nat → UInt64) ⊕ (Nat → Option Nat))} {K : zm_K} {ty : FieldType} {r : zm_R} {i : Int32} {y : τ} {σ υ : zm_S} {o : Unit ⊕ zm_X} (h : zm_ast0 rd wr K ty r i y σ = some (o, υ)) : o = .inl () ∧ ∃ a x f, r = some a ∧ σ.2.2 a = some (.inl (ty, x)) ∧ rd x = some f ∧ K.1 ≤ a ∧ vp_in i x.1 ∧ υ = (σ.1, σ.2.1, zm_up σ.2.2 a (.inl (ty, x.1, wr (va_up f i.toNatClampNeg y)))) := by
  simp only [zm_ast0, Option.bind_eq_some_iff] at h
  obtain ⟨q, h1, f, h2, h3⟩ := h
  obtain ⟨e1, e2⟩ := zm_arr_some h1
  split at h3
  · rename_i hc
    simp only [Option.some.injEq, Prod.mk.injEq] at h3
    exact ⟨h3.1.symm, q.1, q.2, f, e1, e2, h2, hc.1, hc.2, by rw [← h3.2]⟩
  · simp at h3
theorem zm_ast_st {τ : Type} (rd : vp_A → Option (Nat → τ)) (wr : (Nat → τ) → ((Nat → Int32) ⊕ (Nat → Int64) ⊕ (Nat → UInt32) ⊕ (Nat → UInt64) ⊕ (Nat → Option Nat))) (K : zm_K) (ty : FieldType) (r : zm_R) (i : Int32) (y : τ) : zm_st (zm_ast0 rd wr K ty r i y) := by
  intro σ o υ h
  obtain ⟨rfl, a, x, f, -, -, -, -, -, rfl⟩ := zm_ast_some h
  exact ⟨zm_le.refl _, (), rfl⟩
theorem zm_alen_some {r : zm_R} {σ υ : zm_S} {o : Int32 ⊕ zm_X} (h : zm_alen0 r σ = some (o, υ)) : υ = σ ∧ ∃ a ty x, r = some a ∧ σ.2.2 a = some (.inl (ty, x)) ∧ o = .inl (Int32.ofNat x.1) := by
  cases r with
  | none => simp [zm_alen0] at h
  | some a =>
    simp only [zm_alen0, Option.bind_some] at h
    cases hh : σ.2.2 a with
    | none => simp [hh] at h
    | some e =>
      cases e with
      | inr x => simp [hh] at h
      | inl o =>
        obtain ⟨c, fs⟩ := o
        simp only [hh, Option.some.injEq, Prod.mk.injEq] at h
        exact ⟨h.2.symm, a, c, fs, rfl, hh, h.1.symm⟩
theorem zm_alen_st (r : zm_R) : zm_st (zm_alen0 r) := by
  intro σ o υ h
  obtain ⟨rfl, a, ty, x, -, -, rfl⟩ := zm_alen_some h
  exact ⟨zm_le.refl _, _, rfl⟩
theorem zm_new_st (ci : Nat) (fs : List Value) : zm_st (zm_new0 ci fs) := by
  intro σ o υ h
  simp only [zm_new0, Option.some.injEq, Prod.mk.injEq] at h
  obtain ⟨rfl, rfl⟩ := h
  exact ⟨⟨Nat.le_succ _, Nat.le_add_right _ _⟩, _, rfl⟩
theorem zm_newa_some {ty : FieldType} {z : (Nat → Int32) ⊕ (Nat → Int64) ⊕ (Nat → UInt32) ⊕ (Nat → UInt64) ⊕ (Nat → Option Nat)} {n : Int32} {σ υ : zm_S} {o : Nat ⊕ zm_X} (h : zm_newa0 ty z n σ = some (o, υ)) : ¬ n < 0 ∧ n.toNatClampNeg * componentBytes ty ≤ 536870912 ∧ o = .inl σ.1 ∧ υ = (σ.1 + 1, σ.2.1 + n.toNatClampNeg, zm_up σ.2.2 σ.1 (.inl (ty, n.toNatClampNeg, z))) := by
  unfold zm_newa0 at h
  split at h
  · rename_i hc
    simp only [Option.some.injEq, Prod.mk.injEq] at h
    exact ⟨hc.1, hc.2, h.1.symm, by rw [← h.2]⟩
  · simp at h
theorem zm_newa_st (ty : FieldType) (z : (Nat → Int32) ⊕ (Nat → Int64) ⊕ (Nat → UInt32) ⊕ (Nat → UInt64) ⊕ (Nat → Option Nat)) (n : Int32) : zm_st (zm_newa0 ty z n) := by
  intro σ o υ h
  obtain ⟨-, -, rfl, rfl⟩ := zm_newa_some h
  exact ⟨⟨Nat.le_succ _, Nat.le_add_right _ _⟩, _, rfl⟩
theorem zm_cls_st (r : zm_R) : zm_st (zm_cls0 r) := by
  intro σ o υ h
  cases r with
  | none => simp [zm_cls0] at h
  | some a =>
    simp only [zm_cls0, Option.bind_some] at h
    cases hh : σ.2.2 a with
    | none => simp [hh] at h
    | some e =>
      cases e with
      | inl x => simp [hh] at h
      | inr o =>
        simp only [hh, Option.some.injEq, Prod.mk.injEq] at h
        obtain ⟨rfl, rfl⟩ := h
        exact ⟨zm_le.refl _, _, rfl⟩
theorem zm_is_st (r : zm_R) (ci : Nat) : zm_st (zm_is0 r ci) := by
  intro σ o υ h
  simp only [zm_is0, Option.map_eq_some_iff, Prod.mk.injEq] at h
  obtain ⟨q, -, h1, h2⟩ := h
  rw [← h2]
  exact ⟨zm_le.refl _, (), h1.symm⟩
def zm_getF {τ : Type} (rd : Value → Option τ) (r : zm_R) (ci k : Nat) : zm_M τ := ⟨zm_getF0 rd r ci k, (zm_getF_st rd r ci k).mo⟩
def zm_putF (K : zm_K) (r : zm_R) (ci k : Nat) (v : Value) : zm_M Unit := ⟨zm_putF0 K r ci k v, (zm_putF_st K r ci k v).mo⟩
def zm_cls (r : zm_R) : zm_M Nat := ⟨zm_cls0 r, (zm_cls_st r).mo⟩
def zm_is (r : zm_R) (ci : Nat) : zm_M Unit := ⟨zm_is0 r ci, (zm_is_st r ci).mo⟩
def zm_new (ci : Nat) (fs : List Value) : zm_M Nat := ⟨zm_new0 ci fs, (zm_new_st ci fs).mo⟩
def zm_ald {τ : Type} (rd : vp_A → Option (Nat → τ)) (ty : FieldType) (r : zm_R) (i : Int32) : zm_M τ := ⟨zm_ald0 rd ty r i, (zm_ald_st rd ty r i).mo⟩
def zm_ast {τ : Type} (rd : vp_A → Option (Nat → τ)) (wr : (Nat → τ) → ((Nat → Int32) ⊕ (Nat → Int64) ⊕ (Nat → UInt32) ⊕ (Nat → UInt64) ⊕ (Nat → Option Nat))) (K : zm_K) (ty : FieldType) (r : zm_R) (i : Int32) (x : τ) : zm_M Unit := ⟨zm_ast0 rd wr K ty r i x, (zm_ast_st rd wr K ty r i x).mo⟩
def zm_alen (r : zm_R) : zm_M Int32 := ⟨zm_alen0 r, (zm_alen_st r).mo⟩
def zm_newa (ty : FieldType) (z : (Nat → Int32) ⊕ (Nat → Int64) ⊕ (Nat → UInt32) ⊕ (Nat → UInt64) ⊕ (Nat → Option Nat)) (n : Int32) : zm_M Nat := ⟨zm_newa0 ty z n, (zm_newa_st ty z n).mo⟩
abbrev zm_getI := zm_getF zm_rdI
abbrev zm_getR := zm_getF zm_rdR
abbrev zm_aldI := zm_ald zm_cI
abbrev zm_aldJ := zm_ald zm_cJ .long
abbrev zm_aldD := zm_ald zm_cD .double
abbrev zm_aldR := zm_ald zm_cR (.object "java/lang/Object")
abbrev zm_astI (K : zm_K) (ty : FieldType) (r : zm_R) (i x : Int32) : zm_M Unit := zm_ast zm_cI (fun f => .inl f) K ty r i (vp_nar ty x)
abbrev zm_astJ (K : zm_K) (r : zm_R) (i : Int32) (x : Int64) : zm_M Unit := zm_ast zm_cJ (fun f => .inr (.inl f)) K .long r i x
abbrev zm_astD (K : zm_K) (r : zm_R) (i : Int32) (x : UInt64) : zm_M Unit := zm_ast zm_cD (fun f => .inr (.inr (.inr (.inl f)))) K .double r i x
abbrev zm_astR (K : zm_K) (r : zm_R) (i : Int32) (x : zm_R) : zm_M Unit := zm_ast zm_cR (fun f => .inr (.inr (.inr (.inr f)))) K (.object "java/lang/Object") r i x
abbrev zm_W : Type := State × va_G × (FieldType → ClassId) × List vw_C
def zm_tys : List FieldType := [.int, .boolean, .byte, .char, .long, .double, .object "java/lang/Object"]
def zm_HK (Ω : zm_W) : Prop := va_K Ω.2.1 Ω.2.2.2 (zm_tys.map fun t => (Ω.2.2.1 t, t)) Ω.1
/-- nobody holds the monitor of a new object -/
def zm_mon (B a : Nat) (H : Heap) : Prop := B ≤ a → ∃ cell : Cell, H[a]? = some cell ∧ cell.monitor.owner = none ∧ cell.monitor.count = 0
def zm_at (Ω : zm_W) (a : Nat) (e : zm_E) (H : Heap) : Prop := match e with
  | .inl x => x.1 ∈ zm_tys ∧ H[a]? = some (vp_cell (Ω.2.2.1 x.1) x.2)
  | .inr o => (∃ r : vw_C, Ω.2.2.2[o.1]? = some r ∧ o.2.length = r.2.2 ∧ t_OB a (Ω.2.1.1 o.1) r.2.2 (Ω.2.1.2 o.1) H (vp_V o.2) ∧ zm_mon Ω.1.heap.size a H) ∨ (Ω.2.2.2.length ≤ o.1 ∧ H[a]? = some ({ cls := Ω.2.1.1 o.1, slots := o.2.toArray, vm := .none } : Cell))
theorem zm_at.kept {Ω : zm_W} {a : Nat} {e : zm_E} {H H1 : Heap} (h : zm_at Ω a e H) (hq : H1[a]? = H[a]?) : zm_at Ω a e H1 := by
  cases e with
  | inl x => exact ⟨h.1, hq.trans h.2⟩
  | inr o =>
    rcases h with ⟨r, h1, h2, h3, h4⟩ | ⟨h1, h2⟩
    · refine Or.inl ⟨r, h1, h2, h3.kept hq, fun hb => ?_⟩
      obtain ⟨cell, q1, q2⟩ := h4 hb
      exact ⟨cell, hq.trans q1, q2⟩
    · exact Or.inr ⟨h1, hq.trans h2⟩
theorem zm_at.lt {Ω : zm_W} {a : Nat} {e : zm_E} {H : Heap} (h : zm_at Ω a e H) : a < H.size := by
  cases e with
  | inl x => exact (Array.getElem?_eq_some_iff.mp h.2).1
  | inr o =>
    rcases h with ⟨r, h1, h2, ⟨cell, h3, -⟩, -⟩ | ⟨h1, h2⟩
    · exact (Array.getElem?_eq_some_iff.mp h3).1
    · exact (Array.getElem?_eq_some_iff.mp h2).1
def zm_rep (Ω : zm_W) (σ : zm_S) (H : Heap) : Prop :=
  H.size = σ.1 ∧ (∀ a e, σ.2.2 a = some e → zm_at Ω a e H) ∧ Ω.1.heap.size ≤ H.size ∧ ∀ q : Nat, q < Ω.1.heap.size → H[q]? = Ω.1.heap[q]?
def zm_C (p : Program) (l : Launch) (R : Room) (s : State) (m : MethodId) (args : Array Value) (meth : Method) (c : Code) (Ω : zm_W) (Ts : List Cond) (cc : ByteArray) (own nm : String) (nL F L : Nat) (ret : Option FieldType) : Prop :=
  p.tables.exec = Jvm.exec ∧ c.code = cc ∧ s.vm.findClass own = some m.cls ∧ (∀ w ∈ Ts, w.before args s = true) ∧ c.maxLocals = nL ∧ meth.sig.returnType = ret ∧ meth.locks = false ∧ zm_HK Ω ∧ Ω.1.WarmedH s.vm ∧ meth.name = nm ∧ R.frames = F ∧ R.locals = L ∧ (Ω.1.heap.size ≤ s.heap.size ∧ ∀ q : Nat, q < Ω.1.heap.size → s.heap[q]? = Ω.1.heap[q]?) ∧ l.stackTraces = false
section ZM
variable {p : Program} {l : Launch} {e : Env} {R : Room} {s : State} {m : MethodId} {args : Array Value} {below : List Frame} {meth : Method} {c : Code} {Ω : zm_W} {Ts : List Cond} {cc : ByteArray} {own nm : String} {nL FF LL : Nat} {ret : Option FieldType}
variable {ρ : Type} {n0 k0 : Nat} {QF : (ρ ⊕ zm_X) → zm_S → State → Prop}

def zm_RF (p : Program) (l : Launch) (e : Env) (R : Room) (s : State) (m : MethodId) (args : Array Value) (below : List Frame) (meth : Method) (c : Code) (Ω : zm_W) (n0 k0 : Nat) (QF : (ρ ⊕ zm_X) → zm_S → State → Prop) (x : zm_M ρ) (g : JFrame) : Prop :=
  ∀ (σ : zm_S) (o : ρ ⊕ zm_X) (τ : zm_S) (H : Heap) (locs : List Loc), zm_run x σ = some (o, τ) → zm_rep Ω σ H → (∀ z ∈ locs, Ω.1.heap.size ≤ z.base) → n0 ≤ σ.1 → k0 ≤ σ.2.1 → τ.1 - n0 ≤ R.cells → τ.2.1 - k0 ≤ R.slots →
    W p l e R s m args below meth c H locs (σ.1 - n0) (σ.2.1 - k0) (QF o τ) g

def zm_RK {α : Type} (p : Program) (l : Launch) (e : Env) (R : Room) (s : State) (m : MethodId) (args : Array Value) (below : List Frame) (meth : Method) (c : Code) (Ω : zm_W) (n0 k0 : Nat) (QF : (ρ ⊕ zm_X) → zm_S → State → Prop) (x : zm_M α) (J : α → zm_M ρ) (g : JFrame) : Prop :=
  zm_RF p l e R s m args below meth c Ω n0 k0 QF (zm_bnd x J) g
variable {α β : Type} {J : α → zm_M ρ} {g : JFrame}

theorem rk_of {x : zm_M α} {g g' : JFrame} (h : ∀ (H : Heap) (locs : List Loc) (cells slots : Nat) (Q : State → Prop), W p l e R s m args below meth c H locs cells slots Q g' → W p l e R s m args below meth c H locs cells slots Q g)
    (k : zm_RK p l e R s m args below meth c Ω n0 k0 QF x J g') : zm_RK p l e R s m args below meth c Ω n0 k0 QF x J g :=
  fun σ o τ H locs h1 h2 h3 h4 h5 h6 h7 => h _ _ _ _ _ (k σ o τ H locs h1 h2 h3 h4 h5 h6 h7)

theorem rk_ofs {x : zm_M α} {g : JFrame} {g' : Array Slot → JFrame} {lv : List (Nat × Value)} (h : ∀ (H : Heap) (locs : List Loc) (cells slots : Nat) (Q : State → Prop), (∀ ls, lv_has ls nL lv → W p l e R s m args below meth c H locs cells slots Q (g' ls)) → W p l e R s m args below meth c H locs cells slots Q g)
    (k : ∀ ls, lv_has ls nL lv → zm_RK p l e R s m args below meth c Ω n0 k0 QF x J (g' ls)) : zm_RK p l e R s m args below meth c Ω n0 k0 QF x J g :=
  fun σ o τ H locs h1 h2 h3 h4 h5 h6 h7 => h _ _ _ _ _ (fun ls hl => k ls hl σ o τ H locs h1 h2 h3 h4 h5 h6 h7)
theorem rk_ite {P : Prop} [Decidable P] {x y : zm_M α} {g g1 g2 : JFrame} (h : ∀ (H : Heap) (locs : List Loc) (cells slots : Nat) (Q : State → Prop), (P → W p l e R s m args below meth c H locs cells slots Q g1) → (¬ P → W p l e R s m args below meth c H locs cells slots Q g2) → W p l e R s m args below meth c H locs cells slots Q g)
    (k1 : P → zm_RK p l e R s m args below meth c Ω n0 k0 QF x J g1) (k2 : ¬ P → zm_RK p l e R s m args below meth c Ω n0 k0 QF y J g2) : zm_RK p l e R s m args below meth c Ω n0 k0 QF (if P then x else y) J g := by
  by_cases hp : P
  · rw [if_pos hp]
    exact fun σ o τ H locs h1 h2 h3 h4 h5 h6 h7 => h _ _ _ _ _ (fun _ => k1 hp σ o τ H locs h1 h2 h3 h4 h5 h6 h7) (fun q => absurd hp q)
  · rw [if_neg hp]
    exact fun σ o τ H locs h1 h2 h3 h4 h5 h6 h7 => h _ _ _ _ _ (fun q => absurd q hp) (fun _ => k2 hp σ o τ H locs h1 h2 h3 h4 h5 h6 h7)
theorem rk_fl {g : JFrame} : zm_RK p l e R s m args below meth c Ω n0 k0 QF (zm_fl : zm_M α) J g :=
  fun σ o τ H locs h => by rw [zm_fl_bnd, zm_run_fl] at h; cases h

theorem rk_ret {a : α} {g : JFrame} (k : zm_RF p l e R s m args below meth c Ω n0 k0 QF (J a) g) : zm_RK p l e R s m args below meth c Ω n0 k0 QF (zm_ret a) J g := k
theorem rk_rf {x : zm_M ρ} {g : JFrame} (k : zm_RK p l e R s m args below meth c Ω n0 k0 QF x zm_ret g) : zm_RF p l e R s m args below meth c Ω n0 k0 QF x g := by
  unfold zm_RK at k
  rwa [zm_bnd_ret] at k
theorem rk_fr {x : zm_M ρ} {g : JFrame} (k : zm_RF p l e R s m args below meth c Ω n0 k0 QF x g) : zm_RK p l e R s m args below meth c Ω n0 k0 QF x zm_ret g := by
  unfold zm_RK
  rwa [zm_bnd_ret]

theorem rk_sub {x : zm_M β} {f : β → zm_M α} {g : JFrame} (k : zm_RK p l e R s m args below meth c Ω n0 k0 QF x (fun v => zm_bnd (f v) J) g) : zm_RK p l e R s m args below meth c Ω n0 k0 QF (zm_bnd x f) J g := by
  unfold zm_RK at k ⊢
  rwa [zm_assoc]
theorem rk_grd {P : Prop} [Decidable P] {f : Unit → zm_M α} {g : JFrame} (k : P → zm_RK p l e R s m args below meth c Ω n0 k0 QF (f ()) J g) : zm_RK p l e R s m args below meth c Ω n0 k0 QF (zm_bnd (zm_grd P) f) J g := by
  by_cases hp : P
  · have h : zm_bnd (zm_grd P) f = f () := by
      apply zm_ext
      intro σ
      refine zm_bnd_ok ?_
      show (if P then _ else _) = _
      rw [if_pos hp]
    rw [h]
    exact k hp
  · have h : zm_bnd (zm_grd P) f = zm_fl := by
      apply zm_ext
      intro σ
      have h9 : zm_run (zm_grd P) σ = none := by
        show (if P then _ else _) = _
        rw [if_neg hp]
      rw [zm_run_bnd, h9]
      rfl
    rw [h]
    exact rk_fl

theorem rk_prim {prim : zm_M β} {f : β → zm_M α} {g : JFrame} {g' : β → JFrame} (hm : zm_st prim.1)
    (hrun : ∀ (σ : zm_S) (a : β) (τ : zm_S) (H : Heap) (locs : List Loc) (Q : State → Prop), zm_run prim σ = some (.inl a, τ) → zm_rep Ω σ H → (∀ z ∈ locs, Ω.1.heap.size ≤ z.base) → n0 ≤ σ.1 → k0 ≤ σ.2.1 → τ.1 - n0 ≤ R.cells → τ.2.1 - k0 ≤ R.slots →
      (∀ (H' : Heap) (locs' : List Loc), zm_rep Ω τ H' → (∀ z ∈ locs', Ω.1.heap.size ≤ z.base) → W p l e R s m args below meth c H' locs' (τ.1 - n0) (τ.2.1 - k0) Q (g' a)) → W p l e R s m args below meth c H locs (σ.1 - n0) (σ.2.1 - k0) Q g)
    (k : ∀ a, zm_RK p l e R s m args below meth c Ω n0 k0 QF (f a) J (g' a)) : zm_RK p l e R s m args below meth c Ω n0 k0 QF (zm_bnd prim f) J g := by
  unfold zm_RK
  rw [zm_assoc]
  intro σ o τ H locs h1 h2 h3 h4 h5 h6 h7
  rw [zm_run_bnd] at h1
  cases hp : zm_run prim σ with
  | none => rw [hp] at h1; cases h1
  | some v =>
    obtain ⟨w, υ⟩ := v
    obtain ⟨hle, a, rfl⟩ := hm _ _ _ hp
    rw [hp] at h1
    have h1' : zm_run (zm_bnd (f a) J) υ = some (o, τ) := h1
    have hle2 := zm_run.le h1'
    refine hrun σ a υ H locs (QF o τ) hp h2 h3 h4 h5 ?_ ?_ ?_
    · have := hle2.1; omega
    · have := hle2.2; omega
    · intro H' locs' r1 r2
      exact k a υ o τ H' locs' h1' r1 r2 (Nat.le_trans h4 hle.1) (Nat.le_trans h5 hle.2) h6 h7
end ZM
