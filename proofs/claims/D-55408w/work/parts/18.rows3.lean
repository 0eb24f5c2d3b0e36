/-! rows: casts, throws, arrays of references, copies -/
/-- r is null, or an object of a class among cs, or an array of a type among ts -/
def zm_chk0 (cs : List Nat) (ts : List FieldType) (r : zm_R) : zm_F Unit := fun σ => match r with
  | none => some (.inl (), σ)
  | some a => match σ.2.2 a with
    | some (.inr o) => if o.1 ∈ cs then some (.inl (), σ) else none
    | some (.inl x) => if x.1 ∈ ts then some (.inl (), σ) else none
    | none => none
theorem zm_chk_some {cs : List Nat} {ts : List FieldType} {r : zm_R} {σ υ : zm_S} {o : Unit ⊕ zm_X} (h : zm_chk0 cs ts r σ = some (o, υ)) : υ = σ ∧ o = .inl () ∧ (r = none ∨ (∃ a ci fs, r = some a ∧ σ.2.2 a = some (.inr (ci, fs)) ∧ ci ∈ cs) ∨ ∃ a ty x, r = some a ∧ σ.2.2 a = some (.inl (ty, x)) ∧ ty ∈ ts) := by
  cases r with
  | none =>
    simp only [zm_chk0, Option.some.injEq, Prod.mk.injEq] at h
    exact ⟨h.2.symm, h.1.symm, Or.inl rfl⟩
  | some a =>
    simp only [zm_chk0] at h
    cases hh : σ.2.2 a with
    | none => simp [hh] at h
    | some e =>
      cases e with
      | inl x =>
        obtain ⟨ty, x⟩ := x
        simp only [hh] at h
        split at h
        · rename_i hc
          simp only [Option.some.injEq, Prod.mk.injEq] at h
          exact ⟨h.2.symm, h.1.symm, Or.inr (Or.inr ⟨a, ty, x, rfl, hh, hc⟩)⟩
        · cases h
      | inr x =>
        obtain ⟨ci, fs⟩ := x
        simp only [hh] at h
        split at h
        · rename_i hc
          simp only [Option.some.injEq, Prod.mk.injEq] at h
          exact ⟨h.2.symm, h.1.symm, Or.inr (Or.inl ⟨a, ci, fs, rfl, hh, hc⟩)⟩
        · cases h
theorem zm_chk_st (cs : List Nat) (ts : List FieldType) (r : zm_R) : zm_st (zm_chk0 cs ts r) := by
  intro σ o υ h
  obtain ⟨rfl, rfl, -⟩ := zm_chk_some h
  exact ⟨zm_le.refl _, (), rfl⟩
def zm_chk (cs : List Nat) (ts : List FieldType) (r : zm_R) : zm_M Unit := ⟨zm_chk0 cs ts r, (zm_chk_st cs ts r).mo⟩
/-- 1 if r is an object of a class among cs, 0 if it is null -/
def zm_ins (cs : List Nat) (r : zm_R) : zm_M Int32 := zm_bnd (zm_chk cs [] r) fun _ => zm_ret (if r = none then 0 else 1)
/-- throws the object at r -/
def zm_ath0 {α : Type} (r : zm_R) : zm_F α := fun σ => r.bind fun a => match σ.2.2 a with
  | some (.inr o) => (zm_cl[o.1]?).map fun q => (.inr (q.1, a), σ)
  | _ => none
theorem zm_ath_some {α : Type} {r : zm_R} {σ υ : zm_S} {o : α ⊕ zm_X} (h : zm_ath0 r σ = some (o, υ)) : υ = σ ∧ ∃ a ci fs q, r = some a ∧ σ.2.2 a = some (.inr (ci, fs)) ∧ zm_cl[ci]? = some q ∧ o = .inr (q.1, a) := by
  cases r with
  | none => simp [zm_ath0] at h
  | some a =>
    simp only [zm_ath0, Option.bind_some] at h
    cases hh : σ.2.2 a with
    | none => simp [hh] at h
    | some e =>
      cases e with
      | inl x => simp [hh] at h
      | inr x =>
        obtain ⟨ci, fs⟩ := x
        simp only [hh, Option.map_eq_some_iff, Prod.mk.injEq] at h
        obtain ⟨q, h1, h2, h3⟩ := h
        exact ⟨h3.symm, a, ci, fs, q, rfl, hh, h1, h2.symm⟩
def zm_ath {α : Type} (r : zm_R) : zm_M α := ⟨zm_ath0 r, by
  intro σ o τ h
  obtain ⟨rfl, -⟩ := zm_ath_some h
  exact zm_le.refl _⟩
/-- an element of an array of references: null, or an object of a class -/
def zm_astO (K : zm_K) (cs : List Nat) (r : zm_R) (i : Int32) (x : zm_R) : zm_M Unit := zm_bnd (zm_chk cs [] x) fun _ => zm_astR K r i x
theorem zm_st_bnd {α β : Type} {x : zm_M α} {f : α → zm_M β} (hx : zm_st x.1) (hf : ∀ a, zm_st (f a).1) : zm_st (zm_bnd x f).1 := by
  intro σ o τ h
  have h : zm_run (zm_bnd x f) σ = some (o, τ) := h
  rw [zm_run_bnd] at h
  cases hh : zm_run x σ with
  | none => rw [hh] at h; cases h
  | some v =>
    obtain ⟨w, υ⟩ := v
    obtain ⟨h1, a, rfl⟩ := hx _ _ _ hh
    rw [hh] at h
    obtain ⟨h2, h3⟩ := hf a _ _ _ h
    exact ⟨h1.trans h2, h3⟩
theorem zm_st_ret {α : Type} (a : α) : zm_st (zm_ret a).1 := by
  intro σ o τ h
  have h : some ((Sum.inl a : α ⊕ zm_X), σ) = some (o, τ) := h
  simp only [Option.some.injEq, Prod.mk.injEq] at h
  obtain ⟨rfl, rfl⟩ := h
  exact ⟨zm_le.refl _, a, rfl⟩
theorem zm_bnd_some {α β : Type} {x : zm_M α} {f : α → zm_M β} {σ τ : zm_S} {o : β ⊕ zm_X} (hx : zm_st x.1) (h : zm_run (zm_bnd x f) σ = some (o, τ)) : ∃ a υ, zm_run x σ = some (.inl a, υ) ∧ zm_run (f a) υ = some (o, τ) := by
  rw [zm_run_bnd] at h
  cases hh : zm_run x σ with
  | none => rw [hh] at h; cases h
  | some v =>
    obtain ⟨w, υ⟩ := v
    obtain ⟨h1, a, rfl⟩ := hx _ _ _ hh
    rw [hh] at h
    exact ⟨a, υ, rfl, h⟩
/-- n elements copied from one array of bytes to another -/
def zm_cpB0 (K : zm_K) (r : zm_R) (sp : Int32) (t : zm_R) (dp n : Int32) : zm_F Unit := fun σ => (zm_arr r .byte σ).bind fun q => (zm_cI q.2).bind fun f => (zm_arr t .byte σ).bind fun q' => (zm_cI q'.2).bind fun g =>
  if (¬ sp < 0 ∧ ¬ dp < 0 ∧ ¬ n < 0 ∧ sp.toNatClampNeg + n.toNatClampNeg ≤ q.2.1 ∧ dp.toNatClampNeg + n.toNatClampNeg ≤ q'.2.1 ∧ K.1 ≤ q'.1) ∧ (∀ i, i < n.toNatClampNeg → fits .byte (.int (f (sp.toNatClampNeg + i))) = true) then
    some (.inl (), (σ.1, σ.2.1, zm_up σ.2.2 q'.1 (.inl (.byte, (q'.2.1, .inl (va_cpy f g sp.toNatClampNeg dp.toNatClampNeg n.toNatClampNeg)))))) else none
theorem zm_cpB_some {K : zm_K} {r t : zm_R} {sp dp n : Int32} {σ υ : zm_S} {o : Unit ⊕ zm_X} (h : zm_cpB0 K r sp t dp n σ = some (o, υ)) : o = .inl () ∧ ∃ a b x y f g, r = some a ∧ t = some b ∧ σ.2.2 a = some (.inl (.byte, x)) ∧ σ.2.2 b = some (.inl (.byte, y)) ∧ zm_cI x = some f ∧ zm_cI y = some g ∧
    (¬ sp < 0 ∧ ¬ dp < 0 ∧ ¬ n < 0 ∧ sp.toNatClampNeg + n.toNatClampNeg ≤ x.1 ∧ dp.toNatClampNeg + n.toNatClampNeg ≤ y.1 ∧ K.1 ≤ b) ∧ (∀ i, i < n.toNatClampNeg → fits .byte (.int (f (sp.toNatClampNeg + i))) = true) ∧
    υ = (σ.1, σ.2.1, zm_up σ.2.2 b (.inl (.byte, (y.1, .inl (va_cpy f g sp.toNatClampNeg dp.toNatClampNeg n.toNatClampNeg))))) := by
  simp only [zm_cpB0, Option.bind_eq_some_iff] at h
  obtain ⟨q, h1, f, h2, q', h3, g, h4, h5⟩ := h
  obtain ⟨e1, e2⟩ := zm_arr_some h1
  obtain ⟨e3, e4⟩ := zm_arr_some h3
  split at h5
  · rename_i hc
    simp only [Option.some.injEq, Prod.mk.injEq] at h5
    exact ⟨h5.1.symm, q.1, q'.1, q.2, q'.2, f, g, e1, e3, e2, e4, h2, h4, hc.1, hc.2, by rw [← h5.2]⟩
  · cases h5
theorem zm_cpB_st (K : zm_K) (r : zm_R) (sp : Int32) (t : zm_R) (dp n : Int32) : zm_st (zm_cpB0 K r sp t dp n) := by
  intro σ o υ h
  obtain ⟨rfl, a, b, x, y, f, g, -, -, -, -, -, -, -, -, rfl⟩ := zm_cpB_some h
  exact ⟨zm_le.refl _, (), rfl⟩
def zm_cpB (K : zm_K) (r : zm_R) (sp : Int32) (t : zm_R) (dp n : Int32) : zm_M Unit := ⟨zm_cpB0 K r sp t dp n, (zm_cpB_st K r sp t dp n).mo⟩
/-- ... of references to objects -/
def zm_cpR0 (K : zm_K) (cs : List Nat) (r : zm_R) (sp : Int32) (t : zm_R) (dp n : Int32) : zm_F Unit := fun σ => (zm_arr r (.object "java/lang/Object") σ).bind fun q => (zm_cR q.2).bind fun f => (zm_arr t (.object "java/lang/Object") σ).bind fun q' => (zm_cR q'.2).bind fun g =>
  if (¬ sp < 0 ∧ ¬ dp < 0 ∧ ¬ n < 0 ∧ sp.toNatClampNeg + n.toNatClampNeg ≤ q.2.1 ∧ dp.toNatClampNeg + n.toNatClampNeg ≤ q'.2.1 ∧ K.1 ≤ q'.1) ∧ (∀ i, i < n.toNatClampNeg → zm_chk0 cs [] (f (sp.toNatClampNeg + i)) σ ≠ none) then
    some (.inl (), (σ.1, σ.2.1, zm_up σ.2.2 q'.1 (.inl (.object "java/lang/Object", (q'.2.1, .inr (.inr (.inr (.inr (va_cpy f g sp.toNatClampNeg dp.toNatClampNeg n.toNatClampNeg)))))))) ) else none
theorem zm_cpR_some {K : zm_K} {cs : List Nat} {r t : zm_R} {sp dp n : Int32} {σ υ : zm_S} {o : Unit ⊕ zm_X} (h : zm_cpR0 K cs r sp t dp n σ = some (o, υ)) : o = .inl () ∧ ∃ a b x y f g, r = some a ∧ t = some b ∧ σ.2.2 a = some (.inl (.object "java/lang/Object", x)) ∧ σ.2.2 b = some (.inl (.object "java/lang/Object", y)) ∧ zm_cR x = some f ∧ zm_cR y = some g ∧
    (¬ sp < 0 ∧ ¬ dp < 0 ∧ ¬ n < 0 ∧ sp.toNatClampNeg + n.toNatClampNeg ≤ x.1 ∧ dp.toNatClampNeg + n.toNatClampNeg ≤ y.1 ∧ K.1 ≤ b) ∧ (∀ i, i < n.toNatClampNeg → zm_chk0 cs [] (f (sp.toNatClampNeg + i)) σ ≠ none) ∧
    υ = (σ.1, σ.2.1, zm_up σ.2.2 b (.inl (.object "java/lang/Object", (y.1, .inr (.inr (.inr (.inr (va_cpy f g sp.toNatClampNeg dp.toNatClampNeg n.toNatClampNeg)))))))) := by
  simp only [zm_cpR0, Option.bind_eq_some_iff] at h
  obtain ⟨q, h1, f, h2, q', h3, g, h4, h5⟩ := h
  obtain ⟨e1, e2⟩ := zm_arr_some h1
  obtain ⟨e3, e4⟩ := zm_arr_some h3
  split at h5
  · rename_i hc
    simp only [Option.some.injEq, Prod.mk.injEq] at h5
    exact ⟨h5.1.symm, q.1, q'.1, q.2, q'.2, f, g, e1, e3, e2, e4, h2, h4, hc.1, hc.2, by rw [← h5.2]⟩
  · cases h5
theorem zm_cpR_st (K : zm_K) (cs : List Nat) (r : zm_R) (sp : Int32) (t : zm_R) (dp n : Int32) : zm_st (zm_cpR0 K cs r sp t dp n) := by
  intro σ o υ h
  obtain ⟨rfl, a, b, x, y, f, g, -, -, -, -, -, -, -, -, rfl⟩ := zm_cpR_some h
  exact ⟨zm_le.refl _, (), rfl⟩
def zm_cpR (K : zm_K) (cs : List Nat) (r : zm_R) (sp : Int32) (t : zm_R) (dp n : Int32) : zm_M Unit := ⟨zm_cpR0 K cs r sp t dp n, (zm_cpR_st K cs r sp t dp n).mo⟩
/-- a copy of an array of bytes -/
def zm_clnB0 (r : zm_R) : zm_F zm_R := fun σ => (zm_arr r .byte σ).bind fun q => (zm_cI q.2).bind fun f => if (∀ i, i < q.2.1 → fits .byte (.int (f i)) = true) then some (.inl (some σ.1), (σ.1 + 1, σ.2.1 + q.2.1, zm_up σ.2.2 σ.1 (.inl (.byte, q.2)))) else none
theorem zm_clnB_some {r : zm_R} {σ υ : zm_S} {o : zm_R ⊕ zm_X} (h : zm_clnB0 r σ = some (o, υ)) : o = .inl (some σ.1) ∧ ∃ a x f, r = some a ∧ σ.2.2 a = some (.inl (.byte, x)) ∧ zm_cI x = some f ∧ (∀ i, i < x.1 → fits .byte (.int (f i)) = true) ∧ υ = (σ.1 + 1, σ.2.1 + x.1, zm_up σ.2.2 σ.1 (.inl (.byte, x))) := by
  simp only [zm_clnB0, Option.bind_eq_some_iff] at h
  obtain ⟨q, h1, f, h2, h5⟩ := h
  obtain ⟨e1, e2⟩ := zm_arr_some h1
  split at h5
  · rename_i hc
    simp only [Option.some.injEq, Prod.mk.injEq] at h5
    exact ⟨h5.1.symm, q.1, q.2, f, e1, e2, h2, hc, by rw [← h5.2]⟩
  · cases h5
theorem zm_clnB_st (r : zm_R) : zm_st (zm_clnB0 r) := by
  intro σ o υ h
  obtain ⟨rfl, a, x, f, -, -, -, -, rfl⟩ := zm_clnB_some h
  exact ⟨⟨Nat.le_succ _, Nat.le_add_right _ _⟩, _, rfl⟩
def zm_clnB (r : zm_R) : zm_M zm_R := ⟨zm_clnB0 r, (zm_clnB_st r).mo⟩
/-- r is an array of type ty -/
def zm_isA (r : zm_R) (ty : FieldType) : zm_M Unit := ⟨fun σ => (zm_arr r ty σ).map fun _ => (.inl (), σ), by
  intro σ o υ h
  simp only [Option.map_eq_some_iff, Prod.mk.injEq] at h
  obtain ⟨q, -, -, h2⟩ := h
  rw [← h2]
  exact zm_le.refl _⟩
theorem zm_isA_st (r : zm_R) (ty : FieldType) : zm_st (zm_isA r ty).1 := by
  intro σ o υ h
  have h : (zm_arr r ty σ).map (fun _ => ((Sum.inl () : Unit ⊕ zm_X), σ)) = some (o, υ) := h
  simp only [Option.map_eq_some_iff, Prod.mk.injEq] at h
  obtain ⟨q, -, h1, h2⟩ := h
  rw [← h2]
  exact ⟨zm_le.refl _, (), h1.symm⟩
/-- an object of class ci passes as one of class nm -/
def zm_asg (Ω : zm_W) (s : State) (nm : String) (ci : Nat) : Prop := ∃ q : vw_C, Ω.2.2.2[ci]? = some q ∧ (va_Nw (.castable q.1 nm) s ∨ q.1 = nm)
theorem zc_nil {P : Nat → Prop} : ∀ ci, ci ∈ ([] : List Nat) → P ci := fun _ h => nomatch h
theorem zc_cons {P : Nat → Prop} {c : Nat} {cs : List Nat} (h : P c) (t : ∀ ci, ci ∈ cs → P ci) : ∀ ci, ci ∈ c :: cs → P ci := by
  intro ci hc
  rcases List.mem_cons.mp hc with e | e
  · rw [e]; exact h
  · exact t ci e
theorem zc_w {Ω : zm_W} {s : State} {A : Array Value} {nm : String} {ci : Nat} {q : vw_C} (h : Ω.2.2.2[ci]? = some q) (w : (Cond.castable q.1 nm).before A s = true) : zm_asg Ω s nm ci := ⟨q, h, Or.inl (va_Nw.of rfl w)⟩
theorem zc_s {Ω : zm_W} {s : State} {ci : Nat} {q : vw_C} (h : Ω.2.2.2[ci]? = some q) : zm_asg Ω s q.1 ci := ⟨q, h, Or.inr rfl⟩
/-- an array of type t is called nm -/
def zm_anm (nm : String) (t : FieldType) : Prop := ∀ (U : State) (cA : ClassId), va_RA U cA t → U.vm.findClass nm = some cA
section ZV
variable {p : Program} {l : Launch} {e : Env} {R : Room} {s : State} {m : MethodId} {args : Array Value} {below : List Frame} {meth : Method} {c : Code} {Ω : zm_W} {Ts : List Cond} {cc : ByteArray} {own nm : String} {nL FF LL : Nat} {ret : Option FieldType}
variable {ρ : Type} {n0 k0 : Nat} {QF : (ρ ⊕ zm_X) → zm_S → State → Prop}
variable {α β : Type} {J : α → zm_M ρ} {pc : Nat} {ls : Array Slot} {rest st0 : List Value} {K : zm_K} {g : JFrame}
theorem rk_chk (C : zm_C p l R s m args meth c Ω Ts cc own nm nL FF LL ret) {cn : String} {cs : List Nat} {ts : List FieldType} {r : zm_R} {index : Nat} {f : Unit → zm_M α} (hlink : Cond.classLink own index cn ∈ Ts) (hcs : ∀ ci, ci ∈ cs → zm_asg Ω s cn ci) (hts0 : ∀ t, t ∈ ts → zm_anm cn t) (hdg : decode cc pc = .ok (.checkcast index, 3))
    (kk : zm_RK p l e R s m args below meth c Ω n0 k0 QF (f ()) J (F0 m (pc + 3) ls (va_rf r :: rest))) : zm_RK p l e R s m args below meth c Ω n0 k0 QF (zm_bnd (zm_chk cs ts r) f) J (F0 m pc ls (va_rf r :: rest)) := by
  obtain ⟨hx, hb, hown, hts, -, -, -, hK, hw, -⟩ := C
  refine rk_prim (g' := fun _ => F0 m (pc + 3) ls (va_rf r :: rest)) (zm_chk_st cs ts r) ?_ (fun _ => kk)
  intro σ u τ H locs Q h1 h2 h3 h4 h5 h6 h7 h8
  have h1 : zm_chk0 cs ts r σ = some (.inl u, τ) := h1
  obtain ⟨rfl, -, rfl | ⟨a, ci, fs, rfl, e2, e3⟩ | ⟨a, ty, x, rfl, e2, e3⟩⟩ := zm_chk_some h1
  · exact lv_castN hx hb hdg (h8 H locs h2 h3)
  · obtain ⟨q, hc, hc2⟩ := hcs ci e3
    have hr := zm_recv hK hw h2 e2 hc
    rcases hc2 with hc2 | hc2
    · exact va_castY hx hb hown (hts _ hlink) hc2 hr hdg (h8 H locs h2 h3)
    · subst hc2
      exact va_castS hx hb hown (hts _ hlink) ((hK.at hw).1 ci q hc).2 hr hdg (h8 H locs h2 h3)
  · have hat := h2.2.1 a _ e2
    obtain ⟨ix, hix⟩ := List.getElem?_of_mem hat.1
    have hKt := hK.ty (s := s) hw ix hix
    exact va_castA hx hb hown (hts _ hlink) (h2.arr e2) 0 rfl (hts0 ty e3 _ _ (hKt.2 0 _ rfl).2) hdg (h8 H locs h2 h3)
theorem rk_inst (C : zm_C p l R s m args meth c Ω Ts cc own nm nL FF LL ret) {cn : String} {cs : List Nat} {r : zm_R} {index : Nat} {f : Int32 → zm_M α} (hlink : Cond.classLink own index cn ∈ Ts) (hcs : ∀ ci, ci ∈ cs → zm_asg Ω s cn ci) (hdg : decode cc pc = .ok (.instanceof index, 3))
    (kk : ∀ v, zm_RK p l e R s m args below meth c Ω n0 k0 QF (f v) J (F0 m (pc + 3) ls (.int v :: rest))) : zm_RK p l e R s m args below meth c Ω n0 k0 QF (zm_bnd (zm_ins cs r) f) J (F0 m pc ls (va_rf r :: rest)) := by
  obtain ⟨hx, hb, hown, hts, -, -, -, hK, hw, -⟩ := C
  refine rk_prim (g' := fun v => F0 m (pc + 3) ls (.int v :: rest)) (zm_st_bnd (x := zm_chk cs [] r) (zm_chk_st cs [] r) fun _ => zm_st_ret _) ?_ kk
  intro σ u τ H locs Q h1 h2 h3 h4 h5 h6 h7 h8
  obtain ⟨u0, υ, h9, h10⟩ := zm_bnd_some (x := zm_chk cs [] r) (zm_chk_st cs [] r) h1
  rw [zm_run_ret] at h10
  simp only [Option.some.injEq, Prod.mk.injEq, Sum.inl.injEq] at h10
  obtain ⟨rfl, rfl⟩ := h10
  have h9 : zm_chk0 cs [] r σ = some (.inl u0, υ) := h9
  obtain ⟨rfl, -, rfl | ⟨a, ci, fs, rfl, e2, e3⟩ | ⟨a, ty, x, rfl, e2, e3⟩⟩ := zm_chk_some h9
  · exact lv_instN hx hb hdg (h8 H locs h2 h3)
  · obtain ⟨q, hc, hc2⟩ := hcs ci e3
    have hr := zm_recv hK hw h2 e2 hc
    rcases hc2 with hc2 | hc2
    · exact va_instY hx hb hown (hts _ hlink) hc2 hr hdg (h8 H locs h2 h3)
    · subst hc2
      exact va_instS hx hb hown (hts _ hlink) ((hK.at hw).1 ci q hc).2 hr hdg (h8 H locs h2 h3)
  · cases e3
theorem rk_ath (H9 : zm_H Ω K) (C : zm_C p l R s m args meth c Ω Ts cc own nm nL FF LL ret) (hX : zm_XO p l e R s m args below meth c Ω n0 k0 QF) {r : zm_R} (hdg : decode cc pc = .ok (.athrow, 1)) : zm_RK p l e R s m args below meth c Ω n0 k0 QF (zm_ath r) J (F0 m pc ls (va_rf r :: rest)) := by
  obtain ⟨hx, hb, hown, hts, -, -, -, hK, hw, -⟩ := C
  intro σ o τ H locs h1 h2 h3 h4 h5 h6 h7
  rw [zm_run_bnd] at h1
  cases hh : zm_run (zm_ath r : zm_M α) σ with
  | none => rw [hh] at h1; cases h1
  | some v =>
    obtain ⟨w, υ⟩ := v
    obtain ⟨rfl, a, ci, fs, q, rfl, e2, e3, rfl⟩ := zm_ath_some hh
    rw [hh] at h1
    have hc : Ω.2.2.2[ci]? = some q := by rw [H9.2.1]; exact e3
    obtain ⟨-, cell, g1, g2, g3, -⟩ := h2.obj e2 hc
    exact vz_athrow hx hb hdg (hX pc ls rest q.1 a υ o τ H locs cell h1 h2 h3 h4 h5 h6 h7 g1 g3 (by rw [g2]; exact ((hK.at hw).1 ci q hc).2.1))
theorem rk_aast (C : zm_C p l R s m args meth c Ω Ts cc own nm nL FF LL ret) (hB : Ω.1.heap.size ≤ K.1) {cs : List Nat} (hcs : ∀ ci, ci ∈ cs → zm_asg Ω s "java/lang/Object" ci) {r x : zm_R} {i : Int32} (hdg : decode cc pc = .ok (.aastore, 1)) {f : Unit → zm_M α} (kk : zm_RK p l e R s m args below meth c Ω n0 k0 QF (f ()) J (F0 m (pc + 1) ls rest)) : zm_RK p l e R s m args below meth c Ω n0 k0 QF (zm_bnd (zm_astO K cs r i x) f) J (F0 m pc ls (va_rf x :: .int i :: va_rf r :: rest)) := by
  obtain ⟨hx, hb, hown, hts, -, -, -, hK, hw, -⟩ := C
  refine rk_prim (g' := fun _ => F0 m (pc + 1) ls rest) (zm_st_bnd (x := zm_chk cs [] x) (zm_chk_st cs [] x) fun _ => zm_ast_st zm_cR (fun f => .inr (.inr (.inr (.inr f)))) K (.object "java/lang/Object") r i x) ?_ (fun _ => kk)
  intro σ u τ H locs Q h1 h2 h3 h4 h5 h6 h7 h8
  obtain ⟨u0, υ, h9, h10⟩ := zm_bnd_some (x := zm_chk cs [] x) (zm_chk_st cs [] x) h1
  have h9 : zm_chk0 cs [] x σ = some (.inl u0, υ) := h9
  have h10 : zm_ast0 zm_cR (fun f => .inr (.inr (.inr (.inr f)))) K (.object "java/lang/Object") r i x υ = some (.inl u, τ) := h10
  obtain ⟨rfl, -, hv⟩ := zm_chk_some h9
  obtain ⟨-, a, y, g, rfl, e2, e3, e4, e5, rfl⟩ := zm_ast_some h10
  obtain ⟨n9, z9⟩ := y
  rcases z9 with f9 | f9 | f9 | f9 | f9 <;> simp [zm_cR] at e3
  subst e3
  have hP := h2.arr e2
  have hKt := hK.ty (s := s) hw 6 (ty := .object "java/lang/Object") rfl
  have hend : ∀ H1 : Heap, H1[a]? = some ((vp_cell (Ω.2.2.1 (.object "java/lang/Object")) (n9, .inr (.inr (.inr (.inr f9))))).setSlot i.toNatClampNeg (va_rf x)) → H1.size = H.size → (∀ q, q ≠ a → H1[q]? = H[q]?) → W p l e R s m args below meth c H1 (locs ++ [⟨a, i.toNatClampNeg⟩]) (υ.1 - n0) (υ.2.1 - k0) Q (F0 m (pc + 1) ls rest) := by
    intro H1 e z oq
    refine h8 H1 _ (h2.write z oq (Nat.le_trans hB e4) ?_) ?_
    · refine ⟨(h2.2.1 a _ e2).1, ?_⟩
      show H1[a]? = some (vp_cell _ _)
      rw [e]
      rw [vp_cell_q, vp_cell_q, arrV_store]
      congr 2
      funext q
      by_cases hq : q = i.toNatClampNeg
      · subst hq
        simp [updV, va_up]
      · simp [updV, va_up, hq]
    · intro z9 hz
      rcases List.mem_append.mp hz with h | h
      · exact h3 z9 h
      · rw [List.mem_singleton.mp h]
        exact Nat.le_trans hB e4
  have hin : vp_in i n9 := e5
  have hlt : i.toNatClampNeg < n9 := Nat.not_le.mp fun q => hin (Or.inr q)
  rcases hv with rfl | ⟨v, ci, fs, rfl, v2, v3⟩ | ⟨v, ty, x9, rfl, v2, v3⟩
  · exact va_WaastN (C := "java/lang/Object") hx hb (hP 0 _ rfl) ((hKt.2 0 _ rfl).1 n9 (fun j => va_rf (f9 j))) (fun h => by cases h) (by show ¬ (i < 0 ∨ (arrV _ _ _).slots.size ≤ _); rw [arrV_size]; exact hin) rfl rfl hdg fun H1 e z oq => hend H1 e z oq
  · obtain ⟨q, hc, hc2⟩ := hcs ci v3
    obtain ⟨cellV, g1, g3, g4⟩ := zm_recv hK hw h2 v2 hc
    obtain ⟨kA, comp, k1, k2, k3, -⟩ := (hKt.2 0 _ rfl).2
    obtain ⟨kE, hkE, -⟩ := Vm.findClass_spec k3
    obtain ⟨kC, hkC, -⟩ := Vm.findClass_spec g4
    have hasg : s.vm.assignable cellV.cls comp = true := by
      rcases hc2 with hc2 | hc2
      · obtain ⟨c0, t0, f1, f2, f3⟩ := Cond.castable_spec (va_Nw.use (A := args) rfl hc2)
        cases f1.symm.trans g4
        cases f2.symm.trans k3
        exact f3
      · rw [hc2] at g4
        cases g4.symm.trans k3
        have hcls := ((hK.at hw).1 ci q hc).2
        rw [hc2] at hcls
        have e9 : cellV.cls = Ω.2.1.1 ci := Option.some.inj (g4.symm.trans hcls.1)
        rw [e9]
        exact va_assign hcls
    exact W.aast hx hb (hP 0 _ rfl) (fun q h => by cases h) (fun h => by cases h) k1 k2 rfl hkE ⟨fun q => hin (Or.inl q), by show _ < (arrV _ _ _).slots.size; rw [arrV_size]; exact hlt⟩ g1 (fun q h => by rw [h] at g3; cases g3) hkC hasg rfl rfl hdg fun H1 e z oq => hend H1 e z oq
  · cases v3
theorem rk_anew (C : zm_C p l R s m args meth c Ω Ts cc own nm nL FF LL ret) {index : Nat} (hcl : Cond.classLink own index "java/lang/Object" ∈ Ts) (hover : (Cond.arrayOver (.object "java/lang/Object")).before args s = true) {n : Int32} (hdg : decode cc pc = .ok (.anewarray index, 3)) {f : Nat → zm_M α}
    (kk : ∀ q, zm_RK p l e R s m args below meth c Ω n0 k0 QF (f q) J (F0 m (pc + 3) ls (va_rf (some q) :: rest))) : zm_RK p l e R s m args below meth c Ω n0 k0 QF (zm_bnd (zm_newa (.object "java/lang/Object") (.inr (.inr (.inr (.inr fun _ => none)))) n) f) J (F0 m pc ls (.int n :: rest)) := by
  obtain ⟨hx, hb, hown, hts, -, -, -, hK, hw, -⟩ := C
  refine rk_prim (g' := fun q => F0 m (pc + 3) ls (va_rf (some q) :: rest)) (zm_newa_st (.object "java/lang/Object") (.inr (.inr (.inr (.inr fun _ => none)))) n) ?_ kk
  intro σ x τ H locs Q h1 h2 h3 h4 h5 h6 h7 h8
  obtain ⟨h9, h10, e1, rfl⟩ := zm_newa_some h1
  cases e1
  dsimp only at h6 h7 h8
  have h10 : n.toNatClampNeg * 4 ≤ 536870912 := h10
  refine W.anew hx hb hown (hts _ hcl) hover rfl hdg rfl h9 h10 (by omega) (by omega) fun cA kA comp f1 f2 f3 f4 => ?_
  have hKt := hK.ty (s := s) hw 6 (ty := .object "java/lang/Object") rfl
  have hcA : cA = Ω.2.2.1 (.object "java/lang/Object") := by
    obtain ⟨-, -, -, -, -, h4⟩ := (hKt.2 0 _ rfl).2
    exact Option.some.inj (f1.symm.trans h4)
  have hz1 : σ.1 - n0 + 1 = σ.1 + 1 - n0 := by omega
  have hy1 : σ.2.1 - k0 + n.toNatClampNeg = σ.2.1 + n.toNatClampNeg - k0 := by omega
  rw [hz1, hy1, h2.1]
  refine h8 _ locs (h2.push (by rw [Array.size_push]) (fun q hq => by rw [Array.getElem?_push, if_neg (Nat.ne_of_lt hq)]) ⟨List.mem_of_getElem? (i := 6) rfl, ?_⟩) h3
  rw [← h2.1, Array.getElem?_push_size, ← hcA]
  congr 1
  rw [vp_cell_q]
  exact (arrV_new _ _ _)
/-- arraycopy, at the heap -/
theorem zm_cpH {cells slots : Nat} {H : Heap} {locs : List Loc} {Q : State → Prop} (C : zm_C p l R s m args meth c Ω Ts cc own nm nL FF LL ret) (hml : ls.size = nL) {index : Nat} (hlink : Cond.methodLink own index arraycopyName ∈ Ts) (hnat : Cond.native arraycopyName ∈ Ts) (hstat : Cond.static arraycopyName ∈ Ts) (hini : Cond.initialized "java/lang/System" ∈ Ts)
    {γ : Type} {mk : γ → Value} {a0 a : Nat} {c0 c1 : ClassId} {n9 n8 : Nat} {f g : Nat → γ} {ty : FieldType} (ha0 : H[a0]? = some (arrV c0 n9 (fun j => mk (f j)))) (ha1 : H[a]? = some (arrV c1 n8 (fun j => mk (g j)))) (hr0 : ArrOfT s c0 ty) (hr1 : ArrOfT s c1 ty) {sp dp n : Int32} (h1 : ¬ sp < 0) (h2 : ¬ dp < 0) (h3 : ¬ n < 0) (h4 : sp.toNatClampNeg + n.toNatClampNeg ≤ n9) (h5 : dp.toNatClampNeg + n.toNatClampNeg ≤ n8)
    (hel : ∀ (T : State) (comp : ClassId) (k : Class), T.heap = H → s.vm.classes[c1]? = some k → k.kind = .array comp ty → ∀ vm', s.vm.Alike vm' → ∀ i, i < n.toNatClampNeg → fits ty (mk (f (sp.toNatClampNeg + i))) = true ∧ (T.setVm vm').takes comp (mk (f (sp.toNatClampNeg + i))))
    (hF : 1 ≤ FF) (hL : (rest.map fun v => v.category).sum + (nativeFrameWords "java/lang/System" "arraycopy" 5 + 11) ≤ LL) (hdg : decode cc pc = .ok (.invokestatic index, 3))
    (kk : ∀ (H1 : Heap) (L : List Loc), H1[a]? = some (arrV c1 n8 (fun j => mk (va_cpy f g sp.toNatClampNeg dp.toNatClampNeg n.toNatClampNeg j))) → H1.size = H.size → (∀ q, q ≠ a → H1[q]? = H[q]?) → (∀ z ∈ L, z.base = a) → W p l e R s m args below meth c H1 (locs ++ L) cells slots Q (F0 m (pc + 3) ls rest)) : W p l e R s m args below meth c H locs cells slots Q (F0 m pc ls (.int n :: .int dp :: .ref a :: .int sp :: .ref a0 :: rest)) := by
  obtain ⟨hx, hb, hown, hts, hnl, -, -, hK, hw, -, hfr, hlo, -⟩ := C
  have nn : ∀ z : Int32, ¬ z < 0 → z.toInt = (z.toNatClampNeg : Int) := by
    intro z hz
    have hz0 : (0 : Int) ≤ z.toInt := by
      have := Int32.not_lt.mp hz
      simpa using Int32.le_iff_toInt_le.mp this
    show z.toInt = ((z.toInt.toNat : Nat) : Int)
    omega
  intro T hT X
  obtain ⟨-, k0, hk0, cm0, hkk0⟩ := hr0 n9 (fun j => mk (f j))
  obtain ⟨-, k1, hk1, cm1, hkk1⟩ := hr1 n8 (fun j => mk (g j))
  obtain ⟨vm', X', step⟩ := X.arraycopy hx hown (hts _ hlink) (hts _ hnat) (hts _ hstat) (hts _ hini) (src := a0) (dst := a) (cs := arrV c0 n9 (fun j => mk (f j))) (cd := arrV c1 n8 (fun j => mk (g j))) (srcPos := sp) (destPos := dp) (n := n) (by rw [hT]; exact ha0) (by rw [hT]; exact ha1)
    (fun _ h => by cases h) (fun _ h => by cases h) (fun h => by cases h) (fun h => by cases h) hk0 hk1 hkk0 hkk1 (by cases hrk : refKind ty <;> simp) h1 h2 h3
    (by rw [nn sp h1, nn n h3]; show ¬ _ > ((arrV c0 n9 (fun j => mk (f j))).slots.size : Int); rw [arrV_size]; omega)
    (by rw [nn dp h2, nn n h3]; show ¬ _ > ((arrV c1 n8 (fun j => mk (g j))).slots.size : Int); rw [arrV_size]; omega)
    (fun vm₁ hal i hi => by
      have e : (arrV c0 n9 (fun j => mk (f j))).slots.getD (sp.toNatClampNeg + i) .null = mk (f (sp.toNatClampNeg + i)) := by
        rw [Array.getD_eq_getD_getElem?, arrV_read _ _ (by omega)]
        rfl
      rw [e]
      exact hel T cm1 k1 hT hk1 hkk1 vm₁ hal i hi)
    (g := F0 m pc ls (.int n :: .int dp :: .ref a :: .int sp :: .ref a0 :: rest)) rfl (by rw [hnl]; exact hml) (rest := rest) rfl (by rw [hb]; exact hdg) (by rw [hfr]; exact hF) (by rw [hlo]; show 2 * 0 + _ + _ ≤ _; omega)
  have e1 : copied (arrV c0 n9 (fun j => mk (f j))) (arrV c1 n8 (fun j => mk (g j))) sp dp n = arrV c1 n8 (fun j => mk (va_cpy f g sp.toNatClampNeg dp.toNatClampNeg n.toNatClampNeg j)) := va_copied mk c0 c1 f g h4
  rw [e1] at X' step
  have hl : a < H.size := (Array.getElem?_eq_some_iff.mp ha1).1
  generalize hN : arrV c1 n8 (fun j => mk (va_cpy f g sp.toNatClampNeg dp.toNatClampNeg n.toNatClampNeg j)) = N at X' step kk
  have hheap : ((T.setVm vm').setCell a N).heap = H.setIfInBounds a N := by rw [← hT]; rfl
  obtain ⟨t, a1, b1⟩ := kk _ _ (show (H.setIfInBounds a N)[a]? = some N by simp [Array.getElem?_setIfInBounds, hl]) (by simp) (fun q hq => by simp [Array.getElem?_setIfInBounds, Ne.symm hq]) (fun z hz => by
      obtain ⟨z9, -, hz9⟩ := List.mem_map.mp hz
      rw [← hz9]) _ hheap X'
  exact ⟨t, step t a1, b1⟩
theorem zm_rep.cell {σ : zm_S} {H : Heap} {a : Nat} {ty : FieldType} {x : vp_A} (h : zm_rep Ω σ H) (ha : σ.2.2 a = some (.inl (ty, x))) : H[a]? = some (vp_cell (Ω.2.2.1 ty) x) ∧ ty ∈ zm_tys := ⟨(h.2.1 a _ ha).2, (h.2.1 a _ ha).1⟩
theorem rk_cpB (C : zm_C p l R s m args meth c Ω Ts cc own nm nL FF LL ret) (hB : Ω.1.heap.size ≤ K.1) (hml : ls.size = nL) {index : Nat} (hlink : Cond.methodLink own index arraycopyName ∈ Ts) (hnat : Cond.native arraycopyName ∈ Ts) (hstat : Cond.static arraycopyName ∈ Ts) (hini : Cond.initialized "java/lang/System" ∈ Ts) {r t : zm_R} {sp dp n : Int32} {f : Unit → zm_M α}
    (hF : 1 ≤ FF) (hL : (rest.map fun v => v.category).sum + 28 ≤ LL) (hdg : decode cc pc = .ok (.invokestatic index, 3))
    (kk : zm_RK p l e R s m args below meth c Ω n0 k0 QF (f ()) J (F0 m (pc + 3) ls rest)) : zm_RK p l e R s m args below meth c Ω n0 k0 QF (zm_bnd (zm_cpB K r sp t dp n) f) J (F0 m pc ls (.int n :: .int dp :: va_rf t :: .int sp :: va_rf r :: rest)) := by
  have C9 := C
  obtain ⟨hx, hb, hown, hts, -, -, -, hK, hw, -⟩ := C
  refine rk_prim (g' := fun _ => F0 m (pc + 3) ls rest) (zm_cpB_st K r sp t dp n) ?_ (fun _ => kk)
  intro σ u τ H locs Q h1 h2 h3 h4 h5 h6 h7 h8
  have h1 : zm_cpB0 K r sp t dp n σ = some (.inl u, τ) := h1
  obtain ⟨-, a, b, x, y, f9, g9, rfl, rfl, e1, e2, e3, e4, ⟨q1, q2, q3, q4, q5, q6⟩, q7, rfl⟩ := zm_cpB_some h1
  obtain ⟨n9, z9⟩ := x
  rcases z9 with z9 | z9 | z9 | z9 | z9 <;> simp [zm_cI] at e3
  obtain ⟨n8, z8⟩ := y
  rcases z8 with z8 | z8 | z8 | z8 | z8 <;> simp [zm_cI] at e4
  subst e3
  subst e4
  have hKt := hK.ty (s := s) hw 2 (ty := .byte) rfl
  have hr := (hKt.2 0 _ rfl).1
  have hc1 := (h2.cell e1).1
  have hc2 := (h2.cell e2).1
  rw [vp_cell_i] at hc1 hc2
  refine zm_cpH C9 hml hlink hnat hstat hini (mk := fun z => .int z) hc1 hc2 hr hr q1 q2 q3 q4 q5 (fun T comp k _ _ _ vm' _ i hi => ⟨q7 i hi, trivial⟩) hF (by have : nativeFrameWords "java/lang/System" "arraycopy" 5 + 11 ≤ 28 := (by decide); omega) hdg fun H1 L e z oq hL9 => ?_
  refine h8 H1 _ (h2.write z oq (Nat.le_trans hB q6) ⟨(h2.cell e2).2, ?_⟩) ?_
  · show H1[b]? = some (vp_cell _ _)
    rw [vp_cell_i]
    exact e
  · intro z9 hz
    rcases List.mem_append.mp hz with h | h
    · exact h3 z9 h
    · rw [hL9 z9 h]
      exact Nat.le_trans hB q6
theorem rk_cpR (C : zm_C p l R s m args meth c Ω Ts cc own nm nL FF LL ret) (hB : Ω.1.heap.size ≤ K.1) (hml : ls.size = nL) {cs : List Nat} (hcs : ∀ ci, ci ∈ cs → zm_asg Ω s "java/lang/Object" ci) {index : Nat} (hlink : Cond.methodLink own index arraycopyName ∈ Ts) (hnat : Cond.native arraycopyName ∈ Ts) (hstat : Cond.static arraycopyName ∈ Ts) (hini : Cond.initialized "java/lang/System" ∈ Ts) {r t : zm_R} {sp dp n : Int32} {f : Unit → zm_M α}
    (hF : 1 ≤ FF) (hL : (rest.map fun v => v.category).sum + 28 ≤ LL) (hdg : decode cc pc = .ok (.invokestatic index, 3))
    (kk : zm_RK p l e R s m args below meth c Ω n0 k0 QF (f ()) J (F0 m (pc + 3) ls rest)) : zm_RK p l e R s m args below meth c Ω n0 k0 QF (zm_bnd (zm_cpR K cs r sp t dp n) f) J (F0 m pc ls (.int n :: .int dp :: va_rf t :: .int sp :: va_rf r :: rest)) := by
  have C9 := C
  obtain ⟨hx, hb, hown, hts, -, -, -, hK, hw, -⟩ := C
  refine rk_prim (g' := fun _ => F0 m (pc + 3) ls rest) (zm_cpR_st K cs r sp t dp n) ?_ (fun _ => kk)
  intro σ u τ H locs Q h1 h2 h3 h4 h5 h6 h7 h8
  have h1 : zm_cpR0 K cs r sp t dp n σ = some (.inl u, τ) := h1
  obtain ⟨-, a, b, x, y, f9, g9, rfl, rfl, e1, e2, e3, e4, ⟨q1, q2, q3, q4, q5, q6⟩, q7, rfl⟩ := zm_cpR_some h1
  obtain ⟨n9, z9⟩ := x
  rcases z9 with z9 | z9 | z9 | z9 | z9 <;> simp [zm_cR] at e3
  obtain ⟨n8, z8⟩ := y
  rcases z8 with z8 | z8 | z8 | z8 | z8 <;> simp [zm_cR] at e4
  subst e3
  subst e4
  have hKt := hK.ty (s := s) hw 6 (ty := .object "java/lang/Object") rfl
  have hr := (hKt.2 0 _ rfl).1
  have hc1 := (h2.cell e1).1
  have hc2 := (h2.cell e2).1
  rw [vp_cell_q] at hc1 hc2
  refine zm_cpH C9 hml hlink hnat hstat hini (mk := fun z => va_rf z) hc1 hc2 hr hr q1 q2 q3 q4 q5 (fun T comp k hT hk hkk vm' hal i hi => ?_) hF (by have : nativeFrameWords "java/lang/System" "arraycopy" 5 + 11 ≤ 28 := (by decide); omega) hdg fun H1 L e z oq hL9 => ?_
  · have q8 := q7 i hi
    cases hy : z9 (sp.toNatClampNeg + i) with
    | none => exact ⟨rfl, trivial⟩
    | some v =>
      rw [hy] at q8
      cases hch : zm_chk0 cs [] (some v) σ with
      | none => exact absurd hch q8
      | some w =>
        obtain ⟨-, -, hv⟩ := zm_chk_some hch
        rcases hv with hv | ⟨v', ci, fs, hv, v2, v3⟩ | ⟨v', ty, x9, hv, v2, v3⟩
        · cases hv
        · cases hv
          obtain ⟨q, hc, hc2⟩ := hcs ci v3
          obtain ⟨cellV, g1, g3, g4⟩ := zm_recv hK hw h2 v2 hc
          obtain ⟨kC, hkC, -⟩ := Vm.findClass_spec g4
          obtain ⟨kA, comp', k1, k2, k3, -⟩ := (hKt.2 0 _ rfl).2
          cases hk.symm.trans k1
          cases hkk.symm.trans k2
          obtain ⟨kE, hkE, -⟩ := Vm.findClass_spec k3
          obtain ⟨kC', hkC', -⟩ := hal.2.2 _ _ hkC
          obtain ⟨kE', hkE', -⟩ := hal.2.2 _ _ hkE
          have hasg : s.vm.assignable cellV.cls comp = true := by
            rcases hc2 with hc2 | hc2
            · obtain ⟨c0, t0, f1, f2, f3⟩ := Cond.castable_spec (va_Nw.use (A := args) rfl hc2)
              cases f1.symm.trans g4
              cases f2.symm.trans k3
              exact f3
            · rw [hc2] at g4
              cases g4.symm.trans k3
              have hcls := ((hK.at hw).1 ci q hc).2
              rw [hc2] at hcls
              have e9 : cellV.cls = Ω.2.1.1 ci := Option.some.inj (g4.symm.trans hcls.1)
              rw [e9]
              exact va_assign hcls
          refine ⟨rfl, cellV, (show T.heap[v]? = some cellV by rw [hT]; exact g1), (fun q h => by rw [h] at g3; cases g3), ⟨kC', hkC'⟩, ⟨kE', hkE'⟩, ?_⟩
          show vm'.assignable _ _ = true
          rw [hal.assignable]
          exact hasg
        · cases v3
  · refine h8 H1 _ (h2.write z oq (Nat.le_trans hB q6) ⟨(h2.cell e2).2, ?_⟩) ?_
    · show H1[b]? = some (vp_cell _ _)
      rw [vp_cell_q]
      exact e
    · intro z9 hz
      rcases List.mem_append.mp hz with h | h
      · exact h3 z9 h
      · rw [hL9 z9 h]
        exact Nat.le_trans hB q6
theorem rk_clnB (C : zm_C p l R s m args meth c Ω Ts cc own nm nL FF LL ret) (hml : ls.size = nL) {index : Nat} (hlink : Cond.methodLink own index ⟨"[B", "clone", "()Ljava/lang/Object;"⟩ ∈ Ts) (hsame : (Cond.sameMethod "[B" "java/lang/Object" "clone" "()Ljava/lang/Object;").before args s = true)
    (hnat : Cond.native ⟨"java/lang/Object", "clone", "()Ljava/lang/Object;"⟩ ∈ Ts) (hinst : Cond.instanceMethod ⟨"java/lang/Object", "clone", "()Ljava/lang/Object;"⟩ ∈ Ts) (hsel : (Cond.selects "[B" ⟨"[B", "clone", "()Ljava/lang/Object;"⟩ ⟨"java/lang/Object", "clone", "()Ljava/lang/Object;"⟩).before args s = true) (hcl : (Cond.castable "[B" "java/lang/Cloneable").before args s = true)
    {r : zm_R} {f : zm_R → zm_M α} (hF : 1 ≤ FF) (hL : (rest.map fun v => v.category).sum + 14 ≤ LL) (hdg : decode cc pc = .ok (.invokevirtual index, 3))
    (kk : ∀ v, zm_RK p l e R s m args below meth c Ω n0 k0 QF (f v) J (F0 m (pc + 3) ls (va_rf v :: rest))) : zm_RK p l e R s m args below meth c Ω n0 k0 QF (zm_bnd (zm_clnB r) f) J (F0 m pc ls (va_rf r :: rest)) := by
  obtain ⟨hx, hb, hown, hts, hnl, -, -, hK, hw, -, hfr, hlo, -⟩ := C
  refine rk_prim (g' := fun v => F0 m (pc + 3) ls (va_rf v :: rest)) (zm_clnB_st r) ?_ kk
  intro σ u τ H locs Q h1 h2 h3 h4 h5 h6 h7 h8
  have h1 : zm_clnB0 r σ = some (.inl u, τ) := h1
  obtain ⟨e0, a, x, f9, rfl, e2, e3, e4, rfl⟩ := zm_clnB_some h1
  cases e0
  obtain ⟨n9, z9⟩ := x
  rcases z9 with z9 | z9 | z9 | z9 | z9 <;> simp [zm_cI] at e3
  subst e3
  have hKt := hK.ty (s := s) hw 2 (ty := .byte) rfl
  have hr := (hKt.2 0 _ rfl).1
  have hnm : s.vm.findClass "[B" = some (Ω.2.2.1 .byte) := (hKt.2 0 _ rfl).2
  have hc1 := (h2.cell e2).1
  rw [vp_cell_i] at hc1
  obtain ⟨c0, t0', f1, f2, f3⟩ := Cond.castable_spec hcl
  cases hnm.symm.trans f1
  intro T hT X
  obtain ⟨-, kA, hkA, comp, hkind⟩ := State.isArrayOf_alike X.warmed.alike (hr 0 (fun _ => .null))
  obtain ⟨-, kS, hkS, compS, hkindS⟩ := hr 0 (fun _ => .null)
  have hsz : (arrV (Ω.2.2.1 .byte) n9 (fun j => Value.int (z9 j))).slots.size = n9 := arrV_size _ _ _
  dsimp only at h6 h7 h8
  obtain ⟨vm', X', st⟩ := X.cloneArray hx hown (hts _ hlink) hsame (hts _ hnat) (hts _ hinst) hsel (a := a) (cell := arrV (Ω.2.2.1 .byte) n9 (fun j => Value.int (z9 j))) (by rw [hT]; exact hc1) (fun k h => by cases h) (fun h => by cases h) hnm f2 f3
    (fun i v hv => by
      have hlt : i < n9 := by rw [← hsz]; exact (Array.getElem?_eq_some_iff.mp hv).1
      rw [arrV_read _ _ hlt] at hv
      cases hv
      have hk' : T.vm.classes[Ω.2.2.1 .byte]? = some kA := hkA
      show T.fitsSlot (Ω.2.2.1 .byte) .none i _ = true
      simpa [State.fitsSlot, State.slotType?, hk', hkind] using e4 i hlt)
    (g := F0 m pc ls (.ref a :: rest)) rfl (by rw [hnl]; exact hml) rfl (by rw [hb]; exact hdg) (by rw [hfr]; exact hF) (by rw [hlo]; show 2 * 0 + _ + 14 ≤ _; omega) (by omega) (by rw [hsz]; omega) (hloader := Vm.clonesLoader_of_array hkS hkindS)
  have hcellE : ({ cls := (arrV (Ω.2.2.1 .byte) n9 (fun j => Value.int (z9 j))).cls, slots := (arrV (Ω.2.2.1 .byte) n9 (fun j => Value.int (z9 j))).slots } : Cell) = arrV (Ω.2.2.1 .byte) n9 (fun j => Value.int (z9 j)) := rfl
  rw [hcellE, hsz] at X'
  rw [hcellE, hT] at st
  have hz1 : σ.1 - n0 + 1 = σ.1 + 1 - n0 := by omega
  have hy1 : σ.2.1 - k0 + n9 = σ.2.1 + n9 - k0 := by omega
  rw [hz1, hy1] at X'
  generalize hN : arrV (Ω.2.2.1 .byte) n9 (fun j => Value.int (z9 j)) = N at X' st
  obtain ⟨t, b1, b2⟩ := h8 (H.push N) locs (h2.push (by rw [Array.size_push]) (fun q hq => by rw [Array.getElem?_push, if_neg (Nat.ne_of_lt hq)]) ⟨(h2.cell e2).2, by
      show (H.push N)[σ.1]? = some (vp_cell _ _)
      rw [← h2.1, Array.getElem?_push_size, vp_cell_i, hN]⟩) h3 ((T.setVm vm').pushCell N) (by rw [← hT]; rfl) X'
  refine ⟨t, st t ?_, b2⟩
  rw [h2.1]
  exact b1
/-- the class object of the type Object[] -/
theorem rk_getC (C : zm_C p l R s m args meth c Ω Ts cc own nm nL FF LL ret) (hml : ls.size = nL) {index : Nat} (hlink : Cond.methodLink own index ⟨"java/lang/Object", "getClass", "()Ljava/lang/Class;"⟩ ∈ Ts) (hdecl : (Cond.declares ⟨"java/lang/Object", "getClass", "()Ljava/lang/Class;"⟩).before args s = true)
    (hsel : (Cond.selects "[Ljava/lang/Object;" ⟨"java/lang/Object", "getClass", "()Ljava/lang/Class;"⟩ ⟨"java/lang/Object", "getClass", "()Ljava/lang/Class;"⟩).before args s = true) (hinst : Cond.instanceMethod ⟨"java/lang/Object", "getClass", "()Ljava/lang/Class;"⟩ ∈ Ts) (hnat : Cond.native ⟨"java/lang/Object", "getClass", "()Ljava/lang/Class;"⟩ ∈ Ts)
    {r mi9 : zm_R} (hM : ∃ mi, mi9 = some mi ∧ va_Mi "[Ljava/lang/Object;" mi Ω.1) {f : Unit → zm_M α} (hF : 1 ≤ FF) (hL : (rest.map fun v => v.category).sum + 14 ≤ LL) (hdg : decode cc pc = .ok (.invokevirtual index, 3))
    (kk : zm_RK p l e R s m args below meth c Ω n0 k0 QF (f ()) J (F0 m (pc + 3) ls (va_rf mi9 :: rest))) : zm_RK p l e R s m args below meth c Ω n0 k0 QF (zm_bnd (zm_isA r (.object "java/lang/Object")) f) J (F0 m pc ls (va_rf r :: rest)) := by
  obtain ⟨hx, hb, hown, hts, hnl, -, -, hK, hw, -, hfr, hlo, -⟩ := C
  obtain ⟨mi, rfl, hM⟩ := hM
  refine rk_prim (g' := fun _ => F0 m (pc + 3) ls (va_rf (some mi) :: rest)) (zm_isA_st r _) ?_ (fun _ => kk)
  intro σ u τ H locs Q h1 h2 h3 h4 h5 h6 h7 h8
  have h1 : (zm_arr r (.object "java/lang/Object") σ).map (fun _ => ((Sum.inl () : Unit ⊕ zm_X), σ)) = some (.inl u, τ) := h1
  simp only [Option.map_eq_some_iff, Prod.mk.injEq] at h1
  obtain ⟨q, q1, -, rfl⟩ := h1
  obtain ⟨rfl, q2⟩ := zm_arr_some q1
  have hKt := hK.ty (s := s) hw 6 (ty := .object "java/lang/Object") rfl
  have hnm : s.vm.findClass "[Ljava/lang/Object;" = some (Ω.2.2.1 (.object "java/lang/Object")) := va_nmO (hKt.2 0 _ rfl).2 rfl
  have hvm0 : (vp_cell (Ω.2.2.1 (.object "java/lang/Object")) q.2).vm = .none := by
    obtain ⟨_, n, f | f | f | f | f⟩ := q <;> rfl
  have hcl0 : (vp_cell (Ω.2.2.1 (.object "java/lang/Object")) q.2).cls = Ω.2.2.1 (.object "java/lang/Object") := by
    obtain ⟨_, n, f | f | f | f | f⟩ := q <;> rfl
  exact va_getC hx hb (by rw [hnl, hml]) hown (hts _ hlink) hdecl hsel (hts _ hinst) (hts _ hnat) (va_Mi.moved hw.alike hM) ⟨_, (h2.cell q2).1, by rw [hvm0]; rfl, by rw [hcl0]; exact hnm⟩ (by rw [hfr]; exact hF) (by rw [hlo]; exact hL) hdg (h8 H locs h2 h3)
theorem zs_ldcM {cells slots : Nat} {H : Heap} {locs : List Loc} {Q : State → Prop} (C : zm_C p l R s m args meth c Ω Ts cc own nm nL FF LL ret) {index : Nat} {mi9 : zm_R} {cn : String} (hM : ∃ mi, mi9 = some mi ∧ va_Mi cn mi Ω.1) (hlink : Cond.classLink own index cn ∈ Ts) (hdg : decode cc pc = .ok (.ldc index, 2))
    (k : W p l e R s m args below meth c H locs cells slots Q (F0 m (pc + 2) ls (va_rf mi9 :: rest))) : W p l e R s m args below meth c H locs cells slots Q (F0 m pc ls rest) := by
  obtain ⟨hx, hb, hown, hts, hnl, -, -, hK, hw, -⟩ := C
  obtain ⟨mi, rfl, hM⟩ := hM
  exact va_ldcM hx hb hown (hts _ hlink) (va_Mi.moved hw.alike hM) hdg k
end ZV
