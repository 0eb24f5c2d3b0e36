section ZA
variable {p : Program} {l : Launch} {e : Env} {R : Room} {s : State} {m : MethodId} {args : Array Value} {below : List Frame} {meth : Method} {c : Code} {Ω : zm_W} {Ts : List Cond} {cc : ByteArray} {own nm : String} {nL FF LL : Nat} {ret : Option FieldType}
variable {ρ : Type} {n0 k0 : Nat} {QF : (ρ ⊕ zm_X) → zm_S → State → Prop}
variable {α : Type} {J : α → zm_M ρ} {pc : Nat} {ls : Array Slot} {rest : List Value} {K : zm_K}
theorem vp_cellJ (cA : ClassId) (n : Nat) (f : Nat → Int64) : vp_cell cA (n, .inr (.inl f)) = arrV cA n (fun j => .long (f j)) := rfl
theorem rk_iald (C : zm_C p l R s m args meth c Ω Ts cc own nm nL FF LL ret) {r : zm_R} {i : Int32} (hdg : decode cc pc = .ok (.iaload, 1)) {f : Int32 → zm_M α} (kk : ∀ x, zm_RK p l e R s m args below meth c Ω n0 k0 QF (f x) J (F0 m (pc + 1) ls (.int x :: rest))) : zm_RK p l e R s m args below meth c Ω n0 k0 QF (zm_bnd (zm_aldI .int r i) f) J (F0 m pc ls (.int i :: va_rf r :: rest)) := by
  obtain ⟨hx, hb, hown, hts, -, -, -, hK, hw, -⟩ := C
  refine rk_prim (g' := fun x => F0 m (pc + 1) ls (.int x :: rest)) (zm_ald_st zm_cI .int r i) ?_ kk
  intro σ x τ H locs Q h1 h2 h3 h4 h5 h6 h7 h8
  obtain ⟨rfl, a, y, g, rfl, e2, e3, e4, e5⟩ := zm_ald_some h1
  cases e5
  obtain ⟨n9, z9⟩ := y
  rcases z9 with f9 | f9 | f9 | f9 | f9 <;> simp [zm_cI] at e3
  subst e3
  exact va_iald hx hb (hK.ty hw 0 rfl) (h2.arr e2) 0 0 rfl rfl e4 hdg (h8 H locs h2 h3)
theorem rk_zald (C : zm_C p l R s m args meth c Ω Ts cc own nm nL FF LL ret) {r : zm_R} {i : Int32} (hdg : decode cc pc = .ok (.baload, 1)) {f : Int32 → zm_M α} (kk : ∀ x, zm_RK p l e R s m args below meth c Ω n0 k0 QF (f x) J (F0 m (pc + 1) ls (.int x :: rest))) : zm_RK p l e R s m args below meth c Ω n0 k0 QF (zm_bnd (zm_aldI .boolean r i) f) J (F0 m pc ls (.int i :: va_rf r :: rest)) := by
  obtain ⟨hx, hb, hown, hts, -, -, -, hK, hw, -⟩ := C
  refine rk_prim (g' := fun x => F0 m (pc + 1) ls (.int x :: rest)) (zm_ald_st zm_cI .boolean r i) ?_ kk
  intro σ x τ H locs Q h1 h2 h3 h4 h5 h6 h7 h8
  obtain ⟨rfl, a, y, g, rfl, e2, e3, e4, e5⟩ := zm_ald_some h1
  cases e5
  obtain ⟨n9, z9⟩ := y
  rcases z9 with f9 | f9 | f9 | f9 | f9 <;> simp [zm_cI] at e3
  subst e3
  exact va_zald hx hb (hK.ty hw 1 rfl) (h2.arr e2) 0 0 rfl rfl e4 hdg (h8 H locs h2 h3)
theorem rk_bald (C : zm_C p l R s m args meth c Ω Ts cc own nm nL FF LL ret) {r : zm_R} {i : Int32} (hdg : decode cc pc = .ok (.baload, 1)) {f : Int32 → zm_M α} (kk : ∀ x, zm_RK p l e R s m args below meth c Ω n0 k0 QF (f x) J (F0 m (pc + 1) ls (.int x :: rest))) : zm_RK p l e R s m args below meth c Ω n0 k0 QF (zm_bnd (zm_aldI .byte r i) f) J (F0 m pc ls (.int i :: va_rf r :: rest)) := by
  obtain ⟨hx, hb, hown, hts, -, -, -, hK, hw, -⟩ := C
  refine rk_prim (g' := fun x => F0 m (pc + 1) ls (.int x :: rest)) (zm_ald_st zm_cI .byte r i) ?_ kk
  intro σ x τ H locs Q h1 h2 h3 h4 h5 h6 h7 h8
  obtain ⟨rfl, a, y, g, rfl, e2, e3, e4, e5⟩ := zm_ald_some h1
  cases e5
  obtain ⟨n9, z9⟩ := y
  rcases z9 with f9 | f9 | f9 | f9 | f9 <;> simp [zm_cI] at e3
  subst e3
  exact va_bald hx hb (hK.ty hw 2 rfl) (h2.arr e2) 0 0 rfl rfl e4 hdg (h8 H locs h2 h3)
theorem rk_cald (C : zm_C p l R s m args meth c Ω Ts cc own nm nL FF LL ret) {r : zm_R} {i : Int32} (hdg : decode cc pc = .ok (.caload, 1)) {f : Int32 → zm_M α} (kk : ∀ x, zm_RK p l e R s m args below meth c Ω n0 k0 QF (f x) J (F0 m (pc + 1) ls (.int x :: rest))) : zm_RK p l e R s m args below meth c Ω n0 k0 QF (zm_bnd (zm_aldI .char r i) f) J (F0 m pc ls (.int i :: va_rf r :: rest)) := by
  obtain ⟨hx, hb, hown, hts, -, -, -, hK, hw, -⟩ := C
  refine rk_prim (g' := fun x => F0 m (pc + 1) ls (.int x :: rest)) (zm_ald_st zm_cI .char r i) ?_ kk
  intro σ x τ H locs Q h1 h2 h3 h4 h5 h6 h7 h8
  obtain ⟨rfl, a, y, g, rfl, e2, e3, e4, e5⟩ := zm_ald_some h1
  cases e5
  obtain ⟨n9, z9⟩ := y
  rcases z9 with f9 | f9 | f9 | f9 | f9 <;> simp [zm_cI] at e3
  subst e3
  exact va_cald hx hb (hK.ty hw 3 rfl) (h2.arr e2) 0 0 rfl rfl e4 hdg (h8 H locs h2 h3)
theorem rk_lald (C : zm_C p l R s m args meth c Ω Ts cc own nm nL FF LL ret) {r : zm_R} {i : Int32} (hdg : decode cc pc = .ok (.laload, 1)) {f : Int64 → zm_M α} (kk : ∀ x, zm_RK p l e R s m args below meth c Ω n0 k0 QF (f x) J (F0 m (pc + 1) ls (.long x :: rest))) : zm_RK p l e R s m args below meth c Ω n0 k0 QF (zm_bnd (zm_aldJ r i) f) J (F0 m pc ls (.int i :: va_rf r :: rest)) := by
  obtain ⟨hx, hb, hown, hts, -, -, -, hK, hw, -⟩ := C
  refine rk_prim (g' := fun x => F0 m (pc + 1) ls (.long x :: rest)) (zm_ald_st zm_cJ .long r i) ?_ kk
  intro σ x τ H locs Q h1 h2 h3 h4 h5 h6 h7 h8
  obtain ⟨rfl, a, y, g, rfl, e2, e3, e4, e5⟩ := zm_ald_some h1
  cases e5
  obtain ⟨n9, z9⟩ := y
  rcases z9 with f9 | f9 | f9 | f9 | f9 <;> simp [zm_cJ] at e3
  subst e3
  exact va_lald hx hb (hK.ty hw 4 rfl) (h2.arr e2) 0 0 rfl rfl e4 hdg (h8 H locs h2 h3)
theorem rk_dald (C : zm_C p l R s m args meth c Ω Ts cc own nm nL FF LL ret) {r : zm_R} {i : Int32} (hdg : decode cc pc = .ok (.daload, 1)) {f : UInt64 → zm_M α} (kk : ∀ x, zm_RK p l e R s m args below meth c Ω n0 k0 QF (f x) J (F0 m (pc + 1) ls (.double x :: rest))) : zm_RK p l e R s m args below meth c Ω n0 k0 QF (zm_bnd (zm_aldD r i) f) J (F0 m pc ls (.int i :: va_rf r :: rest)) := by
  obtain ⟨hx, hb, hown, hts, -, -, -, hK, hw, -⟩ := C
  refine rk_prim (g' := fun x => F0 m (pc + 1) ls (.double x :: rest)) (zm_ald_st zm_cD .double r i) ?_ kk
  intro σ x τ H locs Q h1 h2 h3 h4 h5 h6 h7 h8
  obtain ⟨rfl, a, y, g, rfl, e2, e3, e4, e5⟩ := zm_ald_some h1
  cases e5
  obtain ⟨n9, z9⟩ := y
  rcases z9 with f9 | f9 | f9 | f9 | f9 <;> simp [zm_cD] at e3
  subst e3
  exact va_dald hx hb (hK.ty hw 5 rfl) (h2.arr e2) 0 0 rfl rfl e4 hdg (h8 H locs h2 h3)
theorem rk_aald (C : zm_C p l R s m args meth c Ω Ts cc own nm nL FF LL ret) {r : zm_R} {i : Int32} (hdg : decode cc pc = .ok (.aaload, 1)) {f : zm_R → zm_M α} (kk : ∀ x, zm_RK p l e R s m args below meth c Ω n0 k0 QF (f x) J (F0 m (pc + 1) ls (va_rf x :: rest))) : zm_RK p l e R s m args below meth c Ω n0 k0 QF (zm_bnd (zm_aldR r i) f) J (F0 m pc ls (.int i :: va_rf r :: rest)) := by
  obtain ⟨hx, hb, hown, hts, -, -, -, hK, hw, -⟩ := C
  refine rk_prim (g' := fun x => F0 m (pc + 1) ls (va_rf x :: rest)) (zm_ald_st zm_cR (.object "java/lang/Object") r i) ?_ kk
  intro σ x τ H locs Q h1 h2 h3 h4 h5 h6 h7 h8
  obtain ⟨rfl, a, y, g, rfl, e2, e3, e4, e5⟩ := zm_ald_some h1
  cases e5
  obtain ⟨n9, z9⟩ := y
  rcases z9 with f9 | f9 | f9 | f9 | f9 <;> simp [zm_cR] at e3
  subst e3
  exact va_aldq hx hb (hK.ty hw 6 rfl) (h2.arr e2) 0 0 rfl rfl e4 hdg (h8 H locs h2 h3)
theorem rk_iast (C : zm_C p l R s m args meth c Ω Ts cc own nm nL FF LL ret) (hB : Ω.1.heap.size ≤ K.1) {r : zm_R} {i : Int32} {x : Int32} (hdg : decode cc pc = .ok (.iastore, 1)) {f : Unit → zm_M α} (kk : zm_RK p l e R s m args below meth c Ω n0 k0 QF (f ()) J (F0 m (pc + 1) ls rest)) : zm_RK p l e R s m args below meth c Ω n0 k0 QF (zm_bnd (zm_astI K .int r i x) f) J (F0 m pc ls (.int x :: .int i :: va_rf r :: rest)) := by
  obtain ⟨hx, hb, hown, hts, -, -, -, hK, hw, -⟩ := C
  refine rk_prim (g' := fun _ => F0 m (pc + 1) ls rest) (zm_ast_st zm_cI (fun f => .inl f) K .int r i (vp_nar .int x)) ?_ (fun _ => kk)
  intro σ u τ H locs Q h1 h2 h3 h4 h5 h6 h7 h8
  have h1 : zm_ast0 zm_cI (fun f => .inl f) K .int r i (vp_nar .int x) σ = some (.inl u, τ) := h1
  obtain ⟨-, a, y, g, rfl, e2, e3, e4, e5, rfl⟩ := zm_ast_some h1
  obtain ⟨n9, z9⟩ := y
  rcases z9 with f9 | f9 | f9 | f9 | f9 <;> simp [zm_cI] at e3
  subst e3
  have hP := h2.arr e2
  have hKt := hK.ty (s := s) hw 0 (ty := .int) rfl
  refine W.iast hx hb (hP 0 _ rfl) ((hKt.2 0 _ rfl).1 n9 (fun j => .int (f9 j))) (fun q => by cases q) (by show ¬ (i < 0 ∨ (arrV _ _ _).slots.size ≤ _); rw [arrV_size]; exact e5) rfl rfl hdg fun H1 e z oq => ?_
  refine h8 H1 _ (h2.write z oq (Nat.le_trans hB e4) ?_) ?_
  · refine ⟨(h2.2.1 a _ e2).1, ?_⟩
    show H1[a]? = some (vp_cell _ _)
    rw [e]
    rw [vp_cell_i, vp_cell_i, arrV_store]
    congr 2
    funext q
    by_cases hq : q = i.toNatClampNeg
    · subst hq
      simp [updV, va_up, vp_nar]
      try rfl
    · simp [updV, va_up, hq]
  · intro z9 hz
    rcases List.mem_append.mp hz with h | h
    · exact h3 z9 h
    · rw [List.mem_singleton.mp h]
      exact Nat.le_trans hB e4
theorem rk_zast (C : zm_C p l R s m args meth c Ω Ts cc own nm nL FF LL ret) (hB : Ω.1.heap.size ≤ K.1) {r : zm_R} {i : Int32} {x : Int32} (hdg : decode cc pc = .ok (.bastore, 1)) {f : Unit → zm_M α} (kk : zm_RK p l e R s m args below meth c Ω n0 k0 QF (f ()) J (F0 m (pc + 1) ls rest)) : zm_RK p l e R s m args below meth c Ω n0 k0 QF (zm_bnd (zm_astI K .boolean r i x) f) J (F0 m pc ls (.int x :: .int i :: va_rf r :: rest)) := by
  obtain ⟨hx, hb, hown, hts, -, -, -, hK, hw, -⟩ := C
  refine rk_prim (g' := fun _ => F0 m (pc + 1) ls rest) (zm_ast_st zm_cI (fun f => .inl f) K .boolean r i (vp_nar .boolean x)) ?_ (fun _ => kk)
  intro σ u τ H locs Q h1 h2 h3 h4 h5 h6 h7 h8
  have h1 : zm_ast0 zm_cI (fun f => .inl f) K .boolean r i (vp_nar .boolean x) σ = some (.inl u, τ) := h1
  obtain ⟨-, a, y, g, rfl, e2, e3, e4, e5, rfl⟩ := zm_ast_some h1
  obtain ⟨n9, z9⟩ := y
  rcases z9 with f9 | f9 | f9 | f9 | f9 <;> simp [zm_cI] at e3
  subst e3
  have hP := h2.arr e2
  have hKt := hK.ty (s := s) hw 1 (ty := .boolean) rfl
  refine W.zast hx hb (hP 0 _ rfl) ((hKt.2 0 _ rfl).1 n9 (fun j => .int (f9 j))) (fun q => by cases q) (by show ¬ (i < 0 ∨ (arrV _ _ _).slots.size ≤ _); rw [arrV_size]; exact e5) rfl rfl hdg fun H1 e z oq => ?_
  refine h8 H1 _ (h2.write z oq (Nat.le_trans hB e4) ?_) ?_
  · refine ⟨(h2.2.1 a _ e2).1, ?_⟩
    show H1[a]? = some (vp_cell _ _)
    rw [e]
    rw [vp_cell_i, vp_cell_i, arrV_store]
    congr 2
    funext q
    by_cases hq : q = i.toNatClampNeg
    · subst hq
      simp [updV, va_up, vp_nar]
      try rfl
    · simp [updV, va_up, hq]
  · intro z9 hz
    rcases List.mem_append.mp hz with h | h
    · exact h3 z9 h
    · rw [List.mem_singleton.mp h]
      exact Nat.le_trans hB e4
theorem rk_bast (C : zm_C p l R s m args meth c Ω Ts cc own nm nL FF LL ret) (hB : Ω.1.heap.size ≤ K.1) {r : zm_R} {i : Int32} {x : Int32} (hdg : decode cc pc = .ok (.bastore, 1)) {f : Unit → zm_M α} (kk : zm_RK p l e R s m args below meth c Ω n0 k0 QF (f ()) J (F0 m (pc + 1) ls rest)) : zm_RK p l e R s m args below meth c Ω n0 k0 QF (zm_bnd (zm_astI K .byte r i x) f) J (F0 m pc ls (.int x :: .int i :: va_rf r :: rest)) := by
  obtain ⟨hx, hb, hown, hts, -, -, -, hK, hw, -⟩ := C
  refine rk_prim (g' := fun _ => F0 m (pc + 1) ls rest) (zm_ast_st zm_cI (fun f => .inl f) K .byte r i (vp_nar .byte x)) ?_ (fun _ => kk)
  intro σ u τ H locs Q h1 h2 h3 h4 h5 h6 h7 h8
  have h1 : zm_ast0 zm_cI (fun f => .inl f) K .byte r i (vp_nar .byte x) σ = some (.inl u, τ) := h1
  obtain ⟨-, a, y, g, rfl, e2, e3, e4, e5, rfl⟩ := zm_ast_some h1
  obtain ⟨n9, z9⟩ := y
  rcases z9 with f9 | f9 | f9 | f9 | f9 <;> simp [zm_cI] at e3
  subst e3
  have hP := h2.arr e2
  have hKt := hK.ty (s := s) hw 2 (ty := .byte) rfl
  refine W.bast hx hb (hP 0 _ rfl) ((hKt.2 0 _ rfl).1 n9 (fun j => .int (f9 j))) (fun q => by cases q) (by show ¬ (i < 0 ∨ (arrV _ _ _).slots.size ≤ _); rw [arrV_size]; exact e5) rfl rfl hdg fun H1 e z oq => ?_
  refine h8 H1 _ (h2.write z oq (Nat.le_trans hB e4) ?_) ?_
  · refine ⟨(h2.2.1 a _ e2).1, ?_⟩
    show H1[a]? = some (vp_cell _ _)
    rw [e]
    rw [vp_cell_i, vp_cell_i, arrV_store]
    congr 2
    funext q
    by_cases hq : q = i.toNatClampNeg
    · subst hq
      simp [updV, va_up, vp_nar]
      try rfl
    · simp [updV, va_up, hq]
  · intro z9 hz
    rcases List.mem_append.mp hz with h | h
    · exact h3 z9 h
    · rw [List.mem_singleton.mp h]
      exact Nat.le_trans hB e4
theorem rk_cast (C : zm_C p l R s m args meth c Ω Ts cc own nm nL FF LL ret) (hB : Ω.1.heap.size ≤ K.1) {r : zm_R} {i : Int32} {x : Int32} (hdg : decode cc pc = .ok (.castore, 1)) {f : Unit → zm_M α} (kk : zm_RK p l e R s m args below meth c Ω n0 k0 QF (f ()) J (F0 m (pc + 1) ls rest)) : zm_RK p l e R s m args below meth c Ω n0 k0 QF (zm_bnd (zm_astI K .char r i x) f) J (F0 m pc ls (.int x :: .int i :: va_rf r :: rest)) := by
  obtain ⟨hx, hb, hown, hts, -, -, -, hK, hw, -⟩ := C
  refine rk_prim (g' := fun _ => F0 m (pc + 1) ls rest) (zm_ast_st zm_cI (fun f => .inl f) K .char r i (vp_nar .char x)) ?_ (fun _ => kk)
  intro σ u τ H locs Q h1 h2 h3 h4 h5 h6 h7 h8
  have h1 : zm_ast0 zm_cI (fun f => .inl f) K .char r i (vp_nar .char x) σ = some (.inl u, τ) := h1
  obtain ⟨-, a, y, g, rfl, e2, e3, e4, e5, rfl⟩ := zm_ast_some h1
  obtain ⟨n9, z9⟩ := y
  rcases z9 with f9 | f9 | f9 | f9 | f9 <;> simp [zm_cI] at e3
  subst e3
  have hP := h2.arr e2
  have hKt := hK.ty (s := s) hw 3 (ty := .char) rfl
  refine W.cast hx hb (hP 0 _ rfl) ((hKt.2 0 _ rfl).1 n9 (fun j => .int (f9 j))) (fun q => by cases q) (by show ¬ (i < 0 ∨ (arrV _ _ _).slots.size ≤ _); rw [arrV_size]; exact e5) rfl rfl hdg fun H1 e z oq => ?_
  refine h8 H1 _ (h2.write z oq (Nat.le_trans hB e4) ?_) ?_
  · refine ⟨(h2.2.1 a _ e2).1, ?_⟩
    show H1[a]? = some (vp_cell _ _)
    rw [e]
    rw [vp_cell_i, vp_cell_i, arrV_store]
    congr 2
    funext q
    by_cases hq : q = i.toNatClampNeg
    · subst hq
      simp [updV, va_up, vp_nar]
      try rfl
    · simp [updV, va_up, hq]
  · intro z9 hz
    rcases List.mem_append.mp hz with h | h
    · exact h3 z9 h
    · rw [List.mem_singleton.mp h]
      exact Nat.le_trans hB e4
theorem rk_last (C : zm_C p l R s m args meth c Ω Ts cc own nm nL FF LL ret) (hB : Ω.1.heap.size ≤ K.1) {r : zm_R} {i : Int32} {x : Int64} (hdg : decode cc pc = .ok (.lastore, 1)) {f : Unit → zm_M α} (kk : zm_RK p l e R s m args below meth c Ω n0 k0 QF (f ()) J (F0 m (pc + 1) ls rest)) : zm_RK p l e R s m args below meth c Ω n0 k0 QF (zm_bnd (zm_astJ K r i x) f) J (F0 m pc ls (.long x :: .int i :: va_rf r :: rest)) := by
  obtain ⟨hx, hb, hown, hts, -, -, -, hK, hw, -⟩ := C
  refine rk_prim (g' := fun _ => F0 m (pc + 1) ls rest) (zm_ast_st zm_cJ (fun f => .inr (.inl f)) K .long r i x) ?_ (fun _ => kk)
  intro σ u τ H locs Q h1 h2 h3 h4 h5 h6 h7 h8
  have h1 : zm_ast0 zm_cJ (fun f => .inr (.inl f)) K .long r i x σ = some (.inl u, τ) := h1
  obtain ⟨-, a, y, g, rfl, e2, e3, e4, e5, rfl⟩ := zm_ast_some h1
  obtain ⟨n9, z9⟩ := y
  rcases z9 with f9 | f9 | f9 | f9 | f9 <;> simp [zm_cJ] at e3
  subst e3
  have hP := h2.arr e2
  have hKt := hK.ty (s := s) hw 4 (ty := .long) rfl
  refine W.last hx hb (hP 0 _ rfl) ((hKt.2 0 _ rfl).1 n9 (fun j => .long (f9 j))) (fun q => by cases q) (by show ¬ (i < 0 ∨ (arrV _ _ _).slots.size ≤ _); rw [arrV_size]; exact e5) rfl rfl hdg fun H1 e z oq => ?_
  refine h8 H1 _ (h2.write z oq (Nat.le_trans hB e4) ?_) ?_
  · refine ⟨(h2.2.1 a _ e2).1, ?_⟩
    show H1[a]? = some (vp_cell _ _)
    rw [e]
    rw [vp_cell_l, vp_cell_l, arrV_store]
    congr 2
    funext q
    by_cases hq : q = i.toNatClampNeg
    · subst hq
      simp [updV, va_up, vp_nar]
      try rfl
    · simp [updV, va_up, hq]
  · intro z9 hz
    rcases List.mem_append.mp hz with h | h
    · exact h3 z9 h
    · rw [List.mem_singleton.mp h]
      exact Nat.le_trans hB e4
theorem rk_dast (C : zm_C p l R s m args meth c Ω Ts cc own nm nL FF LL ret) (hB : Ω.1.heap.size ≤ K.1) {r : zm_R} {i : Int32} {x : UInt64} (hdg : decode cc pc = .ok (.dastore, 1)) {f : Unit → zm_M α} (kk : zm_RK p l e R s m args below meth c Ω n0 k0 QF (f ()) J (F0 m (pc + 1) ls rest)) : zm_RK p l e R s m args below meth c Ω n0 k0 QF (zm_bnd (zm_astD K r i x) f) J (F0 m pc ls (.double x :: .int i :: va_rf r :: rest)) := by
  obtain ⟨hx, hb, hown, hts, -, -, -, hK, hw, -⟩ := C
  refine rk_prim (g' := fun _ => F0 m (pc + 1) ls rest) (zm_ast_st zm_cD (fun f => .inr (.inr (.inr (.inl f)))) K .double r i x) ?_ (fun _ => kk)
  intro σ u τ H locs Q h1 h2 h3 h4 h5 h6 h7 h8
  have h1 : zm_ast0 zm_cD (fun f => .inr (.inr (.inr (.inl f)))) K .double r i x σ = some (.inl u, τ) := h1
  obtain ⟨-, a, y, g, rfl, e2, e3, e4, e5, rfl⟩ := zm_ast_some h1
  obtain ⟨n9, z9⟩ := y
  rcases z9 with f9 | f9 | f9 | f9 | f9 <;> simp [zm_cD] at e3
  subst e3
  have hP := h2.arr e2
  have hKt := hK.ty (s := s) hw 5 (ty := .double) rfl
  refine W.dast hx hb (hP 0 _ rfl) ((hKt.2 0 _ rfl).1 n9 (fun j => .double (f9 j))) (fun q => by cases q) (by show ¬ (i < 0 ∨ (arrV _ _ _).slots.size ≤ _); rw [arrV_size]; exact e5) rfl rfl hdg fun H1 e z oq => ?_
  refine h8 H1 _ (h2.write z oq (Nat.le_trans hB e4) ?_) ?_
  · refine ⟨(h2.2.1 a _ e2).1, ?_⟩
    show H1[a]? = some (vp_cell _ _)
    rw [e]
    rw [vp_cell_d, vp_cell_d, arrV_store]
    congr 2
    funext q
    by_cases hq : q = i.toNatClampNeg
    · subst hq
      simp [updV, va_up, vp_nar]
      try rfl
    · simp [updV, va_up, hq]
  · intro z9 hz
    rcases List.mem_append.mp hz with h | h
    · exact h3 z9 h
    · rw [List.mem_singleton.mp h]
      exact Nat.le_trans hB e4
theorem rk_alen (C : zm_C p l R s m args meth c Ω Ts cc own nm nL FF LL ret) {r : zm_R} (hdg : decode cc pc = .ok (.arraylength, 1)) {f : Int32 → zm_M α} (kk : ∀ x, zm_RK p l e R s m args below meth c Ω n0 k0 QF (f x) J (F0 m (pc + 1) ls (.int x :: rest))) : zm_RK p l e R s m args below meth c Ω n0 k0 QF (zm_bnd (zm_alen r) f) J (F0 m pc ls (va_rf r :: rest)) := by
  obtain ⟨hx, hb, hown, hts, -, -, -, hK, hw, -⟩ := C
  refine rk_prim (g' := fun x => F0 m (pc + 1) ls (.int x :: rest)) (zm_alen_st r) ?_ kk
  intro σ x τ H locs Q h1 h2 h3 h4 h5 h6 h7 h8
  obtain ⟨rfl, a, ty, y, rfl, e2, e5⟩ := zm_alen_some h1
  cases e5
  have hP := h2.arr e2
  have hty : ty ∈ zm_tys := (h2.2.1 a _ e2).1
  obtain ⟨i9, hi9⟩ := List.getElem?_of_mem hty
  exact va_alen hx hb (hK.ty hw i9 hi9) hP 0 0 rfl rfl rfl hdg (h8 H locs h2 h3)
end ZA
