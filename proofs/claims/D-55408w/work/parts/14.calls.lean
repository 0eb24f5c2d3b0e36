/-! contracts: what a method does is what its computation says; calls; ends -/
def zm_Pc (Ω : zm_W) (σ : zm_S) (av : List Value) : Array Value → State → Prop := va_Pc av (fun U => zm_rep Ω σ U.heap ∧ Ω.1.WarmedH U.vm)
def zm_Qc {β : Type} (Ω : zm_W) (τ : zm_S) (tv : β → Option Value) (o : β ⊕ zm_X) : Array Value → State → Outcome → State → Prop := fun _ _ oc t => ∃ v, o = .inl v ∧ oc = .returned (tv v) ∧ zm_rep Ω τ t.heap
def zm_XC {β : Type} (Ω : zm_W) (τ : zm_S) (o : β ⊕ zm_X) : String → Addr → State → State → Prop := fun E q _ t => o = .inr (E, q) ∧ zm_rep Ω τ t.heap
def zm_fr (Ω : zm_W) : Addr → Prop := fun q => Ω.1.heap.size ≤ q
def zm_rm (F L : Nat) (σ τ : zm_S) : Room := { frames := F, cells := τ.1 - σ.1, slots := τ.2.1 - σ.2.1, locals := L }
def zm_Ct {β : Type} (l : Launch) (Ω : zm_W) (y : MethodName) (ws : List Cond) (F L : Nat) (av : List Value) (tv : β → Option Value) (x : zm_M β) : Prop :=
  l.stackTraces = false → ∀ (σ : zm_S) (o : β ⊕ zm_X) (τ : zm_S), zm_run x σ = some (o, τ) → vz_Met l y ws (zm_rm F L σ τ) (zm_Pc Ω σ av) (zm_Qc Ω τ tv o) (zm_XC Ω τ o) (τ.1 - σ.1) (τ.2.1 - σ.2.1) (zm_fr Ω)
theorem zm_blind (Ω : zm_W) (σ : zm_S) (av : List Value) : FrameBlind (zm_Pc Ω σ av) := fun _ _ _ _ q => ⟨q.1, q.2.1, q.2.2⟩
def zm_tvI (v : Int32) : Option Value := some (.int v)
def zm_tvR (v : zm_R) : Option Value := some (va_rf v)
def zm_tvJ (v : Int64) : Option Value := some (.long v)
def zm_tvF (v : UInt32) : Option Value := some (.float v)
def zm_tvD (v : UInt64) : Option Value := some (.double v)
def zm_tvV (_ : Unit) : Option Value := none
def zm_QFs {ρ : Type} (below : List Frame) (args : Array Value) (s : State) (Ω : zm_W) (n0 k0 : Nat) (tv : ρ → Option Value) : (ρ ⊕ zm_X) → zm_S → State → Prop := fun o τ => vz_MQ below (zm_Qc Ω τ tv o) (zm_XC Ω τ o) args s (τ.1 - n0) (τ.2.1 - k0) (zm_fr Ω)
theorem va_rf_cat (r : Option Nat) : (va_rf r).category = 1 := by cases r <;> rfl
section ZC
variable {p : Program} {l : Launch} {e : Env} {R : Room} {s : State} {m : MethodId} {args : Array Value} {below : List Frame} {meth : Method} {c : Code} {Ω : zm_W} {Ts : List Cond} {cc : ByteArray} {own nm : String} {nL FF LL : Nat} {ret : Option FieldType}
variable {ρ : Type} {n0 k0 : Nat} {QF : (ρ ⊕ zm_X) → zm_S → State → Prop}
variable {α β : Type} {J : α → zm_M ρ} {pc : Nat} {ls : Array Slot} {rest st0 : List Value} {K : zm_K}
/-- q of class E is thrown over the frame g: on with y -/
def zm_RX {ρ : Type} (p : Program) (l : Launch) (e : Env) (R : Room) (s : State) (m : MethodId) (args : Array Value) (below : List Frame) (meth : Method) (c : Code) (Ω : zm_W) (n0 k0 : Nat) (QF : (ρ ⊕ zm_X) → zm_S → State → Prop) (y : zm_M ρ) (g : JFrame) (E : String) (q : Nat) : Prop :=
  ∀ (σ : zm_S) (o : ρ ⊕ zm_X) (τ : zm_S) (H : Heap) (locs : List Loc) (ce : Cell), zm_run y σ = some (o, τ) → zm_rep Ω σ H → (∀ z ∈ locs, Ω.1.heap.size ≤ z.base) → n0 ≤ σ.1 → k0 ≤ σ.2.1 → τ.1 - n0 ≤ R.cells → τ.2.1 - k0 ≤ R.slots → H[q]? = some ce → ce.vm = .none → s.vm.findClass E = some ce.cls →
    vz_W p l e R s m args below meth c H locs (σ.1 - n0) (σ.2.1 - k0) (QF o τ) g q
/-- what is thrown in this frame goes on to the caller -/
def zm_XO (p : Program) (l : Launch) (e : Env) (R : Room) (s : State) (m : MethodId) (args : Array Value) (below : List Frame) (meth : Method) (c : Code) (Ω : zm_W) (n0 k0 : Nat) (QF : (ρ ⊕ zm_X) → zm_S → State → Prop) : Prop :=
  ∀ (pc : Nat) (ls : Array Slot) (rest : List Value) (E : String) (q : Nat), zm_RX p l e R s m args below meth c Ω n0 k0 QF (zm_thr E q) (F0 m pc ls rest) E q
/-- a call's run -/
def zm_Rn (len : Nat) (p : Program) (l : Launch) (e : Env) (R : Room) (s : State) (m : MethodId) (args : Array Value) (below : List Frame) (meth : Method) (c : Code) (H : Heap) (locs : List Loc) (cells slots mc ms : Nat) (g : JFrame) (rest : List Value) (Qa : State → Outcome → State → Prop) (XC : String → Addr → State → State → Prop) (free : Addr → Prop) : Prop :=
  ∀ T : State, T.heap = H → Stand p l e R s m args below meth c T locs cells slots →
    (∃ (v : Option Value) (st₀ t T' : State) (L : List Loc), st₀.heap = H ∧ Stand p l e R s m args below meth c T' (locs ++ L) (cells + mc) (slots + ms) ∧ (∀ q ∈ L, free q.base) ∧ T'.heap = t.heap ∧ T'.vm = t.vm ∧ Qa st₀ (.returned v) t ∧
      Goes p e below T g T' { g with pc := g.pc + len, stack := v.toList ++ rest }) ∨
    (∃ (q : Addr) (st₀ t T' : State) (L : List Loc) (E : String) (ce : Cell), st₀.heap = H ∧ Stand p l e R s m args below meth c T' (locs ++ L) (cells + mc) (slots + ms) ∧ (∀ z ∈ L, free z.base) ∧ T'.heap = t.heap ∧ T'.vm = t.vm ∧ XC E q st₀ t ∧ t.heap[q]? = some ce ∧ ce.vm = .none ∧ s.vm.findClass E = some ce.cls ∧
      Steps p.tables e below (T.setTop g) ((T'.setTop { g with stack := rest }).pushFrame (.throwing q)))
/-- at frame g a call does what x says, and leaves its answer upon rest -/
def zm_CL (len : Nat) (p : Program) (l : Launch) (e : Env) (R : Room) (s : State) (m : MethodId) (args : Array Value) (below : List Frame) (meth : Method) (c : Code) (Ω : zm_W) (n0 k0 : Nat) (tv : β → Option Value) (x : zm_M β) (g : JFrame) (rest : List Value) : Prop :=
  ∀ (σ : zm_S) (o : β ⊕ zm_X) (τ : zm_S) (H : Heap) (locs : List Loc), zm_run x σ = some (o, τ) → zm_rep Ω σ H → (∀ z ∈ locs, Ω.1.heap.size ≤ z.base) → n0 ≤ σ.1 → k0 ≤ σ.2.1 → τ.1 - n0 ≤ R.cells → τ.2.1 - k0 ≤ R.slots →
    zm_Rn len p l e R s m args below meth c H locs (σ.1 - n0) (σ.2.1 - k0) (τ.1 - σ.1) (τ.2.1 - σ.2.1) g rest (zm_Qc Ω τ tv o #[]) (zm_XC Ω τ o) (zm_fr Ω)
theorem rk_ctc {len : Nat} {tv : β → Option Value} {x : zm_M β} {f : β → zm_M α} {h : String → Nat → zm_M α} (hc : zm_CL len p l e R s m args below meth c Ω n0 k0 tv x (F0 m pc ls st0) rest)
    (kx : ∀ (E : String) (q : Nat), zm_RX p l e R s m args below meth c Ω n0 k0 QF (zm_bnd (h E q) J) (F0 m pc ls rest) E q)
    (kk : ∀ v, zm_RK p l e R s m args below meth c Ω n0 k0 QF (f v) J (F0 m (pc + len) ls ((tv v).toList ++ rest))) : zm_RK p l e R s m args below meth c Ω n0 k0 QF (zm_ctc x f h) J (F0 m pc ls st0) := by
  intro σ o τ H locs h1 h2 h3 h4 h5 h6 h7 T hT X
  rw [zm_run_bnd, zm_run_ctc] at h1
  cases hx : zm_run x σ with
  | none => rw [hx] at h1; cases h1
  | some w =>
    obtain ⟨w, υ⟩ := w
    have hle := zm_run.le hx
    have h1' : zm_run (match w with | .inl a => zm_bnd (f a) J | .inr e9 => zm_bnd (h e9.1 e9.2) J) υ = some (o, τ) := by
      rw [hx] at h1
      cases w with
      | inl a => exact h1
      | inr e9 => exact h1
    have hle2 := zm_run.le h1'
    have e1 : σ.1 - n0 + (υ.1 - σ.1) = υ.1 - n0 := by have := hle.1; omega
    have e2 : σ.2.1 - k0 + (υ.2.1 - σ.2.1) = υ.2.1 - k0 := by have := hle.2; omega
    have hq := hc σ w υ H locs hx h2 h3 h4 h5 (by have := hle2.1; omega) (by have := hle2.2; omega) T hT X
    rw [e1, e2] at hq
    have hloc : ∀ L : List Loc, (∀ q ∈ L, zm_fr Ω q.base) → ∀ z ∈ locs ++ L, Ω.1.heap.size ≤ z.base := by
      intro L hL z hz
      rcases List.mem_append.mp hz with h | h
      · exact h3 z h
      · exact hL z h
    rcases hq with ⟨v, st₀, t, T', L, -, X', hL, e3, e4, ⟨a, rfl, hv, hr⟩, st⟩ | ⟨q, st₀, t, T', L, E, ce, -, X', hL, e3, e4, ⟨rfl, hr⟩, hce, hcv, hcl, st⟩
    · cases hv
      rw [← e3] at hr
      obtain ⟨t2, a1, b1⟩ := kk a υ o τ T'.heap (locs ++ L) h1' hr (hloc L hL) (Nat.le_trans h4 hle.1) (Nat.le_trans h5 hle.2) h6 h7 T' rfl X'
      exact ⟨t2, st t2 a1, b1⟩
    · rw [← e3] at hr hce
      obtain ⟨t2, a1, b1⟩ := kx E q υ o τ T'.heap (locs ++ L) ce h1' hr (hloc L hL) (Nat.le_trans h4 hle.1) (Nat.le_trans h5 hle.2) h6 h7 hce hcv hcl T' rfl X'
      exact ⟨t2, st.trans a1, b1⟩
theorem rk_call {len : Nat} {tv : β → Option Value} {x : zm_M β} {f : β → zm_M α} (hX : zm_XO p l e R s m args below meth c Ω n0 k0 QF) (hc : zm_CL len p l e R s m args below meth c Ω n0 k0 tv x (F0 m pc ls st0) rest)
    (kk : ∀ v, zm_RK p l e R s m args below meth c Ω n0 k0 QF (f v) J (F0 m (pc + len) ls ((tv v).toList ++ rest))) : zm_RK p l e R s m args below meth c Ω n0 k0 QF (zm_bnd x f) J (F0 m pc ls st0) :=
  rk_ctc hc (fun E q => hX pc ls rest E q) kk
theorem zm_Pc_of {σ : zm_S} {H : Heap} {av : List Value} (hr : zm_rep Ω σ H) (hw : Ω.1.WarmedH s.vm) : ∀ U : State, U.heap = H → s.WarmedH U.vm → zm_Pc Ω σ av av.toArray U := fun U hU hW => ⟨rfl, by rw [hU]; exact hr, State.WarmedH.trans hw hW⟩
theorem zm_len {n : Nat} {d : String} {av : List Value} (h : (parseMethodDescriptor d).map (fun d => d.parameters.length) = some n) (hn : av.length = n) : ∀ sig, parseMethodDescriptor d = some sig → av.length = sig.parameters.length := fun sig e9 => by
  rw [e9] at h
  simp at h
  omega
theorem cl_S {y : MethodName} {bytes : ByteArray} {maxL F L n index : Nat} {rt : Option FieldType} {av : List Value} {tv : β → Option Value} {x : zm_M β} (C : zm_C p l R s m args meth c Ω Ts cc own nm nL FF LL ret) (ct : zm_Ct l Ω y (Cond.code y bytes maxL rt :: Ts) F L av tv x) (hT : GoodIn Ts (va_wsS own index y (Cond.code y bytes maxL rt :: Ts)))
    (hd : y.cls ≠ "java/lang/invoke/MethodHandle" ∧ y.cls ≠ "java/lang/invoke/VarHandle" ∧ (parseMethodDescriptor y.desc).map (fun d => d.parameters.length) = some n) (hF : F + 1 ≤ FF ∧ 8 + (maxL + 11) + L ≤ LL) (hn : av.length = n) (hl : ls.size = nL) (hst : st0 = av.reverse ++ rest) (hW : (rest.map fun v => v.category).sum ≤ 8) (hdg : decode cc pc = .ok (.invokestatic index, 3)) :
    zm_CL 3 p l e R s m args below meth c Ω n0 k0 tv x (F0 m pc ls st0) rest := by
  obtain ⟨hx, hb, hown, hts, hml, -, -, hK, hw, -, rfl, rfl, -, htr⟩ := C
  intro σ o τ H locs h1 h2 h3 h4 h5 h6 h7
  have hle := zm_run.le h1
  exact vz_runS (As := av) ⟨hx, hb, hml, hown, hts⟩ (ct htr σ o τ h1) (va_cwS n hts hT rfl rfl rfl hd hF) ⟨zm_blind _ _ _, zm_Pc_of h2 hw⟩ rfl hn hl hst (lv_room hW) hdg ⟨by have := hle.1; omega, by have := hle.2; omega⟩
theorem zm_recv {ci : Nat} {q : vw_C} {fs : List Value} {σ : zm_S} {H : Heap} {a : Nat} (hK : zm_HK Ω) (hw : Ω.1.WarmedH s.vm) (hr : zm_rep Ω σ H) (ha : σ.2.2 a = some (.inr (ci, fs))) (hc : Ω.2.2.2[ci]? = some q) : ∃ cell : Cell, H[a]? = some cell ∧ cell.vm.isStatics = false ∧ s.vm.findClass q.1 = some cell.cls := by
  obtain ⟨-, cell, g1, g2, g3, -⟩ := hr.obj ha hc
  exact ⟨cell, g1, by rw [g3]; rfl, by rw [g2]; exact ((hK.at hw).1 ci q hc).2.1⟩
/-- a computation upon the object at r, of class ci -/
theorem zm_is_run {r : zm_R} {ci : Nat} {f : Unit → zm_M β} {σ : zm_S} {o : β ⊕ zm_X} {τ : zm_S} (h : zm_run (zm_bnd (zm_is r ci) f) σ = some (o, τ)) : ∃ a fs, r = some a ∧ σ.2.2 a = some (.inr (ci, fs)) ∧ zm_run (f ()) σ = some (o, τ) := by
  rw [zm_run_bnd] at h
  have e9 : zm_run (zm_is r ci) σ = (zm_obj r ci σ).map fun _ => (.inl (), σ) := rfl
  rw [e9] at h
  cases hq : zm_obj r ci σ with
  | none => rw [hq] at h; cases h
  | some q =>
    rw [hq] at h
    obtain ⟨h1, h2⟩ := zm_obj_some hq
    exact ⟨q.1, q.2, h1, h2, h⟩
theorem cl_V {y : MethodName} {bytes : ByteArray} {maxL F L n index ci : Nat} {rt : Option FieldType} {r : zm_R} {av : List Value} {tv : β → Option Value} {x : zm_M β} {T : u_T} {N : Nat} {C_ : String} (C : zm_C p l R s m args meth c Ω Ts cc own nm nL FF LL ret) (hc : Ω.2.2.2[ci]? = some (C_, T, N)) (ct : zm_Ct l Ω y (Cond.code y bytes maxL rt :: Ts) F L (va_rf r :: av) tv x) (hT : GoodIn Ts (wsV own index C_ y (Cond.code y bytes maxL rt :: Ts)))
    (hd : y.cls = C_ ∧ y.cls ≠ "java/lang/invoke/MethodHandle" ∧ y.cls ≠ "java/lang/invoke/VarHandle" ∧ (parseMethodDescriptor y.desc).map (fun d => d.parameters.length) = some n) (hF : F + 1 ≤ FF ∧ 8 + (maxL + 11) + L ≤ LL) (hn : av.length = n) (hl : ls.size = nL) (hst : st0 = av.reverse ++ va_rf r :: rest) (hW : (rest.map fun v => v.category).sum ≤ 8) (hdg : decode cc pc = .ok (.invokevirtual index, 3)) :
    zm_CL 3 p l e R s m args below meth c Ω n0 k0 tv (zm_bnd (zm_is r ci) fun _ => x) (F0 m pc ls st0) rest := by
  obtain ⟨hx, hb, hown, hts, hml, -, -, hK, hw, -, rfl, rfl, -, htr⟩ := C
  intro σ o τ H locs h1 h2 h3 h4 h5 h6 h7
  have hle := zm_run.le h1
  obtain ⟨a, fs, rfl, h8, h9⟩ := zm_is_run h1
  exact vz_runV (C := C_) ⟨hx, hb, hml, hown, hts⟩ (ct htr σ o τ h9) (cwV n hts hT rfl rfl rfl hd hF) ⟨zm_blind _ _ _, zm_recv hK hw h2 h8 hc, zm_Pc_of h2 hw⟩ rfl hn hl hst (lv_room hW) hdg ⟨by have := hle.1; omega, by have := hle.2; omega⟩
theorem cl_I {y : MethodName} {bytes : ByteArray} {maxL F L n index : Nat} {r : Nat} {av : List Value} {tv : β → Option Value} {x : zm_M β} (C : zm_C p l R s m args meth c Ω Ts cc own nm nL FF LL ret) (ct : zm_Ct l Ω y (Cond.code y bytes maxL none :: Ts) F L (va_rf (some r) :: av) tv x) (hG : GoodIn Ts (Cond.code y bytes maxL none :: Ts)) (hini : Cond.initialized y.cls ∈ Ts) (hlk : Cond.methodLink own index y ∈ Ts) (hin : Cond.instanceMethod y ∈ Ts) (hy1 : y.name = "<init>")
    (hd : y.cls ≠ "java/lang/invoke/MethodHandle" ∧ y.cls ≠ "java/lang/invoke/VarHandle" ∧ (parseMethodDescriptor y.desc).map (fun d => d.parameters.length) = some n) (hF : F + 1 ≤ FF ∧ 8 + (maxL + 11) + L ≤ LL) (hn : av.length = n) (hl : ls.size = nL) (hst : st0 = av.reverse ++ va_rf (some r) :: rest) (hW : (rest.map fun v => v.category).sum ≤ 8) (hdg : decode cc pc = .ok (.invokespecial index, 3)) :
    zm_CL 3 p l e R s m args below meth c Ω n0 k0 tv x (F0 m pc ls st0) rest := by
  obtain ⟨hx, hb, hown, hts, hml, -, -, hK, hw, -, rfl, rfl, -, htr⟩ := C
  intro σ o τ H locs h1 h2 h3 h4 h5 h6 h7
  have hle := zm_run.le h1
  exact vz_runI ⟨hx, hb, hml, hown, hts⟩ (ct htr σ o τ h1) (cwI n hts hG rfl rfl rfl (hts _ hini) (hts _ hlk) (hts _ hin) hy1 hd hF) ⟨zm_blind _ _ _, zm_Pc_of h2 hw⟩ rfl hn hl hst (lv_room hW) hdg ⟨by have := hle.1; omega, by have := hle.2; omega⟩
/-! ends -/
theorem rf_end {tv : ρ → Option Value} {v : ρ} {g : JFrame} (h : ∀ (H : Heap) (locs : List Loc) (cells slots : Nat) (σ : zm_S), zm_rep Ω σ H → (∀ z ∈ locs, zm_fr Ω z.base) → W p l e R s m args below meth c H locs cells slots (MQ below (zm_Qc Ω σ tv (.inl v)) args s cells slots (zm_fr Ω)) g) : zm_RF p l e R s m args below meth c Ω n0 k0 (zm_QFs below args s Ω n0 k0 tv) (zm_ret v) g := by
  intro σ o τ H locs h1 h2 h3 h4 h5 h6 h7
  rw [zm_run_ret] at h1
  cases h1
  exact vz_ret (h H locs _ _ σ h2 h3)
theorem rf_iret {v : Int32} {ty : FieldType} (C : zm_C p l R s m args meth c Ω Ts cc own nm nL FF LL (some ty)) (hn : narrow ty (.int v) = .int v) (hdg : decode cc pc = .ok (.ireturn, 1)) : zm_RF p l e R s m args below meth c Ω n0 k0 (zm_QFs below args s Ω n0 k0 zm_tvI) (zm_ret v) (F0 m pc ls [.int v]) := by
  obtain ⟨hx, hb, hown, hts, hml, hr, hlk, hK, hw, -⟩ := C
  exact rf_end fun H locs cells slots σ h2 h3 => W.zret hx hb hr hn (fun t ht hW => ⟨v, rfl, rfl, by rw [ht]; exact h2⟩) h3 hdg hlk
theorem rf_vret {u : Unit} (C : zm_C p l R s m args meth c Ω Ts cc own nm nL FF LL none) (hdg : decode cc pc = .ok (.return_, 1)) : zm_RF p l e R s m args below meth c Ω n0 k0 (zm_QFs below args s Ω n0 k0 zm_tvV) (zm_ret u) (F0 m pc ls []) := by
  obtain ⟨hx, hb, hown, hts, hml, hr, hlk, hK, hw, -⟩ := C
  exact rf_end fun H locs cells slots σ h2 h3 => W.vret hx hb hr (fun t ht hW => ⟨u, rfl, rfl, by rw [ht]; exact h2⟩) h3 hdg hlk
theorem rf_aret {v : zm_R} {ty : FieldType} (C : zm_C p l R s m args meth c Ω Ts cc own nm nL FF LL (some ty)) (hty : (∃ n, ty = .object n) ∨ ∃ t, ty = .array t) (hdg : decode cc pc = .ok (.areturn, 1)) : zm_RF p l e R s m args below meth c Ω n0 k0 (zm_QFs below args s Ω n0 k0 zm_tvR) (zm_ret v) (F0 m pc ls [va_rf v]) := by
  obtain ⟨hx, hb, hown, hts, hml, hr, hlk, hK, hw, -⟩ := C
  exact rf_end fun H locs cells slots σ h2 h3 => W.aret hx hb hr hty (by cases v with | none => exact Or.inl rfl | some q => exact Or.inr ⟨q, rfl⟩) (fun t ht hW => ⟨v, rfl, rfl, by rw [ht]; exact h2⟩) h3 hdg hlk
theorem rf_fret {v : UInt32} (C : zm_C p l R s m args meth c Ω Ts cc own nm nL FF LL (some .float)) (hdg : decode cc pc = .ok (.freturn, 1)) : zm_RF p l e R s m args below meth c Ω n0 k0 (zm_QFs below args s Ω n0 k0 zm_tvF) (zm_ret v) (F0 m pc ls [.float v]) := by
  obtain ⟨hx, hb, hown, hts, hml, hr, hlk, hK, hw, -⟩ := C
  exact rf_end fun H locs cells slots σ h2 h3 => W.fret hx hb hr (fun t ht hW => ⟨v, rfl, rfl, by rw [ht]; exact h2⟩) h3 hdg hlk
theorem rf_dret {v : UInt64} (C : zm_C p l R s m args meth c Ω Ts cc own nm nL FF LL (some .double)) (hdg : decode cc pc = .ok (.dreturn, 1)) : zm_RF p l e R s m args below meth c Ω n0 k0 (zm_QFs below args s Ω n0 k0 zm_tvD) (zm_ret v) (F0 m pc ls [.double v]) := by
  obtain ⟨hx, hb, hown, hts, hml, hr, hlk, hK, hw, -⟩ := C
  exact rf_end fun H locs cells slots σ h2 h3 => W.dret hx hb hr (fun t ht hW => ⟨v, rfl, rfl, by rw [ht]; exact h2⟩) h3 hdg hlk
theorem zm_XO_of {tv : ρ → Option Value} (hno : ∀ x ∈ c.exceptionTable.toList, False) (hlk : meth.locks = false) : zm_XO p l e R s m args below meth c Ω n0 k0 (zm_QFs below args s Ω n0 k0 tv) := by
  intro pc ls rest E q σ o τ H locs ce h1 h2 h3 h4 h5 h6 h7 h8 h9 h10
  rw [zm_run_thr] at h1
  cases h1
  exact vz_out (E := E) (fun x hx => (hno x hx).elim) hlk h8 h9 h10 (fun t ht hW => ⟨rfl, by rw [ht]; exact h2⟩) h3 (Nat.le_refl _) (Nat.le_refl _)
end ZC
/-- a contract out of the walk of its body -/
theorem zm_ct {β : Type} {l : Launch} {Ω : zm_W} {Ts : List Cond} {y : MethodName} {cc : ByteArray} {nL F L : Nat} {ret : Option FieldType} {av : List Value} {tv : β → Option Value} {x : zm_M β} (HK : zm_HK Ω) (hy : plainName y.cls = true) (hav : (lg_sl av).length ≤ nL)
    (body : ∀ (p : Program) (e : Env) (R : Room) (s : State) (m : MethodId) (args : Array Value) (below : List Frame) (meth : Method) (c : Code) (n0 k0 : Nat), zm_C p l R s m args meth c Ω Ts cc y.cls y.name nL F L ret → zm_XO p l e R s m args below meth c Ω n0 k0 (zm_QFs below args s Ω n0 k0 tv) → ∀ ls, lv_has ls nL (lv_args 0 av) →
      zm_RF p l e R s m args below meth c Ω n0 k0 (zm_QFs below args s Ω n0 k0 tv) x (F0 m 0 ls [])) : zm_Ct l Ω y (Cond.code y cc nL ret :: Ts) F L av tv x := by
  intro htr σ o τ h1
  refine vz_ofW (cc := cc) (maxL := nL) (ret := ret) hy rfl ?_
  intro p e s m args below meth c s₁ B hml hno hpc
  obtain ⟨rfl, hrep, hwarm⟩ := hpc
  have hts := atoms_spec (ws := Cond.code y cc nL ret :: Ts) B.pre
  have hts : ∀ w ∈ Ts, w.before _ s = true := fun w h => hts w (List.mem_cons_of_mem _ h)
  have hl := lv_entry av hav
  rw [lg_entry_eq]
  have hC : zm_C p l (headSpec (Cond.code y cc nL ret :: Ts) (zm_rm F L σ τ)).room s m av.toArray meth c Ω Ts cc y.cls y.name nL F L ret := ⟨B.exec, B.bytes, findClass_of_methodNamed B.named, hts, hml, B.returns, B.notSynchronized, HK, hwarm, (name_of_methodNamed B.named B.method).1, rfl, rfl, hrep.2.2, htr⟩
  have h := body p e _ s m av.toArray below meth c σ.1 σ.2.1 hC (zm_XO_of hno B.notSynchronized) _ hl σ o τ s.heap [] h1 hrep (fun z hz => by cases hz) (Nat.le_refl _) (Nat.le_refl _) (Nat.le_refl _) (Nat.le_refl _)
  rw [Nat.sub_self, Nat.sub_self] at h
  exact h
