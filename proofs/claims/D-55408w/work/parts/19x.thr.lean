/-! Throwable: fillInStackTrace() where no trace is kept -/
def zm_filF (K : zm_K) (r : zm_R) (ci k : Nat) : zm_M Unit := zm_bnd (zm_getR r ci k) fun v => zm_bnd (zm_grd (v ≠ none ∧ K.2 4 ≠ none)) fun _ => zm_putF K r ci k (va_rf (K.2 4))
theorem zm_grd_st (P : Prop) [Decidable P] : zm_st (zm_grd P).1 := by
  intro σ o τ h
  have h : (if P then some ((Sum.inl () : Unit ⊕ zm_X), σ) else none) = some (o, τ) := h
  split at h
  · simp only [Option.some.injEq, Prod.mk.injEq] at h
    obtain ⟨rfl, rfl⟩ := h
    exact ⟨zm_le.refl _, (), rfl⟩
  · cases h
theorem zm_grd_some {P : Prop} [Decidable P] {σ τ : zm_S} {o : Unit ⊕ zm_X} (h : zm_run (zm_grd P) σ = some (o, τ)) : P ∧ τ = σ := by
  have h : (if P then some ((Sum.inl () : Unit ⊕ zm_X), σ) else none) = some (o, τ) := h
  split at h
  · rename_i hp
    simp only [Option.some.injEq, Prod.mk.injEq] at h
    exact ⟨hp, h.2.symm⟩
  · cases h
theorem zm_filF_st (K : zm_K) (r : zm_R) (ci k : Nat) : zm_st (zm_filF K r ci k).1 := zm_st_bnd (zm_getF_st zm_rdR r ci k) fun _ => zm_st_bnd (zm_grd_st _) fun _ => zm_putF_st K r ci k _
theorem zm_filF_some {K : zm_K} {r : zm_R} {ci k : Nat} {σ τ : zm_S} {o : Unit ⊕ zm_X} (h : zm_run (zm_filF K r ci k) σ = some (o, τ)) : ∃ a fs st u, r = some a ∧ σ.2.2 a = some (.inr (ci, fs)) ∧ K.1 ≤ a ∧ k < fs.length ∧ fs[k]? = some (.ref st) ∧ K.2 4 = some u ∧ τ = (σ.1, σ.2.1, zm_up σ.2.2 a (.inr (ci, fs.set k (.ref u)))) := by
  obtain ⟨v, υ, h1, h2⟩ := zm_bnd_some (x := zm_getR r ci k) (zm_getF_st zm_rdR r ci k) h
  obtain ⟨rfl, a, fs, w, x, rfl, e2, e3, e4, e5⟩ := zm_getF_some h1
  cases e5
  obtain ⟨_, υ', h3, h4⟩ := zm_bnd_some (zm_grd_st _) h2
  obtain ⟨⟨g1, g2⟩, rfl⟩ := zm_grd_some h3
  obtain ⟨-, a', fs', q1, q2, q3, q4, q5⟩ := zm_putF_some h4
  cases q1
  cases e2.symm.trans q2
  cases hv : v with
  | none => exact absurd hv g1
  | some st =>
    subst hv
    have hw := zm_rdR_eq _ _ e4
    cases hk : K.2 4 with
    | none => exact absurd hk g2
    | some u =>
      rw [hk] at q5
      exact ⟨a, fs, st, u, rfl, e2, q3, q4, by rw [e3, hw]; rfl, rfl, q5⟩
section ZTA
variable {p : Program} {l : Launch} {e : Env} {R : Room} {s : State} {m : MethodId} {args : Array Value} {below : List Frame} {meth : Method} {c : Code} {Ω : zm_W} {Ts : List Cond} {cc : ByteArray} {own nm : String} {nL FF LL : Nat} {ret : Option FieldType}
variable {ρ : Type} {n0 k0 : Nat} {QF : (ρ ⊕ zm_X) → zm_S → State → Prop}
variable {α β : Type} {J : α → zm_M ρ} {pc : Nat} {ls : Array Slot} {rest st0 : List Value} {K : zm_K} {g : JFrame} {hh : List (Nat × Nat × Nat × Nat)}
theorem rk_fil (H9 : zm_H Ω K) (C : zm_C p l R s m args meth c Ω Ts cc own nm nL FF LL ret) (hat : ∀ x ∈ Bundle.throwableAtoms, x.before args s = true) {r : zm_R} {ci k : Nat} {C_ : String} {T : u_T} {N index : Nat} (hc : Ω.2.2.2[ci]? = some (C_, T, N)) (hk : k < N) (hin : ∀ w ∈ u_ws C_ T N, w ∈ Ts) {ty0 : Nat → FieldType} (hty : ∀ k, k < N → parseFieldDescriptor (T k).2.2.1 = some (ty0 k)) (hnm : ∀ a, a < N → ∀ b, b < N → a ≠ b → (T a).2.1 ≠ (T b).2.1)
    (hT : T k = ("java/lang/Throwable", "stackTrace", Bundle.steD, false)) (hlink : Cond.methodLink own index Bundle.tFill ∈ Ts) (hselF : (Cond.selects C_ Bundle.tFill Bundle.tFill).before args s = true) (hsel0 : (Cond.selects C_ Bundle.tFill0 Bundle.tFill0).before args s = true) (hF : 3 ≤ FF) (hL : (rest.map fun v => v.category).sum + 60 ≤ LL) (hl : ls.size = nL) (hdg : decode cc pc = .ok (.invokevirtual index, 3)) {f : Unit → zm_M α}
    (kk : zm_RK p l e R s m args below meth c Ω n0 k0 QF (f ()) J (F0 m (pc + 3) ls (va_rf r :: rest))) : zm_RK p l e R s m args below meth c Ω n0 k0 QF (zm_bnd (zm_filF K r ci k) f) J (F0 m pc ls (va_rf r :: rest)) := by
  obtain ⟨hx, hb, hown, hts, hml, -, -, hK, hw, hnm2, hfr, hlo, -, htr⟩ := C
  have hB : Ω.1.heap.size ≤ K.1 := H9.2.2.1
  refine rk_prim (g' := fun _ => F0 m (pc + 3) ls (va_rf r :: rest)) (zm_filF_st K r ci k) ?_ (fun _ => kk)
  intro σ x τ H locs Q h1 h2 h3 h4 h5 h6 h7 h8
  obtain ⟨a, fs, st, u, rfl, e2, e3, e4, e5, e6, rfl⟩ := zm_filF_some h1
  have hKs := hK.at (s := s) hw
  have hap := va_apart (own := own) hts hin ty0 hty hnm hKs hc
  obtain ⟨hlen, cell, q1, q2, q3, q4⟩ := h2.obj e2 hc
  have hmon := h2.mon e2 hc (Nat.le_trans hB e3) q1
  obtain ⟨hS, hfc, kC, hkC, hkind⟩ := hKs.1 ci _ hc
  obtain ⟨cf, kf, fi, fd, hi, hsl⟩ := hS k hk
  dsimp only at hS hfc hkC hkind hi hsl q4
  have hd := hty k hk
  have hlay := hts _ (hin _ (u_in_lay hk))
  unfold u_lay at hlay
  rw [hT] at hi hd hlay
  rw [if_neg (by decide)] at hlay
  have hz := zh_st4 H9
  rw [e6] at hz
  obtain ⟨cu, ku, fu, fdu, au, cu9, g1, g2, g3, g4, g5, g6, g7, g8⟩ := va_Z.moved hw.alike hz
  intro T0 hT0 X
  have howns : e.platform.frameOwnsMonitors = true := by rw [X.admits.platform]
  have hfin : e.platform.finalization = false := by rw [X.admits.platform]
  have hpl : e.platform.magicAccessors = ({} : Platform).magicAccessors := by rw [X.admits.platform]
  have htr9 : e.platform.stackTraces = false := by rw [X.admits.platform]; exact htr
  obtain ⟨TT, ZZ, LT, LZ, Y⟩ := ThrowableC.of_atoms (args := args) howns hfin hpl hat
  have hfd : fd = TT.fStack := by
    have := hi.symm.trans Y.stack
    simp only [Option.some.injEq, Prod.mk.injEq] at this
    exact this.2.2.2
  subst hfd
  have hun := g1.symm.trans Y.unassigned
  simp only [Option.some.injEq, Prod.mk.injEq] at hun
  obtain ⟨-, rfl, -, rfl⟩ := hun
  have hau : au = TT.aS := Option.some.inj (g4.symm.trans LT.statics)
  subst hau
  have hltS : TT.aS < Ω.1.heap.size := (Array.getElem?_eq_some_iff.mp g5).1
  have hneS : TT.aS ≠ a := fun h => absurd (Nat.le_trans hB e3) (Nat.not_le.mpr (h ▸ hltS))
  have hcS : T0.heap[TT.aS]? = some cu9 := by rw [hT0, h2.2.2.2 _ hltS]; exact g5
  have hcA : T0.heap[a]? = some cell := by rw [hT0]; exact q1
  have hty9 : ty0 k = .array (.object "java/lang/StackTraceElement") := by
    have h9 : parseFieldDescriptor Bundle.steD = some (.array (.object "java/lang/StackTraceElement")) := by decide +kernel
    exact Option.some.inj (hd.symm.trans h9)
  rw [hty9] at hd
  have hfit := u_store hfc hkC hkind hlay hi hd (zn_R (ty := .array (.object "java/lang/StackTraceElement")) rfl (some u)) (zp_R (ty := .array (.object "java/lang/StackTraceElement")) rfl (some u))
  have hclsE : s.vm.findClass C_ = some cell.cls := by rw [q2]; exact hfc
  have hselFF : selectMethod e.platform s.vm cell.cls TT.fill = .method TT.fill := by
    obtain ⟨c2, r2, m2, w1, w2, w3, w4, -⟩ := Cond.selects_spec hselF
    cases Option.some.inj (w1.symm.trans hclsE)
    cases Option.some.inj (w2.symm.trans (State.methodFound?_of_named Y.fill (by decide)))
    cases Option.some.inj (w3.symm.trans Y.fill)
    rw [Launch.admits_selectMethod X.admits]; exact w4
  have hsel00 : selectMethod e.platform s.vm cell.cls TT.fill0 = .method TT.fill0 := by
    obtain ⟨c2, r2, m2, w1, w2, w3, w4, -⟩ := Cond.selects_spec hsel0
    cases Option.some.inj (w1.symm.trans hclsE)
    cases Option.some.inj (w2.symm.trans (State.methodFound?_of_named Y.fill0 (by decide)))
    cases Option.some.inj (w3.symm.trans Y.fill0)
    rw [Launch.admits_selectMethod X.admits]; exact w4
  have hdg' : decode c.code pc = .ok (.invokevirtual index, 3) := by rw [hb]; exact hdg
  have hmF := LT.method LT.fillAt
  obtain ⟨vm₁, X₁, hstep₁⟩ := X.invokevirtual hx hown (hts _ hlink) Y.fill hmF LT.fillStatic LT.cls LT.notInterface (by decide) (a := a) (cell := cell) hcA (fun z h => by rw [q3] at h; cases h) hselFF hmF LT.fillAbstract LT.cls LT.notInterface (g := F0 m pc ls (va_rf (some a) :: rest)) rfl (argsL := []) (rest := rest) (by rw [LT.fillParams]; rfl) rfl hdg'
  have hcS1 : (T0.setVm vm₁).heap[TT.aS]? = some cu9 := hcS
  have hcA1 : (T0.setVm vm₁).heap[a]? = some cell := hcA
  have hvS : cell.slots[TT.fStack.slot]? = some (.ref st) := by
    rw [hsl, q4 k hk]
    show some ((fs[k]?).getD .null) = _
    rw [e5]
    rfl
  have htS : Takes s cell TT.fStack (.ref u) := ⟨(Array.getElem?_eq_some_iff.mp hvS).1, by rw [q2, q3]; exact hfit.2.2⟩
  have htop := X₁.here.top
  obtain ⟨g₀, hg0⟩ := Option.isSome_iff_exists.mp htop
  obtain ⟨tl, htl⟩ := State.topJava?_eq_some.mp hg0
  generalize hVV : T0.setVm vm₁ = VV at X₁ hstep₁ hcS1 hcA1 htop hg0 htl
  generalize hlim : e.platform.stackLimits VV.me = lim
  have hframes : VV.frames.length + 2 < lim.1 := by rw [← hlim]; exact X₁.framesAbove (n := 2) (by rw [hfr]; omega)
  have hwords : (stackUse (.java (F0 m pc ls rest) :: VV.frames.tail)).2 + 60 ≤ lim.2 := by rw [← hlim]; exact X₁.stackAbove (g := F0 m pc ls rest) (K := 60) (hl.trans hml.symm) (by rw [hlo]; show 2 * 0 + (rest.map fun v => v.category).sum + 60 ≤ LL; omega)
  have hlen9 : VV.frames.length = (Frame.java (F0 m pc ls rest) :: VV.frames.tail).length := by rw [htl]; rfl
  have hfg : (VV.setTop (F0 m pc ls rest)).frames = .java (F0 m pc ls rest) :: VV.frames.tail := by rw [State.frames_setTop _ htl, htl]; rfl
  have hlimg : e.platform.stackLimits (VV.setTop (F0 m pc ls rest)).me = lim := by rw [State.stackLimits_setTop _ htop]; exact hlim
  have hroom : e.platform.stackFull (((VV.setTop (F0 m pc ls rest)).threads[(VV.setTop (F0 m pc ls rest)).cur]?).getD { frames := [] }) (VV.setTop (F0 m pc ls rest)).frames (1 + 2) = false :=
    roomAbove (pushed := []) (base := .java (F0 m pc ls rest) :: VV.frames.tail) (free := 60) (lim := lim) hfg hlimg (by rw [← hlen9]; simp only [List.length_nil]; omega) hwords (by simp only [stackUse_nil]; omega)
  have hw14 : (stackUse [Frame.java (fillJ TT.fill a 16 [])]).2 = 14 := by
    rw [stackUse_java, stackUse_nil]
    simp [operandWords]
  have hroomN : ∀ vm1 : Vm, e.platform.stackFull ((((fillInside (VV.setVm vm1) (F0 m pc ls rest) TT.fill a cell).setTop (fillJ TT.fill a 16 [])).threads[((fillInside (VV.setVm vm1) (F0 m pc ls rest) TT.fill a cell).setTop (fillJ TT.fill a 16 [])).cur]?).getD { frames := [] }) ((fillInside (VV.setVm vm1) (F0 m pc ls rest) TT.fill a cell).setTop (fillJ TT.fill a 16 [])).frames (nativeFrameWords "java/lang/Throwable" "fillInStackTrace" 2) = false := by
    intro vm1
    have htopE : ((VV.setVm vm1).setCell a (cell.withEntry (VV.setVm vm1).cur)).topJava?.isSome := htop
    have hfF : (fillInside (VV.setVm vm1) (F0 m pc ls rest) TT.fill a cell).frames = .java (entryFrameSync TT.fill #[.ref a] 1 a) :: .java (F0 m pc ls rest) :: VV.frames.tail := frames_entered (g := F0 m pc ls rest) htopE _
    have htopF : (fillInside (VV.setVm vm1) (F0 m pc ls rest) TT.fill a cell).topJava?.isSome := by rw [State.topJava?_of_frames hfF]; rfl
    have hlimF : e.platform.stackLimits (fillInside (VV.setVm vm1) (F0 m pc ls rest) TT.fill a cell).me = lim := by
      rw [State.stackLimits_pushFrame, State.stackLimits_setTop _ htopE]; exact hlim
    exact roomAbove (pl := e.platform) (pushed := [.java (fillJ TT.fill a 16 [])]) (base := .java (F0 m pc ls rest) :: VV.frames.tail) (free := 60) (lim := lim) (State.frames_setTop _ hfF) (by rw [State.stackLimits_setTop _ htopF]; exact hlimF)
      (by rw [← hlen9]; simp only [List.length_cons, List.length_nil]; omega) hwords (by rw [hw14]; decide)
  obtain ⟨vm2, hW2, st2⟩ := Steps.fillColdBy p (s₀ := s) (V := VV) (g := F0 m pc ls rest) (c := c) (self := a) X₁.here hx TT LT X₁.warmed (Nn := fun u => u) heapOnly_id (fun _ _ => rfl) (fun _ => rfl) (fun u x y => setCell_twice _ _ _ _) (cell := cell) (cellS := cu9) (cN := cell.withEntry VV.cur)
    (st0 := st) (u0 := u) (ig := .invokevirtual index) (len := 3) [] hcA1 (fun k h => by rw [q3] at h; cases h) (by rw [q3]; intro h; cases h) (Or.inl hmon.1) hvS hsel00 hcS1 hneS (fun h => by rw [h] at g6; cases g6) g7 (fun _ hu => hu) (fun _ hu => hu) rfl rfl rfl rfl htS hdg'
    (fun vm1 hW1 hAt t' hs => LT.nativeOff p htr9 hAt hW1 (hroomN vm1) hs) hroom
  have hbk : ((cell.withEntry VV.cur).setSlot TT.fStack.slot (.ref u)).left = cell.setSlot TT.fStack.slot (.ref u) := by
    have h2 : (cell.withEntry VV.cur).left = cell := Cell.left_withEntry VV.cur hmon.1 hmon.2
    rw [Cell.left_setSlot, h2]
  rw [hbk] at st2
  have hcA2 : (VV.setVm vm2).heap[a]? = some cell := hcA1
  have X3 := (X₁.noted hW2).stored (a := a) hcA2 TT.fStack.slot (.ref u)
  have hlt : a < H.size := (Array.getElem?_eq_some_iff.mp q1).1
  have hh9 : ((VV.setVm vm2).setCell a (cell.setSlot TT.fStack.slot (.ref u))).heap = H.setIfInBounds a (cell.setSlot TT.fStack.slot (.ref u)) := by rw [← hVV, ← hT0]; rfl
  obtain ⟨t, a1, b1⟩ := h8 (H.setIfInBounds a (cell.setSlot TT.fStack.slot (.ref u))) (locs ++ [⟨a, TT.fStack.slot⟩]) (h2.write (by simp) (fun q hq => by simp [Array.getElem?_setIfInBounds, Ne.symm hq]) (Nat.le_trans hB e3) (Or.inl ⟨_, hc, by rw [List.length_set]; exact hlen, t_OB.to (V := updV (vp_V fs) k (.ref u)) ⟨cell.setSlot TT.fStack.slot (.ref u), by simp [Array.getElem?_setIfInBounds, hlt], q2, q3, by rw [hsl]; exact t_set q4 hap hk (.ref u)⟩ (fun j _ => vp_updV_set e4 (.ref u) j), fun _ => ⟨cell.setSlot TT.fStack.slot (.ref u), by simp [Array.getElem?_setIfInBounds, hlt], hmon⟩⟩)) (by
      intro z hz
      rcases List.mem_append.mp hz with h | h
      · exact h3 z h
      · rw [List.mem_singleton.mp h]
        exact Nat.le_trans hB e3) _ hh9 X3
  refine ⟨t, hstep₁ _ fun acts => ?_, b1⟩
  rw [doInvoke_state]
  exact st2 _ a1
end ZTA
/-! Throwable.getCause() -/
def zt_cB : ByteArray := .mk #[0x2a, 0xb4, 0x00, 0x07, 0x2a, 0xa6, 0x00, 0x07, 0x01, 0xa7, 0x00, 0x07, 0x2a, 0xb4, 0x00, 0x07, 0xb0]
theorem zt_c0 : decode zt_cB 0 = .ok (.aload_n 0, 1) := by decide +kernel
theorem zt_c1 : decode zt_cB 1 = .ok (.getfield 7, 3) := by decide +kernel
theorem zt_c4 : decode zt_cB 4 = .ok (.aload_n 0, 1) := by decide +kernel
theorem zt_c5 : decode zt_cB 5 = .ok (.if_acmp .ne 7, 3) := by decide +kernel
theorem zt_c8 : decode zt_cB 8 = .ok (.aconst_null, 1) := by decide +kernel
theorem zt_c9 : decode zt_cB 9 = .ok (.goto 7, 3) := by decide +kernel
theorem zt_c12 : decode zt_cB 12 = .ok (.aload_n 0, 1) := by decide +kernel
theorem zt_c13 : decode zt_cB 13 = .ok (.getfield 7, 3) := by decide +kernel
theorem zt_c16 : decode zt_cB 16 = .ok (.areturn, 1) := by decide +kernel
def zm_cau0 (K : zm_K) (r : zm_R) (ci k : Nat) : zm_F zm_R := fun σ => (zm_obj r ci σ).bind fun q => if K.1 ≤ q.1 then (q.2[k]?).bind fun v => (zm_rdR v).map fun x => (.inl (if x = r then none else x), σ) else none
theorem zm_cau_some {K : zm_K} {r : zm_R} {ci k : Nat} {σ υ : zm_S} {o : zm_R ⊕ zm_X} (h : zm_cau0 K r ci k σ = some (o, υ)) : υ = σ ∧ ∃ a fs x, r = some a ∧ σ.2.2 a = some (.inr (ci, fs)) ∧ K.1 ≤ a ∧ fs[k]? = some (va_rf x) ∧ o = .inl (if x = some a then none else x) := by
  simp only [zm_cau0, Option.bind_eq_some_iff] at h
  obtain ⟨q, h1, h2⟩ := h
  obtain ⟨rfl, e2⟩ := zm_obj_some h1
  split at h2
  · rename_i hc
    simp only [Option.bind_eq_some_iff, Option.map_eq_some_iff, Prod.mk.injEq] at h2
    obtain ⟨v, h3, x, h4, h5, h6⟩ := h2
    exact ⟨h6.symm, q.1, q.2, x, rfl, e2, hc, by rw [h3, zm_rdR_eq _ _ h4], h5.symm⟩
  · cases h2
theorem zm_cau_st (K : zm_K) (r : zm_R) (ci k : Nat) : zm_st (zm_cau0 K r ci k) := by
  intro σ o υ h
  obtain ⟨rfl, a, fs, x, -, -, -, -, rfl⟩ := zm_cau_some h
  exact ⟨zm_le.refl _, _, rfl⟩
def zm_cau (K : zm_K) (r : zm_R) (ci k : Nat) : zm_M zm_R := ⟨zm_cau0 K r ci k, (zm_cau_st K r ci k).mo⟩
section ZTB
variable {p : Program} {l : Launch} {e : Env} {R : Room} {s : State} {m : MethodId} {args : Array Value} {below : List Frame} {meth : Method} {c : Code} {Ω : zm_W} {Ts : List Cond} {cc : ByteArray} {own nm : String} {nL FF LL : Nat} {ret : Option FieldType}
variable {ρ : Type} {n0 k0 : Nat} {QF : (ρ ⊕ zm_X) → zm_S → State → Prop}
variable {α β : Type} {J : α → zm_M ρ} {pc : Nat} {ls : Array Slot} {rest st0 : List Value} {K : zm_K} {g : JFrame} {hh : List (Nat × Nat × Nat × Nat)}
theorem rk_cau (H9 : zm_H Ω K) (C : zm_C p l R s m args meth c Ω Ts cc own nm nL FF LL ret) (hat : ∀ x ∈ Bundle.throwableAtoms, x.before args s = true) {r : zm_R} {ci k : Nat} {C_ : String} {T : u_T} {N index : Nat} (hc : Ω.2.2.2[ci]? = some (C_, T, N)) (hk : k < N)
    (hT : T k = ("java/lang/Throwable", "cause", "Ljava/lang/Throwable;", false)) {x : MethodName} (hlink : Cond.methodLink own index x ∈ Ts) (hxd : x.name = "getCause" ∧ x.desc = "()Ljava/lang/Throwable;") (hsame : (Cond.sameMethod x.cls "java/lang/Throwable" x.name x.desc).before args s = true) (hdecl : (Cond.declares ⟨"java/lang/Throwable", x.name, x.desc⟩).before args s = true)
    (hsel : (Cond.selects C_ x ⟨"java/lang/Throwable", "getCause", "()Ljava/lang/Throwable;"⟩).before args s = true) (hinst : (Cond.instanceMethod ⟨"java/lang/Throwable", "getCause", "()Ljava/lang/Throwable;"⟩).before args s = true) (hcode : (Cond.codeSync ⟨"java/lang/Throwable", "getCause", "()Ljava/lang/Throwable;"⟩ zt_cB 1 (some (.object "java/lang/Throwable"))).before args s = true)
    (hF : 3 ≤ FF) (hL : (rest.map fun v => v.category).sum + 60 ≤ LL) (hl : ls.size = nL) (hdg : decode cc pc = .ok (.invokevirtual index, 3)) {f : zm_R → zm_M α}
    (kk : ∀ v, zm_RK p l e R s m args below meth c Ω n0 k0 QF (f v) J (F0 m (pc + 3) ls (va_rf v :: rest))) : zm_RK p l e R s m args below meth c Ω n0 k0 QF (zm_bnd (zm_cau K r ci k) f) J (F0 m pc ls (va_rf r :: rest)) := by
  obtain ⟨hx, hb, hown, hts, hml, -, -, hK, hw, hnm2, hfr, hlo, -, htr⟩ := C
  have hB : Ω.1.heap.size ≤ K.1 := H9.2.2.1
  refine rk_prim (g' := fun v => F0 m (pc + 3) ls (va_rf v :: rest)) (zm_cau_st K r ci k) ?_ kk
  intro σ v τ H locs Q h1 h2 h3 h4 h5 h6 h7 h8
  have h1 : zm_cau0 K r ci k σ = some (.inl v, τ) := h1
  obtain ⟨rfl, a, fs, w, rfl, e2, e3, e4, e5⟩ := zm_cau_some h1
  have e5 : v = if w = some a then none else w := Sum.inl.inj e5
  have hKs := hK.at (s := s) hw
  obtain ⟨hlen, cell, q1, q2, q3, q4⟩ := h2.obj e2 hc
  have hmon := h2.mon e2 hc (Nat.le_trans hB e3) q1
  obtain ⟨hS, hfc, kC, hkC, hkind⟩ := hKs.1 ci _ hc
  obtain ⟨cf, kf, fi, fd, hi, hsl⟩ := hS k hk
  dsimp only at hS hfc hkC hkind hi hsl q4
  rw [hT] at hi
  intro T0 hT0 X
  have howns : e.platform.frameOwnsMonitors = true := by rw [X.admits.platform]
  have hfin : e.platform.finalization = false := by rw [X.admits.platform]
  have hpl : e.platform.magicAccessors = ({} : Platform).magicAccessors := by rw [X.admits.platform]
  obtain ⟨TT, ZZ, LT, LZ, Y⟩ := ThrowableC.of_atoms (args := args) howns hfin hpl hat
  have hfd : fd = TT.fCause := by
    have := hi.symm.trans Y.cause
    simp only [Option.some.injEq, Prod.mk.injEq] at this
    exact this.2.2.2
  subst hfd
  have hcA : T0.heap[a]? = some cell := by rw [hT0]; exact q1
  have hclsE : s.vm.findClass C_ = some cell.cls := by rw [q2]; exact hfc
  have hdg' : decode c.code pc = .ok (.invokevirtual index, 3) := by rw [hb]; exact hdg
  have hv0 : cell.slots[TT.fCause.slot]? = some (va_rf w) := by
    rw [hsl, q4 k hk]
    show some ((fs[k]?).getD .null) = _
    rw [e4]
    rfl
  obtain ⟨r0, rr, hn, hrm, hstR, hsigR⟩ := Cond.declares_spec hdecl
  obtain ⟨cn, ck, r1, hcn, hck, hni, hfo, hn1⟩ := Cond.sameMethod_found hsame
  cases hn.symm.trans hn1
  obtain ⟨mk, methM, hnamed, hmethM, hstM, habM⟩ := Cond.instanceMethod_spec hinst
  obtain ⟨methM', cM, hmethM', hcM, hbM, hlM, hrM, hlkM, -, hsigM⟩ := Cond.codeSync_spec hnamed hcode
  cases hmethM.symm.trans hmethM'
  obtain ⟨c2, r2, m2, w1, w2, w3, w4, kP, hkP, hkPi⟩ := Cond.selects_spec hsel
  cases hclsE.symm.trans w1
  cases hfo.symm.trans w2
  cases hnamed.symm.trans w3
  have hselP : selectMethod e.platform s.vm cell.cls r0 = .method mk := by rw [Launch.admits_selectMethod X.admits]; exact w4
  have hmkc : mk.cls = TT.cT := Option.some.inj ((findClass_of_methodNamed hnamed).symm.trans Y.found)
  have hpar : rr.sig.parameters = [] := by
    rw [hxd.2] at hsigR
    have h9 : parseMethodDescriptor "()Ljava/lang/Throwable;" = some ⟨[], some (.object "java/lang/Throwable")⟩ := by decide +kernel
    have h9' := hsigR.symm.trans h9
    rw [Option.some.inj h9']
  obtain ⟨vm₁, X₁, hstep₁⟩ := X.invokevirtualUp hx hown (hts _ hlink) hsame (by decide) hn hrm hstR (a := a) (cell := cell) hcA
    (fun z h => by rw [q3] at h; cases h) hselP hmethM habM hkP hkPi (g := F0 m pc ls (va_rf (some a) :: rest)) rfl (argsL := []) (rest := rest) (by rw [hpar]; rfl) rfl hdg'
  have hcA1 : (T0.setVm vm₁).heap[a]? = some cell := hcA
  have htop := X₁.here.top
  obtain ⟨g₀, hg0⟩ := Option.isSome_iff_exists.mp htop
  obtain ⟨tl, htl⟩ := State.topJava?_eq_some.mp hg0
  have hh9 : ∀ vm, ((T0.setVm vm₁).setVm vm).heap = H := fun vm => hT0
  generalize hVV : T0.setVm vm₁ = VV at X₁ hstep₁ hcA1 htop hg0 htl hh9
  generalize hlim : e.platform.stackLimits VV.me = lim
  have hframes : VV.frames.length + 2 < lim.1 := by rw [← hlim]; exact X₁.framesAbove (n := 2) (by rw [hfr]; omega)
  have hwords : (stackUse (.java (F0 m pc ls rest) :: VV.frames.tail)).2 + 60 ≤ lim.2 := by rw [← hlim]; exact X₁.stackAbove (g := F0 m pc ls rest) (K := 60) (hl.trans hml.symm) (by rw [hlo]; show 2 * 0 + (rest.map fun v => v.category).sum + 60 ≤ LL; omega)
  have hlen9 : VV.frames.length = (Frame.java (F0 m pc ls rest) :: VV.frames.tail).length := by rw [htl]; rfl
  have hfg : (VV.setTop (F0 m pc ls rest)).frames = .java (F0 m pc ls rest) :: VV.frames.tail := by rw [State.frames_setTop _ htl, htl]; rfl
  have hlimg : e.platform.stackLimits (VV.setTop (F0 m pc ls rest)).me = lim := by rw [State.stackLimits_setTop _ htop]; exact hlim
  have hroom : e.platform.stackFull (((VV.setTop (F0 m pc ls rest)).threads[(VV.setTop (F0 m pc ls rest)).cur]?).getD { frames := [] }) (VV.setTop (F0 m pc ls rest)).frames (cM.maxLocals + 2) = false :=
    roomAbove (pushed := []) (base := .java (F0 m pc ls rest) :: VV.frames.tail) (free := 60) (lim := lim) hfg hlimg (by rw [← hlen9]; simp only [List.length_nil]; omega) hwords (by simp only [stackUse_nil, hlM]; omega)
  have hlt : a < VV.heap.size := (Array.getElem?_eq_some_iff.mp hcA1).1
  have hplain : ∀ vm, s.WarmedH vm → (VV.setVm vm).plainMethod mk := fun vm hWv => hWv.plainAt (m := mk) (by rw [hmkc]; exact LT.plain)
  have hmAt : ∀ vm, s.WarmedH vm → (VV.setVm vm).vm.method? mk = some methM := fun vm hWv => hWv.methodAt hmethM
  have hAof : ∀ vm, s.WarmedH vm → At (fillInside (VV.setVm vm) (F0 m pc ls rest) mk a cell) mk cM below := fun vm hWv => by
    have := At.enter_sync (g := F0 m pc ls rest) (X₁.here.setVm (X₁.warmed.alike.symm.trans hWv.alike)) #[.ref a] a (cell.withEntry VV.cur) (hmAt vm hWv) hcM (hplain vm hWv)
    rw [hlM] at this
    exact this
  have hcellU : ∀ vm, (fillInside (VV.setVm vm) (F0 m pc ls rest) mk a cell).heap[a]? = some (cell.withEntry VV.cur) := fun vm => by
    show (VV.heap.setIfInBounds a (cell.withEntry VV.cur))[a]? = _
    simp [hlt]
  have hfrU : ∀ vm, (fillInside (VV.setVm vm) (F0 m pc ls rest) mk a cell).frames = .java (entryFrameSync mk #[.ref a] 1 a) :: .java (F0 m pc ls rest) :: VV.frames.tail := fun vm =>
    frames_entered (g := F0 m pc ls rest) (show ((VV.setVm vm).setCell a (cell.withEntry (VV.setVm vm).cur)).topJava?.isSome from htop) _
  have hend : ∀ vm, s.WarmedH vm → ∀ (w9 : zm_R) (target : State), Steps p.tables e below ((VV.setVm vm).setTop (F0 m (pc + 3) ls (va_rf w9 :: rest))) target → Steps p.tables e below ((fillInside (VV.setVm vm) (F0 m pc ls rest) mk a cell).setTop (fillJ mk a 16 [va_rf w9])) target := by
    intro vm hWv w9 target hk9
    have hA := hAof vm hWv
    have hcodeU : (fillInside (VV.setVm vm) (F0 m pc ls rest) mk a cell).code? (F0 m pc ls rest).method = some c := (X₁.here.setVm (X₁.warmed.alike.symm.trans hWv.alike)).code
    have hfin9 : ∀ acts', Steps p.tables e below (doReturn e ((fillInside (VV.setVm vm) (F0 m pc ls rest) mk a cell).setTop (fillJ mk a 16 [])) acts' (some (va_rf w9))).1 target := by
      intro acts'
      rw [doReturn_leave_sync (u := fillInside (VV.setVm vm) (F0 m pc ls rest) mk a cell) (g := F0 m pc ls rest) (meth := methM) (cg := c) (ig := .invokevirtual index) (len := 3) (a := a) (cell := cell.withEntry VV.cur)
        (f := fillJ mk a 16 []) (f₀ := entryFrameSync mk #[.ref a] 1 a) (r := VV.frames.tail) acts' howns (hfrU vm) (hmAt vm hWv) hlkM rfl rfl (hcellU vm) rfl hcodeU hdg']
      have h2 : (cell.withEntry VV.cur).left = cell := Cell.left_withEntry VV.cur hmon.1 hmon.2
      rw [h2]
      have e1 : ((fillInside (VV.setVm vm) (F0 m pc ls rest) mk a cell).setCell a cell).setFrames (.java (F0 m pc ls rest) :: VV.frames.tail) = ((VV.setVm vm).setTop (F0 m pc ls rest)) := by
        have e2 : (fillInside (VV.setVm vm) (F0 m pc ls rest) mk a cell).setFrames (.java (F0 m pc ls rest) :: ((VV.setVm vm).setCell a (cell.withEntry (VV.setVm vm).cur)).frames.tail) = ((VV.setVm vm).setCell a (cell.withEntry (VV.setVm vm).cur)).setTop (F0 m pc ls rest) :=
          setFrames_entered (g := F0 m pc ls rest) (s := (VV.setVm vm).setCell a (cell.withEntry (VV.setVm vm).cur)) htop _
        have e3 : ((VV.setVm vm).setCell a (cell.withEntry (VV.setVm vm).cur)).setCell a cell = VV.setVm vm := by
          have : ((VV.setVm vm).setCell a (cell.withEntry (VV.setVm vm).cur)).setCell a cell = (VV.setVm vm).setCell a cell := setCell_twice _ _ _ _
          rw [this, State.setCell_same (show (VV.setVm vm).heap[a]? = some cell from hcA1)]
        have e4 : ((fillInside (VV.setVm vm) (F0 m pc ls rest) mk a cell).setCell a cell).setFrames (.java (F0 m pc ls rest) :: VV.frames.tail) = (((VV.setVm vm).setCell a (cell.withEntry (VV.setVm vm).cur)).setTop (F0 m pc ls rest)).setCell a cell := by
          rw [← e2]
          exact (State.setCell_setFrames _ _ _ _).symm
        rw [e4]
        have e5 : (((VV.setVm vm).setCell a (cell.withEntry (VV.setVm vm).cur)).setTop (F0 m pc ls rest)).setCell a cell = (((VV.setVm vm).setCell a (cell.withEntry (VV.setVm vm).cur)).setCell a cell).setTop (F0 m pc ls rest) := by
          have hfr1 : ((VV.setVm vm).setCell a (cell.withEntry (VV.setVm vm).cur)).frames = .java g₀ :: tl := htl
          have hfr2 : (((VV.setVm vm).setCell a (cell.withEntry (VV.setVm vm).cur)).setCell a cell).frames = .java g₀ :: tl := htl
          rw [State.setTop_of_frames _ hfr1, State.setTop_of_frames _ hfr2]
          exact State.setCell_setFrames _ _ _ _
        rw [e5, e3]
      rw [e1]
      have e6 : ((VV.setVm vm).setTop (F0 m pc ls rest)).setTop (F0 m (pc + 3) ls (va_rf w9 :: rest)) = (VV.setVm vm).setTop (F0 m (pc + 3) ls (va_rf w9 :: rest)) := heapOnly_id.setTop_setTop (s := VV.setVm vm) htop _ _
      have e7 : ((VV.setVm vm).setTop (F0 m pc ls rest)).setTop { (F0 m pc ls rest) with pc := (F0 m pc ls rest).pc + 3, stack := (some (va_rf w9)).toList ++ (F0 m pc ls rest).stack } = (VV.setVm vm).setTop (F0 m (pc + 3) ls (va_rf w9 :: rest)) := e6
      rw [e7]
      exact hk9
    have hm9 := hmAt vm hWv
    cases w9 with
    | none =>
      jvm_step hA [hx, hbM, zt_c16, areturn.wp_sem, va_rf, Value.isRef, FieldType.isReference]
      exact ⟨methM, hm9, ⟨_, hrM, rfl⟩, hfin9⟩
    | some z9 =>
      jvm_step hA [hx, hbM, zt_c16, areturn.wp_sem, va_rf, Value.isRef, FieldType.isReference]
      exact ⟨methM, hm9, ⟨_, hrM, rfl⟩, hfin9⟩
  have hknown : (cell.withEntry VV.cur).vm ≠ .unknown := by show cell.vm ≠ .unknown; rw [q3]; intro h; cases h
  have hlinkC : s.vm.FieldLinks e.platform mk.cls 7 TT.ci7 TT.cT TT.i7 := by rw [hmkc]; exact LT.link7
  have hrightC : s.rightAt mk.cls 7 (.field TT.cT TT.i7) = true := by rw [hmkc]; exact LT.right7
  obtain ⟨vm1, hW1, st1⟩ := Steps.getfieldCold (tb := p.tables) (s₀ := s) (U := fillInside VV (F0 m pc ls rest) mk a cell) (f := fillJ mk a 1 [.ref a]) (a := a) (rest := []) (cell := cell.withEntry VV.cur) (v := va_rf w) (hAof VV.vm X₁.warmed) hx (by rw [hbM]; exact zt_c1) X₁.warmed hlinkC hrightC LT.cls LT.at7 LT.causeInstance rfl (hcellU VV.vm) hknown hv0
  have hstart : ∀ target, Steps p.tables e below ((fillInside (VV.setVm vm1) (F0 m pc ls rest) mk a cell).setTop (fillJ mk a 4 [va_rf w])) target → Steps p.tables e below (doInvoke e (VV.setTop (F0 m pc ls rest)) [] mk #[.ref a]).1 target := by
    intro target h
    rw [doInvoke_enter_sync (cell := cell) htop [] (hmAt VV.vm X₁.warmed) hcM hlkM hstM rfl hcA1 (Or.inl hmon.1) hroom, hlM]
    show Steps p.tables e below ((fillInside VV (F0 m pc ls rest) mk a cell).setTop (fillJ mk a 0 [])) target
    have hA0 := hAof VV.vm X₁.warmed
    have hA0' : At (fillInside VV (F0 m pc ls rest) mk a cell) mk cM below := hA0
    jvm_step hA0' [hx, hbM, zt_c0, Value.isRef]
    exact st1 target h
  have hA1 := hAof vm1 hW1
  have hX9 : ∀ vm, s.WarmedH vm → Stand p l e R s m args below meth c (VV.setVm vm) locs (τ.1 - n0) (τ.2.1 - k0) := fun vm hWv => X₁.noted hWv
  by_cases hwa : w = some a
  · rw [if_pos hwa] at e5
    subst e5
    subst hwa
    obtain ⟨t, a1, b1⟩ := h8 H locs h2 h3 (VV.setVm vm1) (hh9 vm1) (hX9 vm1 hW1)
    refine ⟨t, hstep₁ _ fun acts => ?_, b1⟩
    rw [doInvoke_state]
    refine hstart t ?_
    jvm_step hA1 [hx, hbM, zt_c4, Value.isRef, va_rf]
    jvm_step hA1 [hA1.top, hx, hbM, zt_c5, va_rf, Value.asRef?, Op.if_acmp.holds]
    jvm_step hA1 [hx, hbM, zt_c8]
    jvm_step hA1 [hx, hbM, zt_c9]
    exact hend vm1 hW1 none t a1
  · rw [if_neg hwa] at e5
    subst e5
    obtain ⟨vm2, hW2, st2⟩ := Steps.getfieldCold (tb := p.tables) (s₀ := s) (U := fillInside (VV.setVm vm1) (F0 m pc ls rest) mk a cell) (f := fillJ mk a 13 [.ref a]) (a := a) (rest := []) (cell := cell.withEntry VV.cur) (v := va_rf v) hA1 hx (by rw [hbM]; exact zt_c13) hW1 hlinkC hrightC LT.cls LT.at7 LT.causeInstance rfl (hcellU vm1) hknown hv0
    obtain ⟨t, a1, b1⟩ := h8 H locs h2 h3 (VV.setVm vm2) (hh9 vm2) (hX9 vm2 hW2)
    refine ⟨t, hstep₁ _ fun acts => ?_, b1⟩
    rw [doInvoke_state]
    refine hstart t ?_
    have htail : Steps p.tables e below ((fillInside (VV.setVm vm1) (F0 m pc ls rest) mk a cell).setTop (fillJ mk a 12 [])) t := by
      jvm_step hA1 [hx, hbM, zt_c12, Value.isRef]
      exact st2 t (hend vm2 hW2 v t a1)
    cases v with
    | none =>
      jvm_step hA1 [hx, hbM, zt_c4, Value.isRef, va_rf]
      jvm_step hA1 [hA1.top, hx, hbM, zt_c5, va_rf, Value.asRef?, Op.if_acmp.holds]
      exact htail
    | some b9 =>
      have hne : ¬ b9 = a := fun h => hwa (by rw [h])
      jvm_step hA1 [hx, hbM, zt_c4, Value.isRef, va_rf]
      jvm_step hA1 [hA1.top, hx, hbM, zt_c5, va_rf, Value.asRef?, Op.if_acmp.holds, hne]
      exact htail
end ZTB
