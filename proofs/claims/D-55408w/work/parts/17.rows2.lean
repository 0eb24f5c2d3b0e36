/-! more rows: constants of the world, calls by other roads -/
theorem zn_C {x : Int32} (h : 0 ≤ x ∧ x ≤ 65535) : narrow .char (.int x) = .int x := by
  obtain ⟨j, hj, rfl⟩ := nI_of2 (M := 65535) (n := 65535) rfl (by rw [Int32.lt_iff_toInt_lt]; have := Int32.le_iff_toInt_le.mp h.1; simpa using this) h.2
  exact (pk_charN (by omega)).1
theorem zp_C {x : Int32} (h : 0 ≤ x ∧ x ≤ 65535) : fits .char (.int x) = true := by
  obtain ⟨j, hj, rfl⟩ := nI_of2 (M := 65535) (n := 65535) rfl (by rw [Int32.lt_iff_toInt_lt]; have := Int32.le_iff_toInt_le.mp h.1; simpa using this) h.2
  exact (pk_charN (by omega)).2
theorem zn_bb {x : Int32} (h : -128 ≤ x ∧ x ≤ 127) : x.toInt8.toInt32 = x := by
  apply Int32.toInt_inj.mp
  have h1 := Int32.le_iff_toInt_le.mp h.1
  have h2 := Int32.le_iff_toInt_le.mp h.2
  rw [Int8.toInt_toInt32, Int32.toInt_toInt8]
  have e1 : (-128 : Int32).toInt = -128 := rfl
  have e2 : (127 : Int32).toInt = 127 := rfl
  rw [e1] at h1
  rw [e2] at h2
  rw [Int.bmod_eq_of_le] <;> omega
theorem zn_B {x : Int32} (h : -128 ≤ x ∧ x ≤ 127) : narrow .byte (.int x) = .int x := by
  show Value.int x.toInt8.toInt32 = _
  rw [zn_bb h]
theorem zp_B {x : Int32} (h : -128 ≤ x ∧ x ≤ 127) : fits .byte (.int x) = true := by
  have e9 := pk_fb x
  rwa [zn_bb h] at e9
section ZQ
variable {p : Program} {l : Launch} {e : Env} {R : Room} {s : State} {m : MethodId} {args : Array Value} {below : List Frame} {meth : Method} {c : Code} {Ω : zm_W} {Ts : List Cond} {cc : ByteArray} {own nm : String} {nL FF LL : Nat} {ret : Option FieldType}
variable {ρ : Type} {n0 k0 : Nat} {QF : (ρ ⊕ zm_X) → zm_S → State → Prop}
variable {α β : Type} {J : α → zm_M ρ} {pc : Nat} {ls : Array Slot} {rest st0 : List Value} {K : zm_K} {g : JFrame}
theorem zs_ldc {cells slots : Nat} {H : Heap} {locs : List Loc} {Q : State → Prop} (C : zm_C p l R s m args meth c Ω Ts cc own nm nL FF LL ret) {tx : String} {index : Nat} {r : zm_R} (hz : ∃ a, r = some a ∧ vk_R own index tx a Ω.1) (hdg : decode cc pc = .ok (.ldc index, 2))
    (k : W p l e R s m args below meth c H locs cells slots Q (F0 m (pc + 2) ls (va_rf r :: rest))) : W p l e R s m args below meth c H locs cells slots Q (F0 m pc ls rest) := by
  obtain ⟨hx, hb, hown, hts, hml, -, -, hK, hw, -⟩ := C
  obtain ⟨a, rfl, hv⟩ := hz
  exact va_ldcS hx hb hown (vk_R.warm hw hv) hdg k
theorem zs_ldcw {cells slots : Nat} {H : Heap} {locs : List Loc} {Q : State → Prop} (C : zm_C p l R s m args meth c Ω Ts cc own nm nL FF LL ret) {tx : String} {index : Nat} {r : zm_R} (hz : ∃ a, r = some a ∧ vk_R own index tx a Ω.1) (hdg : decode cc pc = .ok (.ldc_w index, 3))
    (k : W p l e R s m args below meth c H locs cells slots Q (F0 m (pc + 3) ls (va_rf r :: rest))) : W p l e R s m args below meth c H locs cells slots Q (F0 m pc ls rest) := by
  obtain ⟨hx, hb, hown, hts, hml, -, -, hK, hw, -⟩ := C
  obtain ⟨a, rfl, hv⟩ := hz
  have hv := vk_R.warm hw hv
  intro T hT X
  obtain ⟨t, a1, b1⟩ := k T hT X
  exact ⟨t, ldcStringW X hx hown (text := tx) (a := a) hv.1 hv.2 (g := F0 m pc ls rest) rfl (by rw [hb]; exact hdg) t a1, b1⟩
/-- a static, as the start has it: no cell that old is ever written -/
theorem rk_gets {x : zm_M α} (C : zm_C p l R s m args meth c Ω Ts cc own nm nL FF LL ret) {C_ n d ref : String} {v : Value} {index : Nat} (hZ : va_Z C_ n d v (fun q => Ω.1.heap.size ≤ q) Ω.1 Ω.1.heap) (hlink : Cond.fieldLink own index ref n d ∈ Ts) (hsame : ∀ x, s.fieldFound? C_ n d = some x → s.fieldFound? ref n d = some x) (hdg : decode cc pc = .ok (.getstatic index, 3))
    (kk : zm_RK p l e R s m args below meth c Ω n0 k0 QF x J (F0 m (pc + 3) ls (v :: rest))) : zm_RK p l e R s m args below meth c Ω n0 k0 QF x J (F0 m pc ls rest) := by
  obtain ⟨hx, hb, hown, hts, hml, -, -, hK, hw, -⟩ := C
  obtain ⟨cf, kf, fi, f, a, cell, g1, g2, g3, g4, g5, g6, g7, g8⟩ := va_Z.moved hw.alike hZ
  intro σ o τ H locs h1 h2 h3 h4 h5 h6 h7
  refine W.gets hx hb hown (hts _ hlink) (hsame _ g1) g2 g3 g4 ?_ (fun e => by rw [e] at g6; cases g6) g7 rfl hdg (kk σ o τ H locs h1 h2 h3 h4 h5 h6 h7)
  rw [h2.2.2.2 a (Array.getElem?_eq_some_iff.mp g5).1]
  exact g5
theorem cl_fl {len : Nat} {tv : β → Option Value} {r : zm_R} {ci : Nat} {g : JFrame} : zm_CL len p l e R s m args below meth c Ω n0 k0 tv (zm_bnd (zm_is r ci) fun _ => (zm_fl : zm_M β)) g rest := by
  intro σ o τ H locs h1
  obtain ⟨a, fs, -, -, h9⟩ := zm_is_run h1
  cases h9
theorem cl_case {len : Nat} {tv : β → Option Value} {r : zm_R} {ci k : Nat} {A B : zm_M β} {g : JFrame} (h1 : zm_CL len p l e R s m args below meth c Ω n0 k0 tv (zm_bnd (zm_is r k) fun _ => A) g rest) (h2 : zm_CL len p l e R s m args below meth c Ω n0 k0 tv (zm_bnd (zm_is r ci) fun _ => B) g rest) : zm_CL len p l e R s m args below meth c Ω n0 k0 tv (zm_bnd (zm_is r ci) fun _ => if ci = k then A else B) g rest := by
  by_cases hk : ci = k
  · subst hk
    simp only [if_pos]
    exact h1
  · simp only [if_neg hk]
    exact h2
theorem cl_dsp {len : Nat} {tv : β → Option Value} {r : zm_R} {f : Nat → zm_M β} {g : JFrame} (h : ∀ ci, zm_CL len p l e R s m args below meth c Ω n0 k0 tv (zm_bnd (zm_is r ci) fun _ => f ci) g rest) : zm_CL len p l e R s m args below meth c Ω n0 k0 tv (zm_bnd (zm_cls r) f) g rest := by
  intro σ o τ H locs h1
  rw [zm_run_bnd] at h1
  cases r with
  | none =>
    have e9 : zm_run (zm_cls none) σ = none := rfl
    rw [e9] at h1
    cases h1
  | some a =>
    have e9 : zm_run (zm_cls (some a)) σ = match σ.2.2 a with | some (.inr (c, _)) => some (.inl c, σ) | _ => none := rfl
    rw [e9] at h1
    cases hh : σ.2.2 a with
    | none => rw [hh] at h1; cases h1
    | some w =>
      cases w with
      | inl x => rw [hh] at h1; cases h1
      | inr o9 =>
        obtain ⟨ci, fs⟩ := o9
        rw [hh] at h1
        have h2 : zm_run (zm_bnd (zm_is (some a) ci) fun _ => f ci) σ = some (o, τ) := by
          have e8 : zm_run (zm_is (some a) ci) σ = some (.inl (), σ) := by
            show (zm_obj (some a) ci σ).map _ = _
            simp [zm_obj, hh]
          rw [zm_bnd_ok e8]
          exact h1
        exact h ci σ o τ H locs h2
/-- by the receiver's class, whatever the reference names: its words one by one -/
theorem cl_U {x y : MethodName} {bytes : ByteArray} {maxL F L n index ci : Nat} {rt : Option FieldType} {r : zm_R} {av : List Value} {tv : β → Option Value} {z : zm_M β} {T : u_T} {N : Nat} {C_ owner : String} (C : zm_C p l R s m args meth c Ω Ts cc own nm nL FF LL ret) (hc : Ω.2.2.2[ci]? = some (C_, T, N)) (ct : zm_Ct l Ω y (Cond.code y bytes maxL rt :: Ts) F L (va_rf r :: av) tv z) (hG : GoodIn Ts (Cond.code y bytes maxL rt :: Ts))
    (hini : Cond.initialized y.cls ∈ Ts) (hlink : Cond.methodLink own index x ∈ Ts) (hsame : (Cond.sameMethod x.cls owner x.name x.desc).before args s = true) (hdecl : va_Decl s ⟨owner, x.name, x.desc⟩) (hsel : (Cond.selects C_ x y).before args s = true) (hinst : Cond.instanceMethod y ∈ Ts)
    (hd : owner ≠ "java/lang/invoke/MethodHandle" ∧ owner ≠ "java/lang/invoke/VarHandle" ∧ (parseMethodDescriptor x.desc).map (fun d => d.parameters.length) = some n) (hF : F + 1 ≤ FF ∧ 8 + (maxL + 11) + L ≤ LL) (hn : av.length = n) (hl : ls.size = nL) (hst : st0 = av.reverse ++ va_rf r :: rest) (hW : (rest.map fun v => v.category).sum ≤ 8) (hdg : decode cc pc = .ok (.invokevirtual index, 3)) :
    zm_CL 3 p l e R s m args below meth c Ω n0 k0 tv (zm_bnd (zm_is r ci) fun _ => z) (F0 m pc ls st0) rest := by
  obtain ⟨hx, hb, hown, hts, hml, -, -, hK, hw, -, rfl, rfl, -, htr⟩ := C
  intro σ o τ H locs h1 h2 h3 h4 h5 h6 h7
  have hle := zm_run.le h1
  obtain ⟨a, fs, rfl, h8, h9⟩ := zm_is_run h1
  have hcw : Cond.code y bytes maxL rt ∈ (Cond.code y bytes maxL rt :: Ts) := List.mem_cons_self
  exact vz_runU (C := C_) (owner := owner) ⟨hx, hb, hml, hown, hts⟩ (ct htr σ o τ h9) ⟨⟨rfl, rfl, hF.1, hF.2, pay_in hts hG, hcw⟩, hts _ (hG _ hcw).1, hts _ hini, ⟨hd.1, hd.2.1⟩, (fun sig h => by have h2 := hd.2.2; rw [h] at h2; exact (Option.some.inj h2).symm), hts _ hlink, hsame, hdecl, hsel, hts _ hinst⟩ ⟨zm_blind _ _ _, zm_recv hK hw h2 h8 hc, zm_Pc_of h2 hw⟩ rfl hn hl hst (lv_room hW) hdg ⟨by have := hle.1; omega, by have := hle.2; omega⟩
/-- super.m(..) -/
theorem cl_SU {y : MethodName} {bytes : ByteArray} {maxL F L n index ci : Nat} {rt : Option FieldType} {r : zm_R} {av : List Value} {tv : β → Option Value} {z : zm_M β} {T : u_T} {N : Nat} {C_ : String} (C : zm_C p l R s m args meth c Ω Ts cc own nm nL FF LL ret) (hc : Ω.2.2.2[ci]? = some (C_, T, N)) (ct : zm_Ct l Ω y (Cond.code y bytes maxL rt :: Ts) F L (va_rf r :: av) tv z) (hT : GoodIn Ts (va_wsSU own index y (Cond.code y bytes maxL rt :: Ts)))
    (hd : y.name ≠ "<init>" ∧ (parseMethodDescriptor y.desc).map (fun d => d.parameters.length) = some n) (hF : F + 1 ≤ FF ∧ 8 + (maxL + 11) + L ≤ LL) (hn : av.length = n) (hl : ls.size = nL) (hst : st0 = av.reverse ++ va_rf r :: rest) (hW : (rest.map fun v => v.category).sum ≤ 8) (hdg : decode cc pc = .ok (.invokespecial index, 3)) :
    zm_CL 3 p l e R s m args below meth c Ω n0 k0 tv (zm_bnd (zm_is r ci) fun _ => z) (F0 m pc ls st0) rest := by
  obtain ⟨hx, hb, hown, hts, hml, -, -, hK, hw, -, rfl, rfl, -, htr⟩ := C
  intro σ o τ H locs h1 h2 h3 h4 h5 h6 h7
  have hle := zm_run.le h1
  obtain ⟨a, fs, rfl, h8, h9⟩ := zm_is_run h1
  exact vz_runSU (C := C_) ((hK.at hw).1 ci _ hc).2 ⟨hx, hb, hml, hown, hts⟩ (ct htr σ o τ h9) (va_cwSU n hts hT rfl rfl rfl hd hF) ⟨zm_blind _ _ _, zm_recv hK hw h2 h8 hc, zm_Pc_of h2 hw⟩ rfl hn hl hst (lv_room hW) hdg ⟨by have := hle.1; omega, by have := hle.2; omega⟩
/-- by an interface -/
theorem cl_F {x y : MethodName} {bytes : ByteArray} {maxL F L n index count ci : Nat} {rt : Option FieldType} {r : zm_R} {av : List Value} {tv : β → Option Value} {z : zm_M β} {T : u_T} {N : Nat} {C_ : String} (C : zm_C p l R s m args meth c Ω Ts cc own nm nL FF LL ret) (hc : Ω.2.2.2[ci]? = some (C_, T, N)) (ct : zm_Ct l Ω y (Cond.code y bytes maxL rt :: Ts) F L (va_rf r :: av) tv z) (hT : GoodIn Ts (va_wsF own index C_ x y (Cond.code y bytes maxL rt :: Ts))) (hFw : va_Fw C_ x y s)
    (hd : x.cls ≠ "java/lang/invoke/MethodHandle" ∧ x.cls ≠ "java/lang/invoke/VarHandle" ∧ (parseMethodDescriptor x.desc).map (fun d => d.parameters.length) = some n) (hF : F + 1 ≤ FF ∧ 8 + (maxL + 11) + L ≤ LL) (hn : av.length = n) (hl : ls.size = nL) (hst : st0 = av.reverse ++ va_rf r :: rest) (hW : (rest.map fun v => v.category).sum ≤ 8) (hdg : decode cc pc = .ok (.invokeinterface index count, 5)) :
    zm_CL 5 p l e R s m args below meth c Ω n0 k0 tv (zm_bnd (zm_is r ci) fun _ => z) (F0 m pc ls st0) rest := by
  obtain ⟨hx, hb, hown, hts, hml, -, -, hK, hw, -, rfl, rfl, -, htr⟩ := C
  intro σ o τ H locs h1 h2 h3 h4 h5 h6 h7
  have hle := zm_run.le h1
  obtain ⟨a, fs, rfl, h8, h9⟩ := zm_is_run h1
  exact vz_runF (C := C_) ((hK.at hw).1 ci _ hc).2 ⟨hx, hb, hml, hown, hts⟩ (ct htr σ o τ h9) (va_cwF n hts hT rfl rfl rfl hFw hd hF) ⟨zm_blind _ _ _, zm_recv hK hw h2 h8 hc, zm_Pc_of h2 hw⟩ rfl hn hl hst (lv_room hW) hdg ⟨by have := hle.1; omega, by have := hle.2; omega⟩
/-- a private method of a class above or the own one, upon an object of any class -/
theorem zk_selP {y : MethodName} {C_ : String} {n9 : Nat} (hy : y.cls ≠ "java/lang/invoke/MethodHandle" ∧ y.cls ≠ "java/lang/invoke/VarHandle") (hins : (Cond.instantiable C_ n9).before args s = true) (hpriv : (Cond.privateMethod y).before args s = true) (hinst : (Cond.instanceMethod y).before args s = true) {C2 : String} {y2 z2 : MethodName} (hw2 : (Cond.selects C2 y2 z2).before args s = true) (hz2 : z2.cls = y.cls) : (Cond.selects C_ y y).before args s = true := by
  obtain ⟨c9, k9, hc9, hk9, -, -, -, -⟩ := Cond.instantiable_spec hins
  obtain ⟨mk, methM, hnamed, hmethM, -, -⟩ := Cond.instanceMethod_spec hinst
  have hfound : s.methodFound? y.cls y.name y.desc = some mk := State.methodFound?_of_named hnamed hy
  have hsel : selectMethod {} s.vm c9 mk = .method mk := selectMethod_private hmethM (Cond.privateMethod_at hpriv mk methM hnamed hmethM)
  obtain ⟨c2, r2, m2, q1, q2, q3, q4, kP, hkP2, hkPi⟩ := Cond.selects_spec hw2
  have hkP : s.vm.classes[mk.cls]? = some kP := by
    have a1 := findClass_of_methodNamed hnamed
    have a2 := findClass_of_methodNamed q3
    rw [hz2] at a2
    have a3 : mk.cls = m2.cls := Option.some.inj (a1.symm.trans a2)
    rw [a3]
    exact hkP2
  simp only [Cond.before, Cond.holds, Cond.value, hc9, hfound, hnamed, hsel, hkP]
  simp; exact hkPi
end ZQ

/-! ldc_w of a float -/
section ZLW
variable {p : Program} {l : Launch} {e : Env} {R : Room} {s : State} {m : MethodId} {args : Array Value} {below : List Frame} {meth : Method} {c : Code} {cc : ByteArray} {H : Heap} {locs : List Loc} {cells slots : Nat} {Q : State → Prop} {pc : Nat} {ls : Array Slot} {rest : List Value}
theorem lv_ldcwf (hexec : p.tables.exec = Jvm.exec) (hb : c.code = cc) {own : String} {index : Nat} {v : UInt32} (hown : s.vm.findClass own = some m.cls) (hconst : (Jvm.Cond.constantFloat own index v).before args s = true) (hdg : decode cc pc = .ok (.ldc_w index, 3)) (k : W p l e R s m args below meth c H locs cells slots Q (F0 m (pc + 3) ls (.float v :: rest))) : W p l e R s m args below meth c H locs cells slots Q (F0 m pc ls rest) := by
  intro T hT X
  obtain ⟨t, a, b⟩ := k T hT X
  obtain ⟨k9, cf, hk, hcf, hcp⟩ := Cond.constantFloat_spec hown hconst
  obtain ⟨k', hk', he⟩ := X.warmed.alike.2.2 _ _ hk
  have hdg' : decode c.code pc = .ok (.ldc_w index, 3) := by rw [hb]; exact hdg
  refine ⟨t, ?_, b⟩
  jvm_step X.here [hexec, hdg', ldc_w.wp_float (s := T) (f := F0 m pc ls rest) X.here.top hk' (by rw [he]; exact hcf) hcp]
  exact a
end ZLW
