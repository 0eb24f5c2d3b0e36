/-! calls of other kinds: within a nest, of default methods; fields of objects of several classes -/
section ZYA
variable {p : Program} {l : Launch} {e : Env} {R : Room} {s : State} {m : MethodId} {args : Array Value} {below : List Frame} {meth : Method} {c : Code} {Ω : zm_W} {Ts : List Cond} {cc : ByteArray} {own nm : String} {nL FF LL : Nat} {ret : Option FieldType}
variable {ρ : Type} {n0 k0 : Nat} {QF : (ρ ⊕ zm_X) → zm_S → State → Prop}
variable {α β : Type} {J : α → zm_M ρ} {pc : Nat} {ls : Array Slot} {rest st0 : List Value} {K : zm_K} {g : JFrame} {hh : List (Nat × Nat × Nat × Nat)}
theorem zn_wM {a : String} {i : Nat} {x : MethodName} {h : String} (H : zm_H Ω K) (C : zm_C p l R s m args meth c Ω Ts cc own nm nL FF LL ret) (hw : Cond.methodLinkNest a i x h ∈ lw_tbl) : va_Nw (.methodLinkNest a i x h) s := by
  obtain ⟨a0, h0⟩ := H.2.2.2.1
  exact va_Nw.warmM C.2.2.2.2.2.2.2.2.1 (va_Nw.of rfl (h0 _ hw))
theorem zn_wF {a : String} {i : Nat} {b n d h : String} (H : zm_H Ω K) (C : zm_C p l R s m args meth c Ω Ts cc own nm nL FF LL ret) (hw : Cond.fieldLinkNest a i b n d h ∈ lw_tbl) : (Cond.fieldLinkNest a i b n d h).before args s = true := by
  obtain ⟨a0, h0⟩ := H.2.2.2.1
  exact va_Nw.use rfl (va_Nw.warmF C.2.2.2.2.2.2.2.2.1 (va_Nw.of rfl (h0 _ hw)))
theorem cl_IN {y : MethodName} {host : String} {bytes : ByteArray} {maxL F L n index : Nat} {r : Nat} {av : List Value} {tv : β → Option Value} {x : zm_M β} (C : zm_C p l R s m args meth c Ω Ts cc own nm nL FF LL ret) (ct : zm_Ct l Ω y (Cond.code y bytes maxL none :: Ts) F L (va_rf (some r) :: av) tv x) (hG : GoodIn Ts (Cond.code y bytes maxL none :: Ts)) (hini : Cond.initialized y.cls ∈ Ts) (hlk : va_Nw (.methodLinkNest own index y host) s) (hin : Cond.instanceMethod y ∈ Ts) (hy1 : y.name = "<init>")
    (hd : y.cls ≠ "java/lang/invoke/MethodHandle" ∧ y.cls ≠ "java/lang/invoke/VarHandle" ∧ (parseMethodDescriptor y.desc).map (fun d => d.parameters.length) = some n) (hF : F + 1 ≤ FF ∧ 8 + (maxL + 11) + L ≤ LL) (hn : av.length = n) (hl : ls.size = nL) (hst : st0 = av.reverse ++ va_rf (some r) :: rest) (hW : (rest.map fun v => v.category).sum ≤ 8) (hdg : decode cc pc = .ok (.invokespecial index, 3)) :
    zm_CL 3 p l e R s m args below meth c Ω n0 k0 tv x (F0 m pc ls st0) rest := by
  obtain ⟨hx, hb, hown, hts, hml, -, -, hK, hw, -, rfl, rfl, -, htr⟩ := C
  intro σ o τ H locs h1 h2 h3 h4 h5 h6 h7
  have hle := zm_run.le h1
  exact vz_runIN ⟨hx, hb, hml, hown, hts⟩ (ct htr σ o τ h1) ⟨va_cnB n hts hG rfl rfl rfl hlk (hts _ hini) hd hF, hy1, hts _ hin⟩ ⟨zm_blind _ _ _, zm_Pc_of h2 hw⟩ rfl hn hl hst (lv_room hW) hdg ⟨by have := hle.1; omega, by have := hle.2; omega⟩
theorem cl_VN {y : MethodName} {host : String} {bytes : ByteArray} {maxL F L n index ci : Nat} {rt : Option FieldType} {r : zm_R} {av : List Value} {tv : β → Option Value} {x : zm_M β} {T : u_T} {N : Nat} {C_ : String} (C : zm_C p l R s m args meth c Ω Ts cc own nm nL FF LL ret) (hc : Ω.2.2.2[ci]? = some (C_, T, N)) (ct : zm_Ct l Ω y (Cond.code y bytes maxL rt :: Ts) F L (va_rf r :: av) tv x) (hG : GoodIn Ts (Cond.code y bytes maxL rt :: Ts)) (hini : Cond.initialized y.cls ∈ Ts) (hlk : va_Nw (.methodLinkNest own index y host) s) (hin : Cond.instanceMethod y ∈ Ts) (hsel : Cond.selects C_ y y ∈ Ts)
    (hd : y.cls ≠ "java/lang/invoke/MethodHandle" ∧ y.cls ≠ "java/lang/invoke/VarHandle" ∧ (parseMethodDescriptor y.desc).map (fun d => d.parameters.length) = some n) (hF : F + 1 ≤ FF ∧ 8 + (maxL + 11) + L ≤ LL) (hn : av.length = n) (hl : ls.size = nL) (hst : st0 = av.reverse ++ va_rf r :: rest) (hW : (rest.map fun v => v.category).sum ≤ 8) (hdg : decode cc pc = .ok (.invokevirtual index, 3)) :
    zm_CL 3 p l e R s m args below meth c Ω n0 k0 tv (zm_bnd (zm_is r ci) fun _ => x) (F0 m pc ls st0) rest := by
  obtain ⟨hx, hb, hown, hts, hml, -, -, hK, hw, -, rfl, rfl, -, htr⟩ := C
  intro σ o τ H locs h1 h2 h3 h4 h5 h6 h7
  have hle := zm_run.le h1
  obtain ⟨a, fs, rfl, h8, h9⟩ := zm_is_run h1
  exact vz_runVN (C := C_) ⟨hx, hb, hml, hown, hts⟩ (ct htr σ o τ h9) ⟨va_cnB n hts hG rfl rfl rfl hlk (hts _ hini) hd hF, hts _ hin, hts _ hsel⟩ ⟨zm_blind _ _ _, zm_recv hK hw h2 h8 hc, zm_Pc_of h2 hw⟩ rfl hn hl hst (lv_room hW) hdg ⟨by have := hle.1; omega, by have := hle.2; omega⟩
theorem cl_SN {y : MethodName} {host : String} {bytes : ByteArray} {maxL F L n index : Nat} {rt : Option FieldType} {av : List Value} {tv : β → Option Value} {x : zm_M β} (C : zm_C p l R s m args meth c Ω Ts cc own nm nL FF LL ret) (ct : zm_Ct l Ω y (Cond.code y bytes maxL rt :: Ts) F L av tv x) (hG : GoodIn Ts (Cond.code y bytes maxL rt :: Ts)) (hini : Cond.initialized y.cls ∈ Ts) (hlk : va_Nw (.methodLinkNest own index y host) s) (hst9 : Cond.static y ∈ Ts)
    (hd : y.cls ≠ "java/lang/invoke/MethodHandle" ∧ y.cls ≠ "java/lang/invoke/VarHandle" ∧ (parseMethodDescriptor y.desc).map (fun d => d.parameters.length) = some n) (hF : F + 1 ≤ FF ∧ 8 + (maxL + 11) + L ≤ LL) (hn : av.length = n) (hl : ls.size = nL) (hst : st0 = av.reverse ++ rest) (hW : (rest.map fun v => v.category).sum ≤ 8) (hdg : decode cc pc = .ok (.invokestatic index, 3)) :
    zm_CL 3 p l e R s m args below meth c Ω n0 k0 tv x (F0 m pc ls st0) rest := by
  obtain ⟨hx, hb, hown, hts, hml, -, -, hK, hw, -, rfl, rfl, -, htr⟩ := C
  intro σ o τ H locs h1 h2 h3 h4 h5 h6 h7
  have hle := zm_run.le h1
  exact vz_runSN (As := av) ⟨hx, hb, hml, hown, hts⟩ (ct htr σ o τ h1) ⟨va_cnB n hts hG rfl rfl rfl hlk (hts _ hini) hd hF, hts _ hst9, trivial⟩ ⟨zm_blind _ _ _, zm_Pc_of h2 hw⟩ rfl hn hl hst (lv_room hW) hdg ⟨by have := hle.1; omega, by have := hle.2; omega⟩
/-- a call that lands in an interface's default method -/
theorem cl_D {x y : MethodName} {bytes : ByteArray} {maxL F L n index ci : Nat} {rt : Option FieldType} {r : zm_R} {av : List Value} {tv : β → Option Value} {z : zm_M β} {T : u_T} {N : Nat} {C_ owner : String} (C : zm_C p l R s m args meth c Ω Ts cc own nm nL FF LL ret) (hc : Ω.2.2.2[ci]? = some (C_, T, N)) (ct : zm_Ct l Ω y (Cond.code y bytes maxL rt :: Ts) F L (va_rf r :: av) tv z) (hG : GoodIn Ts (Cond.code y bytes maxL rt :: Ts)) (hini : Cond.initialized y.cls ∈ Ts)
    {A0 A1 : Array Value} (hlink : (Cond.methodLink own index x).before A0 Ω.1 = true) (hsame : (Cond.sameMethod x.cls owner x.name x.desc).before A0 Ω.1 = true) (hlands : (Cond.landsInDefault C_ x y).before A1 Ω.1 = true) (hdecl : (Cond.declares ⟨owner, x.name, x.desc⟩).before args s = true) (hinst : Cond.instanceMethod y ∈ Ts) (howner : owner ≠ "java/lang/invoke/MethodHandle" ∧ owner ≠ "java/lang/invoke/VarHandle")
    (hd : (parseMethodDescriptor x.desc).map (fun d => d.parameters.length) = some n) (hF : F + 1 ≤ FF ∧ 8 + (maxL + 11) + L ≤ LL) (hn : av.length = n) (hl : ls.size = nL) (hst : st0 = av.reverse ++ va_rf r :: rest) (hW : (rest.map fun v => v.category).sum ≤ 8) (hdg : decode cc pc = .ok (.invokevirtual index, 3)) :
    zm_CL 3 p l e R s m args below meth c Ω n0 k0 tv (zm_bnd (zm_is r ci) fun _ => z) (F0 m pc ls st0) rest := by
  obtain ⟨hx, hb, hown, hts, hml, -, -, hK, hw, -, rfl, rfl, -, htr⟩ := C
  intro σ o τ H locs h1 h2 h3 h4 h5 h6 h7
  have hle := zm_run.le h1
  obtain ⟨a, fs, rfl, h8, h9⟩ := zm_is_run h1
  obtain ⟨cell, g1, g2, g3⟩ := zm_recv hK hw h2 h8 hc
  obtain ⟨r0, rr, hnm, hrm, hstR, hsigR⟩ := Cond.declares_spec hdecl
  have hlink9 : (Cond.methodLink own index x).before args s = true := word_at hw (Or.inl (by first | rfl | simp [Cond.onTables, Cond.keeps, Cond.steady])) hlink
  have hsame9 : (Cond.sameMethod x.cls owner x.name x.desc).before args s = true := word_at hw (Or.inl (by first | rfl | simp [Cond.onTables, Cond.keeps, Cond.steady])) hsame
  obtain ⟨c1, rA, mA, rm, p1, p2, p3, p4, p5, ⟨mkA, p6, p7⟩, p8, p9⟩ := Cond.landsInDefault_spec hlands
  obtain ⟨cn0, ck0, r10, hcn0, hck0, hni0, hfo0, hn10⟩ := Cond.sameMethod_found hsame
  cases hfo0.symm.trans p2
  have hn1s : (Ω.1.setVm s.vm).methodNamed? ⟨owner, x.name, x.desc⟩ = some rA := by rw [State.methodNamed?_setVm hw.alike]; exact hn10
  have hn1s : s.methodNamed? ⟨owner, x.name, x.desc⟩ = some rA := hn1s
  cases hnm.symm.trans hn1s
  have hnys : (Ω.1.setVm s.vm).methodNamed? y = some mA := by rw [State.methodNamed?_setVm hw.alike]; exact p3
  have hnys : s.methodNamed? y = some mA := hnys
  obtain ⟨mk, methM, hnamed, hmethM, hstM, habM⟩ := Cond.instanceMethod_spec (hts _ hinst)
  cases hnamed.symm.trans hnys
  have hrm9 : s.vm.method? r0 = some rm := by rw [hw.alike.method?]; exact p4
  cases hrm.symm.trans hrm9
  have hcls : cell.cls = c1 := by
    have h9' : s.vm.findClass C_ = some c1 := by rw [hw.alike.findClass]; exact p1
    exact Option.some.inj (g3.symm.trans h9')
  obtain ⟨mk9, q6, qe⟩ := hw.alike.2.2 _ _ p6
  have hnear : NearOk s.vm cell.cls rr.name rr.desc mA := by rw [hcls]; exact p9.alike hw.alike
  have hws := pay_in hts hG
  have hcode : (Cond.code y bytes maxL rt).before args s = true := hws _ List.mem_cons_self args s (State.WarmedH.refl s)
  intro T0 hT X
  have hselP : selectMethod e.platform s.vm cell.cls r0 = .method mA := by
    rw [Launch.admits_selectMethod X.admits, hcls, hw.alike.selectMethod]; exact p5
  have hlen : av.length = rr.sig.parameters.length := by
    have h9' := hsigR
    dsimp only at h9'
    rw [h9'] at hd
    exact hn.trans (Option.some.inj hd).symm
  subst hst
  obtain ⟨vm₁, X₁, hstep₁⟩ := X.invokevirtualUpD hx hown hlink9 hsame9 howner hnm hrm hstR (a := a) (cell := cell) (by rw [hT]; exact g1) (fun q h => by rw [h] at g2; cases g2) hselP hmethM habM q6 (show mk9.isInterface = true by rw [qe]; exact p7) hnear
    (g := F0 m pc ls (av.reverse ++ va_rf (some a) :: rest)) rfl (argsL := av) (rest := rest) hlen rfl (by rw [hb]; exact hdg)
  have hK9 : vz_Back l R p e below s args y 3 8 (PreOf R (τ.1 - σ.1) (τ.2.1 - σ.2.1) (zm_Pc Ω σ (va_rf (some a) :: av))) (PostOf (zm_Qc Ω τ tv o) (τ.1 - σ.1) (τ.2.1 - σ.2.1) (zm_fr Ω)) (vz_Post (zm_XC Ω τ o) (τ.1 - σ.1) (τ.2.1 - σ.2.1) (zm_fr Ω)) :=
    vz_back (bytes := bytes) (maxL := maxL) (ret := rt) (ct htr σ o τ h9) (zm_blind _ _ _) rfl rfl hF.1 hF.2 hws List.mem_cons_self (fun a' U hW => word_at hW (Or.inl (by first | rfl | simp [Cond.onTables, Cond.keeps, Cond.steady])) (hts _ hini))
  have hpre : PreOf R (τ.1 - σ.1) (τ.2.1 - σ.2.1) (zm_Pc Ω σ (va_rf (some a) :: av)) ⟨T0.setVm vm₁, locs, σ.1 - n0, σ.2.1 - k0⟩ (va_rf (some a) :: av).toArray := ⟨by have := hle.1; show (σ.1 - n0) + (τ.1 - σ.1) ≤ R.cells; omega, by have := hle.2; show (σ.2.1 - k0) + (τ.2.1 - σ.2.1) ≤ R.slots; omega, zm_Pc_of (s := s) h2 hw (T0.setVm vm₁) hT X₁.warmed⟩
  rcases hK9 m meth c ⟨T0.setVm vm₁, locs, σ.1 - n0, σ.2.1 - k0⟩ (F0 m pc ls rest) (.invokevirtual index) mA (va_rf (some a) :: av).toArray X₁ rfl (hl.trans hml.symm) (by rw [hb]; exact hdg) (by show 2 * 0 + (rest.map fun v => v.category).sum ≤ 8; omega) (X₁.named hnamed) hpre with ⟨v, ⟨U', l2, c2, s2⟩, X', ⟨g', mk', t, L9, e1, e2, hq, w1, hL, w2, w3⟩, st⟩ | ⟨q, ⟨U', l2, c2, s2⟩, X', ⟨g', mk', t, L9, E, ce, e1, e2, hq, hce, hcv, hcl, w1, hL, w2, w3⟩, st⟩
  · dsimp only [Pt.U, Pt.locs, Pt.cells, Pt.slots] at X' e1 e2 w1 w2 w3 st hq
    subst w1; subst w2; subst w3
    exact Or.inl ⟨v, (T0.setVm vm₁).calling g' mk' (va_rf (some a) :: av).toArray, t, U', L9, hT, X', hL, e1, e2, hq, fun target h => hstep₁ _ fun acts => by rw [doInvoke_state]; exact st.trans h⟩
  · dsimp only [Pt.U, Pt.locs, Pt.cells, Pt.slots] at X' e1 e2 w1 w2 w3 st hq hcl
    subst w1; subst w2; subst w3
    exact Or.inr ⟨q, (T0.setVm vm₁).calling g' mk' (va_rf (some a) :: av).toArray, t, U', L9, E, ce, hT, X', hL, e1, e2, hq, hce, hcv, vz_cls X₁.warmed hcl, hstep₁ _ fun acts => by rw [doInvoke_state]; exact st⟩
/-- on by the receiver's class -/
theorem rk_dsp {r : zm_R} {f : Nat → zm_M α} {g : JFrame} (h : ∀ ci, zm_RK p l e R s m args below meth c Ω n0 k0 QF (f ci) J g) : zm_RK p l e R s m args below meth c Ω n0 k0 QF (zm_bnd (zm_cls r) f) J g := by
  unfold zm_RK
  rw [zm_assoc]
  intro σ o τ H locs h1 h2 h3 h4 h5 h6 h7
  rw [zm_run_bnd] at h1
  cases hp : zm_run (zm_cls r) σ with
  | none => rw [hp] at h1; cases h1
  | some v =>
    obtain ⟨w, υ⟩ := v
    obtain ⟨hle, a, rfl⟩ := zm_cls_st r _ _ _ hp
    have hσ : υ = σ := by
      cases r with
      | none => cases hp
      | some q =>
        have hp : (match σ.2.2 q with | some (.inr (c, _)) => some ((Sum.inl c : Nat ⊕ zm_X), σ) | _ => none) = some (.inl a, υ) := hp
        split at hp
        · simp only [Option.some.injEq, Prod.mk.injEq] at hp
          exact hp.2.symm
        · cases hp
    subst hσ
    rw [hp] at h1
    exact h a _ o τ H locs h1 h2 h3 h4 h5 h6 h7
end ZYA
def zm_tb {β : Type} (r : zm_R) (tbl : List (Nat × Nat)) (f : Nat → Nat → zm_M β) : zm_M β := zm_bnd (zm_cls r) fun ci => match tbl.lookup ci with
  | some k => f ci k
  | none => zm_fl
theorem tb_nil {P : Nat → Nat → Prop} : ∀ ci k : Nat, ([] : List (Nat × Nat)).lookup ci = some k → P ci k := fun _ _ h => nomatch h
theorem tb_cons {P : Nat → Nat → Prop} {c9 k9 : Nat} {t : List (Nat × Nat)} (h : P c9 k9) (ht : ∀ ci k : Nat, t.lookup ci = some k → P ci k) : ∀ ci k : Nat, ((c9, k9) :: t).lookup ci = some k → P ci k := by
  intro ci k hl
  rw [List.lookup_cons] at hl
  split at hl
  · rename_i hb
    have e1 : ci = c9 := by simpa using hb
    cases hl
    rw [e1]
    exact h
  · exact ht ci k hl
section ZYB
variable {p : Program} {l : Launch} {e : Env} {R : Room} {s : State} {m : MethodId} {args : Array Value} {below : List Frame} {meth : Method} {c : Code} {Ω : zm_W} {n0 k0 : Nat} {ρ : Type} {QF : (ρ ⊕ zm_X) → zm_S → State → Prop} {α β : Type} {J : α → zm_M ρ} {g : JFrame}
theorem rk_tb {r : zm_R} {tbl : List (Nat × Nat)} {prim : Nat → Nat → zm_M β} {f : β → zm_M α} {P : Prop} (h : ∀ ci k : Nat, tbl.lookup ci = some k → (P → zm_RK p l e R s m args below meth c Ω n0 k0 QF (zm_bnd (prim ci k) f) J g)) (kk : P) : zm_RK p l e R s m args below meth c Ω n0 k0 QF (zm_bnd (zm_tb r tbl prim) f) J g := by
  unfold zm_tb
  refine rk_sub (rk_dsp fun ci => ?_)
  cases hl : tbl.lookup ci with
  | none => exact rk_fl
  | some k =>
    have h9 := h ci k hl kk
    unfold zm_RK at h9 ⊢
    rw [zm_assoc] at h9
    exact h9
end ZYB
section ZYC
variable {p : Program} {l : Launch} {e : Env} {R : Room} {s : State} {m : MethodId} {args : Array Value} {below : List Frame} {meth : Method} {c : Code} {Ω : zm_W} {cc : ByteArray} {own nm : String} {nL FF LL : Nat} {ret : Option FieldType} {K : zm_K}
theorem zh_ls {Ts : List Cond} (H : zm_H Ω K) (C : zm_C p l R s m args meth c Ω Ts cc own nm nL FF LL ret) {C_ n d : String} (hw : Cond.laysStatic C_ n d ∈ lw_tbl) : (Cond.laysStatic C_ n d).before args s = true := by
  obtain ⟨a0, h0⟩ := H.2.2.2.1
  obtain ⟨c, k, i, f, a, cell, h1, h2, h3, h4, h5, h6, h7, h8, h9⟩ := Cond.laysStatic_spec (h0 _ hw)
  have hL : vz_L C_ n d (fun _ => False) Ω.1 Ω.1.heap := ⟨c, k, i, f, a, cell, h1, h2, h3, h4, h5, h6, h7, h8, h9, fun h => h⟩
  have h2 := vz_L.moved (C.2.2.2.2.2.2.2.2.1).alike hL
  exact (h2.kept (H1 := s.heap) (fun a ha _ => C.2.2.2.2.2.2.2.2.2.2.2.2.1.2 a ha)).word
theorem zh_thr (H : zm_H Ω K) (C : zm_C p l R s m args meth c Ω lw_all cc own nm nL FF LL ret) : ∀ x ∈ Bundle.throwableAtoms, x.before args s = true := by
  intro x hx
  simp only [Bundle.throwableAtoms, List.mem_cons, List.not_mem_nil, or_false] at hx
  rcases hx with rfl | rfl | rfl | rfl | rfl | rfl | rfl | rfl | rfl | rfl | rfl | rfl | rfl | rfl | rfl | rfl | rfl | rfl | rfl | rfl | rfl | rfl | rfl | rfl
  · exact C.2.2.2.1 _ q113
  · exact C.2.2.2.1 _ q380
  · exact C.2.2.2.1 _ q389
  · exact C.2.2.2.1 _ q400
  · exact C.2.2.2.1 _ q403
  · exact C.2.2.2.1 _ q405
  · exact C.2.2.2.1 _ q381
  · exact C.2.2.2.1 _ q382
  · exact C.2.2.2.1 _ q156
  · exact C.2.2.2.1 _ q157
  · exact C.2.2.2.1 _ q383
  · exact C.2.2.2.1 _ q388
  · exact C.2.2.2.1 _ q401
  · exact C.2.2.2.1 _ q624
  · exact C.2.2.2.1 _ q370
  · exact C.2.2.2.1 _ q625
  · exact C.2.2.2.1 _ q372
  · exact C.2.2.2.1 _ q626
  · exact C.2.2.2.1 _ q374
  · exact C.2.2.2.1 _ q384
  · exact zh_ls H C q385
  · exact C.2.2.2.1 _ q386
  · exact zh_ls H C q387
  · exact C.2.2.2.1 _ q376
end ZYC
theorem zp_nil {τ : Type} {P : τ → Prop} : ∀ z, z ∈ ([] : List τ) → P z := fun _ h => nomatch h
theorem zp_cons {τ : Type} {P : τ → Prop} {a : τ} {l : List τ} (h : P a) (t : ∀ z, z ∈ l → P z) : ∀ z, z ∈ a :: l → P z := by
  intro z hz
  rcases List.mem_cons.mp hz with e | e
  · rw [e]; exact h
  · exact t z e
theorem zw_ad {t : List Value} {n k m : Nat} (h : (t.map fun v => v.category).sum = n) (hm : n + k ≤ m) : (t.map fun v => v.category).sum + k ≤ m := by rw [h]; exact hm
theorem zn_wC {p : Program} {l : Launch} {R : Room} {s : State} {m : MethodId} {args : Array Value} {meth : Method} {c : Code} {Ω : zm_W} {Ts : List Cond} {cc : ByteArray} {own nm : String} {nL FF LL : Nat} {ret : Option FieldType} {K : zm_K} {a b : String} (H : zm_H Ω K) (C : zm_C p l R s m args meth c Ω Ts cc own nm nL FF LL ret) (hw : Cond.castable a b ∈ lw_tbl) : (Cond.castable a b).before args s = true := by
  obtain ⟨a0, h0⟩ := H.2.2.2.1
  exact va_Nw.use rfl (va_Nw.warmC C.2.2.2.2.2.2.2.2.1 (va_Nw.of rfl (h0 _ hw)))
theorem zn_wD {p : Program} {l : Launch} {R : Room} {s : State} {m : MethodId} {args : Array Value} {meth : Method} {c : Code} {Ω : zm_W} {Ts : List Cond} {cc : ByteArray} {own nm : String} {nL FF LL : Nat} {ret : Option FieldType} {K : zm_K} {x : MethodName} (H : zm_H Ω K) (C : zm_C p l R s m args meth c Ω Ts cc own nm nL FF LL ret) (hw : Cond.declares x ∈ lw_tbl) : (Cond.declares x).before args s = true := by
  obtain ⟨a0, h0⟩ := H.2.2.2.1
  exact va_Nw.use rfl (va_Nw.warmD C.2.2.2.2.2.2.2.2.1 (va_Nw.of rfl (h0 _ hw)))
theorem zn_wI {p : Program} {l : Launch} {R : Room} {s : State} {m : MethodId} {args : Array Value} {meth : Method} {c : Code} {Ω : zm_W} {Ts : List Cond} {cc : ByteArray} {own nm : String} {nL FF LL : Nat} {ret : Option FieldType} {K : zm_K} {x : MethodName} (H : zm_H Ω K) (C : zm_C p l R s m args meth c Ω Ts cc own nm nL FF LL ret) (hx : x.cls ≠ "java/lang/invoke/MethodHandle" ∧ x.cls ≠ "java/lang/invoke/VarHandle") (hw : Cond.interfaceMethod x.cls x.cls x.name x.desc ∈ lw_tbl) (hd : Cond.declares x ∈ lw_tbl) : (Cond.interfaceMethod x.cls x.cls x.name x.desc).before args s = true := by
  obtain ⟨a0, h0⟩ := H.2.2.2.1
  obtain ⟨r, meth, hn, -⟩ := Cond.declares_spec (h0 _ hd)
  have hW := C.2.2.2.2.2.2.2.2.1
  exact va_Nw.use rfl (va_tabs (A := a0) rfl (rfl : (Ω.1.setVm s.vm).vm = s.vm) (by rw [Cond.interfaceMethod_setVm hW.alike (r := r) hn hx]; exact h0 _ hw))
theorem zh_Fw {p : Program} {l : Launch} {R : Room} {s : State} {m : MethodId} {args : Array Value} {meth : Method} {c : Code} {Ω : zm_W} {Ts : List Cond} {cc : ByteArray} {own nm : String} {nL FF LL : Nat} {ret : Option FieldType} {K : zm_K} {C_ : String} {x y : MethodName} (H : zm_H Ω K) (C : zm_C p l R s m args meth c Ω Ts cc own nm nL FF LL ret) (hx : x.cls ≠ "java/lang/invoke/MethodHandle" ∧ x.cls ≠ "java/lang/invoke/VarHandle") (h1 : Cond.declares x ∈ lw_tbl) (h2 : Cond.interfaceMethod x.cls x.cls x.name x.desc ∈ lw_tbl) (h3 : Cond.publicMethod y ∈ lw_tbl) (h4 : Cond.unhidden C_ x.name x.desc ∈ lw_tbl) (h5 : Cond.castable C_ x.cls ∈ lw_tbl) : va_Fw C_ x y s := by
  obtain ⟨a0, h0⟩ := H.2.2.2.1
  exact va_Fw.moved hx C.2.2.2.2.2.2.2.2.1.alike (va_Fw.of (h0 _ h1) (h0 _ h2) (h0 _ h3) (h0 _ h4) (h0 _ h5))
theorem zh_w0 {Ω : zm_W} {K : zm_K} (H : zm_H Ω K) {w : Cond} (hw : w ∈ lw_tbl) : w.before H.2.2.2.1.choose Ω.1 = true := H.2.2.2.1.choose_spec _ hw
theorem zh_up {p : Program} {l : Launch} {R : Room} {s : State} {m : MethodId} {args : Array Value} {meth : Method} {c : Code} {Ω : zm_W} {Ts : List Cond} {cc : ByteArray} {own nm : String} {nL FF LL : Nat} {ret : Option FieldType} {a0 : Array Value} {w : Cond} (C : zm_C p l R s m args meth c Ω Ts cc own nm nL FF LL ret) (hk : (w.onTables && w.keeps) = true) (h : w.before a0 Ω.1 = true) : w.before args s = true := word_at C.2.2.2.2.2.2.2.2.1 (Or.inl hk) h
section ZYD
variable {p : Program} {l : Launch} {e : Env} {R : Room} {s : State} {m : MethodId} {args : Array Value} {below : List Frame} {meth : Method} {c : Code} {Ω : zm_W} {Ts : List Cond} {cc : ByteArray} {own nm : String} {nL FF LL : Nat} {ret : Option FieldType} {K : zm_K}
variable {ρ : Type} {n0 k0 : Nat} {QF : (ρ ⊕ zm_X) → zm_S → State → Prop} {α : Type} {J : α → zm_M ρ} {pc : Nat} {ls : Array Slot} {rest st0 : List Value}
theorem zh_ncs (H9 : zm_H Ω K) (C : zm_C p l R s m args meth c Ω Ts cc own nm nL FF LL ret) {L : List String} {t E : String} (h : (L.all fun E => decide ((E, t) ∈ zm_ncs)) = true) (hE : E ∈ L) : va_Nc E t s := by
  have h9 := List.all_eq_true.mp h E hE
  exact zh_nc H9 C (by simpa using h9)
theorem zh_df (H : zm_H Ω K) : ∃ a0 : Array Value, (∀ w ∈ defaultWords_1, w.before a0 Ω.1 = true) ∧ ∀ q : String × MethodName × MethodName, q ∈ zm_dfs → (Cond.landsInDefault q.1 q.2.1 q.2.2).before a0 Ω.1 = true := H.2.2.2.2.2.2.2.2.2.2
theorem zh_mi (H : zm_H Ω K) : ∃ mi, K.2 38 = some mi ∧ va_Mi "[Ljava/lang/Object;" mi Ω.1 := H.2.2.2.2.2.2.2.1
/-- the type Object[] -/
theorem zh_AO (H : zm_H Ω K) (C : zm_C p l R s m args meth c Ω Ts cc own nm nL FF LL ret) : (Cond.arrayOver (.object "java/lang/Object")).before args s = true := by
  obtain ⟨a0, h0⟩ := H.2.2.2.1
  exact va_AO.use (va_AO.moved C.2.2.2.2.2.2.2.2.1.alike (va_AO.of (h0 _ q1228)))
/-- Object.getClass is declared -/
theorem zh_Dc (H : zm_H Ω K) (C : zm_C p l R s m args meth c Ω Ts cc own nm nL FF LL ret) : (Cond.declares ⟨"java/lang/Object", "getClass", "()Ljava/lang/Class;"⟩).before args s = true := by
  obtain ⟨a0, h0⟩ := H.2.2.2.1
  exact va_Dc.use (va_Dc.moved C.2.2.2.2.2.2.2.2.1.alike (va_Dc.of (h0 _ q3129)))
theorem rk_callPI {len : Nat} {x : zm_M Int32} {f : Int32 → zm_M α} (hX : ∀ (E : String) (q : Nat), zm_RX p l e R s m args below meth c Ω n0 k0 QF (zm_thr E q) (F0 m pc ls rest) E q) (hc : zm_CL len p l e R s m args below meth c Ω n0 k0 zm_tvI x (F0 m pc ls st0) rest)
    (kk : ∀ v, zm_RK p l e R s m args below meth c Ω n0 k0 QF (f v) J (F0 m (pc + len) ls (.int v :: rest))) : zm_RK p l e R s m args below meth c Ω n0 k0 QF (zm_bnd x f) J (F0 m pc ls st0) := rk_ctc hc (fun E q => hX E q) kk
theorem rk_callPR {len : Nat} {x : zm_M zm_R} {f : zm_R → zm_M α} (hX : ∀ (E : String) (q : Nat), zm_RX p l e R s m args below meth c Ω n0 k0 QF (zm_thr E q) (F0 m pc ls rest) E q) (hc : zm_CL len p l e R s m args below meth c Ω n0 k0 zm_tvR x (F0 m pc ls st0) rest)
    (kk : ∀ v, zm_RK p l e R s m args below meth c Ω n0 k0 QF (f v) J (F0 m (pc + len) ls (va_rf v :: rest))) : zm_RK p l e R s m args below meth c Ω n0 k0 QF (zm_bnd x f) J (F0 m pc ls st0) := rk_ctc hc (fun E q => hX E q) kk
theorem rk_callPV {len : Nat} {x : zm_M Unit} {f : Unit → zm_M α} (hX : ∀ (E : String) (q : Nat), zm_RX p l e R s m args below meth c Ω n0 k0 QF (zm_thr E q) (F0 m pc ls rest) E q) (hc : zm_CL len p l e R s m args below meth c Ω n0 k0 zm_tvV x (F0 m pc ls st0) rest)
    (kk : ∀ v, zm_RK p l e R s m args below meth c Ω n0 k0 QF (f v) J (F0 m (pc + len) ls rest)) : zm_RK p l e R s m args below meth c Ω n0 k0 QF (zm_bnd x f) J (F0 m pc ls st0) := rk_ctc hc (fun E q => hX E q) kk
theorem rk_callPF {len : Nat} {x : zm_M UInt32} {f : UInt32 → zm_M α} (hX : ∀ (E : String) (q : Nat), zm_RX p l e R s m args below meth c Ω n0 k0 QF (zm_thr E q) (F0 m pc ls rest) E q) (hc : zm_CL len p l e R s m args below meth c Ω n0 k0 zm_tvF x (F0 m pc ls st0) rest)
    (kk : ∀ v, zm_RK p l e R s m args below meth c Ω n0 k0 QF (f v) J (F0 m (pc + len) ls (.float v :: rest))) : zm_RK p l e R s m args below meth c Ω n0 k0 QF (zm_bnd x f) J (F0 m pc ls st0) := rk_ctc hc (fun E q => hX E q) kk
theorem rk_callPD {len : Nat} {x : zm_M UInt64} {f : UInt64 → zm_M α} (hX : ∀ (E : String) (q : Nat), zm_RX p l e R s m args below meth c Ω n0 k0 QF (zm_thr E q) (F0 m pc ls rest) E q) (hc : zm_CL len p l e R s m args below meth c Ω n0 k0 zm_tvD x (F0 m pc ls st0) rest)
    (kk : ∀ v, zm_RK p l e R s m args below meth c Ω n0 k0 QF (f v) J (F0 m (pc + len) ls (.double v :: rest))) : zm_RK p l e R s m args below meth c Ω n0 k0 QF (zm_bnd x f) J (F0 m pc ls st0) := rk_ctc hc (fun E q => hX E q) kk
end ZYD
section ZYE
variable {p : Program} {l : Launch} {e : Env} {R : Room} {s : State} {m : MethodId} {args : Array Value} {below : List Frame} {meth : Method} {c : Code} {Ω : zm_W} {Ts : List Cond} {cc : ByteArray} {own nm : String} {nL FF LL : Nat} {ret : Option FieldType} {K : zm_K}
variable {ρ : Type} {n0 k0 : Nat} {QF : (ρ ⊕ zm_X) → zm_S → State → Prop} {α : Type} {J : α → zm_M ρ} {pc : Nat} {ls : Array Slot} {rest st0 : List Value}
theorem rk_mmax (C : zm_C p l R s m args meth c Ω Ts cc own nm nL FF LL ret) (hml : ls.size = nL) {index : Nat} (hlink : Cond.methodLink own index Lib.Math.max.name ∈ Ts) (hstat : Cond.static Lib.Math.max.name ∈ Ts) (hini : Cond.initialized "java/lang/Math" ∈ Ts) (hcode : Cond.code Lib.Math.max.name Lib.Math.max.code 2 (some .int) ∈ Ts) (hF : 1 ≤ FF) (hL : (rest.map fun v => v.category).sum + 13 ≤ LL) {x y : Int32} (hdg : decode cc pc = .ok (.invokestatic index, 3)) {f : Int32 → zm_M α}
    (kk : ∀ v, zm_RK p l e R s m args below meth c Ω n0 k0 QF (f v) J (F0 m (pc + 3) ls (.int v :: rest))) : zm_RK p l e R s m args below meth c Ω n0 k0 QF (zm_bnd (zm_ret (if x < y then y else x)) f) J (F0 m pc ls (.int y :: .int x :: rest)) := by
  obtain ⟨hx, hb, hown, hts, hnl, -, -, hK, hw, -, hfr, hlo, -⟩ := C
  refine rk_prim (g' := fun v => F0 m (pc + 3) ls (.int v :: rest)) (zm_st_ret _) ?_ kk
  intro σ u τ H locs Q h1 h2 h3 h4 h5 h6 h7 h8
  rw [zm_run_ret] at h1
  simp only [Option.some.injEq, Prod.mk.injEq, Sum.inl.injEq] at h1
  obtain ⟨rfl, rfl⟩ := h1
  exact va_mmax hx hb (by rw [hnl, hml]) hown (hts _ hlink) (hts _ hstat) (hts _ hini) (hts _ hcode) (by rw [hfr]; exact hF) (by rw [hlo]; exact hL) h6 h7 hdg (h8 H locs h2 h3)
theorem rk_mmin (C : zm_C p l R s m args meth c Ω Ts cc own nm nL FF LL ret) (hml : ls.size = nL) {index : Nat} (hlink : Cond.methodLink own index Lib.Math.min.name ∈ Ts) (hstat : Cond.static Lib.Math.min.name ∈ Ts) (hini : Cond.initialized "java/lang/Math" ∈ Ts) (hcode : Cond.code Lib.Math.min.name Lib.Math.min.code 2 (some .int) ∈ Ts) (hF : 1 ≤ FF) (hL : (rest.map fun v => v.category).sum + 13 ≤ LL) {x y : Int32} (hdg : decode cc pc = .ok (.invokestatic index, 3)) {f : Int32 → zm_M α}
    (kk : ∀ v, zm_RK p l e R s m args below meth c Ω n0 k0 QF (f v) J (F0 m (pc + 3) ls (.int v :: rest))) : zm_RK p l e R s m args below meth c Ω n0 k0 QF (zm_bnd (zm_ret (if y < x then y else x)) f) J (F0 m pc ls (.int y :: .int x :: rest)) := by
  obtain ⟨hx, hb, hown, hts, hnl, -, -, hK, hw, -, hfr, hlo, -⟩ := C
  refine rk_prim (g' := fun v => F0 m (pc + 3) ls (.int v :: rest)) (zm_st_ret _) ?_ kk
  intro σ u τ H locs Q h1 h2 h3 h4 h5 h6 h7 h8
  rw [zm_run_ret] at h1
  simp only [Option.some.injEq, Prod.mk.injEq, Sum.inl.injEq] at h1
  obtain ⟨rfl, rfl⟩ := h1
  exact va_mmin hx hb (by rw [hnl, hml]) hown (hts _ hlink) (hts _ hstat) (hts _ hini) (hts _ hcode) (by rw [hfr]; exact hF) (by rw [hlo]; exact hL) h6 h7 hdg (h8 H locs h2 h3)
/-- what a class of a table has: the field named, of that type -/
def zt_row (Ω : zm_W) (Ts : List Cond) (ref n d : String) (ty : FieldType) (ci k : Nat) : Prop := ∃ (C_ : String) (T : u_T) (N : Nat) (ty0 : Nat → FieldType), Ω.2.2.2[ci]? = some (C_, T, N) ∧ k < N ∧ (∀ w ∈ u_ws C_ T N, w ∈ Ts) ∧ (∀ k, k < N → parseFieldDescriptor (T k).2.2.1 = some (ty0 k)) ∧ (∀ a, a < N → ∀ b, b < N → a ≠ b → (T a).2.1 ≠ (T b).2.1) ∧ T k = (ref, n, d, false) ∧ ty0 k = ty
theorem rk_putT (C : zm_C p l R s m args meth c Ω Ts cc own nm nL FF LL ret) (hB : Ω.1.heap.size ≤ K.1) {r : zm_R} {tbl : List (Nat × Nat)} {ref n d : String} {ty : FieldType} {index : Nat} (hrow : ∀ ci k : Nat, tbl.lookup ci = some k → zt_row Ω Ts ref n d ty ci k) (hlink : Cond.fieldLink own index ref n d ∈ Ts) {v : Value} (hn : narrow ty v = v) (hfit : fits ty v = true) (hdg : decode cc pc = .ok (.putfield index, 3)) {f : Unit → zm_M α}
    (kk : zm_RK p l e R s m args below meth c Ω n0 k0 QF (f ()) J (F0 m (pc + 3) ls rest)) : zm_RK p l e R s m args below meth c Ω n0 k0 QF (zm_bnd (zm_tb r tbl fun ci k => zm_putF K r ci k v) f) J (F0 m pc ls (v :: va_rf r :: rest)) := by
  refine rk_tb (P := True) (fun ci k hl _ => ?_) trivial
  obtain ⟨C_, T, N, ty0, h1, h2, h3, h4, h5, h6, h7⟩ := hrow ci k hl
  exact rk_put C hB h1 h2 h3 h4 h5 (ref := ref) (index := index) (by rw [h6]; exact hlink) (by rw [h6]; exact fun _ h => h) (Or.inl (by rw [h6])) (by rw [h7]; exact hn) (by rw [h7]; exact hfit) hdg kk
theorem rk_getT {τ : Type} {rd : Value → Option τ} {wr : τ → Value} (hrw : ∀ v x, rd v = some x → v = wr x) (C : zm_C p l R s m args meth c Ω Ts cc own nm nL FF LL ret) {r : zm_R} {tbl : List (Nat × Nat)} {ref n d : String} {ty : FieldType} {index : Nat} (hrow : ∀ ci k : Nat, tbl.lookup ci = some k → zt_row Ω Ts ref n d ty ci k) (hlink : Cond.fieldLink own index ref n d ∈ Ts) (hdg : decode cc pc = .ok (.getfield index, 3)) {f : τ → zm_M α}
    (kk : ∀ x, zm_RK p l e R s m args below meth c Ω n0 k0 QF (f x) J (F0 m (pc + 3) ls (wr x :: rest))) : zm_RK p l e R s m args below meth c Ω n0 k0 QF (zm_bnd (zm_tb r tbl fun ci k => zm_getF rd r ci k) f) J (F0 m pc ls (va_rf r :: rest)) := by
  refine rk_tb (P := True) (fun ci k hl _ => ?_) trivial
  obtain ⟨C_, T, N, ty0, h1, h2, h3, h4, h5, h6, h7⟩ := hrow ci k hl
  exact rk_get hrw C h1 h2 h3 (ref := ref) (index := index) (by rw [h6]; exact hlink) (by rw [h6]; exact fun _ h => h) hdg kk
theorem rk_filT (H9 : zm_H Ω K) (C : zm_C p l R s m args meth c Ω Ts cc own nm nL FF LL ret) (hat : ∀ x ∈ Bundle.throwableAtoms, x.before args s = true) {r : zm_R} {tbl : List (Nat × Nat)} {index : Nat} (hrow : ∀ ci k : Nat, tbl.lookup ci = some k → ∃ (C_ : String) (T : u_T) (N : Nat) (ty0 : Nat → FieldType), Ω.2.2.2[ci]? = some (C_, T, N) ∧ k < N ∧ (∀ w ∈ u_ws C_ T N, w ∈ Ts) ∧ (∀ k, k < N → parseFieldDescriptor (T k).2.2.1 = some (ty0 k)) ∧ (∀ a, a < N → ∀ b, b < N → a ≠ b → (T a).2.1 ≠ (T b).2.1) ∧ T k = ("java/lang/Throwable", "stackTrace", Bundle.steD, false) ∧ (Cond.selects C_ Bundle.tFill Bundle.tFill).before args s = true ∧ (Cond.selects C_ Bundle.tFill0 Bundle.tFill0).before args s = true) (hlink : Cond.methodLink own index Bundle.tFill ∈ Ts)
    (hF : 3 ≤ FF) (hL : (rest.map fun v => v.category).sum + 60 ≤ LL) (hl : ls.size = nL) (hdg : decode cc pc = .ok (.invokevirtual index, 3)) {f : Unit → zm_M α}
    (kk : zm_RK p l e R s m args below meth c Ω n0 k0 QF (f ()) J (F0 m (pc + 3) ls (va_rf r :: rest))) : zm_RK p l e R s m args below meth c Ω n0 k0 QF (zm_bnd (zm_tb r tbl fun ci k => zm_filF K r ci k) f) J (F0 m pc ls (va_rf r :: rest)) := by
  refine rk_tb (P := True) (fun ci k hl9 _ => ?_) trivial
  obtain ⟨C_, T, N, ty0, h1, h2, h3, h4, h5, h6, h7, h8⟩ := hrow ci k hl9
  exact rk_fil H9 C hat h1 h2 h3 h4 h5 h6 hlink h7 h8 hF hL hl hdg kk
end ZYE
def zm_oc : List Nat := [0, 1, 2, 3, 4, 5, 6, 7, 8, 9, 10, 11, 12, 13, 14, 15, 16, 17, 18, 19, 20, 21, 22, 23, 24, 25, 26, 27, 28, 29]
theorem zh_oc {p : Program} {l : Launch} {R : Room} {s : State} {m : MethodId} {args : Array Value} {meth : Method} {c : Code} {Ω : zm_W} {cc : ByteArray} {own nm : String} {nL FF LL : Nat} {ret : Option FieldType} {K : zm_K} (H : zm_H Ω K) (C : zm_C p l R s m args meth c Ω lw_all cc own nm nL FF LL ret) : ∀ ci, ci ∈ zm_oc → zm_asg Ω s "java/lang/Object" ci := (zc_cons (zc_w (hc_J2 H) (zn_wC H C q3097)) (zc_cons (zc_w (hc_J4 H) (zn_wC H C q3098)) (zc_cons (zc_w (hc_J6 H) (zn_wC H C q3099)) (zc_cons (zc_w (hc_J7 H) (zn_wC H C q3106)) (zc_cons (zc_w (hc_J9 H) (zn_wC H C q3126)) (zc_cons (zc_w (hc_J12 H) (zn_wC H C q3101)) (zc_cons (zc_w (hc_J14 H) (zn_wC H C q3103)) (zc_cons (zc_w (hc_J18 H) (zn_wC H C q3104)) (zc_cons (zc_w (hc_J19 H) (zn_wC H C q3105)) (zc_cons (zc_w (hc_J22 H) (zn_wC H C q3107)) (zc_cons (zc_w (hc_J24 H) (zn_wC H C q3109)) (zc_cons (zc_w (hc_J25 H) (zn_wC H C q3110)) (zc_cons (zc_w (hc_J26 H) (zn_wC H C q3111)) (zc_cons (zc_w (hc_J28 H) (zn_wC H C q3113)) (zc_cons (zc_w (hc_J29 H) (zn_wC H C q3114)) (zc_cons (zc_w (hc_J30 H) (zn_wC H C q3119)) (zc_cons (zc_w (hc_J31 H) (zn_wC H C q3124)) (zc_cons (zc_w (hc_J32 H) (zn_wC H C q3125)) (zc_cons (zc_w (hc_X1 H) (zn_wC H C q3095)) (zc_cons (zc_w (hc_X2 H) (zn_wC H C q3096)) (zc_cons (zc_w (hc_X3 H) (zn_wC H C q3100)) (zc_cons (zc_w (hc_X4 H) (zn_wC H C q3102)) (zc_cons (zc_w (hc_X5 H) (zn_wC H C q3115)) (zc_cons (zc_w (hc_X6 H) (zn_wC H C q3112)) (zc_cons (zc_w (hc_X8 H) (zn_wC H C q3116)) (zc_cons (zc_w (hc_X9 H) (zn_wC H C q3117)) (zc_cons (zc_w (hc_X10 H) (zn_wC H C q3118)) (zc_cons (zc_w (hc_X11 H) (zn_wC H C q3120)) (zc_cons (zc_w (hc_X12 H) (zn_wC H C q3122)) (zc_cons (zc_w (hc_X13 H) (zn_wC H C q3123)) zc_nil))))))))))))))))))))))))))))))
