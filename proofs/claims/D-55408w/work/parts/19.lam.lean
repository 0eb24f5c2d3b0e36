/-! function objects: what the class made for a site is; a call of its one method; its making -/
section
/-- the class file of a shape is as we read it: the second method's bytes, the pool's entries gi of the captured values' fields, mi of the target, ci of its class -/
def zl_ok (sh : Lambda.Shape) (caller : String) (bytes : ByteArray) (gi : List Nat) (mi ci : Nat) : Bool :=
  match sh.file caller with
  | none => false
  | some D => match layoutFields D 0, (layoutMethods D).bind (·[1]?) with
    | some lay, some f => match f.code, D.constantPool[mi]?, D.constantPool[ci]? with
      | some ck, some (.methodref ci' nt), some (.class_ n) =>
        decide (ck.code.data = bytes.data) && decide (ck.maxLocals = 2) && decide (f.accessFlags = 1) && decide (f.sig.returnType = sh.sam.returnType) && decide (lay.2.1 = sh.captured.toArray) && decide (gi.length = sh.captured.length) &&
        decide (ci' = ci) && decide (D.constantPool.className? ci = some sh.implClass) && decide (D.constantPool.nameAndType? nt = some (sh.implName, sh.implDesc.toString)) && decide (D.constantPool.string? n = some sh.implClass) && decide (ci ≠ D.thisClass) &&
        gi.zipIdx.all fun (x : Nat × Nat) => match D.constantPool[x.1]? with
          | some (.fieldref _ nt) => match D.constantPool.nameAndType? nt, lay.1[x.2]? with
            | some (nm, _), some fl => decide (lay.1.findIdx? (fun q => q.name == nm) = some x.2) && decide (fl.slot = x.2) && !fl.isStatic
            | _, _ => false
          | _ => false
      | _, _, _ => false
    | _, _ => false
/-- what the class c is, made for the shape -/
def zl_Fc (e : Setting) (vm : Vm) (c : ClassId) (caller : String) (sh : Lambda.Shape) (bytes : ByteArray) (gi : List Nat) (mi ci : Nat) : Prop :=
  ∃ (k tk : Class) (file : ClassFile) (methk : Method) (ck : Code) (toy : ClassId) (t : MethodId) (nt : Nat),
    vm.classes[c]? = some k ∧ k.kind = .ordinary ∧ k.cf = some file ∧ file.constantPool[mi]? = some (.methodref ci nt) ∧ file.constantPool.nameAndType? nt = some (sh.implName, sh.implDesc.toString) ∧
    vm.method? ⟨c, 1⟩ = some methk ∧ methk.code = some ck ∧ ck.code = bytes ∧ ck.maxLocals = 2 ∧ methk.locks = false ∧ methk.accessFlags = 0x0001 ∧ methk.sig.returnType = sh.sam.returnType ∧ ck.exceptionTable = #[] ∧
    vm.findClass sh.implClass = some toy ∧ vm.classes[toy]? = some tk ∧ tk.isInterface = sh.implItf ∧ ((methodIn toy sh.implName sh.implDesc.toString tk.isInterface none).ask e vm).1 = .ok t ∧
    vm.methodReady c mi t ∧ vm.classReady c ci toy ∧ k.instanceTypes = sh.captured.toArray ∧ gi.length = sh.captured.length ∧
    (∀ (i g : Nat), gi[i]? = some g → ∃ fl : Field, vm.fieldReady c g c fl ∧ fl.isStatic = false ∧ fl.slot = i) ∧ k.name = caller ++ "$$Lambda"
theorem zl_made {e : Setting} {vm : Vm} {d c : ClassId} {dk : Class} {sh : Lambda.Shape} {caller : String} {bytes : ByteArray} {gi : List Nat} {mi ci : Nat} (hok : zl_ok sh caller bytes gi mi ci = true) (hd : vm.classes[d]? = some dk) (hname : dk.name = caller) (h : Lambda.isMade e vm d sh c = true)
    (hO : ∀ o ok, vm.findClass "java/lang/Object" = some o → vm.classes[o]? = some ok → ok.instanceTypes.size = 0) : zl_Fc e vm c caller sh bytes gi mi ci := by
  obtain ⟨dk', k, ok, tk, file, cf, object, iface, toy, lay, methods, target, found, hd', hk, hfile, hcf, hobj, -, hok1, hlay, hms, ht, htk, hg, -, hrec, -, -, -, hitf, hpool, hmeth, hfields, hty, hres, -⟩ := Lambda.isMade_spec h
  cases hd.symm.trans hd'
  rw [hname] at hcf
  have hok0 : ok.instanceTypes = #[] := Array.eq_empty_of_size_eq_zero (hO object ok hobj hok1)
  rw [hO object ok hobj hok1] at hlay
  unfold zl_ok at hok
  rw [hcf] at hok
  dsimp only at hok
  rw [hlay, hms] at hok
  dsimp only [Option.bind_some] at hok
  cases hf : methods[1]? with
  | none => rw [hf] at hok; cases hok
  | some f =>
    rw [hf] at hok
    dsimp only at hok
    cases hfc : f.code with
    | none => rw [hfc] at hok; simp at hok
    | some x =>
      rw [hfc] at hok
      cases hmi : cf.constantPool[mi]? with
      | none => rw [hmi] at hok; simp at hok
      | some em =>
        rw [hmi] at hok
        cases em with
        | methodref ci' nt =>
          cases hci : cf.constantPool[ci]? with
          | none => rw [hci] at hok; simp at hok
          | some ec =>
            rw [hci] at hok
            cases ec with
            | class_ n =>
              simp only [Bool.and_eq_true, decide_eq_true_eq] at hok
              obtain ⟨⟨⟨⟨⟨⟨⟨⟨⟨⟨⟨a1, a2⟩, a3⟩, a4⟩, a5⟩, a6⟩, a7⟩, a8⟩, a9⟩, a10⟩, a11⟩, a12⟩ := hok
              subst a7
              obtain ⟨b, hb, hsame⟩ := hmeth 1 f hf
              obtain ⟨-, -, hsig, hfl, x', y, hx', hy, -, hyl, hyc, hye⟩ := Lambda.sameMethod_spec hsame
              cases hfc.symm.trans hx'
              refine ⟨k, tk, file, b, y, toy, target, nt, hk, hrec.2.1, hfile, by rw [hpool.2.1]; exact hmi, by rw [hpool.2.1]; exact a9, by simp [Vm.method?, hk, hb], hy, by rw [hyc]; exact ByteArray.ext a1, by rw [hyl]; exact a2, ?_, by rw [hfl]; exact a3, by rw [hsig]; exact a4, hye, ht, htk, hitf, hg,
                ⟨k, hk, hres mi _ (Lambda.resolvedOf_method hmi a8 ht htk a9 hg)⟩, ⟨k, hk, hres ci' _ (Lambda.resolvedOf_class hci a11 a10 ht)⟩, by rw [hty.1, hok0, a5]; simp, a6, fun i g hi => ?_, by rw [hrec.1, hname]⟩
              · simp [Method.locks, Method.isSynchronized, hfl, a3, hasFlag, Acc.synchronized]
              · have hz := List.all_eq_true.mp a12 (g, i) (List.mem_zipIdx_iff_getElem?.mpr hi)
                dsimp only at hz
                cases hgi : cf.constantPool[g]? with
                | none => rw [hgi] at hz; cases hz
                | some eg =>
                  rw [hgi] at hz
                  cases eg with
                  | fieldref cg ng =>
                    dsimp only at hz
                    cases hng : cf.constantPool.nameAndType? ng with
                    | none => rw [hng] at hz; cases hz
                    | some w =>
                      obtain ⟨nm, ds⟩ := w
                      rw [hng] at hz
                      cases hl : lay.1[i]? with
                      | none => rw [hl] at hz; cases hz
                      | some fl =>
                        rw [hl] at hz
                        simp only [Bool.and_eq_true, decide_eq_true_eq, Bool.not_eq_true'] at hz
                        obtain ⟨⟨z1, z2⟩, z3⟩ := hz
                        exact ⟨fl, ⟨k, i, k, hk, hres g _ (Lambda.resolvedOf_field hgi hng z1), hk, hfields i fl hl⟩, z3, z2⟩
                  | _ => cases hz
            | _ => simp at hok
        | _ => simp at hok
end
section ZLB
variable {l : Launch} {R : Room} {p : Program} {e : Env} {below : List Frame} {s : State} {args : Array Value} {m : MethodId} {meth : Method} {c : Code} {U : State} {Ls : List Loc} {c0 s0 : Nat}
/-- what the invoked frame's end is to its caller -/
theorem zl_back2 {Qc : Array Value → State → Outcome → State → Prop} {XC : String → Addr → State → State → Prop} {mc ms : Nat} {free : Addr → Prop} (X : Stand p l e R s m args below meth c U Ls c0 s0) {g : JFrame} (hg : g.method = m) {ig : Instr} {len : Nat} (hdg : decode c.code g.pc = .ok (ig, len)) {mk : MethodId} {a : Array Value} {o : Outcome} {s₂ : State}
    (hend : Ended s₂ (U.setTop g).frames o) (hq' : vz_Q Qc XC mc ms free a (U.calling g mk a) o s₂) :
    (∃ (v : Option Value) (B : Pt), Stand p l e R s m args below meth c B.U B.locs B.cells B.slots ∧ PostOf Qc mc ms free ⟨U, Ls, c0, s0⟩ a v B ∧ s₂ = B.U.setTop { g with pc := g.pc + len, stack := v.toList ++ g.stack }) ∨
    (∃ (q : Addr) (B : Pt), Stand p l e R s m args below meth c B.U B.locs B.cells B.slots ∧ vz_Post XC mc ms free ⟨U, Ls, c0, s0⟩ a q B ∧ s₂ = (B.U.setTop g).pushFrame (.throwing q)) := by
  have h : At U g.method c below := by rw [hg]; exact X.here
  rw [State.frames_setTop' g h.top] at hend
  obtain ⟨g₀, hg0⟩ := Option.isSome_iff_exists.mp h.top
  obtain ⟨r, hr⟩ := State.topJava?_eq_some.mp hg0
  have hr' : (({ U with heap := s₂.heap, slotsUsed := s₂.slotsUsed } : State).setVm s₂.vm).frames = .java g₀ :: r := hr
  rcases hq' with ⟨hqc, L, hfe, hL⟩ | ⟨q, rfl, E, ce, L, hx, hce, hcv, hcl, hW₂, hsm, hL⟩
  · obtain ⟨⟨v, rfl⟩, hW₂, e2, q2, q3, q4, q5, q6⟩ := id hfe
    have e3 : s₂ = ({ (U.calling g mk a).setFrames s₂.frames with heap := s₂.heap, slotsUsed := s₂.slotsUsed } : State).setVm s₂.vm := by
      have : s₂ = ({ s₂ with vm := (U.calling g mk a).vm } : State).setVm s₂.vm := rfl
      rw [e2] at this
      exact this
    obtain ⟨c₂, i₂, len₂, hc₂, hd₂, hf₂⟩ := hend
    have hW' : U.WarmedH s₂.vm := hW₂
    have hcc : c₂ = c := by
      have h1 : s₂.code? g.method = U.code? g.method := by
        rw [State.code?_eq, State.code?_eq, hW'.alike.method?]
      exact Option.some.inj (hc₂.symm.trans (h1.trans h.code))
    subst hcc
    have hlen : len₂ = len := by rw [hdg] at hd₂; cases hd₂; rfl
    subst hlen
    have hs₂ : s₂ = (({ U with heap := s₂.heap, slotsUsed := s₂.slotsUsed } : State).setVm s₂.vm).setTop { g with pc := g.pc + len₂, stack := v.toList ++ g.stack } := by
      refine e3.trans ?_
      rw [hf₂, State.calling_eq h.top, State.setFrames_setFrames, State.setTop_of_frames _ hr', hr]
      rfl
    have hsame : U.sameButNew ({ U with heap := s₂.heap, slotsUsed := s₂.slotsUsed } : State) L mc ms := by
      refine ⟨?_, q2, q3, q4, q5, q6⟩
      obtain ⟨t, ht, -⟩ := State.frames_cons hr
      show ({ U with heap := s₂.heap, slotsUsed := s₂.slotsUsed } : State) = { U.setFrames U.frames with heap := s₂.heap, slotsUsed := s₂.slotsUsed }
      rw [State.setFrames_self ht]
    subst hg
    exact Or.inl ⟨v, ⟨(({ U with heap := s₂.heap, slotsUsed := s₂.slotsUsed } : State).setVm s₂.vm), Ls ++ L, c0 + mc, s0 + ms⟩,
      ⟨X.admits, X.cas, X.clock, X.frames, X.room, X.hears, X.method, X.code, (X.here.setHeapUsed s₂.heap s₂.slotsUsed).setVm hW'.alike, X.tail, State.WarmedH.trans X.warmed hW', X.limits, X.bytes, X.same.trans (hsame.setVm s.vm)⟩,
      ⟨g, mk, s₂, L, rfl, rfl, hqc, rfl, hL, rfl, rfl⟩, hs₂⟩
  · obtain ⟨e2, q2, q3, q4, q5, q6⟩ := id hsm
    have e3 : s₂ = ({ (U.calling g mk a).setFrames s₂.frames with heap := s₂.heap, slotsUsed := s₂.slotsUsed } : State).setVm s₂.vm := by
      have : s₂ = ({ s₂ with vm := (U.calling g mk a).vm } : State).setVm s₂.vm := rfl
      rw [e2] at this
      exact this
    have hf₂ : s₂.frames = .throwing q :: .java g :: U.frames.tail := hend
    have hW' : U.WarmedH s₂.vm := hW₂
    have hs₂ : s₂ = ((({ U with heap := s₂.heap, slotsUsed := s₂.slotsUsed } : State).setVm s₂.vm).setTop g).pushFrame (.throwing q) := by
      refine e3.trans ?_
      rw [hf₂, State.calling_eq h.top, State.setFrames_setFrames, State.pushFrame, State.frames_setTop _ hr', State.setTop_of_frames _ hr', State.setFrames_setFrames, hr]
      rfl
    have hsame : U.sameButNew ({ U with heap := s₂.heap, slotsUsed := s₂.slotsUsed } : State) L mc ms := by
      refine ⟨?_, q2, q3, q4, q5, q6⟩
      obtain ⟨t, ht, -⟩ := State.frames_cons hr
      show ({ U with heap := s₂.heap, slotsUsed := s₂.slotsUsed } : State) = { U.setFrames U.frames with heap := s₂.heap, slotsUsed := s₂.slotsUsed }
      rw [State.setFrames_self ht]
    subst hg
    exact Or.inr ⟨q, ⟨(({ U with heap := s₂.heap, slotsUsed := s₂.slotsUsed } : State).setVm s₂.vm), Ls ++ L, c0 + mc, s0 + ms⟩,
      ⟨X.admits, X.cas, X.clock, X.frames, X.room, X.hears, X.method, X.code, (X.here.setHeapUsed s₂.heap s₂.slotsUsed).setVm hW'.alike, X.tail, State.WarmedH.trans X.warmed hW', X.limits, X.bytes, X.same.trans (hsame.setVm s.vm)⟩,
      ⟨g, mk, s₂, L, E, ce, rfl, rfl, hx, hce, hcv, hcl, rfl, hL, rfl, rfl⟩, hs₂⟩
end ZLB
section ZLC
variable {p : Program} {l : Launch} {e : Env} {R : Room} {s : State} {m : MethodId} {args : Array Value} {below : List Frame} {meth : Method} {c : Code} {Ω : zm_W} {Ts : List Cond} {cc : ByteArray} {own nm : String} {nL FF LL : Nat} {ret : Option FieldType}
variable {ρ : Type} {n0 k0 : Nat} {QF : (ρ ⊕ zm_X) → zm_S → State → Prop}
variable {α β : Type} {J : α → zm_M ρ} {pc : Nat} {ls : Array Slot} {rest st0 : List Value} {K : zm_K} {g : JFrame}
theorem zl_getf {cells slots : Nat} {H : Heap} {locs : List Loc} {Q : State → Prop} (hexec : p.tables.exec = Jvm.exec) (hb : c.code = cc) {b idx : Nat} {cell : Cell} {v : Value} (hcell : H[b]? = some cell) (hknown : cell.vm ≠ .unknown) (hready : ∀ vm', s.WarmedH vm' → ∃ fl : Field, vm'.fieldReady m.cls idx m.cls fl ∧ fl.isStatic = false ∧ cell.slots[fl.slot]? = some v) (hdg : decode cc pc = .ok (.getfield idx, 3))
    (k : W p l e R s m args below meth c H locs cells slots Q (F0 m (pc + 3) ls (v :: rest))) : W p l e R s m args below meth c H locs cells slots Q (F0 m pc ls (.ref b :: rest)) := by
  intro T hT X
  obtain ⟨t, a1, b1⟩ := k T hT X
  refine ⟨t, ?_, b1⟩
  obtain ⟨fl, hr9, hst, hv⟩ := hready T.vm X.warmed
  have hdg' : decode c.code pc = .ok (.getfield idx, 3) := by rw [hb]; exact hdg
  jvm_step X.here [X.here.top, hexec, hdg', getfield.wp_ready (e := e) (s := T) (c := m.cls) (field := fl) (a := b) (rest := rest) (cell := cell) (v := v) (f := F0 m pc ls (.ref b :: rest)) X.here.top hr9 hst rfl (by rw [hT]; exact hcell) hknown hv]
  exact a1
/-- a static method's call out of a frame whose class has no name -/
theorem zl_callS (htr : l.stackTraces = false) (hexec : p.tables.exec = Jvm.exec) (hb : c.code = cc) (hw : Ω.1.WarmedH s.vm) {y : MethodName} {bytes : ByteArray} {maxL F L mi : Nat} {rt : Option FieldType} {av : List Value} {tv : β → Option Value} {x : zm_M β} (ct : zm_Ct l Ω y (Cond.code y bytes maxL rt :: Ts) F L av tv x)
    (hws : ∀ w ∈ Cond.code y bytes maxL rt :: Ts, ∀ (a' : Array Value) (U : State), s.WarmedH U.vm → w.before a' U = true) (hini : (Cond.initialized y.cls).before args s = true) (hstat : (Cond.static y).before args s = true)
    (hready : ∀ (vm' : Vm) (mk : MethodId) (kP : Class), s.WarmedH vm' → s.methodNamed? y = some mk → vm'.classes[mk.cls]? = some kP → vm'.methodReady m.cls mi mk ∧ ∃ ci name desc b k', ((memberRef m.cls mi).ask e.toSetting vm').1 = .ok (ci, name, desc, b) ∧ vm'.classReady m.cls ci mk.cls ∧ vm'.classes[mk.cls]? = some k')
    (hd : y.cls ≠ "java/lang/invoke/MethodHandle" ∧ y.cls ≠ "java/lang/invoke/VarHandle") {n : Nat} (hn9 : (parseMethodDescriptor y.desc).map (fun d => d.parameters.length) = some n) (hF : F + 1 ≤ R.frames ∧ 8 + (maxL + 11) + L ≤ R.locals) (hn : av.length = n) (hl : ls.size = c.maxLocals) (hst : st0 = av.reverse ++ rest) (hW : (rest.map fun v => v.category).sum ≤ 8) (hdg : decode cc pc = .ok (.invokestatic mi, 3)) :
    zm_CL 3 p l e R s m args below meth c Ω n0 k0 tv x (F0 m pc ls st0) rest := by
  intro σ o τ H locs h1 h2 h3 h4 h5 h6 h7
  have hle := zm_run.le h1
  have hcode : (Cond.code y bytes maxL rt).before args s = true := hws _ List.mem_cons_self args s (State.WarmedH.refl s)
  have hK : vz_Back l R p e below s args y 3 8 (PreOf R (τ.1 - σ.1) (τ.2.1 - σ.2.1) (zm_Pc Ω σ av)) (PostOf (zm_Qc Ω τ tv o) (τ.1 - σ.1) (τ.2.1 - σ.2.1) (zm_fr Ω)) (vz_Post (zm_XC Ω τ o) (τ.1 - σ.1) (τ.2.1 - σ.2.1) (zm_fr Ω)) :=
    vz_back (bytes := bytes) (maxL := maxL) (ret := rt) (ct htr σ o τ h1) (zm_blind _ _ _) rfl rfl hF.1 hF.2 hws List.mem_cons_self (fun a' U hW => word_at hW (Or.inl (by first | rfl | simp [Cond.onTables, Cond.keeps, Cond.steady])) hini)
  obtain ⟨mk, hnamed⟩ := Cond.code_named hcode
  obtain ⟨methM, cM, hmethM, -, -, -, -, -, -, hsigM⟩ := Cond.code_spec hnamed hcode
  have hstatic : methM.isStatic = true := Cond.static_spec hnamed hmethM hstat
  obtain ⟨kP, hkP, hkn⟩ := className_of_methodNamed hnamed
  have hinitP : kP.init = .initialized := Cond.initialized_spec (findClass_of_methodNamed hnamed) hkP hini
  intro T hT X
  obtain ⟨kP', hkP', heP⟩ := X.warmed.alike.2.2 _ _ hkP
  obtain ⟨r1, ci, name, desc, b, k', r2, r3, r4⟩ := hready T.vm mk kP' X.warmed hnamed hkP'
  cases hkP'.symm.trans r4
  have hname' : kP'.name ≠ "java/lang/invoke/MethodHandle" ∧ kP'.name ≠ "java/lang/invoke/VarHandle" := by
    have : kP'.name = y.cls := by rw [heP]; exact hkn
    rw [this]; exact hd
  have hdg' : decode c.code pc = .ok (.invokestatic mi, 3) := by rw [hb]; exact hdg
  have hlen : av.length = methM.sig.parameters.length := by rw [hsigM] at hn9; exact hn.trans (Option.some.inj hn9).symm
  have hstep : ∀ target, (∀ acts, Steps p.tables e below (doInvoke e (T.setTop (F0 m pc ls rest)) acts mk av.toArray).1 target) → Steps p.tables e below (T.setTop (F0 m pc ls st0)) target := by
    intro target hk
    jvm_step X.here [X.here.top, hexec, hdg', invokestatic.wp_ready (e := e) (s := T) (m := mk) (k := kP') (meth := methM) (args := av) (rest := rest) (f := F0 m pc ls st0) X.here.top ⟨ci, name, desc, b, mk.cls, kP', r2, r3, hkP', by
        rw [Array.any_eq_false]
        intro j hj
        simp [signaturePolymorphic_of_name hname']⟩ r1 hkP' (by rw [X.warmed.alike.method?]; exact hmethM) (signaturePolymorphic_of_name hname' methM) hstatic (by rw [heP]; exact hinitP) hlen hst]
    exact hk
  have hpre : PreOf R (τ.1 - σ.1) (τ.2.1 - σ.2.1) (zm_Pc Ω σ av) ⟨T, locs, σ.1 - n0, σ.2.1 - k0⟩ av.toArray := ⟨by have := hle.1; show (σ.1 - n0) + (τ.1 - σ.1) ≤ R.cells; omega, by have := hle.2; show (σ.2.1 - k0) + (τ.2.1 - σ.2.1) ≤ R.slots; omega, zm_Pc_of (s := s) h2 hw T hT X.warmed⟩
  rcases hK m meth c ⟨T, locs, σ.1 - n0, σ.2.1 - k0⟩ (F0 m pc ls rest) (.invokestatic mi) mk av.toArray X rfl hl hdg' (by show 2 * 0 + (rest.map fun v => v.category).sum ≤ 8; omega) (X.named hnamed) hpre with ⟨v, ⟨U', l2, c2, s2⟩, X', ⟨g', mk', t, L9, e1, e2, hq, q1, hL, q2, q3⟩, st⟩ | ⟨q, ⟨U', l2, c2, s2⟩, X', ⟨g', mk', t, L9, E, ce, e1, e2, hq, hce, hcv, hcl, q1, hL, q2, q3⟩, st⟩
  · dsimp only [Pt.U, Pt.locs, Pt.cells, Pt.slots] at X' e1 e2 q1 q2 q3 st hq
    subst q1; subst q2; subst q3
    exact Or.inl ⟨v, T.calling g' mk' av.toArray, t, U', L9, hT, X', hL, e1, e2, hq, fun target h => hstep target fun acts => by rw [doInvoke_state]; exact st.trans h⟩
  · dsimp only [Pt.U, Pt.locs, Pt.cells, Pt.slots] at X' e1 e2 q1 q2 q3 st hq hcl
    subst q1; subst q2; subst q3
    exact Or.inr ⟨q, T.calling g' mk' av.toArray, t, U', L9, E, ce, hT, X', hL, e1, e2, hq, hce, hcv, (by rw [X.warmed.alike.findClass] at hcl; exact hcl), hstep _ fun acts => by rw [doInvoke_state]; exact st⟩
end ZLC
section ZLD
variable {p : Program} {l : Launch} {e : Env} {R : Room} {s : State} {m : MethodId} {args : Array Value} {below : List Frame} {meth : Method} {c : Code} {Ω : zm_W} {Ts : List Cond} {cc : ByteArray} {own nm : String} {nL FF LL : Nat} {ret : Option FieldType}
variable {ρ : Type} {n0 k0 : Nat} {QF : (ρ ⊕ zm_X) → zm_S → State → Prop}
variable {α β : Type} {J : α → zm_M ρ} {pc : Nat} {ls : Array Slot} {rest st0 : List Value} {K : zm_K} {g : JFrame}
/-- the captured values are loaded one by one -/
theorem zl_caps (hexec : p.tables.exec = Jvm.exec) (hb : c.code = cc) {b : Nat} {cell : Cell} {H : Heap} {locs : List Loc} {cells slots : Nat} {Q : State → Prop} (hcell : H[b]? = some cell) (hknown : cell.vm ≠ .unknown) (hl0 : ls[0]? = some (.val (va_rf (some b)))) :
    ∀ (vs : List Value) (j : Nat) (st : List Value), (∀ (i : Nat) (v : Value), vs[i]? = some v → ∃ (gx : Nat), decode cc (4 * (j + i)) = .ok (.aload_n 0, 1) ∧ decode cc (4 * (j + i) + 1) = .ok (.getfield gx, 3) ∧ (∀ vm', s.WarmedH vm' → ∃ fl : Field, vm'.fieldReady m.cls gx m.cls fl ∧ fl.isStatic = false ∧ cell.slots[fl.slot]? = some v)) →
      W p l e R s m args below meth c H locs cells slots Q (F0 m (4 * (j + vs.length)) ls (vs.reverse ++ st)) → W p l e R s m args below meth c H locs cells slots Q (F0 m (4 * j) ls st)
  | [], j, st, _, k => k
  | v :: vs, j, st, h, k => by
    obtain ⟨gx, h1, h2, h3⟩ := h 0 v rfl
    refine lr_aload_n hexec hb (k := 0) (i := 0) (x := some b) h1 rfl hl0 ?_
    refine zl_getf hexec hb hcell hknown h3 h2 ?_
    have ih := zl_caps hexec hb hcell hknown hl0 vs (j + 1) (v :: st) (fun i v' hi => by
      have := h (i + 1) v' (by simpa using hi)
      rwa [show j + (i + 1) = j + 1 + i by omega] at this) (by
      rw [show j + 1 + vs.length = j + (v :: vs).length by simp; omega]
      have e9 : vs.reverse ++ v :: st = (v :: vs).reverse ++ st := by simp
      rw [e9]
      exact k)
    rw [show 4 * (j + 1) = 4 * j + 1 + 3 by omega] at ih
    exact ih
/-- what a function object's method does, in its own frame -/
theorem zl_inner (hexec : p.tables.exec = Jvm.exec) (hb : c.code = cc) (hno : c.exceptionTable = #[]) (hlk : meth.locks = false) {ty : FieldType} (hret : meth.sig.returnType = some ty) {b ci : Nat} {vals : List Value} {arg : Value} {gi : List Nat} (hlen : vals.length = gi.length) (hci : Ω.2.2.2.length ≤ ci) (hl0 : ls[0]? = some (.val (va_rf (some b))))
    (hd1 : ∀ (j gx : Nat), gi[j]? = some gx → decode cc (4 * j) = .ok (.aload_n 0, 1) ∧ decode cc (4 * j + 1) = .ok (.getfield gx, 3)) (hf1 : ∀ (j gx : Nat), gi[j]? = some gx → ∀ vm', s.WarmedH vm' → ∃ fl : Field, vm'.fieldReady m.cls gx m.cls fl ∧ fl.isStatic = false ∧ fl.slot = j)
    (hload : ∀ (H : Heap) (locs : List Loc) (cells slots : Nat) (Q : State → Prop) (st : List Value), W p l e R s m args below meth c H locs cells slots Q (F0 m (4 * gi.length + 1) ls (arg :: st)) → W p l e R s m args below meth c H locs cells slots Q (F0 m (4 * gi.length) ls st))
    {x : zm_M Int32} (hcall : zm_CL 3 p l e R s m args below meth c Ω n0 k0 zm_tvI x (F0 m (4 * gi.length + 1) ls (arg :: vals.reverse)) []) {f : Int32 → zm_M Int32} (hf : ∀ v σ o τ, zm_run (f v) σ = some (o, τ) → o = .inl v ∧ τ = σ ∧ narrow ty (.int v) = .int v)
    (hdr : decode cc (4 * gi.length + 4) = .ok (.ireturn, 1)) {σ τ : zm_S} {o : Int32 ⊕ zm_X} {H : Heap} (h1 : zm_run (zm_bnd x f) σ = some (o, τ)) (h2 : zm_rep Ω σ H) (hs : σ.2.2 b = some (.inr (ci, vals))) (h4 : n0 ≤ σ.1) (h5 : k0 ≤ σ.2.1) (h6 : τ.1 - n0 ≤ R.cells) (h7 : τ.2.1 - k0 ≤ R.slots) :
    W p l e R s m args below meth c H [] (σ.1 - n0) (σ.2.1 - k0) (zm_QFs below args s Ω n0 k0 zm_tvI o τ) (F0 m 0 ls []) := by
  have hcell : H[b]? = some ({ cls := Ω.2.1.1 ci, slots := vals.toArray, vm := .none } : Cell) := by
    rcases h2.2.1 b _ hs with ⟨r, q1, -⟩ | ⟨-, q1⟩
    · have := (List.getElem?_eq_some_iff.mp q1).1
      dsimp only at this
      omega
    · exact q1
  have hX : zm_XO p l e R s m args below meth c Ω n0 k0 (zm_QFs below args s Ω n0 k0 zm_tvI) := zm_XO_of (fun x hx => by rw [hno] at hx; cases hx) hlk
  have hend : zm_RK p l e R s m args below meth c Ω n0 k0 (zm_QFs below args s Ω n0 k0 zm_tvI) (zm_bnd x f) zm_ret (F0 m (4 * gi.length + 1) ls (arg :: vals.reverse)) := by
    refine rk_call hX hcall fun v => ?_
    refine rk_fr ?_
    intro σ' o' τ' H' locs' q1 q2 q3 q4 q5 q6 q7
    obtain ⟨rfl, rfl, hn⟩ := hf v _ _ _ q1
    refine vz_ret ?_
    exact W.zret hexec hb hret hn (fun t ht hW => ⟨v, rfl, rfl, by rw [ht]; exact q2⟩) q3 hdr hlk
  have hend := rk_rf hend
  have h0 := zl_caps (args := args) (below := below) (R := R) (l := l) (e := e) (s := s) (m := m) (meth := meth) (locs := []) (cells := σ.1 - n0) (slots := σ.2.1 - k0) (Q := zm_QFs below args s Ω n0 k0 zm_tvI o τ) hexec hb hcell (by intro h; cases h) hl0 vals 0 [] (fun i v hi => by
    have hlt : i < gi.length := by rw [← hlen]; exact (List.getElem?_eq_some_iff.mp hi).1
    have hgi : gi[i]? = some gi[i] := List.getElem?_eq_getElem hlt
    obtain ⟨d1, d2⟩ := hd1 i _ hgi
    rw [Nat.zero_add]
    refine ⟨_, d1, d2, fun vm' hW => ?_⟩
    obtain ⟨fl, f1, f2, f3⟩ := hf1 i _ hgi vm' hW
    exact ⟨fl, f1, f2, by rw [f3]; simpa using hi⟩) (by
    rw [Nat.zero_add, List.append_nil, hlen]
    refine hload _ _ _ _ _ _ ?_
    exact hend σ o τ H [] h1 h2 (fun z hz => by cases hz) h4 h5 h6 h7)
  exact h0
end ZLD
section ZLE
variable {p : Program} {l : Launch} {e : Env} {R : Room} {s : State} {m : MethodId} {args : Array Value} {below : List Frame} {meth : Method} {c : Code} {Ω : zm_W} {Ts : List Cond} {cc : ByteArray} {own nm : String} {nL FF LL : Nat} {ret : Option FieldType}
variable {ρ : Type} {n0 k0 : Nat} {QF : (ρ ⊕ zm_X) → zm_S → State → Prop}
variable {α β : Type} {J : α → zm_M ρ} {pc : Nat} {ls : Array Slot} {rest st0 : List Value} {K : zm_K} {g : JFrame}
/-- the site's class, under tables warmer than the start's -/
theorem zl_at (H9 : zm_H Ω K) {i : Nat} {xs : MethodName} {pcs idxs : Nat} {sh : Lambda.Shape} (hlam : zm_lams[i]? = some (xs, pcs, idxs, sh)) {bytes : ByteArray} {gi : List Nat} {mi ci : Nat} (hok : zl_ok sh xs.cls bytes gi mi ci = true) {A : Array Value} (hO : (Cond.instantiable "java/lang/Object" 0).before A Ω.1 = true) {vm' : Vm} (hW : Ω.1.WarmedH vm') :
    zl_Fc { classPath := fun _ => none } vm' (Ω.2.1.1 (100 + i)) xs.cls sh bytes gi mi ci ∧ (∃ d, Lambda.isMade { classPath := fun _ => none } vm' d sh (Ω.2.1.1 (100 + i)) = true) := by
  have h := H9.2.2.2.2.2.2.2.2.1 i _ hlam
  dsimp only at h
  obtain ⟨m0, k, cf, i0, p0, l0, hm, hk, hcf, hsh, hin, hfind, hmade, hcall, hl⟩ := State.lambdaAt?_spec h
  have hmade' := Lambda.isMade_warmer hW hmade
  obtain ⟨k', hk', he⟩ := hW.alike.2.2 _ _ hk
  obtain ⟨kx, hkx, hnx⟩ := className_of_methodNamed hm
  cases hk.symm.trans hkx
  obtain ⟨co, ko, o1, o2, -, -, -, o3⟩ := Cond.instantiable_spec hO
  refine ⟨zl_made hok hk' (by rw [he]; exact hnx) hmade' fun o ok q1 q2 => ?_, m0.cls, hmade'⟩
  rw [hW.alike.findClass] at q1
  cases o1.symm.trans q1
  obtain ⟨ko', hko', heo⟩ := hW.alike.2.2 _ _ o2
  cases q2.symm.trans hko'
  rw [heo]
  exact o3
theorem cl_lam (H9 : zm_H Ω K) (C : zm_C p l R s m args meth c Ω Ts cc own nm nL FF LL ret) {i : Nat} {xs : MethodName} {pcs idxs : Nat} {sh : Lambda.Shape} (hlam : zm_lams[i]? = some (xs, pcs, idxs, sh)) {bytes : ByteArray} {gi : List Nat} {mi ci : Nat} (hok : zl_ok sh xs.cls bytes gi mi ci = true)
    {A : Array Value} (hO : (Cond.instantiable "java/lang/Object" 0).before A Ω.1 = true) {x y : MethodName} (hx9 : x = ⟨sh.iface, sh.name, sh.sam.toString⟩) (hy9 : y = ⟨sh.implClass, sh.implName, sh.implDesc.toString⟩) {ty : FieldType} (hret : sh.sam.returnType = some ty) (hitf : sh.implItf = false) (hpl : plainName (xs.cls ++ "$$Lambda") = true)
    {index count maxL F L : Nat} {ybytes : ByteArray} {rt : Option FieldType} (hlink : Cond.methodLink own index x ∈ Ts) (hdecl : (Cond.declares x).before args s = true) (hface : (Cond.interfaceMethod x.cls x.cls x.name x.desc).before args s = true) (hG : GoodIn Ts (Cond.code y ybytes maxL rt :: Ts)) (hini : Cond.initialized y.cls ∈ Ts) (hstat : Cond.static y ∈ Ts)
    (hdx : x.cls ≠ "java/lang/invoke/MethodHandle" ∧ x.cls ≠ "java/lang/invoke/VarHandle") (hdy : y.cls ≠ "java/lang/invoke/MethodHandle" ∧ y.cls ≠ "java/lang/invoke/VarHandle") (hnx : (parseMethodDescriptor x.desc).map (fun d => d.parameters.length) = some 1) (hny : (parseMethodDescriptor y.desc).map (fun d => d.parameters.length) = some (gi.length + 1))
    (hd1 : ∀ (j gx : Nat), gi[j]? = some gx → decode bytes (4 * j) = .ok (.aload_n 0, 1) ∧ decode bytes (4 * j + 1) = .ok (.getfield gx, 3)) {arg : Value} (hld : (∃ q, arg = va_rf q ∧ decode bytes (4 * gi.length) = .ok (.aload_n 1, 1)) ∨ (∃ v, arg = .int v ∧ decode bytes (4 * gi.length) = .ok (.iload_n 1, 1)))
    (hdc : decode bytes (4 * gi.length + 1) = .ok (.invokestatic mi, 3)) (hdr : decode bytes (4 * gi.length + 4) = .ok (.ireturn, 1)) {r : zm_R} {comp : zm_M Int32} {f : Int32 → zm_M Int32} (hf : ∀ v σ o τ, zm_run (f v) σ = some (o, τ) → o = .inl v ∧ τ = σ ∧ narrow ty (.int v) = .int v)
    (hcomp : ∀ σ o τ, zm_run comp σ = some (o, τ) → ∃ (a : Nat) (vals : List Value) (z : zm_M Int32), r = some a ∧ σ.2.2 a = some (.inr (100 + i, vals)) ∧ vals.length = gi.length ∧ zm_run (zm_bnd z f) σ = some (o, τ) ∧ zm_Ct l Ω y (Cond.code y ybytes maxL rt :: Ts) F L (vals ++ [arg]) zm_tvI z)
    (hF : F + 2 ≤ FF ∧ 8 + 13 + (8 + (maxL + 11) + L) ≤ LL) (hl : ls.size = nL) (hst : st0 = arg :: va_rf r :: rest) (hW9 : (rest.map fun v => v.category).sum ≤ 8) (hdg : decode cc pc = .ok (.invokeinterface index count, 5)) :
    zm_CL 5 p l e R s m args below meth c Ω n0 k0 zm_tvI comp (F0 m pc ls st0) rest := by
  obtain ⟨hx, hb, hown, hts, hml, -, -, hK, hw, -, rfl, rfl, -, htr⟩ := C
  intro σ o τ H locs h1 h2 h3 h4 h5 h6 h7
  have hle := zm_run.le h1
  obtain ⟨a, vals, z, rfl, hs, hlen, h1', ct⟩ := hcomp σ o τ h1
  have hbig : Ω.2.2.2.length ≤ 100 + i := by rw [H9.2.1]; have : zm_cl.length ≤ 100 := (by decide); omega
  have hcell : H[a]? = some ({ cls := Ω.2.1.1 (100 + i), slots := vals.toArray, vm := .none } : Cell) := by
    rcases h2.2.1 a _ hs with ⟨r, q1, -⟩ | ⟨-, q1⟩
    · have := (List.getElem?_eq_some_iff.mp q1).1
      dsimp only at this
      omega
    · exact q1
  obtain ⟨⟨k, tk, file, methk, ck, toy, t, nt, hk, hkk, hfile, hmi, hnt, hmk, hck, hbytes, hmlk, hlkk, hflk, hretk, hexk, htoy, htk, htki, hlook, hready, hclsR, hit, hgl, hflds, hkn⟩, d, hmade⟩ := zl_at H9 hlam hok hO hw
  have hcall0 := H9.2.2.2.2.2.2.2.2.1 i _ hlam
  dsimp only at hcall0
  obtain ⟨m0, k9, cf9, i09, p09, l09, -, -, -, -, -, -, -, hcan, -⟩ := State.lambdaAt?_spec hcall0
  have hcan : s.lambdaCallable sh (Ω.2.1.1 (100 + i)) = true := by
    have hA := hw.alike
    simp only [State.lambdaCallable, hA.findClass, hA.assignable, hA.superclasses, hA.declaredIn] at hcan ⊢
    exact hcan
  obtain ⟨-, -, -, -, -, -, -, iface', -, -, -, -, found, -, -, -, -, -, hi', -, -, -, -, -, -, hfound', -, -, -, -, -, -, -, -, -, -, hsel⟩ := Lambda.isMade_spec hmade
  obtain ⟨r0, rr, hn, hrm, hstR, hsigR⟩ := Cond.declares_spec hdecl
  obtain ⟨cL, kL, r1', hcL, hkL, hiL, hfoundL, hn1⟩ := Cond.interfaceMethod_spec hface
  cases hn.symm.trans hn1
  have hr0cls : r0.cls = cL := Option.some.inj ((findClass_of_methodNamed hn).symm.trans hcL)
  obtain ⟨hnameR, hdescR⟩ := name_of_methodNamed hn hrm
  subst hx9
  dsimp only at hcL hfoundL hnameR hdescR
  cases hcL.symm.trans hi'
  have hfr : found = r0 := by
    simp only [State.methodFound?, hcL, hkL, hiL, Option.bind_eq_bind, Option.bind_some] at hfoundL
    rw [hfound'] at hfoundL
    exact Option.some.inj hfoundL
  subst hfr
  obtain ⟨i2, hi2, hasg, hway⟩ := State.lambdaCallable_spec hcan
  cases hcL.symm.trans hi2
  intro T hT X
  have hselP : selectMethod e.platform s.vm (Ω.2.1.1 (100 + i)) found = .method ⟨Ω.2.1.1 (100 + i), 1⟩ := by rw [Launch.admits_selectMethod X.admits]; exact hsel
  subst hst
  obtain ⟨vm₁, X₁, hstep₁⟩ := X.invokeinterface hx hown (hts _ hlink) hn hrm hstR (by rw [hr0cls]; exact hkL) hiL hdx (a := a) (cell := { cls := Ω.2.1.1 (100 + i), slots := vals.toArray, vm := .none }) (kcell := k) (by rw [hT]; exact hcell)
    (fun q h => by cases h) hk (by rw [hr0cls]; exact hasg) hselP hmk (by rw [hnameR, hdescR]; exact hway) (by rw [hflk]; decide) (by simp [Method.isAbstract, hflk, hasFlag, Acc.abstract]) (g := F0 m pc ls (arg :: va_rf (some a) :: rest)) rfl (argsL := [arg]) (rest := rest) (by
      have h9 := hsigR
      dsimp only at h9 hnx
      rw [h9] at hnx
      exact (Option.some.inj hnx).symm) rfl (by rw [hb]; exact hdg)
  have hdg' : decode c.code pc = .ok (.invokeinterface index count, 5) := by rw [hb]; exact hdg
  have hW1 : Ω.1.WarmedH vm₁ := State.WarmedH.trans hw X₁.warmed
  obtain ⟨⟨k', tk', file', methk', ck', toy', t', nt', hk', hkk', hfile', hmi', hnt', hmk', hck', hbytes', hmlk', hlkk', hflk', hretk', hexk', htoy', htk', htki', hlook', hready', hclsR', hit', hgl', hflds', hkn'⟩, -⟩ := zl_at H9 hlam hok hO hW1
  have hav : (lg_sl [va_rf (some a), arg]).length ≤ 2 := by
    rcases hld with ⟨q, rfl, -⟩ | ⟨v, rfl, -⟩
    · cases q <;> exact Nat.le_refl 2
    · exact Nat.le_refl 2
  have hcell9 : (τ.1 - σ.1) + (σ.1 - n0) ≤ R.cells := by have := hle.1; omega
  have hslot9 : (τ.2.1 - σ.2.1) + (σ.2.1 - k0) ≤ R.slots := by have := hle.2; omega
  obtain ⟨Y₀, hin⟩ := X₁.into (g := F0 m pc ls rest) rfl (hl.trans hml.symm) hdg' [va_rf (some a), arg].toArray (R' := zm_rm (F + 1) (8 + (maxL + 11) + L) σ τ) (mk := ⟨Ω.2.1.1 (100 + i), 1⟩) hmk' hck' hlkk' (State.plainMethod.of_name (fun k9 hk9 => by
      have hk9 : vm₁.classes[Ω.2.1.1 (100 + i)]? = some k9 := hk9
      cases hk'.symm.trans hk9
      rw [hkn']
      exact hpl)) (by show F + 1 + 1 ≤ R.frames; omega) (by rw [hmlk']; show 2 * 0 + (rest.map fun v => v.category).sum + (2 + 11) + (8 + (maxL + 11) + L) ≤ R.locals; omega) (by show σ.1 - n0 + (τ.1 - σ.1) ≤ R.cells; omega) (by show σ.2.1 - k0 + (τ.2.1 - σ.2.1) ≤ R.slots; omega)
  have hws : ∀ w ∈ Cond.code y ybytes maxL rt :: Ts, ∀ (a' : Array Value) (U : State), s.WarmedH U.vm → w.before a' U = true := pay_in hts hG
  have hsW : s.WarmedH vm₁ := X₁.warmed
  have hSv : ((T.setVm vm₁).calling (F0 m pc ls rest) ⟨Ω.2.1.1 (100 + i), 1⟩ [va_rf (some a), arg].toArray).vm = vm₁ := rfl
  generalize hS1 : (T.setVm vm₁).calling (F0 m pc ls rest) ⟨Ω.2.1.1 (100 + i), 1⟩ [va_rf (some a), arg].toArray = S1 at Y₀ hSv
  have hfr1 : ((T.setVm vm₁).setTop (F0 m pc ls rest)).frames = .java (F0 m pc ls rest) :: below := by rw [State.frames_setTop' _ X₁.here.top, X₁.tail]
  have hwS : Ω.1.WarmedH S1.vm := by rw [hSv]; exact hW1
  have hsS : s.WarmedH S1.vm := by rw [hSv]; exact hsW
  have hent := lg_entry_eq ⟨Ω.2.1.1 (100 + i), 1⟩ [va_rf (some a), arg] 2
  have hlv := lv_entry [va_rf (some a), arg] hav
  have hl1 : lv_args 0 [va_rf (some a), arg] = [(0, va_rf (some a)), (1, arg)] := by
    rcases hld with ⟨q, rfl, -⟩ | ⟨v, rfl, -⟩
    · rw [zg_R, zg_R, zg_nil]
    · rw [zg_R, zg_I, zg_nil]
  rw [hl1] at hlv
  generalize ((lg_sl [va_rf (some a), arg] ++ List.replicate (2 - (lg_sl [va_rf (some a), arg]).length) Slot.unset).toArray) = ls1 at hent hlv
  have hcall : zm_CL 3 p l e (zm_rm (F + 1) (8 + (maxL + 11) + L) σ τ) S1 ⟨Ω.2.1.1 (100 + i), 1⟩ [va_rf (some a), arg].toArray (.java (F0 m pc ls rest) :: below) methk' ck' Ω σ.1 σ.2.1 zm_tvI z (F0 ⟨Ω.2.1.1 (100 + i), 1⟩ (4 * gi.length + 1) ls1 (arg :: vals.reverse)) [] := by
    refine zl_callS htr hx hbytes' hwS ct (fun w hw9 a' U hU => hws w hw9 a' U (State.WarmedH.trans hsS hU)) (word_at hsS (Or.inl (by first | rfl | simp [Cond.onTables, Cond.keeps, Cond.steady])) (hts _ hini)) (word_at hsS (Or.inl (by first | rfl | simp [Cond.onTables, Cond.keeps, Cond.steady])) (hts _ hstat)) (fun vm' mk kP hWm hnm hkP => ?_) hdy hny ⟨Nat.le_refl _, Nat.le_refl _⟩ (by simp [hlen]) (hlv.1.trans hmlk'.symm) (by simp) (Nat.zero_le _) hdc
    have hW2 : Ω.1.WarmedH vm' := State.WarmedH.trans hwS hWm
    obtain ⟨⟨k2, tk2, file2, methk2, ck2, toy2, t2, nt2, hk2, -, hfile2, hmi2, hnt2, -, -, -, -, -, -, -, -, htoy2, htk2, htki2, hlook2, hready2, hclsR2, -⟩, -⟩ := zl_at H9 hlam hok hO hW2
    have hnm2 : (S1.setVm vm').methodNamed? y = some mk := by rw [State.methodNamed?_setVm hWm.alike]; exact hnm
    have hfd := State.methodFound?_of_named hnm2 hdy
    have hcy := findClass_of_methodNamed hnm2
    subst hy9
    dsimp only at hcy hfd
    have hcy : vm'.findClass sh.implClass = some mk.cls := hcy
    cases htoy2.symm.trans hcy
    have htv : ((methodIn mk.cls sh.implName sh.implDesc.toString tk2.isInterface none).ask { classPath := fun _ => none } vm').1 = .ok mk := by
      have htk3 : (S1.setVm vm').vm.classes[mk.cls]? = some tk2 := htk2
      have hcy3 : (S1.setVm vm').vm.findClass sh.implClass = some mk.cls := hcy
      simp only [State.methodFound?, hcy3, htk3, Option.bind_eq_bind, Option.bind_some] at hfd
      have hvm : (S1.setVm vm').vm = vm' := rfl
      rw [hvm, hlook2] at hfd
      rw [hlook2, Option.some.inj hfd]
    have e9 : t2 = mk := Except.ok.inj (hlook2.symm.trans htv)
    subst e9
    obtain ⟨b9, hmem⟩ := memberRef_ask' (e := e) (vm := vm') (d := Ω.2.1.1 (100 + i)) (index := mi) hk2 hfile2 (Or.inl hmi2) hnt2
    exact ⟨hready2, ci, _, _, b9, kP, hmem, hclsR2, hkP⟩
  have hinner := zl_inner (p := p) (l := l) (e := e) (R := zm_rm (F + 1) (8 + (maxL + 11) + L) σ τ) (s := S1) (m := ⟨Ω.2.1.1 (100 + i), 1⟩) (args := [va_rf (some a), arg].toArray) (below := .java (F0 m pc ls rest) :: below) (meth := methk') (c := ck') (Ω := Ω) (n0 := σ.1) (k0 := σ.2.1) (ls := ls1) hx hbytes' hexk' hlkk' (ty := ty) (by rw [hretk']; exact hret) (b := a) (ci := 100 + i) (vals := vals) (arg := arg) (gi := gi) hlen hbig (lv_at hlv 0 rfl) hd1
    (fun j gx hj vm' hWm => by
      obtain ⟨⟨k2, tk2, file2, methk2, ck2, toy2, t2, nt2, hk2, -, hfile2, hmi2, hnt2, -, -, -, -, -, -, -, -, htoy2, htk2, htki2, hlook2, hready2, hclsR2, -, -, hfl2, -⟩, -⟩ := zl_at H9 hlam hok hO (State.WarmedH.trans hwS hWm)
      exact hfl2 j gx hj)
    (fun H' locs' cells' slots' Q' st' k' => by
      rcases hld with ⟨q, rfl, hd⟩ | ⟨v, rfl, hd⟩
      · exact lr_aload_n hx hbytes' (k := 1) (i := 1) hd rfl (lv_at hlv 1 rfl) k'
      · exact lv_iload_n hx hbytes' (k := 1) hd rfl (lv_at hlv 1 rfl) k')
    hcall hf hdr h1' h2 hs (Nat.le_refl _) (Nat.le_refl _) (Nat.le_refl _) (Nat.le_refl _)
  rw [Nat.sub_self, Nat.sub_self] at hinner
  rw [hmlk', hent] at Y₀ hin
  obtain ⟨t1, st1, o2, hrun2, hend2, hq2⟩ := hinner (((T.setVm vm₁).setTop (F0 m pc ls rest)).pushFrame (.java (F0 ⟨Ω.2.1.1 (100 + i), 1⟩ 0 ls1 []))) (show T.heap = H from hT) Y₀
  have hst1 : Steps p.tables e below _ t1 := Steps.weaken (mid := [.java (F0 m pc ls rest)]) st1
  rcases zl_back2 (mk := ⟨Ω.2.1.1 (100 + i), 1⟩) (a := [va_rf (some a), arg].toArray) X₁ (g := F0 m pc ls rest) rfl hdg' (by rw [hfr1]; exact hend2) (by rw [hS1]; exact hq2) with ⟨v, ⟨U', l2, c2, s2⟩, X', ⟨g', mk', t9, L9, e1, e2, hq, q1, hL, q2, q3⟩, hs2⟩ | ⟨q, ⟨U', l2, c2, s2⟩, X', ⟨g', mk', t9, L9, E, ce, e1, e2, hq, hce, hcv, hcl, q1, hL, q2, q3⟩, hs2⟩
  · dsimp only [Pt.U, Pt.locs, Pt.cells, Pt.slots] at X' e1 e2 q1 q2 q3 hs2 hq
    subst q1; subst q2; subst q3
    refine Or.inl ⟨v, (T.setVm vm₁).calling g' mk' [va_rf (some a), arg].toArray, t9, U', L9, hT, X', hL, e1, e2, hq, fun target h => hstep₁ _ fun acts => ?_⟩
    show Steps p.tables e below (doInvoke e ((T.setVm vm₁).setTop (F0 m pc ls rest)) acts ⟨Ω.2.1.1 (100 + i), 1⟩ [va_rf (some a), arg].toArray).1 _
    rw [hin acts]
    rw [hs2] at hst1
    exact hst1.trans h
  · dsimp only [Pt.U, Pt.locs, Pt.cells, Pt.slots] at X' e1 e2 q1 q2 q3 hs2 hq hcl
    subst q1; subst q2; subst q3
    refine Or.inr ⟨q, (T.setVm vm₁).calling g' mk' [va_rf (some a), arg].toArray, t9, U', L9, E, ce, hT, X', hL, e1, e2, hq, hce, hcv, vz_cls hsW hcl, hstep₁ _ fun acts => ?_⟩
    show Steps p.tables e below (doInvoke e ((T.setVm vm₁).setTop (F0 m pc ls rest)) acts ⟨Ω.2.1.1 (100 + i), 1⟩ [va_rf (some a), arg].toArray).1 _
    rw [hin acts]
    rw [hs2] at hst1
    exact hst1
end ZLE
theorem zl_shape {cf : ClassFile} {index : Nat} {sh : Lambda.Shape} (h : Lambda.shapeOf? cf index = some sh) : ∃ (bsm nt : Nat) (name desc : String) (sig : MethodDescriptor), cf.constantPool[index]? = some (.invokeDynamic bsm nt) ∧ cf.constantPool.nameAndType? nt = some (name, desc) ∧ parseMethodDescriptor desc = some sig ∧ sig.parameters = sh.captured := by
  have no : ∀ {q : Prop}, (none : Option Lambda.Shape) = some sh → q := fun hh => nomatch hh
  unfold Lambda.shapeOf? at h
  generalize h1 : cf.constantPool[index]? = w at h
  cases w with
  | none => exact no h
  | some w =>
    cases w with
    | invokeDynamic b nt =>
      obtain ⟨en, -, h⟩ := Option.bind_eq_some_iff.mp h
      obtain ⟨bm, -, h⟩ := Option.bind_eq_some_iff.mp h
      generalize h2 : cf.constantPool[bm.bootstrapMethodRef]? = w2 at h
      cases w2 with
      | none => exact no h
      | some w2 =>
        cases w2 with
        | methodHandle kd r =>
          match kd, h with
          | 0, h => exact no h
          | 1, h => exact no h
          | 2, h => exact no h
          | 3, h => exact no h
          | 4, h => exact no h
          | 5, h => exact no h
          | _ + 7, h => exact no h
          | 6, h =>
            obtain ⟨_, -, h⟩ := Option.bind_eq_some_iff.mp h
            generalize h3 : bm.bootstrapArguments = ar at h
            obtain ⟨li⟩ := ar
            match li, h with
            | [], h => exact no h
            | [_], h => exact no h
            | [_, _], h => exact no h
            | _ :: _ :: _ :: _ :: _, h => exact no h
            | [a0, a1, a2], h =>
              conv at h => lhs; whnf
              split at h
              · split at h
                · split at h
                  · obtain ⟨⟨name, desc⟩, h7, h⟩ := Option.bind_eq_some_iff.mp h
                    obtain ⟨site, h8, h⟩ := Option.bind_eq_some_iff.mp h
                    generalize h9 : site.returnType = rt at h
                    cases rt with
                    | none => exact no h
                    | some rt =>
                      cases rt with
                      | object iface =>
                        obtain ⟨⟨ic, im, ids, ii⟩, -, h⟩ := Option.bind_eq_some_iff.mp h
                        obtain ⟨_, -, h⟩ := Option.bind_eq_some_iff.mp h
                        obtain ⟨_, -, h⟩ := Option.bind_eq_some_iff.mp h
                        obtain ⟨_, -, h⟩ := Option.bind_eq_some_iff.mp h
                        obtain ⟨_, -, h⟩ := Option.bind_eq_some_iff.mp h
                        obtain ⟨_, -, h⟩ := Option.bind_eq_some_iff.mp h
                        have h10 := Option.some.inj h
                        exact ⟨b, nt, name, desc, site, rfl, h7, h8, by rw [← h10]⟩
                      | _ => exact no h
                  · exact no h
                · exact no h
              · exact no h
        | _ => exact no h
    | _ => exact no h
section ZLF
variable {p : Program} {l : Launch} {e : Env} {R : Room} {s : State} {m : MethodId} {args : Array Value} {below : List Frame} {meth : Method} {c : Code} {Ω : zm_W} {Ts : List Cond} {cc : ByteArray} {own nm : String} {nL FF LL : Nat} {ret : Option FieldType}
variable {ρ : Type} {n0 k0 : Nat} {QF : (ρ ⊕ zm_X) → zm_S → State → Prop}
variable {α β : Type} {J : α → zm_M ρ} {pc : Nat} {ls : Array Slot} {rest st0 : List Value} {K : zm_K} {g : JFrame}
theorem zl_site (H9 : zm_H Ω K) (hw : Ω.1.WarmedH s.vm) {xs : MethodName} (hN : s.methodNamed? xs = some m) {i index : Nat} {sh : Lambda.Shape} (hlam : zm_lams[i]? = some (xs, pc, index, sh)) :
    ∃ (k : Class) (cf : ClassFile) (i0 p0 : Nat) (ln : Linked), s.vm.classes[m.cls]? = some k ∧ k.cf = some cf ∧ Lambda.shapeOf? cf index = some sh ∧ (k.callSites.find? fun y => y.1 == m.idx && y.2.1 == pc) = some (i0, p0, ln) ∧
      ((∃ a, ln = .constant a ∧ K.2 (100 + i) = some a ∧ sh.captured = []) ∨ (ln = .makes (Ω.2.1.1 (100 + i)) ∧ sh.captured ≠ [])) := by
  have h := H9.2.2.2.2.2.2.2.2.1 i _ hlam
  dsimp only at h
  obtain ⟨m0, k, cf, i0, p0, l0, hm, hk, hcf, hsh, hin, hfind, hmade, hcall, hl⟩ := State.lambdaAt?_spec h
  have hm2 : (Ω.1.setVm s.vm).methodNamed? xs = some m0 := by rw [State.methodNamed?_setVm hw.alike]; exact hm
  have hm3 : s.methodNamed? xs = some m0 := hm2
  cases hN.symm.trans hm3
  obtain ⟨k', hk', he⟩ := hw.alike.2.2 _ _ hk
  refine ⟨k', cf, i0, p0, l0, hk', by rw [he]; exact hcf, hsh, by rw [he]; exact hfind, ?_⟩
  rcases hl with ⟨a, cell, q1, q2, q3, -⟩ | ⟨q1, q2, q3⟩
  · exact Or.inl ⟨a, q1, q2, q3⟩
  · exact Or.inr ⟨q1, q3⟩
theorem zs_lamC {cells slots : Nat} {H : Heap} {locs : List Loc} {Q : State → Prop} (H9 : zm_H Ω K) (C : zm_C p l R s m args meth c Ω Ts cc own nm nL FF LL ret) {xs : MethodName} (hN : s.methodNamed? xs = some m) {i index : Nat} {sh : Lambda.Shape} (hlam : zm_lams[i]? = some (xs, pc, index, sh)) (hcap : sh.captured = []) (hl : ls.size = nL) (hwd : (rest.map fun v => v.category).sum + 3072 ≤ LL) (hdg : decode cc pc = .ok (.invokedynamic index, 5))
    (k : W p l e R s m args below meth c H locs cells slots Q (F0 m (pc + 5) ls (va_rf (K.2 (100 + i)) :: rest))) : W p l e R s m args below meth c H locs cells slots Q (F0 m pc ls rest) := by
  obtain ⟨hx, hb, hown, hts, hml, -, -, hK, hw, -, hfr, hlo, -⟩ := C
  obtain ⟨kc, cf, i0, p0, ln, q1, q2, q3, q4, ⟨a, rfl, q5, -⟩ | ⟨-, q5⟩⟩ := zl_site H9 hw hN hlam
  · rw [q5] at k
    intro T hT X
    obtain ⟨t, a1, b1⟩ := k T hT X
    exact ⟨t, X.lambdaConstant hx (g := F0 m pc ls rest) rfl (hl.trans hml.symm) (by rw [hb]; exact hdg) q1 q4 (by rw [hlo, X.admits.platform]; show 2 * 0 + (rest.map fun v => v.category).sum + 3072 ≤ LL; omega) a1, b1⟩
  · exact absurd hcap q5
theorem rk_lam (H9 : zm_H Ω K) (C : zm_C p l R s m args meth c Ω Ts cc own nm nL FF LL ret) {xs : MethodName} (hN : s.methodNamed? xs = some m) {i index : Nat} {sh : Lambda.Shape} (hlam : zm_lams[i]? = some (xs, pc, index, sh)) (hcap : sh.captured ≠ []) {bytes : ByteArray} {gi : List Nat} {mi ci : Nat} (hok : zl_ok sh xs.cls bytes gi mi ci = true)
    {A : Array Value} (hO : (Cond.instantiable "java/lang/Object" 0).before A Ω.1 = true) {vals : List Value} (hlen : vals.length = sh.captured.length) (hnar : ((sh.captured.zip vals).map fun (t, v) => narrow t v) = vals) (hfit : ∀ (j : Nat) (t : FieldType) (v : Value), sh.captured[j]? = some t → vals[j]? = some v → fits t v = true)
    (hl : ls.size = nL) (hst : st0 = vals.reverse ++ rest) (hwd : (st0.map fun v => v.category).sum + 3072 ≤ LL) (hdg : decode cc pc = .ok (.invokedynamic index, 5)) {f : Nat → zm_M α}
    (kk : ∀ q, zm_RK p l e R s m args below meth c Ω n0 k0 QF (f q) J (F0 m (pc + 5) ls (va_rf (some q) :: rest))) : zm_RK p l e R s m args below meth c Ω n0 k0 QF (zm_bnd (zm_new (100 + i) vals) f) J (F0 m pc ls st0) := by
  obtain ⟨hx, hb, hown, hts, hml, -, -, hK, hw, -, hfr, hlo, -⟩ := C
  subst hst
  refine rk_prim (g' := fun q => F0 m (pc + 5) ls (va_rf (some q) :: rest)) (zm_new_st (100 + i) vals) ?_ kk
  intro σ x τ H locs Q h1 h2 h3 h4 h5 h6 h7 h8
  have h1 : some ((Sum.inl σ.1 : Nat ⊕ zm_X), ((σ.1 + 1, σ.2.1 + vals.length, zm_up σ.2.2 σ.1 (.inr (100 + i, vals))) : zm_S)) = some (.inl x, τ) := h1
  simp only [Option.some.injEq, Prod.mk.injEq, Sum.inl.injEq] at h1
  obtain ⟨rfl, rfl⟩ := h1
  dsimp only at h6 h7 h8
  obtain ⟨kc, cf, i0, p0, ln, q1, q2, q3, q4, ⟨a, -, -, q5⟩ | ⟨rfl, -⟩⟩ := zl_site H9 hw hN hlam
  · exact absurd q5 hcap
  · obtain ⟨bsm, nt, name, desc, sig, s1, s2, s3, s4⟩ := zl_shape q3
    obtain ⟨⟨k, tk, file, methk, ck, toy, t, nt9, hk, hkk, hfile, hmi, hnt, hmk, hck, hbytes, hmlk, hlkk, hflk, hretk, hexk, htoy, htk, htki, hlook, hready, hclsR, hit, hgl, hflds, hkn⟩, -⟩ := zl_at H9 hlam hok hO hw
    intro T hT X
    have hE : ((k.instanceTypes.toList.zip vals).map fun (t, v) => narrow t v) = vals := by rw [hit]; exact hnar
    have hm := X.lambdaMakes hx (g := F0 m pc ls (vals.reverse ++ rest)) rfl (hl.trans hml.symm) (by rw [hb]; exact hdg) (vals := vals) (rest := rest) q1 q4 q2 s1 s2 (parseLong_of_parse s3) (by rw [s4]; exact hlen) rfl hk
      (by rw [hlo, X.admits.platform]; show 2 * 0 + ((vals.reverse ++ rest).map fun v => v.category).sum + 3072 ≤ LL; omega) (by omega) (by rw [hE]; omega) (fun j v hj => by
        rw [hE] at hj
        have hj : vals[j]? = some v := by simpa using hj
        have hlt : j < sh.captured.length := by rw [← hlen]; exact (List.getElem?_eq_some_iff.mp hj).1
        have hc : sh.captured[j]? = some sh.captured[j] := List.getElem?_eq_getElem hlt
        have hf := hfit j _ v hc hj
        simp [State.fitsSlot, State.slotType?, hk, hkk, hit, hc, hf])
    rw [hE] at hm
    obtain ⟨X', st⟩ := hm
    have hz1 : σ.1 - n0 + 1 = σ.1 + 1 - n0 := by omega
    have hy1 : σ.2.1 - k0 + vals.toArray.size = σ.2.1 + vals.length - k0 := by simp; omega
    rw [hz1, hy1] at X'
    have hbig : Ω.2.2.2.length ≤ 100 + i := by rw [H9.2.1]; have : zm_cl.length ≤ 100 := (by decide); omega
    obtain ⟨t1, b1, b2⟩ := h8 (H.push { cls := Ω.2.1.1 (100 + i), slots := vals.toArray, vm := .none }) locs (h2.push (by rw [Array.size_push]) (fun q hq => by rw [Array.getElem?_push, if_neg (Nat.ne_of_lt hq)]) (Or.inr ⟨hbig, by rw [← h2.1, Array.getElem?_push_size]⟩)) h3 (T.pushCell { cls := Ω.2.1.1 (100 + i), slots := vals.toArray, vm := .none }) (by rw [← hT]; rfl) X'
    refine ⟨t1, st t1 ?_, b2⟩
    rw [hT, h2.1]
    exact b1
end ZLF
