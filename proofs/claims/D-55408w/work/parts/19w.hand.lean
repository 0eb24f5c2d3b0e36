/-! methods with handlers -/
def zh_tb (c : Code) : List (Nat × Nat × Nat × Nat) := c.exceptionTable.toList.map fun h => (h.startPc, h.endPc, h.handlerPc, h.catchType)
def zm_cth {α β : Type} (x : zm_M α) (g : String → Nat → zm_M β) (f : α → zm_M β) : zm_M β := zm_ctc x f g
/-- a contract of a method with handlers -/
theorem zm_ctW {β : Type} {l : Launch} {Ω : zm_W} {Ts : List Cond} {y : MethodName} {cc : ByteArray} {nL F L : Nat} {ret : Option FieldType} {hh : List (Nat × Nat × Nat × Nat)} {av : List Value} {tv : β → Option Value} {x : zm_M β} (HK : zm_HK Ω) (hy : plainName y.cls = true) (hav : (lg_sl av).length ≤ nL)
    (body : ∀ (p : Program) (e : Env) (R : Room) (s : State) (m : MethodId) (args : Array Value) (below : List Frame) (meth : Method) (c : Code) (n0 k0 : Nat), zm_C p l R s m args meth c Ω Ts cc y.cls y.name nL F L ret → s.methodNamed? y = some m → zh_tb c = hh → ∀ ls, lv_has ls nL (lv_args 0 av) →
      zm_RF p l e R s m args below meth c Ω n0 k0 (zm_QFs below args s Ω n0 k0 tv) x (F0 m 0 ls [])) : zm_Ct l Ω y (Cond.codeWith y cc nL ret hh :: Ts) F L av tv x := by
  intro htr σ o τ h1
  refine vz_ofWH (cc := cc) (maxL := nL) (ret := ret) (hh := hh) hy rfl ?_
  intro p e s m args below meth c s₁ B hml hpc
  obtain ⟨rfl, hrep, hwarm⟩ := hpc
  have hts := atoms_spec (ws := Cond.codeWith y cc nL ret hh :: Ts) B.pre
  obtain ⟨m9, meth9, c9, hn9, hm9, hc9, -, -, htb, -⟩ := Cond.codeWith_spec (hts _ List.mem_cons_self)
  cases hn9.symm.trans B.named
  cases hm9.symm.trans B.method
  cases hc9.symm.trans (Stand.of_body B).code
  have hts : ∀ w ∈ Ts, w.before _ s = true := fun w h => hts w (List.mem_cons_of_mem _ h)
  have hl := lv_entry av hav
  rw [lg_entry_eq]
  have hC : zm_C p l (headSpec (Cond.codeWith y cc nL ret hh :: Ts) (zm_rm F L σ τ)).room s m av.toArray meth c Ω Ts cc y.cls y.name nL F L ret := ⟨B.exec, B.bytes, findClass_of_methodNamed B.named, hts, hml, B.returns, B.notSynchronized, HK, hwarm, (name_of_methodNamed B.named B.method).1, rfl, rfl, hrep.2.2, htr⟩
  have h := body p e _ s m av.toArray below meth c σ.1 σ.2.1 hC B.named htb _ hl σ o τ s.heap [] h1 hrep (fun z hz => by cases hz) (Nat.le_refl _) (Nat.le_refl _) (Nat.le_refl _) (Nat.le_refl _)
  rw [Nat.sub_self, Nat.sub_self] at h
  exact h
/-- a contract out of the walk of its body, the method known by name -/
theorem zm_ctN {β : Type} {l : Launch} {Ω : zm_W} {Ts : List Cond} {y : MethodName} {cc : ByteArray} {nL F L : Nat} {ret : Option FieldType} {av : List Value} {tv : β → Option Value} {x : zm_M β} (HK : zm_HK Ω) (hy : plainName y.cls = true) (hav : (lg_sl av).length ≤ nL)
    (body : ∀ (p : Program) (e : Env) (R : Room) (s : State) (m : MethodId) (args : Array Value) (below : List Frame) (meth : Method) (c : Code) (n0 k0 : Nat), zm_C p l R s m args meth c Ω Ts cc y.cls y.name nL F L ret → zm_XO p l e R s m args below meth c Ω n0 k0 (zm_QFs below args s Ω n0 k0 tv) → s.methodNamed? y = some m → ∀ ls, lv_has ls nL (lv_args 0 av) →
      zm_RF p l e R s m args below meth c Ω n0 k0 (zm_QFs below args s Ω n0 k0 tv) x (F0 m 0 ls [])) : zm_Ct l Ω y (Cond.code y cc nL ret :: Ts) F L av tv x := by
  intro htr σ o τ h1
  refine vz_ofW (cc := cc) (maxL := nL) (ret := ret) hy rfl ?_
  intro p e s m args below meth c s₁ B hml hno hpc
  obtain ⟨rfl, hrep, hwarm⟩ := hpc
  have hts := atoms_spec (ws := Cond.code y cc nL ret :: Ts) B.pre
  have hts : ∀ w ∈ Ts, w.before _ s = true := fun w h => hts w (List.mem_cons_of_mem _ h)
  have hl := lv_entry av hav
  rw [lg_entry_eq]
  have hC : zm_C p l (headSpec (Cond.code y cc nL ret :: Ts) (zm_rm F L σ τ)).room s m av.toArray meth c Ω Ts cc y.cls y.name nL F L ret := ⟨B.exec, B.bytes, findClass_of_methodNamed B.named, hts, hml, B.returns, B.notSynchronized, HK, hwarm, (name_of_methodNamed B.named B.method).1, rfl, rfl, hrep.2.2, htr⟩
  have h := body p e _ s m av.toArray below meth c σ.1 σ.2.1 hC (zm_XO_of hno B.notSynchronized) B.named _ hl σ o τ s.heap [] h1 hrep (fun z hz => by cases hz) (Nat.le_refl _) (Nat.le_refl _) (Nat.le_refl _) (Nat.le_refl _)
  rw [Nat.sub_self, Nat.sub_self] at h
  exact h
section ZHA
variable {p : Program} {l : Launch} {e : Env} {R : Room} {s : State} {m : MethodId} {args : Array Value} {below : List Frame} {meth : Method} {c : Code} {Ω : zm_W} {Ts : List Cond} {cc : ByteArray} {own nm : String} {nL FF LL : Nat} {ret : Option FieldType}
variable {ρ : Type} {n0 k0 : Nat} {QF : (ρ ⊕ zm_X) → zm_S → State → Prop}
variable {α β : Type} {J : α → zm_M ρ} {pc : Nat} {ls : Array Slot} {rest st0 : List Value} {K : zm_K} {g : JFrame} {hh : List (Nat × Nat × Nat × Nat)}
theorem zh_nc (H9 : zm_H Ω K) (C : zm_C p l R s m args meth c Ω Ts cc own nm nL FF LL ret) {E t : String} (h : (E, t) ∈ zm_ncs) : va_Nc E t s := va_Nc.moved C.2.2.2.2.2.2.2.2.1.alike (H9.2.2.2.2.2.2.2.2.2.1 (E, t) h)
/-- an entry is passed by an object of class E thrown at pc -/
def zh_ps (Ts : List Cond) (s : State) (own : String) (pc : Nat) (E : String) (z : Nat × Nat × Nat × Nat) : Prop := ¬ (z.1 ≤ pc ∧ pc < z.2.1) ∨ (z.2.2.2 ≠ 0 ∧ ∃ nm : String, Cond.classLink own z.2.2.2 nm ∈ Ts ∧ va_Nc E nm s)
theorem rx_out {tv : ρ → Option Value} (C : zm_C p l R s m args meth c Ω Ts cc own nm nL FF LL ret) (hT : zh_tb c = hh) {E : String} {q : Nat} (hp : ∀ z, z ∈ hh → zh_ps Ts s own pc E z) : zm_RX p l e R s m args below meth c Ω n0 k0 (zm_QFs below args s Ω n0 k0 tv) (zm_thr E q) (F0 m pc ls rest) E q := by
  obtain ⟨hx, hb, hown, hts, -, -, hlk, -⟩ := C
  intro σ o τ H locs ce h1 h2 h3 h4 h5 h6 h7 h8 h9 h10
  rw [zm_run_thr] at h1
  cases h1
  refine vz_outP (E := E) hown hlk (fun z hz => ?_) h8 h9 h10 (fun t ht hW => ⟨rfl, by rw [ht]; exact h2⟩) h3 (Nat.le_refl _) (Nat.le_refl _)
  have hm : (z.startPc, z.endPc, z.handlerPc, z.catchType) ∈ hh := by rw [← hT]; exact List.mem_map.mpr ⟨z, hz, rfl⟩
  rcases hp _ hm with h | ⟨h, nm', hl, hn⟩
  · refine Or.inl ?_
    dsimp only at h
    simp only [Bool.and_eq_false_iff, decide_eq_false_iff_not]
    omega
  · exact Or.inr ⟨h, nm', hts _ hl, hn⟩
theorem rx_un {tv : ρ → Option Value} (C : zm_C p l R s m args meth c Ω Ts cc own nm nL FF LL ret) (hT : zh_tb c = hh) (hu : ∀ z, z ∈ hh → ¬ (z.1 ≤ pc ∧ pc < z.2.1)) (E : String) (q : Nat) : zm_RX p l e R s m args below meth c Ω n0 k0 (zm_QFs below args s Ω n0 k0 tv) (zm_thr E q) (F0 m pc ls rest) E q := rx_out C hT fun z hz => Or.inl (hu z hz)
theorem rx_cat (C : zm_C p l R s m args meth c Ω Ts cc own nm nL FF LL ret) (hT : zh_tb c = hh) {E cn : String} {q k : Nat} {x : Nat × Nat × Nat × Nat} (hk : hh[k]? = some x) (hp : ∀ z, z ∈ hh.take k → zh_ps Ts s own pc E z) (hx : x.1 ≤ pc ∧ pc < x.2.1) (h0 : x.2.2.2 ≠ 0) (hlink : Cond.classLink own x.2.2.2 cn ∈ Ts) (hcast : (Cond.castable E cn).before args s = true)
    {y : zm_M α} (kk : zm_RK p l e R s m args below meth c Ω n0 k0 QF y J (F0 m x.2.2.1 ls [va_rf (some q)])) : zm_RX p l e R s m args below meth c Ω n0 k0 QF (zm_bnd y J) (F0 m pc ls rest) E q := by
  obtain ⟨hx9, hb, hown, hts, -, -, hlk, -⟩ := C
  intro σ o τ H locs ce h1 h2 h3 h4 h5 h6 h7 h8 h9 h10
  have hlt : k < hh.length := (List.getElem?_eq_some_iff.mp hk).1
  unfold zh_tb at hT
  have hlt2 : k < c.exceptionTable.toList.length := by rw [← hT, List.length_map] at hlt; exact hlt
  have hxk : x = ((c.exceptionTable.toList[k]).startPc, (c.exceptionTable.toList[k]).endPc, (c.exceptionTable.toList[k]).handlerPc, (c.exceptionTable.toList[k]).catchType) := by
    rw [← hT, List.getElem?_map, List.getElem?_eq_getElem hlt2] at hk
    exact (Option.some.inj hk).symm
  subst hxk
  refine vz_catch (name := cn) (E := E) hown (c.exceptionTable.toList.take k) c.exceptionTable.toList[k] (c.exceptionTable.toList.drop (k + 1)) (by rw [← List.drop_eq_getElem_cons hlt2, List.take_append_drop]) (fun z hz => ?_) (by simpa using hx) h0 (hts _ hlink) hcast h8 h9 h10 (kk σ o τ H locs h1 h2 h3 h4 h5 h6 h7)
  have hm : (z.startPc, z.endPc, z.handlerPc, z.catchType) ∈ hh.take k := by rw [← hT, ← List.map_take]; exact List.mem_map.mpr ⟨z, hz, rfl⟩
  rcases hp _ hm with h | ⟨h, nm', hl, hn⟩
  · refine Or.inl ?_
    dsimp only at h
    simp only [Bool.and_eq_false_iff, decide_eq_false_iff_not]
    omega
  · exact Or.inr ⟨h, nm', hts _ hl, hn⟩
/-- an entry for anything thrown -/
theorem rx_any (C : zm_C p l R s m args meth c Ω Ts cc own nm nL FF LL ret) (hT : zh_tb c = hh) {E : String} {q k : Nat} {x : Nat × Nat × Nat × Nat} (hk : hh[k]? = some x) (hp : ∀ z, z ∈ hh.take k → zh_ps Ts s own pc E z) (hx : x.1 ≤ pc ∧ pc < x.2.1) (h0 : x.2.2.2 = 0)
    {y : zm_M α} (kk : zm_RK p l e R s m args below meth c Ω n0 k0 QF y J (F0 m x.2.2.1 ls [va_rf (some q)])) : zm_RX p l e R s m args below meth c Ω n0 k0 QF (zm_bnd y J) (F0 m pc ls rest) E q := by
  obtain ⟨hx9, hb, hown, hts, -, -, hlk, -⟩ := C
  intro σ o τ H locs ce h1 h2 h3 h4 h5 h6 h7 h8 h9 h10
  have hlt : k < hh.length := (List.getElem?_eq_some_iff.mp hk).1
  unfold zh_tb at hT
  have hlt2 : k < c.exceptionTable.toList.length := by rw [← hT, List.length_map] at hlt; exact hlt
  have hxk : x = ((c.exceptionTable.toList[k]).startPc, (c.exceptionTable.toList[k]).endPc, (c.exceptionTable.toList[k]).handlerPc, (c.exceptionTable.toList[k]).catchType) := by
    rw [← hT, List.getElem?_map, List.getElem?_eq_getElem hlt2] at hk
    exact (Option.some.inj hk).symm
  subst hxk
  intro T hT9 X
  have hpl : e.platform.magicAccessors = ({} : Platform).magicAccessors := by rw [X.admits.platform]
  obtain ⟨vm', X', st⟩ := X.thenCaughtThrough q (g := F0 m pc ls rest) rfl (Steps.refl _) (by rw [hT9]; exact h8) (by rw [h9]; rfl) (by obtain ⟨k9, h9, -⟩ := Vm.findClass_spec h10; exact ⟨k9, h9⟩) (c.exceptionTable.toList.take k) c.exceptionTable.toList[k] (c.exceptionTable.toList.drop (k + 1)) (by rw [← List.drop_eq_getElem_cons hlt2, List.take_append_drop])
    (fun z hz => by
      have hm : (z.startPc, z.endPc, z.handlerPc, z.catchType) ∈ hh.take k := by rw [← hT, ← List.map_take]; exact List.mem_map.mpr ⟨z, hz, rfl⟩
      rcases hp _ hm with h | ⟨h, nm', hl1, hn1⟩
      · refine Or.inl ?_
        dsimp only at h
        simp only [Bool.and_eq_false_iff, decide_eq_false_iff_not]
        show ¬ (z.startPc ≤ pc) ∨ ¬ (pc < z.endPc)
        omega
      · obtain ⟨c6, hc6, hcl6⟩ := Cond.classLink_spec hown (hts _ hl1) e.platform hpl
        obtain ⟨a8, b8, h1, h2, h3⟩ := hn1
        cases Option.some.inj (h1.symm.trans h10)
        cases Option.some.inj (h2.symm.trans hc6)
        exact Or.inr ⟨h, _, hcl6, h3⟩) (by simpa using hx) (Or.inl h0)
  obtain ⟨t, a1, b1⟩ := kk σ o τ H locs h1 h2 h3 h4 h5 h6 h7 (T.setVm vm') hT9 X'
  exact ⟨t, st.trans a1, b1⟩
theorem rx_ite {P : Prop} [Decidable P] {x y : zm_M α} {E : String} {q : Nat} (k1 : P → zm_RX p l e R s m args below meth c Ω n0 k0 QF (zm_bnd x J) g E q) (k2 : ¬ P → zm_RX p l e R s m args below meth c Ω n0 k0 QF (zm_bnd y J) g E q) : zm_RX p l e R s m args below meth c Ω n0 k0 QF (zm_bnd (if P then x else y) J) g E q := by
  by_cases hp : P
  · rw [if_pos hp]; exact k1 hp
  · rw [if_neg hp]; exact k2 hp
theorem rx_fl {E : String} {q : Nat} : zm_RX p l e R s m args below meth c Ω n0 k0 QF (zm_bnd (zm_fl : zm_M α) J) g E q := by
  intro σ o τ H locs ce h1
  rw [zm_fl_bnd, zm_run_fl] at h1
  cases h1
theorem rk_cthI {len : Nat} {x : zm_M Int32} {f : Int32 → zm_M α} {h : String → Nat → zm_M α} (hc : zm_CL len p l e R s m args below meth c Ω n0 k0 zm_tvI x (F0 m pc ls st0) rest) (kx : ∀ (E : String) (q : Nat), zm_RX p l e R s m args below meth c Ω n0 k0 QF (zm_bnd (h E q) J) (F0 m pc ls rest) E q)
    (kk : ∀ v, zm_RK p l e R s m args below meth c Ω n0 k0 QF (f v) J (F0 m (pc + len) ls (.int v :: rest))) : zm_RK p l e R s m args below meth c Ω n0 k0 QF (zm_cth x h f) J (F0 m pc ls st0) := rk_ctc hc kx kk
theorem rk_cthR {len : Nat} {x : zm_M zm_R} {f : zm_R → zm_M α} {h : String → Nat → zm_M α} (hc : zm_CL len p l e R s m args below meth c Ω n0 k0 zm_tvR x (F0 m pc ls st0) rest) (kx : ∀ (E : String) (q : Nat), zm_RX p l e R s m args below meth c Ω n0 k0 QF (zm_bnd (h E q) J) (F0 m pc ls rest) E q)
    (kk : ∀ v, zm_RK p l e R s m args below meth c Ω n0 k0 QF (f v) J (F0 m (pc + len) ls (va_rf v :: rest))) : zm_RK p l e R s m args below meth c Ω n0 k0 QF (zm_cth x h f) J (F0 m pc ls st0) := rk_ctc hc kx kk
theorem rk_cthV {len : Nat} {x : zm_M Unit} {f : Unit → zm_M α} {h : String → Nat → zm_M α} (hc : zm_CL len p l e R s m args below meth c Ω n0 k0 zm_tvV x (F0 m pc ls st0) rest) (kx : ∀ (E : String) (q : Nat), zm_RX p l e R s m args below meth c Ω n0 k0 QF (zm_bnd (h E q) J) (F0 m pc ls rest) E q)
    (kk : ∀ v, zm_RK p l e R s m args below meth c Ω n0 k0 QF (f v) J (F0 m (pc + len) ls rest)) : zm_RK p l e R s m args below meth c Ω n0 k0 QF (zm_cth x h f) J (F0 m pc ls st0) := rk_ctc hc kx kk
theorem rk_cthF {len : Nat} {x : zm_M UInt32} {f : UInt32 → zm_M α} {h : String → Nat → zm_M α} (hc : zm_CL len p l e R s m args below meth c Ω n0 k0 zm_tvF x (F0 m pc ls st0) rest) (kx : ∀ (E : String) (q : Nat), zm_RX p l e R s m args below meth c Ω n0 k0 QF (zm_bnd (h E q) J) (F0 m pc ls rest) E q)
    (kk : ∀ v, zm_RK p l e R s m args below meth c Ω n0 k0 QF (f v) J (F0 m (pc + len) ls (.float v :: rest))) : zm_RK p l e R s m args below meth c Ω n0 k0 QF (zm_cth x h f) J (F0 m pc ls st0) := rk_ctc hc kx kk
theorem rk_cthD {len : Nat} {x : zm_M UInt64} {f : UInt64 → zm_M α} {h : String → Nat → zm_M α} (hc : zm_CL len p l e R s m args below meth c Ω n0 k0 zm_tvD x (F0 m pc ls st0) rest) (kx : ∀ (E : String) (q : Nat), zm_RX p l e R s m args below meth c Ω n0 k0 QF (zm_bnd (h E q) J) (F0 m pc ls rest) E q)
    (kk : ∀ v, zm_RK p l e R s m args below meth c Ω n0 k0 QF (f v) J (F0 m (pc + len) ls (.double v :: rest))) : zm_RK p l e R s m args below meth c Ω n0 k0 QF (zm_cth x h f) J (F0 m pc ls st0) := rk_ctc hc kx kk
/-- athrow in a method with handlers: out of it -/
theorem rk_athP (H9 : zm_H Ω K) (C : zm_C p l R s m args meth c Ω Ts cc own nm nL FF LL ret) (hX : ∀ (E : String) (q : Nat), zm_RX p l e R s m args below meth c Ω n0 k0 QF (zm_thr E q) (F0 m pc ls rest) E q) {r : zm_R} (hdg : decode cc pc = .ok (.athrow, 1)) : zm_RK p l e R s m args below meth c Ω n0 k0 QF (zm_ath r) J (F0 m pc ls (va_rf r :: rest)) := by
  obtain ⟨hx, hb, hown, hts, -, -, -, hK, hw, -⟩ := C
  intro σ o τ H locs h1 h2 h3 h4 h5 h6 h7
  rw [zm_run_bnd] at h1
  cases hh : zm_run (zm_ath r : zm_M α) σ with
  | none => rw [hh] at h1; cases h1
  | some v =>
    obtain ⟨w, υ⟩ := v
    obtain ⟨rfl, a, ci, fs, q, rfl, e2, e3, rfl⟩ := zm_ath_some hh
    rw [hh] at h1
    have hc : Ω.2.2.2[ci]? = some q := by rw [H9.2.1]; exact e3
    obtain ⟨-, cell, g1, g2, g3, -⟩ := h2.obj e2 hc
    exact vz_athrow hx hb hdg (hX q.1 a υ o τ H locs cell h1 h2 h3 h4 h5 h6 h7 g1 g3 (by rw [g2]; exact ((hK.at hw).1 ci q hc).2.1))
/-- athrow in a method with handlers, within an entry -/
theorem rk_athC (H9 : zm_H Ω K) (C : zm_C p l R s m args meth c Ω Ts cc own nm nL FF LL ret) {h : String → Nat → zm_M α} {f : Unit → zm_M α} {r : zm_R} (hdg : decode cc pc = .ok (.athrow, 1)) (kx : ∀ (E : String) (q : Nat), zm_RX p l e R s m args below meth c Ω n0 k0 QF (zm_bnd (h E q) J) (F0 m pc ls rest) E q) : zm_RK p l e R s m args below meth c Ω n0 k0 QF (zm_cth (zm_ath r : zm_M Unit) h f) J (F0 m pc ls (va_rf r :: rest)) := by
  obtain ⟨hx, hb, hown, hts, -, -, -, hK, hw, -⟩ := C
  intro σ o τ H locs h1 h2 h3 h4 h5 h6 h7
  unfold zm_cth at h1
  rw [zm_run_bnd, zm_run_ctc] at h1
  cases hh : zm_run (zm_ath r : zm_M Unit) σ with
  | none => rw [hh] at h1; cases h1
  | some v =>
    obtain ⟨w, υ⟩ := v
    obtain ⟨rfl, a, ci, fs, q, rfl, e2, e3, rfl⟩ := zm_ath_some hh
    rw [hh] at h1
    have hc : Ω.2.2.2[ci]? = some q := by rw [H9.2.1]; exact e3
    obtain ⟨-, cell, g1, g2, g3, -⟩ := h2.obj e2 hc
    exact vz_athrow hx hb hdg (kx q.1 a υ o τ H locs cell h1 h2 h3 h4 h5 h6 h7 g1 g3 (by rw [g2]; exact ((hK.at hw).1 ci q hc).2.1))
/-- a call of a virtual method with handlers -/
theorem cl_VX {y : MethodName} {bytes : ByteArray} {maxL F L n index ci : Nat} {rt : Option FieldType} {r : zm_R} {av : List Value} {tv : β → Option Value} {z : zm_M β} {T : u_T} {N : Nat} {C_ : String} (C : zm_C p l R s m args meth c Ω Ts cc own nm nL FF LL ret) (hc : Ω.2.2.2[ci]? = some (C_, T, N)) (ct : zm_Ct l Ω y (Cond.codeWith y bytes maxL rt hh :: Ts) F L (va_rf r :: av) tv z) (hT : GoodIn Ts (wsV own index C_ y (Cond.codeWith y bytes maxL rt hh :: Ts)))
    (hd : y.cls = C_ ∧ y.cls ≠ "java/lang/invoke/MethodHandle" ∧ y.cls ≠ "java/lang/invoke/VarHandle" ∧ (parseMethodDescriptor y.desc).map (fun d => d.parameters.length) = some n) (hF : F + 1 ≤ FF ∧ 8 + (maxL + 11) + L ≤ LL) (hn : av.length = n) (hl : ls.size = nL) (hst : st0 = av.reverse ++ va_rf r :: rest) (hW : (rest.map fun v => v.category).sum ≤ 8) (hdg : decode cc pc = .ok (.invokevirtual index, 3)) :
    zm_CL 3 p l e R s m args below meth c Ω n0 k0 tv (zm_bnd (zm_is r ci) fun _ => z) (F0 m pc ls st0) rest := by
  obtain ⟨hx, hb, hown, hts, hml, -, -, hK, hw, -, rfl, rfl, -, htr⟩ := C
  intro σ o τ H locs h1 h2 h3 h4 h5 h6 h7
  have hle := zm_run.le h1
  obtain ⟨a, fs, rfl, h8, h9⟩ := zm_is_run h1
  exact vz_runVX (C := C_) (hh := hh) ⟨hx, hb, hml, hown, hts⟩ (ct htr σ o τ h9) (vz_cwVW n hts hT rfl rfl rfl hd hF) ⟨zm_blind _ _ _, zm_recv hK hw h2 h8 hc, zm_Pc_of h2 hw⟩ rfl hn hl hst (lv_room hW) hdg ⟨by have := hle.1; omega, by have := hle.2; omega⟩
theorem cl_SX {y : MethodName} {bytes : ByteArray} {maxL F L n index : Nat} {rt : Option FieldType} {av : List Value} {tv : β → Option Value} {x : zm_M β} (C : zm_C p l R s m args meth c Ω Ts cc own nm nL FF LL ret) (ct : zm_Ct l Ω y (Cond.codeWith y bytes maxL rt hh :: Ts) F L av tv x) (hT : GoodIn Ts (va_wsS own index y (Cond.codeWith y bytes maxL rt hh :: Ts)))
    (hd : y.cls ≠ "java/lang/invoke/MethodHandle" ∧ y.cls ≠ "java/lang/invoke/VarHandle" ∧ (parseMethodDescriptor y.desc).map (fun d => d.parameters.length) = some n) (hF : F + 1 ≤ FF ∧ 8 + (maxL + 11) + L ≤ LL) (hn : av.length = n) (hl : ls.size = nL) (hst : st0 = av.reverse ++ rest) (hW : (rest.map fun v => v.category).sum ≤ 8) (hdg : decode cc pc = .ok (.invokestatic index, 3)) :
    zm_CL 3 p l e R s m args below meth c Ω n0 k0 tv x (F0 m pc ls st0) rest := by
  obtain ⟨hx, hb, hown, hts, hml, -, -, hK, hw, -, rfl, rfl, -, htr⟩ := C
  intro σ o τ H locs h1 h2 h3 h4 h5 h6 h7
  have hle := zm_run.le h1
  exact vz_runSX (As := av) (hh := hh) ⟨hx, hb, hml, hown, hts⟩ (ct htr σ o τ h1) (vz_cwSW n hts hT rfl rfl rfl hd hF) ⟨zm_blind _ _ _, zm_Pc_of h2 hw⟩ rfl hn hl hst (lv_room hW) hdg ⟨by have := hle.1; omega, by have := hle.2; omega⟩
end ZHA
