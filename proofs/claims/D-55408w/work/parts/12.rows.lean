/-! rows: one a kind of instruction that reads or writes the heap -/
/-! the heap behind a write, behind a new cell -/
theorem zm_rep.write {Ω : zm_W} {σ : zm_S} {H H' : Heap} {a : Nat} {e : zm_E} (h : zm_rep Ω σ H) (z : H'.size = H.size) (oq : ∀ q, q ≠ a → H'[q]? = H[q]?) (ha : Ω.1.heap.size ≤ a) (he : zm_at Ω a e H') : zm_rep Ω (σ.1, σ.2.1, zm_up σ.2.2 a e) H' := by
  obtain ⟨h1, h2, h3, h4⟩ := h
  refine ⟨z.trans h1, fun b e' hb => ?_, by omega, fun q hq => ?_⟩
  · simp only [zm_up] at hb
    split at hb
    · rename_i hba
      cases hb
      rw [hba]
      exact he
    · rename_i hba
      exact (h2 b e' hb).kept (oq b hba)
  · rw [oq q (by omega)]
    exact h4 q hq
theorem zm_rep.push {Ω : zm_W} {σ : zm_S} {H H' : Heap} {e : zm_E} {n : Nat} (h : zm_rep Ω σ H) (z : H'.size = H.size + 1) (oq : ∀ q, q < H.size → H'[q]? = H[q]?) (he : zm_at Ω σ.1 e H') : zm_rep Ω (σ.1 + 1, n, zm_up σ.2.2 σ.1 e) H' := by
  obtain ⟨h1, h2, h3, h4⟩ := h
  refine ⟨by rw [z, h1], fun b e' hb => ?_, by omega, fun q hq => ?_⟩
  · simp only [zm_up] at hb
    split at hb
    · rename_i hba
      cases hb
      rw [hba]
      exact he
    · have hlt := (h2 b e' hb).lt
      exact (h2 b e' hb).kept (oq b hlt)
  · rw [oq q (by omega)]
    exact h4 q hq
theorem zm_rep.obj {Ω : zm_W} {σ : zm_S} {H : Heap} {a ci : Nat} {fs : List Value} {q : vw_C} (h : zm_rep Ω σ H) (ha : σ.2.2 a = some (.inr (ci, fs))) (hc : Ω.2.2.2[ci]? = some q) : fs.length = q.2.2 ∧ t_OB a (Ω.2.1.1 ci) q.2.2 (Ω.2.1.2 ci) H (vp_V fs) := by
  rcases h.2.1 a _ ha with ⟨r, h1, h2, h3, -⟩ | ⟨h1, -⟩
  · cases hc.symm.trans h1
    exact ⟨h2, h3⟩
  · have := (List.getElem?_eq_some_iff.mp hc).1
    exact absurd h1 (by omega)
theorem zm_rep.mon {Ω : zm_W} {σ : zm_S} {H : Heap} {a ci : Nat} {fs : List Value} {q : vw_C} (h : zm_rep Ω σ H) (ha : σ.2.2 a = some (.inr (ci, fs))) (hc : Ω.2.2.2[ci]? = some q) (hb : Ω.1.heap.size ≤ a) {cell : Cell} (hcell : H[a]? = some cell) : cell.monitor.owner = none ∧ cell.monitor.count = 0 := by
  rcases h.2.1 a _ ha with ⟨r, h1, h2, h3, h4⟩ | ⟨h1, -⟩
  · obtain ⟨c9, q1, q2⟩ := h4 hb
    cases hcell.symm.trans q1
    exact q2
  · have := (List.getElem?_eq_some_iff.mp hc).1
    exact absurd h1 (by omega)
theorem zm_rep.arr {Ω : zm_W} {σ : zm_S} {H : Heap} {a : Nat} {ty : FieldType} {x : vp_A} (h : zm_rep Ω σ H) (ha : σ.2.2 a = some (.inl (ty, x))) : va_P Ω.2.1 Ω.2.2.2 [(a, .inl (Ω.2.2.1 ty, x))] H := by
  intro k q hq
  have hk : k < 1 := (List.getElem?_eq_some_iff.mp hq).1
  rw [show k = 0 by omega] at hq
  cases hq
  exact (h.2.1 a _ ha).2
theorem zm_HK.at {Ω : zm_W} {s : State} (h : zm_HK Ω) (hw : Ω.1.WarmedH s.vm) : va_K Ω.2.1 Ω.2.2.2 (zm_tys.map fun t => (Ω.2.2.1 t, t)) s := va_K.moved hw.alike h
theorem zm_HK.ty {Ω : zm_W} {s : State} (h : zm_HK Ω) (hw : Ω.1.WarmedH s.vm) (i : Nat) {ty : FieldType} (hi : zm_tys[i]? = some ty) : va_K Ω.2.1 Ω.2.2.2 [(Ω.2.2.1 ty, ty)] s := by
  refine ((h.at hw).sub (tys' := [(Ω.2.2.1 ty, ty)]) [i] ?_)
  simp [hi]
section ZR
variable {p : Program} {l : Launch} {e : Env} {R : Room} {s : State} {m : MethodId} {args : Array Value} {below : List Frame} {meth : Method} {c : Code} {Ω : zm_W} {Ts : List Cond} {cc : ByteArray} {own nm : String} {nL FF LL : Nat} {ret : Option FieldType}
variable {ρ : Type} {n0 k0 : Nat} {QF : (ρ ⊕ zm_X) → zm_S → State → Prop}
variable {α : Type} {J : α → zm_M ρ} {pc : Nat} {ls : Array Slot} {rest : List Value} {K : zm_K}
theorem rk_get {τ : Type} {rd : Value → Option τ} {wr : τ → Value} (hrw : ∀ v x, rd v = some x → v = wr x) (C : zm_C p l R s m args meth c Ω Ts cc own nm nL FF LL ret) {r : zm_R} {ci k : Nat} {ref C_ : String} {T : u_T} {N index : Nat} (hc : Ω.2.2.2[ci]? = some (C_, T, N)) (hk : k < N) (hin : ∀ w ∈ u_ws C_ T N, w ∈ Ts) (hlink : (Cond.fieldLink own index ref (T k).2.1 (T k).2.2.1) ∈ Ts) (hsame : ∀ x, s.fieldFound? (T k).1 (T k).2.1 (T k).2.2.1 = some x → s.fieldFound? ref (T k).2.1 (T k).2.2.1 = some x) (hdg : decode cc pc = .ok (.getfield index, 3)) {f : τ → zm_M α}
    (kk : ∀ x, zm_RK p l e R s m args below meth c Ω n0 k0 QF (f x) J (F0 m (pc + 3) ls (wr x :: rest))) : zm_RK p l e R s m args below meth c Ω n0 k0 QF (zm_bnd (zm_getF rd r ci k) f) J (F0 m pc ls (va_rf r :: rest)) := by
  obtain ⟨hx, hb, hown, hts, -, -, -, hK, hw, -⟩ := C
  refine rk_prim (zm_getF_st rd r ci k) ?_ kk
  intro σ x τ H locs Q h1 h2 h3 h4 h5 h6 h7 h8
  obtain ⟨rfl, a, fs, v, y, rfl, e2, e3, e4, e5⟩ := zm_getF_some h1
  cases e5
  have hP : va_P Ω.2.1 Ω.2.2.2 [(a, .inr (ci, fs))] H := by
    intro j q hq
    have hj : j < 1 := (List.getElem?_eq_some_iff.mp hq).1
    rw [show j = 0 by omega] at hq
    cases hq
    exact ⟨_, hc, (h2.obj e2 hc).2⟩
  refine va_get hx hb hts hin hown (hK.at hw) hP 0 rfl hc k hk (hts _ hlink) hsame e3 hdg ?_
  rw [hrw _ _ e4]
  exact h8 H locs h2 h3
theorem rk_getN {τ : Type} {rd : Value → Option τ} {wr : τ → Value} (hrw : ∀ v x, rd v = some x → v = wr x) (C : zm_C p l R s m args meth c Ω Ts cc own nm nL FF LL ret) {r : zm_R} {ci k : Nat} {ref C_ host : String} {T : u_T} {N index : Nat} (hc : Ω.2.2.2[ci]? = some (C_, T, N)) (hk : k < N) (hin : ∀ w ∈ u_ws C_ T N, w ∈ Ts) (hlink : (Cond.fieldLinkNest own index ref (T k).2.1 (T k).2.2.1 host).before args s = true) (hsame : ∀ x, s.fieldFound? (T k).1 (T k).2.1 (T k).2.2.1 = some x → s.fieldFound? ref (T k).2.1 (T k).2.2.1 = some x) (hdg : decode cc pc = .ok (.getfield index, 3)) {f : τ → zm_M α}
    (kk : ∀ x, zm_RK p l e R s m args below meth c Ω n0 k0 QF (f x) J (F0 m (pc + 3) ls (wr x :: rest))) : zm_RK p l e R s m args below meth c Ω n0 k0 QF (zm_bnd (zm_getF rd r ci k) f) J (F0 m pc ls (va_rf r :: rest)) := by
  obtain ⟨hx, hb, hown, hts, -, -, -, hK, hw, -⟩ := C
  refine rk_prim (zm_getF_st rd r ci k) ?_ kk
  intro σ x τ H locs Q h1 h2 h3 h4 h5 h6 h7 h8
  obtain ⟨rfl, a, fs, v, y, rfl, e2, e3, e4, e5⟩ := zm_getF_some h1
  cases e5
  have hP : va_P Ω.2.1 Ω.2.2.2 [(a, .inr (ci, fs))] H := by
    intro j q hq
    have hj : j < 1 := (List.getElem?_eq_some_iff.mp hq).1
    rw [show j = 0 by omega] at hq
    cases hq
    exact ⟨_, hc, (h2.obj e2 hc).2⟩
  refine va_getN hx hb hts hin hown (hK.at hw) hP 0 rfl hc k hk hlink hsame e3 hdg ?_
  rw [hrw _ _ e4]
  exact h8 H locs h2 h3
theorem rk_put (C : zm_C p l R s m args meth c Ω Ts cc own nm nL FF LL ret) (hB : Ω.1.heap.size ≤ K.1) {r : zm_R} {ci k : Nat} {ref C_ : String} {T : u_T} {N index : Nat} (hc : Ω.2.2.2[ci]? = some (C_, T, N)) (hk : k < N) (hin : ∀ w ∈ u_ws C_ T N, w ∈ Ts) {ty0 : Nat → FieldType} (hty : ∀ k, k < N → parseFieldDescriptor (T k).2.2.1 = some (ty0 k)) (hnm : ∀ a, a < N → ∀ b, b < N → a ≠ b → (T a).2.1 ≠ (T b).2.1) (hlink : (Cond.fieldLink own index ref (T k).2.1 (T k).2.2.1) ∈ Ts) (hsame : ∀ x, s.fieldFound? (T k).1 (T k).2.1 (T k).2.2.1 = some x → s.fieldFound? ref (T k).2.1 (T k).2.2.1 = some x) (hfin : (T k).2.2.2 = false ∨ ((T k).2.2.2 = true ∧ nm = "<init>" ∧ (T k).1 = own)) {v : Value} (hn : narrow (ty0 k) v = v) (hfit : fits (ty0 k) v = true) (hdg : decode cc pc = .ok (.putfield index, 3)) {f : Unit → zm_M α}
    (kk : zm_RK p l e R s m args below meth c Ω n0 k0 QF (f ()) J (F0 m (pc + 3) ls rest)) : zm_RK p l e R s m args below meth c Ω n0 k0 QF (zm_bnd (zm_putF K r ci k v) f) J (F0 m pc ls (v :: va_rf r :: rest)) := by
  obtain ⟨hx, hb, hown, hts, -, -, -, hK, hw, hnm2, -⟩ := C
  refine rk_prim (g' := fun _ => F0 m (pc + 3) ls rest) (zm_putF_st K r ci k v) ?_ (fun _ => kk)
  intro σ x τ H locs Q h1 h2 h3 h4 h5 h6 h7 h8
  obtain ⟨-, a, fs, rfl, e2, e3, e4, rfl⟩ := zm_putF_some h1
  have hKs := hK.at (s := s) hw
  have hap := va_apart (own := own) hts hin ty0 hty hnm hKs hc
  obtain ⟨hlen, cell, q1, q2, q3, q4⟩ := h2.obj e2 hc
  obtain ⟨hS, hfc, kC, hkC, hkind⟩ := hKs.1 ci _ hc
  obtain ⟨cf, kf, fi, f, hi, hsl⟩ := hS k hk
  have hst := (u_facts hfc hkC (u_lays hts hin hk) hi).1
  have hd := hty k hk
  have hend : ∀ H' : Heap, H'[a]? = some (cell.setSlot f.slot v) → H'.size = H.size → (∀ q, q ≠ a → H'[q]? = H[q]?) → W p l e R s m args below meth c H' (locs ++ [⟨a, f.slot⟩]) (σ.1 - n0) (σ.2.1 - k0) Q (F0 m (pc + 3) ls rest) := by
    intro H' e1 ez eq
    rw [hsl] at e1 ⊢
    have hmon : cell.monitor.owner = none ∧ cell.monitor.count = 0 := h2.mon e2 hc (Nat.le_trans hB e3) q1
    refine h8 H' _ (h2.write ez eq (Nat.le_trans hB e3) (Or.inl ⟨_, hc, by rw [List.length_set]; exact hlen, t_OB.to (V := updV (vp_V fs) k v) ⟨_, e1, q2, q3, t_set q4 hap hk v⟩ (fun j _ => vp_updV_set e4 v j), fun _ => ⟨_, e1, hmon⟩⟩)) ?_
    intro z hz
    rcases List.mem_append.mp hz with h | h
    · exact h3 z h
    · rw [List.mem_singleton.mp h]
      exact Nat.le_trans hB e3
  have hlay := hts _ (hin _ (u_in_lay hk))
  unfold u_lay at hlay
  rcases hfin with hf0 | ⟨hf1, hf2, hf3⟩
  · rw [if_neg (by rw [hf0]; decide)] at hlay
    have h6 := u_store hfc hkC hkind hlay hi hd hn hfit
    exact W.putK hx hb (f := f) ⟨hown, hts _ hlink, ⟨_, _, _, hsame _ hi⟩, hst⟩ (by rw [q2]; exact h6) q1 q3 (by rw [hsl]; exact k2_hasslot (q4 k hk)) rfl rfl hdg hend
  · rw [if_pos hf1] at hlay
    have hcf : m.cls = cf := by
      obtain ⟨_, _, c', _, _, _, -, -, hf', -, -, -, hown2, -⟩ := Cond.laysFinal_spec hlay
      have e1 : c' = cf := by have := hi.symm.trans hf'; simp at this; exact this.1.symm
      rw [hf3] at hown2
      rw [← e1]; exact Option.some.inj (hown.symm.trans hown2)
    have h6 := u_fits hfc hkC hkind (Or.inr hlay) hi hd hn hfit
    exact W.putFinK hx hb hown (hts _ hlink) (hsame _ hi) hst hcf (by rw [hnm2]; exact hf2) (by rw [q2]; exact h6) q1 q3 (by rw [hsl]; exact k2_hasslot (q4 k hk)) rfl rfl hdg hend
theorem rk_new (C : zm_C p l R s m args meth c Ω Ts cc own nm nL FF LL ret) {ci : Nat} {C_ : String} {T : u_T} {N index : Nat} (hc : Ω.2.2.2[ci]? = some (C_, T, N)) (hin : ∀ w ∈ u_ws C_ T N, w ∈ Ts) {ty0 : Nat → FieldType} (hty : ∀ k, k < N → parseFieldDescriptor (T k).2.2.1 = some (ty0 k)) (hcl : (Cond.classLink own index C_) ∈ Ts) (hinst : (Cond.instantiable C_ N) ∈ Ts) (hini : (Cond.initialized C_) ∈ Ts) {fs : List Value} (hlen : fs.length = N) (hfs : ∀ j, j < N → defaultValue (ty0 j) = vp_V fs j) (hdg : decode cc pc = .ok (.new index, 3)) {f : Nat → zm_M α}
    (kk : ∀ q, zm_RK p l e R s m args below meth c Ω n0 k0 QF (f q) J (F0 m (pc + 3) ls (va_rf (some q) :: rest))) : zm_RK p l e R s m args below meth c Ω n0 k0 QF (zm_bnd (zm_new ci fs) f) J (F0 m pc ls rest) := by
  obtain ⟨hx, hb, hown, hts, -, -, -, hK, hw, -⟩ := C
  refine rk_prim (g' := fun q => F0 m (pc + 3) ls (va_rf (some q) :: rest)) (zm_new_st ci fs) ?_ kk
  intro σ x τ H locs Q h1 h2 h3 h4 h5 h6 h7 h8
  have h1 : some ((Sum.inl σ.1 : Nat ⊕ zm_X), ((σ.1 + 1, σ.2.1 + fs.length, zm_up σ.2.2 σ.1 (.inr (ci, fs))) : zm_S)) = some (.inl x, τ) := h1
  simp only [Option.some.injEq, Prod.mk.injEq, Sum.inl.injEq] at h1
  obtain ⟨rfl, rfl⟩ := h1
  have hKs := hK.at (s := s) hw
  have hKn := hKs.1 ci _ hc
  dsimp only at h6 h7 h8
  refine W.newcK hx hb hown (hts _ hcl) (hts _ hinst) (hts _ hini) rfl hdg (by omega) (n := N) (by omega) hKn.2.1 h2.1 fun H1 kC hkC e1 z1 o1 => ?_
  have hz : σ.1 - n0 + 1 = σ.1 + 1 - n0 := by omega
  have hy : σ.2.1 - k0 + N = σ.2.1 + fs.length - k0 := by omega
  rw [hz, hy]
  refine h8 H1 locs (h2.push (by rw [z1, h2.1]) (fun q hq => o1 q (by rw [← h2.1]; exact hq)) (Or.inl ⟨_, hc, hlen, ?_, fun _ => ⟨_, e1, rfl, rfl⟩⟩)) h3
  exact (u_born ty0 hts hin hKn hkC e1 hty).to hfs
end ZR
