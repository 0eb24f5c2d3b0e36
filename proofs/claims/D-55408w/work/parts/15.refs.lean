/-! locals and references: null or an address, in one form -/
def lr_ok (i : Nat) : List (Nat × Value) → Prop
  | [] => True
  | q :: t => (if q.1 = i then False else if q.1 + 1 = i then q.2.category = 1 else True) ∧ lr_ok i t
def lr_ok2 (i : Nat) : List (Nat × Value) → Prop
  | [] => True
  | q :: t => (if q.1 = i then False else if q.1 = i + 1 then False else if q.1 + 1 = i then q.2.category = 1 else True) ∧ lr_ok2 i t
theorem lr_ok_mem {i : Nat} {l : List (Nat × Value)} (h : lr_ok i l) : ∀ q ∈ l, ¬ q.1 = i ∧ (q.1 + 1 = i → q.2.category = 1) := by
  induction l with
  | nil => intro q hq; cases hq
  | cons a t ih =>
    intro q hq
    obtain ⟨h1, h2⟩ := h
    rcases List.mem_cons.mp hq with e | e
    · subst e
      split at h1
      · exact h1.elim
      · rename_i hne
        refine ⟨hne, fun hh => ?_⟩
        rw [if_pos hh] at h1
        exact h1
    · exact ih h2 q e
theorem lr_ok2_mem {i : Nat} {l : List (Nat × Value)} (h : lr_ok2 i l) : ∀ q ∈ l, ¬ q.1 = i ∧ ¬ q.1 = i + 1 ∧ (q.1 + 1 = i → q.2.category = 1) := by
  induction l with
  | nil => intro q hq; cases hq
  | cons a t ih =>
    intro q hq
    obtain ⟨h1, h2⟩ := h
    rcases List.mem_cons.mp hq with e | e
    · subst e
      split at h1
      · exact h1.elim
      · rename_i hne
        split at h1
        · exact h1.elim
        · rename_i hne2
          refine ⟨hne, hne2, fun hh => ?_⟩
          rw [if_pos hh] at h1
          exact h1
    · exact ih h2 q e
theorem lr_pick_mem {l l' : List (Nat × Value)} {ks : List Nat} (h : lv_pick l ks = l') : ∀ q ∈ l', q ∈ l := by
  intro q hq
  rw [← h] at hq
  obtain ⟨k, -, hk⟩ := List.mem_filterMap.mp hq
  exact List.mem_of_getElem? hk
theorem lr_st1 {ls : Array Slot} {nL : Nat} {l l' : List (Nat × Value)} {i : Nat} {v : Value} (h : lv_has ls nL l) (hi : i < nL) (hc : v.category = 1) (ks : List Nat) (hk : lv_pick l ks = l') (ok : lr_ok i l') :
    ∃ ls', storeLocals ls i v = some ls' ∧ lv_has ls' nL ((i, v) :: l') := by
  obtain ⟨ls', e, h1, h2, h3⟩ := lv_store1 h hi hc
  refine ⟨ls', e, h1, h2, fun q hq => ?_⟩
  rcases List.mem_cons.mp hq with e9 | e9
  · exact h3 q (by rw [e9]; exact List.mem_cons_self)
  · obtain ⟨n1, n2⟩ := lr_ok_mem ok q e9
    refine h3 q (List.mem_cons_of_mem _ (List.mem_filter.mpr ⟨lr_pick_mem hk q e9, ?_⟩))
    by_cases hh : q.1 + 1 = i
    · have := n2 hh
      simp [n1, this]
    · simp [n1, hh]
theorem lr_st2 {ls : Array Slot} {nL : Nat} {l l' : List (Nat × Value)} {i : Nat} {v : Value} (h : lv_has ls nL l) (hi : i + 1 < nL) (hc : v.category = 2) (ks : List Nat) (hk : lv_pick l ks = l') (ok : lr_ok2 i l') :
    ∃ ls', storeLocals ls i v = some ls' ∧ lv_has ls' nL ((i, v) :: l') := by
  obtain ⟨ls', e, h1, h2, h3⟩ := lv_store2 h hi hc
  refine ⟨ls', e, h1, h2, fun q hq => ?_⟩
  rcases List.mem_cons.mp hq with e9 | e9
  · exact h3 q (by rw [e9]; exact List.mem_cons_self)
  · obtain ⟨n1, n2, n3⟩ := lr_ok2_mem ok q e9
    refine h3 q (List.mem_cons_of_mem _ (List.mem_filter.mpr ⟨lr_pick_mem hk q e9, ?_⟩))
    by_cases hh : q.1 + 1 = i
    · have := n3 hh
      simp [n1, n2, this]
    · simp [n1, n2, hh]
section ZL
variable {p : Program} {l : Launch} {e : Env} {R : Room} {s : State} {m : MethodId} {args : Array Value} {below : List Frame} {meth : Method} {c : Code} {H : Heap} {locs : List Loc} {cells slots : Nat} {Q : State → Prop}
variable {cc : ByteArray} {pc : Nat} {ls : Array Slot} {rest : List Value}
theorem lr_istore_n (hexec : p.tables.exec = Jvm.exec) (hb : c.code = cc) {k : Fin 4} {i nL : Nat} {x : Int32} {lv l' : List (Nat × Value)} (hdg : decode cc pc = .ok (.istore_n k, 1)) (hi : (k : Nat) = i) (h : lv_has ls nL lv) (hn : i < nL) (ks : List Nat) (hk : lv_pick lv ks = l') (ok : lr_ok i l')
    (kk : ∀ ls' : Array Slot, lv_has ls' nL ((i, .int x) :: l') → W p l e R s m args below meth c H locs cells slots Q (F0 m (pc + 1) ls' rest)) : W p l e R s m args below meth c H locs cells slots Q (F0 m pc ls (.int x :: rest)) := by
  subst hi
  obtain ⟨ls', e', h'⟩ := lr_st1 (v := .int x) h hn rfl ks hk ok
  intro T hT X
  obtain ⟨t, a, b⟩ := kk ls' h' T hT X
  refine ⟨t, ?_, b⟩
  jvm_step X.here [X.here.top, ↓top_set X.here.top, hexec, hb, hdg, e']
  exact a
theorem lr_istore (hexec : p.tables.exec = Jvm.exec) (hb : c.code = cc) {i nL : Nat} {x : Int32} {lv l' : List (Nat × Value)} (hdg : decode cc pc = .ok (.istore i, 2)) (h : lv_has ls nL lv) (hn : i < nL) (ks : List Nat) (hk : lv_pick lv ks = l') (ok : lr_ok i l')
    (kk : ∀ ls' : Array Slot, lv_has ls' nL ((i, .int x) :: l') → W p l e R s m args below meth c H locs cells slots Q (F0 m (pc + 2) ls' rest)) : W p l e R s m args below meth c H locs cells slots Q (F0 m pc ls (.int x :: rest)) := by
  obtain ⟨ls', e', h'⟩ := lr_st1 (v := .int x) h hn rfl ks hk ok
  intro T hT X
  obtain ⟨t, a, b⟩ := kk ls' h' T hT X
  refine ⟨t, ?_, b⟩
  jvm_step X.here [X.here.top, ↓top_set X.here.top, hexec, hb, hdg, e']
  exact a
theorem lr_fstore (hexec : p.tables.exec = Jvm.exec) (hb : c.code = cc) {i nL : Nat} {x : UInt32} {lv l' : List (Nat × Value)} (hdg : decode cc pc = .ok (.fstore i, 2)) (h : lv_has ls nL lv) (hn : i < nL) (ks : List Nat) (hk : lv_pick lv ks = l') (ok : lr_ok i l')
    (kk : ∀ ls' : Array Slot, lv_has ls' nL ((i, .float x) :: l') → W p l e R s m args below meth c H locs cells slots Q (F0 m (pc + 2) ls' rest)) : W p l e R s m args below meth c H locs cells slots Q (F0 m pc ls (.float x :: rest)) := by
  obtain ⟨ls', e', h'⟩ := lr_st1 (v := .float x) h hn rfl ks hk ok
  intro T hT X
  obtain ⟨t, a, b⟩ := kk ls' h' T hT X
  refine ⟨t, ?_, b⟩
  jvm_step X.here [X.here.top, ↓top_set X.here.top, hexec, hb, hdg, e']
  exact a
theorem lr_dstore (hexec : p.tables.exec = Jvm.exec) (hb : c.code = cc) {i nL : Nat} {x : UInt64} {lv l' : List (Nat × Value)} (hdg : decode cc pc = .ok (.dstore i, 2)) (h : lv_has ls nL lv) (hn : i + 1 < nL) (ks : List Nat) (hk : lv_pick lv ks = l') (ok : lr_ok2 i l')
    (kk : ∀ ls' : Array Slot, lv_has ls' nL ((i, .double x) :: l') → W p l e R s m args below meth c H locs cells slots Q (F0 m (pc + 2) ls' rest)) : W p l e R s m args below meth c H locs cells slots Q (F0 m pc ls (.double x :: rest)) := by
  obtain ⟨ls', e', h'⟩ := lr_st2 (v := .double x) h hn rfl ks hk ok
  intro T hT X
  obtain ⟨t, a, b⟩ := kk ls' h' T hT X
  refine ⟨t, ?_, b⟩
  jvm_step X.here [X.here.top, ↓top_set X.here.top, hexec, hb, hdg, e']
  exact a
theorem lr_astore_n (hexec : p.tables.exec = Jvm.exec) (hb : c.code = cc) {k : Fin 4} {i nL : Nat} {x : Option Nat} {lv l' : List (Nat × Value)} (hdg : decode cc pc = .ok (.astore_n k, 1)) (hi : (k : Nat) = i) (h : lv_has ls nL lv) (hn : i < nL) (ks : List Nat) (hk : lv_pick lv ks = l') (ok : lr_ok i l')
    (kk : ∀ ls' : Array Slot, lv_has ls' nL ((i, va_rf x) :: l') → W p l e R s m args below meth c H locs cells slots Q (F0 m (pc + 1) ls' rest)) : W p l e R s m args below meth c H locs cells slots Q (F0 m pc ls (va_rf x :: rest)) := by
  subst hi
  obtain ⟨ls', e', h'⟩ := lr_st1 (v := va_rf x) h hn (va_rf_cat x) ks hk ok
  intro T hT X
  obtain ⟨t, a, b⟩ := kk ls' h' T hT X
  refine ⟨t, ?_, b⟩
  cases x with
  | none =>
    have e' : storeLocals ls (k : Nat) .null = some ls' := e'
    show Steps p.tables e below (T.setTop (F0 m pc ls (.null :: rest))) t
    jvm_step X.here [X.here.top, ↓top_set X.here.top, hexec, hb, hdg, e', Value.isRef]
    exact a
  | some y =>
    have e' : storeLocals ls (k : Nat) (.ref y) = some ls' := e'
    show Steps p.tables e below (T.setTop (F0 m pc ls (.ref y :: rest))) t
    jvm_step X.here [X.here.top, ↓top_set X.here.top, hexec, hb, hdg, e', Value.isRef]
    exact a
theorem lr_astore (hexec : p.tables.exec = Jvm.exec) (hb : c.code = cc) {i nL : Nat} {x : Option Nat} {lv l' : List (Nat × Value)} (hdg : decode cc pc = .ok (.astore i, 2)) (h : lv_has ls nL lv) (hn : i < nL) (ks : List Nat) (hk : lv_pick lv ks = l') (ok : lr_ok i l')
    (kk : ∀ ls' : Array Slot, lv_has ls' nL ((i, va_rf x) :: l') → W p l e R s m args below meth c H locs cells slots Q (F0 m (pc + 2) ls' rest)) : W p l e R s m args below meth c H locs cells slots Q (F0 m pc ls (va_rf x :: rest)) := by
  obtain ⟨ls', e', h'⟩ := lr_st1 (v := va_rf x) h hn (va_rf_cat x) ks hk ok
  intro T hT X
  obtain ⟨t, a, b⟩ := kk ls' h' T hT X
  refine ⟨t, ?_, b⟩
  cases x with
  | none =>
    have e' : storeLocals ls i .null = some ls' := e'
    show Steps p.tables e below (T.setTop (F0 m pc ls (.null :: rest))) t
    jvm_step X.here [X.here.top, ↓top_set X.here.top, hexec, hb, hdg, e', Value.isRef]
    exact a
  | some y =>
    have e' : storeLocals ls i (.ref y) = some ls' := e'
    show Steps p.tables e below (T.setTop (F0 m pc ls (.ref y :: rest))) t
    jvm_step X.here [X.here.top, ↓top_set X.here.top, hexec, hb, hdg, e', Value.isRef]
    exact a
theorem lr_iinc (hexec : p.tables.exec = Jvm.exec) (hb : c.code = cc) {i nL k : Nat} {n : Int} {x v : Int32} {lv l' : List (Nat × Value)} (hdg : decode cc pc = .ok (.iinc i n, 3)) (h : lv_has ls nL lv) (hk0 : lv[k]? = some (i, .int x)) (hv : x + Int32.ofInt n = v) (hn : i < nL) (ks : List Nat) (hk : lv_pick lv ks = l') (ok : lr_ok i l')
    (kk : ∀ ls' : Array Slot, lv_has ls' nL ((i, .int v) :: l') → W p l e R s m args below meth c H locs cells slots Q (F0 m (pc + 3) ls' rest)) : W p l e R s m args below meth c H locs cells slots Q (F0 m pc ls rest) := by
  refine lv_iinc hexec hb hdg h hk0 hv hn rfl (fun ls' h' => kk ls' ?_)
  obtain ⟨h1, h2, h3⟩ := h'
  refine ⟨h1, h2, fun q hq => ?_⟩
  rcases List.mem_cons.mp hq with e9 | e9
  · exact h3 q (by rw [e9]; exact List.mem_cons_self)
  · obtain ⟨n1, n2⟩ := lr_ok_mem ok q e9
    refine h3 q (List.mem_cons_of_mem _ (List.mem_filter.mpr ⟨lr_pick_mem hk q e9, ?_⟩))
    by_cases hh : q.1 + 1 = i
    · have := n2 hh
      simp [n1, this]
    · simp [n1, hh]
theorem lr_aload_n (hexec : p.tables.exec = Jvm.exec) (hb : c.code = cc) {k : Fin 4} {i : Nat} {x : Option Nat} (hdg : decode cc pc = .ok (.aload_n k, 1)) (hi : (k : Nat) = i) (hl : ls[i]? = some (.val (va_rf x)))
    (kk : W p l e R s m args below meth c H locs cells slots Q (F0 m (pc + 1) ls (va_rf x :: rest))) : W p l e R s m args below meth c H locs cells slots Q (F0 m pc ls rest) := by
  cases x with
  | none => exact lv_aload_nN hexec hb hdg hi hl kk
  | some y => exact lv_aload_n hexec hb hdg hi hl kk
theorem lr_aload (hexec : p.tables.exec = Jvm.exec) (hb : c.code = cc) {i : Nat} {x : Option Nat} (hdg : decode cc pc = .ok (.aload i, 2)) (hl : ls[i]? = some (.val (va_rf x)))
    (kk : W p l e R s m args below meth c H locs cells slots Q (F0 m (pc + 2) ls (va_rf x :: rest))) : W p l e R s m args below meth c H locs cells slots Q (F0 m pc ls rest) := by
  cases x with
  | none => exact lv_aloadN hexec hb hdg hl kk
  | some y => exact lv_aload hexec hb hdg hl kk
theorem lr_null (hexec : p.tables.exec = Jvm.exec) (hb : c.code = cc) (hdg : decode cc pc = .ok (.aconst_null, 1)) (kk : W p l e R s m args below meth c H locs cells slots Q (F0 m (pc + 1) ls (va_rf none :: rest))) : W p l e R s m args below meth c H locs cells slots Q (F0 m pc ls rest) := lv_null hexec hb hdg kk
theorem lr_ifnull (hexec : p.tables.exec = Jvm.exec) (hb : c.code = cc) {x : Option Nat} {off : Int} {tgt : Nat} (hdg : decode cc pc = .ok (.ifnull off, 3)) (ht : (pc : Int) + off = (tgt : Int)) (k1 : x = none → W p l e R s m args below meth c H locs cells slots Q (F0 m tgt ls rest)) (k2 : ¬ x = none → W p l e R s m args below meth c H locs cells slots Q (F0 m (pc + 3) ls rest)) : W p l e R s m args below meth c H locs cells slots Q (F0 m pc ls (va_rf x :: rest)) := by
  cases x with
  | none => exact lv_ifnullN hexec hb hdg ht (k1 rfl)
  | some y => exact lv_ifnull hexec hb hdg (k2 (by simp))
theorem lr_ifnonnull (hexec : p.tables.exec = Jvm.exec) (hb : c.code = cc) {x : Option Nat} {off : Int} {tgt : Nat} (hdg : decode cc pc = .ok (.ifnonnull off, 3)) (ht : (pc : Int) + off = (tgt : Int)) (k1 : ¬ x = none → W p l e R s m args below meth c H locs cells slots Q (F0 m tgt ls rest)) (k2 : x = none → W p l e R s m args below meth c H locs cells slots Q (F0 m (pc + 3) ls rest)) : W p l e R s m args below meth c H locs cells slots Q (F0 m pc ls (va_rf x :: rest)) := by
  cases x with
  | none => exact lv_ifnonnullN hexec hb hdg (k2 rfl)
  | some y => exact lv_ifnonnull hexec hb hdg ht (k1 (by simp))
end ZL
