/-! the shapes of the function objects -/
def zb_r0 : ByteArray := .mk #[43, 184, 0, 17, 172]
theorem zb_r0_d : ∀ (j gx : Nat), ([] : List Nat)[j]? = some gx → decode zb_r0 (4 * j) = .ok (.aload_n 0, 1) ∧ decode zb_r0 (4 * j + 1) = .ok (.getfield gx, 3) := by
  intro j gx h
  match j, h with
  | n + 0, h => simp at h
theorem zb_r0_l : decode zb_r0 (4 * ([] : List Nat).length) = .ok (.aload_n 1, 1) := by decide +kernel
theorem zb_r0_c : decode zb_r0 (4 * ([] : List Nat).length + 1) = .ok (.invokestatic 17, 3) := by decide +kernel
theorem zb_r0_r : decode zb_r0 (4 * ([] : List Nat).length + 4) = .ok (.ireturn, 1) := by decide +kernel
def zb_r1 : ByteArray := .mk #[42, 180, 0, 15, 43, 184, 0, 23, 172]
theorem zb_r1_d : ∀ (j gx : Nat), ([15] : List Nat)[j]? = some gx → decode zb_r1 (4 * j) = .ok (.aload_n 0, 1) ∧ decode zb_r1 (4 * j + 1) = .ok (.getfield gx, 3) := by
  intro j gx h
  match j, h with
  | 0, h => cases h; exact ⟨by decide +kernel, by decide +kernel⟩
  | n + 1, h => simp at h
theorem zb_r1_l : decode zb_r1 (4 * ([15] : List Nat).length) = .ok (.aload_n 1, 1) := by decide +kernel
theorem zb_r1_c : decode zb_r1 (4 * ([15] : List Nat).length + 1) = .ok (.invokestatic 23, 3) := by decide +kernel
theorem zb_r1_r : decode zb_r1 (4 * ([15] : List Nat).length + 4) = .ok (.ireturn, 1) := by decide +kernel
def zb_i1 : ByteArray := .mk #[42, 180, 0, 15, 27, 184, 0, 23, 172]
theorem zb_i1_d : ∀ (j gx : Nat), ([15] : List Nat)[j]? = some gx → decode zb_i1 (4 * j) = .ok (.aload_n 0, 1) ∧ decode zb_i1 (4 * j + 1) = .ok (.getfield gx, 3) := by
  intro j gx h
  match j, h with
  | 0, h => cases h; exact ⟨by decide +kernel, by decide +kernel⟩
  | n + 1, h => simp at h
theorem zb_i1_l : decode zb_i1 (4 * ([15] : List Nat).length) = .ok (.iload_n 1, 1) := by decide +kernel
theorem zb_i1_c : decode zb_i1 (4 * ([15] : List Nat).length + 1) = .ok (.invokestatic 23, 3) := by decide +kernel
theorem zb_i1_r : decode zb_i1 (4 * ([15] : List Nat).length + 4) = .ok (.ireturn, 1) := by decide +kernel
def zb_r2 : ByteArray := .mk #[42, 180, 0, 16, 42, 180, 0, 18, 43, 184, 0, 26, 172]
theorem zb_r2_d : ∀ (j gx : Nat), ([16, 18] : List Nat)[j]? = some gx → decode zb_r2 (4 * j) = .ok (.aload_n 0, 1) ∧ decode zb_r2 (4 * j + 1) = .ok (.getfield gx, 3) := by
  intro j gx h
  match j, h with
  | 0, h => cases h; exact ⟨by decide +kernel, by decide +kernel⟩
  | 1, h => cases h; exact ⟨by decide +kernel, by decide +kernel⟩
  | n + 2, h => simp at h
theorem zb_r2_l : decode zb_r2 (4 * ([16, 18] : List Nat).length) = .ok (.aload_n 1, 1) := by decide +kernel
theorem zb_r2_c : decode zb_r2 (4 * ([16, 18] : List Nat).length + 1) = .ok (.invokestatic 26, 3) := by decide +kernel
theorem zb_r2_r : decode zb_r2 (4 * ([16, 18] : List Nat).length + 4) = .ok (.ireturn, 1) := by decide +kernel
def zb_s2 : ByteArray := .mk #[42, 180, 0, 17, 42, 180, 0, 19, 43, 184, 0, 27, 172]
theorem zb_s2_d : ∀ (j gx : Nat), ([17, 19] : List Nat)[j]? = some gx → decode zb_s2 (4 * j) = .ok (.aload_n 0, 1) ∧ decode zb_s2 (4 * j + 1) = .ok (.getfield gx, 3) := by
  intro j gx h
  match j, h with
  | 0, h => cases h; exact ⟨by decide +kernel, by decide +kernel⟩
  | 1, h => cases h; exact ⟨by decide +kernel, by decide +kernel⟩
  | n + 2, h => simp at h
theorem zb_s2_l : decode zb_s2 (4 * ([17, 19] : List Nat).length) = .ok (.aload_n 1, 1) := by decide +kernel
theorem zb_s2_c : decode zb_s2 (4 * ([17, 19] : List Nat).length + 1) = .ok (.invokestatic 27, 3) := by decide +kernel
theorem zb_s2_r : decode zb_s2 (4 * ([17, 19] : List Nat).length + 4) = .ok (.ireturn, 1) := by decide +kernel
def zb_r3 : ByteArray := .mk #[42, 180, 0, 18, 42, 180, 0, 20, 42, 180, 0, 22, 43, 184, 0, 30, 172]
theorem zb_r3_d : ∀ (j gx : Nat), ([18, 20, 22] : List Nat)[j]? = some gx → decode zb_r3 (4 * j) = .ok (.aload_n 0, 1) ∧ decode zb_r3 (4 * j + 1) = .ok (.getfield gx, 3) := by
  intro j gx h
  match j, h with
  | 0, h => cases h; exact ⟨by decide +kernel, by decide +kernel⟩
  | 1, h => cases h; exact ⟨by decide +kernel, by decide +kernel⟩
  | 2, h => cases h; exact ⟨by decide +kernel, by decide +kernel⟩
  | n + 3, h => simp at h
theorem zb_r3_l : decode zb_r3 (4 * ([18, 20, 22] : List Nat).length) = .ok (.aload_n 1, 1) := by decide +kernel
theorem zb_r3_c : decode zb_r3 (4 * ([18, 20, 22] : List Nat).length + 1) = .ok (.invokestatic 30, 3) := by decide +kernel
theorem zb_r3_r : decode zb_r3 (4 * ([18, 20, 22] : List Nat).length + 4) = .ok (.ireturn, 1) := by decide +kernel
theorem zk_ok0 : zl_ok zm_sh0 "BoxSpans" zb_r1 [15] 23 19 = true := by decide +kernel
theorem zk_ok1 : zl_ok zm_sh1 "BoxSpans" zb_r3 [18, 20, 22] 30 26 = true := by decide +kernel
theorem zk_ok2 : zl_ok zm_sh2 "BoxSpans" zb_r1 [15] 23 19 = true := by decide +kernel
theorem zk_ok3 : zl_ok zm_sh3 "BoxSpans" zb_r2 [16, 18] 26 22 = true := by decide +kernel
theorem zk_ok4 : zl_ok zm_sh4 "BoxSpans" zb_r2 [16, 18] 26 22 = true := by decide +kernel
theorem zk_ok5 : zl_ok zm_sh5 "BoxSpans" zb_r2 [16, 18] 26 22 = true := by decide +kernel
theorem zk_ok6 : zl_ok zm_sh6 "BoxSpans" zb_s2 [17, 19] 27 23 = true := by decide +kernel
theorem zk_ok7 : zl_ok zm_sh7 "BoxSpans" zb_r1 [15] 23 19 = true := by decide +kernel
theorem zk_ok8 : zl_ok zm_sh8 "BoxSpans" zb_r0 [] 17 14 = true := by decide +kernel
theorem zk_ok9 : zl_ok zm_sh9 "BoxSpans$Theatre" zb_i1 [15] 23 19 = true := by decide +kernel
theorem zk_ok10 : zl_ok zm_sh10 "BoxSpans$Theatre" zb_i1 [15] 23 19 = true := by decide +kernel
theorem zk_ok11 : zl_ok zm_sh11 "BoxSpans" zb_i1 [15] 23 19 = true := by decide +kernel
theorem zk_ok12 : zl_ok zm_sh12 "BoxSpans$Reader" zb_r3 [18, 20, 22] 30 26 = true := by decide +kernel
theorem zk_ok13 : zl_ok zm_sh13 "BoxSpans$Reader" zb_r3 [18, 20, 22] 30 26 = true := by decide +kernel
theorem zk_ok14 : zl_ok zm_sh14 "BoxSpans$Reader" zb_r1 [15] 23 19 = true := by decide +kernel
theorem zk_ok15 : zl_ok zm_sh15 "BoxSpans$Reader" zb_r1 [15] 23 19 = true := by decide +kernel
theorem zk_ok16 : zl_ok zm_sh16 "BoxSpans$Reader" zb_r2 [16, 18] 26 22 = true := by decide +kernel
theorem zk_ok17 : zl_ok zm_sh17 "BoxSpans$Reader" zb_r3 [18, 20, 22] 30 26 = true := by decide +kernel
theorem zk_ok18 : zl_ok zm_sh18 "BoxSpans$Reader" zb_r1 [15] 23 19 = true := by decide +kernel
theorem zk_ok19 : zl_ok zm_sh19 "BoxSpans$Reader" zb_r2 [16, 18] 26 22 = true := by decide +kernel
theorem zk_ok20 : zl_ok zm_sh20 "BoxSpans$Reader" zb_s2 [17, 19] 27 23 = true := by decide +kernel
theorem zk_ok21 : zl_ok zm_sh21 "BoxSpans$Reader" zb_s2 [17, 19] 27 23 = true := by decide +kernel
theorem zk_ok22 : zl_ok zm_sh22 "BoxSpans$Reader" zb_r1 [15] 23 19 = true := by decide +kernel
theorem zk_ok23 : zl_ok zm_sh23 "BoxSpans$Reader" zb_r1 [15] 23 19 = true := by decide +kernel
theorem zk_ok24 : zl_ok zm_sh24 "BoxSpans$Reader" zb_r0 [] 17 14 = true := by decide +kernel
theorem zk_ok25 : zl_ok zm_sh25 "BoxSpans$Reader" zb_r0 [] 17 14 = true := by decide +kernel
theorem zk_ok26 : zl_ok zm_sh26 "BoxSpans" zb_i1 [15] 23 19 = true := by decide +kernel
def zv_I (v : Value) : Int32 := match v with
  | .int x => x
  | _ => 0
def zv_R (v : Value) : zm_R := match v with
  | .ref a => some a
  | _ => none
def zv_at (vs : List Value) (i : Nat) : Value := vs[i]?.getD .null
def zv_ok : List Bool → List Value → Bool
  | [], [] => true
  | true :: ts, .int _ :: vs => zv_ok ts vs
  | false :: ts, .ref _ :: vs => zv_ok ts vs
  | false :: ts, .null :: vs => zv_ok ts vs
  | _, _ => false
theorem zv_nil {vs : List Value} (h : zv_ok [] vs = true) : vs = [] := by
  cases vs with
  | nil => rfl
  | cons v vs => cases h
theorem zv_consI {ts : List Bool} {vs : List Value} (h : zv_ok (true :: ts) vs = true) : ∃ x ws, vs = .int x :: ws ∧ zv_ok ts ws = true := by
  cases vs with
  | nil => cases h
  | cons v vs => cases v with
    | int x => exact ⟨x, vs, rfl, h⟩
    | _ => cases h
theorem zv_consR {ts : List Bool} {vs : List Value} (h : zv_ok (false :: ts) vs = true) : ∃ x ws, vs = va_rf x :: ws ∧ zv_ok ts ws = true := by
  cases vs with
  | nil => cases h
  | cons v vs => cases v with
    | ref x => exact ⟨some x, vs, rfl, h⟩
    | null => exact ⟨none, vs, rfl, h⟩
    | _ => cases h
theorem zv_len : ∀ (ts : List Bool) (vs : List Value), zv_ok ts vs = true → vs.length = ts.length
  | [], vs, h => by rw [zv_nil h]; rfl
  | true :: ts, vs, h => by
    obtain ⟨x, ws, rfl, h2⟩ := zv_consI h
    simp [zv_len ts ws h2]
  | false :: ts, vs, h => by
    obtain ⟨x, ws, rfl, h2⟩ := zv_consR h
    simp [zv_len ts ws h2]
theorem zv_R_rf (r : zm_R) : zv_R (va_rf r) = r := by cases r <;> rfl
/-- the captured values of the function object at r, of class ci -/
def zm_cap0 (r : zm_R) (ci : Nat) (ts : List Bool) : zm_F (List Value) := fun σ => (zm_obj r ci σ).bind fun q => if zv_ok ts q.2 = true then some (.inl q.2, σ) else none
theorem zm_cap_some {r : zm_R} {ci : Nat} {ts : List Bool} {σ υ : zm_S} {o : List Value ⊕ zm_X} (h : zm_cap0 r ci ts σ = some (o, υ)) : υ = σ ∧ ∃ a vs, r = some a ∧ σ.2.2 a = some (.inr (ci, vs)) ∧ zv_ok ts vs = true ∧ o = .inl vs := by
  simp only [zm_cap0, Option.bind_eq_some_iff] at h
  obtain ⟨q, h1, h2⟩ := h
  obtain ⟨rfl, e2⟩ := zm_obj_some h1
  split at h2
  · rename_i hc
    simp only [Option.some.injEq, Prod.mk.injEq] at h2
    exact ⟨h2.2.symm, q.1, q.2, rfl, e2, hc, h2.1.symm⟩
  · cases h2
theorem zm_cap_st (r : zm_R) (ci : Nat) (ts : List Bool) : zm_st (zm_cap0 r ci ts) := by
  intro σ o υ h
  obtain ⟨rfl, a, vs, -, -, -, rfl⟩ := zm_cap_some h
  exact ⟨zm_le.refl _, _, rfl⟩
def zm_cap (r : zm_R) (ci : Nat) (ts : List Bool) : zm_M (List Value) := ⟨zm_cap0 r ci ts, (zm_cap_st r ci ts).mo⟩
theorem zl_comp {l : Launch} {Ω : zm_W} {y : MethodName} {ws : List Cond} {F L : Nat} {arg : Value} {r : zm_R} {ci : Nat} {ts : List Bool} {g : List Value → zm_M Int32} {f : Int32 → zm_M Int32} (hct : ∀ vs, zv_ok ts vs = true → zm_Ct l Ω y ws F L (vs ++ [arg]) zm_tvI (g vs)) (σ : zm_S) (o : Int32 ⊕ zm_X) (τ : zm_S) (h : zm_run (zm_bnd (zm_is r ci) fun _ => zm_bnd (zm_cap r ci ts) fun vs => zm_bnd (g vs) f) σ = some (o, τ)) :
    ∃ (a : Nat) (vals : List Value) (z : zm_M Int32), r = some a ∧ σ.2.2 a = some (.inr (ci, vals)) ∧ vals.length = ts.length ∧ zm_run (zm_bnd z f) σ = some (o, τ) ∧ zm_Ct l Ω y ws F L (vals ++ [arg]) zm_tvI z := by
  obtain ⟨a, fs, rfl, h8, h9⟩ := zm_is_run h
  obtain ⟨vs, υ, h1, h2⟩ := zm_bnd_some (x := zm_cap (some a) ci ts) (zm_cap_st _ _ _) h9
  obtain ⟨rfl, a', vs', q1, q2, q3, q4⟩ := zm_cap_some h1
  cases q1
  cases q4
  exact ⟨a, vs, g vs, rfl, q2, zv_len ts vs q3, h2, hct vs q3⟩
def zl_retZ (v : Int32) : zm_M Int32 := zm_bnd (zm_grd (v = 0 ∨ v = 1)) fun _ => zm_ret v
theorem zl_fI : ∀ (v : Int32) (σ : zm_S) (o : Int32 ⊕ zm_X) (τ : zm_S), zm_run (zm_ret v) σ = some (o, τ) → o = .inl v ∧ τ = σ ∧ narrow .int (.int v) = .int v := by
  intro v σ o τ h
  rw [zm_run_ret] at h
  cases h
  exact ⟨rfl, rfl, rfl⟩
theorem zl_fZ : ∀ (v : Int32) (σ : zm_S) (o : Int32 ⊕ zm_X) (τ : zm_S), zm_run (zl_retZ v) σ = some (o, τ) → o = .inl v ∧ τ = σ ∧ narrow .boolean (.int v) = .int v := by
  intro v σ o τ h
  obtain ⟨_, υ, h1, h2⟩ := zm_bnd_some (zm_grd_st _) h
  obtain ⟨hp, rfl⟩ := zm_grd_some h1
  rw [zm_run_ret] at h2
  cases h2
  exact ⟨rfl, rfl, zn_Z hp⟩
theorem zk_nil : ((([] : List FieldType).zip ([] : List Value)).map fun (t, v) => narrow t v) = [] := rfl
theorem zk_cons {t : FieldType} {v : Value} {ts : List FieldType} {vs : List Value} (h : narrow t v = v) (ht : ((ts.zip vs).map fun (t, v) => narrow t v) = vs) : (((t :: ts).zip (v :: vs)).map fun (t, v) => narrow t v) = v :: vs := by
  rw [List.zip_cons_cons, List.map_cons, ht]
  show narrow t v :: vs = _
  rw [h]
theorem zf_nil : ∀ (j : Nat) (t : FieldType) (v : Value), ([] : List FieldType)[j]? = some t → ([] : List Value)[j]? = some v → fits t v = true := by
  intro j t v h
  simp at h
theorem zf_cons {t0 : FieldType} {v0 : Value} {ts : List FieldType} {vs : List Value} (h : fits t0 v0 = true) (ht : ∀ (j : Nat) (t : FieldType) (v : Value), ts[j]? = some t → vs[j]? = some v → fits t v = true) : ∀ (j : Nat) (t : FieldType) (v : Value), (t0 :: ts)[j]? = some t → (v0 :: vs)[j]? = some v → fits t v = true := by
  intro j t v h1 h2
  cases j with
  | zero =>
    cases h1
    cases h2
    exact h
  | succ j => exact ht j t v (by simpa using h1) (by simpa using h2)
theorem zh_O {Ω : zm_W} {K : zm_K} (H : zm_H Ω K) : (Cond.instantiable "java/lang/Object" 0).before #[] Ω.1 = true := by
  obtain ⟨a0, h0⟩ := H.2.2.2.1
  exact va_Nw.of rfl (h0 _ (List.mem_filter.mp q3145).1)
