/-! the law -/
section
variable {p : Program} {l : Launch} {e : Env} {R : Room} {s : State} {m : MethodId} {args : Array Value} {below : List Frame} {meth : Method} {c : Code} {Ω : zm_W} {K : zm_K} {n0 k0 : Nat}
/-- the law's end: a value; what is thrown out of it is not looked at (it never is) -/
def zm_QL (below : List Frame) (args : Array Value) (s : State) (Ω : zm_W) (n0 k0 : Nat) : (Int32 ⊕ zm_X) → zm_S → State → Prop := fun o τ => match o with
  | .inl v => zm_QFs below args s Ω n0 k0 zm_tvI (.inl v) τ
  | .inr _ => fun _ => True
theorem rf_iretL {v : Int32} {ty : FieldType} {nL FF LL : Nat} {cc : ByteArray} {own nm : String} {pc : Nat} {ls : Array Slot} {Ts : List Cond} (C : zm_C p l R s m args meth c Ω Ts cc own nm nL FF LL (some ty)) (hn : narrow ty (.int v) = .int v) (hdg : decode cc pc = .ok (.ireturn, 1)) : zm_RF p l e R s m args below meth c Ω n0 k0 (zm_QL below args s Ω n0 k0) (zm_ret v) (F0 m pc ls [.int v]) := by
  intro σ o τ H locs h1 h2 h3 h4 h5 h6 h7
  have h := rf_iret (below := below) (e := e) (n0 := n0) (k0 := k0) (ls := ls) C hn hdg σ o τ H locs h1 h2 h3 h4 h5 h6 h7
  rw [zm_run_ret] at h1
  cases h1
  exact h
theorem zm_XL : zm_XO p l e R s m args below meth c Ω n0 k0 (zm_QL below args s Ω n0 k0) := by
  intro pc ls rest E q σ o τ H locs ce h1 h2 h3 h4 h5 h6 h7 h8 h9 h10
  rw [zm_run_thr] at h1
  cases h1
  intro T hT X
  exact ⟨_, Steps.refl _, trivial⟩
noncomputable def fn_L_law_28 (K : zm_K) (p0 : zm_R) (p1 : zm_R) (p2 : zm_R) (p3 : zm_R) (p4 : zm_R) : Nat → Int32 → zm_M ((Unit) ⊕ (Int32))
  | 0, _ => zm_fl
  | n + 1, x5 =>
    zm_bnd (zm_alen p0) fun v31 =>
    if (v31 - 5) < x5 then
      zm_ret (Sum.inl ())
    else
      zm_bnd (zm_aldI .int p0 x5) fun v40 =>
      zm_bnx (β := Unit) (
          if (v40 &&& 63) = 0 then
            zm_bnd (zm_aldI .int p0 (x5 + 1)) fun v218 =>
            zm_bnd (fn_X0_box K p1 v218 p3) fun v220 =>
            zm_bnd (zm_aldI .int p0 (x5 + 1)) fun v231 =>
            zm_bnd (zm_bnd (zm_is p2 20) fun _ => fn_X3_box K p2 v231) fun v232 =>
            zm_bnd (zm_bnd (zm_is p2 20) fun _ => fn_X3_thrown K p2) fun v238 =>
            if v238 = v220 then
              if v220 = 0 then
                zm_bnd (zm_aldJ p3 0) fun v255 =>
                if (lg_cmp v255 ((v232).toInt64)) = 0 then
                  zm_ret (Sum.inl ())
                else
                  zm_ret (Sum.inr (Sum.inr 0))
              else
                zm_ret (Sum.inl ())
            else
              zm_ret (Sum.inr (Sum.inr 0))
          else
            if (v40 &&& 63) = 1 then
              zm_bnd (zm_aldI .int p0 (x5 + 1)) fun v274 =>
              zm_bnd (zm_aldI .int p0 (x5 + 2)) fun v280 =>
              zm_bnd (zm_aldI .int p0 (x5 + 3)) fun v286 =>
              zm_bnd (zm_aldI .int p0 (x5 + 4)) fun v292 =>
              zm_bnd (fn_X0_let K p1 v274 v280 v286 v292 p3) fun v294 =>
              zm_bnd (zm_aldI .int p0 (x5 + 1)) fun v305 =>
              zm_bnd (zm_aldI .int p0 (x5 + 2)) fun v311 =>
              zm_bnd (zm_aldI .int p0 (x5 + 3)) fun v317 =>
              zm_bnd (zm_aldI .int p0 (x5 + 4)) fun v323 =>
              zm_bnd (zm_bnd (zm_is p2 20) fun _ => fn_X3_let K p2 v305 v311 v317 v323) fun v324 =>
              zm_bnd (zm_bnd (zm_is p2 20) fun _ => fn_X3_thrown K p2) fun v330 =>
              if v330 = v294 then
                if v294 = 0 then
                  zm_bnd (zm_aldJ p3 0) fun v347 =>
                  if (lg_cmp v347 ((v324).toInt64)) = 0 then
                    zm_ret (Sum.inl ())
                  else
                    zm_ret (Sum.inr (Sum.inr 0))
                else
                  zm_ret (Sum.inl ())
              else
                zm_ret (Sum.inr (Sum.inr 0))
            else
              if (v40 &&& 63) = 2 then
                zm_bnd (zm_aldI .int p0 (x5 + 1)) fun v366 =>
                zm_bnd (fn_X0_cancel K p1 v366 p3) fun v368 =>
                zm_bnd (zm_aldI .int p0 (x5 + 1)) fun v379 =>
                zm_bnd (zm_bnd (zm_is p2 20) fun _ => fn_X3_cancel K p2 v379) fun v380 =>
                zm_bnd (zm_bnd (zm_is p2 20) fun _ => fn_X3_thrown K p2) fun v386 =>
                if v386 = v368 then
                  if v368 = 0 then
                    zm_bnd (zm_aldJ p3 0) fun v403 =>
                    if (lg_cmp v403 ((v380).toInt64)) = 0 then
                      zm_ret (Sum.inl ())
                    else
                      zm_ret (Sum.inr (Sum.inr 0))
                  else
                    zm_ret (Sum.inl ())
                else
                  zm_ret (Sum.inr (Sum.inr 0))
              else
                if (v40 &&& 63) = 3 then
                  zm_bnd (zm_aldI .int p0 (x5 + 1)) fun v422 =>
                  zm_bnd (zm_aldI .int p0 (x5 + 2)) fun v428 =>
                  zm_bnd (fn_X0_move K p1 v422 v428 p3) fun v430 =>
                  zm_bnd (zm_aldI .int p0 (x5 + 1)) fun v441 =>
                  zm_bnd (zm_aldI .int p0 (x5 + 2)) fun v447 =>
                  zm_bnd (zm_bnd (zm_is p2 20) fun _ => fn_X3_move K p2 v441 v447) fun v448 =>
                  zm_bnd (zm_bnd (zm_is p2 20) fun _ => fn_X3_thrown K p2) fun v454 =>
                  if v454 = v430 then
                    if v430 = 0 then
                      zm_bnd (zm_aldJ p3 0) fun v471 =>
                      if (lg_cmp v471 ((v448).toInt64)) = 0 then
                        zm_ret (Sum.inl ())
                      else
                        zm_ret (Sum.inr (Sum.inr 0))
                    else
                      zm_ret (Sum.inl ())
                  else
                    zm_ret (Sum.inr (Sum.inr 0))
                else
                  if (v40 &&& 63) = 4 then
                    zm_bnd (zm_aldI .int p0 (x5 + 1)) fun v490 =>
                    zm_bnd (zm_aldI .int p0 (x5 + 2)) fun v496 =>
                    zm_bnd (fn_X0_split K p1 v490 v496 p3) fun v498 =>
                    zm_bnd (zm_aldI .int p0 (x5 + 1)) fun v509 =>
                    zm_bnd (zm_aldI .int p0 (x5 + 2)) fun v515 =>
                    zm_bnd (zm_bnd (zm_is p2 20) fun _ => fn_X3_split K p2 v509 v515) fun v516 =>
                    zm_bnd (zm_bnd (zm_is p2 20) fun _ => fn_X3_thrown K p2) fun v522 =>
                    if v522 = v498 then
                      if v498 = 0 then
                        zm_bnd (zm_aldJ p3 0) fun v539 =>
                        if (lg_cmp v539 ((v516).toInt64)) = 0 then
                          zm_ret (Sum.inl ())
                        else
                          zm_ret (Sum.inr (Sum.inr 0))
                      else
                        zm_ret (Sum.inl ())
                    else
                      zm_ret (Sum.inr (Sum.inr 0))
                  else
                    if (v40 &&& 63) = 5 then
                      zm_bnd (zm_aldI .int p0 (x5 + 1)) fun v558 =>
                      zm_bnd (zm_aldI .int p0 (x5 + 2)) fun v564 =>
                      zm_bnd (fn_X0_join K p1 v558 v564 p3) fun v566 =>
                      zm_bnd (zm_aldI .int p0 (x5 + 1)) fun v577 =>
                      zm_bnd (zm_aldI .int p0 (x5 + 2)) fun v583 =>
                      zm_bnd (zm_bnd (zm_is p2 20) fun _ => fn_X3_join K p2 v577 v583) fun v584 =>
                      zm_bnd (zm_bnd (zm_is p2 20) fun _ => fn_X3_thrown K p2) fun v590 =>
                      if v590 = v566 then
                        if v566 = 0 then
                          zm_bnd (zm_aldJ p3 0) fun v607 =>
                          if (lg_cmp v607 ((v584).toInt64)) = 0 then
                            zm_ret (Sum.inl ())
                          else
                            zm_ret (Sum.inr (Sum.inr 0))
                        else
                          zm_ret (Sum.inl ())
                      else
                        zm_ret (Sum.inr (Sum.inr 0))
                    else
                      if (v40 &&& 63) = 6 then
                        zm_bnd (zm_aldI .int p0 (x5 + 1)) fun v626 =>
                        zm_bnd (zm_aldI .int p0 (x5 + 2)) fun v632 =>
                        zm_bnd (fn_X0_lettingOf K p1 v626 v632 p3) fun v634 =>
                        zm_bnd (zm_aldI .int p0 (x5 + 1)) fun v645 =>
                        zm_bnd (zm_aldI .int p0 (x5 + 2)) fun v651 =>
                        zm_bnd (zm_bnd (zm_is p2 20) fun _ => fn_X3_lettingOf K p2 v645 v651) fun v652 =>
                        zm_bnd (zm_bnd (zm_is p2 20) fun _ => fn_X3_thrown K p2) fun v658 =>
                        if v658 = v634 then
                          if v634 = 0 then
                            zm_bnd (zm_aldJ p3 0) fun v675 =>
                            if (lg_cmp v675 ((v652).toInt64)) = 0 then
                              zm_ret (Sum.inl ())
                            else
                              zm_ret (Sum.inr (Sum.inr 0))
                          else
                            zm_ret (Sum.inl ())
                        else
                          zm_ret (Sum.inr (Sum.inr 0))
                      else
                        if (v40 &&& 63) = 7 then
                          zm_bnd (zm_aldI .int p0 (x5 + 1)) fun v694 =>
                          zm_bnd (zm_aldI .int p0 (x5 + 2)) fun v700 =>
                          zm_bnd (fn_X0_at K p1 v694 v700 p3) fun v702 =>
                          zm_bnd (zm_aldI .int p0 (x5 + 1)) fun v713 =>
                          zm_bnd (zm_aldI .int p0 (x5 + 2)) fun v719 =>
                          zm_bnd (zm_bnd (zm_is p2 20) fun _ => fn_X3_at K p2 v713 v719) fun v720 =>
                          zm_bnd (zm_bnd (zm_is p2 20) fun _ => fn_X3_thrown K p2) fun v726 =>
                          if v726 = v702 then
                            if v702 = 0 then
                              zm_bnd (zm_aldJ p3 0) fun v743 =>
                              if (lg_cmp v743 ((v720).toInt64)) = 0 then
                                zm_ret (Sum.inl ())
                              else
                                zm_ret (Sum.inr (Sum.inr 0))
                            else
                              zm_ret (Sum.inl ())
                          else
                            zm_ret (Sum.inr (Sum.inr 0))
                        else
                          if (v40 &&& 63) = 8 then
                            zm_bnd (zm_aldI .int p0 (x5 + 1)) fun v762 =>
                            zm_bnd (zm_aldI .int p0 (x5 + 2)) fun v768 =>
                            zm_bnd (zm_aldI .int p0 (x5 + 3)) fun v774 =>
                            zm_bnd (fn_X0_wish K p1 v762 v768 v774 p3) fun v776 =>
                            zm_bnd (zm_aldI .int p0 (x5 + 1)) fun v787 =>
                            zm_bnd (zm_aldI .int p0 (x5 + 2)) fun v793 =>
                            zm_bnd (zm_aldI .int p0 (x5 + 3)) fun v799 =>
                            zm_bnd (zm_bnd (zm_is p2 20) fun _ => fn_X3_wish K p2 v787 v793 v799) fun v800 =>
                            zm_bnd (zm_bnd (zm_is p2 20) fun _ => fn_X3_thrown K p2) fun v806 =>
                            if v806 = v776 then
                              if v776 = 0 then
                                zm_bnd (zm_aldJ p3 0) fun v823 =>
                                if (lg_cmp v823 ((v800).toInt64)) = 0 then
                                  zm_ret (Sum.inl ())
                                else
                                  zm_ret (Sum.inr (Sum.inr 0))
                              else
                                zm_ret (Sum.inl ())
                            else
                              zm_ret (Sum.inr (Sum.inr 0))
                          else
                            if (v40 &&& 63) = 9 then
                              zm_bnd (zm_aldI .int p0 (x5 + 1)) fun v842 =>
                              zm_bnd (fn_X0_drop K p1 v842 p3) fun v844 =>
                              zm_bnd (zm_aldI .int p0 (x5 + 1)) fun v855 =>
                              zm_bnd (zm_bnd (zm_is p2 20) fun _ => fn_X3_drop K p2 v855) fun v856 =>
                              zm_bnd (zm_bnd (zm_is p2 20) fun _ => fn_X3_thrown K p2) fun v862 =>
                              if v862 = v844 then
                                if v844 = 0 then
                                  zm_bnd (zm_aldJ p3 0) fun v879 =>
                                  if (lg_cmp v879 ((v856).toInt64)) = 0 then
                                    zm_ret (Sum.inl ())
                                  else
                                    zm_ret (Sum.inr (Sum.inr 0))
                                else
                                  zm_ret (Sum.inl ())
                              else
                                zm_ret (Sum.inr (Sum.inr 0))
                            else
                              if (v40 &&& 63) = 10 then
                                zm_bnd (zm_aldI .int p0 (x5 + 1)) fun v898 =>
                                zm_bnd (zm_aldI .int p0 (x5 + 2)) fun v904 =>
                                zm_bnd (fn_X0_wishOf K p1 v898 v904 p3) fun v906 =>
                                zm_bnd (zm_aldI .int p0 (x5 + 1)) fun v917 =>
                                zm_bnd (zm_aldI .int p0 (x5 + 2)) fun v923 =>
                                zm_bnd (zm_bnd (zm_is p2 20) fun _ => fn_X3_wishOf K p2 v917 v923) fun v924 =>
                                zm_bnd (zm_bnd (zm_is p2 20) fun _ => fn_X3_thrown K p2) fun v930 =>
                                if v930 = v906 then
                                  if v906 = 0 then
                                    zm_bnd (zm_aldJ p3 0) fun v947 =>
                                    if (lg_cmp v947 ((v924).toInt64)) = 0 then
                                      zm_ret (Sum.inl ())
                                    else
                                      zm_ret (Sum.inr (Sum.inr 0))
                                  else
                                    zm_ret (Sum.inl ())
                                else
                                  zm_ret (Sum.inr (Sum.inr 0))
                              else
                                if (v40 &&& 63) = 11 then
                                  zm_bnd (zm_aldI .int p0 (x5 + 1)) fun v966 =>
                                  zm_bnd (fn_X0_over K p1 v966 p3) fun v968 =>
                                  zm_bnd (zm_aldI .int p0 (x5 + 1)) fun v979 =>
                                  zm_bnd (zm_bnd (zm_is p2 20) fun _ => fn_X3_over K p2 v979) fun v980 =>
                                  zm_bnd (zm_bnd (zm_is p2 20) fun _ => fn_X3_thrown K p2) fun v986 =>
                                  if v986 = v968 then
                                    if v968 = 0 then
                                      zm_bnd (zm_aldJ p3 0) fun v1003 =>
                                      if (lg_cmp v1003 ((v980).toInt64)) = 0 then
                                        zm_ret (Sum.inl ())
                                      else
                                        zm_ret (Sum.inr (Sum.inr 0))
                                    else
                                      zm_ret (Sum.inl ())
                                  else
                                    zm_ret (Sum.inr (Sum.inr 0))
                                else
                                  if (v40 &&& 63) = 12 then
                                    zm_bnd (zm_aldI .int p0 (x5 + 1)) fun v1022 =>
                                    zm_bnd (fn_X0_overAgain K p1 v1022 p3) fun v1024 =>
                                    zm_bnd (zm_aldI .int p0 (x5 + 1)) fun v1035 =>
                                    zm_bnd (zm_bnd (zm_is p2 20) fun _ => fn_X3_overAgain K p2 v1035) fun v1036 =>
                                    zm_bnd (zm_bnd (zm_is p2 20) fun _ => fn_X3_thrown K p2) fun v1042 =>
                                    if v1042 = v1024 then
                                      if v1024 = 0 then
                                        zm_bnd (zm_aldJ p3 0) fun v1059 =>
                                        if (lg_cmp v1059 ((v1036).toInt64)) = 0 then
                                          zm_ret (Sum.inl ())
                                        else
                                          zm_ret (Sum.inr (Sum.inr 0))
                                      else
                                        zm_ret (Sum.inl ())
                                    else
                                      zm_ret (Sum.inr (Sum.inr 0))
                                  else
                                    if (v40 &&& 63) = 13 then
                                      zm_bnd (fn_X0_busiest K p1 p3) fun v1074 =>
                                      zm_bnd (zm_bnd (zm_is p2 20) fun _ => fn_X3_busiest K p2) fun v1080 =>
                                      zm_bnd (zm_bnd (zm_is p2 20) fun _ => fn_X3_thrown K p2) fun v1086 =>
                                      if v1086 = v1074 then
                                        if v1074 = 0 then
                                          zm_bnd (zm_aldJ p3 0) fun v1103 =>
                                          if (lg_cmp v1103 ((v1080).toInt64)) = 0 then
                                            zm_ret (Sum.inl ())
                                          else
                                            zm_ret (Sum.inr (Sum.inr 0))
                                        else
                                          zm_ret (Sum.inl ())
                                      else
                                        zm_ret (Sum.inr (Sum.inr 0))
                                    else
                                      if (v40 &&& 63) = 14 then
                                        zm_bnd (zm_bnd (zm_is p1 18) fun _ => fn_X1_needs K p1) fun v1117 =>
                                        zm_bnd (zm_bnd (zm_is p2 20) fun _ => fn_X3_needs K p2) fun v1121 =>
                                        if v1117 = v1121 then
                                          zm_ret (Sum.inl ())
                                        else
                                          zm_ret (Sum.inr (Sum.inr 0))
                                      else
                                        if (v40 &&& 63) = 15 then
                                          zm_bnd (zm_bnd (zm_is p1 18) fun _ => fn_X1_needsAgain K p1) fun v1130 =>
                                          zm_bnd (zm_bnd (zm_is p2 20) fun _ => fn_X3_needsAgain K p2) fun v1134 =>
                                          if v1130 = v1134 then
                                            zm_ret (Sum.inl ())
                                          else
                                            zm_ret (Sum.inr (Sum.inr 0))
                                        else
                                          if (v40 &&& 63) = 16 then
                                            zm_bnd (fn_X0_allot K p1 p3) fun v1144 =>
                                            zm_bnd (zm_bnd (zm_is p2 20) fun _ => fn_X3_allot K p2) fun v1150 =>
                                            zm_bnd (zm_bnd (zm_is p2 20) fun _ => fn_X3_thrown K p2) fun v1156 =>
                                            if v1156 = v1144 then
                                              if v1144 = 0 then
                                                zm_bnd (zm_aldJ p3 0) fun v1173 =>
                                                if (lg_cmp v1173 ((v1150).toInt64)) = 0 then
                                                  zm_ret (Sum.inl ())
                                                else
                                                  zm_ret (Sum.inr (Sum.inr 0))
                                              else
                                                zm_ret (Sum.inl ())
                                            else
                                              zm_ret (Sum.inr (Sum.inr 0))
                                          else
                                            if (v40 &&& 63) = 17 then
                                              zm_bnd (zm_aldI .int p0 (x5 + 1)) fun v1192 =>
                                              zm_bnd (zm_aldI .int p0 (x5 + 2)) fun v1198 =>
                                              zm_bnd (fn_X0_boxOf K p1 v1192 v1198 p3) fun v1200 =>
                                              zm_bnd (zm_aldI .int p0 (x5 + 1)) fun v1211 =>
                                              zm_bnd (zm_aldI .int p0 (x5 + 2)) fun v1217 =>
                                              zm_bnd (zm_bnd (zm_is p2 20) fun _ => fn_X3_boxOf K p2 v1211 v1217) fun v1218 =>
                                              zm_bnd (zm_bnd (zm_is p2 20) fun _ => fn_X3_thrown K p2) fun v1224 =>
                                              if v1224 = v1200 then
                                                if v1200 = 0 then
                                                  zm_bnd (zm_aldJ p3 0) fun v1241 =>
                                                  if (lg_cmp v1241 ((v1218).toInt64)) = 0 then
                                                    zm_ret (Sum.inl ())
                                                  else
                                                    zm_ret (Sum.inr (Sum.inr 0))
                                                else
                                                  zm_ret (Sum.inl ())
                                              else
                                                zm_ret (Sum.inr (Sum.inr 0))
                                            else
                                              if (v40 &&& 63) = 18 then
                                                zm_bnd (zm_aldI .int p0 (x5 + 1)) fun v1260 =>
                                                zm_bnd (zm_aldI .int p0 (x5 + 2)) fun v1266 =>
                                                zm_bnd (zm_aldI .int p0 (x5 + 3)) fun v1272 =>
                                                zm_bnd (α := Int32) (
                                                    if v1272 = 0 then
                                                      zm_ret 0
                                                    else
                                                      zm_ret 1
                                                  ) fun b1281 =>
                                                zm_bnd (fn_X0_span K p1 v1260 v1266 b1281 p3) fun v1282 =>
                                                zm_bnd (zm_aldI .int p0 (x5 + 1)) fun v1293 =>
                                                zm_bnd (zm_aldI .int p0 (x5 + 2)) fun v1299 =>
                                                zm_bnd (zm_aldI .int p0 (x5 + 3)) fun v1305 =>
                                                zm_bnd (α := Int32) (
                                                    if v1305 = 0 then
                                                      zm_ret 0
                                                    else
                                                      zm_ret 1
                                                  ) fun b1314 =>
                                                zm_bnd (zm_bnd (zm_is p2 20) fun _ => fn_X3_span K p2 v1293 v1299 b1314) fun v1314 =>
                                                zm_bnd (zm_bnd (zm_is p2 20) fun _ => fn_X3_thrown K p2) fun v1320 =>
                                                if v1320 = v1282 then
                                                  if v1282 = 0 then
                                                    zm_bnd (zm_aldJ p3 0) fun v1337 =>
                                                    if (lg_cmp v1337 ((v1314).toInt64)) = 0 then
                                                      zm_ret (Sum.inl ())
                                                    else
                                                      zm_ret (Sum.inr (Sum.inr 0))
                                                  else
                                                    zm_ret (Sum.inl ())
                                                else
                                                  zm_ret (Sum.inr (Sum.inr 0))
                                              else
                                                if (v40 &&& 63) = 19 then
                                                  zm_bnd (zm_aldI .int p0 (x5 + 1)) fun v1356 =>
                                                  zm_bnd (zm_aldI .int p0 (x5 + 2)) fun v1362 =>
                                                  zm_bnd (zm_aldI .int p0 (x5 + 3)) fun v1368 =>
                                                  zm_bnd (α := Int32) (
                                                      if v1368 = 0 then
                                                        zm_ret 0
                                                      else
                                                        zm_ret 1
                                                    ) fun b1377 =>
                                                  zm_bnd (fn_X0_gap K p1 v1356 v1362 b1377 p3) fun v1378 =>
                                                  zm_bnd (zm_aldI .int p0 (x5 + 1)) fun v1389 =>
                                                  zm_bnd (zm_aldI .int p0 (x5 + 2)) fun v1395 =>
                                                  zm_bnd (zm_aldI .int p0 (x5 + 3)) fun v1401 =>
                                                  zm_bnd (α := Int32) (
                                                      if v1401 = 0 then
                                                        zm_ret 0
                                                      else
                                                        zm_ret 1
                                                    ) fun b1410 =>
                                                  zm_bnd (zm_bnd (zm_is p2 20) fun _ => fn_X3_gap K p2 v1389 v1395 b1410) fun v1410 =>
                                                  zm_bnd (zm_bnd (zm_is p2 20) fun _ => fn_X3_thrown K p2) fun v1416 =>
                                                  if v1416 = v1378 then
                                                    if v1378 = 0 then
                                                      zm_bnd (zm_aldJ p3 0) fun v1433 =>
                                                      if (lg_cmp v1433 ((v1410).toInt64)) = 0 then
                                                        zm_ret (Sum.inl ())
                                                      else
                                                        zm_ret (Sum.inr (Sum.inr 0))
                                                    else
                                                      zm_ret (Sum.inl ())
                                                  else
                                                    zm_ret (Sum.inr (Sum.inr 0))
                                                else
                                                  if (v40 &&& 63) = 20 then
                                                    zm_bnd (zm_aldI .int p0 (x5 + 1)) fun v1452 =>
                                                    zm_bnd (zm_aldI .int p0 (x5 + 2)) fun v1458 =>
                                                    zm_bnd (fn_X0_fits K p1 v1452 v1458 p3) fun v1460 =>
                                                    zm_bnd (zm_aldI .int p0 (x5 + 1)) fun v1471 =>
                                                    zm_bnd (zm_aldI .int p0 (x5 + 2)) fun v1477 =>
                                                    zm_bnd (zm_bnd (zm_is p2 20) fun _ => fn_X3_fits K p2 v1471 v1477) fun v1478 =>
                                                    zm_bnd (zm_bnd (zm_is p2 20) fun _ => fn_X3_thrown K p2) fun v1484 =>
                                                    if v1484 = v1460 then
                                                      if v1460 = 0 then
                                                        zm_bnd (zm_aldJ p3 0) fun v1501 =>
                                                        if (lg_cmp v1501 ((v1478).toInt64)) = 0 then
                                                          zm_ret (Sum.inl ())
                                                        else
                                                          zm_ret (Sum.inr (Sum.inr 0))
                                                      else
                                                        zm_ret (Sum.inl ())
                                                    else
                                                      zm_ret (Sum.inr (Sum.inr 0))
                                                  else
                                                    if (v40 &&& 63) = 21 then
                                                      zm_bnd (zm_aldI .int p0 (x5 + 1)) fun v1520 =>
                                                      zm_bnd (zm_aldI .int p0 (x5 + 2)) fun v1526 =>
                                                      zm_bnd (zm_aldI .int p0 (x5 + 3)) fun v1532 =>
                                                      zm_bnd (fn_X0_roomFor K p1 v1520 v1526 v1532 p3) fun v1534 =>
                                                      zm_bnd (zm_aldI .int p0 (x5 + 1)) fun v1545 =>
                                                      zm_bnd (zm_aldI .int p0 (x5 + 2)) fun v1551 =>
                                                      zm_bnd (zm_aldI .int p0 (x5 + 3)) fun v1557 =>
                                                      zm_bnd (zm_bnd (zm_is p2 20) fun _ => fn_X3_roomFor K p2 v1545 v1551 v1557) fun v1558 =>
                                                      zm_bnd (zm_bnd (zm_is p2 20) fun _ => fn_X3_thrown K p2) fun v1564 =>
                                                      if v1564 = v1534 then
                                                        if v1534 = 0 then
                                                          zm_bnd (zm_aldJ p3 0) fun v1581 =>
                                                          if (lg_cmp v1581 ((v1558).toInt64)) = 0 then
                                                            zm_ret (Sum.inl ())
                                                          else
                                                            zm_ret (Sum.inr (Sum.inr 0))
                                                        else
                                                          zm_ret (Sum.inl ())
                                                      else
                                                        zm_ret (Sum.inr (Sum.inr 0))
                                                    else
                                                      if (v40 &&& 63) = 22 then
                                                        zm_bnd (zm_aldI .int p0 (x5 + 1)) fun v1600 =>
                                                        zm_bnd (zm_aldI .int p0 (x5 + 2)) fun v1606 =>
                                                        zm_bnd (fn_X0_hour K p1 v1600 v1606 p3) fun v1608 =>
                                                        zm_bnd (zm_aldI .int p0 (x5 + 1)) fun v1619 =>
                                                        zm_bnd (zm_aldI .int p0 (x5 + 2)) fun v1625 =>
                                                        zm_bnd (zm_bnd (zm_is p2 20) fun _ => fn_X3_hour K p2 v1619 v1625) fun v1626 =>
                                                        zm_bnd (zm_bnd (zm_is p2 20) fun _ => fn_X3_thrown K p2) fun v1632 =>
                                                        if v1632 = v1608 then
                                                          if v1608 = 0 then
                                                            zm_bnd (zm_aldJ p3 0) fun v1649 =>
                                                            if (lg_cmp v1649 ((v1626).toInt64)) = 0 then
                                                              zm_ret (Sum.inl ())
                                                            else
                                                              zm_ret (Sum.inr (Sum.inr 0))
                                                          else
                                                            zm_ret (Sum.inl ())
                                                        else
                                                          zm_ret (Sum.inr (Sum.inr 0))
                                                      else
                                                        if (v40 &&& 63) = 23 then
                                                          zm_bnd (zm_aldI .int p0 (x5 + 1)) fun v1668 =>
                                                          zm_bnd (fn_X0_ranked K p1 v1668 p3) fun v1670 =>
                                                          zm_bnd (zm_aldI .int p0 (x5 + 1)) fun v1681 =>
                                                          zm_bnd (zm_bnd (zm_is p2 20) fun _ => fn_X3_ranked K p2 v1681) fun v1682 =>
                                                          zm_bnd (zm_bnd (zm_is p2 20) fun _ => fn_X3_thrown K p2) fun v1688 =>
                                                          if v1688 = v1670 then
                                                            if v1670 = 0 then
                                                              zm_bnd (zm_aldJ p3 0) fun v1705 =>
                                                              if (lg_cmp v1705 ((v1682).toInt64)) = 0 then
                                                                zm_ret (Sum.inl ())
                                                              else
                                                                zm_ret (Sum.inr (Sum.inr 0))
                                                            else
                                                              zm_ret (Sum.inl ())
                                                          else
                                                            zm_ret (Sum.inr (Sum.inr 0))
                                                        else
                                                          if (v40 &&& 63) = 24 then
                                                            zm_bnd (zm_aldI .int p0 (x5 + 1)) fun v1724 =>
                                                            zm_bnd (fn_X0_type K p1 (((v1724).toUInt32 % 65536).toInt32) p3) fun v1727 =>
                                                            zm_bnd (zm_aldI .int p0 (x5 + 1)) fun v1738 =>
                                                            zm_bnd (zm_bnd (zm_is p2 20) fun _ => fn_X3_type K p2 (((v1738).toUInt32 % 65536).toInt32)) fun v1740 =>
                                                            zm_bnd (zm_bnd (zm_is p2 20) fun _ => fn_X3_thrown K p2) fun v1746 =>
                                                            if v1746 = v1727 then
                                                              if v1727 = 0 then
                                                                zm_bnd (zm_aldJ p3 0) fun v1763 =>
                                                                if (lg_cmp v1763 ((v1740).toInt64)) = 0 then
                                                                  zm_ret (Sum.inl ())
                                                                else
                                                                  zm_ret (Sum.inr (Sum.inr 0))
                                                              else
                                                                zm_ret (Sum.inl ())
                                                            else
                                                              zm_ret (Sum.inr (Sum.inr 0))
                                                          else
                                                            if (v40 &&& 63) = 25 then
                                                              zm_bnd (fn_X0_read K p1 p3) fun v1778 =>
                                                              zm_bnd (zm_bnd (zm_is p2 20) fun _ => fn_X3_read K p2) fun v1784 =>
                                                              zm_bnd (zm_bnd (zm_is p2 20) fun _ => fn_X3_thrown K p2) fun v1790 =>
                                                              if v1790 = v1778 then
                                                                if v1778 = 0 then
                                                                  zm_bnd (zm_aldJ p3 0) fun v1807 =>
                                                                  if (lg_cmp v1807 ((v1784).toInt64)) = 0 then
                                                                    zm_ret (Sum.inl ())
                                                                  else
                                                                    zm_ret (Sum.inr (Sum.inr 0))
                                                                else
                                                                  zm_ret (Sum.inl ())
                                                              else
                                                                zm_ret (Sum.inr (Sum.inr 0))
                                                            else
                                                              if (v40 &&& 63) = 26 then
                                                                zm_bnd (fn_X0_errorPosition K p1 p3) fun v1822 =>
                                                                zm_bnd (zm_bnd (zm_is p2 20) fun _ => fn_X3_errorPosition K p2) fun v1828 =>
                                                                zm_bnd (zm_bnd (zm_is p2 20) fun _ => fn_X3_thrown K p2) fun v1834 =>
                                                                if v1834 = v1822 then
                                                                  if v1822 = 0 then
                                                                    zm_bnd (zm_aldJ p3 0) fun v1851 =>
                                                                    if (lg_cmp v1851 ((v1828).toInt64)) = 0 then
                                                                      zm_ret (Sum.inl ())
                                                                    else
                                                                      zm_ret (Sum.inr (Sum.inr 0))
                                                                  else
                                                                    zm_ret (Sum.inl ())
                                                                else
                                                                  zm_ret (Sum.inr (Sum.inr 0))
                                                              else
                                                                if (v40 &&& 63) = 27 then
                                                                  zm_bnd (zm_aldI .int p0 (x5 + 1)) fun v1870 =>
                                                                  zm_bnd (α := Int32) (
                                                                      if v1870 = 0 then
                                                                        zm_ret 0
                                                                      else
                                                                        zm_ret 1
                                                                    ) fun b1879 =>
                                                                  zm_bnd (zm_aldI .int p0 (x5 + 2)) fun v1884 =>
                                                                  zm_bnd (α := Int32) (
                                                                      if v1884 = 0 then
                                                                        zm_ret 0
                                                                      else
                                                                        zm_ret 1
                                                                    ) fun b1893 =>
                                                                  zm_bnd (fn_X0_refusal K p1 b1879 b1893 p3) fun v1894 =>
                                                                  zm_bnd (zm_aldI .int p0 (x5 + 1)) fun v1905 =>
                                                                  zm_bnd (α := Int32) (
                                                                      if v1905 = 0 then
                                                                        zm_ret 0
                                                                      else
                                                                        zm_ret 1
                                                                    ) fun b1914 =>
                                                                  zm_bnd (zm_aldI .int p0 (x5 + 2)) fun v1919 =>
                                                                  zm_bnd (α := Int32) (
                                                                      if v1919 = 0 then
                                                                        zm_ret 0
                                                                      else
                                                                        zm_ret 1
                                                                    ) fun b1928 =>
                                                                  zm_bnd (zm_bnd (zm_is p2 20) fun _ => fn_X3_refusal K p2 b1914 b1928) fun v1928 =>
                                                                  zm_bnd (zm_bnd (zm_is p2 20) fun _ => fn_X3_thrown K p2) fun v1934 =>
                                                                  if v1934 = v1894 then
                                                                    if v1894 = 0 then
                                                                      zm_bnd (zm_aldJ p3 0) fun v1951 =>
                                                                      if (lg_cmp v1951 ((v1928).toInt64)) = 0 then
                                                                        zm_ret (Sum.inl ())
                                                                      else
                                                                        zm_ret (Sum.inr (Sum.inr 0))
                                                                    else
                                                                      zm_ret (Sum.inl ())
                                                                  else
                                                                    zm_ret (Sum.inr (Sum.inr 0))
                                                                else
                                                                  if (v40 &&& 63) = 28 then
                                                                    zm_bnd (zm_aldI .int p0 (x5 + 1)) fun v1970 =>
                                                                    zm_bnd (fn_X0_describe K p1 v1970 p3) fun v1972 =>
                                                                    zm_bnd (zm_aldI .int p0 (x5 + 1)) fun v1983 =>
                                                                    zm_bnd (zm_bnd (zm_is p2 20) fun _ => fn_X3_describe K p2 v1983) fun v1984 =>
                                                                    zm_bnd (zm_bnd (zm_is p2 20) fun _ => fn_X3_thrown K p2) fun v1990 =>
                                                                    if v1990 = v1972 then
                                                                      if v1972 = 0 then
                                                                        zm_bnd (zm_aldJ p3 0) fun v2007 =>
                                                                        if (lg_cmp v2007 ((v1984).toInt64)) = 0 then
                                                                          zm_ret (Sum.inl ())
                                                                        else
                                                                          zm_ret (Sum.inr (Sum.inr 0))
                                                                      else
                                                                        zm_ret (Sum.inl ())
                                                                    else
                                                                      zm_ret (Sum.inr (Sum.inr 0))
                                                                  else
                                                                    if (v40 &&& 63) = 29 then
                                                                      zm_bnd (zm_aldI .int p0 (x5 + 1)) fun v2026 =>
                                                                      zm_bnd (zm_aldI .int p0 (x5 + 2)) fun v2032 =>
                                                                      zm_bnd (fn_X0_show K p1 v2026 v2032 p3) fun v2034 =>
                                                                      zm_bnd (zm_aldI .int p0 (x5 + 1)) fun v2045 =>
                                                                      zm_bnd (zm_aldI .int p0 (x5 + 2)) fun v2051 =>
                                                                      zm_bnd (zm_bnd (zm_is p2 20) fun _ => fn_X3_show K p2 v2045 v2051) fun v2052 =>
                                                                      zm_bnd (zm_bnd (zm_is p2 20) fun _ => fn_X3_thrown K p2) fun v2058 =>
                                                                      if v2058 = v2034 then
                                                                        if v2034 = 0 then
                                                                          zm_bnd (zm_aldJ p3 0) fun v2075 =>
                                                                          if (lg_cmp v2075 ((v2052).toInt64)) = 0 then
                                                                            zm_ret (Sum.inl ())
                                                                          else
                                                                            zm_ret (Sum.inr (Sum.inr 0))
                                                                        else
                                                                          zm_ret (Sum.inl ())
                                                                      else
                                                                        zm_ret (Sum.inr (Sum.inr 0))
                                                                    else
                                                                      if (v40 &&& 63) = 30 then
                                                                        zm_bnd (zm_aldI .int p0 (x5 + 1)) fun v2094 =>
                                                                        zm_bnd (fn_X0_written K p1 v2094 p3) fun v2096 =>
                                                                        zm_bnd (zm_aldI .int p0 (x5 + 1)) fun v2107 =>
                                                                        zm_bnd (zm_bnd (zm_is p2 20) fun _ => fn_X3_written K p2 v2107) fun v2108 =>
                                                                        zm_bnd (zm_bnd (zm_is p2 20) fun _ => fn_X3_thrown K p2) fun v2114 =>
                                                                        if v2114 = v2096 then
                                                                          if v2096 = 0 then
                                                                            zm_bnd (zm_aldJ p3 0) fun v2131 =>
                                                                            if (lg_cmp v2131 ((v2108).toInt64)) = 0 then
                                                                              zm_ret (Sum.inl ())
                                                                            else
                                                                              zm_ret (Sum.inr (Sum.inr 0))
                                                                          else
                                                                            zm_ret (Sum.inl ())
                                                                        else
                                                                          zm_ret (Sum.inr (Sum.inr 0))
                                                                      else
                                                                        if (v40 &&& 63) = 31 then
                                                                          zm_bnd (zm_aldI .int p0 (x5 + 1)) fun v2150 =>
                                                                          zm_bnd (fn_X0_account K p1 v2150 p3) fun v2152 =>
                                                                          zm_bnd (zm_aldI .int p0 (x5 + 1)) fun v2163 =>
                                                                          zm_bnd (zm_bnd (zm_is p2 20) fun _ => fn_X3_account K p2 v2163) fun v2164 =>
                                                                          zm_bnd (zm_bnd (zm_is p2 20) fun _ => fn_X3_thrown K p2) fun v2170 =>
                                                                          if v2170 = v2152 then
                                                                            if v2152 = 0 then
                                                                              zm_bnd (zm_aldJ p3 0) fun v2187 =>
                                                                              if (lg_cmp v2187 ((v2164).toInt64)) = 0 then
                                                                                zm_ret (Sum.inl ())
                                                                              else
                                                                                zm_ret (Sum.inr (Sum.inr 0))
                                                                            else
                                                                              zm_ret (Sum.inl ())
                                                                          else
                                                                            zm_ret (Sum.inr (Sum.inr 0))
                                                                        else
                                                                          if (v40 &&& 63) = 32 then
                                                                            zm_bnd (zm_bnd (zm_is p1 18) fun _ => fn_X1_isOnce K p1) fun v2201 =>
                                                                            zm_bnd (zm_bnd (zm_is p2 20) fun _ => fn_X3_isOnce K p2) fun v2205 =>
                                                                            if v2201 = v2205 then
                                                                              zm_ret (Sum.inl ())
                                                                            else
                                                                              zm_ret (Sum.inr (Sum.inr 0))
                                                                          else
                                                                            if (v40 &&& 63) = 33 then
                                                                              zm_bnd (fn_X0_meanLength K p1 p4) fun v2216 =>
                                                                              zm_bnd (zm_bnd (zm_is p2 20) fun _ => fn_X3_meanLength K p2) fun v2222 =>
                                                                              zm_bnd (zm_bnd (zm_is p2 20) fun _ => fn_X3_thrown K p2) fun v2228 =>
                                                                              if v2228 = v2216 then
                                                                                if v2216 = 0 then
                                                                                  zm_bnd (zm_aldD p4 0) fun v2246 =>
                                                                                  if (Op.cmpValue (FP.dcmp v2246 v2222) .l) = 0 then
                                                                                    zm_ret (Sum.inl ())
                                                                                  else
                                                                                    zm_bnd (zm_aldD p4 0) fun v2256 =>
                                                                                    zm_bnd (zm_aldD p4 0) fun v2260 =>
                                                                                    if (Op.cmpValue (FP.dcmp v2256 v2260) .l) = 0 then
                                                                                      zm_ret (Sum.inr (Sum.inr 0))
                                                                                    else
                                                                                      if (Op.cmpValue (FP.dcmp v2222 v2222) .l) = 0 then
                                                                                        zm_ret (Sum.inr (Sum.inr 0))
                                                                                      else
                                                                                        zm_ret (Sum.inl ())
                                                                                else
                                                                                  zm_ret (Sum.inl ())
                                                                              else
                                                                                zm_ret (Sum.inr (Sum.inr 0))
                                                                            else
                                                                              if (v40 &&& 63) = 34 then
                                                                                zm_bnd (zm_aldI .int p0 (x5 + 1)) fun v2284 =>
                                                                                zm_bnd (fn_X0_letShare K p1 v2284 p4) fun v2287 =>
                                                                                zm_bnd (zm_aldI .int p0 (x5 + 1)) fun v2298 =>
                                                                                zm_bnd (zm_bnd (zm_is p2 20) fun _ => fn_X3_letShare K p2 v2298) fun v2299 =>
                                                                                zm_bnd (zm_bnd (zm_is p2 20) fun _ => fn_X3_thrown K p2) fun v2305 =>
                                                                                if v2305 = v2287 then
                                                                                  if v2287 = 0 then
                                                                                    zm_bnd (zm_aldD p4 0) fun v2323 =>
                                                                                    zm_bnd (zm_grd (FP.f2d v2299 &&& 0x7fffffffffffffff ≤ 0x7ff0000000000000)) fun _ =>
                                                                                    if (Op.cmpValue (FP.dcmp v2323 (FP.f2d v2299)) .l) = 0 then
                                                                                      zm_ret (Sum.inl ())
                                                                                    else
                                                                                      zm_bnd (zm_aldD p4 0) fun v2334 =>
                                                                                      zm_bnd (zm_aldD p4 0) fun v2338 =>
                                                                                      if (Op.cmpValue (FP.dcmp v2334 v2338) .l) = 0 then
                                                                                        zm_ret (Sum.inr (Sum.inr 0))
                                                                                      else
                                                                                        if (Op.cmpValue (FP.fcmp v2299 v2299) .l) = 0 then
                                                                                          zm_ret (Sum.inr (Sum.inr 0))
                                                                                        else
                                                                                          zm_ret (Sum.inl ())
                                                                                  else
                                                                                    zm_ret (Sum.inl ())
                                                                                else
                                                                                  zm_ret (Sum.inr (Sum.inr 0))
                                                                              else
                                                                                if (v40 &&& 63) = 35 then
                                                                                  zm_bnd (fn_X0_undo K p1 p3) fun v2358 =>
                                                                                  zm_bnd (zm_bnd (zm_is p2 20) fun _ => fn_X3_undo K p2) fun v2364 =>
                                                                                  zm_bnd (zm_bnd (zm_is p2 20) fun _ => fn_X3_thrown K p2) fun v2370 =>
                                                                                  if v2370 = v2358 then
                                                                                    if v2358 = 0 then
                                                                                      zm_bnd (zm_aldJ p3 0) fun v2387 =>
                                                                                      if (lg_cmp v2387 ((v2364).toInt64)) = 0 then
                                                                                        zm_ret (Sum.inl ())
                                                                                      else
                                                                                        zm_ret (Sum.inr (Sum.inr 0))
                                                                                    else
                                                                                      zm_ret (Sum.inl ())
                                                                                  else
                                                                                    zm_ret (Sum.inr (Sum.inr 0))
                                                                                else
                                                                                  if (v40 &&& 63) = 36 then
                                                                                    zm_bnd (zm_bnd (zm_is p1 18) fun _ => fn_X1_save K p1) fun v2401 =>
                                                                                    zm_bnd (zm_bnd (zm_is p2 20) fun _ => fn_X3_save K p2) fun v2405 =>
                                                                                    if v2401 = v2405 then
                                                                                      zm_ret (Sum.inl ())
                                                                                    else
                                                                                      zm_ret (Sum.inr (Sum.inr 0))
                                                                                  else
                                                                                    if (v40 &&& 63) = 37 then
                                                                                      zm_bnd (fn_X0_restore K p1 p3) fun v2415 =>
                                                                                      zm_bnd (zm_bnd (zm_is p2 20) fun _ => fn_X3_restore K p2) fun v2421 =>
                                                                                      zm_bnd (zm_bnd (zm_is p2 20) fun _ => fn_X3_thrown K p2) fun v2427 =>
                                                                                      if v2427 = v2415 then
                                                                                        if v2415 = 0 then
                                                                                          zm_bnd (zm_aldJ p3 0) fun v2444 =>
                                                                                          if (lg_cmp v2444 ((v2421).toInt64)) = 0 then
                                                                                            zm_ret (Sum.inl ())
                                                                                          else
                                                                                            zm_ret (Sum.inr (Sum.inr 0))
                                                                                        else
                                                                                          zm_ret (Sum.inl ())
                                                                                      else
                                                                                        zm_ret (Sum.inr (Sum.inr 0))
                                                                                    else
                                                                                      zm_ret (Sum.inl ())
        ) fun (_ : Unit) =>
      fn_L_law_28 K p0 p1 p2 p3 p4 n (x5 + 5)
noncomputable def fn_L_law (K : zm_K) (a0 : zm_R) : zm_M Int32 :=
  zm_bnd (zm_new 18 [.null, .null, .null, .null, .int 0, .null, .null]) fun v0 =>
  zm_bnd (fn_X1_init K (some v0)) fun _ =>
  zm_bnd (zm_new 20 [.null, .null, .null, .null, .int 0, .int 0, .int 0, .int 0, .int 0, .int 0, .int 0, .int 0, .null, .null, .int 0, .null, .int 0, .null, .null, .int 0, .int 0, .int 0, .int 0]) fun v8 =>
  zm_bnd (fn_X3_init K (some v8)) fun _ =>
  zm_bnd (zm_newa .long (.inr (.inl fun _ => 0)) 1) fun v17 =>
  zm_bnd (zm_newa .double (.inr (.inr (.inr (.inl fun _ => 0)))) 1) fun v21 =>
  zm_bnx (β := Unit) (fn_L_law_28 K a0 (some v0) (some v8) (some v17) (some v21) zm_N 0) fun (_ : Unit) =>
  zm_ret 1
theorem rf_L_law_28 (H : zm_H Ω K) (C : zm_C p l R s m args meth c Ω lw_all cL_law "BoxSpansLaw" "law" 9 8192 104096 (some .boolean)) (hX : zm_XO p l e R s m args below meth c Ω n0 k0 (zm_QL below args s Ω n0 k0)) (p0 : zm_R) (p1 : zm_R) (p2 : zm_R) (p3 : zm_R) (p4 : zm_R) : ∀ (n : Nat) (x5 : Int32) (J : ((Unit) ⊕ (Int32)) → zm_M Int32) (ls : Array Slot), lv_has ls 9 [(0, va_rf p0), (1, va_rf p1), (2, va_rf p2), (3, va_rf p3), (4, va_rf p4), (5, .int x5)] → (∀ (b : Unit) (ls : Array Slot), lv_has ls 9 [] → zm_RK p l e R s m args below meth c Ω n0 k0 (zm_QL below args s Ω n0 k0) (zm_ret (Sum.inl b)) J (F0 m 2463 ls [])) → (∀ (v : Int32) (g : JFrame), zm_RF p l e R s m args below meth c Ω n0 k0 (zm_QL below args s Ω n0 k0) (zm_ret v) g → zm_RK p l e R s m args below meth c Ω n0 k0 (zm_QL below args s Ω n0 k0) (zm_ret (Sum.inr v)) J g) → zm_RK p l e R s m args below meth c Ω n0 k0 (zm_QL below args s Ω n0 k0) (fn_L_law_28 K p0 p1 p2 p3 p4 n x5) J (F0 m 28 ls []) := by
  have hx := C.1
  have hb := C.2.1
  intro n
  induction n with
  | zero => intro x5 J ls hl hJ hR; exact rk_fl
  | succ n ih =>
    intro x5 J ls hl hJ hR
    unfold fn_L_law_28
    refine rk_of (fun _ _ _ _ _ k => lv_iload hx hb dL_law_28 (lv_at hl 5 rfl) (lr_aload_n hx hb dL_law_30 rfl (lv_at hl 0 rfl) k)) ?_
    refine rk_alen C dL_law_31 (fun v31 => ?_)
    refine rk_ite (fun _ _ _ _ _ k1 k2 => lv_iconst (v := 5) hx hb dL_law_32 rfl (lv_isub hx hb dL_law_33 (lv_icmp_gt (tgt := 2463) hx hb dL_law_34 (by decide) k1 k2))) (fun c_34 => ?_) (fun c_34 => ?_)
    · exact hJ () ls (lv_sub hl [] rfl)
    · refine rk_of (fun _ _ _ _ _ k => lr_aload_n hx hb dL_law_37 rfl (lv_at hl 0 rfl) (lv_iload hx hb dL_law_38 (lv_at hl 5 rfl) k)) ?_
      refine rk_iald C dL_law_40 (fun v40 => ?_)
      refine rk_of (fun _ _ _ _ _ k => lv_bipush (v := 63) hx hb dL_law_41 rfl (lv_iand hx hb dL_law_43 k)) ?_
      refine rk_joinx (β := Unit) (fun (b2457 : Unit) ls => lv_has ls 9 [(0, va_rf p0), (1, va_rf p1), (2, va_rf p2), (3, va_rf p3), (4, va_rf p4), (5, .int x5)]) (fun (b2457 : Unit) ls => F0 m 2457 ls []) (fun b2457 ls hl => ?_) (fun hJ2457 => ?_)
      · refine rk_ofs (fun _ _ _ _ _ k => lr_iinc (v := x5 + 5) hx hb dL_law_2457 hl (k := 5) rfl rfl (Nat.le_of_ble_eq_true rfl) [0, 1, 2, 3, 4] rfl ⟨trivial, ⟨trivial, ⟨trivial, ⟨trivial, ⟨(by first | exact va_rf_cat _ | rfl), trivial⟩⟩⟩⟩⟩ k) (fun ls hl => ?_)
        refine rk_of (fun _ _ _ _ _ k => lv_goto (tgt := 28) hx hb dL_law_2460 (by decide) k) ?_
        exact ih (x5 + 5) J ls (lv_sub hl [1, 2, 3, 4, 5, 0] rfl) hJ hR
      · refine rk_case (fun c_44_0 => ?_) (fun c_44_0 => ?_)
        · refine rk_of (fun _ _ _ _ _ k => by rw [c_44_0]; exact lv_tableIn (off := 168) (tgt := 212) hx hb dL_law_44 (by decide) (by decide) rfl (by decide) k) ?_
          refine rk_of (fun _ _ _ _ _ k => lr_aload_n hx hb dL_law_212 rfl (lv_at hl 1 rfl) (lr_aload_n hx hb dL_law_213 rfl (lv_at hl 0 rfl) (lv_iload hx hb dL_law_214 (lv_at hl 5 rfl) (lv_iconst (v := 1) hx hb dL_law_216 rfl (lv_iadd hx hb dL_law_217 k))))) ?_
          refine rk_iald C dL_law_218 (fun v218 => ?_)
          refine rk_of (fun _ _ _ _ _ k => lr_aload_n hx hb dL_law_219 rfl (lv_at hl 3 rfl) k) ?_
          refine rk_callI hX (cl_SX (rest := []) C (ct_X0_box H p1 v218 p3) (lw_SW q1123 q1124 q100 q1125) hd_X0_box ⟨(Nat.le_of_ble_eq_true rfl), (Nat.le_of_ble_eq_true rfl)⟩ rfl hl.1 rfl (zw_le zw_nil (Nat.le_of_ble_eq_true rfl)) dL_law_220) (fun v220 => ?_)
          refine rk_ofs (fun _ _ _ _ _ k => lr_istore hx hb dL_law_223 hl (Nat.le_of_ble_eq_true rfl) [0, 1, 2, 3, 4, 5] rfl ⟨trivial, ⟨trivial, ⟨trivial, ⟨trivial, ⟨trivial, ⟨rfl, trivial⟩⟩⟩⟩⟩⟩ k) (fun ls hl => ?_)
          refine rk_of (fun _ _ _ _ _ k => lr_aload_n hx hb dL_law_225 rfl (lv_at hl 3 rfl) (lr_aload_n hx hb dL_law_226 rfl (lv_at hl 1 rfl) (lv_iload hx hb dL_law_227 (lv_at hl 6 rfl) (lv_iconst (v := 1) hx hb dL_law_229 rfl (lv_iadd hx hb dL_law_230 k))))) ?_
          refine rk_iald C dL_law_231 (fun v231 => ?_)
          refine rk_callI hX (cl_V (rest := []) (av := [.int v231]) C (hc_X3 H) (ct_X3_box H p2 v231) (lw_V q2651 q2652 q2653 q112 q2654) ⟨rfl, hd_X3_box⟩ ⟨(Nat.le_of_ble_eq_true rfl), (Nat.le_of_ble_eq_true rfl)⟩ rfl hl.1 rfl (zw_le zw_nil (Nat.le_of_ble_eq_true rfl)) dL_law_232) (fun v232 => ?_)
          refine rk_ofs (fun _ _ _ _ _ k => lr_istore hx hb dL_law_235 hl (Nat.le_of_ble_eq_true rfl) [0, 1, 2, 3, 4, 5, 6] rfl ⟨rfl, ⟨trivial, ⟨trivial, ⟨trivial, ⟨trivial, ⟨trivial, ⟨trivial, trivial⟩⟩⟩⟩⟩⟩⟩ k) (fun ls hl => ?_)
          refine rk_of (fun _ _ _ _ _ k => lr_aload_n hx hb dL_law_237 rfl (lv_at hl 4 rfl) k) ?_
          refine rk_callI hX (cl_V (rest := []) (av := []) C (hc_X3 H) (ct_X3_thrown H p2) (lw_V q2647 q2648 q2649 q112 q2650) ⟨rfl, hd_X3_thrown⟩ ⟨(Nat.le_of_ble_eq_true rfl), (Nat.le_of_ble_eq_true rfl)⟩ rfl hl.1 rfl (zw_le zw_nil (Nat.le_of_ble_eq_true rfl)) dL_law_238) (fun v238 => ?_)
          refine rk_ite (fun _ _ _ _ _ k1 k2 => lv_iload hx hb dL_law_241 (lv_at hl 1 rfl) (lv_icmp_eq (tgt := 248) hx hb dL_law_243 (by decide) k1 k2)) (fun c_243 => ?_) (fun c_243 => ?_)
          · refine rk_ite (fun _ _ _ _ _ k1 k2 => lv_iload hx hb dL_law_248 (lv_at hl 1 rfl) (lv_if_ne (tgt := 265) hx hb dL_law_250 (by decide) k2 k1)) (fun c_250 => ?_) (fun c_250 => ?_)
            · refine rk_of (fun _ _ _ _ _ k => lr_aload_n hx hb dL_law_253 rfl (lv_at hl 5 rfl) (lv_iconst (v := 0) hx hb dL_law_254 rfl k)) ?_
              refine rk_lald C dL_law_255 (fun v255 => ?_)
              refine rk_ite (fun _ _ _ _ _ k1 k2 => lv_iload hx hb dL_law_256 (lv_at hl 0 rfl) (lv_i2l hx hb dL_law_258 rfl (W.lcmp hx hb dL_law_259 (lv_if_eq (tgt := 265) hx hb dL_law_260 (by decide) k1 k2)))) (fun c_260 => ?_) (fun c_260 => ?_)
              · refine rk_of (fun _ _ _ _ _ k => lv_goto (tgt := 2457) hx hb dL_law_265 (by decide) k) ?_
                exact hJ2457 () ls (lv_sub hl [2, 3, 4, 5, 6, 7] rfl)
              · refine rk_of (fun _ _ _ _ _ k => lv_iconst (v := 0) hx hb dL_law_263 rfl k) ?_
                refine rk_inr ?_
                exact hR _ _ (rf_iretL C rfl dL_law_264)
            · refine rk_of (fun _ _ _ _ _ k => lv_goto (tgt := 2457) hx hb dL_law_265 (by decide) k) ?_
              exact hJ2457 () ls (lv_sub hl [2, 3, 4, 5, 6, 7] rfl)
          · refine rk_of (fun _ _ _ _ _ k => lv_iconst (v := 0) hx hb dL_law_246 rfl k) ?_
            refine rk_inr ?_
            exact hR _ _ (rf_iretL C rfl dL_law_247)
        · refine rk_case (fun c_44_1 => ?_) (fun c_44_1 => ?_)
          · refine rk_of (fun _ _ _ _ _ k => by rw [c_44_1]; exact lv_tableIn (off := 224) (tgt := 268) hx hb dL_law_44 (by decide) (by decide) rfl (by decide) k) ?_
            refine rk_of (fun _ _ _ _ _ k => lr_aload_n hx hb dL_law_268 rfl (lv_at hl 1 rfl) (lr_aload_n hx hb dL_law_269 rfl (lv_at hl 0 rfl) (lv_iload hx hb dL_law_270 (lv_at hl 5 rfl) (lv_iconst (v := 1) hx hb dL_law_272 rfl (lv_iadd hx hb dL_law_273 k))))) ?_
            refine rk_iald C dL_law_274 (fun v274 => ?_)
            refine rk_of (fun _ _ _ _ _ k => lr_aload_n hx hb dL_law_275 rfl (lv_at hl 0 rfl) (lv_iload hx hb dL_law_276 (lv_at hl 5 rfl) (lv_iconst (v := 2) hx hb dL_law_278 rfl (lv_iadd hx hb dL_law_279 k)))) ?_
            refine rk_iald C dL_law_280 (fun v280 => ?_)
            refine rk_of (fun _ _ _ _ _ k => lr_aload_n hx hb dL_law_281 rfl (lv_at hl 0 rfl) (lv_iload hx hb dL_law_282 (lv_at hl 5 rfl) (lv_iconst (v := 3) hx hb dL_law_284 rfl (lv_iadd hx hb dL_law_285 k)))) ?_
            refine rk_iald C dL_law_286 (fun v286 => ?_)
            refine rk_of (fun _ _ _ _ _ k => lr_aload_n hx hb dL_law_287 rfl (lv_at hl 0 rfl) (lv_iload hx hb dL_law_288 (lv_at hl 5 rfl) (lv_iconst (v := 4) hx hb dL_law_290 rfl (lv_iadd hx hb dL_law_291 k)))) ?_
            refine rk_iald C dL_law_292 (fun v292 => ?_)
            refine rk_of (fun _ _ _ _ _ k => lr_aload_n hx hb dL_law_293 rfl (lv_at hl 3 rfl) k) ?_
            refine rk_callI hX (cl_SX (rest := []) C (ct_X0_let H p1 v274 v280 v286 v292 p3) (lw_SW q1370 q1371 q100 q1372) hd_X0_let ⟨(Nat.le_of_ble_eq_true rfl), (Nat.le_of_ble_eq_true rfl)⟩ rfl hl.1 rfl (zw_le zw_nil (Nat.le_of_ble_eq_true rfl)) dL_law_294) (fun v294 => ?_)
            refine rk_ofs (fun _ _ _ _ _ k => lr_istore hx hb dL_law_297 hl (Nat.le_of_ble_eq_true rfl) [0, 1, 2, 3, 4, 5] rfl ⟨trivial, ⟨trivial, ⟨trivial, ⟨trivial, ⟨trivial, ⟨rfl, trivial⟩⟩⟩⟩⟩⟩ k) (fun ls hl => ?_)
            refine rk_of (fun _ _ _ _ _ k => lr_aload_n hx hb dL_law_299 rfl (lv_at hl 3 rfl) (lr_aload_n hx hb dL_law_300 rfl (lv_at hl 1 rfl) (lv_iload hx hb dL_law_301 (lv_at hl 6 rfl) (lv_iconst (v := 1) hx hb dL_law_303 rfl (lv_iadd hx hb dL_law_304 k))))) ?_
            refine rk_iald C dL_law_305 (fun v305 => ?_)
            refine rk_of (fun _ _ _ _ _ k => lr_aload_n hx hb dL_law_306 rfl (lv_at hl 1 rfl) (lv_iload hx hb dL_law_307 (lv_at hl 6 rfl) (lv_iconst (v := 2) hx hb dL_law_309 rfl (lv_iadd hx hb dL_law_310 k)))) ?_
            refine rk_iald C dL_law_311 (fun v311 => ?_)
            refine rk_of (fun _ _ _ _ _ k => lr_aload_n hx hb dL_law_312 rfl (lv_at hl 1 rfl) (lv_iload hx hb dL_law_313 (lv_at hl 6 rfl) (lv_iconst (v := 3) hx hb dL_law_315 rfl (lv_iadd hx hb dL_law_316 k)))) ?_
            refine rk_iald C dL_law_317 (fun v317 => ?_)
            refine rk_of (fun _ _ _ _ _ k => lr_aload_n hx hb dL_law_318 rfl (lv_at hl 1 rfl) (lv_iload hx hb dL_law_319 (lv_at hl 6 rfl) (lv_iconst (v := 4) hx hb dL_law_321 rfl (lv_iadd hx hb dL_law_322 k)))) ?_
            refine rk_iald C dL_law_323 (fun v323 => ?_)
            refine rk_callI hX (cl_V (rest := []) (av := [.int v305, .int v311, .int v317, .int v323]) C (hc_X3 H) (ct_X3_let H p2 v305 v311 v317 v323) (lw_V q2681 q2682 q2683 q112 q2684) ⟨rfl, hd_X3_let⟩ ⟨(Nat.le_of_ble_eq_true rfl), (Nat.le_of_ble_eq_true rfl)⟩ rfl hl.1 rfl (zw_le zw_nil (Nat.le_of_ble_eq_true rfl)) dL_law_324) (fun v324 => ?_)
            refine rk_ofs (fun _ _ _ _ _ k => lr_istore hx hb dL_law_327 hl (Nat.le_of_ble_eq_true rfl) [0, 1, 2, 3, 4, 5, 6] rfl ⟨rfl, ⟨trivial, ⟨trivial, ⟨trivial, ⟨trivial, ⟨trivial, ⟨trivial, trivial⟩⟩⟩⟩⟩⟩⟩ k) (fun ls hl => ?_)
            refine rk_of (fun _ _ _ _ _ k => lr_aload_n hx hb dL_law_329 rfl (lv_at hl 4 rfl) k) ?_
            refine rk_callI hX (cl_V (rest := []) (av := []) C (hc_X3 H) (ct_X3_thrown H p2) (lw_V q2647 q2648 q2649 q112 q2650) ⟨rfl, hd_X3_thrown⟩ ⟨(Nat.le_of_ble_eq_true rfl), (Nat.le_of_ble_eq_true rfl)⟩ rfl hl.1 rfl (zw_le zw_nil (Nat.le_of_ble_eq_true rfl)) dL_law_330) (fun v330 => ?_)
            refine rk_ite (fun _ _ _ _ _ k1 k2 => lv_iload hx hb dL_law_333 (lv_at hl 1 rfl) (lv_icmp_eq (tgt := 340) hx hb dL_law_335 (by decide) k1 k2)) (fun c_335 => ?_) (fun c_335 => ?_)
            · refine rk_ite (fun _ _ _ _ _ k1 k2 => lv_iload hx hb dL_law_340 (lv_at hl 1 rfl) (lv_if_ne (tgt := 357) hx hb dL_law_342 (by decide) k2 k1)) (fun c_342 => ?_) (fun c_342 => ?_)
              · refine rk_of (fun _ _ _ _ _ k => lr_aload_n hx hb dL_law_345 rfl (lv_at hl 5 rfl) (lv_iconst (v := 0) hx hb dL_law_346 rfl k)) ?_
                refine rk_lald C dL_law_347 (fun v347 => ?_)
                refine rk_ite (fun _ _ _ _ _ k1 k2 => lv_iload hx hb dL_law_348 (lv_at hl 0 rfl) (lv_i2l hx hb dL_law_350 rfl (W.lcmp hx hb dL_law_351 (lv_if_eq (tgt := 357) hx hb dL_law_352 (by decide) k1 k2)))) (fun c_352 => ?_) (fun c_352 => ?_)
                · refine rk_of (fun _ _ _ _ _ k => lv_goto (tgt := 2457) hx hb dL_law_357 (by decide) k) ?_
                  exact hJ2457 () ls (lv_sub hl [2, 3, 4, 5, 6, 7] rfl)
                · refine rk_of (fun _ _ _ _ _ k => lv_iconst (v := 0) hx hb dL_law_355 rfl k) ?_
                  refine rk_inr ?_
                  exact hR _ _ (rf_iretL C rfl dL_law_356)
              · refine rk_of (fun _ _ _ _ _ k => lv_goto (tgt := 2457) hx hb dL_law_357 (by decide) k) ?_
                exact hJ2457 () ls (lv_sub hl [2, 3, 4, 5, 6, 7] rfl)
            · refine rk_of (fun _ _ _ _ _ k => lv_iconst (v := 0) hx hb dL_law_338 rfl k) ?_
              refine rk_inr ?_
              exact hR _ _ (rf_iretL C rfl dL_law_339)
          · refine rk_case (fun c_44_2 => ?_) (fun c_44_2 => ?_)
            · refine rk_of (fun _ _ _ _ _ k => by rw [c_44_2]; exact lv_tableIn (off := 316) (tgt := 360) hx hb dL_law_44 (by decide) (by decide) rfl (by decide) k) ?_
              refine rk_of (fun _ _ _ _ _ k => lr_aload_n hx hb dL_law_360 rfl (lv_at hl 1 rfl) (lr_aload_n hx hb dL_law_361 rfl (lv_at hl 0 rfl) (lv_iload hx hb dL_law_362 (lv_at hl 5 rfl) (lv_iconst (v := 1) hx hb dL_law_364 rfl (lv_iadd hx hb dL_law_365 k))))) ?_
              refine rk_iald C dL_law_366 (fun v366 => ?_)
              refine rk_of (fun _ _ _ _ _ k => lr_aload_n hx hb dL_law_367 rfl (lv_at hl 3 rfl) k) ?_
              refine rk_callI hX (cl_SX (rest := []) C (ct_X0_cancel H p1 v366 p3) (lw_SW q1446 q1447 q100 q1448) hd_X0_cancel ⟨(Nat.le_of_ble_eq_true rfl), (Nat.le_of_ble_eq_true rfl)⟩ rfl hl.1 rfl (zw_le zw_nil (Nat.le_of_ble_eq_true rfl)) dL_law_368) (fun v368 => ?_)
              refine rk_ofs (fun _ _ _ _ _ k => lr_istore hx hb dL_law_371 hl (Nat.le_of_ble_eq_true rfl) [0, 1, 2, 3, 4, 5] rfl ⟨trivial, ⟨trivial, ⟨trivial, ⟨trivial, ⟨trivial, ⟨rfl, trivial⟩⟩⟩⟩⟩⟩ k) (fun ls hl => ?_)
              refine rk_of (fun _ _ _ _ _ k => lr_aload_n hx hb dL_law_373 rfl (lv_at hl 3 rfl) (lr_aload_n hx hb dL_law_374 rfl (lv_at hl 1 rfl) (lv_iload hx hb dL_law_375 (lv_at hl 6 rfl) (lv_iconst (v := 1) hx hb dL_law_377 rfl (lv_iadd hx hb dL_law_378 k))))) ?_
              refine rk_iald C dL_law_379 (fun v379 => ?_)
              refine rk_callI hX (cl_V (rest := []) (av := [.int v379]) C (hc_X3 H) (ct_X3_cancel H p2 v379) (lw_V q2718 q2719 q2720 q112 q2721) ⟨rfl, hd_X3_cancel⟩ ⟨(Nat.le_of_ble_eq_true rfl), (Nat.le_of_ble_eq_true rfl)⟩ rfl hl.1 rfl (zw_le zw_nil (Nat.le_of_ble_eq_true rfl)) dL_law_380) (fun v380 => ?_)
              refine rk_ofs (fun _ _ _ _ _ k => lr_istore hx hb dL_law_383 hl (Nat.le_of_ble_eq_true rfl) [0, 1, 2, 3, 4, 5, 6] rfl ⟨rfl, ⟨trivial, ⟨trivial, ⟨trivial, ⟨trivial, ⟨trivial, ⟨trivial, trivial⟩⟩⟩⟩⟩⟩⟩ k) (fun ls hl => ?_)
              refine rk_of (fun _ _ _ _ _ k => lr_aload_n hx hb dL_law_385 rfl (lv_at hl 4 rfl) k) ?_
              refine rk_callI hX (cl_V (rest := []) (av := []) C (hc_X3 H) (ct_X3_thrown H p2) (lw_V q2647 q2648 q2649 q112 q2650) ⟨rfl, hd_X3_thrown⟩ ⟨(Nat.le_of_ble_eq_true rfl), (Nat.le_of_ble_eq_true rfl)⟩ rfl hl.1 rfl (zw_le zw_nil (Nat.le_of_ble_eq_true rfl)) dL_law_386) (fun v386 => ?_)
              refine rk_ite (fun _ _ _ _ _ k1 k2 => lv_iload hx hb dL_law_389 (lv_at hl 1 rfl) (lv_icmp_eq (tgt := 396) hx hb dL_law_391 (by decide) k1 k2)) (fun c_391 => ?_) (fun c_391 => ?_)
              · refine rk_ite (fun _ _ _ _ _ k1 k2 => lv_iload hx hb dL_law_396 (lv_at hl 1 rfl) (lv_if_ne (tgt := 413) hx hb dL_law_398 (by decide) k2 k1)) (fun c_398 => ?_) (fun c_398 => ?_)
                · refine rk_of (fun _ _ _ _ _ k => lr_aload_n hx hb dL_law_401 rfl (lv_at hl 5 rfl) (lv_iconst (v := 0) hx hb dL_law_402 rfl k)) ?_
                  refine rk_lald C dL_law_403 (fun v403 => ?_)
                  refine rk_ite (fun _ _ _ _ _ k1 k2 => lv_iload hx hb dL_law_404 (lv_at hl 0 rfl) (lv_i2l hx hb dL_law_406 rfl (W.lcmp hx hb dL_law_407 (lv_if_eq (tgt := 413) hx hb dL_law_408 (by decide) k1 k2)))) (fun c_408 => ?_) (fun c_408 => ?_)
                  · refine rk_of (fun _ _ _ _ _ k => lv_goto (tgt := 2457) hx hb dL_law_413 (by decide) k) ?_
                    exact hJ2457 () ls (lv_sub hl [2, 3, 4, 5, 6, 7] rfl)
                  · refine rk_of (fun _ _ _ _ _ k => lv_iconst (v := 0) hx hb dL_law_411 rfl k) ?_
                    refine rk_inr ?_
                    exact hR _ _ (rf_iretL C rfl dL_law_412)
                · refine rk_of (fun _ _ _ _ _ k => lv_goto (tgt := 2457) hx hb dL_law_413 (by decide) k) ?_
                  exact hJ2457 () ls (lv_sub hl [2, 3, 4, 5, 6, 7] rfl)
              · refine rk_of (fun _ _ _ _ _ k => lv_iconst (v := 0) hx hb dL_law_394 rfl k) ?_
                refine rk_inr ?_
                exact hR _ _ (rf_iretL C rfl dL_law_395)
            · refine rk_case (fun c_44_3 => ?_) (fun c_44_3 => ?_)
              · refine rk_of (fun _ _ _ _ _ k => by rw [c_44_3]; exact lv_tableIn (off := 372) (tgt := 416) hx hb dL_law_44 (by decide) (by decide) rfl (by decide) k) ?_
                refine rk_of (fun _ _ _ _ _ k => lr_aload_n hx hb dL_law_416 rfl (lv_at hl 1 rfl) (lr_aload_n hx hb dL_law_417 rfl (lv_at hl 0 rfl) (lv_iload hx hb dL_law_418 (lv_at hl 5 rfl) (lv_iconst (v := 1) hx hb dL_law_420 rfl (lv_iadd hx hb dL_law_421 k))))) ?_
                refine rk_iald C dL_law_422 (fun v422 => ?_)
                refine rk_of (fun _ _ _ _ _ k => lr_aload_n hx hb dL_law_423 rfl (lv_at hl 0 rfl) (lv_iload hx hb dL_law_424 (lv_at hl 5 rfl) (lv_iconst (v := 2) hx hb dL_law_426 rfl (lv_iadd hx hb dL_law_427 k)))) ?_
                refine rk_iald C dL_law_428 (fun v428 => ?_)
                refine rk_of (fun _ _ _ _ _ k => lr_aload_n hx hb dL_law_429 rfl (lv_at hl 3 rfl) k) ?_
                refine rk_callI hX (cl_SX (rest := []) C (ct_X0_move H p1 v422 v428 p3) (lw_SW q1482 q1483 q100 q1484) hd_X0_move ⟨(Nat.le_of_ble_eq_true rfl), (Nat.le_of_ble_eq_true rfl)⟩ rfl hl.1 rfl (zw_le zw_nil (Nat.le_of_ble_eq_true rfl)) dL_law_430) (fun v430 => ?_)
                refine rk_ofs (fun _ _ _ _ _ k => lr_istore hx hb dL_law_433 hl (Nat.le_of_ble_eq_true rfl) [0, 1, 2, 3, 4, 5] rfl ⟨trivial, ⟨trivial, ⟨trivial, ⟨trivial, ⟨trivial, ⟨rfl, trivial⟩⟩⟩⟩⟩⟩ k) (fun ls hl => ?_)
                refine rk_of (fun _ _ _ _ _ k => lr_aload_n hx hb dL_law_435 rfl (lv_at hl 3 rfl) (lr_aload_n hx hb dL_law_436 rfl (lv_at hl 1 rfl) (lv_iload hx hb dL_law_437 (lv_at hl 6 rfl) (lv_iconst (v := 1) hx hb dL_law_439 rfl (lv_iadd hx hb dL_law_440 k))))) ?_
                refine rk_iald C dL_law_441 (fun v441 => ?_)
                refine rk_of (fun _ _ _ _ _ k => lr_aload_n hx hb dL_law_442 rfl (lv_at hl 1 rfl) (lv_iload hx hb dL_law_443 (lv_at hl 6 rfl) (lv_iconst (v := 2) hx hb dL_law_445 rfl (lv_iadd hx hb dL_law_446 k)))) ?_
                refine rk_iald C dL_law_447 (fun v447 => ?_)
                refine rk_callI hX (cl_V (rest := []) (av := [.int v441, .int v447]) C (hc_X3 H) (ct_X3_move H p2 v441 v447) (lw_V q2742 q2743 q2744 q112 q2745) ⟨rfl, hd_X3_move⟩ ⟨(Nat.le_of_ble_eq_true rfl), (Nat.le_of_ble_eq_true rfl)⟩ rfl hl.1 rfl (zw_le zw_nil (Nat.le_of_ble_eq_true rfl)) dL_law_448) (fun v448 => ?_)
                refine rk_ofs (fun _ _ _ _ _ k => lr_istore hx hb dL_law_451 hl (Nat.le_of_ble_eq_true rfl) [0, 1, 2, 3, 4, 5, 6] rfl ⟨rfl, ⟨trivial, ⟨trivial, ⟨trivial, ⟨trivial, ⟨trivial, ⟨trivial, trivial⟩⟩⟩⟩⟩⟩⟩ k) (fun ls hl => ?_)
                refine rk_of (fun _ _ _ _ _ k => lr_aload_n hx hb dL_law_453 rfl (lv_at hl 4 rfl) k) ?_
                refine rk_callI hX (cl_V (rest := []) (av := []) C (hc_X3 H) (ct_X3_thrown H p2) (lw_V q2647 q2648 q2649 q112 q2650) ⟨rfl, hd_X3_thrown⟩ ⟨(Nat.le_of_ble_eq_true rfl), (Nat.le_of_ble_eq_true rfl)⟩ rfl hl.1 rfl (zw_le zw_nil (Nat.le_of_ble_eq_true rfl)) dL_law_454) (fun v454 => ?_)
                refine rk_ite (fun _ _ _ _ _ k1 k2 => lv_iload hx hb dL_law_457 (lv_at hl 1 rfl) (lv_icmp_eq (tgt := 464) hx hb dL_law_459 (by decide) k1 k2)) (fun c_459 => ?_) (fun c_459 => ?_)
                · refine rk_ite (fun _ _ _ _ _ k1 k2 => lv_iload hx hb dL_law_464 (lv_at hl 1 rfl) (lv_if_ne (tgt := 481) hx hb dL_law_466 (by decide) k2 k1)) (fun c_466 => ?_) (fun c_466 => ?_)
                  · refine rk_of (fun _ _ _ _ _ k => lr_aload_n hx hb dL_law_469 rfl (lv_at hl 5 rfl) (lv_iconst (v := 0) hx hb dL_law_470 rfl k)) ?_
                    refine rk_lald C dL_law_471 (fun v471 => ?_)
                    refine rk_ite (fun _ _ _ _ _ k1 k2 => lv_iload hx hb dL_law_472 (lv_at hl 0 rfl) (lv_i2l hx hb dL_law_474 rfl (W.lcmp hx hb dL_law_475 (lv_if_eq (tgt := 481) hx hb dL_law_476 (by decide) k1 k2)))) (fun c_476 => ?_) (fun c_476 => ?_)
                    · refine rk_of (fun _ _ _ _ _ k => lv_goto (tgt := 2457) hx hb dL_law_481 (by decide) k) ?_
                      exact hJ2457 () ls (lv_sub hl [2, 3, 4, 5, 6, 7] rfl)
                    · refine rk_of (fun _ _ _ _ _ k => lv_iconst (v := 0) hx hb dL_law_479 rfl k) ?_
                      refine rk_inr ?_
                      exact hR _ _ (rf_iretL C rfl dL_law_480)
                  · refine rk_of (fun _ _ _ _ _ k => lv_goto (tgt := 2457) hx hb dL_law_481 (by decide) k) ?_
                    exact hJ2457 () ls (lv_sub hl [2, 3, 4, 5, 6, 7] rfl)
                · refine rk_of (fun _ _ _ _ _ k => lv_iconst (v := 0) hx hb dL_law_462 rfl k) ?_
                  refine rk_inr ?_
                  exact hR _ _ (rf_iretL C rfl dL_law_463)
              · refine rk_case (fun c_44_4 => ?_) (fun c_44_4 => ?_)
                · refine rk_of (fun _ _ _ _ _ k => by rw [c_44_4]; exact lv_tableIn (off := 440) (tgt := 484) hx hb dL_law_44 (by decide) (by decide) rfl (by decide) k) ?_
                  refine rk_of (fun _ _ _ _ _ k => lr_aload_n hx hb dL_law_484 rfl (lv_at hl 1 rfl) (lr_aload_n hx hb dL_law_485 rfl (lv_at hl 0 rfl) (lv_iload hx hb dL_law_486 (lv_at hl 5 rfl) (lv_iconst (v := 1) hx hb dL_law_488 rfl (lv_iadd hx hb dL_law_489 k))))) ?_
                  refine rk_iald C dL_law_490 (fun v490 => ?_)
                  refine rk_of (fun _ _ _ _ _ k => lr_aload_n hx hb dL_law_491 rfl (lv_at hl 0 rfl) (lv_iload hx hb dL_law_492 (lv_at hl 5 rfl) (lv_iconst (v := 2) hx hb dL_law_494 rfl (lv_iadd hx hb dL_law_495 k)))) ?_
                  refine rk_iald C dL_law_496 (fun v496 => ?_)
                  refine rk_of (fun _ _ _ _ _ k => lr_aload_n hx hb dL_law_497 rfl (lv_at hl 3 rfl) k) ?_
                  refine rk_callI hX (cl_SX (rest := []) C (ct_X0_split H p1 v490 v496 p3) (lw_SW q1521 q1522 q100 q1523) hd_X0_split ⟨(Nat.le_of_ble_eq_true rfl), (Nat.le_of_ble_eq_true rfl)⟩ rfl hl.1 rfl (zw_le zw_nil (Nat.le_of_ble_eq_true rfl)) dL_law_498) (fun v498 => ?_)
                  refine rk_ofs (fun _ _ _ _ _ k => lr_istore hx hb dL_law_501 hl (Nat.le_of_ble_eq_true rfl) [0, 1, 2, 3, 4, 5] rfl ⟨trivial, ⟨trivial, ⟨trivial, ⟨trivial, ⟨trivial, ⟨rfl, trivial⟩⟩⟩⟩⟩⟩ k) (fun ls hl => ?_)
                  refine rk_of (fun _ _ _ _ _ k => lr_aload_n hx hb dL_law_503 rfl (lv_at hl 3 rfl) (lr_aload_n hx hb dL_law_504 rfl (lv_at hl 1 rfl) (lv_iload hx hb dL_law_505 (lv_at hl 6 rfl) (lv_iconst (v := 1) hx hb dL_law_507 rfl (lv_iadd hx hb dL_law_508 k))))) ?_
                  refine rk_iald C dL_law_509 (fun v509 => ?_)
                  refine rk_of (fun _ _ _ _ _ k => lr_aload_n hx hb dL_law_510 rfl (lv_at hl 1 rfl) (lv_iload hx hb dL_law_511 (lv_at hl 6 rfl) (lv_iconst (v := 2) hx hb dL_law_513 rfl (lv_iadd hx hb dL_law_514 k)))) ?_
                  refine rk_iald C dL_law_515 (fun v515 => ?_)
                  refine rk_callI hX (cl_V (rest := []) (av := [.int v509, .int v515]) C (hc_X3 H) (ct_X3_split H p2 v509 v515) (lw_V q2759 q2760 q2761 q112 q2762) ⟨rfl, hd_X3_split⟩ ⟨(Nat.le_of_ble_eq_true rfl), (Nat.le_of_ble_eq_true rfl)⟩ rfl hl.1 rfl (zw_le zw_nil (Nat.le_of_ble_eq_true rfl)) dL_law_516) (fun v516 => ?_)
                  refine rk_ofs (fun _ _ _ _ _ k => lr_istore hx hb dL_law_519 hl (Nat.le_of_ble_eq_true rfl) [0, 1, 2, 3, 4, 5, 6] rfl ⟨rfl, ⟨trivial, ⟨trivial, ⟨trivial, ⟨trivial, ⟨trivial, ⟨trivial, trivial⟩⟩⟩⟩⟩⟩⟩ k) (fun ls hl => ?_)
                  refine rk_of (fun _ _ _ _ _ k => lr_aload_n hx hb dL_law_521 rfl (lv_at hl 4 rfl) k) ?_
                  refine rk_callI hX (cl_V (rest := []) (av := []) C (hc_X3 H) (ct_X3_thrown H p2) (lw_V q2647 q2648 q2649 q112 q2650) ⟨rfl, hd_X3_thrown⟩ ⟨(Nat.le_of_ble_eq_true rfl), (Nat.le_of_ble_eq_true rfl)⟩ rfl hl.1 rfl (zw_le zw_nil (Nat.le_of_ble_eq_true rfl)) dL_law_522) (fun v522 => ?_)
                  refine rk_ite (fun _ _ _ _ _ k1 k2 => lv_iload hx hb dL_law_525 (lv_at hl 1 rfl) (lv_icmp_eq (tgt := 532) hx hb dL_law_527 (by decide) k1 k2)) (fun c_527 => ?_) (fun c_527 => ?_)
                  · refine rk_ite (fun _ _ _ _ _ k1 k2 => lv_iload hx hb dL_law_532 (lv_at hl 1 rfl) (lv_if_ne (tgt := 549) hx hb dL_law_534 (by decide) k2 k1)) (fun c_534 => ?_) (fun c_534 => ?_)
                    · refine rk_of (fun _ _ _ _ _ k => lr_aload_n hx hb dL_law_537 rfl (lv_at hl 5 rfl) (lv_iconst (v := 0) hx hb dL_law_538 rfl k)) ?_
                      refine rk_lald C dL_law_539 (fun v539 => ?_)
                      refine rk_ite (fun _ _ _ _ _ k1 k2 => lv_iload hx hb dL_law_540 (lv_at hl 0 rfl) (lv_i2l hx hb dL_law_542 rfl (W.lcmp hx hb dL_law_543 (lv_if_eq (tgt := 549) hx hb dL_law_544 (by decide) k1 k2)))) (fun c_544 => ?_) (fun c_544 => ?_)
                      · refine rk_of (fun _ _ _ _ _ k => lv_goto (tgt := 2457) hx hb dL_law_549 (by decide) k) ?_
                        exact hJ2457 () ls (lv_sub hl [2, 3, 4, 5, 6, 7] rfl)
                      · refine rk_of (fun _ _ _ _ _ k => lv_iconst (v := 0) hx hb dL_law_547 rfl k) ?_
                        refine rk_inr ?_
                        exact hR _ _ (rf_iretL C rfl dL_law_548)
                    · refine rk_of (fun _ _ _ _ _ k => lv_goto (tgt := 2457) hx hb dL_law_549 (by decide) k) ?_
                      exact hJ2457 () ls (lv_sub hl [2, 3, 4, 5, 6, 7] rfl)
                  · refine rk_of (fun _ _ _ _ _ k => lv_iconst (v := 0) hx hb dL_law_530 rfl k) ?_
                    refine rk_inr ?_
                    exact hR _ _ (rf_iretL C rfl dL_law_531)
                · refine rk_case (fun c_44_5 => ?_) (fun c_44_5 => ?_)
                  · refine rk_of (fun _ _ _ _ _ k => by rw [c_44_5]; exact lv_tableIn (off := 508) (tgt := 552) hx hb dL_law_44 (by decide) (by decide) rfl (by decide) k) ?_
                    refine rk_of (fun _ _ _ _ _ k => lr_aload_n hx hb dL_law_552 rfl (lv_at hl 1 rfl) (lr_aload_n hx hb dL_law_553 rfl (lv_at hl 0 rfl) (lv_iload hx hb dL_law_554 (lv_at hl 5 rfl) (lv_iconst (v := 1) hx hb dL_law_556 rfl (lv_iadd hx hb dL_law_557 k))))) ?_
                    refine rk_iald C dL_law_558 (fun v558 => ?_)
                    refine rk_of (fun _ _ _ _ _ k => lr_aload_n hx hb dL_law_559 rfl (lv_at hl 0 rfl) (lv_iload hx hb dL_law_560 (lv_at hl 5 rfl) (lv_iconst (v := 2) hx hb dL_law_562 rfl (lv_iadd hx hb dL_law_563 k)))) ?_
                    refine rk_iald C dL_law_564 (fun v564 => ?_)
                    refine rk_of (fun _ _ _ _ _ k => lr_aload_n hx hb dL_law_565 rfl (lv_at hl 3 rfl) k) ?_
                    refine rk_callI hX (cl_SX (rest := []) C (ct_X0_join H p1 v558 v564 p3) (lw_SW q1541 q1542 q100 q1543) hd_X0_join ⟨(Nat.le_of_ble_eq_true rfl), (Nat.le_of_ble_eq_true rfl)⟩ rfl hl.1 rfl (zw_le zw_nil (Nat.le_of_ble_eq_true rfl)) dL_law_566) (fun v566 => ?_)
                    refine rk_ofs (fun _ _ _ _ _ k => lr_istore hx hb dL_law_569 hl (Nat.le_of_ble_eq_true rfl) [0, 1, 2, 3, 4, 5] rfl ⟨trivial, ⟨trivial, ⟨trivial, ⟨trivial, ⟨trivial, ⟨rfl, trivial⟩⟩⟩⟩⟩⟩ k) (fun ls hl => ?_)
                    refine rk_of (fun _ _ _ _ _ k => lr_aload_n hx hb dL_law_571 rfl (lv_at hl 3 rfl) (lr_aload_n hx hb dL_law_572 rfl (lv_at hl 1 rfl) (lv_iload hx hb dL_law_573 (lv_at hl 6 rfl) (lv_iconst (v := 1) hx hb dL_law_575 rfl (lv_iadd hx hb dL_law_576 k))))) ?_
                    refine rk_iald C dL_law_577 (fun v577 => ?_)
                    refine rk_of (fun _ _ _ _ _ k => lr_aload_n hx hb dL_law_578 rfl (lv_at hl 1 rfl) (lv_iload hx hb dL_law_579 (lv_at hl 6 rfl) (lv_iconst (v := 2) hx hb dL_law_581 rfl (lv_iadd hx hb dL_law_582 k)))) ?_
                    refine rk_iald C dL_law_583 (fun v583 => ?_)
                    refine rk_callI hX (cl_V (rest := []) (av := [.int v577, .int v583]) C (hc_X3 H) (ct_X3_join H p2 v577 v583) (lw_V q2767 q2768 q2769 q112 q2770) ⟨rfl, hd_X3_join⟩ ⟨(Nat.le_of_ble_eq_true rfl), (Nat.le_of_ble_eq_true rfl)⟩ rfl hl.1 rfl (zw_le zw_nil (Nat.le_of_ble_eq_true rfl)) dL_law_584) (fun v584 => ?_)
                    refine rk_ofs (fun _ _ _ _ _ k => lr_istore hx hb dL_law_587 hl (Nat.le_of_ble_eq_true rfl) [0, 1, 2, 3, 4, 5, 6] rfl ⟨rfl, ⟨trivial, ⟨trivial, ⟨trivial, ⟨trivial, ⟨trivial, ⟨trivial, trivial⟩⟩⟩⟩⟩⟩⟩ k) (fun ls hl => ?_)
                    refine rk_of (fun _ _ _ _ _ k => lr_aload_n hx hb dL_law_589 rfl (lv_at hl 4 rfl) k) ?_
                    refine rk_callI hX (cl_V (rest := []) (av := []) C (hc_X3 H) (ct_X3_thrown H p2) (lw_V q2647 q2648 q2649 q112 q2650) ⟨rfl, hd_X3_thrown⟩ ⟨(Nat.le_of_ble_eq_true rfl), (Nat.le_of_ble_eq_true rfl)⟩ rfl hl.1 rfl (zw_le zw_nil (Nat.le_of_ble_eq_true rfl)) dL_law_590) (fun v590 => ?_)
                    refine rk_ite (fun _ _ _ _ _ k1 k2 => lv_iload hx hb dL_law_593 (lv_at hl 1 rfl) (lv_icmp_eq (tgt := 600) hx hb dL_law_595 (by decide) k1 k2)) (fun c_595 => ?_) (fun c_595 => ?_)
                    · refine rk_ite (fun _ _ _ _ _ k1 k2 => lv_iload hx hb dL_law_600 (lv_at hl 1 rfl) (lv_if_ne (tgt := 617) hx hb dL_law_602 (by decide) k2 k1)) (fun c_602 => ?_) (fun c_602 => ?_)
                      · refine rk_of (fun _ _ _ _ _ k => lr_aload_n hx hb dL_law_605 rfl (lv_at hl 5 rfl) (lv_iconst (v := 0) hx hb dL_law_606 rfl k)) ?_
                        refine rk_lald C dL_law_607 (fun v607 => ?_)
                        refine rk_ite (fun _ _ _ _ _ k1 k2 => lv_iload hx hb dL_law_608 (lv_at hl 0 rfl) (lv_i2l hx hb dL_law_610 rfl (W.lcmp hx hb dL_law_611 (lv_if_eq (tgt := 617) hx hb dL_law_612 (by decide) k1 k2)))) (fun c_612 => ?_) (fun c_612 => ?_)
                        · refine rk_of (fun _ _ _ _ _ k => lv_goto (tgt := 2457) hx hb dL_law_617 (by decide) k) ?_
                          exact hJ2457 () ls (lv_sub hl [2, 3, 4, 5, 6, 7] rfl)
                        · refine rk_of (fun _ _ _ _ _ k => lv_iconst (v := 0) hx hb dL_law_615 rfl k) ?_
                          refine rk_inr ?_
                          exact hR _ _ (rf_iretL C rfl dL_law_616)
                      · refine rk_of (fun _ _ _ _ _ k => lv_goto (tgt := 2457) hx hb dL_law_617 (by decide) k) ?_
                        exact hJ2457 () ls (lv_sub hl [2, 3, 4, 5, 6, 7] rfl)
                    · refine rk_of (fun _ _ _ _ _ k => lv_iconst (v := 0) hx hb dL_law_598 rfl k) ?_
                      refine rk_inr ?_
                      exact hR _ _ (rf_iretL C rfl dL_law_599)
                  · refine rk_case (fun c_44_6 => ?_) (fun c_44_6 => ?_)
                    · refine rk_of (fun _ _ _ _ _ k => by rw [c_44_6]; exact lv_tableIn (off := 576) (tgt := 620) hx hb dL_law_44 (by decide) (by decide) rfl (by decide) k) ?_
                      refine rk_of (fun _ _ _ _ _ k => lr_aload_n hx hb dL_law_620 rfl (lv_at hl 1 rfl) (lr_aload_n hx hb dL_law_621 rfl (lv_at hl 0 rfl) (lv_iload hx hb dL_law_622 (lv_at hl 5 rfl) (lv_iconst (v := 1) hx hb dL_law_624 rfl (lv_iadd hx hb dL_law_625 k))))) ?_
                      refine rk_iald C dL_law_626 (fun v626 => ?_)
                      refine rk_of (fun _ _ _ _ _ k => lr_aload_n hx hb dL_law_627 rfl (lv_at hl 0 rfl) (lv_iload hx hb dL_law_628 (lv_at hl 5 rfl) (lv_iconst (v := 2) hx hb dL_law_630 rfl (lv_iadd hx hb dL_law_631 k)))) ?_
                      refine rk_iald C dL_law_632 (fun v632 => ?_)
                      refine rk_of (fun _ _ _ _ _ k => lr_aload_n hx hb dL_law_633 rfl (lv_at hl 3 rfl) k) ?_
                      refine rk_callI hX (cl_SX (rest := []) C (ct_X0_lettingOf H p1 v626 v632 p3) (lw_SW q1567 q1568 q100 q1569) hd_X0_lettingOf ⟨(Nat.le_of_ble_eq_true rfl), (Nat.le_of_ble_eq_true rfl)⟩ rfl hl.1 rfl (zw_le zw_nil (Nat.le_of_ble_eq_true rfl)) dL_law_634) (fun v634 => ?_)
                      refine rk_ofs (fun _ _ _ _ _ k => lr_istore hx hb dL_law_637 hl (Nat.le_of_ble_eq_true rfl) [0, 1, 2, 3, 4, 5] rfl ⟨trivial, ⟨trivial, ⟨trivial, ⟨trivial, ⟨trivial, ⟨rfl, trivial⟩⟩⟩⟩⟩⟩ k) (fun ls hl => ?_)
                      refine rk_of (fun _ _ _ _ _ k => lr_aload_n hx hb dL_law_639 rfl (lv_at hl 3 rfl) (lr_aload_n hx hb dL_law_640 rfl (lv_at hl 1 rfl) (lv_iload hx hb dL_law_641 (lv_at hl 6 rfl) (lv_iconst (v := 1) hx hb dL_law_643 rfl (lv_iadd hx hb dL_law_644 k))))) ?_
                      refine rk_iald C dL_law_645 (fun v645 => ?_)
                      refine rk_of (fun _ _ _ _ _ k => lr_aload_n hx hb dL_law_646 rfl (lv_at hl 1 rfl) (lv_iload hx hb dL_law_647 (lv_at hl 6 rfl) (lv_iconst (v := 2) hx hb dL_law_649 rfl (lv_iadd hx hb dL_law_650 k)))) ?_
                      refine rk_iald C dL_law_651 (fun v651 => ?_)
                      refine rk_callI hX (cl_V (rest := []) (av := [.int v645, .int v651]) C (hc_X3 H) (ct_X3_lettingOf H p2 v645 v651) (lw_V q2775 q2776 q2777 q112 q2778) ⟨rfl, hd_X3_lettingOf⟩ ⟨(Nat.le_of_ble_eq_true rfl), (Nat.le_of_ble_eq_true rfl)⟩ rfl hl.1 rfl (zw_le zw_nil (Nat.le_of_ble_eq_true rfl)) dL_law_652) (fun v652 => ?_)
                      refine rk_ofs (fun _ _ _ _ _ k => lr_istore hx hb dL_law_655 hl (Nat.le_of_ble_eq_true rfl) [0, 1, 2, 3, 4, 5, 6] rfl ⟨rfl, ⟨trivial, ⟨trivial, ⟨trivial, ⟨trivial, ⟨trivial, ⟨trivial, trivial⟩⟩⟩⟩⟩⟩⟩ k) (fun ls hl => ?_)
                      refine rk_of (fun _ _ _ _ _ k => lr_aload_n hx hb dL_law_657 rfl (lv_at hl 4 rfl) k) ?_
                      refine rk_callI hX (cl_V (rest := []) (av := []) C (hc_X3 H) (ct_X3_thrown H p2) (lw_V q2647 q2648 q2649 q112 q2650) ⟨rfl, hd_X3_thrown⟩ ⟨(Nat.le_of_ble_eq_true rfl), (Nat.le_of_ble_eq_true rfl)⟩ rfl hl.1 rfl (zw_le zw_nil (Nat.le_of_ble_eq_true rfl)) dL_law_658) (fun v658 => ?_)
                      refine rk_ite (fun _ _ _ _ _ k1 k2 => lv_iload hx hb dL_law_661 (lv_at hl 1 rfl) (lv_icmp_eq (tgt := 668) hx hb dL_law_663 (by decide) k1 k2)) (fun c_663 => ?_) (fun c_663 => ?_)
                      · refine rk_ite (fun _ _ _ _ _ k1 k2 => lv_iload hx hb dL_law_668 (lv_at hl 1 rfl) (lv_if_ne (tgt := 685) hx hb dL_law_670 (by decide) k2 k1)) (fun c_670 => ?_) (fun c_670 => ?_)
                        · refine rk_of (fun _ _ _ _ _ k => lr_aload_n hx hb dL_law_673 rfl (lv_at hl 5 rfl) (lv_iconst (v := 0) hx hb dL_law_674 rfl k)) ?_
                          refine rk_lald C dL_law_675 (fun v675 => ?_)
                          refine rk_ite (fun _ _ _ _ _ k1 k2 => lv_iload hx hb dL_law_676 (lv_at hl 0 rfl) (lv_i2l hx hb dL_law_678 rfl (W.lcmp hx hb dL_law_679 (lv_if_eq (tgt := 685) hx hb dL_law_680 (by decide) k1 k2)))) (fun c_680 => ?_) (fun c_680 => ?_)
                          · refine rk_of (fun _ _ _ _ _ k => lv_goto (tgt := 2457) hx hb dL_law_685 (by decide) k) ?_
                            exact hJ2457 () ls (lv_sub hl [2, 3, 4, 5, 6, 7] rfl)
                          · refine rk_of (fun _ _ _ _ _ k => lv_iconst (v := 0) hx hb dL_law_683 rfl k) ?_
                            refine rk_inr ?_
                            exact hR _ _ (rf_iretL C rfl dL_law_684)
                        · refine rk_of (fun _ _ _ _ _ k => lv_goto (tgt := 2457) hx hb dL_law_685 (by decide) k) ?_
                          exact hJ2457 () ls (lv_sub hl [2, 3, 4, 5, 6, 7] rfl)
                      · refine rk_of (fun _ _ _ _ _ k => lv_iconst (v := 0) hx hb dL_law_666 rfl k) ?_
                        refine rk_inr ?_
                        exact hR _ _ (rf_iretL C rfl dL_law_667)
                    · refine rk_case (fun c_44_7 => ?_) (fun c_44_7 => ?_)
                      · refine rk_of (fun _ _ _ _ _ k => by rw [c_44_7]; exact lv_tableIn (off := 644) (tgt := 688) hx hb dL_law_44 (by decide) (by decide) rfl (by decide) k) ?_
                        refine rk_of (fun _ _ _ _ _ k => lr_aload_n hx hb dL_law_688 rfl (lv_at hl 1 rfl) (lr_aload_n hx hb dL_law_689 rfl (lv_at hl 0 rfl) (lv_iload hx hb dL_law_690 (lv_at hl 5 rfl) (lv_iconst (v := 1) hx hb dL_law_692 rfl (lv_iadd hx hb dL_law_693 k))))) ?_
                        refine rk_iald C dL_law_694 (fun v694 => ?_)
                        refine rk_of (fun _ _ _ _ _ k => lr_aload_n hx hb dL_law_695 rfl (lv_at hl 0 rfl) (lv_iload hx hb dL_law_696 (lv_at hl 5 rfl) (lv_iconst (v := 2) hx hb dL_law_698 rfl (lv_iadd hx hb dL_law_699 k)))) ?_
                        refine rk_iald C dL_law_700 (fun v700 => ?_)
                        refine rk_of (fun _ _ _ _ _ k => lr_aload_n hx hb dL_law_701 rfl (lv_at hl 3 rfl) k) ?_
                        refine rk_callI hX (cl_SX (rest := []) C (ct_X0_at H p1 v694 v700 p3) (lw_SW q1583 q1584 q100 q1585) hd_X0_at ⟨(Nat.le_of_ble_eq_true rfl), (Nat.le_of_ble_eq_true rfl)⟩ rfl hl.1 rfl (zw_le zw_nil (Nat.le_of_ble_eq_true rfl)) dL_law_702) (fun v702 => ?_)
                        refine rk_ofs (fun _ _ _ _ _ k => lr_istore hx hb dL_law_705 hl (Nat.le_of_ble_eq_true rfl) [0, 1, 2, 3, 4, 5] rfl ⟨trivial, ⟨trivial, ⟨trivial, ⟨trivial, ⟨trivial, ⟨rfl, trivial⟩⟩⟩⟩⟩⟩ k) (fun ls hl => ?_)
                        refine rk_of (fun _ _ _ _ _ k => lr_aload_n hx hb dL_law_707 rfl (lv_at hl 3 rfl) (lr_aload_n hx hb dL_law_708 rfl (lv_at hl 1 rfl) (lv_iload hx hb dL_law_709 (lv_at hl 6 rfl) (lv_iconst (v := 1) hx hb dL_law_711 rfl (lv_iadd hx hb dL_law_712 k))))) ?_
                        refine rk_iald C dL_law_713 (fun v713 => ?_)
                        refine rk_of (fun _ _ _ _ _ k => lr_aload_n hx hb dL_law_714 rfl (lv_at hl 1 rfl) (lv_iload hx hb dL_law_715 (lv_at hl 6 rfl) (lv_iconst (v := 2) hx hb dL_law_717 rfl (lv_iadd hx hb dL_law_718 k)))) ?_
                        refine rk_iald C dL_law_719 (fun v719 => ?_)
                        refine rk_callI hX (cl_V (rest := []) (av := [.int v713, .int v719]) C (hc_X3 H) (ct_X3_at H p2 v713 v719) (lw_V q2779 q2780 q2781 q112 q2782) ⟨rfl, hd_X3_at⟩ ⟨(Nat.le_of_ble_eq_true rfl), (Nat.le_of_ble_eq_true rfl)⟩ rfl hl.1 rfl (zw_le zw_nil (Nat.le_of_ble_eq_true rfl)) dL_law_720) (fun v720 => ?_)
                        refine rk_ofs (fun _ _ _ _ _ k => lr_istore hx hb dL_law_723 hl (Nat.le_of_ble_eq_true rfl) [0, 1, 2, 3, 4, 5, 6] rfl ⟨rfl, ⟨trivial, ⟨trivial, ⟨trivial, ⟨trivial, ⟨trivial, ⟨trivial, trivial⟩⟩⟩⟩⟩⟩⟩ k) (fun ls hl => ?_)
                        refine rk_of (fun _ _ _ _ _ k => lr_aload_n hx hb dL_law_725 rfl (lv_at hl 4 rfl) k) ?_
                        refine rk_callI hX (cl_V (rest := []) (av := []) C (hc_X3 H) (ct_X3_thrown H p2) (lw_V q2647 q2648 q2649 q112 q2650) ⟨rfl, hd_X3_thrown⟩ ⟨(Nat.le_of_ble_eq_true rfl), (Nat.le_of_ble_eq_true rfl)⟩ rfl hl.1 rfl (zw_le zw_nil (Nat.le_of_ble_eq_true rfl)) dL_law_726) (fun v726 => ?_)
                        refine rk_ite (fun _ _ _ _ _ k1 k2 => lv_iload hx hb dL_law_729 (lv_at hl 1 rfl) (lv_icmp_eq (tgt := 736) hx hb dL_law_731 (by decide) k1 k2)) (fun c_731 => ?_) (fun c_731 => ?_)
                        · refine rk_ite (fun _ _ _ _ _ k1 k2 => lv_iload hx hb dL_law_736 (lv_at hl 1 rfl) (lv_if_ne (tgt := 753) hx hb dL_law_738 (by decide) k2 k1)) (fun c_738 => ?_) (fun c_738 => ?_)
                          · refine rk_of (fun _ _ _ _ _ k => lr_aload_n hx hb dL_law_741 rfl (lv_at hl 5 rfl) (lv_iconst (v := 0) hx hb dL_law_742 rfl k)) ?_
                            refine rk_lald C dL_law_743 (fun v743 => ?_)
                            refine rk_ite (fun _ _ _ _ _ k1 k2 => lv_iload hx hb dL_law_744 (lv_at hl 0 rfl) (lv_i2l hx hb dL_law_746 rfl (W.lcmp hx hb dL_law_747 (lv_if_eq (tgt := 753) hx hb dL_law_748 (by decide) k1 k2)))) (fun c_748 => ?_) (fun c_748 => ?_)
                            · refine rk_of (fun _ _ _ _ _ k => lv_goto (tgt := 2457) hx hb dL_law_753 (by decide) k) ?_
                              exact hJ2457 () ls (lv_sub hl [2, 3, 4, 5, 6, 7] rfl)
                            · refine rk_of (fun _ _ _ _ _ k => lv_iconst (v := 0) hx hb dL_law_751 rfl k) ?_
                              refine rk_inr ?_
                              exact hR _ _ (rf_iretL C rfl dL_law_752)
                          · refine rk_of (fun _ _ _ _ _ k => lv_goto (tgt := 2457) hx hb dL_law_753 (by decide) k) ?_
                            exact hJ2457 () ls (lv_sub hl [2, 3, 4, 5, 6, 7] rfl)
                        · refine rk_of (fun _ _ _ _ _ k => lv_iconst (v := 0) hx hb dL_law_734 rfl k) ?_
                          refine rk_inr ?_
                          exact hR _ _ (rf_iretL C rfl dL_law_735)
                      · refine rk_case (fun c_44_8 => ?_) (fun c_44_8 => ?_)
                        · refine rk_of (fun _ _ _ _ _ k => by rw [c_44_8]; exact lv_tableIn (off := 712) (tgt := 756) hx hb dL_law_44 (by decide) (by decide) rfl (by decide) k) ?_
                          refine rk_of (fun _ _ _ _ _ k => lr_aload_n hx hb dL_law_756 rfl (lv_at hl 1 rfl) (lr_aload_n hx hb dL_law_757 rfl (lv_at hl 0 rfl) (lv_iload hx hb dL_law_758 (lv_at hl 5 rfl) (lv_iconst (v := 1) hx hb dL_law_760 rfl (lv_iadd hx hb dL_law_761 k))))) ?_
                          refine rk_iald C dL_law_762 (fun v762 => ?_)
                          refine rk_of (fun _ _ _ _ _ k => lr_aload_n hx hb dL_law_763 rfl (lv_at hl 0 rfl) (lv_iload hx hb dL_law_764 (lv_at hl 5 rfl) (lv_iconst (v := 2) hx hb dL_law_766 rfl (lv_iadd hx hb dL_law_767 k)))) ?_
                          refine rk_iald C dL_law_768 (fun v768 => ?_)
                          refine rk_of (fun _ _ _ _ _ k => lr_aload_n hx hb dL_law_769 rfl (lv_at hl 0 rfl) (lv_iload hx hb dL_law_770 (lv_at hl 5 rfl) (lv_iconst (v := 3) hx hb dL_law_772 rfl (lv_iadd hx hb dL_law_773 k)))) ?_
                          refine rk_iald C dL_law_774 (fun v774 => ?_)
                          refine rk_of (fun _ _ _ _ _ k => lr_aload_n hx hb dL_law_775 rfl (lv_at hl 3 rfl) k) ?_
                          refine rk_callI hX (cl_SX (rest := []) C (ct_X0_wish H p1 v762 v768 v774 p3) (lw_SW q1597 q1598 q100 q1599) hd_X0_wish ⟨(Nat.le_of_ble_eq_true rfl), (Nat.le_of_ble_eq_true rfl)⟩ rfl hl.1 rfl (zw_le zw_nil (Nat.le_of_ble_eq_true rfl)) dL_law_776) (fun v776 => ?_)
                          refine rk_ofs (fun _ _ _ _ _ k => lr_istore hx hb dL_law_779 hl (Nat.le_of_ble_eq_true rfl) [0, 1, 2, 3, 4, 5] rfl ⟨trivial, ⟨trivial, ⟨trivial, ⟨trivial, ⟨trivial, ⟨rfl, trivial⟩⟩⟩⟩⟩⟩ k) (fun ls hl => ?_)
                          refine rk_of (fun _ _ _ _ _ k => lr_aload_n hx hb dL_law_781 rfl (lv_at hl 3 rfl) (lr_aload_n hx hb dL_law_782 rfl (lv_at hl 1 rfl) (lv_iload hx hb dL_law_783 (lv_at hl 6 rfl) (lv_iconst (v := 1) hx hb dL_law_785 rfl (lv_iadd hx hb dL_law_786 k))))) ?_
                          refine rk_iald C dL_law_787 (fun v787 => ?_)
                          refine rk_of (fun _ _ _ _ _ k => lr_aload_n hx hb dL_law_788 rfl (lv_at hl 1 rfl) (lv_iload hx hb dL_law_789 (lv_at hl 6 rfl) (lv_iconst (v := 2) hx hb dL_law_791 rfl (lv_iadd hx hb dL_law_792 k)))) ?_
                          refine rk_iald C dL_law_793 (fun v793 => ?_)
                          refine rk_of (fun _ _ _ _ _ k => lr_aload_n hx hb dL_law_794 rfl (lv_at hl 1 rfl) (lv_iload hx hb dL_law_795 (lv_at hl 6 rfl) (lv_iconst (v := 3) hx hb dL_law_797 rfl (lv_iadd hx hb dL_law_798 k)))) ?_
                          refine rk_iald C dL_law_799 (fun v799 => ?_)
                          refine rk_callI hX (cl_V (rest := []) (av := [.int v787, .int v793, .int v799]) C (hc_X3 H) (ct_X3_wish H p2 v787 v793 v799) (lw_V q2787 q2788 q2789 q112 q2790) ⟨rfl, hd_X3_wish⟩ ⟨(Nat.le_of_ble_eq_true rfl), (Nat.le_of_ble_eq_true rfl)⟩ rfl hl.1 rfl (zw_le zw_nil (Nat.le_of_ble_eq_true rfl)) dL_law_800) (fun v800 => ?_)
                          refine rk_ofs (fun _ _ _ _ _ k => lr_istore hx hb dL_law_803 hl (Nat.le_of_ble_eq_true rfl) [0, 1, 2, 3, 4, 5, 6] rfl ⟨rfl, ⟨trivial, ⟨trivial, ⟨trivial, ⟨trivial, ⟨trivial, ⟨trivial, trivial⟩⟩⟩⟩⟩⟩⟩ k) (fun ls hl => ?_)
                          refine rk_of (fun _ _ _ _ _ k => lr_aload_n hx hb dL_law_805 rfl (lv_at hl 4 rfl) k) ?_
                          refine rk_callI hX (cl_V (rest := []) (av := []) C (hc_X3 H) (ct_X3_thrown H p2) (lw_V q2647 q2648 q2649 q112 q2650) ⟨rfl, hd_X3_thrown⟩ ⟨(Nat.le_of_ble_eq_true rfl), (Nat.le_of_ble_eq_true rfl)⟩ rfl hl.1 rfl (zw_le zw_nil (Nat.le_of_ble_eq_true rfl)) dL_law_806) (fun v806 => ?_)
                          refine rk_ite (fun _ _ _ _ _ k1 k2 => lv_iload hx hb dL_law_809 (lv_at hl 1 rfl) (lv_icmp_eq (tgt := 816) hx hb dL_law_811 (by decide) k1 k2)) (fun c_811 => ?_) (fun c_811 => ?_)
                          · refine rk_ite (fun _ _ _ _ _ k1 k2 => lv_iload hx hb dL_law_816 (lv_at hl 1 rfl) (lv_if_ne (tgt := 833) hx hb dL_law_818 (by decide) k2 k1)) (fun c_818 => ?_) (fun c_818 => ?_)
                            · refine rk_of (fun _ _ _ _ _ k => lr_aload_n hx hb dL_law_821 rfl (lv_at hl 5 rfl) (lv_iconst (v := 0) hx hb dL_law_822 rfl k)) ?_
                              refine rk_lald C dL_law_823 (fun v823 => ?_)
                              refine rk_ite (fun _ _ _ _ _ k1 k2 => lv_iload hx hb dL_law_824 (lv_at hl 0 rfl) (lv_i2l hx hb dL_law_826 rfl (W.lcmp hx hb dL_law_827 (lv_if_eq (tgt := 833) hx hb dL_law_828 (by decide) k1 k2)))) (fun c_828 => ?_) (fun c_828 => ?_)
                              · refine rk_of (fun _ _ _ _ _ k => lv_goto (tgt := 2457) hx hb dL_law_833 (by decide) k) ?_
                                exact hJ2457 () ls (lv_sub hl [2, 3, 4, 5, 6, 7] rfl)
                              · refine rk_of (fun _ _ _ _ _ k => lv_iconst (v := 0) hx hb dL_law_831 rfl k) ?_
                                refine rk_inr ?_
                                exact hR _ _ (rf_iretL C rfl dL_law_832)
                            · refine rk_of (fun _ _ _ _ _ k => lv_goto (tgt := 2457) hx hb dL_law_833 (by decide) k) ?_
                              exact hJ2457 () ls (lv_sub hl [2, 3, 4, 5, 6, 7] rfl)
                          · refine rk_of (fun _ _ _ _ _ k => lv_iconst (v := 0) hx hb dL_law_814 rfl k) ?_
                            refine rk_inr ?_
                            exact hR _ _ (rf_iretL C rfl dL_law_815)
                        · refine rk_case (fun c_44_9 => ?_) (fun c_44_9 => ?_)
                          · refine rk_of (fun _ _ _ _ _ k => by rw [c_44_9]; exact lv_tableIn (off := 792) (tgt := 836) hx hb dL_law_44 (by decide) (by decide) rfl (by decide) k) ?_
                            refine rk_of (fun _ _ _ _ _ k => lr_aload_n hx hb dL_law_836 rfl (lv_at hl 1 rfl) (lr_aload_n hx hb dL_law_837 rfl (lv_at hl 0 rfl) (lv_iload hx hb dL_law_838 (lv_at hl 5 rfl) (lv_iconst (v := 1) hx hb dL_law_840 rfl (lv_iadd hx hb dL_law_841 k))))) ?_
                            refine rk_iald C dL_law_842 (fun v842 => ?_)
                            refine rk_of (fun _ _ _ _ _ k => lr_aload_n hx hb dL_law_843 rfl (lv_at hl 3 rfl) k) ?_
                            refine rk_callI hX (cl_SX (rest := []) C (ct_X0_drop H p1 v842 p3) (lw_SW q1621 q1622 q100 q1623) hd_X0_drop ⟨(Nat.le_of_ble_eq_true rfl), (Nat.le_of_ble_eq_true rfl)⟩ rfl hl.1 rfl (zw_le zw_nil (Nat.le_of_ble_eq_true rfl)) dL_law_844) (fun v844 => ?_)
                            refine rk_ofs (fun _ _ _ _ _ k => lr_istore hx hb dL_law_847 hl (Nat.le_of_ble_eq_true rfl) [0, 1, 2, 3, 4, 5] rfl ⟨trivial, ⟨trivial, ⟨trivial, ⟨trivial, ⟨trivial, ⟨rfl, trivial⟩⟩⟩⟩⟩⟩ k) (fun ls hl => ?_)
                            refine rk_of (fun _ _ _ _ _ k => lr_aload_n hx hb dL_law_849 rfl (lv_at hl 3 rfl) (lr_aload_n hx hb dL_law_850 rfl (lv_at hl 1 rfl) (lv_iload hx hb dL_law_851 (lv_at hl 6 rfl) (lv_iconst (v := 1) hx hb dL_law_853 rfl (lv_iadd hx hb dL_law_854 k))))) ?_
                            refine rk_iald C dL_law_855 (fun v855 => ?_)
                            refine rk_callI hX (cl_V (rest := []) (av := [.int v855]) C (hc_X3 H) (ct_X3_drop H p2 v855) (lw_V q2798 q2799 q2800 q112 q2801) ⟨rfl, hd_X3_drop⟩ ⟨(Nat.le_of_ble_eq_true rfl), (Nat.le_of_ble_eq_true rfl)⟩ rfl hl.1 rfl (zw_le zw_nil (Nat.le_of_ble_eq_true rfl)) dL_law_856) (fun v856 => ?_)
                            refine rk_ofs (fun _ _ _ _ _ k => lr_istore hx hb dL_law_859 hl (Nat.le_of_ble_eq_true rfl) [0, 1, 2, 3, 4, 5, 6] rfl ⟨rfl, ⟨trivial, ⟨trivial, ⟨trivial, ⟨trivial, ⟨trivial, ⟨trivial, trivial⟩⟩⟩⟩⟩⟩⟩ k) (fun ls hl => ?_)
                            refine rk_of (fun _ _ _ _ _ k => lr_aload_n hx hb dL_law_861 rfl (lv_at hl 4 rfl) k) ?_
                            refine rk_callI hX (cl_V (rest := []) (av := []) C (hc_X3 H) (ct_X3_thrown H p2) (lw_V q2647 q2648 q2649 q112 q2650) ⟨rfl, hd_X3_thrown⟩ ⟨(Nat.le_of_ble_eq_true rfl), (Nat.le_of_ble_eq_true rfl)⟩ rfl hl.1 rfl (zw_le zw_nil (Nat.le_of_ble_eq_true rfl)) dL_law_862) (fun v862 => ?_)
                            refine rk_ite (fun _ _ _ _ _ k1 k2 => lv_iload hx hb dL_law_865 (lv_at hl 1 rfl) (lv_icmp_eq (tgt := 872) hx hb dL_law_867 (by decide) k1 k2)) (fun c_867 => ?_) (fun c_867 => ?_)
                            · refine rk_ite (fun _ _ _ _ _ k1 k2 => lv_iload hx hb dL_law_872 (lv_at hl 1 rfl) (lv_if_ne (tgt := 889) hx hb dL_law_874 (by decide) k2 k1)) (fun c_874 => ?_) (fun c_874 => ?_)
                              · refine rk_of (fun _ _ _ _ _ k => lr_aload_n hx hb dL_law_877 rfl (lv_at hl 5 rfl) (lv_iconst (v := 0) hx hb dL_law_878 rfl k)) ?_
                                refine rk_lald C dL_law_879 (fun v879 => ?_)
                                refine rk_ite (fun _ _ _ _ _ k1 k2 => lv_iload hx hb dL_law_880 (lv_at hl 0 rfl) (lv_i2l hx hb dL_law_882 rfl (W.lcmp hx hb dL_law_883 (lv_if_eq (tgt := 889) hx hb dL_law_884 (by decide) k1 k2)))) (fun c_884 => ?_) (fun c_884 => ?_)
                                · refine rk_of (fun _ _ _ _ _ k => lv_goto (tgt := 2457) hx hb dL_law_889 (by decide) k) ?_
                                  exact hJ2457 () ls (lv_sub hl [2, 3, 4, 5, 6, 7] rfl)
                                · refine rk_of (fun _ _ _ _ _ k => lv_iconst (v := 0) hx hb dL_law_887 rfl k) ?_
                                  refine rk_inr ?_
                                  exact hR _ _ (rf_iretL C rfl dL_law_888)
                              · refine rk_of (fun _ _ _ _ _ k => lv_goto (tgt := 2457) hx hb dL_law_889 (by decide) k) ?_
                                exact hJ2457 () ls (lv_sub hl [2, 3, 4, 5, 6, 7] rfl)
                            · refine rk_of (fun _ _ _ _ _ k => lv_iconst (v := 0) hx hb dL_law_870 rfl k) ?_
                              refine rk_inr ?_
                              exact hR _ _ (rf_iretL C rfl dL_law_871)
                          · refine rk_case (fun c_44_10 => ?_) (fun c_44_10 => ?_)
                            · refine rk_of (fun _ _ _ _ _ k => by rw [c_44_10]; exact lv_tableIn (off := 848) (tgt := 892) hx hb dL_law_44 (by decide) (by decide) rfl (by decide) k) ?_
                              refine rk_of (fun _ _ _ _ _ k => lr_aload_n hx hb dL_law_892 rfl (lv_at hl 1 rfl) (lr_aload_n hx hb dL_law_893 rfl (lv_at hl 0 rfl) (lv_iload hx hb dL_law_894 (lv_at hl 5 rfl) (lv_iconst (v := 1) hx hb dL_law_896 rfl (lv_iadd hx hb dL_law_897 k))))) ?_
                              refine rk_iald C dL_law_898 (fun v898 => ?_)
                              refine rk_of (fun _ _ _ _ _ k => lr_aload_n hx hb dL_law_899 rfl (lv_at hl 0 rfl) (lv_iload hx hb dL_law_900 (lv_at hl 5 rfl) (lv_iconst (v := 2) hx hb dL_law_902 rfl (lv_iadd hx hb dL_law_903 k)))) ?_
                              refine rk_iald C dL_law_904 (fun v904 => ?_)
                              refine rk_of (fun _ _ _ _ _ k => lr_aload_n hx hb dL_law_905 rfl (lv_at hl 3 rfl) k) ?_
                              refine rk_callI hX (cl_SX (rest := []) C (ct_X0_wishOf H p1 v898 v904 p3) (lw_SW q1660 q1661 q100 q1662) hd_X0_wishOf ⟨(Nat.le_of_ble_eq_true rfl), (Nat.le_of_ble_eq_true rfl)⟩ rfl hl.1 rfl (zw_le zw_nil (Nat.le_of_ble_eq_true rfl)) dL_law_906) (fun v906 => ?_)
                              refine rk_ofs (fun _ _ _ _ _ k => lr_istore hx hb dL_law_909 hl (Nat.le_of_ble_eq_true rfl) [0, 1, 2, 3, 4, 5] rfl ⟨trivial, ⟨trivial, ⟨trivial, ⟨trivial, ⟨trivial, ⟨rfl, trivial⟩⟩⟩⟩⟩⟩ k) (fun ls hl => ?_)
                              refine rk_of (fun _ _ _ _ _ k => lr_aload_n hx hb dL_law_911 rfl (lv_at hl 3 rfl) (lr_aload_n hx hb dL_law_912 rfl (lv_at hl 1 rfl) (lv_iload hx hb dL_law_913 (lv_at hl 6 rfl) (lv_iconst (v := 1) hx hb dL_law_915 rfl (lv_iadd hx hb dL_law_916 k))))) ?_
                              refine rk_iald C dL_law_917 (fun v917 => ?_)
                              refine rk_of (fun _ _ _ _ _ k => lr_aload_n hx hb dL_law_918 rfl (lv_at hl 1 rfl) (lv_iload hx hb dL_law_919 (lv_at hl 6 rfl) (lv_iconst (v := 2) hx hb dL_law_921 rfl (lv_iadd hx hb dL_law_922 k)))) ?_
                              refine rk_iald C dL_law_923 (fun v923 => ?_)
                              refine rk_callI hX (cl_V (rest := []) (av := [.int v917, .int v923]) C (hc_X3 H) (ct_X3_wishOf H p2 v917 v923) (lw_V q2810 q2811 q2812 q112 q2813) ⟨rfl, hd_X3_wishOf⟩ ⟨(Nat.le_of_ble_eq_true rfl), (Nat.le_of_ble_eq_true rfl)⟩ rfl hl.1 rfl (zw_le zw_nil (Nat.le_of_ble_eq_true rfl)) dL_law_924) (fun v924 => ?_)
                              refine rk_ofs (fun _ _ _ _ _ k => lr_istore hx hb dL_law_927 hl (Nat.le_of_ble_eq_true rfl) [0, 1, 2, 3, 4, 5, 6] rfl ⟨rfl, ⟨trivial, ⟨trivial, ⟨trivial, ⟨trivial, ⟨trivial, ⟨trivial, trivial⟩⟩⟩⟩⟩⟩⟩ k) (fun ls hl => ?_)
                              refine rk_of (fun _ _ _ _ _ k => lr_aload_n hx hb dL_law_929 rfl (lv_at hl 4 rfl) k) ?_
                              refine rk_callI hX (cl_V (rest := []) (av := []) C (hc_X3 H) (ct_X3_thrown H p2) (lw_V q2647 q2648 q2649 q112 q2650) ⟨rfl, hd_X3_thrown⟩ ⟨(Nat.le_of_ble_eq_true rfl), (Nat.le_of_ble_eq_true rfl)⟩ rfl hl.1 rfl (zw_le zw_nil (Nat.le_of_ble_eq_true rfl)) dL_law_930) (fun v930 => ?_)
                              refine rk_ite (fun _ _ _ _ _ k1 k2 => lv_iload hx hb dL_law_933 (lv_at hl 1 rfl) (lv_icmp_eq (tgt := 940) hx hb dL_law_935 (by decide) k1 k2)) (fun c_935 => ?_) (fun c_935 => ?_)
                              · refine rk_ite (fun _ _ _ _ _ k1 k2 => lv_iload hx hb dL_law_940 (lv_at hl 1 rfl) (lv_if_ne (tgt := 957) hx hb dL_law_942 (by decide) k2 k1)) (fun c_942 => ?_) (fun c_942 => ?_)
                                · refine rk_of (fun _ _ _ _ _ k => lr_aload_n hx hb dL_law_945 rfl (lv_at hl 5 rfl) (lv_iconst (v := 0) hx hb dL_law_946 rfl k)) ?_
                                  refine rk_lald C dL_law_947 (fun v947 => ?_)
                                  refine rk_ite (fun _ _ _ _ _ k1 k2 => lv_iload hx hb dL_law_948 (lv_at hl 0 rfl) (lv_i2l hx hb dL_law_950 rfl (W.lcmp hx hb dL_law_951 (lv_if_eq (tgt := 957) hx hb dL_law_952 (by decide) k1 k2)))) (fun c_952 => ?_) (fun c_952 => ?_)
                                  · refine rk_of (fun _ _ _ _ _ k => lv_goto (tgt := 2457) hx hb dL_law_957 (by decide) k) ?_
                                    exact hJ2457 () ls (lv_sub hl [2, 3, 4, 5, 6, 7] rfl)
                                  · refine rk_of (fun _ _ _ _ _ k => lv_iconst (v := 0) hx hb dL_law_955 rfl k) ?_
                                    refine rk_inr ?_
                                    exact hR _ _ (rf_iretL C rfl dL_law_956)
                                · refine rk_of (fun _ _ _ _ _ k => lv_goto (tgt := 2457) hx hb dL_law_957 (by decide) k) ?_
                                  exact hJ2457 () ls (lv_sub hl [2, 3, 4, 5, 6, 7] rfl)
                              · refine rk_of (fun _ _ _ _ _ k => lv_iconst (v := 0) hx hb dL_law_938 rfl k) ?_
                                refine rk_inr ?_
                                exact hR _ _ (rf_iretL C rfl dL_law_939)
                            · refine rk_case (fun c_44_11 => ?_) (fun c_44_11 => ?_)
                              · refine rk_of (fun _ _ _ _ _ k => by rw [c_44_11]; exact lv_tableIn (off := 916) (tgt := 960) hx hb dL_law_44 (by decide) (by decide) rfl (by decide) k) ?_
                                refine rk_of (fun _ _ _ _ _ k => lr_aload_n hx hb dL_law_960 rfl (lv_at hl 1 rfl) (lr_aload_n hx hb dL_law_961 rfl (lv_at hl 0 rfl) (lv_iload hx hb dL_law_962 (lv_at hl 5 rfl) (lv_iconst (v := 1) hx hb dL_law_964 rfl (lv_iadd hx hb dL_law_965 k))))) ?_
                                refine rk_iald C dL_law_966 (fun v966 => ?_)
                                refine rk_of (fun _ _ _ _ _ k => lr_aload_n hx hb dL_law_967 rfl (lv_at hl 3 rfl) k) ?_
                                refine rk_callI hX (cl_SX (rest := []) C (ct_X0_over H p1 v966 p3) (lw_SW q1676 q1677 q100 q1678) hd_X0_over ⟨(Nat.le_of_ble_eq_true rfl), (Nat.le_of_ble_eq_true rfl)⟩ rfl hl.1 rfl (zw_le zw_nil (Nat.le_of_ble_eq_true rfl)) dL_law_968) (fun v968 => ?_)
                                refine rk_ofs (fun _ _ _ _ _ k => lr_istore hx hb dL_law_971 hl (Nat.le_of_ble_eq_true rfl) [0, 1, 2, 3, 4, 5] rfl ⟨trivial, ⟨trivial, ⟨trivial, ⟨trivial, ⟨trivial, ⟨rfl, trivial⟩⟩⟩⟩⟩⟩ k) (fun ls hl => ?_)
                                refine rk_of (fun _ _ _ _ _ k => lr_aload_n hx hb dL_law_973 rfl (lv_at hl 3 rfl) (lr_aload_n hx hb dL_law_974 rfl (lv_at hl 1 rfl) (lv_iload hx hb dL_law_975 (lv_at hl 6 rfl) (lv_iconst (v := 1) hx hb dL_law_977 rfl (lv_iadd hx hb dL_law_978 k))))) ?_
                                refine rk_iald C dL_law_979 (fun v979 => ?_)
                                refine rk_callI hX (cl_V (rest := []) (av := [.int v979]) C (hc_X3 H) (ct_X3_over H p2 v979) (lw_V q2818 q2819 q2820 q112 q2821) ⟨rfl, hd_X3_over⟩ ⟨(Nat.le_of_ble_eq_true rfl), (Nat.le_of_ble_eq_true rfl)⟩ rfl hl.1 rfl (zw_le zw_nil (Nat.le_of_ble_eq_true rfl)) dL_law_980) (fun v980 => ?_)
                                refine rk_ofs (fun _ _ _ _ _ k => lr_istore hx hb dL_law_983 hl (Nat.le_of_ble_eq_true rfl) [0, 1, 2, 3, 4, 5, 6] rfl ⟨rfl, ⟨trivial, ⟨trivial, ⟨trivial, ⟨trivial, ⟨trivial, ⟨trivial, trivial⟩⟩⟩⟩⟩⟩⟩ k) (fun ls hl => ?_)
                                refine rk_of (fun _ _ _ _ _ k => lr_aload_n hx hb dL_law_985 rfl (lv_at hl 4 rfl) k) ?_
                                refine rk_callI hX (cl_V (rest := []) (av := []) C (hc_X3 H) (ct_X3_thrown H p2) (lw_V q2647 q2648 q2649 q112 q2650) ⟨rfl, hd_X3_thrown⟩ ⟨(Nat.le_of_ble_eq_true rfl), (Nat.le_of_ble_eq_true rfl)⟩ rfl hl.1 rfl (zw_le zw_nil (Nat.le_of_ble_eq_true rfl)) dL_law_986) (fun v986 => ?_)
                                refine rk_ite (fun _ _ _ _ _ k1 k2 => lv_iload hx hb dL_law_989 (lv_at hl 1 rfl) (lv_icmp_eq (tgt := 996) hx hb dL_law_991 (by decide) k1 k2)) (fun c_991 => ?_) (fun c_991 => ?_)
                                · refine rk_ite (fun _ _ _ _ _ k1 k2 => lv_iload hx hb dL_law_996 (lv_at hl 1 rfl) (lv_if_ne (tgt := 1013) hx hb dL_law_998 (by decide) k2 k1)) (fun c_998 => ?_) (fun c_998 => ?_)
                                  · refine rk_of (fun _ _ _ _ _ k => lr_aload_n hx hb dL_law_1001 rfl (lv_at hl 5 rfl) (lv_iconst (v := 0) hx hb dL_law_1002 rfl k)) ?_
                                    refine rk_lald C dL_law_1003 (fun v1003 => ?_)
                                    refine rk_ite (fun _ _ _ _ _ k1 k2 => lv_iload hx hb dL_law_1004 (lv_at hl 0 rfl) (lv_i2l hx hb dL_law_1006 rfl (W.lcmp hx hb dL_law_1007 (lv_if_eq (tgt := 1013) hx hb dL_law_1008 (by decide) k1 k2)))) (fun c_1008 => ?_) (fun c_1008 => ?_)
                                    · refine rk_of (fun _ _ _ _ _ k => lv_goto (tgt := 2457) hx hb dL_law_1013 (by decide) k) ?_
                                      exact hJ2457 () ls (lv_sub hl [2, 3, 4, 5, 6, 7] rfl)
                                    · refine rk_of (fun _ _ _ _ _ k => lv_iconst (v := 0) hx hb dL_law_1011 rfl k) ?_
                                      refine rk_inr ?_
                                      exact hR _ _ (rf_iretL C rfl dL_law_1012)
                                  · refine rk_of (fun _ _ _ _ _ k => lv_goto (tgt := 2457) hx hb dL_law_1013 (by decide) k) ?_
                                    exact hJ2457 () ls (lv_sub hl [2, 3, 4, 5, 6, 7] rfl)
                                · refine rk_of (fun _ _ _ _ _ k => lv_iconst (v := 0) hx hb dL_law_994 rfl k) ?_
                                  refine rk_inr ?_
                                  exact hR _ _ (rf_iretL C rfl dL_law_995)
                              · refine rk_case (fun c_44_12 => ?_) (fun c_44_12 => ?_)
                                · refine rk_of (fun _ _ _ _ _ k => by rw [c_44_12]; exact lv_tableIn (off := 972) (tgt := 1016) hx hb dL_law_44 (by decide) (by decide) rfl (by decide) k) ?_
                                  refine rk_of (fun _ _ _ _ _ k => lr_aload_n hx hb dL_law_1016 rfl (lv_at hl 1 rfl) (lr_aload_n hx hb dL_law_1017 rfl (lv_at hl 0 rfl) (lv_iload hx hb dL_law_1018 (lv_at hl 5 rfl) (lv_iconst (v := 1) hx hb dL_law_1020 rfl (lv_iadd hx hb dL_law_1021 k))))) ?_
                                  refine rk_iald C dL_law_1022 (fun v1022 => ?_)
                                  refine rk_of (fun _ _ _ _ _ k => lr_aload_n hx hb dL_law_1023 rfl (lv_at hl 3 rfl) k) ?_
                                  refine rk_callI hX (cl_SX (rest := []) C (ct_X0_overAgain H p1 v1022 p3) (lw_SW q1683 q1684 q100 q1685) hd_X0_overAgain ⟨(Nat.le_of_ble_eq_true rfl), (Nat.le_of_ble_eq_true rfl)⟩ rfl hl.1 rfl (zw_le zw_nil (Nat.le_of_ble_eq_true rfl)) dL_law_1024) (fun v1024 => ?_)
                                  refine rk_ofs (fun _ _ _ _ _ k => lr_istore hx hb dL_law_1027 hl (Nat.le_of_ble_eq_true rfl) [0, 1, 2, 3, 4, 5] rfl ⟨trivial, ⟨trivial, ⟨trivial, ⟨trivial, ⟨trivial, ⟨rfl, trivial⟩⟩⟩⟩⟩⟩ k) (fun ls hl => ?_)
                                  refine rk_of (fun _ _ _ _ _ k => lr_aload_n hx hb dL_law_1029 rfl (lv_at hl 3 rfl) (lr_aload_n hx hb dL_law_1030 rfl (lv_at hl 1 rfl) (lv_iload hx hb dL_law_1031 (lv_at hl 6 rfl) (lv_iconst (v := 1) hx hb dL_law_1033 rfl (lv_iadd hx hb dL_law_1034 k))))) ?_
                                  refine rk_iald C dL_law_1035 (fun v1035 => ?_)
                                  refine rk_callI hX (cl_V (rest := []) (av := [.int v1035]) C (hc_X3 H) (ct_X3_overAgain H p2 v1035) (lw_V q2826 q2827 q2828 q112 q2829) ⟨rfl, hd_X3_overAgain⟩ ⟨(Nat.le_of_ble_eq_true rfl), (Nat.le_of_ble_eq_true rfl)⟩ rfl hl.1 rfl (zw_le zw_nil (Nat.le_of_ble_eq_true rfl)) dL_law_1036) (fun v1036 => ?_)
                                  refine rk_ofs (fun _ _ _ _ _ k => lr_istore hx hb dL_law_1039 hl (Nat.le_of_ble_eq_true rfl) [0, 1, 2, 3, 4, 5, 6] rfl ⟨rfl, ⟨trivial, ⟨trivial, ⟨trivial, ⟨trivial, ⟨trivial, ⟨trivial, trivial⟩⟩⟩⟩⟩⟩⟩ k) (fun ls hl => ?_)
                                  refine rk_of (fun _ _ _ _ _ k => lr_aload_n hx hb dL_law_1041 rfl (lv_at hl 4 rfl) k) ?_
                                  refine rk_callI hX (cl_V (rest := []) (av := []) C (hc_X3 H) (ct_X3_thrown H p2) (lw_V q2647 q2648 q2649 q112 q2650) ⟨rfl, hd_X3_thrown⟩ ⟨(Nat.le_of_ble_eq_true rfl), (Nat.le_of_ble_eq_true rfl)⟩ rfl hl.1 rfl (zw_le zw_nil (Nat.le_of_ble_eq_true rfl)) dL_law_1042) (fun v1042 => ?_)
                                  refine rk_ite (fun _ _ _ _ _ k1 k2 => lv_iload hx hb dL_law_1045 (lv_at hl 1 rfl) (lv_icmp_eq (tgt := 1052) hx hb dL_law_1047 (by decide) k1 k2)) (fun c_1047 => ?_) (fun c_1047 => ?_)
                                  · refine rk_ite (fun _ _ _ _ _ k1 k2 => lv_iload hx hb dL_law_1052 (lv_at hl 1 rfl) (lv_if_ne (tgt := 1069) hx hb dL_law_1054 (by decide) k2 k1)) (fun c_1054 => ?_) (fun c_1054 => ?_)
                                    · refine rk_of (fun _ _ _ _ _ k => lr_aload_n hx hb dL_law_1057 rfl (lv_at hl 5 rfl) (lv_iconst (v := 0) hx hb dL_law_1058 rfl k)) ?_
                                      refine rk_lald C dL_law_1059 (fun v1059 => ?_)
                                      refine rk_ite (fun _ _ _ _ _ k1 k2 => lv_iload hx hb dL_law_1060 (lv_at hl 0 rfl) (lv_i2l hx hb dL_law_1062 rfl (W.lcmp hx hb dL_law_1063 (lv_if_eq (tgt := 1069) hx hb dL_law_1064 (by decide) k1 k2)))) (fun c_1064 => ?_) (fun c_1064 => ?_)
                                      · refine rk_of (fun _ _ _ _ _ k => lv_goto (tgt := 2457) hx hb dL_law_1069 (by decide) k) ?_
                                        exact hJ2457 () ls (lv_sub hl [2, 3, 4, 5, 6, 7] rfl)
                                      · refine rk_of (fun _ _ _ _ _ k => lv_iconst (v := 0) hx hb dL_law_1067 rfl k) ?_
                                        refine rk_inr ?_
                                        exact hR _ _ (rf_iretL C rfl dL_law_1068)
                                    · refine rk_of (fun _ _ _ _ _ k => lv_goto (tgt := 2457) hx hb dL_law_1069 (by decide) k) ?_
                                      exact hJ2457 () ls (lv_sub hl [2, 3, 4, 5, 6, 7] rfl)
                                  · refine rk_of (fun _ _ _ _ _ k => lv_iconst (v := 0) hx hb dL_law_1050 rfl k) ?_
                                    refine rk_inr ?_
                                    exact hR _ _ (rf_iretL C rfl dL_law_1051)
                                · refine rk_case (fun c_44_13 => ?_) (fun c_44_13 => ?_)
                                  · refine rk_of (fun _ _ _ _ _ k => by rw [c_44_13]; exact lv_tableIn (off := 1028) (tgt := 1072) hx hb dL_law_44 (by decide) (by decide) rfl (by decide) k) ?_
                                    refine rk_of (fun _ _ _ _ _ k => lr_aload_n hx hb dL_law_1072 rfl (lv_at hl 1 rfl) (lr_aload_n hx hb dL_law_1073 rfl (lv_at hl 3 rfl) k)) ?_
                                    refine rk_callI hX (cl_SX (rest := []) C (ct_X0_busiest H p1 p3) (lw_SW q1694 q1695 q100 q1696) hd_X0_busiest ⟨(Nat.le_of_ble_eq_true rfl), (Nat.le_of_ble_eq_true rfl)⟩ rfl hl.1 rfl (zw_le zw_nil (Nat.le_of_ble_eq_true rfl)) dL_law_1074) (fun v1074 => ?_)
                                    refine rk_ofs (fun _ _ _ _ _ k => lr_istore hx hb dL_law_1077 hl (Nat.le_of_ble_eq_true rfl) [0, 1, 2, 3, 4, 5] rfl ⟨trivial, ⟨trivial, ⟨trivial, ⟨trivial, ⟨trivial, ⟨rfl, trivial⟩⟩⟩⟩⟩⟩ k) (fun ls hl => ?_)
                                    refine rk_of (fun _ _ _ _ _ k => lr_aload_n hx hb dL_law_1079 rfl (lv_at hl 3 rfl) k) ?_
                                    refine rk_callI hX (cl_V (rest := []) (av := []) C (hc_X3 H) (ct_X3_busiest H p2) (lw_V q2830 q2831 q2832 q112 q2833) ⟨rfl, hd_X3_busiest⟩ ⟨(Nat.le_of_ble_eq_true rfl), (Nat.le_of_ble_eq_true rfl)⟩ rfl hl.1 rfl (zw_le zw_nil (Nat.le_of_ble_eq_true rfl)) dL_law_1080) (fun v1080 => ?_)
                                    refine rk_ofs (fun _ _ _ _ _ k => lr_istore hx hb dL_law_1083 hl (Nat.le_of_ble_eq_true rfl) [0, 1, 2, 3, 4, 5, 6] rfl ⟨rfl, ⟨trivial, ⟨trivial, ⟨trivial, ⟨trivial, ⟨trivial, ⟨trivial, trivial⟩⟩⟩⟩⟩⟩⟩ k) (fun ls hl => ?_)
                                    refine rk_of (fun _ _ _ _ _ k => lr_aload_n hx hb dL_law_1085 rfl (lv_at hl 4 rfl) k) ?_
                                    refine rk_callI hX (cl_V (rest := []) (av := []) C (hc_X3 H) (ct_X3_thrown H p2) (lw_V q2647 q2648 q2649 q112 q2650) ⟨rfl, hd_X3_thrown⟩ ⟨(Nat.le_of_ble_eq_true rfl), (Nat.le_of_ble_eq_true rfl)⟩ rfl hl.1 rfl (zw_le zw_nil (Nat.le_of_ble_eq_true rfl)) dL_law_1086) (fun v1086 => ?_)
                                    refine rk_ite (fun _ _ _ _ _ k1 k2 => lv_iload hx hb dL_law_1089 (lv_at hl 1 rfl) (lv_icmp_eq (tgt := 1096) hx hb dL_law_1091 (by decide) k1 k2)) (fun c_1091 => ?_) (fun c_1091 => ?_)
                                    · refine rk_ite (fun _ _ _ _ _ k1 k2 => lv_iload hx hb dL_law_1096 (lv_at hl 1 rfl) (lv_if_ne (tgt := 1113) hx hb dL_law_1098 (by decide) k2 k1)) (fun c_1098 => ?_) (fun c_1098 => ?_)
                                      · refine rk_of (fun _ _ _ _ _ k => lr_aload_n hx hb dL_law_1101 rfl (lv_at hl 5 rfl) (lv_iconst (v := 0) hx hb dL_law_1102 rfl k)) ?_
                                        refine rk_lald C dL_law_1103 (fun v1103 => ?_)
                                        refine rk_ite (fun _ _ _ _ _ k1 k2 => lv_iload hx hb dL_law_1104 (lv_at hl 0 rfl) (lv_i2l hx hb dL_law_1106 rfl (W.lcmp hx hb dL_law_1107 (lv_if_eq (tgt := 1113) hx hb dL_law_1108 (by decide) k1 k2)))) (fun c_1108 => ?_) (fun c_1108 => ?_)
                                        · refine rk_of (fun _ _ _ _ _ k => lv_goto (tgt := 2457) hx hb dL_law_1113 (by decide) k) ?_
                                          exact hJ2457 () ls (lv_sub hl [2, 3, 4, 5, 6, 7] rfl)
                                        · refine rk_of (fun _ _ _ _ _ k => lv_iconst (v := 0) hx hb dL_law_1111 rfl k) ?_
                                          refine rk_inr ?_
                                          exact hR _ _ (rf_iretL C rfl dL_law_1112)
                                      · refine rk_of (fun _ _ _ _ _ k => lv_goto (tgt := 2457) hx hb dL_law_1113 (by decide) k) ?_
                                        exact hJ2457 () ls (lv_sub hl [2, 3, 4, 5, 6, 7] rfl)
                                    · refine rk_of (fun _ _ _ _ _ k => lv_iconst (v := 0) hx hb dL_law_1094 rfl k) ?_
                                      refine rk_inr ?_
                                      exact hR _ _ (rf_iretL C rfl dL_law_1095)
                                  · refine rk_case (fun c_44_14 => ?_) (fun c_44_14 => ?_)
                                    · refine rk_of (fun _ _ _ _ _ k => by rw [c_44_14]; exact lv_tableIn (off := 1072) (tgt := 1116) hx hb dL_law_44 (by decide) (by decide) rfl (by decide) k) ?_
                                      refine rk_of (fun _ _ _ _ _ k => lr_aload_n hx hb dL_law_1116 rfl (lv_at hl 1 rfl) k) ?_
                                      refine rk_callI hX (cl_V (rest := []) (av := []) C (hc_X1 H) (ct_X1_needs H p1) (lw_V q293 q294 q295 q101 q296) ⟨rfl, hd_X1_needs⟩ ⟨(Nat.le_of_ble_eq_true rfl), (Nat.le_of_ble_eq_true rfl)⟩ rfl hl.1 rfl (zw_le zw_nil (Nat.le_of_ble_eq_true rfl)) dL_law_1117) (fun v1117 => ?_)
                                      refine rk_of (fun _ _ _ _ _ k => lr_aload_n hx hb dL_law_1120 rfl (lv_at hl 2 rfl) k) ?_
                                      refine rk_callI hX (cl_V (rest := [.int v1117]) (av := []) C (hc_X3 H) (ct_X3_needs H p2) (lw_V q2834 q2835 q2836 q112 q2837) ⟨rfl, hd_X3_needs⟩ ⟨(Nat.le_of_ble_eq_true rfl), (Nat.le_of_ble_eq_true rfl)⟩ rfl hl.1 rfl (zw_le (zw_I zw_nil) (Nat.le_of_ble_eq_true rfl)) dL_law_1121) (fun v1121 => ?_)
                                      refine rk_ite (fun _ _ _ _ _ k1 k2 => lv_icmp_eq (tgt := 2457) hx hb dL_law_1124 (by decide) k1 k2) (fun c_1124 => ?_) (fun c_1124 => ?_)
                                      · exact hJ2457 () ls (lv_sub hl [0, 1, 2, 3, 4, 5] rfl)
                                      · refine rk_of (fun _ _ _ _ _ k => lv_iconst (v := 0) hx hb dL_law_1127 rfl k) ?_
                                        refine rk_inr ?_
                                        exact hR _ _ (rf_iretL C rfl dL_law_1128)
                                    · refine rk_case (fun c_44_15 => ?_) (fun c_44_15 => ?_)
                                      · refine rk_of (fun _ _ _ _ _ k => by rw [c_44_15]; exact lv_tableIn (off := 1085) (tgt := 1129) hx hb dL_law_44 (by decide) (by decide) rfl (by decide) k) ?_
                                        refine rk_of (fun _ _ _ _ _ k => lr_aload_n hx hb dL_law_1129 rfl (lv_at hl 1 rfl) k) ?_
                                        refine rk_callI hX (cl_V (rest := []) (av := []) C (hc_X1 H) (ct_X1_needsAgain H p1) (lw_V q1045 q1046 q1047 q101 q1048) ⟨rfl, hd_X1_needsAgain⟩ ⟨(Nat.le_of_ble_eq_true rfl), (Nat.le_of_ble_eq_true rfl)⟩ rfl hl.1 rfl (zw_le zw_nil (Nat.le_of_ble_eq_true rfl)) dL_law_1130) (fun v1130 => ?_)
                                        refine rk_of (fun _ _ _ _ _ k => lr_aload_n hx hb dL_law_1133 rfl (lv_at hl 2 rfl) k) ?_
                                        refine rk_callI hX (cl_V (rest := [.int v1130]) (av := []) C (hc_X3 H) (ct_X3_needsAgain H p2) (lw_V q2838 q2839 q2840 q112 q2841) ⟨rfl, hd_X3_needsAgain⟩ ⟨(Nat.le_of_ble_eq_true rfl), (Nat.le_of_ble_eq_true rfl)⟩ rfl hl.1 rfl (zw_le (zw_I zw_nil) (Nat.le_of_ble_eq_true rfl)) dL_law_1134) (fun v1134 => ?_)
                                        refine rk_ite (fun _ _ _ _ _ k1 k2 => lv_icmp_eq (tgt := 2457) hx hb dL_law_1137 (by decide) k1 k2) (fun c_1137 => ?_) (fun c_1137 => ?_)
                                        · exact hJ2457 () ls (lv_sub hl [0, 1, 2, 3, 4, 5] rfl)
                                        · refine rk_of (fun _ _ _ _ _ k => lv_iconst (v := 0) hx hb dL_law_1140 rfl k) ?_
                                          refine rk_inr ?_
                                          exact hR _ _ (rf_iretL C rfl dL_law_1141)
                                      · refine rk_case (fun c_44_16 => ?_) (fun c_44_16 => ?_)
                                        · refine rk_of (fun _ _ _ _ _ k => by rw [c_44_16]; exact lv_tableIn (off := 1098) (tgt := 1142) hx hb dL_law_44 (by decide) (by decide) rfl (by decide) k) ?_
                                          refine rk_of (fun _ _ _ _ _ k => lr_aload_n hx hb dL_law_1142 rfl (lv_at hl 1 rfl) (lr_aload_n hx hb dL_law_1143 rfl (lv_at hl 3 rfl) k)) ?_
                                          refine rk_callI hX (cl_SX (rest := []) C (ct_X0_allot H p1 p3) (lw_SW q1722 q1723 q100 q1724) hd_X0_allot ⟨(Nat.le_of_ble_eq_true rfl), (Nat.le_of_ble_eq_true rfl)⟩ rfl hl.1 rfl (zw_le zw_nil (Nat.le_of_ble_eq_true rfl)) dL_law_1144) (fun v1144 => ?_)
                                          refine rk_ofs (fun _ _ _ _ _ k => lr_istore hx hb dL_law_1147 hl (Nat.le_of_ble_eq_true rfl) [0, 1, 2, 3, 4, 5] rfl ⟨trivial, ⟨trivial, ⟨trivial, ⟨trivial, ⟨trivial, ⟨rfl, trivial⟩⟩⟩⟩⟩⟩ k) (fun ls hl => ?_)
                                          refine rk_of (fun _ _ _ _ _ k => lr_aload_n hx hb dL_law_1149 rfl (lv_at hl 3 rfl) k) ?_
                                          refine rk_callI hX (cl_V (rest := []) (av := []) C (hc_X3 H) (ct_X3_allot H p2) (lw_V q2842 q2843 q2844 q112 q2845) ⟨rfl, hd_X3_allot⟩ ⟨(Nat.le_of_ble_eq_true rfl), (Nat.le_of_ble_eq_true rfl)⟩ rfl hl.1 rfl (zw_le zw_nil (Nat.le_of_ble_eq_true rfl)) dL_law_1150) (fun v1150 => ?_)
                                          refine rk_ofs (fun _ _ _ _ _ k => lr_istore hx hb dL_law_1153 hl (Nat.le_of_ble_eq_true rfl) [0, 1, 2, 3, 4, 5, 6] rfl ⟨rfl, ⟨trivial, ⟨trivial, ⟨trivial, ⟨trivial, ⟨trivial, ⟨trivial, trivial⟩⟩⟩⟩⟩⟩⟩ k) (fun ls hl => ?_)
                                          refine rk_of (fun _ _ _ _ _ k => lr_aload_n hx hb dL_law_1155 rfl (lv_at hl 4 rfl) k) ?_
                                          refine rk_callI hX (cl_V (rest := []) (av := []) C (hc_X3 H) (ct_X3_thrown H p2) (lw_V q2647 q2648 q2649 q112 q2650) ⟨rfl, hd_X3_thrown⟩ ⟨(Nat.le_of_ble_eq_true rfl), (Nat.le_of_ble_eq_true rfl)⟩ rfl hl.1 rfl (zw_le zw_nil (Nat.le_of_ble_eq_true rfl)) dL_law_1156) (fun v1156 => ?_)
                                          refine rk_ite (fun _ _ _ _ _ k1 k2 => lv_iload hx hb dL_law_1159 (lv_at hl 1 rfl) (lv_icmp_eq (tgt := 1166) hx hb dL_law_1161 (by decide) k1 k2)) (fun c_1161 => ?_) (fun c_1161 => ?_)
                                          · refine rk_ite (fun _ _ _ _ _ k1 k2 => lv_iload hx hb dL_law_1166 (lv_at hl 1 rfl) (lv_if_ne (tgt := 1183) hx hb dL_law_1168 (by decide) k2 k1)) (fun c_1168 => ?_) (fun c_1168 => ?_)
                                            · refine rk_of (fun _ _ _ _ _ k => lr_aload_n hx hb dL_law_1171 rfl (lv_at hl 5 rfl) (lv_iconst (v := 0) hx hb dL_law_1172 rfl k)) ?_
                                              refine rk_lald C dL_law_1173 (fun v1173 => ?_)
                                              refine rk_ite (fun _ _ _ _ _ k1 k2 => lv_iload hx hb dL_law_1174 (lv_at hl 0 rfl) (lv_i2l hx hb dL_law_1176 rfl (W.lcmp hx hb dL_law_1177 (lv_if_eq (tgt := 1183) hx hb dL_law_1178 (by decide) k1 k2)))) (fun c_1178 => ?_) (fun c_1178 => ?_)
                                              · refine rk_of (fun _ _ _ _ _ k => lv_goto (tgt := 2457) hx hb dL_law_1183 (by decide) k) ?_
                                                exact hJ2457 () ls (lv_sub hl [2, 3, 4, 5, 6, 7] rfl)
                                              · refine rk_of (fun _ _ _ _ _ k => lv_iconst (v := 0) hx hb dL_law_1181 rfl k) ?_
                                                refine rk_inr ?_
                                                exact hR _ _ (rf_iretL C rfl dL_law_1182)
                                            · refine rk_of (fun _ _ _ _ _ k => lv_goto (tgt := 2457) hx hb dL_law_1183 (by decide) k) ?_
                                              exact hJ2457 () ls (lv_sub hl [2, 3, 4, 5, 6, 7] rfl)
                                          · refine rk_of (fun _ _ _ _ _ k => lv_iconst (v := 0) hx hb dL_law_1164 rfl k) ?_
                                            refine rk_inr ?_
                                            exact hR _ _ (rf_iretL C rfl dL_law_1165)
                                        · refine rk_case (fun c_44_17 => ?_) (fun c_44_17 => ?_)
                                          · refine rk_of (fun _ _ _ _ _ k => by rw [c_44_17]; exact lv_tableIn (off := 1142) (tgt := 1186) hx hb dL_law_44 (by decide) (by decide) rfl (by decide) k) ?_
                                            refine rk_of (fun _ _ _ _ _ k => lr_aload_n hx hb dL_law_1186 rfl (lv_at hl 1 rfl) (lr_aload_n hx hb dL_law_1187 rfl (lv_at hl 0 rfl) (lv_iload hx hb dL_law_1188 (lv_at hl 5 rfl) (lv_iconst (v := 1) hx hb dL_law_1190 rfl (lv_iadd hx hb dL_law_1191 k))))) ?_
                                            refine rk_iald C dL_law_1192 (fun v1192 => ?_)
                                            refine rk_of (fun _ _ _ _ _ k => lr_aload_n hx hb dL_law_1193 rfl (lv_at hl 0 rfl) (lv_iload hx hb dL_law_1194 (lv_at hl 5 rfl) (lv_iconst (v := 2) hx hb dL_law_1196 rfl (lv_iadd hx hb dL_law_1197 k)))) ?_
                                            refine rk_iald C dL_law_1198 (fun v1198 => ?_)
                                            refine rk_of (fun _ _ _ _ _ k => lr_aload_n hx hb dL_law_1199 rfl (lv_at hl 3 rfl) k) ?_
                                            refine rk_callI hX (cl_SX (rest := []) C (ct_X0_boxOf H p1 v1192 v1198 p3) (lw_SW q1775 q1776 q100 q1777) hd_X0_boxOf ⟨(Nat.le_of_ble_eq_true rfl), (Nat.le_of_ble_eq_true rfl)⟩ rfl hl.1 rfl (zw_le zw_nil (Nat.le_of_ble_eq_true rfl)) dL_law_1200) (fun v1200 => ?_)
                                            refine rk_ofs (fun _ _ _ _ _ k => lr_istore hx hb dL_law_1203 hl (Nat.le_of_ble_eq_true rfl) [0, 1, 2, 3, 4, 5] rfl ⟨trivial, ⟨trivial, ⟨trivial, ⟨trivial, ⟨trivial, ⟨rfl, trivial⟩⟩⟩⟩⟩⟩ k) (fun ls hl => ?_)
                                            refine rk_of (fun _ _ _ _ _ k => lr_aload_n hx hb dL_law_1205 rfl (lv_at hl 3 rfl) (lr_aload_n hx hb dL_law_1206 rfl (lv_at hl 1 rfl) (lv_iload hx hb dL_law_1207 (lv_at hl 6 rfl) (lv_iconst (v := 1) hx hb dL_law_1209 rfl (lv_iadd hx hb dL_law_1210 k))))) ?_
                                            refine rk_iald C dL_law_1211 (fun v1211 => ?_)
                                            refine rk_of (fun _ _ _ _ _ k => lr_aload_n hx hb dL_law_1212 rfl (lv_at hl 1 rfl) (lv_iload hx hb dL_law_1213 (lv_at hl 6 rfl) (lv_iconst (v := 2) hx hb dL_law_1215 rfl (lv_iadd hx hb dL_law_1216 k)))) ?_
                                            refine rk_iald C dL_law_1217 (fun v1217 => ?_)
                                            refine rk_callI hX (cl_V (rest := []) (av := [.int v1211, .int v1217]) C (hc_X3 H) (ct_X3_boxOf H p2 v1211 v1217) (lw_V q2862 q2863 q2864 q112 q2865) ⟨rfl, hd_X3_boxOf⟩ ⟨(Nat.le_of_ble_eq_true rfl), (Nat.le_of_ble_eq_true rfl)⟩ rfl hl.1 rfl (zw_le zw_nil (Nat.le_of_ble_eq_true rfl)) dL_law_1218) (fun v1218 => ?_)
                                            refine rk_ofs (fun _ _ _ _ _ k => lr_istore hx hb dL_law_1221 hl (Nat.le_of_ble_eq_true rfl) [0, 1, 2, 3, 4, 5, 6] rfl ⟨rfl, ⟨trivial, ⟨trivial, ⟨trivial, ⟨trivial, ⟨trivial, ⟨trivial, trivial⟩⟩⟩⟩⟩⟩⟩ k) (fun ls hl => ?_)
                                            refine rk_of (fun _ _ _ _ _ k => lr_aload_n hx hb dL_law_1223 rfl (lv_at hl 4 rfl) k) ?_
                                            refine rk_callI hX (cl_V (rest := []) (av := []) C (hc_X3 H) (ct_X3_thrown H p2) (lw_V q2647 q2648 q2649 q112 q2650) ⟨rfl, hd_X3_thrown⟩ ⟨(Nat.le_of_ble_eq_true rfl), (Nat.le_of_ble_eq_true rfl)⟩ rfl hl.1 rfl (zw_le zw_nil (Nat.le_of_ble_eq_true rfl)) dL_law_1224) (fun v1224 => ?_)
                                            refine rk_ite (fun _ _ _ _ _ k1 k2 => lv_iload hx hb dL_law_1227 (lv_at hl 1 rfl) (lv_icmp_eq (tgt := 1234) hx hb dL_law_1229 (by decide) k1 k2)) (fun c_1229 => ?_) (fun c_1229 => ?_)
                                            · refine rk_ite (fun _ _ _ _ _ k1 k2 => lv_iload hx hb dL_law_1234 (lv_at hl 1 rfl) (lv_if_ne (tgt := 1251) hx hb dL_law_1236 (by decide) k2 k1)) (fun c_1236 => ?_) (fun c_1236 => ?_)
                                              · refine rk_of (fun _ _ _ _ _ k => lr_aload_n hx hb dL_law_1239 rfl (lv_at hl 5 rfl) (lv_iconst (v := 0) hx hb dL_law_1240 rfl k)) ?_
                                                refine rk_lald C dL_law_1241 (fun v1241 => ?_)
                                                refine rk_ite (fun _ _ _ _ _ k1 k2 => lv_iload hx hb dL_law_1242 (lv_at hl 0 rfl) (lv_i2l hx hb dL_law_1244 rfl (W.lcmp hx hb dL_law_1245 (lv_if_eq (tgt := 1251) hx hb dL_law_1246 (by decide) k1 k2)))) (fun c_1246 => ?_) (fun c_1246 => ?_)
                                                · refine rk_of (fun _ _ _ _ _ k => lv_goto (tgt := 2457) hx hb dL_law_1251 (by decide) k) ?_
                                                  exact hJ2457 () ls (lv_sub hl [2, 3, 4, 5, 6, 7] rfl)
                                                · refine rk_of (fun _ _ _ _ _ k => lv_iconst (v := 0) hx hb dL_law_1249 rfl k) ?_
                                                  refine rk_inr ?_
                                                  exact hR _ _ (rf_iretL C rfl dL_law_1250)
                                              · refine rk_of (fun _ _ _ _ _ k => lv_goto (tgt := 2457) hx hb dL_law_1251 (by decide) k) ?_
                                                exact hJ2457 () ls (lv_sub hl [2, 3, 4, 5, 6, 7] rfl)
                                            · refine rk_of (fun _ _ _ _ _ k => lv_iconst (v := 0) hx hb dL_law_1232 rfl k) ?_
                                              refine rk_inr ?_
                                              exact hR _ _ (rf_iretL C rfl dL_law_1233)
                                          · refine rk_case (fun c_44_18 => ?_) (fun c_44_18 => ?_)
                                            · refine rk_of (fun _ _ _ _ _ k => by rw [c_44_18]; exact lv_tableIn (off := 1210) (tgt := 1254) hx hb dL_law_44 (by decide) (by decide) rfl (by decide) k) ?_
                                              refine rk_of (fun _ _ _ _ _ k => lr_aload_n hx hb dL_law_1254 rfl (lv_at hl 1 rfl) (lr_aload_n hx hb dL_law_1255 rfl (lv_at hl 0 rfl) (lv_iload hx hb dL_law_1256 (lv_at hl 5 rfl) (lv_iconst (v := 1) hx hb dL_law_1258 rfl (lv_iadd hx hb dL_law_1259 k))))) ?_
                                              refine rk_iald C dL_law_1260 (fun v1260 => ?_)
                                              refine rk_of (fun _ _ _ _ _ k => lr_aload_n hx hb dL_law_1261 rfl (lv_at hl 0 rfl) (lv_iload hx hb dL_law_1262 (lv_at hl 5 rfl) (lv_iconst (v := 2) hx hb dL_law_1264 rfl (lv_iadd hx hb dL_law_1265 k)))) ?_
                                              refine rk_iald C dL_law_1266 (fun v1266 => ?_)
                                              refine rk_of (fun _ _ _ _ _ k => lr_aload_n hx hb dL_law_1267 rfl (lv_at hl 0 rfl) (lv_iload hx hb dL_law_1268 (lv_at hl 5 rfl) (lv_iconst (v := 3) hx hb dL_law_1270 rfl (lv_iadd hx hb dL_law_1271 k)))) ?_
                                              refine rk_iald C dL_law_1272 (fun v1272 => ?_)
                                              refine rk_join (β := Int32) (fun (b1281 : Int32) ls => lv_has ls 9 [(0, va_rf p0), (1, va_rf p1), (2, va_rf p2), (3, va_rf p3), (4, va_rf p4), (5, .int x5)]) (fun (b1281 : Int32) ls => F0 m 1281 ls [.int b1281, .int v1266, .int v1260, va_rf p1]) (fun b1281 ls hl => ?_) (fun hJ1281 => ?_)
                                              · refine rk_of (fun _ _ _ _ _ k => lr_aload_n hx hb dL_law_1281 rfl (lv_at hl 3 rfl) k) ?_
                                                refine rk_callI hX (cl_SX (rest := []) C (ct_X0_span H p1 v1260 v1266 b1281 p3) (lw_SW q1840 q1841 q100 q1842) hd_X0_span ⟨(Nat.le_of_ble_eq_true rfl), (Nat.le_of_ble_eq_true rfl)⟩ rfl hl.1 rfl (zw_le zw_nil (Nat.le_of_ble_eq_true rfl)) dL_law_1282) (fun v1282 => ?_)
                                                refine rk_ofs (fun _ _ _ _ _ k => lr_istore hx hb dL_law_1285 hl (Nat.le_of_ble_eq_true rfl) [0, 1, 2, 3, 4, 5] rfl ⟨trivial, ⟨trivial, ⟨trivial, ⟨trivial, ⟨trivial, ⟨rfl, trivial⟩⟩⟩⟩⟩⟩ k) (fun ls hl => ?_)
                                                refine rk_of (fun _ _ _ _ _ k => lr_aload_n hx hb dL_law_1287 rfl (lv_at hl 3 rfl) (lr_aload_n hx hb dL_law_1288 rfl (lv_at hl 1 rfl) (lv_iload hx hb dL_law_1289 (lv_at hl 6 rfl) (lv_iconst (v := 1) hx hb dL_law_1291 rfl (lv_iadd hx hb dL_law_1292 k))))) ?_
                                                refine rk_iald C dL_law_1293 (fun v1293 => ?_)
                                                refine rk_of (fun _ _ _ _ _ k => lr_aload_n hx hb dL_law_1294 rfl (lv_at hl 1 rfl) (lv_iload hx hb dL_law_1295 (lv_at hl 6 rfl) (lv_iconst (v := 2) hx hb dL_law_1297 rfl (lv_iadd hx hb dL_law_1298 k)))) ?_
                                                refine rk_iald C dL_law_1299 (fun v1299 => ?_)
                                                refine rk_of (fun _ _ _ _ _ k => lr_aload_n hx hb dL_law_1300 rfl (lv_at hl 1 rfl) (lv_iload hx hb dL_law_1301 (lv_at hl 6 rfl) (lv_iconst (v := 3) hx hb dL_law_1303 rfl (lv_iadd hx hb dL_law_1304 k)))) ?_
                                                refine rk_iald C dL_law_1305 (fun v1305 => ?_)
                                                refine rk_join (β := Int32) (fun (b1314 : Int32) ls => lv_has ls 9 [(0, va_rf p0), (1, va_rf p1), (2, va_rf p2), (3, va_rf p3), (4, va_rf p4), (5, .int x5), (6, .int v1282)]) (fun (b1314 : Int32) ls => F0 m 1314 ls [.int b1314, .int v1299, .int v1293, va_rf p2]) (fun b1314 ls hl => ?_) (fun hJ1314 => ?_)
                                                · refine rk_callI hX (cl_V (rest := []) (av := [.int v1293, .int v1299, .int b1314]) C (hc_X3 H) (ct_X3_span H p2 v1293 v1299 b1314) (lw_V q2894 q2895 q2896 q112 q2897) ⟨rfl, hd_X3_span⟩ ⟨(Nat.le_of_ble_eq_true rfl), (Nat.le_of_ble_eq_true rfl)⟩ rfl hl.1 rfl (zw_le zw_nil (Nat.le_of_ble_eq_true rfl)) dL_law_1314) (fun v1314 => ?_)
                                                  refine rk_ofs (fun _ _ _ _ _ k => lr_istore hx hb dL_law_1317 hl (Nat.le_of_ble_eq_true rfl) [0, 1, 2, 3, 4, 5, 6] rfl ⟨trivial, ⟨trivial, ⟨trivial, ⟨trivial, ⟨trivial, ⟨trivial, ⟨rfl, trivial⟩⟩⟩⟩⟩⟩⟩ k) (fun ls hl => ?_)
                                                  refine rk_of (fun _ _ _ _ _ k => lr_aload_n hx hb dL_law_1319 rfl (lv_at hl 3 rfl) k) ?_
                                                  refine rk_callI hX (cl_V (rest := []) (av := []) C (hc_X3 H) (ct_X3_thrown H p2) (lw_V q2647 q2648 q2649 q112 q2650) ⟨rfl, hd_X3_thrown⟩ ⟨(Nat.le_of_ble_eq_true rfl), (Nat.le_of_ble_eq_true rfl)⟩ rfl hl.1 rfl (zw_le zw_nil (Nat.le_of_ble_eq_true rfl)) dL_law_1320) (fun v1320 => ?_)
                                                  refine rk_ite (fun _ _ _ _ _ k1 k2 => lv_iload hx hb dL_law_1323 (lv_at hl 7 rfl) (lv_icmp_eq (tgt := 1330) hx hb dL_law_1325 (by decide) k1 k2)) (fun c_1325 => ?_) (fun c_1325 => ?_)
                                                  · refine rk_ite (fun _ _ _ _ _ k1 k2 => lv_iload hx hb dL_law_1330 (lv_at hl 7 rfl) (lv_if_ne (tgt := 1347) hx hb dL_law_1332 (by decide) k2 k1)) (fun c_1332 => ?_) (fun c_1332 => ?_)
                                                    · refine rk_of (fun _ _ _ _ _ k => lr_aload_n hx hb dL_law_1335 rfl (lv_at hl 4 rfl) (lv_iconst (v := 0) hx hb dL_law_1336 rfl k)) ?_
                                                      refine rk_lald C dL_law_1337 (fun v1337 => ?_)
                                                      refine rk_ite (fun _ _ _ _ _ k1 k2 => lv_iload hx hb dL_law_1338 (lv_at hl 0 rfl) (lv_i2l hx hb dL_law_1340 rfl (W.lcmp hx hb dL_law_1341 (lv_if_eq (tgt := 1347) hx hb dL_law_1342 (by decide) k1 k2)))) (fun c_1342 => ?_) (fun c_1342 => ?_)
                                                      · refine rk_of (fun _ _ _ _ _ k => lv_goto (tgt := 2457) hx hb dL_law_1347 (by decide) k) ?_
                                                        exact hJ2457 () ls (lv_sub hl [1, 2, 3, 4, 5, 6] rfl)
                                                      · refine rk_of (fun _ _ _ _ _ k => lv_iconst (v := 0) hx hb dL_law_1345 rfl k) ?_
                                                        refine rk_inr ?_
                                                        exact hR _ _ (rf_iretL C rfl dL_law_1346)
                                                    · refine rk_of (fun _ _ _ _ _ k => lv_goto (tgt := 2457) hx hb dL_law_1347 (by decide) k) ?_
                                                      exact hJ2457 () ls (lv_sub hl [1, 2, 3, 4, 5, 6] rfl)
                                                  · refine rk_of (fun _ _ _ _ _ k => lv_iconst (v := 0) hx hb dL_law_1328 rfl k) ?_
                                                    refine rk_inr ?_
                                                    exact hR _ _ (rf_iretL C rfl dL_law_1329)
                                                · refine rk_ite (fun _ _ _ _ _ k1 k2 => lv_if_eq (tgt := 1313) hx hb dL_law_1306 (by decide) k1 k2) (fun c_1306 => ?_) (fun c_1306 => ?_)
                                                  · refine rk_of (fun _ _ _ _ _ k => lv_iconst (v := 0) hx hb dL_law_1313 rfl k) ?_
                                                    exact hJ1314 0 ls (lv_sub hl [1, 2, 3, 4, 5, 6, 0] rfl)
                                                  · refine rk_of (fun _ _ _ _ _ k => lv_iconst (v := 1) hx hb dL_law_1309 rfl (lv_goto (tgt := 1314) hx hb dL_law_1310 (by decide) k)) ?_
                                                    exact hJ1314 1 ls (lv_sub hl [1, 2, 3, 4, 5, 6, 0] rfl)
                                              · refine rk_ite (fun _ _ _ _ _ k1 k2 => lv_if_eq (tgt := 1280) hx hb dL_law_1273 (by decide) k1 k2) (fun c_1273 => ?_) (fun c_1273 => ?_)
                                                · refine rk_of (fun _ _ _ _ _ k => lv_iconst (v := 0) hx hb dL_law_1280 rfl k) ?_
                                                  exact hJ1281 0 ls (lv_sub hl [0, 1, 2, 3, 4, 5] rfl)
                                                · refine rk_of (fun _ _ _ _ _ k => lv_iconst (v := 1) hx hb dL_law_1276 rfl (lv_goto (tgt := 1281) hx hb dL_law_1277 (by decide) k)) ?_
                                                  exact hJ1281 1 ls (lv_sub hl [0, 1, 2, 3, 4, 5] rfl)
                                            · refine rk_case (fun c_44_19 => ?_) (fun c_44_19 => ?_)
                                              · refine rk_of (fun _ _ _ _ _ k => by rw [c_44_19]; exact lv_tableIn (off := 1306) (tgt := 1350) hx hb dL_law_44 (by decide) (by decide) rfl (by decide) k) ?_
                                                refine rk_of (fun _ _ _ _ _ k => lr_aload_n hx hb dL_law_1350 rfl (lv_at hl 1 rfl) (lr_aload_n hx hb dL_law_1351 rfl (lv_at hl 0 rfl) (lv_iload hx hb dL_law_1352 (lv_at hl 5 rfl) (lv_iconst (v := 1) hx hb dL_law_1354 rfl (lv_iadd hx hb dL_law_1355 k))))) ?_
                                                refine rk_iald C dL_law_1356 (fun v1356 => ?_)
                                                refine rk_of (fun _ _ _ _ _ k => lr_aload_n hx hb dL_law_1357 rfl (lv_at hl 0 rfl) (lv_iload hx hb dL_law_1358 (lv_at hl 5 rfl) (lv_iconst (v := 2) hx hb dL_law_1360 rfl (lv_iadd hx hb dL_law_1361 k)))) ?_
                                                refine rk_iald C dL_law_1362 (fun v1362 => ?_)
                                                refine rk_of (fun _ _ _ _ _ k => lr_aload_n hx hb dL_law_1363 rfl (lv_at hl 0 rfl) (lv_iload hx hb dL_law_1364 (lv_at hl 5 rfl) (lv_iconst (v := 3) hx hb dL_law_1366 rfl (lv_iadd hx hb dL_law_1367 k)))) ?_
                                                refine rk_iald C dL_law_1368 (fun v1368 => ?_)
                                                refine rk_join (β := Int32) (fun (b1377 : Int32) ls => lv_has ls 9 [(0, va_rf p0), (1, va_rf p1), (2, va_rf p2), (3, va_rf p3), (4, va_rf p4), (5, .int x5)]) (fun (b1377 : Int32) ls => F0 m 1377 ls [.int b1377, .int v1362, .int v1356, va_rf p1]) (fun b1377 ls hl => ?_) (fun hJ1377 => ?_)
                                                · refine rk_of (fun _ _ _ _ _ k => lr_aload_n hx hb dL_law_1377 rfl (lv_at hl 3 rfl) k) ?_
                                                  refine rk_callI hX (cl_SX (rest := []) C (ct_X0_gap H p1 v1356 v1362 b1377 p3) (lw_SW q1858 q1859 q100 q1860) hd_X0_gap ⟨(Nat.le_of_ble_eq_true rfl), (Nat.le_of_ble_eq_true rfl)⟩ rfl hl.1 rfl (zw_le zw_nil (Nat.le_of_ble_eq_true rfl)) dL_law_1378) (fun v1378 => ?_)
                                                  refine rk_ofs (fun _ _ _ _ _ k => lr_istore hx hb dL_law_1381 hl (Nat.le_of_ble_eq_true rfl) [0, 1, 2, 3, 4, 5] rfl ⟨trivial, ⟨trivial, ⟨trivial, ⟨trivial, ⟨trivial, ⟨rfl, trivial⟩⟩⟩⟩⟩⟩ k) (fun ls hl => ?_)
                                                  refine rk_of (fun _ _ _ _ _ k => lr_aload_n hx hb dL_law_1383 rfl (lv_at hl 3 rfl) (lr_aload_n hx hb dL_law_1384 rfl (lv_at hl 1 rfl) (lv_iload hx hb dL_law_1385 (lv_at hl 6 rfl) (lv_iconst (v := 1) hx hb dL_law_1387 rfl (lv_iadd hx hb dL_law_1388 k))))) ?_
                                                  refine rk_iald C dL_law_1389 (fun v1389 => ?_)
                                                  refine rk_of (fun _ _ _ _ _ k => lr_aload_n hx hb dL_law_1390 rfl (lv_at hl 1 rfl) (lv_iload hx hb dL_law_1391 (lv_at hl 6 rfl) (lv_iconst (v := 2) hx hb dL_law_1393 rfl (lv_iadd hx hb dL_law_1394 k)))) ?_
                                                  refine rk_iald C dL_law_1395 (fun v1395 => ?_)
                                                  refine rk_of (fun _ _ _ _ _ k => lr_aload_n hx hb dL_law_1396 rfl (lv_at hl 1 rfl) (lv_iload hx hb dL_law_1397 (lv_at hl 6 rfl) (lv_iconst (v := 3) hx hb dL_law_1399 rfl (lv_iadd hx hb dL_law_1400 k)))) ?_
                                                  refine rk_iald C dL_law_1401 (fun v1401 => ?_)
                                                  refine rk_join (β := Int32) (fun (b1410 : Int32) ls => lv_has ls 9 [(0, va_rf p0), (1, va_rf p1), (2, va_rf p2), (3, va_rf p3), (4, va_rf p4), (5, .int x5), (6, .int v1378)]) (fun (b1410 : Int32) ls => F0 m 1410 ls [.int b1410, .int v1395, .int v1389, va_rf p2]) (fun b1410 ls hl => ?_) (fun hJ1410 => ?_)
                                                  · refine rk_callI hX (cl_V (rest := []) (av := [.int v1389, .int v1395, .int b1410]) C (hc_X3 H) (ct_X3_gap H p2 v1389 v1395 b1410) (lw_V q2902 q2903 q2904 q112 q2905) ⟨rfl, hd_X3_gap⟩ ⟨(Nat.le_of_ble_eq_true rfl), (Nat.le_of_ble_eq_true rfl)⟩ rfl hl.1 rfl (zw_le zw_nil (Nat.le_of_ble_eq_true rfl)) dL_law_1410) (fun v1410 => ?_)
                                                    refine rk_ofs (fun _ _ _ _ _ k => lr_istore hx hb dL_law_1413 hl (Nat.le_of_ble_eq_true rfl) [0, 1, 2, 3, 4, 5, 6] rfl ⟨trivial, ⟨trivial, ⟨trivial, ⟨trivial, ⟨trivial, ⟨trivial, ⟨rfl, trivial⟩⟩⟩⟩⟩⟩⟩ k) (fun ls hl => ?_)
                                                    refine rk_of (fun _ _ _ _ _ k => lr_aload_n hx hb dL_law_1415 rfl (lv_at hl 3 rfl) k) ?_
                                                    refine rk_callI hX (cl_V (rest := []) (av := []) C (hc_X3 H) (ct_X3_thrown H p2) (lw_V q2647 q2648 q2649 q112 q2650) ⟨rfl, hd_X3_thrown⟩ ⟨(Nat.le_of_ble_eq_true rfl), (Nat.le_of_ble_eq_true rfl)⟩ rfl hl.1 rfl (zw_le zw_nil (Nat.le_of_ble_eq_true rfl)) dL_law_1416) (fun v1416 => ?_)
                                                    refine rk_ite (fun _ _ _ _ _ k1 k2 => lv_iload hx hb dL_law_1419 (lv_at hl 7 rfl) (lv_icmp_eq (tgt := 1426) hx hb dL_law_1421 (by decide) k1 k2)) (fun c_1421 => ?_) (fun c_1421 => ?_)
                                                    · refine rk_ite (fun _ _ _ _ _ k1 k2 => lv_iload hx hb dL_law_1426 (lv_at hl 7 rfl) (lv_if_ne (tgt := 1443) hx hb dL_law_1428 (by decide) k2 k1)) (fun c_1428 => ?_) (fun c_1428 => ?_)
                                                      · refine rk_of (fun _ _ _ _ _ k => lr_aload_n hx hb dL_law_1431 rfl (lv_at hl 4 rfl) (lv_iconst (v := 0) hx hb dL_law_1432 rfl k)) ?_
                                                        refine rk_lald C dL_law_1433 (fun v1433 => ?_)
                                                        refine rk_ite (fun _ _ _ _ _ k1 k2 => lv_iload hx hb dL_law_1434 (lv_at hl 0 rfl) (lv_i2l hx hb dL_law_1436 rfl (W.lcmp hx hb dL_law_1437 (lv_if_eq (tgt := 1443) hx hb dL_law_1438 (by decide) k1 k2)))) (fun c_1438 => ?_) (fun c_1438 => ?_)
                                                        · refine rk_of (fun _ _ _ _ _ k => lv_goto (tgt := 2457) hx hb dL_law_1443 (by decide) k) ?_
                                                          exact hJ2457 () ls (lv_sub hl [1, 2, 3, 4, 5, 6] rfl)
                                                        · refine rk_of (fun _ _ _ _ _ k => lv_iconst (v := 0) hx hb dL_law_1441 rfl k) ?_
                                                          refine rk_inr ?_
                                                          exact hR _ _ (rf_iretL C rfl dL_law_1442)
                                                      · refine rk_of (fun _ _ _ _ _ k => lv_goto (tgt := 2457) hx hb dL_law_1443 (by decide) k) ?_
                                                        exact hJ2457 () ls (lv_sub hl [1, 2, 3, 4, 5, 6] rfl)
                                                    · refine rk_of (fun _ _ _ _ _ k => lv_iconst (v := 0) hx hb dL_law_1424 rfl k) ?_
                                                      refine rk_inr ?_
                                                      exact hR _ _ (rf_iretL C rfl dL_law_1425)
                                                  · refine rk_ite (fun _ _ _ _ _ k1 k2 => lv_if_eq (tgt := 1409) hx hb dL_law_1402 (by decide) k1 k2) (fun c_1402 => ?_) (fun c_1402 => ?_)
                                                    · refine rk_of (fun _ _ _ _ _ k => lv_iconst (v := 0) hx hb dL_law_1409 rfl k) ?_
                                                      exact hJ1410 0 ls (lv_sub hl [1, 2, 3, 4, 5, 6, 0] rfl)
                                                    · refine rk_of (fun _ _ _ _ _ k => lv_iconst (v := 1) hx hb dL_law_1405 rfl (lv_goto (tgt := 1410) hx hb dL_law_1406 (by decide) k)) ?_
                                                      exact hJ1410 1 ls (lv_sub hl [1, 2, 3, 4, 5, 6, 0] rfl)
                                                · refine rk_ite (fun _ _ _ _ _ k1 k2 => lv_if_eq (tgt := 1376) hx hb dL_law_1369 (by decide) k1 k2) (fun c_1369 => ?_) (fun c_1369 => ?_)
                                                  · refine rk_of (fun _ _ _ _ _ k => lv_iconst (v := 0) hx hb dL_law_1376 rfl k) ?_
                                                    exact hJ1377 0 ls (lv_sub hl [0, 1, 2, 3, 4, 5] rfl)
                                                  · refine rk_of (fun _ _ _ _ _ k => lv_iconst (v := 1) hx hb dL_law_1372 rfl (lv_goto (tgt := 1377) hx hb dL_law_1373 (by decide) k)) ?_
                                                    exact hJ1377 1 ls (lv_sub hl [0, 1, 2, 3, 4, 5] rfl)
                                              · refine rk_case (fun c_44_20 => ?_) (fun c_44_20 => ?_)
                                                · refine rk_of (fun _ _ _ _ _ k => by rw [c_44_20]; exact lv_tableIn (off := 1402) (tgt := 1446) hx hb dL_law_44 (by decide) (by decide) rfl (by decide) k) ?_
                                                  refine rk_of (fun _ _ _ _ _ k => lr_aload_n hx hb dL_law_1446 rfl (lv_at hl 1 rfl) (lr_aload_n hx hb dL_law_1447 rfl (lv_at hl 0 rfl) (lv_iload hx hb dL_law_1448 (lv_at hl 5 rfl) (lv_iconst (v := 1) hx hb dL_law_1450 rfl (lv_iadd hx hb dL_law_1451 k))))) ?_
                                                  refine rk_iald C dL_law_1452 (fun v1452 => ?_)
                                                  refine rk_of (fun _ _ _ _ _ k => lr_aload_n hx hb dL_law_1453 rfl (lv_at hl 0 rfl) (lv_iload hx hb dL_law_1454 (lv_at hl 5 rfl) (lv_iconst (v := 2) hx hb dL_law_1456 rfl (lv_iadd hx hb dL_law_1457 k)))) ?_
                                                  refine rk_iald C dL_law_1458 (fun v1458 => ?_)
                                                  refine rk_of (fun _ _ _ _ _ k => lr_aload_n hx hb dL_law_1459 rfl (lv_at hl 3 rfl) k) ?_
                                                  refine rk_callI hX (cl_SX (rest := []) C (ct_X0_fits H p1 v1452 v1458 p3) (lw_SW q1865 q1866 q100 q1867) hd_X0_fits ⟨(Nat.le_of_ble_eq_true rfl), (Nat.le_of_ble_eq_true rfl)⟩ rfl hl.1 rfl (zw_le zw_nil (Nat.le_of_ble_eq_true rfl)) dL_law_1460) (fun v1460 => ?_)
                                                  refine rk_ofs (fun _ _ _ _ _ k => lr_istore hx hb dL_law_1463 hl (Nat.le_of_ble_eq_true rfl) [0, 1, 2, 3, 4, 5] rfl ⟨trivial, ⟨trivial, ⟨trivial, ⟨trivial, ⟨trivial, ⟨rfl, trivial⟩⟩⟩⟩⟩⟩ k) (fun ls hl => ?_)
                                                  refine rk_of (fun _ _ _ _ _ k => lr_aload_n hx hb dL_law_1465 rfl (lv_at hl 3 rfl) (lr_aload_n hx hb dL_law_1466 rfl (lv_at hl 1 rfl) (lv_iload hx hb dL_law_1467 (lv_at hl 6 rfl) (lv_iconst (v := 1) hx hb dL_law_1469 rfl (lv_iadd hx hb dL_law_1470 k))))) ?_
                                                  refine rk_iald C dL_law_1471 (fun v1471 => ?_)
                                                  refine rk_of (fun _ _ _ _ _ k => lr_aload_n hx hb dL_law_1472 rfl (lv_at hl 1 rfl) (lv_iload hx hb dL_law_1473 (lv_at hl 6 rfl) (lv_iconst (v := 2) hx hb dL_law_1475 rfl (lv_iadd hx hb dL_law_1476 k)))) ?_
                                                  refine rk_iald C dL_law_1477 (fun v1477 => ?_)
                                                  refine rk_callI hX (cl_V (rest := []) (av := [.int v1471, .int v1477]) C (hc_X3 H) (ct_X3_fits H p2 v1471 v1477) (lw_V q2906 q2907 q2908 q112 q2909) ⟨rfl, hd_X3_fits⟩ ⟨(Nat.le_of_ble_eq_true rfl), (Nat.le_of_ble_eq_true rfl)⟩ rfl hl.1 rfl (zw_le zw_nil (Nat.le_of_ble_eq_true rfl)) dL_law_1478) (fun v1478 => ?_)
                                                  refine rk_ofs (fun _ _ _ _ _ k => lr_istore hx hb dL_law_1481 hl (Nat.le_of_ble_eq_true rfl) [0, 1, 2, 3, 4, 5, 6] rfl ⟨rfl, ⟨trivial, ⟨trivial, ⟨trivial, ⟨trivial, ⟨trivial, ⟨trivial, trivial⟩⟩⟩⟩⟩⟩⟩ k) (fun ls hl => ?_)
                                                  refine rk_of (fun _ _ _ _ _ k => lr_aload_n hx hb dL_law_1483 rfl (lv_at hl 4 rfl) k) ?_
                                                  refine rk_callI hX (cl_V (rest := []) (av := []) C (hc_X3 H) (ct_X3_thrown H p2) (lw_V q2647 q2648 q2649 q112 q2650) ⟨rfl, hd_X3_thrown⟩ ⟨(Nat.le_of_ble_eq_true rfl), (Nat.le_of_ble_eq_true rfl)⟩ rfl hl.1 rfl (zw_le zw_nil (Nat.le_of_ble_eq_true rfl)) dL_law_1484) (fun v1484 => ?_)
                                                  refine rk_ite (fun _ _ _ _ _ k1 k2 => lv_iload hx hb dL_law_1487 (lv_at hl 1 rfl) (lv_icmp_eq (tgt := 1494) hx hb dL_law_1489 (by decide) k1 k2)) (fun c_1489 => ?_) (fun c_1489 => ?_)
                                                  · refine rk_ite (fun _ _ _ _ _ k1 k2 => lv_iload hx hb dL_law_1494 (lv_at hl 1 rfl) (lv_if_ne (tgt := 1511) hx hb dL_law_1496 (by decide) k2 k1)) (fun c_1496 => ?_) (fun c_1496 => ?_)
                                                    · refine rk_of (fun _ _ _ _ _ k => lr_aload_n hx hb dL_law_1499 rfl (lv_at hl 5 rfl) (lv_iconst (v := 0) hx hb dL_law_1500 rfl k)) ?_
                                                      refine rk_lald C dL_law_1501 (fun v1501 => ?_)
                                                      refine rk_ite (fun _ _ _ _ _ k1 k2 => lv_iload hx hb dL_law_1502 (lv_at hl 0 rfl) (lv_i2l hx hb dL_law_1504 rfl (W.lcmp hx hb dL_law_1505 (lv_if_eq (tgt := 1511) hx hb dL_law_1506 (by decide) k1 k2)))) (fun c_1506 => ?_) (fun c_1506 => ?_)
                                                      · refine rk_of (fun _ _ _ _ _ k => lv_goto (tgt := 2457) hx hb dL_law_1511 (by decide) k) ?_
                                                        exact hJ2457 () ls (lv_sub hl [2, 3, 4, 5, 6, 7] rfl)
                                                      · refine rk_of (fun _ _ _ _ _ k => lv_iconst (v := 0) hx hb dL_law_1509 rfl k) ?_
                                                        refine rk_inr ?_
                                                        exact hR _ _ (rf_iretL C rfl dL_law_1510)
                                                    · refine rk_of (fun _ _ _ _ _ k => lv_goto (tgt := 2457) hx hb dL_law_1511 (by decide) k) ?_
                                                      exact hJ2457 () ls (lv_sub hl [2, 3, 4, 5, 6, 7] rfl)
                                                  · refine rk_of (fun _ _ _ _ _ k => lv_iconst (v := 0) hx hb dL_law_1492 rfl k) ?_
                                                    refine rk_inr ?_
                                                    exact hR _ _ (rf_iretL C rfl dL_law_1493)
                                                · refine rk_case (fun c_44_21 => ?_) (fun c_44_21 => ?_)
                                                  · refine rk_of (fun _ _ _ _ _ k => by rw [c_44_21]; exact lv_tableIn (off := 1470) (tgt := 1514) hx hb dL_law_44 (by decide) (by decide) rfl (by decide) k) ?_
                                                    refine rk_of (fun _ _ _ _ _ k => lr_aload_n hx hb dL_law_1514 rfl (lv_at hl 1 rfl) (lr_aload_n hx hb dL_law_1515 rfl (lv_at hl 0 rfl) (lv_iload hx hb dL_law_1516 (lv_at hl 5 rfl) (lv_iconst (v := 1) hx hb dL_law_1518 rfl (lv_iadd hx hb dL_law_1519 k))))) ?_
                                                    refine rk_iald C dL_law_1520 (fun v1520 => ?_)
                                                    refine rk_of (fun _ _ _ _ _ k => lr_aload_n hx hb dL_law_1521 rfl (lv_at hl 0 rfl) (lv_iload hx hb dL_law_1522 (lv_at hl 5 rfl) (lv_iconst (v := 2) hx hb dL_law_1524 rfl (lv_iadd hx hb dL_law_1525 k)))) ?_
                                                    refine rk_iald C dL_law_1526 (fun v1526 => ?_)
                                                    refine rk_of (fun _ _ _ _ _ k => lr_aload_n hx hb dL_law_1527 rfl (lv_at hl 0 rfl) (lv_iload hx hb dL_law_1528 (lv_at hl 5 rfl) (lv_iconst (v := 3) hx hb dL_law_1530 rfl (lv_iadd hx hb dL_law_1531 k)))) ?_
                                                    refine rk_iald C dL_law_1532 (fun v1532 => ?_)
                                                    refine rk_of (fun _ _ _ _ _ k => lr_aload_n hx hb dL_law_1533 rfl (lv_at hl 3 rfl) k) ?_
                                                    refine rk_callI hX (cl_SX (rest := []) C (ct_X0_roomFor H p1 v1520 v1526 v1532 p3) (lw_SW q1877 q1878 q100 q1879) hd_X0_roomFor ⟨(Nat.le_of_ble_eq_true rfl), (Nat.le_of_ble_eq_true rfl)⟩ rfl hl.1 rfl (zw_le zw_nil (Nat.le_of_ble_eq_true rfl)) dL_law_1534) (fun v1534 => ?_)
                                                    refine rk_ofs (fun _ _ _ _ _ k => lr_istore hx hb dL_law_1537 hl (Nat.le_of_ble_eq_true rfl) [0, 1, 2, 3, 4, 5] rfl ⟨trivial, ⟨trivial, ⟨trivial, ⟨trivial, ⟨trivial, ⟨rfl, trivial⟩⟩⟩⟩⟩⟩ k) (fun ls hl => ?_)
                                                    refine rk_of (fun _ _ _ _ _ k => lr_aload_n hx hb dL_law_1539 rfl (lv_at hl 3 rfl) (lr_aload_n hx hb dL_law_1540 rfl (lv_at hl 1 rfl) (lv_iload hx hb dL_law_1541 (lv_at hl 6 rfl) (lv_iconst (v := 1) hx hb dL_law_1543 rfl (lv_iadd hx hb dL_law_1544 k))))) ?_
                                                    refine rk_iald C dL_law_1545 (fun v1545 => ?_)
                                                    refine rk_of (fun _ _ _ _ _ k => lr_aload_n hx hb dL_law_1546 rfl (lv_at hl 1 rfl) (lv_iload hx hb dL_law_1547 (lv_at hl 6 rfl) (lv_iconst (v := 2) hx hb dL_law_1549 rfl (lv_iadd hx hb dL_law_1550 k)))) ?_
                                                    refine rk_iald C dL_law_1551 (fun v1551 => ?_)
                                                    refine rk_of (fun _ _ _ _ _ k => lr_aload_n hx hb dL_law_1552 rfl (lv_at hl 1 rfl) (lv_iload hx hb dL_law_1553 (lv_at hl 6 rfl) (lv_iconst (v := 3) hx hb dL_law_1555 rfl (lv_iadd hx hb dL_law_1556 k)))) ?_
                                                    refine rk_iald C dL_law_1557 (fun v1557 => ?_)
                                                    refine rk_callI hX (cl_V (rest := []) (av := [.int v1545, .int v1551, .int v1557]) C (hc_X3 H) (ct_X3_roomFor H p2 v1545 v1551 v1557) (lw_V q2910 q2911 q2912 q112 q2913) ⟨rfl, hd_X3_roomFor⟩ ⟨(Nat.le_of_ble_eq_true rfl), (Nat.le_of_ble_eq_true rfl)⟩ rfl hl.1 rfl (zw_le zw_nil (Nat.le_of_ble_eq_true rfl)) dL_law_1558) (fun v1558 => ?_)
                                                    refine rk_ofs (fun _ _ _ _ _ k => lr_istore hx hb dL_law_1561 hl (Nat.le_of_ble_eq_true rfl) [0, 1, 2, 3, 4, 5, 6] rfl ⟨rfl, ⟨trivial, ⟨trivial, ⟨trivial, ⟨trivial, ⟨trivial, ⟨trivial, trivial⟩⟩⟩⟩⟩⟩⟩ k) (fun ls hl => ?_)
                                                    refine rk_of (fun _ _ _ _ _ k => lr_aload_n hx hb dL_law_1563 rfl (lv_at hl 4 rfl) k) ?_
                                                    refine rk_callI hX (cl_V (rest := []) (av := []) C (hc_X3 H) (ct_X3_thrown H p2) (lw_V q2647 q2648 q2649 q112 q2650) ⟨rfl, hd_X3_thrown⟩ ⟨(Nat.le_of_ble_eq_true rfl), (Nat.le_of_ble_eq_true rfl)⟩ rfl hl.1 rfl (zw_le zw_nil (Nat.le_of_ble_eq_true rfl)) dL_law_1564) (fun v1564 => ?_)
                                                    refine rk_ite (fun _ _ _ _ _ k1 k2 => lv_iload hx hb dL_law_1567 (lv_at hl 1 rfl) (lv_icmp_eq (tgt := 1574) hx hb dL_law_1569 (by decide) k1 k2)) (fun c_1569 => ?_) (fun c_1569 => ?_)
                                                    · refine rk_ite (fun _ _ _ _ _ k1 k2 => lv_iload hx hb dL_law_1574 (lv_at hl 1 rfl) (lv_if_ne (tgt := 1591) hx hb dL_law_1576 (by decide) k2 k1)) (fun c_1576 => ?_) (fun c_1576 => ?_)
                                                      · refine rk_of (fun _ _ _ _ _ k => lr_aload_n hx hb dL_law_1579 rfl (lv_at hl 5 rfl) (lv_iconst (v := 0) hx hb dL_law_1580 rfl k)) ?_
                                                        refine rk_lald C dL_law_1581 (fun v1581 => ?_)
                                                        refine rk_ite (fun _ _ _ _ _ k1 k2 => lv_iload hx hb dL_law_1582 (lv_at hl 0 rfl) (lv_i2l hx hb dL_law_1584 rfl (W.lcmp hx hb dL_law_1585 (lv_if_eq (tgt := 1591) hx hb dL_law_1586 (by decide) k1 k2)))) (fun c_1586 => ?_) (fun c_1586 => ?_)
                                                        · refine rk_of (fun _ _ _ _ _ k => lv_goto (tgt := 2457) hx hb dL_law_1591 (by decide) k) ?_
                                                          exact hJ2457 () ls (lv_sub hl [2, 3, 4, 5, 6, 7] rfl)
                                                        · refine rk_of (fun _ _ _ _ _ k => lv_iconst (v := 0) hx hb dL_law_1589 rfl k) ?_
                                                          refine rk_inr ?_
                                                          exact hR _ _ (rf_iretL C rfl dL_law_1590)
                                                      · refine rk_of (fun _ _ _ _ _ k => lv_goto (tgt := 2457) hx hb dL_law_1591 (by decide) k) ?_
                                                        exact hJ2457 () ls (lv_sub hl [2, 3, 4, 5, 6, 7] rfl)
                                                    · refine rk_of (fun _ _ _ _ _ k => lv_iconst (v := 0) hx hb dL_law_1572 rfl k) ?_
                                                      refine rk_inr ?_
                                                      exact hR _ _ (rf_iretL C rfl dL_law_1573)
                                                  · refine rk_case (fun c_44_22 => ?_) (fun c_44_22 => ?_)
                                                    · refine rk_of (fun _ _ _ _ _ k => by rw [c_44_22]; exact lv_tableIn (off := 1550) (tgt := 1594) hx hb dL_law_44 (by decide) (by decide) rfl (by decide) k) ?_
                                                      refine rk_of (fun _ _ _ _ _ k => lr_aload_n hx hb dL_law_1594 rfl (lv_at hl 1 rfl) (lr_aload_n hx hb dL_law_1595 rfl (lv_at hl 0 rfl) (lv_iload hx hb dL_law_1596 (lv_at hl 5 rfl) (lv_iconst (v := 1) hx hb dL_law_1598 rfl (lv_iadd hx hb dL_law_1599 k))))) ?_
                                                      refine rk_iald C dL_law_1600 (fun v1600 => ?_)
                                                      refine rk_of (fun _ _ _ _ _ k => lr_aload_n hx hb dL_law_1601 rfl (lv_at hl 0 rfl) (lv_iload hx hb dL_law_1602 (lv_at hl 5 rfl) (lv_iconst (v := 2) hx hb dL_law_1604 rfl (lv_iadd hx hb dL_law_1605 k)))) ?_
                                                      refine rk_iald C dL_law_1606 (fun v1606 => ?_)
                                                      refine rk_of (fun _ _ _ _ _ k => lr_aload_n hx hb dL_law_1607 rfl (lv_at hl 3 rfl) k) ?_
                                                      refine rk_callI hX (cl_SX (rest := []) C (ct_X0_hour H p1 v1600 v1606 p3) (lw_SW q1885 q1886 q100 q1887) hd_X0_hour ⟨(Nat.le_of_ble_eq_true rfl), (Nat.le_of_ble_eq_true rfl)⟩ rfl hl.1 rfl (zw_le zw_nil (Nat.le_of_ble_eq_true rfl)) dL_law_1608) (fun v1608 => ?_)
                                                      refine rk_ofs (fun _ _ _ _ _ k => lr_istore hx hb dL_law_1611 hl (Nat.le_of_ble_eq_true rfl) [0, 1, 2, 3, 4, 5] rfl ⟨trivial, ⟨trivial, ⟨trivial, ⟨trivial, ⟨trivial, ⟨rfl, trivial⟩⟩⟩⟩⟩⟩ k) (fun ls hl => ?_)
                                                      refine rk_of (fun _ _ _ _ _ k => lr_aload_n hx hb dL_law_1613 rfl (lv_at hl 3 rfl) (lr_aload_n hx hb dL_law_1614 rfl (lv_at hl 1 rfl) (lv_iload hx hb dL_law_1615 (lv_at hl 6 rfl) (lv_iconst (v := 1) hx hb dL_law_1617 rfl (lv_iadd hx hb dL_law_1618 k))))) ?_
                                                      refine rk_iald C dL_law_1619 (fun v1619 => ?_)
                                                      refine rk_of (fun _ _ _ _ _ k => lr_aload_n hx hb dL_law_1620 rfl (lv_at hl 1 rfl) (lv_iload hx hb dL_law_1621 (lv_at hl 6 rfl) (lv_iconst (v := 2) hx hb dL_law_1623 rfl (lv_iadd hx hb dL_law_1624 k)))) ?_
                                                      refine rk_iald C dL_law_1625 (fun v1625 => ?_)
                                                      refine rk_callI hX (cl_V (rest := []) (av := [.int v1619, .int v1625]) C (hc_X3 H) (ct_X3_hour H p2 v1619 v1625) (lw_V q2914 q2915 q2916 q112 q2917) ⟨rfl, hd_X3_hour⟩ ⟨(Nat.le_of_ble_eq_true rfl), (Nat.le_of_ble_eq_true rfl)⟩ rfl hl.1 rfl (zw_le zw_nil (Nat.le_of_ble_eq_true rfl)) dL_law_1626) (fun v1626 => ?_)
                                                      refine rk_ofs (fun _ _ _ _ _ k => lr_istore hx hb dL_law_1629 hl (Nat.le_of_ble_eq_true rfl) [0, 1, 2, 3, 4, 5, 6] rfl ⟨rfl, ⟨trivial, ⟨trivial, ⟨trivial, ⟨trivial, ⟨trivial, ⟨trivial, trivial⟩⟩⟩⟩⟩⟩⟩ k) (fun ls hl => ?_)
                                                      refine rk_of (fun _ _ _ _ _ k => lr_aload_n hx hb dL_law_1631 rfl (lv_at hl 4 rfl) k) ?_
                                                      refine rk_callI hX (cl_V (rest := []) (av := []) C (hc_X3 H) (ct_X3_thrown H p2) (lw_V q2647 q2648 q2649 q112 q2650) ⟨rfl, hd_X3_thrown⟩ ⟨(Nat.le_of_ble_eq_true rfl), (Nat.le_of_ble_eq_true rfl)⟩ rfl hl.1 rfl (zw_le zw_nil (Nat.le_of_ble_eq_true rfl)) dL_law_1632) (fun v1632 => ?_)
                                                      refine rk_ite (fun _ _ _ _ _ k1 k2 => lv_iload hx hb dL_law_1635 (lv_at hl 1 rfl) (lv_icmp_eq (tgt := 1642) hx hb dL_law_1637 (by decide) k1 k2)) (fun c_1637 => ?_) (fun c_1637 => ?_)
                                                      · refine rk_ite (fun _ _ _ _ _ k1 k2 => lv_iload hx hb dL_law_1642 (lv_at hl 1 rfl) (lv_if_ne (tgt := 1659) hx hb dL_law_1644 (by decide) k2 k1)) (fun c_1644 => ?_) (fun c_1644 => ?_)
                                                        · refine rk_of (fun _ _ _ _ _ k => lr_aload_n hx hb dL_law_1647 rfl (lv_at hl 5 rfl) (lv_iconst (v := 0) hx hb dL_law_1648 rfl k)) ?_
                                                          refine rk_lald C dL_law_1649 (fun v1649 => ?_)
                                                          refine rk_ite (fun _ _ _ _ _ k1 k2 => lv_iload hx hb dL_law_1650 (lv_at hl 0 rfl) (lv_i2l hx hb dL_law_1652 rfl (W.lcmp hx hb dL_law_1653 (lv_if_eq (tgt := 1659) hx hb dL_law_1654 (by decide) k1 k2)))) (fun c_1654 => ?_) (fun c_1654 => ?_)
                                                          · refine rk_of (fun _ _ _ _ _ k => lv_goto (tgt := 2457) hx hb dL_law_1659 (by decide) k) ?_
                                                            exact hJ2457 () ls (lv_sub hl [2, 3, 4, 5, 6, 7] rfl)
                                                          · refine rk_of (fun _ _ _ _ _ k => lv_iconst (v := 0) hx hb dL_law_1657 rfl k) ?_
                                                            refine rk_inr ?_
                                                            exact hR _ _ (rf_iretL C rfl dL_law_1658)
                                                        · refine rk_of (fun _ _ _ _ _ k => lv_goto (tgt := 2457) hx hb dL_law_1659 (by decide) k) ?_
                                                          exact hJ2457 () ls (lv_sub hl [2, 3, 4, 5, 6, 7] rfl)
                                                      · refine rk_of (fun _ _ _ _ _ k => lv_iconst (v := 0) hx hb dL_law_1640 rfl k) ?_
                                                        refine rk_inr ?_
                                                        exact hR _ _ (rf_iretL C rfl dL_law_1641)
                                                    · refine rk_case (fun c_44_23 => ?_) (fun c_44_23 => ?_)
                                                      · refine rk_of (fun _ _ _ _ _ k => by rw [c_44_23]; exact lv_tableIn (off := 1618) (tgt := 1662) hx hb dL_law_44 (by decide) (by decide) rfl (by decide) k) ?_
                                                        refine rk_of (fun _ _ _ _ _ k => lr_aload_n hx hb dL_law_1662 rfl (lv_at hl 1 rfl) (lr_aload_n hx hb dL_law_1663 rfl (lv_at hl 0 rfl) (lv_iload hx hb dL_law_1664 (lv_at hl 5 rfl) (lv_iconst (v := 1) hx hb dL_law_1666 rfl (lv_iadd hx hb dL_law_1667 k))))) ?_
                                                        refine rk_iald C dL_law_1668 (fun v1668 => ?_)
                                                        refine rk_of (fun _ _ _ _ _ k => lr_aload_n hx hb dL_law_1669 rfl (lv_at hl 3 rfl) k) ?_
                                                        refine rk_callI hX (cl_SX (rest := []) C (ct_X0_ranked H p1 v1668 p3) (lw_SW q1900 q1901 q100 q1902) hd_X0_ranked ⟨(Nat.le_of_ble_eq_true rfl), (Nat.le_of_ble_eq_true rfl)⟩ rfl hl.1 rfl (zw_le zw_nil (Nat.le_of_ble_eq_true rfl)) dL_law_1670) (fun v1670 => ?_)
                                                        refine rk_ofs (fun _ _ _ _ _ k => lr_istore hx hb dL_law_1673 hl (Nat.le_of_ble_eq_true rfl) [0, 1, 2, 3, 4, 5] rfl ⟨trivial, ⟨trivial, ⟨trivial, ⟨trivial, ⟨trivial, ⟨rfl, trivial⟩⟩⟩⟩⟩⟩ k) (fun ls hl => ?_)
                                                        refine rk_of (fun _ _ _ _ _ k => lr_aload_n hx hb dL_law_1675 rfl (lv_at hl 3 rfl) (lr_aload_n hx hb dL_law_1676 rfl (lv_at hl 1 rfl) (lv_iload hx hb dL_law_1677 (lv_at hl 6 rfl) (lv_iconst (v := 1) hx hb dL_law_1679 rfl (lv_iadd hx hb dL_law_1680 k))))) ?_
                                                        refine rk_iald C dL_law_1681 (fun v1681 => ?_)
                                                        refine rk_callI hX (cl_V (rest := []) (av := [.int v1681]) C (hc_X3 H) (ct_X3_ranked H p2 v1681) (lw_V q2921 q2922 q2923 q112 q2924) ⟨rfl, hd_X3_ranked⟩ ⟨(Nat.le_of_ble_eq_true rfl), (Nat.le_of_ble_eq_true rfl)⟩ rfl hl.1 rfl (zw_le zw_nil (Nat.le_of_ble_eq_true rfl)) dL_law_1682) (fun v1682 => ?_)
                                                        refine rk_ofs (fun _ _ _ _ _ k => lr_istore hx hb dL_law_1685 hl (Nat.le_of_ble_eq_true rfl) [0, 1, 2, 3, 4, 5, 6] rfl ⟨rfl, ⟨trivial, ⟨trivial, ⟨trivial, ⟨trivial, ⟨trivial, ⟨trivial, trivial⟩⟩⟩⟩⟩⟩⟩ k) (fun ls hl => ?_)
                                                        refine rk_of (fun _ _ _ _ _ k => lr_aload_n hx hb dL_law_1687 rfl (lv_at hl 4 rfl) k) ?_
                                                        refine rk_callI hX (cl_V (rest := []) (av := []) C (hc_X3 H) (ct_X3_thrown H p2) (lw_V q2647 q2648 q2649 q112 q2650) ⟨rfl, hd_X3_thrown⟩ ⟨(Nat.le_of_ble_eq_true rfl), (Nat.le_of_ble_eq_true rfl)⟩ rfl hl.1 rfl (zw_le zw_nil (Nat.le_of_ble_eq_true rfl)) dL_law_1688) (fun v1688 => ?_)
                                                        refine rk_ite (fun _ _ _ _ _ k1 k2 => lv_iload hx hb dL_law_1691 (lv_at hl 1 rfl) (lv_icmp_eq (tgt := 1698) hx hb dL_law_1693 (by decide) k1 k2)) (fun c_1693 => ?_) (fun c_1693 => ?_)
                                                        · refine rk_ite (fun _ _ _ _ _ k1 k2 => lv_iload hx hb dL_law_1698 (lv_at hl 1 rfl) (lv_if_ne (tgt := 1715) hx hb dL_law_1700 (by decide) k2 k1)) (fun c_1700 => ?_) (fun c_1700 => ?_)
                                                          · refine rk_of (fun _ _ _ _ _ k => lr_aload_n hx hb dL_law_1703 rfl (lv_at hl 5 rfl) (lv_iconst (v := 0) hx hb dL_law_1704 rfl k)) ?_
                                                            refine rk_lald C dL_law_1705 (fun v1705 => ?_)
                                                            refine rk_ite (fun _ _ _ _ _ k1 k2 => lv_iload hx hb dL_law_1706 (lv_at hl 0 rfl) (lv_i2l hx hb dL_law_1708 rfl (W.lcmp hx hb dL_law_1709 (lv_if_eq (tgt := 1715) hx hb dL_law_1710 (by decide) k1 k2)))) (fun c_1710 => ?_) (fun c_1710 => ?_)
                                                            · refine rk_of (fun _ _ _ _ _ k => lv_goto (tgt := 2457) hx hb dL_law_1715 (by decide) k) ?_
                                                              exact hJ2457 () ls (lv_sub hl [2, 3, 4, 5, 6, 7] rfl)
                                                            · refine rk_of (fun _ _ _ _ _ k => lv_iconst (v := 0) hx hb dL_law_1713 rfl k) ?_
                                                              refine rk_inr ?_
                                                              exact hR _ _ (rf_iretL C rfl dL_law_1714)
                                                          · refine rk_of (fun _ _ _ _ _ k => lv_goto (tgt := 2457) hx hb dL_law_1715 (by decide) k) ?_
                                                            exact hJ2457 () ls (lv_sub hl [2, 3, 4, 5, 6, 7] rfl)
                                                        · refine rk_of (fun _ _ _ _ _ k => lv_iconst (v := 0) hx hb dL_law_1696 rfl k) ?_
                                                          refine rk_inr ?_
                                                          exact hR _ _ (rf_iretL C rfl dL_law_1697)
                                                      · refine rk_case (fun c_44_24 => ?_) (fun c_44_24 => ?_)
                                                        · refine rk_of (fun _ _ _ _ _ k => by rw [c_44_24]; exact lv_tableIn (off := 1674) (tgt := 1718) hx hb dL_law_44 (by decide) (by decide) rfl (by decide) k) ?_
                                                          refine rk_of (fun _ _ _ _ _ k => lr_aload_n hx hb dL_law_1718 rfl (lv_at hl 1 rfl) (lr_aload_n hx hb dL_law_1719 rfl (lv_at hl 0 rfl) (lv_iload hx hb dL_law_1720 (lv_at hl 5 rfl) (lv_iconst (v := 1) hx hb dL_law_1722 rfl (lv_iadd hx hb dL_law_1723 k))))) ?_
                                                          refine rk_iald C dL_law_1724 (fun v1724 => ?_)
                                                          refine rk_of (fun _ _ _ _ _ k => lv_i2c hx hb dL_law_1725 rfl (lr_aload_n hx hb dL_law_1726 rfl (lv_at hl 3 rfl) k)) ?_
                                                          refine rk_callI hX (cl_SX (rest := []) C (ct_X0_type H p1 (((v1724).toUInt32 % 65536).toInt32) p3) (lw_SW q1917 q1918 q100 q1919) hd_X0_type ⟨(Nat.le_of_ble_eq_true rfl), (Nat.le_of_ble_eq_true rfl)⟩ rfl hl.1 rfl (zw_le zw_nil (Nat.le_of_ble_eq_true rfl)) dL_law_1727) (fun v1727 => ?_)
                                                          refine rk_ofs (fun _ _ _ _ _ k => lr_istore hx hb dL_law_1730 hl (Nat.le_of_ble_eq_true rfl) [0, 1, 2, 3, 4, 5] rfl ⟨trivial, ⟨trivial, ⟨trivial, ⟨trivial, ⟨trivial, ⟨rfl, trivial⟩⟩⟩⟩⟩⟩ k) (fun ls hl => ?_)
                                                          refine rk_of (fun _ _ _ _ _ k => lr_aload_n hx hb dL_law_1732 rfl (lv_at hl 3 rfl) (lr_aload_n hx hb dL_law_1733 rfl (lv_at hl 1 rfl) (lv_iload hx hb dL_law_1734 (lv_at hl 6 rfl) (lv_iconst (v := 1) hx hb dL_law_1736 rfl (lv_iadd hx hb dL_law_1737 k))))) ?_
                                                          refine rk_iald C dL_law_1738 (fun v1738 => ?_)
                                                          refine rk_of (fun _ _ _ _ _ k => lv_i2c hx hb dL_law_1739 rfl k) ?_
                                                          refine rk_callI hX (cl_V (rest := []) (av := [.int (((v1738).toUInt32 % 65536).toInt32)]) C (hc_X3 H) (ct_X3_type H p2 (((v1738).toUInt32 % 65536).toInt32)) (lw_V q2982 q2983 q2984 q112 q2985) ⟨rfl, hd_X3_type⟩ ⟨(Nat.le_of_ble_eq_true rfl), (Nat.le_of_ble_eq_true rfl)⟩ rfl hl.1 rfl (zw_le zw_nil (Nat.le_of_ble_eq_true rfl)) dL_law_1740) (fun v1740 => ?_)
                                                          refine rk_ofs (fun _ _ _ _ _ k => lr_istore hx hb dL_law_1743 hl (Nat.le_of_ble_eq_true rfl) [0, 1, 2, 3, 4, 5, 6] rfl ⟨rfl, ⟨trivial, ⟨trivial, ⟨trivial, ⟨trivial, ⟨trivial, ⟨trivial, trivial⟩⟩⟩⟩⟩⟩⟩ k) (fun ls hl => ?_)
                                                          refine rk_of (fun _ _ _ _ _ k => lr_aload_n hx hb dL_law_1745 rfl (lv_at hl 4 rfl) k) ?_
                                                          refine rk_callI hX (cl_V (rest := []) (av := []) C (hc_X3 H) (ct_X3_thrown H p2) (lw_V q2647 q2648 q2649 q112 q2650) ⟨rfl, hd_X3_thrown⟩ ⟨(Nat.le_of_ble_eq_true rfl), (Nat.le_of_ble_eq_true rfl)⟩ rfl hl.1 rfl (zw_le zw_nil (Nat.le_of_ble_eq_true rfl)) dL_law_1746) (fun v1746 => ?_)
                                                          refine rk_ite (fun _ _ _ _ _ k1 k2 => lv_iload hx hb dL_law_1749 (lv_at hl 1 rfl) (lv_icmp_eq (tgt := 1756) hx hb dL_law_1751 (by decide) k1 k2)) (fun c_1751 => ?_) (fun c_1751 => ?_)
                                                          · refine rk_ite (fun _ _ _ _ _ k1 k2 => lv_iload hx hb dL_law_1756 (lv_at hl 1 rfl) (lv_if_ne (tgt := 1773) hx hb dL_law_1758 (by decide) k2 k1)) (fun c_1758 => ?_) (fun c_1758 => ?_)
                                                            · refine rk_of (fun _ _ _ _ _ k => lr_aload_n hx hb dL_law_1761 rfl (lv_at hl 5 rfl) (lv_iconst (v := 0) hx hb dL_law_1762 rfl k)) ?_
                                                              refine rk_lald C dL_law_1763 (fun v1763 => ?_)
                                                              refine rk_ite (fun _ _ _ _ _ k1 k2 => lv_iload hx hb dL_law_1764 (lv_at hl 0 rfl) (lv_i2l hx hb dL_law_1766 rfl (W.lcmp hx hb dL_law_1767 (lv_if_eq (tgt := 1773) hx hb dL_law_1768 (by decide) k1 k2)))) (fun c_1768 => ?_) (fun c_1768 => ?_)
                                                              · refine rk_of (fun _ _ _ _ _ k => lv_goto (tgt := 2457) hx hb dL_law_1773 (by decide) k) ?_
                                                                exact hJ2457 () ls (lv_sub hl [2, 3, 4, 5, 6, 7] rfl)
                                                              · refine rk_of (fun _ _ _ _ _ k => lv_iconst (v := 0) hx hb dL_law_1771 rfl k) ?_
                                                                refine rk_inr ?_
                                                                exact hR _ _ (rf_iretL C rfl dL_law_1772)
                                                            · refine rk_of (fun _ _ _ _ _ k => lv_goto (tgt := 2457) hx hb dL_law_1773 (by decide) k) ?_
                                                              exact hJ2457 () ls (lv_sub hl [2, 3, 4, 5, 6, 7] rfl)
                                                          · refine rk_of (fun _ _ _ _ _ k => lv_iconst (v := 0) hx hb dL_law_1754 rfl k) ?_
                                                            refine rk_inr ?_
                                                            exact hR _ _ (rf_iretL C rfl dL_law_1755)
                                                        · refine rk_case (fun c_44_25 => ?_) (fun c_44_25 => ?_)
                                                          · refine rk_of (fun _ _ _ _ _ k => by rw [c_44_25]; exact lv_tableIn (off := 1732) (tgt := 1776) hx hb dL_law_44 (by decide) (by decide) rfl (by decide) k) ?_
                                                            refine rk_of (fun _ _ _ _ _ k => lr_aload_n hx hb dL_law_1776 rfl (lv_at hl 1 rfl) (lr_aload_n hx hb dL_law_1777 rfl (lv_at hl 3 rfl) k)) ?_
                                                            refine rk_callI hX (cl_SX (rest := []) C (ct_X0_read H p1 p3) (lw_SW q1964 q1965 q100 q1966) hd_X0_read ⟨(Nat.le_of_ble_eq_true rfl), (Nat.le_of_ble_eq_true rfl)⟩ rfl hl.1 rfl (zw_le zw_nil (Nat.le_of_ble_eq_true rfl)) dL_law_1778) (fun v1778 => ?_)
                                                            refine rk_ofs (fun _ _ _ _ _ k => lr_istore hx hb dL_law_1781 hl (Nat.le_of_ble_eq_true rfl) [0, 1, 2, 3, 4, 5] rfl ⟨trivial, ⟨trivial, ⟨trivial, ⟨trivial, ⟨trivial, ⟨rfl, trivial⟩⟩⟩⟩⟩⟩ k) (fun ls hl => ?_)
                                                            refine rk_of (fun _ _ _ _ _ k => lr_aload_n hx hb dL_law_1783 rfl (lv_at hl 3 rfl) k) ?_
                                                            refine rk_callI hX (cl_V (rest := []) (av := []) C (hc_X3 H) (ct_X3_read H p2) (lw_V q2986 q2987 q2988 q112 q2989) ⟨rfl, hd_X3_read⟩ ⟨(Nat.le_of_ble_eq_true rfl), (Nat.le_of_ble_eq_true rfl)⟩ rfl hl.1 rfl (zw_le zw_nil (Nat.le_of_ble_eq_true rfl)) dL_law_1784) (fun v1784 => ?_)
                                                            refine rk_ofs (fun _ _ _ _ _ k => lr_istore hx hb dL_law_1787 hl (Nat.le_of_ble_eq_true rfl) [0, 1, 2, 3, 4, 5, 6] rfl ⟨rfl, ⟨trivial, ⟨trivial, ⟨trivial, ⟨trivial, ⟨trivial, ⟨trivial, trivial⟩⟩⟩⟩⟩⟩⟩ k) (fun ls hl => ?_)
                                                            refine rk_of (fun _ _ _ _ _ k => lr_aload_n hx hb dL_law_1789 rfl (lv_at hl 4 rfl) k) ?_
                                                            refine rk_callI hX (cl_V (rest := []) (av := []) C (hc_X3 H) (ct_X3_thrown H p2) (lw_V q2647 q2648 q2649 q112 q2650) ⟨rfl, hd_X3_thrown⟩ ⟨(Nat.le_of_ble_eq_true rfl), (Nat.le_of_ble_eq_true rfl)⟩ rfl hl.1 rfl (zw_le zw_nil (Nat.le_of_ble_eq_true rfl)) dL_law_1790) (fun v1790 => ?_)
                                                            refine rk_ite (fun _ _ _ _ _ k1 k2 => lv_iload hx hb dL_law_1793 (lv_at hl 1 rfl) (lv_icmp_eq (tgt := 1800) hx hb dL_law_1795 (by decide) k1 k2)) (fun c_1795 => ?_) (fun c_1795 => ?_)
                                                            · refine rk_ite (fun _ _ _ _ _ k1 k2 => lv_iload hx hb dL_law_1800 (lv_at hl 1 rfl) (lv_if_ne (tgt := 1817) hx hb dL_law_1802 (by decide) k2 k1)) (fun c_1802 => ?_) (fun c_1802 => ?_)
                                                              · refine rk_of (fun _ _ _ _ _ k => lr_aload_n hx hb dL_law_1805 rfl (lv_at hl 5 rfl) (lv_iconst (v := 0) hx hb dL_law_1806 rfl k)) ?_
                                                                refine rk_lald C dL_law_1807 (fun v1807 => ?_)
                                                                refine rk_ite (fun _ _ _ _ _ k1 k2 => lv_iload hx hb dL_law_1808 (lv_at hl 0 rfl) (lv_i2l hx hb dL_law_1810 rfl (W.lcmp hx hb dL_law_1811 (lv_if_eq (tgt := 1817) hx hb dL_law_1812 (by decide) k1 k2)))) (fun c_1812 => ?_) (fun c_1812 => ?_)
                                                                · refine rk_of (fun _ _ _ _ _ k => lv_goto (tgt := 2457) hx hb dL_law_1817 (by decide) k) ?_
                                                                  exact hJ2457 () ls (lv_sub hl [2, 3, 4, 5, 6, 7] rfl)
                                                                · refine rk_of (fun _ _ _ _ _ k => lv_iconst (v := 0) hx hb dL_law_1815 rfl k) ?_
                                                                  refine rk_inr ?_
                                                                  exact hR _ _ (rf_iretL C rfl dL_law_1816)
                                                              · refine rk_of (fun _ _ _ _ _ k => lv_goto (tgt := 2457) hx hb dL_law_1817 (by decide) k) ?_
                                                                exact hJ2457 () ls (lv_sub hl [2, 3, 4, 5, 6, 7] rfl)
                                                            · refine rk_of (fun _ _ _ _ _ k => lv_iconst (v := 0) hx hb dL_law_1798 rfl k) ?_
                                                              refine rk_inr ?_
                                                              exact hR _ _ (rf_iretL C rfl dL_law_1799)
                                                          · refine rk_case (fun c_44_26 => ?_) (fun c_44_26 => ?_)
                                                            · refine rk_of (fun _ _ _ _ _ k => by rw [c_44_26]; exact lv_tableIn (off := 1776) (tgt := 1820) hx hb dL_law_44 (by decide) (by decide) rfl (by decide) k) ?_
                                                              refine rk_of (fun _ _ _ _ _ k => lr_aload_n hx hb dL_law_1820 rfl (lv_at hl 1 rfl) (lr_aload_n hx hb dL_law_1821 rfl (lv_at hl 3 rfl) k)) ?_
                                                              refine rk_callI hX (cl_SX (rest := []) C (ct_X0_errorPosition H p1 p3) (lw_SW q2426 q2427 q100 q2428) hd_X0_errorPosition ⟨(Nat.le_of_ble_eq_true rfl), (Nat.le_of_ble_eq_true rfl)⟩ rfl hl.1 rfl (zw_le zw_nil (Nat.le_of_ble_eq_true rfl)) dL_law_1822) (fun v1822 => ?_)
                                                              refine rk_ofs (fun _ _ _ _ _ k => lr_istore hx hb dL_law_1825 hl (Nat.le_of_ble_eq_true rfl) [0, 1, 2, 3, 4, 5] rfl ⟨trivial, ⟨trivial, ⟨trivial, ⟨trivial, ⟨trivial, ⟨rfl, trivial⟩⟩⟩⟩⟩⟩ k) (fun ls hl => ?_)
                                                              refine rk_of (fun _ _ _ _ _ k => lr_aload_n hx hb dL_law_1827 rfl (lv_at hl 3 rfl) k) ?_
                                                              refine rk_callI hX (cl_V (rest := []) (av := []) C (hc_X3 H) (ct_X3_errorPosition H p2) (lw_V q3046 q3047 q3048 q112 q3049) ⟨rfl, hd_X3_errorPosition⟩ ⟨(Nat.le_of_ble_eq_true rfl), (Nat.le_of_ble_eq_true rfl)⟩ rfl hl.1 rfl (zw_le zw_nil (Nat.le_of_ble_eq_true rfl)) dL_law_1828) (fun v1828 => ?_)
                                                              refine rk_ofs (fun _ _ _ _ _ k => lr_istore hx hb dL_law_1831 hl (Nat.le_of_ble_eq_true rfl) [0, 1, 2, 3, 4, 5, 6] rfl ⟨rfl, ⟨trivial, ⟨trivial, ⟨trivial, ⟨trivial, ⟨trivial, ⟨trivial, trivial⟩⟩⟩⟩⟩⟩⟩ k) (fun ls hl => ?_)
                                                              refine rk_of (fun _ _ _ _ _ k => lr_aload_n hx hb dL_law_1833 rfl (lv_at hl 4 rfl) k) ?_
                                                              refine rk_callI hX (cl_V (rest := []) (av := []) C (hc_X3 H) (ct_X3_thrown H p2) (lw_V q2647 q2648 q2649 q112 q2650) ⟨rfl, hd_X3_thrown⟩ ⟨(Nat.le_of_ble_eq_true rfl), (Nat.le_of_ble_eq_true rfl)⟩ rfl hl.1 rfl (zw_le zw_nil (Nat.le_of_ble_eq_true rfl)) dL_law_1834) (fun v1834 => ?_)
                                                              refine rk_ite (fun _ _ _ _ _ k1 k2 => lv_iload hx hb dL_law_1837 (lv_at hl 1 rfl) (lv_icmp_eq (tgt := 1844) hx hb dL_law_1839 (by decide) k1 k2)) (fun c_1839 => ?_) (fun c_1839 => ?_)
                                                              · refine rk_ite (fun _ _ _ _ _ k1 k2 => lv_iload hx hb dL_law_1844 (lv_at hl 1 rfl) (lv_if_ne (tgt := 1861) hx hb dL_law_1846 (by decide) k2 k1)) (fun c_1846 => ?_) (fun c_1846 => ?_)
                                                                · refine rk_of (fun _ _ _ _ _ k => lr_aload_n hx hb dL_law_1849 rfl (lv_at hl 5 rfl) (lv_iconst (v := 0) hx hb dL_law_1850 rfl k)) ?_
                                                                  refine rk_lald C dL_law_1851 (fun v1851 => ?_)
                                                                  refine rk_ite (fun _ _ _ _ _ k1 k2 => lv_iload hx hb dL_law_1852 (lv_at hl 0 rfl) (lv_i2l hx hb dL_law_1854 rfl (W.lcmp hx hb dL_law_1855 (lv_if_eq (tgt := 1861) hx hb dL_law_1856 (by decide) k1 k2)))) (fun c_1856 => ?_) (fun c_1856 => ?_)
                                                                  · refine rk_of (fun _ _ _ _ _ k => lv_goto (tgt := 2457) hx hb dL_law_1861 (by decide) k) ?_
                                                                    exact hJ2457 () ls (lv_sub hl [2, 3, 4, 5, 6, 7] rfl)
                                                                  · refine rk_of (fun _ _ _ _ _ k => lv_iconst (v := 0) hx hb dL_law_1859 rfl k) ?_
                                                                    refine rk_inr ?_
                                                                    exact hR _ _ (rf_iretL C rfl dL_law_1860)
                                                                · refine rk_of (fun _ _ _ _ _ k => lv_goto (tgt := 2457) hx hb dL_law_1861 (by decide) k) ?_
                                                                  exact hJ2457 () ls (lv_sub hl [2, 3, 4, 5, 6, 7] rfl)
                                                              · refine rk_of (fun _ _ _ _ _ k => lv_iconst (v := 0) hx hb dL_law_1842 rfl k) ?_
                                                                refine rk_inr ?_
                                                                exact hR _ _ (rf_iretL C rfl dL_law_1843)
                                                            · refine rk_case (fun c_44_27 => ?_) (fun c_44_27 => ?_)
                                                              · refine rk_of (fun _ _ _ _ _ k => by rw [c_44_27]; exact lv_tableIn (off := 1820) (tgt := 1864) hx hb dL_law_44 (by decide) (by decide) rfl (by decide) k) ?_
                                                                refine rk_of (fun _ _ _ _ _ k => lr_aload_n hx hb dL_law_1864 rfl (lv_at hl 1 rfl) (lr_aload_n hx hb dL_law_1865 rfl (lv_at hl 0 rfl) (lv_iload hx hb dL_law_1866 (lv_at hl 5 rfl) (lv_iconst (v := 1) hx hb dL_law_1868 rfl (lv_iadd hx hb dL_law_1869 k))))) ?_
                                                                refine rk_iald C dL_law_1870 (fun v1870 => ?_)
                                                                refine rk_join (β := Int32) (fun (b1879 : Int32) ls => lv_has ls 9 [(0, va_rf p0), (1, va_rf p1), (2, va_rf p2), (3, va_rf p3), (4, va_rf p4), (5, .int x5)]) (fun (b1879 : Int32) ls => F0 m 1879 ls [.int b1879, va_rf p1]) (fun b1879 ls hl => ?_) (fun hJ1879 => ?_)
                                                                · refine rk_of (fun _ _ _ _ _ k => lr_aload_n hx hb dL_law_1879 rfl (lv_at hl 0 rfl) (lv_iload hx hb dL_law_1880 (lv_at hl 5 rfl) (lv_iconst (v := 2) hx hb dL_law_1882 rfl (lv_iadd hx hb dL_law_1883 k)))) ?_
                                                                  refine rk_iald C dL_law_1884 (fun v1884 => ?_)
                                                                  refine rk_join (β := Int32) (fun (b1893 : Int32) ls => lv_has ls 9 [(0, va_rf p0), (1, va_rf p1), (2, va_rf p2), (3, va_rf p3), (4, va_rf p4), (5, .int x5)]) (fun (b1893 : Int32) ls => F0 m 1893 ls [.int b1893, .int b1879, va_rf p1]) (fun b1893 ls hl => ?_) (fun hJ1893 => ?_)
                                                                  · refine rk_of (fun _ _ _ _ _ k => lr_aload_n hx hb dL_law_1893 rfl (lv_at hl 3 rfl) k) ?_
                                                                    refine rk_callI hX (cl_SX (rest := []) C (ct_X0_refusal H p1 b1879 b1893 p3) (lw_SW q2433 q2434 q100 q2435) hd_X0_refusal ⟨(Nat.le_of_ble_eq_true rfl), (Nat.le_of_ble_eq_true rfl)⟩ rfl hl.1 rfl (zw_le zw_nil (Nat.le_of_ble_eq_true rfl)) dL_law_1894) (fun v1894 => ?_)
                                                                    refine rk_ofs (fun _ _ _ _ _ k => lr_istore hx hb dL_law_1897 hl (Nat.le_of_ble_eq_true rfl) [0, 1, 2, 3, 4, 5] rfl ⟨trivial, ⟨trivial, ⟨trivial, ⟨trivial, ⟨trivial, ⟨rfl, trivial⟩⟩⟩⟩⟩⟩ k) (fun ls hl => ?_)
                                                                    refine rk_of (fun _ _ _ _ _ k => lr_aload_n hx hb dL_law_1899 rfl (lv_at hl 3 rfl) (lr_aload_n hx hb dL_law_1900 rfl (lv_at hl 1 rfl) (lv_iload hx hb dL_law_1901 (lv_at hl 6 rfl) (lv_iconst (v := 1) hx hb dL_law_1903 rfl (lv_iadd hx hb dL_law_1904 k))))) ?_
                                                                    refine rk_iald C dL_law_1905 (fun v1905 => ?_)
                                                                    refine rk_join (β := Int32) (fun (b1914 : Int32) ls => lv_has ls 9 [(0, va_rf p0), (1, va_rf p1), (2, va_rf p2), (3, va_rf p3), (4, va_rf p4), (5, .int x5), (6, .int v1894)]) (fun (b1914 : Int32) ls => F0 m 1914 ls [.int b1914, va_rf p2]) (fun b1914 ls hl => ?_) (fun hJ1914 => ?_)
                                                                    · refine rk_of (fun _ _ _ _ _ k => lr_aload_n hx hb dL_law_1914 rfl (lv_at hl 0 rfl) (lv_iload hx hb dL_law_1915 (lv_at hl 5 rfl) (lv_iconst (v := 2) hx hb dL_law_1917 rfl (lv_iadd hx hb dL_law_1918 k)))) ?_
                                                                      refine rk_iald C dL_law_1919 (fun v1919 => ?_)
                                                                      refine rk_join (β := Int32) (fun (b1928 : Int32) ls => lv_has ls 9 [(0, va_rf p0), (1, va_rf p1), (2, va_rf p2), (3, va_rf p3), (4, va_rf p4), (5, .int x5), (6, .int v1894)]) (fun (b1928 : Int32) ls => F0 m 1928 ls [.int b1928, .int b1914, va_rf p2]) (fun b1928 ls hl => ?_) (fun hJ1928 => ?_)
                                                                      · refine rk_callI hX (cl_V (rest := []) (av := [.int b1914, .int b1928]) C (hc_X3 H) (ct_X3_refusal H p2 b1914 b1928) (lw_V q3050 q3051 q3052 q112 q3053) ⟨rfl, hd_X3_refusal⟩ ⟨(Nat.le_of_ble_eq_true rfl), (Nat.le_of_ble_eq_true rfl)⟩ rfl hl.1 rfl (zw_le zw_nil (Nat.le_of_ble_eq_true rfl)) dL_law_1928) (fun v1928 => ?_)
                                                                        refine rk_ofs (fun _ _ _ _ _ k => lr_istore hx hb dL_law_1931 hl (Nat.le_of_ble_eq_true rfl) [0, 1, 2, 3, 4, 5, 6] rfl ⟨trivial, ⟨trivial, ⟨trivial, ⟨trivial, ⟨trivial, ⟨trivial, ⟨rfl, trivial⟩⟩⟩⟩⟩⟩⟩ k) (fun ls hl => ?_)
                                                                        refine rk_of (fun _ _ _ _ _ k => lr_aload_n hx hb dL_law_1933 rfl (lv_at hl 3 rfl) k) ?_
                                                                        refine rk_callI hX (cl_V (rest := []) (av := []) C (hc_X3 H) (ct_X3_thrown H p2) (lw_V q2647 q2648 q2649 q112 q2650) ⟨rfl, hd_X3_thrown⟩ ⟨(Nat.le_of_ble_eq_true rfl), (Nat.le_of_ble_eq_true rfl)⟩ rfl hl.1 rfl (zw_le zw_nil (Nat.le_of_ble_eq_true rfl)) dL_law_1934) (fun v1934 => ?_)
                                                                        refine rk_ite (fun _ _ _ _ _ k1 k2 => lv_iload hx hb dL_law_1937 (lv_at hl 7 rfl) (lv_icmp_eq (tgt := 1944) hx hb dL_law_1939 (by decide) k1 k2)) (fun c_1939 => ?_) (fun c_1939 => ?_)
                                                                        · refine rk_ite (fun _ _ _ _ _ k1 k2 => lv_iload hx hb dL_law_1944 (lv_at hl 7 rfl) (lv_if_ne (tgt := 1961) hx hb dL_law_1946 (by decide) k2 k1)) (fun c_1946 => ?_) (fun c_1946 => ?_)
                                                                          · refine rk_of (fun _ _ _ _ _ k => lr_aload_n hx hb dL_law_1949 rfl (lv_at hl 4 rfl) (lv_iconst (v := 0) hx hb dL_law_1950 rfl k)) ?_
                                                                            refine rk_lald C dL_law_1951 (fun v1951 => ?_)
                                                                            refine rk_ite (fun _ _ _ _ _ k1 k2 => lv_iload hx hb dL_law_1952 (lv_at hl 0 rfl) (lv_i2l hx hb dL_law_1954 rfl (W.lcmp hx hb dL_law_1955 (lv_if_eq (tgt := 1961) hx hb dL_law_1956 (by decide) k1 k2)))) (fun c_1956 => ?_) (fun c_1956 => ?_)
                                                                            · refine rk_of (fun _ _ _ _ _ k => lv_goto (tgt := 2457) hx hb dL_law_1961 (by decide) k) ?_
                                                                              exact hJ2457 () ls (lv_sub hl [1, 2, 3, 4, 5, 6] rfl)
                                                                            · refine rk_of (fun _ _ _ _ _ k => lv_iconst (v := 0) hx hb dL_law_1959 rfl k) ?_
                                                                              refine rk_inr ?_
                                                                              exact hR _ _ (rf_iretL C rfl dL_law_1960)
                                                                          · refine rk_of (fun _ _ _ _ _ k => lv_goto (tgt := 2457) hx hb dL_law_1961 (by decide) k) ?_
                                                                            exact hJ2457 () ls (lv_sub hl [1, 2, 3, 4, 5, 6] rfl)
                                                                        · refine rk_of (fun _ _ _ _ _ k => lv_iconst (v := 0) hx hb dL_law_1942 rfl k) ?_
                                                                          refine rk_inr ?_
                                                                          exact hR _ _ (rf_iretL C rfl dL_law_1943)
                                                                      · refine rk_ite (fun _ _ _ _ _ k1 k2 => lv_if_eq (tgt := 1927) hx hb dL_law_1920 (by decide) k1 k2) (fun c_1920 => ?_) (fun c_1920 => ?_)
                                                                        · refine rk_of (fun _ _ _ _ _ k => lv_iconst (v := 0) hx hb dL_law_1927 rfl k) ?_
                                                                          exact hJ1928 0 ls (lv_sub hl [0, 1, 2, 3, 4, 5, 6] rfl)
                                                                        · refine rk_of (fun _ _ _ _ _ k => lv_iconst (v := 1) hx hb dL_law_1923 rfl (lv_goto (tgt := 1928) hx hb dL_law_1924 (by decide) k)) ?_
                                                                          exact hJ1928 1 ls (lv_sub hl [0, 1, 2, 3, 4, 5, 6] rfl)
                                                                    · refine rk_ite (fun _ _ _ _ _ k1 k2 => lv_if_eq (tgt := 1913) hx hb dL_law_1906 (by decide) k1 k2) (fun c_1906 => ?_) (fun c_1906 => ?_)
                                                                      · refine rk_of (fun _ _ _ _ _ k => lv_iconst (v := 0) hx hb dL_law_1913 rfl k) ?_
                                                                        exact hJ1914 0 ls (lv_sub hl [1, 2, 3, 4, 5, 6, 0] rfl)
                                                                      · refine rk_of (fun _ _ _ _ _ k => lv_iconst (v := 1) hx hb dL_law_1909 rfl (lv_goto (tgt := 1914) hx hb dL_law_1910 (by decide) k)) ?_
                                                                        exact hJ1914 1 ls (lv_sub hl [1, 2, 3, 4, 5, 6, 0] rfl)
                                                                  · refine rk_ite (fun _ _ _ _ _ k1 k2 => lv_if_eq (tgt := 1892) hx hb dL_law_1885 (by decide) k1 k2) (fun c_1885 => ?_) (fun c_1885 => ?_)
                                                                    · refine rk_of (fun _ _ _ _ _ k => lv_iconst (v := 0) hx hb dL_law_1892 rfl k) ?_
                                                                      exact hJ1893 0 ls (lv_sub hl [0, 1, 2, 3, 4, 5] rfl)
                                                                    · refine rk_of (fun _ _ _ _ _ k => lv_iconst (v := 1) hx hb dL_law_1888 rfl (lv_goto (tgt := 1893) hx hb dL_law_1889 (by decide) k)) ?_
                                                                      exact hJ1893 1 ls (lv_sub hl [0, 1, 2, 3, 4, 5] rfl)
                                                                · refine rk_ite (fun _ _ _ _ _ k1 k2 => lv_if_eq (tgt := 1878) hx hb dL_law_1871 (by decide) k1 k2) (fun c_1871 => ?_) (fun c_1871 => ?_)
                                                                  · refine rk_of (fun _ _ _ _ _ k => lv_iconst (v := 0) hx hb dL_law_1878 rfl k) ?_
                                                                    exact hJ1879 0 ls (lv_sub hl [0, 1, 2, 3, 4, 5] rfl)
                                                                  · refine rk_of (fun _ _ _ _ _ k => lv_iconst (v := 1) hx hb dL_law_1874 rfl (lv_goto (tgt := 1879) hx hb dL_law_1875 (by decide) k)) ?_
                                                                    exact hJ1879 1 ls (lv_sub hl [0, 1, 2, 3, 4, 5] rfl)
                                                              · refine rk_case (fun c_44_28 => ?_) (fun c_44_28 => ?_)
                                                                · refine rk_of (fun _ _ _ _ _ k => by rw [c_44_28]; exact lv_tableIn (off := 1920) (tgt := 1964) hx hb dL_law_44 (by decide) (by decide) rfl (by decide) k) ?_
                                                                  refine rk_of (fun _ _ _ _ _ k => lr_aload_n hx hb dL_law_1964 rfl (lv_at hl 1 rfl) (lr_aload_n hx hb dL_law_1965 rfl (lv_at hl 0 rfl) (lv_iload hx hb dL_law_1966 (lv_at hl 5 rfl) (lv_iconst (v := 1) hx hb dL_law_1968 rfl (lv_iadd hx hb dL_law_1969 k))))) ?_
                                                                  refine rk_iald C dL_law_1970 (fun v1970 => ?_)
                                                                  refine rk_of (fun _ _ _ _ _ k => lr_aload_n hx hb dL_law_1971 rfl (lv_at hl 3 rfl) k) ?_
                                                                  refine rk_callI hX (cl_SX (rest := []) C (ct_X0_describe H p1 v1970 p3) (lw_SW q2450 q2451 q100 q2452) hd_X0_describe ⟨(Nat.le_of_ble_eq_true rfl), (Nat.le_of_ble_eq_true rfl)⟩ rfl hl.1 rfl (zw_le zw_nil (Nat.le_of_ble_eq_true rfl)) dL_law_1972) (fun v1972 => ?_)
                                                                  refine rk_ofs (fun _ _ _ _ _ k => lr_istore hx hb dL_law_1975 hl (Nat.le_of_ble_eq_true rfl) [0, 1, 2, 3, 4, 5] rfl ⟨trivial, ⟨trivial, ⟨trivial, ⟨trivial, ⟨trivial, ⟨rfl, trivial⟩⟩⟩⟩⟩⟩ k) (fun ls hl => ?_)
                                                                  refine rk_of (fun _ _ _ _ _ k => lr_aload_n hx hb dL_law_1977 rfl (lv_at hl 3 rfl) (lr_aload_n hx hb dL_law_1978 rfl (lv_at hl 1 rfl) (lv_iload hx hb dL_law_1979 (lv_at hl 6 rfl) (lv_iconst (v := 1) hx hb dL_law_1981 rfl (lv_iadd hx hb dL_law_1982 k))))) ?_
                                                                  refine rk_iald C dL_law_1983 (fun v1983 => ?_)
                                                                  refine rk_callI hX (cl_V (rest := []) (av := [.int v1983]) C (hc_X3 H) (ct_X3_describe H p2 v1983) (lw_V q2929 q2930 q2931 q112 q2932) ⟨rfl, hd_X3_describe⟩ ⟨(Nat.le_of_ble_eq_true rfl), (Nat.le_of_ble_eq_true rfl)⟩ rfl hl.1 rfl (zw_le zw_nil (Nat.le_of_ble_eq_true rfl)) dL_law_1984) (fun v1984 => ?_)
                                                                  refine rk_ofs (fun _ _ _ _ _ k => lr_istore hx hb dL_law_1987 hl (Nat.le_of_ble_eq_true rfl) [0, 1, 2, 3, 4, 5, 6] rfl ⟨rfl, ⟨trivial, ⟨trivial, ⟨trivial, ⟨trivial, ⟨trivial, ⟨trivial, trivial⟩⟩⟩⟩⟩⟩⟩ k) (fun ls hl => ?_)
                                                                  refine rk_of (fun _ _ _ _ _ k => lr_aload_n hx hb dL_law_1989 rfl (lv_at hl 4 rfl) k) ?_
                                                                  refine rk_callI hX (cl_V (rest := []) (av := []) C (hc_X3 H) (ct_X3_thrown H p2) (lw_V q2647 q2648 q2649 q112 q2650) ⟨rfl, hd_X3_thrown⟩ ⟨(Nat.le_of_ble_eq_true rfl), (Nat.le_of_ble_eq_true rfl)⟩ rfl hl.1 rfl (zw_le zw_nil (Nat.le_of_ble_eq_true rfl)) dL_law_1990) (fun v1990 => ?_)
                                                                  refine rk_ite (fun _ _ _ _ _ k1 k2 => lv_iload hx hb dL_law_1993 (lv_at hl 1 rfl) (lv_icmp_eq (tgt := 2000) hx hb dL_law_1995 (by decide) k1 k2)) (fun c_1995 => ?_) (fun c_1995 => ?_)
                                                                  · refine rk_ite (fun _ _ _ _ _ k1 k2 => lv_iload hx hb dL_law_2000 (lv_at hl 1 rfl) (lv_if_ne (tgt := 2017) hx hb dL_law_2002 (by decide) k2 k1)) (fun c_2002 => ?_) (fun c_2002 => ?_)
                                                                    · refine rk_of (fun _ _ _ _ _ k => lr_aload_n hx hb dL_law_2005 rfl (lv_at hl 5 rfl) (lv_iconst (v := 0) hx hb dL_law_2006 rfl k)) ?_
                                                                      refine rk_lald C dL_law_2007 (fun v2007 => ?_)
                                                                      refine rk_ite (fun _ _ _ _ _ k1 k2 => lv_iload hx hb dL_law_2008 (lv_at hl 0 rfl) (lv_i2l hx hb dL_law_2010 rfl (W.lcmp hx hb dL_law_2011 (lv_if_eq (tgt := 2017) hx hb dL_law_2012 (by decide) k1 k2)))) (fun c_2012 => ?_) (fun c_2012 => ?_)
                                                                      · refine rk_of (fun _ _ _ _ _ k => lv_goto (tgt := 2457) hx hb dL_law_2017 (by decide) k) ?_
                                                                        exact hJ2457 () ls (lv_sub hl [2, 3, 4, 5, 6, 7] rfl)
                                                                      · refine rk_of (fun _ _ _ _ _ k => lv_iconst (v := 0) hx hb dL_law_2015 rfl k) ?_
                                                                        refine rk_inr ?_
                                                                        exact hR _ _ (rf_iretL C rfl dL_law_2016)
                                                                    · refine rk_of (fun _ _ _ _ _ k => lv_goto (tgt := 2457) hx hb dL_law_2017 (by decide) k) ?_
                                                                      exact hJ2457 () ls (lv_sub hl [2, 3, 4, 5, 6, 7] rfl)
                                                                  · refine rk_of (fun _ _ _ _ _ k => lv_iconst (v := 0) hx hb dL_law_1998 rfl k) ?_
                                                                    refine rk_inr ?_
                                                                    exact hR _ _ (rf_iretL C rfl dL_law_1999)
                                                                · refine rk_case (fun c_44_29 => ?_) (fun c_44_29 => ?_)
                                                                  · refine rk_of (fun _ _ _ _ _ k => by rw [c_44_29]; exact lv_tableIn (off := 1976) (tgt := 2020) hx hb dL_law_44 (by decide) (by decide) rfl (by decide) k) ?_
                                                                    refine rk_of (fun _ _ _ _ _ k => lr_aload_n hx hb dL_law_2020 rfl (lv_at hl 1 rfl) (lr_aload_n hx hb dL_law_2021 rfl (lv_at hl 0 rfl) (lv_iload hx hb dL_law_2022 (lv_at hl 5 rfl) (lv_iconst (v := 1) hx hb dL_law_2024 rfl (lv_iadd hx hb dL_law_2025 k))))) ?_
                                                                    refine rk_iald C dL_law_2026 (fun v2026 => ?_)
                                                                    refine rk_of (fun _ _ _ _ _ k => lr_aload_n hx hb dL_law_2027 rfl (lv_at hl 0 rfl) (lv_iload hx hb dL_law_2028 (lv_at hl 5 rfl) (lv_iconst (v := 2) hx hb dL_law_2030 rfl (lv_iadd hx hb dL_law_2031 k)))) ?_
                                                                    refine rk_iald C dL_law_2032 (fun v2032 => ?_)
                                                                    refine rk_of (fun _ _ _ _ _ k => lr_aload_n hx hb dL_law_2033 rfl (lv_at hl 3 rfl) k) ?_
                                                                    refine rk_callI hX (cl_SX (rest := []) C (ct_X0_show H p1 v2026 v2032 p3) (lw_SW q2471 q2472 q100 q2473) hd_X0_show ⟨(Nat.le_of_ble_eq_true rfl), (Nat.le_of_ble_eq_true rfl)⟩ rfl hl.1 rfl (zw_le zw_nil (Nat.le_of_ble_eq_true rfl)) dL_law_2034) (fun v2034 => ?_)
                                                                    refine rk_ofs (fun _ _ _ _ _ k => lr_istore hx hb dL_law_2037 hl (Nat.le_of_ble_eq_true rfl) [0, 1, 2, 3, 4, 5] rfl ⟨trivial, ⟨trivial, ⟨trivial, ⟨trivial, ⟨trivial, ⟨rfl, trivial⟩⟩⟩⟩⟩⟩ k) (fun ls hl => ?_)
                                                                    refine rk_of (fun _ _ _ _ _ k => lr_aload_n hx hb dL_law_2039 rfl (lv_at hl 3 rfl) (lr_aload_n hx hb dL_law_2040 rfl (lv_at hl 1 rfl) (lv_iload hx hb dL_law_2041 (lv_at hl 6 rfl) (lv_iconst (v := 1) hx hb dL_law_2043 rfl (lv_iadd hx hb dL_law_2044 k))))) ?_
                                                                    refine rk_iald C dL_law_2045 (fun v2045 => ?_)
                                                                    refine rk_of (fun _ _ _ _ _ k => lr_aload_n hx hb dL_law_2046 rfl (lv_at hl 1 rfl) (lv_iload hx hb dL_law_2047 (lv_at hl 6 rfl) (lv_iconst (v := 2) hx hb dL_law_2049 rfl (lv_iadd hx hb dL_law_2050 k)))) ?_
                                                                    refine rk_iald C dL_law_2051 (fun v2051 => ?_)
                                                                    refine rk_callI hX (cl_V (rest := []) (av := [.int v2045, .int v2051]) C (hc_X3 H) (ct_X3_show H p2 v2045 v2051) (lw_V q2945 q2946 q2947 q112 q2948) ⟨rfl, hd_X3_show⟩ ⟨(Nat.le_of_ble_eq_true rfl), (Nat.le_of_ble_eq_true rfl)⟩ rfl hl.1 rfl (zw_le zw_nil (Nat.le_of_ble_eq_true rfl)) dL_law_2052) (fun v2052 => ?_)
                                                                    refine rk_ofs (fun _ _ _ _ _ k => lr_istore hx hb dL_law_2055 hl (Nat.le_of_ble_eq_true rfl) [0, 1, 2, 3, 4, 5, 6] rfl ⟨rfl, ⟨trivial, ⟨trivial, ⟨trivial, ⟨trivial, ⟨trivial, ⟨trivial, trivial⟩⟩⟩⟩⟩⟩⟩ k) (fun ls hl => ?_)
                                                                    refine rk_of (fun _ _ _ _ _ k => lr_aload_n hx hb dL_law_2057 rfl (lv_at hl 4 rfl) k) ?_
                                                                    refine rk_callI hX (cl_V (rest := []) (av := []) C (hc_X3 H) (ct_X3_thrown H p2) (lw_V q2647 q2648 q2649 q112 q2650) ⟨rfl, hd_X3_thrown⟩ ⟨(Nat.le_of_ble_eq_true rfl), (Nat.le_of_ble_eq_true rfl)⟩ rfl hl.1 rfl (zw_le zw_nil (Nat.le_of_ble_eq_true rfl)) dL_law_2058) (fun v2058 => ?_)
                                                                    refine rk_ite (fun _ _ _ _ _ k1 k2 => lv_iload hx hb dL_law_2061 (lv_at hl 1 rfl) (lv_icmp_eq (tgt := 2068) hx hb dL_law_2063 (by decide) k1 k2)) (fun c_2063 => ?_) (fun c_2063 => ?_)
                                                                    · refine rk_ite (fun _ _ _ _ _ k1 k2 => lv_iload hx hb dL_law_2068 (lv_at hl 1 rfl) (lv_if_ne (tgt := 2085) hx hb dL_law_2070 (by decide) k2 k1)) (fun c_2070 => ?_) (fun c_2070 => ?_)
                                                                      · refine rk_of (fun _ _ _ _ _ k => lr_aload_n hx hb dL_law_2073 rfl (lv_at hl 5 rfl) (lv_iconst (v := 0) hx hb dL_law_2074 rfl k)) ?_
                                                                        refine rk_lald C dL_law_2075 (fun v2075 => ?_)
                                                                        refine rk_ite (fun _ _ _ _ _ k1 k2 => lv_iload hx hb dL_law_2076 (lv_at hl 0 rfl) (lv_i2l hx hb dL_law_2078 rfl (W.lcmp hx hb dL_law_2079 (lv_if_eq (tgt := 2085) hx hb dL_law_2080 (by decide) k1 k2)))) (fun c_2080 => ?_) (fun c_2080 => ?_)
                                                                        · refine rk_of (fun _ _ _ _ _ k => lv_goto (tgt := 2457) hx hb dL_law_2085 (by decide) k) ?_
                                                                          exact hJ2457 () ls (lv_sub hl [2, 3, 4, 5, 6, 7] rfl)
                                                                        · refine rk_of (fun _ _ _ _ _ k => lv_iconst (v := 0) hx hb dL_law_2083 rfl k) ?_
                                                                          refine rk_inr ?_
                                                                          exact hR _ _ (rf_iretL C rfl dL_law_2084)
                                                                      · refine rk_of (fun _ _ _ _ _ k => lv_goto (tgt := 2457) hx hb dL_law_2085 (by decide) k) ?_
                                                                        exact hJ2457 () ls (lv_sub hl [2, 3, 4, 5, 6, 7] rfl)
                                                                    · refine rk_of (fun _ _ _ _ _ k => lv_iconst (v := 0) hx hb dL_law_2066 rfl k) ?_
                                                                      refine rk_inr ?_
                                                                      exact hR _ _ (rf_iretL C rfl dL_law_2067)
                                                                  · refine rk_case (fun c_44_30 => ?_) (fun c_44_30 => ?_)
                                                                    · refine rk_of (fun _ _ _ _ _ k => by rw [c_44_30]; exact lv_tableIn (off := 2044) (tgt := 2088) hx hb dL_law_44 (by decide) (by decide) rfl (by decide) k) ?_
                                                                      refine rk_of (fun _ _ _ _ _ k => lr_aload_n hx hb dL_law_2088 rfl (lv_at hl 1 rfl) (lr_aload_n hx hb dL_law_2089 rfl (lv_at hl 0 rfl) (lv_iload hx hb dL_law_2090 (lv_at hl 5 rfl) (lv_iconst (v := 1) hx hb dL_law_2092 rfl (lv_iadd hx hb dL_law_2093 k))))) ?_
                                                                      refine rk_iald C dL_law_2094 (fun v2094 => ?_)
                                                                      refine rk_of (fun _ _ _ _ _ k => lr_aload_n hx hb dL_law_2095 rfl (lv_at hl 3 rfl) k) ?_
                                                                      refine rk_callI hX (cl_SX (rest := []) C (ct_X0_written H p1 v2094 p3) (lw_SW q2480 q2481 q100 q2482) hd_X0_written ⟨(Nat.le_of_ble_eq_true rfl), (Nat.le_of_ble_eq_true rfl)⟩ rfl hl.1 rfl (zw_le zw_nil (Nat.le_of_ble_eq_true rfl)) dL_law_2096) (fun v2096 => ?_)
                                                                      refine rk_ofs (fun _ _ _ _ _ k => lr_istore hx hb dL_law_2099 hl (Nat.le_of_ble_eq_true rfl) [0, 1, 2, 3, 4, 5] rfl ⟨trivial, ⟨trivial, ⟨trivial, ⟨trivial, ⟨trivial, ⟨rfl, trivial⟩⟩⟩⟩⟩⟩ k) (fun ls hl => ?_)
                                                                      refine rk_of (fun _ _ _ _ _ k => lr_aload_n hx hb dL_law_2101 rfl (lv_at hl 3 rfl) (lr_aload_n hx hb dL_law_2102 rfl (lv_at hl 1 rfl) (lv_iload hx hb dL_law_2103 (lv_at hl 6 rfl) (lv_iconst (v := 1) hx hb dL_law_2105 rfl (lv_iadd hx hb dL_law_2106 k))))) ?_
                                                                      refine rk_iald C dL_law_2107 (fun v2107 => ?_)
                                                                      refine rk_callI hX (cl_V (rest := []) (av := [.int v2107]) C (hc_X3 H) (ct_X3_written H p2 v2107) (lw_V q2949 q2950 q2951 q112 q2952) ⟨rfl, hd_X3_written⟩ ⟨(Nat.le_of_ble_eq_true rfl), (Nat.le_of_ble_eq_true rfl)⟩ rfl hl.1 rfl (zw_le zw_nil (Nat.le_of_ble_eq_true rfl)) dL_law_2108) (fun v2108 => ?_)
                                                                      refine rk_ofs (fun _ _ _ _ _ k => lr_istore hx hb dL_law_2111 hl (Nat.le_of_ble_eq_true rfl) [0, 1, 2, 3, 4, 5, 6] rfl ⟨rfl, ⟨trivial, ⟨trivial, ⟨trivial, ⟨trivial, ⟨trivial, ⟨trivial, trivial⟩⟩⟩⟩⟩⟩⟩ k) (fun ls hl => ?_)
                                                                      refine rk_of (fun _ _ _ _ _ k => lr_aload_n hx hb dL_law_2113 rfl (lv_at hl 4 rfl) k) ?_
                                                                      refine rk_callI hX (cl_V (rest := []) (av := []) C (hc_X3 H) (ct_X3_thrown H p2) (lw_V q2647 q2648 q2649 q112 q2650) ⟨rfl, hd_X3_thrown⟩ ⟨(Nat.le_of_ble_eq_true rfl), (Nat.le_of_ble_eq_true rfl)⟩ rfl hl.1 rfl (zw_le zw_nil (Nat.le_of_ble_eq_true rfl)) dL_law_2114) (fun v2114 => ?_)
                                                                      refine rk_ite (fun _ _ _ _ _ k1 k2 => lv_iload hx hb dL_law_2117 (lv_at hl 1 rfl) (lv_icmp_eq (tgt := 2124) hx hb dL_law_2119 (by decide) k1 k2)) (fun c_2119 => ?_) (fun c_2119 => ?_)
                                                                      · refine rk_ite (fun _ _ _ _ _ k1 k2 => lv_iload hx hb dL_law_2124 (lv_at hl 1 rfl) (lv_if_ne (tgt := 2141) hx hb dL_law_2126 (by decide) k2 k1)) (fun c_2126 => ?_) (fun c_2126 => ?_)
                                                                        · refine rk_of (fun _ _ _ _ _ k => lr_aload_n hx hb dL_law_2129 rfl (lv_at hl 5 rfl) (lv_iconst (v := 0) hx hb dL_law_2130 rfl k)) ?_
                                                                          refine rk_lald C dL_law_2131 (fun v2131 => ?_)
                                                                          refine rk_ite (fun _ _ _ _ _ k1 k2 => lv_iload hx hb dL_law_2132 (lv_at hl 0 rfl) (lv_i2l hx hb dL_law_2134 rfl (W.lcmp hx hb dL_law_2135 (lv_if_eq (tgt := 2141) hx hb dL_law_2136 (by decide) k1 k2)))) (fun c_2136 => ?_) (fun c_2136 => ?_)
                                                                          · refine rk_of (fun _ _ _ _ _ k => lv_goto (tgt := 2457) hx hb dL_law_2141 (by decide) k) ?_
                                                                            exact hJ2457 () ls (lv_sub hl [2, 3, 4, 5, 6, 7] rfl)
                                                                          · refine rk_of (fun _ _ _ _ _ k => lv_iconst (v := 0) hx hb dL_law_2139 rfl k) ?_
                                                                            refine rk_inr ?_
                                                                            exact hR _ _ (rf_iretL C rfl dL_law_2140)
                                                                        · refine rk_of (fun _ _ _ _ _ k => lv_goto (tgt := 2457) hx hb dL_law_2141 (by decide) k) ?_
                                                                          exact hJ2457 () ls (lv_sub hl [2, 3, 4, 5, 6, 7] rfl)
                                                                      · refine rk_of (fun _ _ _ _ _ k => lv_iconst (v := 0) hx hb dL_law_2122 rfl k) ?_
                                                                        refine rk_inr ?_
                                                                        exact hR _ _ (rf_iretL C rfl dL_law_2123)
                                                                    · refine rk_case (fun c_44_31 => ?_) (fun c_44_31 => ?_)
                                                                      · refine rk_of (fun _ _ _ _ _ k => by rw [c_44_31]; exact lv_tableIn (off := 2100) (tgt := 2144) hx hb dL_law_44 (by decide) (by decide) rfl (by decide) k) ?_
                                                                        refine rk_of (fun _ _ _ _ _ k => lr_aload_n hx hb dL_law_2144 rfl (lv_at hl 1 rfl) (lr_aload_n hx hb dL_law_2145 rfl (lv_at hl 0 rfl) (lv_iload hx hb dL_law_2146 (lv_at hl 5 rfl) (lv_iconst (v := 1) hx hb dL_law_2148 rfl (lv_iadd hx hb dL_law_2149 k))))) ?_
                                                                        refine rk_iald C dL_law_2150 (fun v2150 => ?_)
                                                                        refine rk_of (fun _ _ _ _ _ k => lr_aload_n hx hb dL_law_2151 rfl (lv_at hl 3 rfl) k) ?_
                                                                        refine rk_callI hX (cl_SX (rest := []) C (ct_X0_account H p1 v2150 p3) (lw_SW q2488 q2489 q100 q2490) hd_X0_account ⟨(Nat.le_of_ble_eq_true rfl), (Nat.le_of_ble_eq_true rfl)⟩ rfl hl.1 rfl (zw_le zw_nil (Nat.le_of_ble_eq_true rfl)) dL_law_2152) (fun v2152 => ?_)
                                                                        refine rk_ofs (fun _ _ _ _ _ k => lr_istore hx hb dL_law_2155 hl (Nat.le_of_ble_eq_true rfl) [0, 1, 2, 3, 4, 5] rfl ⟨trivial, ⟨trivial, ⟨trivial, ⟨trivial, ⟨trivial, ⟨rfl, trivial⟩⟩⟩⟩⟩⟩ k) (fun ls hl => ?_)
                                                                        refine rk_of (fun _ _ _ _ _ k => lr_aload_n hx hb dL_law_2157 rfl (lv_at hl 3 rfl) (lr_aload_n hx hb dL_law_2158 rfl (lv_at hl 1 rfl) (lv_iload hx hb dL_law_2159 (lv_at hl 6 rfl) (lv_iconst (v := 1) hx hb dL_law_2161 rfl (lv_iadd hx hb dL_law_2162 k))))) ?_
                                                                        refine rk_iald C dL_law_2163 (fun v2163 => ?_)
                                                                        refine rk_callI hX (cl_V (rest := []) (av := [.int v2163]) C (hc_X3 H) (ct_X3_account H p2 v2163) (lw_V q2953 q2954 q2955 q112 q2956) ⟨rfl, hd_X3_account⟩ ⟨(Nat.le_of_ble_eq_true rfl), (Nat.le_of_ble_eq_true rfl)⟩ rfl hl.1 rfl (zw_le zw_nil (Nat.le_of_ble_eq_true rfl)) dL_law_2164) (fun v2164 => ?_)
                                                                        refine rk_ofs (fun _ _ _ _ _ k => lr_istore hx hb dL_law_2167 hl (Nat.le_of_ble_eq_true rfl) [0, 1, 2, 3, 4, 5, 6] rfl ⟨rfl, ⟨trivial, ⟨trivial, ⟨trivial, ⟨trivial, ⟨trivial, ⟨trivial, trivial⟩⟩⟩⟩⟩⟩⟩ k) (fun ls hl => ?_)
                                                                        refine rk_of (fun _ _ _ _ _ k => lr_aload_n hx hb dL_law_2169 rfl (lv_at hl 4 rfl) k) ?_
                                                                        refine rk_callI hX (cl_V (rest := []) (av := []) C (hc_X3 H) (ct_X3_thrown H p2) (lw_V q2647 q2648 q2649 q112 q2650) ⟨rfl, hd_X3_thrown⟩ ⟨(Nat.le_of_ble_eq_true rfl), (Nat.le_of_ble_eq_true rfl)⟩ rfl hl.1 rfl (zw_le zw_nil (Nat.le_of_ble_eq_true rfl)) dL_law_2170) (fun v2170 => ?_)
                                                                        refine rk_ite (fun _ _ _ _ _ k1 k2 => lv_iload hx hb dL_law_2173 (lv_at hl 1 rfl) (lv_icmp_eq (tgt := 2180) hx hb dL_law_2175 (by decide) k1 k2)) (fun c_2175 => ?_) (fun c_2175 => ?_)
                                                                        · refine rk_ite (fun _ _ _ _ _ k1 k2 => lv_iload hx hb dL_law_2180 (lv_at hl 1 rfl) (lv_if_ne (tgt := 2197) hx hb dL_law_2182 (by decide) k2 k1)) (fun c_2182 => ?_) (fun c_2182 => ?_)
                                                                          · refine rk_of (fun _ _ _ _ _ k => lr_aload_n hx hb dL_law_2185 rfl (lv_at hl 5 rfl) (lv_iconst (v := 0) hx hb dL_law_2186 rfl k)) ?_
                                                                            refine rk_lald C dL_law_2187 (fun v2187 => ?_)
                                                                            refine rk_ite (fun _ _ _ _ _ k1 k2 => lv_iload hx hb dL_law_2188 (lv_at hl 0 rfl) (lv_i2l hx hb dL_law_2190 rfl (W.lcmp hx hb dL_law_2191 (lv_if_eq (tgt := 2197) hx hb dL_law_2192 (by decide) k1 k2)))) (fun c_2192 => ?_) (fun c_2192 => ?_)
                                                                            · refine rk_of (fun _ _ _ _ _ k => lv_goto (tgt := 2457) hx hb dL_law_2197 (by decide) k) ?_
                                                                              exact hJ2457 () ls (lv_sub hl [2, 3, 4, 5, 6, 7] rfl)
                                                                            · refine rk_of (fun _ _ _ _ _ k => lv_iconst (v := 0) hx hb dL_law_2195 rfl k) ?_
                                                                              refine rk_inr ?_
                                                                              exact hR _ _ (rf_iretL C rfl dL_law_2196)
                                                                          · refine rk_of (fun _ _ _ _ _ k => lv_goto (tgt := 2457) hx hb dL_law_2197 (by decide) k) ?_
                                                                            exact hJ2457 () ls (lv_sub hl [2, 3, 4, 5, 6, 7] rfl)
                                                                        · refine rk_of (fun _ _ _ _ _ k => lv_iconst (v := 0) hx hb dL_law_2178 rfl k) ?_
                                                                          refine rk_inr ?_
                                                                          exact hR _ _ (rf_iretL C rfl dL_law_2179)
                                                                      · refine rk_case (fun c_44_32 => ?_) (fun c_44_32 => ?_)
                                                                        · refine rk_of (fun _ _ _ _ _ k => by rw [c_44_32]; exact lv_tableIn (off := 2156) (tgt := 2200) hx hb dL_law_44 (by decide) (by decide) rfl (by decide) k) ?_
                                                                          refine rk_of (fun _ _ _ _ _ k => lr_aload_n hx hb dL_law_2200 rfl (lv_at hl 1 rfl) k) ?_
                                                                          refine rk_callI hX (cl_V (rest := []) (av := []) C (hc_X1 H) (ct_X1_isOnce H p1) (lw_V q1078 q1079 q1080 q101 q1081) ⟨rfl, hd_X1_isOnce⟩ ⟨(Nat.le_of_ble_eq_true rfl), (Nat.le_of_ble_eq_true rfl)⟩ rfl hl.1 rfl (zw_le zw_nil (Nat.le_of_ble_eq_true rfl)) dL_law_2201) (fun v2201 => ?_)
                                                                          refine rk_of (fun _ _ _ _ _ k => lr_aload_n hx hb dL_law_2204 rfl (lv_at hl 2 rfl) k) ?_
                                                                          refine rk_callI hX (cl_V (rest := [.int v2201]) (av := []) C (hc_X3 H) (ct_X3_isOnce H p2) (lw_V q2969 q2970 q2971 q112 q2972) ⟨rfl, hd_X3_isOnce⟩ ⟨(Nat.le_of_ble_eq_true rfl), (Nat.le_of_ble_eq_true rfl)⟩ rfl hl.1 rfl (zw_le (zw_I zw_nil) (Nat.le_of_ble_eq_true rfl)) dL_law_2205) (fun v2205 => ?_)
                                                                          refine rk_ite (fun _ _ _ _ _ k1 k2 => lv_icmp_eq (tgt := 2457) hx hb dL_law_2208 (by decide) k1 k2) (fun c_2208 => ?_) (fun c_2208 => ?_)
                                                                          · exact hJ2457 () ls (lv_sub hl [0, 1, 2, 3, 4, 5] rfl)
                                                                          · refine rk_of (fun _ _ _ _ _ k => lv_iconst (v := 0) hx hb dL_law_2211 rfl k) ?_
                                                                            refine rk_inr ?_
                                                                            exact hR _ _ (rf_iretL C rfl dL_law_2212)
                                                                        · refine rk_case (fun c_44_33 => ?_) (fun c_44_33 => ?_)
                                                                          · refine rk_of (fun _ _ _ _ _ k => by rw [c_44_33]; exact lv_tableIn (off := 2169) (tgt := 2213) hx hb dL_law_44 (by decide) (by decide) rfl (by decide) k) ?_
                                                                            refine rk_of (fun _ _ _ _ _ k => lr_aload_n hx hb dL_law_2213 rfl (lv_at hl 1 rfl) (lr_aload hx hb dL_law_2214 (lv_at hl 4 rfl) k)) ?_
                                                                            refine rk_callI hX (cl_SX (rest := []) C (ct_X0_meanLength H p1 p4) (lw_SW q2507 q2508 q100 q2509) hd_X0_meanLength ⟨(Nat.le_of_ble_eq_true rfl), (Nat.le_of_ble_eq_true rfl)⟩ rfl hl.1 rfl (zw_le zw_nil (Nat.le_of_ble_eq_true rfl)) dL_law_2216) (fun v2216 => ?_)
                                                                            refine rk_ofs (fun _ _ _ _ _ k => lr_istore hx hb dL_law_2219 hl (Nat.le_of_ble_eq_true rfl) [0, 1, 2, 3, 4, 5] rfl ⟨trivial, ⟨trivial, ⟨trivial, ⟨trivial, ⟨trivial, ⟨rfl, trivial⟩⟩⟩⟩⟩⟩ k) (fun ls hl => ?_)
                                                                            refine rk_of (fun _ _ _ _ _ k => lr_aload_n hx hb dL_law_2221 rfl (lv_at hl 3 rfl) k) ?_
                                                                            refine rk_callD hX (cl_V (rest := []) (av := []) C (hc_X3 H) (ct_X3_meanLength H p2) (lw_V q2973 q2974 q2975 q112 q2976) ⟨rfl, hd_X3_meanLength⟩ ⟨(Nat.le_of_ble_eq_true rfl), (Nat.le_of_ble_eq_true rfl)⟩ rfl hl.1 rfl (zw_le zw_nil (Nat.le_of_ble_eq_true rfl)) dL_law_2222) (fun v2222 => ?_)
                                                                            refine rk_ofs (fun _ _ _ _ _ k => lr_dstore hx hb dL_law_2225 hl (Nat.le_of_ble_eq_true rfl) [0, 1, 2, 3, 4, 5, 6] rfl ⟨rfl, ⟨trivial, ⟨trivial, ⟨trivial, ⟨trivial, ⟨trivial, ⟨trivial, trivial⟩⟩⟩⟩⟩⟩⟩ k) (fun ls hl => ?_)
                                                                            refine rk_of (fun _ _ _ _ _ k => lr_aload_n hx hb dL_law_2227 rfl (lv_at hl 4 rfl) k) ?_
                                                                            refine rk_callI hX (cl_V (rest := []) (av := []) C (hc_X3 H) (ct_X3_thrown H p2) (lw_V q2647 q2648 q2649 q112 q2650) ⟨rfl, hd_X3_thrown⟩ ⟨(Nat.le_of_ble_eq_true rfl), (Nat.le_of_ble_eq_true rfl)⟩ rfl hl.1 rfl (zw_le zw_nil (Nat.le_of_ble_eq_true rfl)) dL_law_2228) (fun v2228 => ?_)
                                                                            refine rk_ite (fun _ _ _ _ _ k1 k2 => lv_iload hx hb dL_law_2231 (lv_at hl 1 rfl) (lv_icmp_eq (tgt := 2238) hx hb dL_law_2233 (by decide) k1 k2)) (fun c_2233 => ?_) (fun c_2233 => ?_)
                                                                            · refine rk_ite (fun _ _ _ _ _ k1 k2 => lv_iload hx hb dL_law_2238 (lv_at hl 1 rfl) (lv_if_ne (tgt := 2275) hx hb dL_law_2240 (by decide) k2 k1)) (fun c_2240 => ?_) (fun c_2240 => ?_)
                                                                              · refine rk_of (fun _ _ _ _ _ k => lr_aload hx hb dL_law_2243 (lv_at hl 6 rfl) (lv_iconst (v := 0) hx hb dL_law_2245 rfl k)) ?_
                                                                                refine rk_dald C dL_law_2246 (fun v2246 => ?_)
                                                                                refine rk_ite (fun _ _ _ _ _ k1 k2 => lv_dload hx hb dL_law_2247 (lv_at hl 0 rfl) (lv_dcmp hx hb dL_law_2249 (lv_if_eq (tgt := 2275) hx hb dL_law_2250 (by decide) k1 k2))) (fun c_2250 => ?_) (fun c_2250 => ?_)
                                                                                · refine rk_of (fun _ _ _ _ _ k => lv_goto (tgt := 2457) hx hb dL_law_2275 (by decide) k) ?_
                                                                                  exact hJ2457 () ls (lv_sub hl [2, 3, 4, 5, 6, 7] rfl)
                                                                                · refine rk_of (fun _ _ _ _ _ k => lr_aload hx hb dL_law_2253 (lv_at hl 6 rfl) (lv_iconst (v := 0) hx hb dL_law_2255 rfl k)) ?_
                                                                                  refine rk_dald C dL_law_2256 (fun v2256 => ?_)
                                                                                  refine rk_of (fun _ _ _ _ _ k => lr_aload hx hb dL_law_2257 (lv_at hl 6 rfl) (lv_iconst (v := 0) hx hb dL_law_2259 rfl k)) ?_
                                                                                  refine rk_dald C dL_law_2260 (fun v2260 => ?_)
                                                                                  refine rk_ite (fun _ _ _ _ _ k1 k2 => lv_dcmp hx hb dL_law_2261 (lv_if_eq (tgt := 2273) hx hb dL_law_2262 (by decide) k1 k2)) (fun c_2262 => ?_) (fun c_2262 => ?_)
                                                                                  · refine rk_of (fun _ _ _ _ _ k => lv_iconst (v := 0) hx hb dL_law_2273 rfl k) ?_
                                                                                    refine rk_inr ?_
                                                                                    exact hR _ _ (rf_iretL C rfl dL_law_2274)
                                                                                  · refine rk_ite (fun _ _ _ _ _ k1 k2 => lv_dload hx hb dL_law_2265 (lv_at hl 0 rfl) (lv_dload hx hb dL_law_2267 (lv_at hl 0 rfl) (lv_dcmp hx hb dL_law_2269 (lv_if_ne (tgt := 2275) hx hb dL_law_2270 (by decide) k2 k1)))) (fun c_2270 => ?_) (fun c_2270 => ?_)
                                                                                    · refine rk_of (fun _ _ _ _ _ k => lv_iconst (v := 0) hx hb dL_law_2273 rfl k) ?_
                                                                                      refine rk_inr ?_
                                                                                      exact hR _ _ (rf_iretL C rfl dL_law_2274)
                                                                                    · refine rk_of (fun _ _ _ _ _ k => lv_goto (tgt := 2457) hx hb dL_law_2275 (by decide) k) ?_
                                                                                      exact hJ2457 () ls (lv_sub hl [2, 3, 4, 5, 6, 7] rfl)
                                                                              · refine rk_of (fun _ _ _ _ _ k => lv_goto (tgt := 2457) hx hb dL_law_2275 (by decide) k) ?_
                                                                                exact hJ2457 () ls (lv_sub hl [2, 3, 4, 5, 6, 7] rfl)
                                                                            · refine rk_of (fun _ _ _ _ _ k => lv_iconst (v := 0) hx hb dL_law_2236 rfl k) ?_
                                                                              refine rk_inr ?_
                                                                              exact hR _ _ (rf_iretL C rfl dL_law_2237)
                                                                          · refine rk_case (fun c_44_34 => ?_) (fun c_44_34 => ?_)
                                                                            · refine rk_of (fun _ _ _ _ _ k => by rw [c_44_34]; exact lv_tableIn (off := 2234) (tgt := 2278) hx hb dL_law_44 (by decide) (by decide) rfl (by decide) k) ?_
                                                                              refine rk_of (fun _ _ _ _ _ k => lr_aload_n hx hb dL_law_2278 rfl (lv_at hl 1 rfl) (lr_aload_n hx hb dL_law_2279 rfl (lv_at hl 0 rfl) (lv_iload hx hb dL_law_2280 (lv_at hl 5 rfl) (lv_iconst (v := 1) hx hb dL_law_2282 rfl (lv_iadd hx hb dL_law_2283 k))))) ?_
                                                                              refine rk_iald C dL_law_2284 (fun v2284 => ?_)
                                                                              refine rk_of (fun _ _ _ _ _ k => lr_aload hx hb dL_law_2285 (lv_at hl 4 rfl) k) ?_
                                                                              refine rk_callI hX (cl_SX (rest := []) C (ct_X0_letShare H p1 v2284 p4) (lw_SW q2533 q2534 q100 q2535) hd_X0_letShare ⟨(Nat.le_of_ble_eq_true rfl), (Nat.le_of_ble_eq_true rfl)⟩ rfl hl.1 rfl (zw_le zw_nil (Nat.le_of_ble_eq_true rfl)) dL_law_2287) (fun v2287 => ?_)
                                                                              refine rk_ofs (fun _ _ _ _ _ k => lr_istore hx hb dL_law_2290 hl (Nat.le_of_ble_eq_true rfl) [0, 1, 2, 3, 4, 5] rfl ⟨trivial, ⟨trivial, ⟨trivial, ⟨trivial, ⟨trivial, ⟨rfl, trivial⟩⟩⟩⟩⟩⟩ k) (fun ls hl => ?_)
                                                                              refine rk_of (fun _ _ _ _ _ k => lr_aload_n hx hb dL_law_2292 rfl (lv_at hl 3 rfl) (lr_aload_n hx hb dL_law_2293 rfl (lv_at hl 1 rfl) (lv_iload hx hb dL_law_2294 (lv_at hl 6 rfl) (lv_iconst (v := 1) hx hb dL_law_2296 rfl (lv_iadd hx hb dL_law_2297 k))))) ?_
                                                                              refine rk_iald C dL_law_2298 (fun v2298 => ?_)
                                                                              refine rk_callF hX (cl_V (rest := []) (av := [.int v2298]) C (hc_X3 H) (ct_X3_letShare H p2 v2298) (lw_V q2977 q2978 q2979 q112 q2980) ⟨rfl, hd_X3_letShare⟩ ⟨(Nat.le_of_ble_eq_true rfl), (Nat.le_of_ble_eq_true rfl)⟩ rfl hl.1 rfl (zw_le zw_nil (Nat.le_of_ble_eq_true rfl)) dL_law_2299) (fun v2299 => ?_)
                                                                              refine rk_ofs (fun _ _ _ _ _ k => lr_fstore hx hb dL_law_2302 hl (Nat.le_of_ble_eq_true rfl) [0, 1, 2, 3, 4, 5, 6] rfl ⟨rfl, ⟨trivial, ⟨trivial, ⟨trivial, ⟨trivial, ⟨trivial, ⟨trivial, trivial⟩⟩⟩⟩⟩⟩⟩ k) (fun ls hl => ?_)
                                                                              refine rk_of (fun _ _ _ _ _ k => lr_aload_n hx hb dL_law_2304 rfl (lv_at hl 4 rfl) k) ?_
                                                                              refine rk_callI hX (cl_V (rest := []) (av := []) C (hc_X3 H) (ct_X3_thrown H p2) (lw_V q2647 q2648 q2649 q112 q2650) ⟨rfl, hd_X3_thrown⟩ ⟨(Nat.le_of_ble_eq_true rfl), (Nat.le_of_ble_eq_true rfl)⟩ rfl hl.1 rfl (zw_le zw_nil (Nat.le_of_ble_eq_true rfl)) dL_law_2305) (fun v2305 => ?_)
                                                                              refine rk_ite (fun _ _ _ _ _ k1 k2 => lv_iload hx hb dL_law_2308 (lv_at hl 1 rfl) (lv_icmp_eq (tgt := 2315) hx hb dL_law_2310 (by decide) k1 k2)) (fun c_2310 => ?_) (fun c_2310 => ?_)
                                                                              · refine rk_ite (fun _ _ _ _ _ k1 k2 => lv_iload hx hb dL_law_2315 (lv_at hl 1 rfl) (lv_if_ne (tgt := 2353) hx hb dL_law_2317 (by decide) k2 k1)) (fun c_2317 => ?_) (fun c_2317 => ?_)
                                                                                · refine rk_of (fun _ _ _ _ _ k => lr_aload hx hb dL_law_2320 (lv_at hl 6 rfl) (lv_iconst (v := 0) hx hb dL_law_2322 rfl k)) ?_
                                                                                  refine rk_dald C dL_law_2323 (fun v2323 => ?_)
                                                                                  refine rk_of (fun _ _ _ _ _ k => lv_fload hx hb dL_law_2324 (lv_at hl 0 rfl) k) ?_
                                                                                  refine rk_grd (fun hg_2326 => ?_)
                                                                                  refine rk_ite (fun _ _ _ _ _ k1 k2 => lv_f2d hx hb dL_law_2326 hg_2326 (lv_dcmp hx hb dL_law_2327 (lv_if_eq (tgt := 2353) hx hb dL_law_2328 (by decide) k1 k2))) (fun c_2328 => ?_) (fun c_2328 => ?_)
                                                                                  · refine rk_of (fun _ _ _ _ _ k => lv_goto (tgt := 2457) hx hb dL_law_2353 (by decide) k) ?_
                                                                                    exact hJ2457 () ls (lv_sub hl [2, 3, 4, 5, 6, 7] rfl)
                                                                                  · refine rk_of (fun _ _ _ _ _ k => lr_aload hx hb dL_law_2331 (lv_at hl 6 rfl) (lv_iconst (v := 0) hx hb dL_law_2333 rfl k)) ?_
                                                                                    refine rk_dald C dL_law_2334 (fun v2334 => ?_)
                                                                                    refine rk_of (fun _ _ _ _ _ k => lr_aload hx hb dL_law_2335 (lv_at hl 6 rfl) (lv_iconst (v := 0) hx hb dL_law_2337 rfl k)) ?_
                                                                                    refine rk_dald C dL_law_2338 (fun v2338 => ?_)
                                                                                    refine rk_ite (fun _ _ _ _ _ k1 k2 => lv_dcmp hx hb dL_law_2339 (lv_if_eq (tgt := 2351) hx hb dL_law_2340 (by decide) k1 k2)) (fun c_2340 => ?_) (fun c_2340 => ?_)
                                                                                    · refine rk_of (fun _ _ _ _ _ k => lv_iconst (v := 0) hx hb dL_law_2351 rfl k) ?_
                                                                                      refine rk_inr ?_
                                                                                      exact hR _ _ (rf_iretL C rfl dL_law_2352)
                                                                                    · refine rk_ite (fun _ _ _ _ _ k1 k2 => lv_fload hx hb dL_law_2343 (lv_at hl 0 rfl) (lv_fload hx hb dL_law_2345 (lv_at hl 0 rfl) (lv_fcmp hx hb dL_law_2347 (lv_if_ne (tgt := 2353) hx hb dL_law_2348 (by decide) k2 k1)))) (fun c_2348 => ?_) (fun c_2348 => ?_)
                                                                                      · refine rk_of (fun _ _ _ _ _ k => lv_iconst (v := 0) hx hb dL_law_2351 rfl k) ?_
                                                                                        refine rk_inr ?_
                                                                                        exact hR _ _ (rf_iretL C rfl dL_law_2352)
                                                                                      · refine rk_of (fun _ _ _ _ _ k => lv_goto (tgt := 2457) hx hb dL_law_2353 (by decide) k) ?_
                                                                                        exact hJ2457 () ls (lv_sub hl [2, 3, 4, 5, 6, 7] rfl)
                                                                                · refine rk_of (fun _ _ _ _ _ k => lv_goto (tgt := 2457) hx hb dL_law_2353 (by decide) k) ?_
                                                                                  exact hJ2457 () ls (lv_sub hl [2, 3, 4, 5, 6, 7] rfl)
                                                                              · refine rk_of (fun _ _ _ _ _ k => lv_iconst (v := 0) hx hb dL_law_2313 rfl k) ?_
                                                                                refine rk_inr ?_
                                                                                exact hR _ _ (rf_iretL C rfl dL_law_2314)
                                                                            · refine rk_case (fun c_44_35 => ?_) (fun c_44_35 => ?_)
                                                                              · refine rk_of (fun _ _ _ _ _ k => by rw [c_44_35]; exact lv_tableIn (off := 2312) (tgt := 2356) hx hb dL_law_44 (by decide) (by decide) rfl (by decide) k) ?_
                                                                                refine rk_of (fun _ _ _ _ _ k => lr_aload_n hx hb dL_law_2356 rfl (lv_at hl 1 rfl) (lr_aload_n hx hb dL_law_2357 rfl (lv_at hl 3 rfl) k)) ?_
                                                                                refine rk_callI hX (cl_SX (rest := []) C (ct_X0_undo H p1 p3) (lw_SW q2541 q2542 q100 q2543) hd_X0_undo ⟨(Nat.le_of_ble_eq_true rfl), (Nat.le_of_ble_eq_true rfl)⟩ rfl hl.1 rfl (zw_le zw_nil (Nat.le_of_ble_eq_true rfl)) dL_law_2358) (fun v2358 => ?_)
                                                                                refine rk_ofs (fun _ _ _ _ _ k => lr_istore hx hb dL_law_2361 hl (Nat.le_of_ble_eq_true rfl) [0, 1, 2, 3, 4, 5] rfl ⟨trivial, ⟨trivial, ⟨trivial, ⟨trivial, ⟨trivial, ⟨rfl, trivial⟩⟩⟩⟩⟩⟩ k) (fun ls hl => ?_)
                                                                                refine rk_of (fun _ _ _ _ _ k => lr_aload_n hx hb dL_law_2363 rfl (lv_at hl 3 rfl) k) ?_
                                                                                refine rk_callI hX (cl_V (rest := []) (av := []) C (hc_X3 H) (ct_X3_undo H p2) (lw_V q3054 q3055 q3056 q112 q3057) ⟨rfl, hd_X3_undo⟩ ⟨(Nat.le_of_ble_eq_true rfl), (Nat.le_of_ble_eq_true rfl)⟩ rfl hl.1 rfl (zw_le zw_nil (Nat.le_of_ble_eq_true rfl)) dL_law_2364) (fun v2364 => ?_)
                                                                                refine rk_ofs (fun _ _ _ _ _ k => lr_istore hx hb dL_law_2367 hl (Nat.le_of_ble_eq_true rfl) [0, 1, 2, 3, 4, 5, 6] rfl ⟨rfl, ⟨trivial, ⟨trivial, ⟨trivial, ⟨trivial, ⟨trivial, ⟨trivial, trivial⟩⟩⟩⟩⟩⟩⟩ k) (fun ls hl => ?_)
                                                                                refine rk_of (fun _ _ _ _ _ k => lr_aload_n hx hb dL_law_2369 rfl (lv_at hl 4 rfl) k) ?_
                                                                                refine rk_callI hX (cl_V (rest := []) (av := []) C (hc_X3 H) (ct_X3_thrown H p2) (lw_V q2647 q2648 q2649 q112 q2650) ⟨rfl, hd_X3_thrown⟩ ⟨(Nat.le_of_ble_eq_true rfl), (Nat.le_of_ble_eq_true rfl)⟩ rfl hl.1 rfl (zw_le zw_nil (Nat.le_of_ble_eq_true rfl)) dL_law_2370) (fun v2370 => ?_)
                                                                                refine rk_ite (fun _ _ _ _ _ k1 k2 => lv_iload hx hb dL_law_2373 (lv_at hl 1 rfl) (lv_icmp_eq (tgt := 2380) hx hb dL_law_2375 (by decide) k1 k2)) (fun c_2375 => ?_) (fun c_2375 => ?_)
                                                                                · refine rk_ite (fun _ _ _ _ _ k1 k2 => lv_iload hx hb dL_law_2380 (lv_at hl 1 rfl) (lv_if_ne (tgt := 2397) hx hb dL_law_2382 (by decide) k2 k1)) (fun c_2382 => ?_) (fun c_2382 => ?_)
                                                                                  · refine rk_of (fun _ _ _ _ _ k => lr_aload_n hx hb dL_law_2385 rfl (lv_at hl 5 rfl) (lv_iconst (v := 0) hx hb dL_law_2386 rfl k)) ?_
                                                                                    refine rk_lald C dL_law_2387 (fun v2387 => ?_)
                                                                                    refine rk_ite (fun _ _ _ _ _ k1 k2 => lv_iload hx hb dL_law_2388 (lv_at hl 0 rfl) (lv_i2l hx hb dL_law_2390 rfl (W.lcmp hx hb dL_law_2391 (lv_if_eq (tgt := 2397) hx hb dL_law_2392 (by decide) k1 k2)))) (fun c_2392 => ?_) (fun c_2392 => ?_)
                                                                                    · refine rk_of (fun _ _ _ _ _ k => lv_goto (tgt := 2457) hx hb dL_law_2397 (by decide) k) ?_
                                                                                      exact hJ2457 () ls (lv_sub hl [2, 3, 4, 5, 6, 7] rfl)
                                                                                    · refine rk_of (fun _ _ _ _ _ k => lv_iconst (v := 0) hx hb dL_law_2395 rfl k) ?_
                                                                                      refine rk_inr ?_
                                                                                      exact hR _ _ (rf_iretL C rfl dL_law_2396)
                                                                                  · refine rk_of (fun _ _ _ _ _ k => lv_goto (tgt := 2457) hx hb dL_law_2397 (by decide) k) ?_
                                                                                    exact hJ2457 () ls (lv_sub hl [2, 3, 4, 5, 6, 7] rfl)
                                                                                · refine rk_of (fun _ _ _ _ _ k => lv_iconst (v := 0) hx hb dL_law_2378 rfl k) ?_
                                                                                  refine rk_inr ?_
                                                                                  exact hR _ _ (rf_iretL C rfl dL_law_2379)
                                                                              · refine rk_case (fun c_44_36 => ?_) (fun c_44_36 => ?_)
                                                                                · refine rk_of (fun _ _ _ _ _ k => by rw [c_44_36]; exact lv_tableIn (off := 2356) (tgt := 2400) hx hb dL_law_44 (by decide) (by decide) rfl (by decide) k) ?_
                                                                                  refine rk_of (fun _ _ _ _ _ k => lr_aload_n hx hb dL_law_2400 rfl (lv_at hl 1 rfl) k) ?_
                                                                                  refine rk_callI hX (cl_V (rest := []) (av := []) C (hc_X1 H) (ct_X1_save H p1) (lw_V q1118 q1119 q1120 q101 q1121) ⟨rfl, hd_X1_save⟩ ⟨(Nat.le_of_ble_eq_true rfl), (Nat.le_of_ble_eq_true rfl)⟩ rfl hl.1 rfl (zw_le zw_nil (Nat.le_of_ble_eq_true rfl)) dL_law_2401) (fun v2401 => ?_)
                                                                                  refine rk_of (fun _ _ _ _ _ k => lr_aload_n hx hb dL_law_2404 rfl (lv_at hl 2 rfl) k) ?_
                                                                                  refine rk_callI hX (cl_V (rest := [.int v2401]) (av := []) C (hc_X3 H) (ct_X3_save H p2) (lw_V q3058 q3059 q3060 q112 q3061) ⟨rfl, hd_X3_save⟩ ⟨(Nat.le_of_ble_eq_true rfl), (Nat.le_of_ble_eq_true rfl)⟩ rfl hl.1 rfl (zw_le (zw_I zw_nil) (Nat.le_of_ble_eq_true rfl)) dL_law_2405) (fun v2405 => ?_)
                                                                                  refine rk_ite (fun _ _ _ _ _ k1 k2 => lv_icmp_eq (tgt := 2457) hx hb dL_law_2408 (by decide) k1 k2) (fun c_2408 => ?_) (fun c_2408 => ?_)
                                                                                  · exact hJ2457 () ls (lv_sub hl [0, 1, 2, 3, 4, 5] rfl)
                                                                                  · refine rk_of (fun _ _ _ _ _ k => lv_iconst (v := 0) hx hb dL_law_2411 rfl k) ?_
                                                                                    refine rk_inr ?_
                                                                                    exact hR _ _ (rf_iretL C rfl dL_law_2412)
                                                                                · refine rk_case (fun c_44_37 => ?_) (fun c_44_37 => ?_)
                                                                                  · refine rk_of (fun _ _ _ _ _ k => by rw [c_44_37]; exact lv_tableIn (off := 2369) (tgt := 2413) hx hb dL_law_44 (by decide) (by decide) rfl (by decide) k) ?_
                                                                                    refine rk_of (fun _ _ _ _ _ k => lr_aload_n hx hb dL_law_2413 rfl (lv_at hl 1 rfl) (lr_aload_n hx hb dL_law_2414 rfl (lv_at hl 3 rfl) k)) ?_
                                                                                    refine rk_callI hX (cl_SX (rest := []) C (ct_X0_restore H p1 p3) (lw_SW q2560 q2561 q100 q2562) hd_X0_restore ⟨(Nat.le_of_ble_eq_true rfl), (Nat.le_of_ble_eq_true rfl)⟩ rfl hl.1 rfl (zw_le zw_nil (Nat.le_of_ble_eq_true rfl)) dL_law_2415) (fun v2415 => ?_)
                                                                                    refine rk_ofs (fun _ _ _ _ _ k => lr_istore hx hb dL_law_2418 hl (Nat.le_of_ble_eq_true rfl) [0, 1, 2, 3, 4, 5] rfl ⟨trivial, ⟨trivial, ⟨trivial, ⟨trivial, ⟨trivial, ⟨rfl, trivial⟩⟩⟩⟩⟩⟩ k) (fun ls hl => ?_)
                                                                                    refine rk_of (fun _ _ _ _ _ k => lr_aload_n hx hb dL_law_2420 rfl (lv_at hl 3 rfl) k) ?_
                                                                                    refine rk_callI hX (cl_V (rest := []) (av := []) C (hc_X3 H) (ct_X3_restore H p2) (lw_V q3062 q3063 q3064 q112 q3065) ⟨rfl, hd_X3_restore⟩ ⟨(Nat.le_of_ble_eq_true rfl), (Nat.le_of_ble_eq_true rfl)⟩ rfl hl.1 rfl (zw_le zw_nil (Nat.le_of_ble_eq_true rfl)) dL_law_2421) (fun v2421 => ?_)
                                                                                    refine rk_ofs (fun _ _ _ _ _ k => lr_istore hx hb dL_law_2424 hl (Nat.le_of_ble_eq_true rfl) [0, 1, 2, 3, 4, 5, 6] rfl ⟨rfl, ⟨trivial, ⟨trivial, ⟨trivial, ⟨trivial, ⟨trivial, ⟨trivial, trivial⟩⟩⟩⟩⟩⟩⟩ k) (fun ls hl => ?_)
                                                                                    refine rk_of (fun _ _ _ _ _ k => lr_aload_n hx hb dL_law_2426 rfl (lv_at hl 4 rfl) k) ?_
                                                                                    refine rk_callI hX (cl_V (rest := []) (av := []) C (hc_X3 H) (ct_X3_thrown H p2) (lw_V q2647 q2648 q2649 q112 q2650) ⟨rfl, hd_X3_thrown⟩ ⟨(Nat.le_of_ble_eq_true rfl), (Nat.le_of_ble_eq_true rfl)⟩ rfl hl.1 rfl (zw_le zw_nil (Nat.le_of_ble_eq_true rfl)) dL_law_2427) (fun v2427 => ?_)
                                                                                    refine rk_ite (fun _ _ _ _ _ k1 k2 => lv_iload hx hb dL_law_2430 (lv_at hl 1 rfl) (lv_icmp_eq (tgt := 2437) hx hb dL_law_2432 (by decide) k1 k2)) (fun c_2432 => ?_) (fun c_2432 => ?_)
                                                                                    · refine rk_ite (fun _ _ _ _ _ k1 k2 => lv_iload hx hb dL_law_2437 (lv_at hl 1 rfl) (lv_if_ne (tgt := 2454) hx hb dL_law_2439 (by decide) k2 k1)) (fun c_2439 => ?_) (fun c_2439 => ?_)
                                                                                      · refine rk_of (fun _ _ _ _ _ k => lr_aload_n hx hb dL_law_2442 rfl (lv_at hl 5 rfl) (lv_iconst (v := 0) hx hb dL_law_2443 rfl k)) ?_
                                                                                        refine rk_lald C dL_law_2444 (fun v2444 => ?_)
                                                                                        refine rk_ite (fun _ _ _ _ _ k1 k2 => lv_iload hx hb dL_law_2445 (lv_at hl 0 rfl) (lv_i2l hx hb dL_law_2447 rfl (W.lcmp hx hb dL_law_2448 (lv_if_eq (tgt := 2454) hx hb dL_law_2449 (by decide) k1 k2)))) (fun c_2449 => ?_) (fun c_2449 => ?_)
                                                                                        · refine rk_of (fun _ _ _ _ _ k => lv_goto (tgt := 2457) hx hb dL_law_2454 (by decide) k) ?_
                                                                                          exact hJ2457 () ls (lv_sub hl [2, 3, 4, 5, 6, 7] rfl)
                                                                                        · refine rk_of (fun _ _ _ _ _ k => lv_iconst (v := 0) hx hb dL_law_2452 rfl k) ?_
                                                                                          refine rk_inr ?_
                                                                                          exact hR _ _ (rf_iretL C rfl dL_law_2453)
                                                                                      · refine rk_of (fun _ _ _ _ _ k => lv_goto (tgt := 2457) hx hb dL_law_2454 (by decide) k) ?_
                                                                                        exact hJ2457 () ls (lv_sub hl [2, 3, 4, 5, 6, 7] rfl)
                                                                                    · refine rk_of (fun _ _ _ _ _ k => lv_iconst (v := 0) hx hb dL_law_2435 rfl k) ?_
                                                                                      refine rk_inr ?_
                                                                                      exact hR _ _ (rf_iretL C rfl dL_law_2436)
                                                                                  · have q_0 : ((v40 &&& 63)).toInt ≠ 0 := fun q => c_44_0 (zs_eq q rfl)
                                                                                    have q_1 : ((v40 &&& 63)).toInt ≠ 1 := fun q => c_44_1 (zs_eq q rfl)
                                                                                    have q_2 : ((v40 &&& 63)).toInt ≠ 2 := fun q => c_44_2 (zs_eq q rfl)
                                                                                    have q_3 : ((v40 &&& 63)).toInt ≠ 3 := fun q => c_44_3 (zs_eq q rfl)
                                                                                    have q_4 : ((v40 &&& 63)).toInt ≠ 4 := fun q => c_44_4 (zs_eq q rfl)
                                                                                    have q_5 : ((v40 &&& 63)).toInt ≠ 5 := fun q => c_44_5 (zs_eq q rfl)
                                                                                    have q_6 : ((v40 &&& 63)).toInt ≠ 6 := fun q => c_44_6 (zs_eq q rfl)
                                                                                    have q_7 : ((v40 &&& 63)).toInt ≠ 7 := fun q => c_44_7 (zs_eq q rfl)
                                                                                    have q_8 : ((v40 &&& 63)).toInt ≠ 8 := fun q => c_44_8 (zs_eq q rfl)
                                                                                    have q_9 : ((v40 &&& 63)).toInt ≠ 9 := fun q => c_44_9 (zs_eq q rfl)
                                                                                    have q_10 : ((v40 &&& 63)).toInt ≠ 10 := fun q => c_44_10 (zs_eq q rfl)
                                                                                    have q_11 : ((v40 &&& 63)).toInt ≠ 11 := fun q => c_44_11 (zs_eq q rfl)
                                                                                    have q_12 : ((v40 &&& 63)).toInt ≠ 12 := fun q => c_44_12 (zs_eq q rfl)
                                                                                    have q_13 : ((v40 &&& 63)).toInt ≠ 13 := fun q => c_44_13 (zs_eq q rfl)
                                                                                    have q_14 : ((v40 &&& 63)).toInt ≠ 14 := fun q => c_44_14 (zs_eq q rfl)
                                                                                    have q_15 : ((v40 &&& 63)).toInt ≠ 15 := fun q => c_44_15 (zs_eq q rfl)
                                                                                    have q_16 : ((v40 &&& 63)).toInt ≠ 16 := fun q => c_44_16 (zs_eq q rfl)
                                                                                    have q_17 : ((v40 &&& 63)).toInt ≠ 17 := fun q => c_44_17 (zs_eq q rfl)
                                                                                    have q_18 : ((v40 &&& 63)).toInt ≠ 18 := fun q => c_44_18 (zs_eq q rfl)
                                                                                    have q_19 : ((v40 &&& 63)).toInt ≠ 19 := fun q => c_44_19 (zs_eq q rfl)
                                                                                    have q_20 : ((v40 &&& 63)).toInt ≠ 20 := fun q => c_44_20 (zs_eq q rfl)
                                                                                    have q_21 : ((v40 &&& 63)).toInt ≠ 21 := fun q => c_44_21 (zs_eq q rfl)
                                                                                    have q_22 : ((v40 &&& 63)).toInt ≠ 22 := fun q => c_44_22 (zs_eq q rfl)
                                                                                    have q_23 : ((v40 &&& 63)).toInt ≠ 23 := fun q => c_44_23 (zs_eq q rfl)
                                                                                    have q_24 : ((v40 &&& 63)).toInt ≠ 24 := fun q => c_44_24 (zs_eq q rfl)
                                                                                    have q_25 : ((v40 &&& 63)).toInt ≠ 25 := fun q => c_44_25 (zs_eq q rfl)
                                                                                    have q_26 : ((v40 &&& 63)).toInt ≠ 26 := fun q => c_44_26 (zs_eq q rfl)
                                                                                    have q_27 : ((v40 &&& 63)).toInt ≠ 27 := fun q => c_44_27 (zs_eq q rfl)
                                                                                    have q_28 : ((v40 &&& 63)).toInt ≠ 28 := fun q => c_44_28 (zs_eq q rfl)
                                                                                    have q_29 : ((v40 &&& 63)).toInt ≠ 29 := fun q => c_44_29 (zs_eq q rfl)
                                                                                    have q_30 : ((v40 &&& 63)).toInt ≠ 30 := fun q => c_44_30 (zs_eq q rfl)
                                                                                    have q_31 : ((v40 &&& 63)).toInt ≠ 31 := fun q => c_44_31 (zs_eq q rfl)
                                                                                    have q_32 : ((v40 &&& 63)).toInt ≠ 32 := fun q => c_44_32 (zs_eq q rfl)
                                                                                    have q_33 : ((v40 &&& 63)).toInt ≠ 33 := fun q => c_44_33 (zs_eq q rfl)
                                                                                    have q_34 : ((v40 &&& 63)).toInt ≠ 34 := fun q => c_44_34 (zs_eq q rfl)
                                                                                    have q_35 : ((v40 &&& 63)).toInt ≠ 35 := fun q => c_44_35 (zs_eq q rfl)
                                                                                    have q_36 : ((v40 &&& 63)).toInt ≠ 36 := fun q => c_44_36 (zs_eq q rfl)
                                                                                    have q_37 : ((v40 &&& 63)).toInt ≠ 37 := fun q => c_44_37 (zs_eq q rfl)
                                                                                    refine rk_of (fun _ _ _ _ _ k => lv_tableOut (tgt := 2457) hx hb dL_law_44 (by omega) (by decide) k) ?_
                                                                                    exact hJ2457 () ls (lv_sub hl [0, 1, 2, 3, 4, 5] rfl)
theorem rf_L_law (H : zm_H Ω K) (C : zm_C p l R s m args meth c Ω lw_all cL_law "BoxSpansLaw" "law" 9 8192 104096 (some .boolean)) (hX : zm_XO p l e R s m args below meth c Ω n0 k0 (zm_QL below args s Ω n0 k0)) (a0 : zm_R) (ls : Array Slot) (hl : lv_has ls 9 [(0, va_rf a0)]) : zm_RF p l e R s m args below meth c Ω n0 k0 (zm_QL below args s Ω n0 k0) (fn_L_law K a0) (F0 m 0 ls []) := by
  have hx := C.1
  have hb := C.2.1
  refine rk_rf ?_
  unfold fn_L_law
  refine rk_new C (hc_X1 H) in_X1 tyX1_ok q150 q151 q101 (fs := [.null, .null, .null, .null, .int 0, .null, .null]) rfl (fun j hj => zdf_X1 j hj) dL_law_0 (fun v0 => ?_)
  refine rk_of (fun _ _ _ _ _ k => lv_dup hx hb dL_law_3 (va_rf_cat _) k) ?_
  refine rk_callV hX (cl_I (rest := [va_rf (some v0)]) C (ct_X1_init H (some v0)) (lw_meth q154) q101 q152 q153 rfl hd_X1_init ⟨(Nat.le_of_ble_eq_true rfl), (Nat.le_of_ble_eq_true rfl)⟩ rfl hl.1 rfl (zw_le (zw_R zw_nil) (Nat.le_of_ble_eq_true rfl)) dL_law_4) (fun _ => ?_)
  refine rk_ofs (fun _ _ _ _ _ k => lr_astore_n hx hb dL_law_7 rfl hl (Nat.le_of_ble_eq_true rfl) [0] rfl ⟨(by first | exact va_rf_cat _ | rfl), trivial⟩ k) (fun ls hl => ?_)
  refine rk_new C (hc_X3 H) in_X3 tyX3_ok q2571 q2572 q112 (fs := [.null, .null, .null, .null, .int 0, .int 0, .int 0, .int 0, .int 0, .int 0, .int 0, .int 0, .null, .null, .int 0, .null, .int 0, .null, .null, .int 0, .int 0, .int 0, .int 0]) rfl (fun j hj => zdf_X3 j hj) dL_law_8 (fun v8 => ?_)
  refine rk_of (fun _ _ _ _ _ k => lv_dup hx hb dL_law_11 (va_rf_cat _) k) ?_
  refine rk_callV hX (cl_I (rest := [va_rf (some v8)]) C (ct_X3_init H (some v8)) (lw_meth q2575) q112 q2573 q2574 rfl hd_X3_init ⟨(Nat.le_of_ble_eq_true rfl), (Nat.le_of_ble_eq_true rfl)⟩ rfl hl.1 rfl (zw_le (zw_R zw_nil) (Nat.le_of_ble_eq_true rfl)) dL_law_12) (fun _ => ?_)
  refine rk_ofs (fun _ _ _ _ _ k => lr_astore_n hx hb dL_law_15 rfl hl (Nat.le_of_ble_eq_true rfl) [0, 1] rfl ⟨(by first | exact va_rf_cat _ | rfl), ⟨trivial, trivial⟩⟩ k) (fun ls hl => ?_)
  refine rk_of (fun _ _ _ _ _ k => lv_iconst (v := 1) hx hb dL_law_16 rfl k) ?_
  refine rk_newa C (atype := .long) rfl 4 rfl (fun _ _ h => h) (fun _ _ => rfl) q3066 dL_law_17 (fun v17 => ?_)
  refine rk_ofs (fun _ _ _ _ _ k => lr_astore_n hx hb dL_law_19 rfl hl (Nat.le_of_ble_eq_true rfl) [0, 1, 2] rfl ⟨(by first | exact va_rf_cat _ | rfl), ⟨trivial, ⟨trivial, trivial⟩⟩⟩ k) (fun ls hl => ?_)
  refine rk_of (fun _ _ _ _ _ k => lv_iconst (v := 1) hx hb dL_law_20 rfl k) ?_
  refine rk_newa C (atype := .double) rfl 5 rfl (fun _ _ h => h) (fun _ _ => rfl) q3067 dL_law_21 (fun v21 => ?_)
  refine rk_ofs (fun _ _ _ _ _ k => lr_astore hx hb dL_law_23 hl (Nat.le_of_ble_eq_true rfl) [0, 1, 2, 3] rfl ⟨(by first | exact va_rf_cat _ | rfl), ⟨trivial, ⟨trivial, ⟨trivial, trivial⟩⟩⟩⟩ k) (fun ls hl => ?_)
  refine rk_ofs (fun _ _ _ _ _ k => lv_iconst (v := 0) hx hb dL_law_25 rfl (lr_istore hx hb dL_law_26 hl (Nat.le_of_ble_eq_true rfl) [0, 1, 2, 3, 4] rfl ⟨(by first | exact va_rf_cat _ | rfl), ⟨trivial, ⟨trivial, ⟨trivial, ⟨trivial, trivial⟩⟩⟩⟩⟩ k)) (fun ls hl => ?_)
  refine rk_joinx (β := Unit) (fun (b2463 : Unit) ls => lv_has ls 9 []) (fun (b2463 : Unit) ls => F0 m 2463 ls []) (fun b2463 ls hl => ?_) (fun hJ2463 => ?_)
  · refine rk_of (fun _ _ _ _ _ k => lv_iconst (v := 1) hx hb dL_law_2463 rfl k) ?_
    exact rk_top (rf_iretL C rfl dL_law_2464)
  · exact rf_L_law_28 H C hX a0 (some v0) (some v8) (some v17) (some v21) zm_N 0 _ ls (lv_sub hl [5, 4, 3, 2, 1, 0] rfl) hJ2463 (fun v g k9 => by
        refine rk_inr ?_
        exact rk_top (k9))
end
