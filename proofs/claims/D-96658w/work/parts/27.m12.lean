set_option maxHeartbeats 4000000 in
set_option maxRecDepth 100000 in
theorem metX9_cost (l : Launch) (G : GG) (h : Nat) (v : Int32) : MR l yX9_cost cX9_cost 1 (some .int) ({ frames := 1, cells := 0, slots := 0, locals := 20 }) [.ref h] [(h, .inr (7, [.int v]))] G (KM G) (4 - 1) := by
  -- rows printed by wip/tools/gen.py
  refine mr_mk RX9 (by decide) rfl (Nat.le_of_ble_eq_true rfl) ?_
  intro p0_ e0_ s m args below meth c C hP hK ls hl
  have hx := C.1
  have hb := C.2.1
  have hml := C.2.2.2.2.1
  have hown := C.2.2.2.2.2.1
  have hts := C.2.2.2.2.2.2
  have hl : lv_has ls 1 [(0, .ref h)] := hl
  refine lv_aload_n hx hb dX9_cost_0 rfl (lv_at hl 0 rfl) ?_
  refine c_SU (rest := []) C (metX8_cost l G h) 0 (lw_SU q956 q947 q311 q945 q52 q952) (by decide +kernel) ⟨rfl, rfl⟩ ⟨(Nat.le_of_ble_eq_true rfl), (Nat.le_of_ble_eq_true rfl)⟩ (KM_mv G) (c_at (ci := 7) hK rfl) (va_recv hK hP (ci := 7) (q0 := 0) rfl rfl) (hP.sub (ws' := []) [] rfl) hK hl rfl rfl (Nat.le_of_ble_eq_true rfl) ⟨(Nat.le_of_ble_eq_true rfl), (Nat.le_of_ble_eq_true rfl)⟩ dX9_cost_1 ?_
  refine lv_iconst (v := 1) hx hb dX9_cost_4 (by decide) ?_
  refine lv_isub (x := 4) (y := 1) hx hb dX9_cost_5 ?_
  exact n_iret (v := 4 - 1) C (rfl) dX9_cost_6

set_option maxHeartbeats 4000000 in
set_option maxRecDepth 100000 in
theorem metX9_cost_X14 (l : Launch) (G : GG) (h : Nat) (v : Int32) : MR l yX9_cost cX9_cost 1 (some .int) ({ frames := 1, cells := 0, slots := 0, locals := 20 }) [.ref h] [(h, .inr (12, [.int v]))] G (KM G) (4 - 1) := by
  -- rows printed by wip/tools/gen.py
  refine mr_mk RX9 (by decide) rfl (Nat.le_of_ble_eq_true rfl) ?_
  intro p0_ e0_ s m args below meth c C hP hK ls hl
  have hx := C.1
  have hb := C.2.1
  have hml := C.2.2.2.2.1
  have hown := C.2.2.2.2.2.1
  have hts := C.2.2.2.2.2.2
  have hl : lv_has ls 1 [(0, .ref h)] := hl
  refine lv_aload_n hx hb dX9_cost_0 rfl (lv_at hl 0 rfl) ?_
  refine c_SU (rest := []) C (metX8_cost l G h) 0 (lw_SU q956 q947 q311 q945 q52 q952) (by decide +kernel) ⟨rfl, rfl⟩ ⟨(Nat.le_of_ble_eq_true rfl), (Nat.le_of_ble_eq_true rfl)⟩ (KM_mv G) (c_at (ci := 12) hK rfl) (va_recv hK hP (ci := 12) (q0 := 0) rfl rfl) (hP.sub (ws' := []) [] rfl) hK hl rfl rfl (Nat.le_of_ble_eq_true rfl) ⟨(Nat.le_of_ble_eq_true rfl), (Nat.le_of_ble_eq_true rfl)⟩ dX9_cost_1 ?_
  refine lv_iconst (v := 1) hx hb dX9_cost_4 (by decide) ?_
  refine lv_isub (x := 4) (y := 1) hx hb dX9_cost_5 ?_
  exact n_iret (v := 4 - 1) C (rfl) dX9_cost_6

set_option maxHeartbeats 4000000 in
set_option maxRecDepth 100000 in
theorem metX10_cost (l : Launch) (G : GG) (h : Nat) (v : Int32) : MR l yX10_cost cX10_cost 1 (some .int) ({ frames := 1, cells := 0, slots := 0, locals := 20 }) [.ref h] [(h, .inr (8, [.int v]))] G (KM G) (4 + v) := by
  -- rows printed by wip/tools/gen.py
  refine mr_mk RX10 (by decide) rfl (Nat.le_of_ble_eq_true rfl) ?_
  intro p0_ e0_ s m args below meth c C hP hK ls hl
  have hx := C.1
  have hb := C.2.1
  have hml := C.2.2.2.2.1
  have hown := C.2.2.2.2.2.1
  have hts := C.2.2.2.2.2.2
  have hl : lv_has ls 1 [(0, .ref h)] := hl
  refine lv_aload_n hx hb dX10_cost_0 rfl (lv_at hl 0 rfl) ?_
  refine c_SU (rest := []) C (metX8_cost l G h) 0 (lw_SU q963 q947 q319 q945 q52 q952) (by decide +kernel) ⟨rfl, rfl⟩ ⟨(Nat.le_of_ble_eq_true rfl), (Nat.le_of_ble_eq_true rfl)⟩ (KM_mv G) (c_at (ci := 8) hK rfl) (va_recv hK hP (ci := 8) (q0 := 0) rfl rfl) (hP.sub (ws' := []) [] rfl) hK hl rfl rfl (Nat.le_of_ble_eq_true rfl) ⟨(Nat.le_of_ble_eq_true rfl), (Nat.le_of_ble_eq_true rfl)⟩ dX10_cost_1 ?_
  refine lv_aload_n hx hb dX10_cost_4 rfl (lv_at hl 0 rfl) ?_
  refine va_get (D := gD G) (ci := 8) (v := .int v) (C := RX10) (T := TX10) (N := 1) hx hb hts in_X10 hown hK hP 0 rfl rfl 0 (by decide) (hts _ q294) (u_same (hts _ q295)) rfl dX10_cost_5 ?_
  refine lv_iadd (x := 4) (y := v) hx hb dX10_cost_8 ?_
  exact n_iret (v := 4 + v) C (rfl) dX10_cost_9

set_option maxHeartbeats 4000000 in
set_option maxRecDepth 100000 in
theorem metX11_cost (l : Launch) (G : GG) (h : Nat) (v : Int32) : MR l yX11_cost cX11_cost 1 (some .int) ({ frames := 1, cells := 0, slots := 0, locals := 20 }) [.ref h] [(h, .inr (9, [.int v]))] G (KM G) (4 + 6) := by
  -- rows printed by wip/tools/gen.py
  refine mr_mk RX11 (by decide) rfl (Nat.le_of_ble_eq_true rfl) ?_
  intro p0_ e0_ s m args below meth c C hP hK ls hl
  have hx := C.1
  have hb := C.2.1
  have hml := C.2.2.2.2.1
  have hown := C.2.2.2.2.2.1
  have hts := C.2.2.2.2.2.2
  have hl : lv_has ls 1 [(0, .ref h)] := hl
  refine lv_aload_n hx hb dX11_cost_0 rfl (lv_at hl 0 rfl) ?_
  refine c_SU (rest := []) C (metX8_cost l G h) 0 (lw_SU q970 q947 q327 q945 q52 q952) (by decide +kernel) ⟨rfl, rfl⟩ ⟨(Nat.le_of_ble_eq_true rfl), (Nat.le_of_ble_eq_true rfl)⟩ (KM_mv G) (c_at (ci := 9) hK rfl) (va_recv hK hP (ci := 9) (q0 := 0) rfl rfl) (hP.sub (ws' := []) [] rfl) hK hl rfl rfl (Nat.le_of_ble_eq_true rfl) ⟨(Nat.le_of_ble_eq_true rfl), (Nat.le_of_ble_eq_true rfl)⟩ dX11_cost_1 ?_
  refine lv_bipush (v := 6) hx hb dX11_cost_4 (by decide) ?_
  refine lv_iadd (x := 4) (y := 6) hx hb dX11_cost_6 ?_
  exact n_iret (v := 4 + 6) C (rfl) dX11_cost_7

set_option maxHeartbeats 4000000 in
set_option maxRecDepth 100000 in
theorem metX11_cost_X13 (l : Launch) (G : GG) (h : Nat) (v : Int32) : MR l yX11_cost cX11_cost 1 (some .int) ({ frames := 1, cells := 0, slots := 0, locals := 20 }) [.ref h] [(h, .inr (11, [.int v]))] G (KM G) (4 + 6) := by
  -- rows printed by wip/tools/gen.py
  refine mr_mk RX11 (by decide) rfl (Nat.le_of_ble_eq_true rfl) ?_
  intro p0_ e0_ s m args below meth c C hP hK ls hl
  have hx := C.1
  have hb := C.2.1
  have hml := C.2.2.2.2.1
  have hown := C.2.2.2.2.2.1
  have hts := C.2.2.2.2.2.2
  have hl : lv_has ls 1 [(0, .ref h)] := hl
  refine lv_aload_n hx hb dX11_cost_0 rfl (lv_at hl 0 rfl) ?_
  refine c_SU (rest := []) C (metX8_cost l G h) 0 (lw_SU q970 q947 q327 q945 q52 q952) (by decide +kernel) ⟨rfl, rfl⟩ ⟨(Nat.le_of_ble_eq_true rfl), (Nat.le_of_ble_eq_true rfl)⟩ (KM_mv G) (c_at (ci := 11) hK rfl) (va_recv hK hP (ci := 11) (q0 := 0) rfl rfl) (hP.sub (ws' := []) [] rfl) hK hl rfl rfl (Nat.le_of_ble_eq_true rfl) ⟨(Nat.le_of_ble_eq_true rfl), (Nat.le_of_ble_eq_true rfl)⟩ dX11_cost_1 ?_
  refine lv_bipush (v := 6) hx hb dX11_cost_4 (by decide) ?_
  refine lv_iadd (x := 4) (y := 6) hx hb dX11_cost_6 ?_
  exact n_iret (v := 4 + 6) C (rfl) dX11_cost_7

set_option maxHeartbeats 4000000 in
set_option maxRecDepth 100000 in
theorem metX13_cost (l : Launch) (G : GG) (h : Nat) (v : Int32) : MR l yX13_cost cX13_cost 1 (some .int) ({ frames := 2, cells := 0, slots := 0, locals := 40 }) [.ref h] [(h, .inr (11, [.int v]))] G (KM G) (4 + 6 + v) := by
  -- rows printed by wip/tools/gen.py
  refine mr_mk RX13 (by decide) rfl (Nat.le_of_ble_eq_true rfl) ?_
  intro p0_ e0_ s m args below meth c C hP hK ls hl
  have hx := C.1
  have hb := C.2.1
  have hml := C.2.2.2.2.1
  have hown := C.2.2.2.2.2.1
  have hts := C.2.2.2.2.2.2
  have hl : lv_has ls 1 [(0, .ref h)] := hl
  refine lv_aload_n hx hb dX13_cost_0 rfl (lv_at hl 0 rfl) ?_
  refine c_SU (rest := []) C (metX11_cost_X13 l G h v) 0 (lw_SU q967 q1441 q343 q968 q55 q969) (by decide +kernel) ⟨rfl, rfl⟩ ⟨(Nat.le_of_ble_eq_true rfl), (Nat.le_of_ble_eq_true rfl)⟩ (KM_mv G) (c_at (ci := 11) hK rfl) (va_recv hK hP (ci := 11) (q0 := 0) rfl rfl) hP hK hl rfl rfl (Nat.le_of_ble_eq_true rfl) ⟨(Nat.le_of_ble_eq_true rfl), (Nat.le_of_ble_eq_true rfl)⟩ dX13_cost_1 ?_
  refine lv_aload_n hx hb dX13_cost_4 rfl (lv_at hl 0 rfl) ?_
  refine va_get (D := gD G) (ci := 11) (v := .int v) (C := RX13) (T := TX13) (N := 1) hx hb hts in_X13 hown hK hP 0 rfl rfl 0 (by decide) (hts _ q298) (u_same (hts _ q299)) rfl dX13_cost_5 ?_
  refine lv_iadd (x := 4 + 6) (y := v) hx hb dX13_cost_8 ?_
  exact n_iret (v := (4 + 6) + v) C (by simp []) dX13_cost_9

set_option maxHeartbeats 4000000 in
set_option maxRecDepth 100000 in
theorem metX13_bite (l : Launch) (G : GG) (h : Nat) (v : Int32) : MR l yX13_bite cX13_bite 1 (some .int) ({ frames := 1, cells := 0, slots := 0, locals := 20 }) [.ref h] [(h, .inr (11, [.int v]))] G (KM G) (1 + 1) := by
  -- rows printed by wip/tools/gen.py
  refine mr_mk RX13 (by decide) rfl (Nat.le_of_ble_eq_true rfl) ?_
  intro p0_ e0_ s m args below meth c C hP hK ls hl
  have hx := C.1
  have hb := C.2.1
  have hml := C.2.2.2.2.1
  have hown := C.2.2.2.2.2.1
  have hts := C.2.2.2.2.2.2
  have hl : lv_has ls 1 [(0, .ref h)] := hl
  refine lv_aload_n hx hb dX13_bite_0 rfl (lv_at hl 0 rfl) ?_
  refine c_SU (rest := []) C (metX11_bite l G h) 0 (lw_SU q430 q1437 q343 q431 q55 q432) (by decide +kernel) ⟨rfl, rfl⟩ ⟨(Nat.le_of_ble_eq_true rfl), (Nat.le_of_ble_eq_true rfl)⟩ (KM_mv G) (c_at (ci := 11) hK rfl) (va_recv hK hP (ci := 11) (q0 := 0) rfl rfl) (hP.sub (ws' := []) [] rfl) hK hl rfl rfl (Nat.le_of_ble_eq_true rfl) ⟨(Nat.le_of_ble_eq_true rfl), (Nat.le_of_ble_eq_true rfl)⟩ dX13_bite_1 ?_
  refine lv_iconst (v := 1) hx hb dX13_bite_4 (by decide) ?_
  refine lv_iadd (x := 1) (y := 1) hx hb dX13_bite_5 ?_
  exact n_iret (v := 1 + 1) C (rfl) dX13_bite_6

set_option maxHeartbeats 4000000 in
set_option maxRecDepth 100000 in
theorem metX14_shy (l : Launch) (G : GG) (h : Nat) (v : Int32) : MR l yX14_shy cX14_shy 1 (some .int) ({ frames := 1, cells := 0, slots := 0, locals := 20 }) [.ref h] [(h, .inr (12, [.int v]))] G (KM G) (1 + 1) := by
  -- rows printed by wip/tools/gen.py
  refine mr_mk RX14 (by decide) rfl (Nat.le_of_ble_eq_true rfl) ?_
  intro p0_ e0_ s m args below meth c C hP hK ls hl
  have hx := C.1
  have hb := C.2.1
  have hml := C.2.2.2.2.1
  have hown := C.2.2.2.2.2.1
  have hts := C.2.2.2.2.2.2
  have hl : lv_has ls 1 [(0, .ref h)] := hl
  refine lv_aload_n hx hb dX14_shy_0 rfl (lv_at hl 0 rfl) ?_
  refine c_SU (rest := []) C (metX9_shy l G h) 0 (lw_SU q458 q1439 q351 q446 q53 q447) (by decide +kernel) ⟨rfl, rfl⟩ ⟨(Nat.le_of_ble_eq_true rfl), (Nat.le_of_ble_eq_true rfl)⟩ (KM_mv G) (c_at (ci := 12) hK rfl) (va_recv hK hP (ci := 12) (q0 := 0) rfl rfl) (hP.sub (ws' := []) [] rfl) hK hl rfl rfl (Nat.le_of_ble_eq_true rfl) ⟨(Nat.le_of_ble_eq_true rfl), (Nat.le_of_ble_eq_true rfl)⟩ dX14_shy_1 ?_
  refine lv_iconst (v := 1) hx hb dX14_shy_4 (by decide) ?_
  refine lv_iadd (x := 1) (y := 1) hx hb dX14_shy_5 ?_
  exact n_iret (v := 1 + 1) C (rfl) dX14_shy_6

set_option maxHeartbeats 4000000 in
set_option maxRecDepth 100000 in
theorem metX12_cost (l : Launch) (G : GG) (h : Nat) (v : Int32) : MR l yX12_cost cX12_cost 1 (some .int) ({ frames := 1, cells := 0, slots := 0, locals := 20 }) [.ref h] [(h, .inr (10, [.int v]))] G (KM G) (4 / 2) := by
  -- rows printed by wip/tools/gen.py
  refine mr_mk RX12 (by decide) rfl (Nat.le_of_ble_eq_true rfl) ?_
  intro p0_ e0_ s m args below meth c C hP hK ls hl
  have hx := C.1
  have hb := C.2.1
  have hml := C.2.2.2.2.1
  have hown := C.2.2.2.2.2.1
  have hts := C.2.2.2.2.2.2
  have hl : lv_has ls 1 [(0, .ref h)] := hl
  refine lv_aload_n hx hb dX12_cost_0 rfl (lv_at hl 0 rfl) ?_
  refine c_SU (rest := []) C (metX8_cost l G h) 0 (lw_SU q951 q947 q335 q945 q52 q952) (by decide +kernel) ⟨rfl, rfl⟩ ⟨(Nat.le_of_ble_eq_true rfl), (Nat.le_of_ble_eq_true rfl)⟩ (KM_mv G) (c_at (ci := 10) hK rfl) (va_recv hK hP (ci := 10) (q0 := 0) rfl rfl) (hP.sub (ws' := []) [] rfl) hK hl rfl rfl (Nat.le_of_ble_eq_true rfl) ⟨(Nat.le_of_ble_eq_true rfl), (Nat.le_of_ble_eq_true rfl)⟩ dX12_cost_1 ?_
  refine lv_iconst (v := 2) hx hb dX12_cost_4 (by decide) ?_
  refine lv_idiv (x := 4) (y := 2) hx hb dX12_cost_5 (by decide) ?_
  exact n_iret (v := 4 / 2) C (rfl) dX12_cost_6

set_option maxHeartbeats 4000000 in
set_option maxRecDepth 100000 in
theorem metX14_cost (l : Launch) (G : GG) (h : Nat) (v : Int32) : MR l yX14_cost cX14_cost 1 (some .int) ({ frames := 2, cells := 0, slots := 0, locals := 40 }) [.ref h] [(h, .inr (12, [.int v]))] G (KM G) (2 * (4 - 1)) := by
  -- rows printed by wip/tools/gen.py
  refine mr_mk RX14 (by decide) rfl (Nat.le_of_ble_eq_true rfl) ?_
  intro p0_ e0_ s m args below meth c C hP hK ls hl
  have hx := C.1
  have hb := C.2.1
  have hml := C.2.2.2.2.1
  have hown := C.2.2.2.2.2.1
  have hts := C.2.2.2.2.2.2
  have hl : lv_has ls 1 [(0, .ref h)] := hl
  refine lv_iconst (v := 2) hx hb dX14_cost_0 (by decide) ?_
  refine lv_aload_n hx hb dX14_cost_1 rfl (lv_at hl 0 rfl) ?_
  refine c_SU (rest := [.int 2]) C (metX9_cost_X14 l G h v) 0 (lw_SU q975 q1442 q351 q954 q53 q955) (by decide +kernel) ⟨rfl, rfl⟩ ⟨(Nat.le_of_ble_eq_true rfl), (Nat.le_of_ble_eq_true rfl)⟩ (KM_mv G) (c_at (ci := 12) hK rfl) (va_recv hK hP (ci := 12) (q0 := 0) rfl rfl) hP hK hl rfl rfl (Nat.le_of_ble_eq_true rfl) ⟨(Nat.le_of_ble_eq_true rfl), (Nat.le_of_ble_eq_true rfl)⟩ dX14_cost_2 ?_
  refine lv_imul (x := 2) (y := 4 - 1) hx hb dX14_cost_5 ?_
  exact n_iret (v := 2 * (4 - 1)) C (rfl) dX14_cost_6
