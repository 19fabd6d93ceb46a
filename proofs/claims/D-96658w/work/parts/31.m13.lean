set_option maxHeartbeats 4000000 in
set_option maxRecDepth 100000 in
theorem metX9_bite (l : Launch) (G : GG) (h : Nat) (v : Int32) : MR l yX9_bite cX9_bite 1 (some .int) ({ frames := 1, cells := 0, slots := 0, locals := 20 }) [.ref h] [(h, .inr (7, [.int v]))] G (KX G) (3 + 2) := by
  -- rows printed by wip/tools/gen.py
  refine mr_mk RX9 (by decide) rfl (Nat.le_of_ble_eq_true rfl) ?_
  intro p0_ e0_ s m args below meth c C hP hK ls hl
  have hx := C.1
  have hb := C.2.1
  have hml := C.2.2.2.2.1
  have hown := C.2.2.2.2.2.1
  have hts := C.2.2.2.2.2.2
  have hl : lv_has ls 1 [(0, .ref h)] := hl
  refine lv_aload_n hx hb dX9_bite_0 rfl (lv_at hl 0 rfl) ?_
  refine c_SUD (rest := []) C (metX18_bite l G h) ⟨"CakesToTheWatched$Guest", "bite", "()I"⟩ 0 hK.2 (by decide +kernel) (by decide +kernel) (by decide +kernel) ⟨rfl, rfl⟩ q311 q419 q1446 q420 (by decide +kernel) ⟨rfl, rfl⟩ ⟨(Nat.le_of_ble_eq_true rfl), (Nat.le_of_ble_eq_true rfl)⟩ (KM_mv G) (c_at (ci := 7) hK.1 rfl) (va_recv hK.1 hP (ci := 7) (q0 := 0) rfl rfl) (hP.sub (ws' := []) [] rfl) hK.1 hl rfl rfl (Nat.le_of_ble_eq_true rfl) ⟨(Nat.le_of_ble_eq_true rfl), (Nat.le_of_ble_eq_true rfl)⟩ dX9_bite_1 ?_
  refine lv_iconst (v := 2) hx hb dX9_bite_4 (by decide) ?_
  refine lv_iadd (x := 3) (y := 2) hx hb dX9_bite_5 ?_
  exact n_iret (v := 3 + 2) C (rfl) dX9_bite_6

set_option maxHeartbeats 4000000 in
set_option maxRecDepth 100000 in
theorem metX9_gaze (l : Launch) (G : GG) (h : Nat) (v : Int32) : MR l yX9_gaze cX9_gaze 1 (some .int) ({ frames := 1, cells := 0, slots := 0, locals := 20 }) [.ref h] [(h, .inr (7, [.int v]))] G (KX G) (2 - 1) := by
  -- rows printed by wip/tools/gen.py
  refine mr_mk RX9 (by decide) rfl (Nat.le_of_ble_eq_true rfl) ?_
  intro p0_ e0_ s m args below meth c C hP hK ls hl
  have hx := C.1
  have hb := C.2.1
  have hml := C.2.2.2.2.1
  have hown := C.2.2.2.2.2.1
  have hts := C.2.2.2.2.2.2
  have hl : lv_has ls 1 [(0, .ref h)] := hl
  refine lv_aload_n hx hb dX9_gaze_0 rfl (lv_at hl 0 rfl) ?_
  refine c_SUD (rest := []) C (metX17_gaze l G h) ⟨"CakesToTheWatched$Guest", "gaze", "()I"⟩ 0 hK.2 (by decide +kernel) (by decide +kernel) (by decide +kernel) ⟨rfl, rfl⟩ q311 q476 q1445 q477 (by decide +kernel) ⟨rfl, rfl⟩ ⟨(Nat.le_of_ble_eq_true rfl), (Nat.le_of_ble_eq_true rfl)⟩ (KM_mv G) (c_at (ci := 7) hK.1 rfl) (va_recv hK.1 hP (ci := 7) (q0 := 0) rfl rfl) (hP.sub (ws' := []) [] rfl) hK.1 hl rfl rfl (Nat.le_of_ble_eq_true rfl) ⟨(Nat.le_of_ble_eq_true rfl), (Nat.le_of_ble_eq_true rfl)⟩ dX9_gaze_1 ?_
  refine lv_iconst (v := 1) hx hb dX9_gaze_4 (by decide) ?_
  refine lv_isub (x := 2) (y := 1) hx hb dX9_gaze_5 ?_
  exact n_iret (v := 2 - 1) C (rfl) dX9_gaze_6

set_option maxHeartbeats 4000000 in
set_option maxRecDepth 100000 in
theorem metX9_bite_X14 (l : Launch) (G : GG) (h : Nat) (v : Int32) : MR l yX9_bite cX9_bite 1 (some .int) ({ frames := 1, cells := 0, slots := 0, locals := 20 }) [.ref h] [(h, .inr (12, [.int v]))] G (KX G) (3 + 2) := by
  -- rows printed by wip/tools/gen.py
  refine mr_mk RX9 (by decide) rfl (Nat.le_of_ble_eq_true rfl) ?_
  intro p0_ e0_ s m args below meth c C hP hK ls hl
  have hx := C.1
  have hb := C.2.1
  have hml := C.2.2.2.2.1
  have hown := C.2.2.2.2.2.1
  have hts := C.2.2.2.2.2.2
  have hl : lv_has ls 1 [(0, .ref h)] := hl
  refine lv_aload_n hx hb dX9_bite_0 rfl (lv_at hl 0 rfl) ?_
  refine c_SUD (rest := []) C (metX18_bite l G h) ⟨"CakesToTheWatched$Guest", "bite", "()I"⟩ 0 hK.2 (by decide +kernel) (by decide +kernel) (by decide +kernel) ⟨rfl, rfl⟩ q311 q419 q1446 q420 (by decide +kernel) ⟨rfl, rfl⟩ ⟨(Nat.le_of_ble_eq_true rfl), (Nat.le_of_ble_eq_true rfl)⟩ (KM_mv G) (c_at (ci := 12) hK.1 rfl) (va_recv hK.1 hP (ci := 12) (q0 := 0) rfl rfl) (hP.sub (ws' := []) [] rfl) hK.1 hl rfl rfl (Nat.le_of_ble_eq_true rfl) ⟨(Nat.le_of_ble_eq_true rfl), (Nat.le_of_ble_eq_true rfl)⟩ dX9_bite_1 ?_
  refine lv_iconst (v := 2) hx hb dX9_bite_4 (by decide) ?_
  refine lv_iadd (x := 3) (y := 2) hx hb dX9_bite_5 ?_
  exact n_iret (v := 3 + 2) C (rfl) dX9_bite_6

set_option maxHeartbeats 4000000 in
set_option maxRecDepth 100000 in
theorem metX9_gaze_X14 (l : Launch) (G : GG) (h : Nat) (v : Int32) : MR l yX9_gaze cX9_gaze 1 (some .int) ({ frames := 1, cells := 0, slots := 0, locals := 20 }) [.ref h] [(h, .inr (12, [.int v]))] G (KX G) (2 - 1) := by
  -- rows printed by wip/tools/gen.py
  refine mr_mk RX9 (by decide) rfl (Nat.le_of_ble_eq_true rfl) ?_
  intro p0_ e0_ s m args below meth c C hP hK ls hl
  have hx := C.1
  have hb := C.2.1
  have hml := C.2.2.2.2.1
  have hown := C.2.2.2.2.2.1
  have hts := C.2.2.2.2.2.2
  have hl : lv_has ls 1 [(0, .ref h)] := hl
  refine lv_aload_n hx hb dX9_gaze_0 rfl (lv_at hl 0 rfl) ?_
  refine c_SUD (rest := []) C (metX17_gaze l G h) ⟨"CakesToTheWatched$Guest", "gaze", "()I"⟩ 0 hK.2 (by decide +kernel) (by decide +kernel) (by decide +kernel) ⟨rfl, rfl⟩ q311 q476 q1445 q477 (by decide +kernel) ⟨rfl, rfl⟩ ⟨(Nat.le_of_ble_eq_true rfl), (Nat.le_of_ble_eq_true rfl)⟩ (KM_mv G) (c_at (ci := 12) hK.1 rfl) (va_recv hK.1 hP (ci := 12) (q0 := 0) rfl rfl) (hP.sub (ws' := []) [] rfl) hK.1 hl rfl rfl (Nat.le_of_ble_eq_true rfl) ⟨(Nat.le_of_ble_eq_true rfl), (Nat.le_of_ble_eq_true rfl)⟩ dX9_gaze_1 ?_
  refine lv_iconst (v := 1) hx hb dX9_gaze_4 (by decide) ?_
  refine lv_isub (x := 2) (y := 1) hx hb dX9_gaze_5 ?_
  exact n_iret (v := 2 - 1) C (rfl) dX9_gaze_6

set_option maxHeartbeats 4000000 in
set_option maxRecDepth 100000 in
theorem metX10_bite (l : Launch) (G : GG) (h : Nat) (v : Int32) : MR l yX10_bite cX10_bite 1 (some .int) ({ frames := 1, cells := 0, slots := 0, locals := 20 }) [.ref h] [(h, .inr (8, [.int v]))] G (KX G) (3 + v / 2) := by
  -- rows printed by wip/tools/gen.py
  refine mr_mk RX10 (by decide) rfl (Nat.le_of_ble_eq_true rfl) ?_
  intro p0_ e0_ s m args below meth c C hP hK ls hl
  have hx := C.1
  have hb := C.2.1
  have hml := C.2.2.2.2.1
  have hown := C.2.2.2.2.2.1
  have hts := C.2.2.2.2.2.2
  have hl : lv_has ls 1 [(0, .ref h)] := hl
  refine lv_aload_n hx hb dX10_bite_0 rfl (lv_at hl 0 rfl) ?_
  refine c_SUD (rest := []) C (metX18_bite l G h) ⟨"CakesToTheWatched$Guest", "bite", "()I"⟩ 0 hK.2 (by decide +kernel) (by decide +kernel) (by decide +kernel) ⟨rfl, rfl⟩ q319 q419 q1446 q420 (by decide +kernel) ⟨rfl, rfl⟩ ⟨(Nat.le_of_ble_eq_true rfl), (Nat.le_of_ble_eq_true rfl)⟩ (KM_mv G) (c_at (ci := 8) hK.1 rfl) (va_recv hK.1 hP (ci := 8) (q0 := 0) rfl rfl) (hP.sub (ws' := []) [] rfl) hK.1 hl rfl rfl (Nat.le_of_ble_eq_true rfl) ⟨(Nat.le_of_ble_eq_true rfl), (Nat.le_of_ble_eq_true rfl)⟩ dX10_bite_1 ?_
  refine lv_aload_n hx hb dX10_bite_4 rfl (lv_at hl 0 rfl) ?_
  refine va_get (D := gD G) (ci := 8) (v := .int v) (C := RX10) (T := TX10) (N := 1) hx hb hts in_X10 hown hK.1 hP 0 rfl rfl 0 (by decide) (hts _ q294) (u_same (hts _ q295)) rfl dX10_bite_5 ?_
  refine lv_iconst (v := 2) hx hb dX10_bite_8 (by decide) ?_
  refine lv_idiv (x := v) (y := 2) hx hb dX10_bite_9 (by decide) ?_
  refine lv_iadd (x := 3) (y := v / 2) hx hb dX10_bite_10 ?_
  exact n_iret (v := 3 + (v / 2)) C (by simp []) dX10_bite_11

set_option maxHeartbeats 4000000 in
set_option maxRecDepth 100000 in
theorem metX10_gaze (l : Launch) (G : GG) (h : Nat) (v : Int32) : MR l yX10_gaze cX10_gaze 1 (some .int) ({ frames := 1, cells := 0, slots := 0, locals := 20 }) [.ref h] [(h, .inr (8, [.int v]))] G (KX G) (2 + 2) := by
  -- rows printed by wip/tools/gen.py
  refine mr_mk RX10 (by decide) rfl (Nat.le_of_ble_eq_true rfl) ?_
  intro p0_ e0_ s m args below meth c C hP hK ls hl
  have hx := C.1
  have hb := C.2.1
  have hml := C.2.2.2.2.1
  have hown := C.2.2.2.2.2.1
  have hts := C.2.2.2.2.2.2
  have hl : lv_has ls 1 [(0, .ref h)] := hl
  refine lv_aload_n hx hb dX10_gaze_0 rfl (lv_at hl 0 rfl) ?_
  refine c_SUD (rest := []) C (metX17_gaze l G h) ⟨"CakesToTheWatched$Guest", "gaze", "()I"⟩ 0 hK.2 (by decide +kernel) (by decide +kernel) (by decide +kernel) ⟨rfl, rfl⟩ q319 q476 q1445 q477 (by decide +kernel) ⟨rfl, rfl⟩ ⟨(Nat.le_of_ble_eq_true rfl), (Nat.le_of_ble_eq_true rfl)⟩ (KM_mv G) (c_at (ci := 8) hK.1 rfl) (va_recv hK.1 hP (ci := 8) (q0 := 0) rfl rfl) (hP.sub (ws' := []) [] rfl) hK.1 hl rfl rfl (Nat.le_of_ble_eq_true rfl) ⟨(Nat.le_of_ble_eq_true rfl), (Nat.le_of_ble_eq_true rfl)⟩ dX10_gaze_1 ?_
  refine lv_iconst (v := 2) hx hb dX10_gaze_4 (by decide) ?_
  refine lv_iadd (x := 2) (y := 2) hx hb dX10_gaze_5 ?_
  exact n_iret (v := 2 + 2) C (rfl) dX10_gaze_6

set_option maxHeartbeats 4000000 in
set_option maxRecDepth 100000 in
theorem metX11_gaze (l : Launch) (G : GG) (h : Nat) (v : Int32) : MR l yX11_gaze cX11_gaze 1 (some .int) ({ frames := 1, cells := 0, slots := 0, locals := 20 }) [.ref h] [(h, .inr (9, [.int v]))] G (KX G) (2 + v / 3) := by
  -- rows printed by wip/tools/gen.py
  refine mr_mk RX11 (by decide) rfl (Nat.le_of_ble_eq_true rfl) ?_
  intro p0_ e0_ s m args below meth c C hP hK ls hl
  have hx := C.1
  have hb := C.2.1
  have hml := C.2.2.2.2.1
  have hown := C.2.2.2.2.2.1
  have hts := C.2.2.2.2.2.2
  have hl : lv_has ls 1 [(0, .ref h)] := hl
  refine lv_aload_n hx hb dX11_gaze_0 rfl (lv_at hl 0 rfl) ?_
  refine c_SUD (rest := []) C (metX17_gaze l G h) ⟨"CakesToTheWatched$Guest", "gaze", "()I"⟩ 0 hK.2 (by decide +kernel) (by decide +kernel) (by decide +kernel) ⟨rfl, rfl⟩ q327 q476 q1445 q477 (by decide +kernel) ⟨rfl, rfl⟩ ⟨(Nat.le_of_ble_eq_true rfl), (Nat.le_of_ble_eq_true rfl)⟩ (KM_mv G) (c_at (ci := 9) hK.1 rfl) (va_recv hK.1 hP (ci := 9) (q0 := 0) rfl rfl) (hP.sub (ws' := []) [] rfl) hK.1 hl rfl rfl (Nat.le_of_ble_eq_true rfl) ⟨(Nat.le_of_ble_eq_true rfl), (Nat.le_of_ble_eq_true rfl)⟩ dX11_gaze_1 ?_
  refine lv_aload_n hx hb dX11_gaze_4 rfl (lv_at hl 0 rfl) ?_
  refine va_get (D := gD G) (ci := 9) (v := .int v) (C := RX11) (T := TX11) (N := 1) hx hb hts in_X11 hown hK.1 hP 0 rfl rfl 0 (by decide) (hts _ q296) (u_same (hts _ q297)) rfl dX11_gaze_5 ?_
  refine lv_iconst (v := 3) hx hb dX11_gaze_8 (by decide) ?_
  refine lv_idiv (x := v) (y := 3) hx hb dX11_gaze_9 (by decide) ?_
  refine lv_iadd (x := 2) (y := v / 3) hx hb dX11_gaze_10 ?_
  exact n_iret (v := 2 + (v / 3)) C (by simp []) dX11_gaze_11

set_option maxHeartbeats 4000000 in
set_option maxRecDepth 100000 in
theorem metX11_gaze_X13 (l : Launch) (G : GG) (h : Nat) (v : Int32) : MR l yX11_gaze cX11_gaze 1 (some .int) ({ frames := 1, cells := 0, slots := 0, locals := 20 }) [.ref h] [(h, .inr (11, [.int v]))] G (KX G) (2 + v / 3) := by
  -- rows printed by wip/tools/gen.py
  refine mr_mk RX11 (by decide) rfl (Nat.le_of_ble_eq_true rfl) ?_
  intro p0_ e0_ s m args below meth c C hP hK ls hl
  have hx := C.1
  have hb := C.2.1
  have hml := C.2.2.2.2.1
  have hown := C.2.2.2.2.2.1
  have hts := C.2.2.2.2.2.2
  have hl : lv_has ls 1 [(0, .ref h)] := hl
  refine lv_aload_n hx hb dX11_gaze_0 rfl (lv_at hl 0 rfl) ?_
  refine c_SUD (rest := []) C (metX17_gaze l G h) ⟨"CakesToTheWatched$Guest", "gaze", "()I"⟩ 0 hK.2 (by decide +kernel) (by decide +kernel) (by decide +kernel) ⟨rfl, rfl⟩ q327 q476 q1445 q477 (by decide +kernel) ⟨rfl, rfl⟩ ⟨(Nat.le_of_ble_eq_true rfl), (Nat.le_of_ble_eq_true rfl)⟩ (KM_mv G) (c_at (ci := 11) hK.1 rfl) (va_recv hK.1 hP (ci := 11) (q0 := 0) rfl rfl) (hP.sub (ws' := []) [] rfl) hK.1 hl rfl rfl (Nat.le_of_ble_eq_true rfl) ⟨(Nat.le_of_ble_eq_true rfl), (Nat.le_of_ble_eq_true rfl)⟩ dX11_gaze_1 ?_
  refine lv_aload_n hx hb dX11_gaze_4 rfl (lv_at hl 0 rfl) ?_
  refine va_get (D := gD G) (ci := 11) (v := .int v) (C := RX13) (T := TX13) (N := 1) hx hb hts in_X13 hown hK.1 hP 0 rfl rfl 0 (by decide) (hts _ q296) (u_same (hts _ q297)) rfl dX11_gaze_5 ?_
  refine lv_iconst (v := 3) hx hb dX11_gaze_8 (by decide) ?_
  refine lv_idiv (x := v) (y := 3) hx hb dX11_gaze_9 (by decide) ?_
  refine lv_iadd (x := 2) (y := v / 3) hx hb dX11_gaze_10 ?_
  exact n_iret (v := 2 + (v / 3)) C (by simp []) dX11_gaze_11

set_option maxHeartbeats 4000000 in
set_option maxRecDepth 100000 in
theorem metX13_gaze (l : Launch) (G : GG) (h : Nat) (v : Int32) : MR l yX13_gaze cX13_gaze 1 (some .int) ({ frames := 2, cells := 0, slots := 0, locals := 40 }) [.ref h] [(h, .inr (11, [.int v]))] G (KX G) (2 * (2 + v / 3)) := by
  -- rows printed by wip/tools/gen.py
  refine mr_mk RX13 (by decide) rfl (Nat.le_of_ble_eq_true rfl) ?_
  intro p0_ e0_ s m args below meth c C hP hK ls hl
  have hx := C.1
  have hb := C.2.1
  have hml := C.2.2.2.2.1
  have hown := C.2.2.2.2.2.1
  have hts := C.2.2.2.2.2.2
  have hl : lv_has ls 1 [(0, .ref h)] := hl
  refine lv_iconst (v := 2) hx hb dX13_gaze_0 (by decide) ?_
  refine lv_aload_n hx hb dX13_gaze_1 rfl (lv_at hl 0 rfl) ?_
  refine c_SU (rest := [.int 2]) C (metX11_gaze_X13 l G h v) 0 (lw_SU q487 q1440 q343 q488 q55 q489) (by decide +kernel) ⟨rfl, rfl⟩ ⟨(Nat.le_of_ble_eq_true rfl), (Nat.le_of_ble_eq_true rfl)⟩ (KX_mv G) (c_at (ci := 11) hK.1 rfl) (va_recv hK.1 hP (ci := 11) (q0 := 0) rfl rfl) hP hK hl rfl rfl (Nat.le_of_ble_eq_true rfl) ⟨(Nat.le_of_ble_eq_true rfl), (Nat.le_of_ble_eq_true rfl)⟩ dX13_gaze_2 ?_
  refine lv_imul (x := 2) (y := 2 + v / 3) hx hb dX13_gaze_5 ?_
  exact n_iret (v := 2 * (2 + v / 3)) C (rfl) dX13_gaze_6

set_option maxHeartbeats 4000000 in
set_option maxRecDepth 100000 in
theorem metX14_bite (l : Launch) (G : GG) (h : Nat) (v : Int32) : MR l yX14_bite cX14_bite 1 (some .int) ({ frames := 2, cells := 0, slots := 0, locals := 40 }) [.ref h] [(h, .inr (12, [.int v]))] G (KX G) ((3 + 2) / 2) := by
  -- rows printed by wip/tools/gen.py
  refine mr_mk RX14 (by decide) rfl (Nat.le_of_ble_eq_true rfl) ?_
  intro p0_ e0_ s m args below meth c C hP hK ls hl
  have hx := C.1
  have hb := C.2.1
  have hml := C.2.2.2.2.1
  have hown := C.2.2.2.2.2.1
  have hts := C.2.2.2.2.2.2
  have hl : lv_has ls 1 [(0, .ref h)] := hl
  refine lv_aload_n hx hb dX14_bite_0 rfl (lv_at hl 0 rfl) ?_
  refine c_SU (rest := []) C (metX9_bite_X14 l G h v) 0 (lw_SU q438 q1438 q351 q417 q53 q418) (by decide +kernel) ⟨rfl, rfl⟩ ⟨(Nat.le_of_ble_eq_true rfl), (Nat.le_of_ble_eq_true rfl)⟩ (KX_mv G) (c_at (ci := 12) hK.1 rfl) (va_recv hK.1 hP (ci := 12) (q0 := 0) rfl rfl) hP hK hl rfl rfl (Nat.le_of_ble_eq_true rfl) ⟨(Nat.le_of_ble_eq_true rfl), (Nat.le_of_ble_eq_true rfl)⟩ dX14_bite_1 ?_
  refine lv_iconst (v := 2) hx hb dX14_bite_4 (by decide) ?_
  refine lv_idiv (x := 3 + 2) (y := 2) hx hb dX14_bite_5 (by decide) ?_
  exact n_iret (v := (3 + 2) / 2) C (rfl) dX14_bite_6
