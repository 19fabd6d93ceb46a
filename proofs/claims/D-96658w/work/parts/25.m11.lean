set_option maxHeartbeats 4000000 in
set_option maxRecDepth 100000 in
theorem metX8_kind (l : Launch) (G : GG) (h : Nat) : MR l yX8_kind cX8_kind 1 (some .int) ({ frames := 0, cells := 0, slots := 0, locals := 0 }) [.ref h] [] G (KM G) 0 := by
  -- rows printed by wip/tools/gen.py
  refine mr_mk RX8 (by decide) rfl (Nat.le_of_ble_eq_true rfl) ?_
  intro p0_ e0_ s m args below meth c C hP hK ls hl
  have hx := C.1
  have hb := C.2.1
  have hml := C.2.2.2.2.1
  have hown := C.2.2.2.2.2.1
  have hts := C.2.2.2.2.2.2
  have hl : lv_has ls 1 [(0, .ref h)] := hl
  refine lv_iconst (v := 0) hx hb dX8_kind_0 (by decide) ?_
  exact n_iret (v := 0) C (rfl) dX8_kind_1

set_option maxHeartbeats 4000000 in
set_option maxRecDepth 100000 in
theorem metX8_cost (l : Launch) (G : GG) (h : Nat) : MR l yX8_cost cX8_cost 1 (some .int) ({ frames := 0, cells := 0, slots := 0, locals := 0 }) [.ref h] [] G (KM G) 4 := by
  -- rows printed by wip/tools/gen.py
  refine mr_mk RX8 (by decide) rfl (Nat.le_of_ble_eq_true rfl) ?_
  intro p0_ e0_ s m args below meth c C hP hK ls hl
  have hx := C.1
  have hb := C.2.1
  have hml := C.2.2.2.2.1
  have hown := C.2.2.2.2.2.1
  have hts := C.2.2.2.2.2.2
  have hl : lv_has ls 1 [(0, .ref h)] := hl
  refine lv_iconst (v := 4) hx hb dX8_cost_0 (by decide) ?_
  exact n_iret (v := 4) C (rfl) dX8_cost_1

set_option maxHeartbeats 4000000 in
set_option maxRecDepth 100000 in
theorem metX9_kind (l : Launch) (G : GG) (h : Nat) : MR l yX9_kind cX9_kind 1 (some .int) ({ frames := 0, cells := 0, slots := 0, locals := 0 }) [.ref h] [] G (KM G) 1 := by
  -- rows printed by wip/tools/gen.py
  refine mr_mk RX9 (by decide) rfl (Nat.le_of_ble_eq_true rfl) ?_
  intro p0_ e0_ s m args below meth c C hP hK ls hl
  have hx := C.1
  have hb := C.2.1
  have hml := C.2.2.2.2.1
  have hown := C.2.2.2.2.2.1
  have hts := C.2.2.2.2.2.2
  have hl : lv_has ls 1 [(0, .ref h)] := hl
  refine lv_iconst (v := 1) hx hb dX9_kind_0 (by decide) ?_
  exact n_iret (v := 1) C (rfl) dX9_kind_1

set_option maxHeartbeats 4000000 in
set_option maxRecDepth 100000 in
theorem metX9_shy (l : Launch) (G : GG) (h : Nat) : MR l yX9_shy cX9_shy 1 (some .int) ({ frames := 0, cells := 0, slots := 0, locals := 0 }) [.ref h] [] G (KM G) 1 := by
  -- rows printed by wip/tools/gen.py
  refine mr_mk RX9 (by decide) rfl (Nat.le_of_ble_eq_true rfl) ?_
  intro p0_ e0_ s m args below meth c C hP hK ls hl
  have hx := C.1
  have hb := C.2.1
  have hml := C.2.2.2.2.1
  have hown := C.2.2.2.2.2.1
  have hts := C.2.2.2.2.2.2
  have hl : lv_has ls 1 [(0, .ref h)] := hl
  refine lv_iconst (v := 1) hx hb dX9_shy_0 (by decide) ?_
  exact n_iret (v := 1) C (rfl) dX9_shy_1

set_option maxHeartbeats 4000000 in
set_option maxRecDepth 100000 in
theorem metX10_kind (l : Launch) (G : GG) (h : Nat) : MR l yX10_kind cX10_kind 1 (some .int) ({ frames := 0, cells := 0, slots := 0, locals := 0 }) [.ref h] [] G (KM G) 2 := by
  -- rows printed by wip/tools/gen.py
  refine mr_mk RX10 (by decide) rfl (Nat.le_of_ble_eq_true rfl) ?_
  intro p0_ e0_ s m args below meth c C hP hK ls hl
  have hx := C.1
  have hb := C.2.1
  have hml := C.2.2.2.2.1
  have hown := C.2.2.2.2.2.1
  have hts := C.2.2.2.2.2.2
  have hl : lv_has ls 1 [(0, .ref h)] := hl
  refine lv_iconst (v := 2) hx hb dX10_kind_0 (by decide) ?_
  exact n_iret (v := 2) C (rfl) dX10_kind_1

set_option maxHeartbeats 4000000 in
set_option maxRecDepth 100000 in
theorem metX10_shy (l : Launch) (G : GG) (h : Nat) : MR l yX10_shy cX10_shy 1 (some .int) ({ frames := 0, cells := 0, slots := 0, locals := 0 }) [.ref h] [] G (KM G) 1 := by
  -- rows printed by wip/tools/gen.py
  refine mr_mk RX10 (by decide) rfl (Nat.le_of_ble_eq_true rfl) ?_
  intro p0_ e0_ s m args below meth c C hP hK ls hl
  have hx := C.1
  have hb := C.2.1
  have hml := C.2.2.2.2.1
  have hown := C.2.2.2.2.2.1
  have hts := C.2.2.2.2.2.2
  have hl : lv_has ls 1 [(0, .ref h)] := hl
  refine lv_iconst (v := 1) hx hb dX10_shy_0 (by decide) ?_
  exact n_iret (v := 1) C (rfl) dX10_shy_1

set_option maxHeartbeats 4000000 in
set_option maxRecDepth 100000 in
theorem metX11_kind (l : Launch) (G : GG) (h : Nat) : MR l yX11_kind cX11_kind 1 (some .int) ({ frames := 0, cells := 0, slots := 0, locals := 0 }) [.ref h] [] G (KM G) 3 := by
  -- rows printed by wip/tools/gen.py
  refine mr_mk RX11 (by decide) rfl (Nat.le_of_ble_eq_true rfl) ?_
  intro p0_ e0_ s m args below meth c C hP hK ls hl
  have hx := C.1
  have hb := C.2.1
  have hml := C.2.2.2.2.1
  have hown := C.2.2.2.2.2.1
  have hts := C.2.2.2.2.2.2
  have hl : lv_has ls 1 [(0, .ref h)] := hl
  refine lv_iconst (v := 3) hx hb dX11_kind_0 (by decide) ?_
  exact n_iret (v := 3) C (rfl) dX11_kind_1

set_option maxHeartbeats 4000000 in
set_option maxRecDepth 100000 in
theorem metX11_bite (l : Launch) (G : GG) (h : Nat) : MR l yX11_bite cX11_bite 1 (some .int) ({ frames := 0, cells := 0, slots := 0, locals := 0 }) [.ref h] [] G (KM G) 1 := by
  -- rows printed by wip/tools/gen.py
  refine mr_mk RX11 (by decide) rfl (Nat.le_of_ble_eq_true rfl) ?_
  intro p0_ e0_ s m args below meth c C hP hK ls hl
  have hx := C.1
  have hb := C.2.1
  have hml := C.2.2.2.2.1
  have hown := C.2.2.2.2.2.1
  have hts := C.2.2.2.2.2.2
  have hl : lv_has ls 1 [(0, .ref h)] := hl
  refine lv_iconst (v := 1) hx hb dX11_bite_0 (by decide) ?_
  exact n_iret (v := 1) C (rfl) dX11_bite_1

set_option maxHeartbeats 4000000 in
set_option maxRecDepth 100000 in
theorem metX12_kind (l : Launch) (G : GG) (h : Nat) : MR l yX12_kind cX12_kind 1 (some .int) ({ frames := 0, cells := 0, slots := 0, locals := 0 }) [.ref h] [] G (KM G) 4 := by
  -- rows printed by wip/tools/gen.py
  refine mr_mk RX12 (by decide) rfl (Nat.le_of_ble_eq_true rfl) ?_
  intro p0_ e0_ s m args below meth c C hP hK ls hl
  have hx := C.1
  have hb := C.2.1
  have hml := C.2.2.2.2.1
  have hown := C.2.2.2.2.2.1
  have hts := C.2.2.2.2.2.2
  have hl : lv_has ls 1 [(0, .ref h)] := hl
  refine lv_iconst (v := 4) hx hb dX12_kind_0 (by decide) ?_
  exact n_iret (v := 4) C (rfl) dX12_kind_1

set_option maxHeartbeats 4000000 in
set_option maxRecDepth 100000 in
theorem metX12_gaze (l : Launch) (G : GG) (h : Nat) : MR l yX12_gaze cX12_gaze 1 (some .int) ({ frames := 0, cells := 0, slots := 0, locals := 0 }) [.ref h] [] G (KM G) 0 := by
  -- rows printed by wip/tools/gen.py
  refine mr_mk RX12 (by decide) rfl (Nat.le_of_ble_eq_true rfl) ?_
  intro p0_ e0_ s m args below meth c C hP hK ls hl
  have hx := C.1
  have hb := C.2.1
  have hml := C.2.2.2.2.1
  have hown := C.2.2.2.2.2.1
  have hts := C.2.2.2.2.2.2
  have hl : lv_has ls 1 [(0, .ref h)] := hl
  refine lv_iconst (v := 0) hx hb dX12_gaze_0 (by decide) ?_
  exact n_iret (v := 0) C (rfl) dX12_gaze_1

set_option maxHeartbeats 4000000 in
set_option maxRecDepth 100000 in
theorem metX12_sees (l : Launch) (G : GG) (h : Nat) : MR l yX12_sees cX12_sees 1 (some .boolean) ({ frames := 0, cells := 0, slots := 0, locals := 0 }) [.ref h] [] G (KM G) (bI false) := by
  -- rows printed by wip/tools/gen.py
  refine mr_mk RX12 (by decide) rfl (Nat.le_of_ble_eq_true rfl) ?_
  intro p0_ e0_ s m args below meth c C hP hK ls hl
  have hx := C.1
  have hb := C.2.1
  have hml := C.2.2.2.2.1
  have hown := C.2.2.2.2.2.1
  have hts := C.2.2.2.2.2.2
  have hl : lv_has ls 1 [(0, .ref h)] := hl
  refine lv_iconst (v := 0) hx hb dX12_sees_0 (by decide) ?_
  exact n_zret (v := false) C (rfl) dX12_sees_1

set_option maxHeartbeats 4000000 in
set_option maxRecDepth 100000 in
theorem metX13_kind (l : Launch) (G : GG) (h : Nat) : MR l yX13_kind cX13_kind 1 (some .int) ({ frames := 0, cells := 0, slots := 0, locals := 0 }) [.ref h] [] G (KM G) 5 := by
  -- rows printed by wip/tools/gen.py
  refine mr_mk RX13 (by decide) rfl (Nat.le_of_ble_eq_true rfl) ?_
  intro p0_ e0_ s m args below meth c C hP hK ls hl
  have hx := C.1
  have hb := C.2.1
  have hml := C.2.2.2.2.1
  have hown := C.2.2.2.2.2.1
  have hts := C.2.2.2.2.2.2
  have hl : lv_has ls 1 [(0, .ref h)] := hl
  refine lv_iconst (v := 5) hx hb dX13_kind_0 (by decide) ?_
  exact n_iret (v := 5) C (rfl) dX13_kind_1

set_option maxHeartbeats 4000000 in
set_option maxRecDepth 100000 in
theorem metX14_kind (l : Launch) (G : GG) (h : Nat) : MR l yX14_kind cX14_kind 1 (some .int) ({ frames := 0, cells := 0, slots := 0, locals := 0 }) [.ref h] [] G (KM G) 6 := by
  -- rows printed by wip/tools/gen.py
  refine mr_mk RX14 (by decide) rfl (Nat.le_of_ble_eq_true rfl) ?_
  intro p0_ e0_ s m args below meth c C hP hK ls hl
  have hx := C.1
  have hb := C.2.1
  have hml := C.2.2.2.2.1
  have hown := C.2.2.2.2.2.1
  have hts := C.2.2.2.2.2.2
  have hl : lv_has ls 1 [(0, .ref h)] := hl
  refine lv_bipush (v := 6) hx hb dX14_kind_0 (by decide) ?_
  exact n_iret (v := 6) C (rfl) dX14_kind_2

set_option maxHeartbeats 4000000 in
set_option maxRecDepth 100000 in
theorem metX15_kind (l : Launch) (G : GG) (h : Nat) : MR l yX15_kind cX15_kind 1 (some .int) ({ frames := 0, cells := 0, slots := 0, locals := 0 }) [.ref h] [] G (KM G) 7 := by
  -- rows printed by wip/tools/gen.py
  refine mr_mk RX15 (by decide) rfl (Nat.le_of_ble_eq_true rfl) ?_
  intro p0_ e0_ s m args below meth c C hP hK ls hl
  have hx := C.1
  have hb := C.2.1
  have hml := C.2.2.2.2.1
  have hown := C.2.2.2.2.2.1
  have hts := C.2.2.2.2.2.2
  have hl : lv_has ls 1 [(0, .ref h)] := hl
  refine lv_bipush (v := 7) hx hb dX15_kind_0 (by decide) ?_
  exact n_iret (v := 7) C (rfl) dX15_kind_2

set_option maxHeartbeats 4000000 in
set_option maxRecDepth 100000 in
theorem metX15_bite (l : Launch) (G : GG) (h : Nat) : MR l yX15_bite cX15_bite 1 (some .int) ({ frames := 0, cells := 0, slots := 0, locals := 0 }) [.ref h] [] G (KM G) 9 := by
  -- rows printed by wip/tools/gen.py
  refine mr_mk RX15 (by decide) rfl (Nat.le_of_ble_eq_true rfl) ?_
  intro p0_ e0_ s m args below meth c C hP hK ls hl
  have hx := C.1
  have hb := C.2.1
  have hml := C.2.2.2.2.1
  have hown := C.2.2.2.2.2.1
  have hts := C.2.2.2.2.2.2
  have hl : lv_has ls 1 [(0, .ref h)] := hl
  refine lv_bipush (v := 9) hx hb dX15_bite_0 (by decide) ?_
  exact n_iret (v := 9) C (rfl) dX15_bite_2

set_option maxHeartbeats 4000000 in
set_option maxRecDepth 100000 in
theorem metX15_gaze (l : Launch) (G : GG) (h : Nat) : MR l yX15_gaze cX15_gaze 1 (some .int) ({ frames := 0, cells := 0, slots := 0, locals := 0 }) [.ref h] [] G (KM G) 0 := by
  -- rows printed by wip/tools/gen.py
  refine mr_mk RX15 (by decide) rfl (Nat.le_of_ble_eq_true rfl) ?_
  intro p0_ e0_ s m args below meth c C hP hK ls hl
  have hx := C.1
  have hb := C.2.1
  have hml := C.2.2.2.2.1
  have hown := C.2.2.2.2.2.1
  have hts := C.2.2.2.2.2.2
  have hl : lv_has ls 1 [(0, .ref h)] := hl
  refine lv_iconst (v := 0) hx hb dX15_gaze_0 (by decide) ?_
  exact n_iret (v := 0) C (rfl) dX15_gaze_1

set_option maxHeartbeats 4000000 in
set_option maxRecDepth 100000 in
theorem metX15_cost (l : Launch) (G : GG) (h : Nat) : MR l yX15_cost cX15_cost 1 (some .int) ({ frames := 0, cells := 0, slots := 0, locals := 0 }) [.ref h] [] G (KM G) 1 := by
  -- rows printed by wip/tools/gen.py
  refine mr_mk RX15 (by decide) rfl (Nat.le_of_ble_eq_true rfl) ?_
  intro p0_ e0_ s m args below meth c C hP hK ls hl
  have hx := C.1
  have hb := C.2.1
  have hml := C.2.2.2.2.1
  have hown := C.2.2.2.2.2.1
  have hts := C.2.2.2.2.2.2
  have hl : lv_has ls 1 [(0, .ref h)] := hl
  refine lv_iconst (v := 1) hx hb dX15_cost_0 (by decide) ?_
  exact n_iret (v := 1) C (rfl) dX15_cost_1

set_option maxHeartbeats 4000000 in
set_option maxRecDepth 100000 in
theorem metX17_gaze (l : Launch) (G : GG) (h : Nat) : MR l yX17_gaze cX17_gaze 1 (some .int) ({ frames := 0, cells := 0, slots := 0, locals := 0 }) [.ref h] [] G (KM G) 2 := by
  -- rows printed by wip/tools/gen.py
  refine mr_mk RX17 (by decide) rfl (Nat.le_of_ble_eq_true rfl) ?_
  intro p0_ e0_ s m args below meth c C hP hK ls hl
  have hx := C.1
  have hb := C.2.1
  have hml := C.2.2.2.2.1
  have hown := C.2.2.2.2.2.1
  have hts := C.2.2.2.2.2.2
  have hl : lv_has ls 1 [(0, .ref h)] := hl
  refine lv_iconst (v := 2) hx hb dX17_gaze_0 (by decide) ?_
  exact n_iret (v := 2) C (rfl) dX17_gaze_1

set_option maxHeartbeats 4000000 in
set_option maxRecDepth 100000 in
theorem metX17_sees (l : Launch) (G : GG) (h : Nat) : MR l yX17_sees cX17_sees 1 (some .boolean) ({ frames := 0, cells := 0, slots := 0, locals := 0 }) [.ref h] [] G (KM G) (bI true) := by
  -- rows printed by wip/tools/gen.py
  refine mr_mk RX17 (by decide) rfl (Nat.le_of_ble_eq_true rfl) ?_
  intro p0_ e0_ s m args below meth c C hP hK ls hl
  have hx := C.1
  have hb := C.2.1
  have hml := C.2.2.2.2.1
  have hown := C.2.2.2.2.2.1
  have hts := C.2.2.2.2.2.2
  have hl : lv_has ls 1 [(0, .ref h)] := hl
  refine lv_iconst (v := 1) hx hb dX17_sees_0 (by decide) ?_
  exact n_zret (v := true) C (rfl) dX17_sees_1

set_option maxHeartbeats 4000000 in
set_option maxRecDepth 100000 in
theorem metX18_bite (l : Launch) (G : GG) (h : Nat) : MR l yX18_bite cX18_bite 1 (some .int) ({ frames := 0, cells := 0, slots := 0, locals := 0 }) [.ref h] [] G (KM G) 3 := by
  -- rows printed by wip/tools/gen.py
  refine mr_mk RX18 (by decide) rfl (Nat.le_of_ble_eq_true rfl) ?_
  intro p0_ e0_ s m args below meth c C hP hK ls hl
  have hx := C.1
  have hb := C.2.1
  have hml := C.2.2.2.2.1
  have hown := C.2.2.2.2.2.1
  have hts := C.2.2.2.2.2.2
  have hl : lv_has ls 1 [(0, .ref h)] := hl
  refine lv_iconst (v := 3) hx hb dX18_bite_0 (by decide) ?_
  exact n_iret (v := 3) C (rfl) dX18_bite_1

set_option maxHeartbeats 4000000 in
set_option maxRecDepth 100000 in
theorem metX19_shy (l : Launch) (G : GG) (h : Nat) : MR l yX19_shy cX19_shy 1 (some .int) ({ frames := 0, cells := 0, slots := 0, locals := 0 }) [.ref h] [] G (KM G) 0 := by
  -- rows printed by wip/tools/gen.py
  refine mr_mk RX19 (by decide) rfl (Nat.le_of_ble_eq_true rfl) ?_
  intro p0_ e0_ s m args below meth c C hP hK ls hl
  have hx := C.1
  have hb := C.2.1
  have hml := C.2.2.2.2.1
  have hown := C.2.2.2.2.2.1
  have hts := C.2.2.2.2.2.2
  have hl : lv_has ls 1 [(0, .ref h)] := hl
  refine lv_iconst (v := 0) hx hb dX19_shy_0 (by decide) ?_
  exact n_iret (v := 0) C (rfl) dX19_shy_1
