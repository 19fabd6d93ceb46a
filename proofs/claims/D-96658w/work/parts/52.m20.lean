set_option maxHeartbeats 4000000 in
set_option maxRecDepth 100000 in
theorem metX8_init_X8 (l : Launch) (G : GG) (h : Nat) (v0 v : Int32) : MWv l yX8_init cX8_init 2 none ({ frames := 1, cells := 0, slots := 0, locals := 30 }) [.ref h, .int v] [(h, .inr (6, [.int v0]))] G (KM G) 0 0 (fun w1 => w1 = [(h, .inr (6, [.int v]))]) := by
  -- rows printed by wip/tools/gen.py
  refine mwv_mk RX8 (by decide) rfl (Nat.le_of_ble_eq_true rfl) ?_
  intro p0_ e0_ s m args below meth c A C hname hA hP hK hD ls hl
  have hx := C.1
  have hb := C.2.1
  have hml := C.2.2.2.2.1
  have hown := C.2.2.2.2.2.1
  have hts := C.2.2.2.2.2.2
  have hS : va_S A s.heap s.heap [] := va_S.rf
  have hl : lv_has ls 2 [(0, .ref h), (1, .int v)] := hl
  refine lv_aload_n hx hb dX8_init_0 rfl (lv_at hl 0 rfl) ?_
  refine W.objInit hx hb hown (hts _ q292) (hts _ q88) (hts _ q89) rfl (by rw [hml]; exact hl.1) rfl dX8_init_1 (Nat.le_of_ble_eq_true rfl) (Nat.le_of_ble_eq_true rfl) ?_
  refine W.eq (g2 := F0 m 4 ls []) rfl ?_
  refine lv_aload_n hx hb dX8_init_4 rfl (lv_at hl 0 rfl) ?_
  refine lv_iload_n hx hb dX8_init_5 rfl (lv_at hl 1 rfl) ?_
  refine va_putF (D := gD G) (ci := 6) (v := .int v) (ty := .int) (C := RX8) (T := TX8) (N := 1) hx hb hts in_X8 tyX8 tyX8_ok nmX8 hown hK hP hD hS 0 rfl rfl 0 (by decide) (hts _ q293) (fun _ h9 => h9) rfl hname rfl (by decide +kernel) rfl rfl (Nat.le_of_ble_eq_true rfl) dX8_init_6 (fun H locs hP hD hS => ?_)
  have hP : PP G [(h, .inr (6, [.int v]))] H := hP
  have hD : va_D A [(h, .inr (6, [.int v]))] := hD
  exact n_vretW (w1 := [(h, .inr (6, [.int v]))]) C (rfl) hP hD hS (by first | omega | decide) (by first | omega | decide) dX8_init_9

set_option maxHeartbeats 4000000 in
set_option maxRecDepth 100000 in
theorem metX8_init_X9 (l : Launch) (G : GG) (h : Nat) (v0 v : Int32) : MWv l yX8_init cX8_init 2 none ({ frames := 1, cells := 0, slots := 0, locals := 30 }) [.ref h, .int v] [(h, .inr (7, [.int v0]))] G (KM G) 0 0 (fun w1 => w1 = [(h, .inr (7, [.int v]))]) := by
  -- rows printed by wip/tools/gen.py
  refine mwv_mk RX8 (by decide) rfl (Nat.le_of_ble_eq_true rfl) ?_
  intro p0_ e0_ s m args below meth c A C hname hA hP hK hD ls hl
  have hx := C.1
  have hb := C.2.1
  have hml := C.2.2.2.2.1
  have hown := C.2.2.2.2.2.1
  have hts := C.2.2.2.2.2.2
  have hS : va_S A s.heap s.heap [] := va_S.rf
  have hl : lv_has ls 2 [(0, .ref h), (1, .int v)] := hl
  refine lv_aload_n hx hb dX8_init_0 rfl (lv_at hl 0 rfl) ?_
  refine W.objInit hx hb hown (hts _ q292) (hts _ q88) (hts _ q89) rfl (by rw [hml]; exact hl.1) rfl dX8_init_1 (Nat.le_of_ble_eq_true rfl) (Nat.le_of_ble_eq_true rfl) ?_
  refine W.eq (g2 := F0 m 4 ls []) rfl ?_
  refine lv_aload_n hx hb dX8_init_4 rfl (lv_at hl 0 rfl) ?_
  refine lv_iload_n hx hb dX8_init_5 rfl (lv_at hl 1 rfl) ?_
  refine va_putF (D := gD G) (ci := 7) (v := .int v) (ty := .int) (C := RX9) (T := TX9) (N := 1) hx hb hts in_X9 tyX9 tyX9_ok nmX9 hown hK hP hD hS 0 rfl rfl 0 (by decide) (hts _ q293) (fun _ h9 => h9) rfl hname rfl (by decide +kernel) rfl rfl (Nat.le_of_ble_eq_true rfl) dX8_init_6 (fun H locs hP hD hS => ?_)
  have hP : PP G [(h, .inr (7, [.int v]))] H := hP
  have hD : va_D A [(h, .inr (7, [.int v]))] := hD
  exact n_vretW (w1 := [(h, .inr (7, [.int v]))]) C (rfl) hP hD hS (by first | omega | decide) (by first | omega | decide) dX8_init_9

set_option maxHeartbeats 4000000 in
set_option maxRecDepth 100000 in
theorem metX8_init_X10 (l : Launch) (G : GG) (h : Nat) (v0 v : Int32) : MWv l yX8_init cX8_init 2 none ({ frames := 1, cells := 0, slots := 0, locals := 30 }) [.ref h, .int v] [(h, .inr (8, [.int v0]))] G (KM G) 0 0 (fun w1 => w1 = [(h, .inr (8, [.int v]))]) := by
  -- rows printed by wip/tools/gen.py
  refine mwv_mk RX8 (by decide) rfl (Nat.le_of_ble_eq_true rfl) ?_
  intro p0_ e0_ s m args below meth c A C hname hA hP hK hD ls hl
  have hx := C.1
  have hb := C.2.1
  have hml := C.2.2.2.2.1
  have hown := C.2.2.2.2.2.1
  have hts := C.2.2.2.2.2.2
  have hS : va_S A s.heap s.heap [] := va_S.rf
  have hl : lv_has ls 2 [(0, .ref h), (1, .int v)] := hl
  refine lv_aload_n hx hb dX8_init_0 rfl (lv_at hl 0 rfl) ?_
  refine W.objInit hx hb hown (hts _ q292) (hts _ q88) (hts _ q89) rfl (by rw [hml]; exact hl.1) rfl dX8_init_1 (Nat.le_of_ble_eq_true rfl) (Nat.le_of_ble_eq_true rfl) ?_
  refine W.eq (g2 := F0 m 4 ls []) rfl ?_
  refine lv_aload_n hx hb dX8_init_4 rfl (lv_at hl 0 rfl) ?_
  refine lv_iload_n hx hb dX8_init_5 rfl (lv_at hl 1 rfl) ?_
  refine va_putF (D := gD G) (ci := 8) (v := .int v) (ty := .int) (C := RX10) (T := TX10) (N := 1) hx hb hts in_X10 tyX10 tyX10_ok nmX10 hown hK hP hD hS 0 rfl rfl 0 (by decide) (hts _ q293) (fun _ h9 => h9) rfl hname rfl (by decide +kernel) rfl rfl (Nat.le_of_ble_eq_true rfl) dX8_init_6 (fun H locs hP hD hS => ?_)
  have hP : PP G [(h, .inr (8, [.int v]))] H := hP
  have hD : va_D A [(h, .inr (8, [.int v]))] := hD
  exact n_vretW (w1 := [(h, .inr (8, [.int v]))]) C (rfl) hP hD hS (by first | omega | decide) (by first | omega | decide) dX8_init_9

set_option maxHeartbeats 4000000 in
set_option maxRecDepth 100000 in
theorem metX8_init_X11 (l : Launch) (G : GG) (h : Nat) (v0 v : Int32) : MWv l yX8_init cX8_init 2 none ({ frames := 1, cells := 0, slots := 0, locals := 30 }) [.ref h, .int v] [(h, .inr (9, [.int v0]))] G (KM G) 0 0 (fun w1 => w1 = [(h, .inr (9, [.int v]))]) := by
  -- rows printed by wip/tools/gen.py
  refine mwv_mk RX8 (by decide) rfl (Nat.le_of_ble_eq_true rfl) ?_
  intro p0_ e0_ s m args below meth c A C hname hA hP hK hD ls hl
  have hx := C.1
  have hb := C.2.1
  have hml := C.2.2.2.2.1
  have hown := C.2.2.2.2.2.1
  have hts := C.2.2.2.2.2.2
  have hS : va_S A s.heap s.heap [] := va_S.rf
  have hl : lv_has ls 2 [(0, .ref h), (1, .int v)] := hl
  refine lv_aload_n hx hb dX8_init_0 rfl (lv_at hl 0 rfl) ?_
  refine W.objInit hx hb hown (hts _ q292) (hts _ q88) (hts _ q89) rfl (by rw [hml]; exact hl.1) rfl dX8_init_1 (Nat.le_of_ble_eq_true rfl) (Nat.le_of_ble_eq_true rfl) ?_
  refine W.eq (g2 := F0 m 4 ls []) rfl ?_
  refine lv_aload_n hx hb dX8_init_4 rfl (lv_at hl 0 rfl) ?_
  refine lv_iload_n hx hb dX8_init_5 rfl (lv_at hl 1 rfl) ?_
  refine va_putF (D := gD G) (ci := 9) (v := .int v) (ty := .int) (C := RX11) (T := TX11) (N := 1) hx hb hts in_X11 tyX11 tyX11_ok nmX11 hown hK hP hD hS 0 rfl rfl 0 (by decide) (hts _ q293) (fun _ h9 => h9) rfl hname rfl (by decide +kernel) rfl rfl (Nat.le_of_ble_eq_true rfl) dX8_init_6 (fun H locs hP hD hS => ?_)
  have hP : PP G [(h, .inr (9, [.int v]))] H := hP
  have hD : va_D A [(h, .inr (9, [.int v]))] := hD
  exact n_vretW (w1 := [(h, .inr (9, [.int v]))]) C (rfl) hP hD hS (by first | omega | decide) (by first | omega | decide) dX8_init_9

set_option maxHeartbeats 4000000 in
set_option maxRecDepth 100000 in
theorem metX8_init_X12 (l : Launch) (G : GG) (h : Nat) (v0 v : Int32) : MWv l yX8_init cX8_init 2 none ({ frames := 1, cells := 0, slots := 0, locals := 30 }) [.ref h, .int v] [(h, .inr (10, [.int v0]))] G (KM G) 0 0 (fun w1 => w1 = [(h, .inr (10, [.int v]))]) := by
  -- rows printed by wip/tools/gen.py
  refine mwv_mk RX8 (by decide) rfl (Nat.le_of_ble_eq_true rfl) ?_
  intro p0_ e0_ s m args below meth c A C hname hA hP hK hD ls hl
  have hx := C.1
  have hb := C.2.1
  have hml := C.2.2.2.2.1
  have hown := C.2.2.2.2.2.1
  have hts := C.2.2.2.2.2.2
  have hS : va_S A s.heap s.heap [] := va_S.rf
  have hl : lv_has ls 2 [(0, .ref h), (1, .int v)] := hl
  refine lv_aload_n hx hb dX8_init_0 rfl (lv_at hl 0 rfl) ?_
  refine W.objInit hx hb hown (hts _ q292) (hts _ q88) (hts _ q89) rfl (by rw [hml]; exact hl.1) rfl dX8_init_1 (Nat.le_of_ble_eq_true rfl) (Nat.le_of_ble_eq_true rfl) ?_
  refine W.eq (g2 := F0 m 4 ls []) rfl ?_
  refine lv_aload_n hx hb dX8_init_4 rfl (lv_at hl 0 rfl) ?_
  refine lv_iload_n hx hb dX8_init_5 rfl (lv_at hl 1 rfl) ?_
  refine va_putF (D := gD G) (ci := 10) (v := .int v) (ty := .int) (C := RX12) (T := TX12) (N := 1) hx hb hts in_X12 tyX12 tyX12_ok nmX12 hown hK hP hD hS 0 rfl rfl 0 (by decide) (hts _ q293) (fun _ h9 => h9) rfl hname rfl (by decide +kernel) rfl rfl (Nat.le_of_ble_eq_true rfl) dX8_init_6 (fun H locs hP hD hS => ?_)
  have hP : PP G [(h, .inr (10, [.int v]))] H := hP
  have hD : va_D A [(h, .inr (10, [.int v]))] := hD
  exact n_vretW (w1 := [(h, .inr (10, [.int v]))]) C (rfl) hP hD hS (by first | omega | decide) (by first | omega | decide) dX8_init_9

set_option maxHeartbeats 4000000 in
set_option maxRecDepth 100000 in
theorem metX8_init_X13 (l : Launch) (G : GG) (h : Nat) (v0 v : Int32) : MWv l yX8_init cX8_init 2 none ({ frames := 1, cells := 0, slots := 0, locals := 30 }) [.ref h, .int v] [(h, .inr (11, [.int v0]))] G (KM G) 0 0 (fun w1 => w1 = [(h, .inr (11, [.int v]))]) := by
  -- rows printed by wip/tools/gen.py
  refine mwv_mk RX8 (by decide) rfl (Nat.le_of_ble_eq_true rfl) ?_
  intro p0_ e0_ s m args below meth c A C hname hA hP hK hD ls hl
  have hx := C.1
  have hb := C.2.1
  have hml := C.2.2.2.2.1
  have hown := C.2.2.2.2.2.1
  have hts := C.2.2.2.2.2.2
  have hS : va_S A s.heap s.heap [] := va_S.rf
  have hl : lv_has ls 2 [(0, .ref h), (1, .int v)] := hl
  refine lv_aload_n hx hb dX8_init_0 rfl (lv_at hl 0 rfl) ?_
  refine W.objInit hx hb hown (hts _ q292) (hts _ q88) (hts _ q89) rfl (by rw [hml]; exact hl.1) rfl dX8_init_1 (Nat.le_of_ble_eq_true rfl) (Nat.le_of_ble_eq_true rfl) ?_
  refine W.eq (g2 := F0 m 4 ls []) rfl ?_
  refine lv_aload_n hx hb dX8_init_4 rfl (lv_at hl 0 rfl) ?_
  refine lv_iload_n hx hb dX8_init_5 rfl (lv_at hl 1 rfl) ?_
  refine va_putF (D := gD G) (ci := 11) (v := .int v) (ty := .int) (C := RX13) (T := TX13) (N := 1) hx hb hts in_X13 tyX13 tyX13_ok nmX13 hown hK hP hD hS 0 rfl rfl 0 (by decide) (hts _ q293) (fun _ h9 => h9) rfl hname rfl (by decide +kernel) rfl rfl (Nat.le_of_ble_eq_true rfl) dX8_init_6 (fun H locs hP hD hS => ?_)
  have hP : PP G [(h, .inr (11, [.int v]))] H := hP
  have hD : va_D A [(h, .inr (11, [.int v]))] := hD
  exact n_vretW (w1 := [(h, .inr (11, [.int v]))]) C (rfl) hP hD hS (by first | omega | decide) (by first | omega | decide) dX8_init_9

set_option maxHeartbeats 4000000 in
set_option maxRecDepth 100000 in
theorem metX8_init_X14 (l : Launch) (G : GG) (h : Nat) (v0 v : Int32) : MWv l yX8_init cX8_init 2 none ({ frames := 1, cells := 0, slots := 0, locals := 30 }) [.ref h, .int v] [(h, .inr (12, [.int v0]))] G (KM G) 0 0 (fun w1 => w1 = [(h, .inr (12, [.int v]))]) := by
  -- rows printed by wip/tools/gen.py
  refine mwv_mk RX8 (by decide) rfl (Nat.le_of_ble_eq_true rfl) ?_
  intro p0_ e0_ s m args below meth c A C hname hA hP hK hD ls hl
  have hx := C.1
  have hb := C.2.1
  have hml := C.2.2.2.2.1
  have hown := C.2.2.2.2.2.1
  have hts := C.2.2.2.2.2.2
  have hS : va_S A s.heap s.heap [] := va_S.rf
  have hl : lv_has ls 2 [(0, .ref h), (1, .int v)] := hl
  refine lv_aload_n hx hb dX8_init_0 rfl (lv_at hl 0 rfl) ?_
  refine W.objInit hx hb hown (hts _ q292) (hts _ q88) (hts _ q89) rfl (by rw [hml]; exact hl.1) rfl dX8_init_1 (Nat.le_of_ble_eq_true rfl) (Nat.le_of_ble_eq_true rfl) ?_
  refine W.eq (g2 := F0 m 4 ls []) rfl ?_
  refine lv_aload_n hx hb dX8_init_4 rfl (lv_at hl 0 rfl) ?_
  refine lv_iload_n hx hb dX8_init_5 rfl (lv_at hl 1 rfl) ?_
  refine va_putF (D := gD G) (ci := 12) (v := .int v) (ty := .int) (C := RX14) (T := TX14) (N := 1) hx hb hts in_X14 tyX14 tyX14_ok nmX14 hown hK hP hD hS 0 rfl rfl 0 (by decide) (hts _ q293) (fun _ h9 => h9) rfl hname rfl (by decide +kernel) rfl rfl (Nat.le_of_ble_eq_true rfl) dX8_init_6 (fun H locs hP hD hS => ?_)
  have hP : PP G [(h, .inr (12, [.int v]))] H := hP
  have hD : va_D A [(h, .inr (12, [.int v]))] := hD
  exact n_vretW (w1 := [(h, .inr (12, [.int v]))]) C (rfl) hP hD hS (by first | omega | decide) (by first | omega | decide) dX8_init_9

set_option maxHeartbeats 4000000 in
set_option maxRecDepth 100000 in
theorem metX8_init_X15 (l : Launch) (G : GG) (h : Nat) (v0 v : Int32) : MWv l yX8_init cX8_init 2 none ({ frames := 1, cells := 0, slots := 0, locals := 30 }) [.ref h, .int v] [(h, .inr (13, [.int v0]))] G (KM G) 0 0 (fun w1 => w1 = [(h, .inr (13, [.int v]))]) := by
  -- rows printed by wip/tools/gen.py
  refine mwv_mk RX8 (by decide) rfl (Nat.le_of_ble_eq_true rfl) ?_
  intro p0_ e0_ s m args below meth c A C hname hA hP hK hD ls hl
  have hx := C.1
  have hb := C.2.1
  have hml := C.2.2.2.2.1
  have hown := C.2.2.2.2.2.1
  have hts := C.2.2.2.2.2.2
  have hS : va_S A s.heap s.heap [] := va_S.rf
  have hl : lv_has ls 2 [(0, .ref h), (1, .int v)] := hl
  refine lv_aload_n hx hb dX8_init_0 rfl (lv_at hl 0 rfl) ?_
  refine W.objInit hx hb hown (hts _ q292) (hts _ q88) (hts _ q89) rfl (by rw [hml]; exact hl.1) rfl dX8_init_1 (Nat.le_of_ble_eq_true rfl) (Nat.le_of_ble_eq_true rfl) ?_
  refine W.eq (g2 := F0 m 4 ls []) rfl ?_
  refine lv_aload_n hx hb dX8_init_4 rfl (lv_at hl 0 rfl) ?_
  refine lv_iload_n hx hb dX8_init_5 rfl (lv_at hl 1 rfl) ?_
  refine va_putF (D := gD G) (ci := 13) (v := .int v) (ty := .int) (C := RX15) (T := TX15) (N := 1) hx hb hts in_X15 tyX15 tyX15_ok nmX15 hown hK hP hD hS 0 rfl rfl 0 (by decide) (hts _ q293) (fun _ h9 => h9) rfl hname rfl (by decide +kernel) rfl rfl (Nat.le_of_ble_eq_true rfl) dX8_init_6 (fun H locs hP hD hS => ?_)
  have hP : PP G [(h, .inr (13, [.int v]))] H := hP
  have hD : va_D A [(h, .inr (13, [.int v]))] := hD
  exact n_vretW (w1 := [(h, .inr (13, [.int v]))]) C (rfl) hP hD hS (by first | omega | decide) (by first | omega | decide) dX8_init_9

set_option maxHeartbeats 4000000 in
set_option maxRecDepth 100000 in
theorem metX9_init_X9 (l : Launch) (G : GG) (h : Nat) (v0 v : Int32) : MWv l yX9_init cX9_init 2 none ({ frames := 2, cells := 0, slots := 0, locals := 51 }) [.ref h, .int v] [(h, .inr (7, [.int v0]))] G (KM G) 0 0 (fun w1 => w1 = [(h, .inr (7, [.int v]))]) := by
  -- rows printed by wip/tools/gen.py
  refine mwv_mk RX9 (by decide) rfl (Nat.le_of_ble_eq_true rfl) ?_
  intro p0_ e0_ s m args below meth c A C hname hA hP hK hD ls hl
  have hx := C.1
  have hb := C.2.1
  have hml := C.2.2.2.2.1
  have hown := C.2.2.2.2.2.1
  have hts := C.2.2.2.2.2.2
  have hS : va_S A s.heap s.heap [] := va_S.rf
  have hl : lv_has ls 2 [(0, .ref h), (1, .int v)] := hl
  refine lv_aload_n hx hb dX9_init_0 rfl (lv_at hl 0 rfl) ?_
  refine lv_iload_n hx hb dX9_init_1 rfl (lv_at hl 1 rfl) ?_
  refine c_IWvk (wr := []) (rest := []) C (metX8_init_X9 l G h v0 v) 1 q309 q291 q52 q290 rfl (by decide +kernel) ⟨rfl, rfl⟩ ⟨(Nat.le_of_ble_eq_true rfl), (Nat.le_of_ble_eq_true rfl)⟩ ((fun _ _ _ _ h => (KM_mv G).2 _ _ _ _ h)) (fun _ _ hW => (KM_mv G).1 _ _ hW hK) hA hP hD hS [0] [] rfl rfl rfl rfl (by decide) hl rfl rfl (Nat.le_of_ble_eq_true rfl) ⟨(Nat.le_of_ble_eq_true rfl), (Nat.le_of_ble_eq_true rfl)⟩ dX9_init_2 (fun w1 H locs hq_2 hP hD hS => ?_)
  obtain rfl := hq_2
  have hP : PP G [(h, .inr (7, [.int v]))] H := hP
  have hD : va_D A [(h, .inr (7, [.int v]))] := hD
  exact n_vretW (w1 := [(h, .inr (7, [.int v]))]) C (rfl) hP hD hS (by first | omega | decide) (by first | omega | decide) dX9_init_5

set_option maxHeartbeats 4000000 in
set_option maxRecDepth 100000 in
theorem metX10_init_X10 (l : Launch) (G : GG) (h : Nat) (v0 v : Int32) : MWv l yX10_init cX10_init 2 none ({ frames := 2, cells := 0, slots := 0, locals := 51 }) [.ref h, .int v] [(h, .inr (8, [.int v0]))] G (KM G) 0 0 (fun w1 => w1 = [(h, .inr (8, [.int v]))]) := by
  -- rows printed by wip/tools/gen.py
  refine mwv_mk RX10 (by decide) rfl (Nat.le_of_ble_eq_true rfl) ?_
  intro p0_ e0_ s m args below meth c A C hname hA hP hK hD ls hl
  have hx := C.1
  have hb := C.2.1
  have hml := C.2.2.2.2.1
  have hown := C.2.2.2.2.2.1
  have hts := C.2.2.2.2.2.2
  have hS : va_S A s.heap s.heap [] := va_S.rf
  have hl : lv_has ls 2 [(0, .ref h), (1, .int v)] := hl
  refine lv_aload_n hx hb dX10_init_0 rfl (lv_at hl 0 rfl) ?_
  refine lv_iload_n hx hb dX10_init_1 rfl (lv_at hl 1 rfl) ?_
  refine c_IWvk (wr := []) (rest := []) C (metX8_init_X10 l G h v0 v) 1 q317 q291 q52 q290 rfl (by decide +kernel) ⟨rfl, rfl⟩ ⟨(Nat.le_of_ble_eq_true rfl), (Nat.le_of_ble_eq_true rfl)⟩ ((fun _ _ _ _ h => (KM_mv G).2 _ _ _ _ h)) (fun _ _ hW => (KM_mv G).1 _ _ hW hK) hA hP hD hS [0] [] rfl rfl rfl rfl (by decide) hl rfl rfl (Nat.le_of_ble_eq_true rfl) ⟨(Nat.le_of_ble_eq_true rfl), (Nat.le_of_ble_eq_true rfl)⟩ dX10_init_2 (fun w1 H locs hq_2 hP hD hS => ?_)
  obtain rfl := hq_2
  have hP : PP G [(h, .inr (8, [.int v]))] H := hP
  have hD : va_D A [(h, .inr (8, [.int v]))] := hD
  exact n_vretW (w1 := [(h, .inr (8, [.int v]))]) C (rfl) hP hD hS (by first | omega | decide) (by first | omega | decide) dX10_init_5

set_option maxHeartbeats 4000000 in
set_option maxRecDepth 100000 in
theorem metX11_init_X11 (l : Launch) (G : GG) (h : Nat) (v0 v : Int32) : MWv l yX11_init cX11_init 2 none ({ frames := 2, cells := 0, slots := 0, locals := 51 }) [.ref h, .int v] [(h, .inr (9, [.int v0]))] G (KM G) 0 0 (fun w1 => w1 = [(h, .inr (9, [.int v]))]) := by
  -- rows printed by wip/tools/gen.py
  refine mwv_mk RX11 (by decide) rfl (Nat.le_of_ble_eq_true rfl) ?_
  intro p0_ e0_ s m args below meth c A C hname hA hP hK hD ls hl
  have hx := C.1
  have hb := C.2.1
  have hml := C.2.2.2.2.1
  have hown := C.2.2.2.2.2.1
  have hts := C.2.2.2.2.2.2
  have hS : va_S A s.heap s.heap [] := va_S.rf
  have hl : lv_has ls 2 [(0, .ref h), (1, .int v)] := hl
  refine lv_aload_n hx hb dX11_init_0 rfl (lv_at hl 0 rfl) ?_
  refine lv_iload_n hx hb dX11_init_1 rfl (lv_at hl 1 rfl) ?_
  refine c_IWvk (wr := []) (rest := []) C (metX8_init_X11 l G h v0 v) 1 q325 q291 q52 q290 rfl (by decide +kernel) ⟨rfl, rfl⟩ ⟨(Nat.le_of_ble_eq_true rfl), (Nat.le_of_ble_eq_true rfl)⟩ ((fun _ _ _ _ h => (KM_mv G).2 _ _ _ _ h)) (fun _ _ hW => (KM_mv G).1 _ _ hW hK) hA hP hD hS [0] [] rfl rfl rfl rfl (by decide) hl rfl rfl (Nat.le_of_ble_eq_true rfl) ⟨(Nat.le_of_ble_eq_true rfl), (Nat.le_of_ble_eq_true rfl)⟩ dX11_init_2 (fun w1 H locs hq_2 hP hD hS => ?_)
  obtain rfl := hq_2
  have hP : PP G [(h, .inr (9, [.int v]))] H := hP
  have hD : va_D A [(h, .inr (9, [.int v]))] := hD
  exact n_vretW (w1 := [(h, .inr (9, [.int v]))]) C (rfl) hP hD hS (by first | omega | decide) (by first | omega | decide) dX11_init_5

set_option maxHeartbeats 4000000 in
set_option maxRecDepth 100000 in
theorem metX12_init_X12 (l : Launch) (G : GG) (h : Nat) (v0 v : Int32) : MWv l yX12_init cX12_init 2 none ({ frames := 2, cells := 0, slots := 0, locals := 51 }) [.ref h, .int v] [(h, .inr (10, [.int v0]))] G (KM G) 0 0 (fun w1 => w1 = [(h, .inr (10, [.int v]))]) := by
  -- rows printed by wip/tools/gen.py
  refine mwv_mk RX12 (by decide) rfl (Nat.le_of_ble_eq_true rfl) ?_
  intro p0_ e0_ s m args below meth c A C hname hA hP hK hD ls hl
  have hx := C.1
  have hb := C.2.1
  have hml := C.2.2.2.2.1
  have hown := C.2.2.2.2.2.1
  have hts := C.2.2.2.2.2.2
  have hS : va_S A s.heap s.heap [] := va_S.rf
  have hl : lv_has ls 2 [(0, .ref h), (1, .int v)] := hl
  refine lv_aload_n hx hb dX12_init_0 rfl (lv_at hl 0 rfl) ?_
  refine lv_iload_n hx hb dX12_init_1 rfl (lv_at hl 1 rfl) ?_
  refine c_IWvk (wr := []) (rest := []) C (metX8_init_X12 l G h v0 v) 1 q333 q291 q52 q290 rfl (by decide +kernel) ⟨rfl, rfl⟩ ⟨(Nat.le_of_ble_eq_true rfl), (Nat.le_of_ble_eq_true rfl)⟩ ((fun _ _ _ _ h => (KM_mv G).2 _ _ _ _ h)) (fun _ _ hW => (KM_mv G).1 _ _ hW hK) hA hP hD hS [0] [] rfl rfl rfl rfl (by decide) hl rfl rfl (Nat.le_of_ble_eq_true rfl) ⟨(Nat.le_of_ble_eq_true rfl), (Nat.le_of_ble_eq_true rfl)⟩ dX12_init_2 (fun w1 H locs hq_2 hP hD hS => ?_)
  obtain rfl := hq_2
  have hP : PP G [(h, .inr (10, [.int v]))] H := hP
  have hD : va_D A [(h, .inr (10, [.int v]))] := hD
  exact n_vretW (w1 := [(h, .inr (10, [.int v]))]) C (rfl) hP hD hS (by first | omega | decide) (by first | omega | decide) dX12_init_5

set_option maxHeartbeats 4000000 in
set_option maxRecDepth 100000 in
theorem metX15_init_X15 (l : Launch) (G : GG) (h : Nat) (v0 v : Int32) : MWv l yX15_init cX15_init 2 none ({ frames := 2, cells := 0, slots := 0, locals := 51 }) [.ref h, .int v] [(h, .inr (13, [.int v0]))] G (KM G) 0 0 (fun w1 => w1 = [(h, .inr (13, [.int v]))]) := by
  -- rows printed by wip/tools/gen.py
  refine mwv_mk RX15 (by decide) rfl (Nat.le_of_ble_eq_true rfl) ?_
  intro p0_ e0_ s m args below meth c A C hname hA hP hK hD ls hl
  have hx := C.1
  have hb := C.2.1
  have hml := C.2.2.2.2.1
  have hown := C.2.2.2.2.2.1
  have hts := C.2.2.2.2.2.2
  have hS : va_S A s.heap s.heap [] := va_S.rf
  have hl : lv_has ls 2 [(0, .ref h), (1, .int v)] := hl
  refine lv_aload_n hx hb dX15_init_0 rfl (lv_at hl 0 rfl) ?_
  refine lv_iload_n hx hb dX15_init_1 rfl (lv_at hl 1 rfl) ?_
  refine c_IWvk (wr := []) (rest := []) C (metX8_init_X15 l G h v0 v) 1 q357 q291 q52 q290 rfl (by decide +kernel) ⟨rfl, rfl⟩ ⟨(Nat.le_of_ble_eq_true rfl), (Nat.le_of_ble_eq_true rfl)⟩ ((fun _ _ _ _ h => (KM_mv G).2 _ _ _ _ h)) (fun _ _ hW => (KM_mv G).1 _ _ hW hK) hA hP hD hS [0] [] rfl rfl rfl rfl (by decide) hl rfl rfl (Nat.le_of_ble_eq_true rfl) ⟨(Nat.le_of_ble_eq_true rfl), (Nat.le_of_ble_eq_true rfl)⟩ dX15_init_2 (fun w1 H locs hq_2 hP hD hS => ?_)
  obtain rfl := hq_2
  have hP : PP G [(h, .inr (13, [.int v]))] H := hP
  have hD : va_D A [(h, .inr (13, [.int v]))] := hD
  exact n_vretW (w1 := [(h, .inr (13, [.int v]))]) C (rfl) hP hD hS (by first | omega | decide) (by first | omega | decide) dX15_init_5

set_option maxHeartbeats 4000000 in
set_option maxRecDepth 100000 in
theorem metX9_init_X14 (l : Launch) (G : GG) (h : Nat) (v0 v : Int32) : MWv l yX9_init cX9_init 2 none ({ frames := 2, cells := 0, slots := 0, locals := 51 }) [.ref h, .int v] [(h, .inr (12, [.int v0]))] G (KM G) 0 0 (fun w1 => w1 = [(h, .inr (12, [.int v]))]) := by
  -- rows printed by wip/tools/gen.py
  refine mwv_mk RX9 (by decide) rfl (Nat.le_of_ble_eq_true rfl) ?_
  intro p0_ e0_ s m args below meth c A C hname hA hP hK hD ls hl
  have hx := C.1
  have hb := C.2.1
  have hml := C.2.2.2.2.1
  have hown := C.2.2.2.2.2.1
  have hts := C.2.2.2.2.2.2
  have hS : va_S A s.heap s.heap [] := va_S.rf
  have hl : lv_has ls 2 [(0, .ref h), (1, .int v)] := hl
  refine lv_aload_n hx hb dX9_init_0 rfl (lv_at hl 0 rfl) ?_
  refine lv_iload_n hx hb dX9_init_1 rfl (lv_at hl 1 rfl) ?_
  refine c_IWvk (wr := []) (rest := []) C (metX8_init_X14 l G h v0 v) 1 q309 q291 q52 q290 rfl (by decide +kernel) ⟨rfl, rfl⟩ ⟨(Nat.le_of_ble_eq_true rfl), (Nat.le_of_ble_eq_true rfl)⟩ ((fun _ _ _ _ h => (KM_mv G).2 _ _ _ _ h)) (fun _ _ hW => (KM_mv G).1 _ _ hW hK) hA hP hD hS [0] [] rfl rfl rfl rfl (by decide) hl rfl rfl (Nat.le_of_ble_eq_true rfl) ⟨(Nat.le_of_ble_eq_true rfl), (Nat.le_of_ble_eq_true rfl)⟩ dX9_init_2 (fun w1 H locs hq_2 hP hD hS => ?_)
  obtain rfl := hq_2
  have hP : PP G [(h, .inr (12, [.int v]))] H := hP
  have hD : va_D A [(h, .inr (12, [.int v]))] := hD
  exact n_vretW (w1 := [(h, .inr (12, [.int v]))]) C (rfl) hP hD hS (by first | omega | decide) (by first | omega | decide) dX9_init_5

set_option maxHeartbeats 4000000 in
set_option maxRecDepth 100000 in
theorem metX11_init_X13 (l : Launch) (G : GG) (h : Nat) (v0 v : Int32) : MWv l yX11_init cX11_init 2 none ({ frames := 2, cells := 0, slots := 0, locals := 51 }) [.ref h, .int v] [(h, .inr (11, [.int v0]))] G (KM G) 0 0 (fun w1 => w1 = [(h, .inr (11, [.int v]))]) := by
  -- rows printed by wip/tools/gen.py
  refine mwv_mk RX11 (by decide) rfl (Nat.le_of_ble_eq_true rfl) ?_
  intro p0_ e0_ s m args below meth c A C hname hA hP hK hD ls hl
  have hx := C.1
  have hb := C.2.1
  have hml := C.2.2.2.2.1
  have hown := C.2.2.2.2.2.1
  have hts := C.2.2.2.2.2.2
  have hS : va_S A s.heap s.heap [] := va_S.rf
  have hl : lv_has ls 2 [(0, .ref h), (1, .int v)] := hl
  refine lv_aload_n hx hb dX11_init_0 rfl (lv_at hl 0 rfl) ?_
  refine lv_iload_n hx hb dX11_init_1 rfl (lv_at hl 1 rfl) ?_
  refine c_IWvk (wr := []) (rest := []) C (metX8_init_X13 l G h v0 v) 1 q325 q291 q52 q290 rfl (by decide +kernel) ⟨rfl, rfl⟩ ⟨(Nat.le_of_ble_eq_true rfl), (Nat.le_of_ble_eq_true rfl)⟩ ((fun _ _ _ _ h => (KM_mv G).2 _ _ _ _ h)) (fun _ _ hW => (KM_mv G).1 _ _ hW hK) hA hP hD hS [0] [] rfl rfl rfl rfl (by decide) hl rfl rfl (Nat.le_of_ble_eq_true rfl) ⟨(Nat.le_of_ble_eq_true rfl), (Nat.le_of_ble_eq_true rfl)⟩ dX11_init_2 (fun w1 H locs hq_2 hP hD hS => ?_)
  obtain rfl := hq_2
  have hP : PP G [(h, .inr (11, [.int v]))] H := hP
  have hD : va_D A [(h, .inr (11, [.int v]))] := hD
  exact n_vretW (w1 := [(h, .inr (11, [.int v]))]) C (rfl) hP hD hS (by first | omega | decide) (by first | omega | decide) dX11_init_5

set_option maxHeartbeats 4000000 in
set_option maxRecDepth 100000 in
theorem metX13_init_X13 (l : Launch) (G : GG) (h : Nat) (v0 v : Int32) : MWv l yX13_init cX13_init 2 none ({ frames := 3, cells := 0, slots := 0, locals := 72 }) [.ref h, .int v] [(h, .inr (11, [.int v0]))] G (KM G) 0 0 (fun w1 => w1 = [(h, .inr (11, [.int v]))]) := by
  -- rows printed by wip/tools/gen.py
  refine mwv_mk RX13 (by decide) rfl (Nat.le_of_ble_eq_true rfl) ?_
  intro p0_ e0_ s m args below meth c A C hname hA hP hK hD ls hl
  have hx := C.1
  have hb := C.2.1
  have hml := C.2.2.2.2.1
  have hown := C.2.2.2.2.2.1
  have hts := C.2.2.2.2.2.2
  have hS : va_S A s.heap s.heap [] := va_S.rf
  have hl : lv_has ls 2 [(0, .ref h), (1, .int v)] := hl
  refine lv_aload_n hx hb dX13_init_0 rfl (lv_at hl 0 rfl) ?_
  refine lv_iload_n hx hb dX13_init_1 rfl (lv_at hl 1 rfl) ?_
  refine c_IWvk (wr := []) (rest := []) C (metX11_init_X13 l G h v0 v) 1 q341 q324 q55 q323 rfl (by decide +kernel) ⟨rfl, rfl⟩ ⟨(Nat.le_of_ble_eq_true rfl), (Nat.le_of_ble_eq_true rfl)⟩ ((fun _ _ _ _ h => (KM_mv G).2 _ _ _ _ h)) (fun _ _ hW => (KM_mv G).1 _ _ hW hK) hA hP hD hS [0] [] rfl rfl rfl rfl (by decide) hl rfl rfl (Nat.le_of_ble_eq_true rfl) ⟨(Nat.le_of_ble_eq_true rfl), (Nat.le_of_ble_eq_true rfl)⟩ dX13_init_2 (fun w1 H locs hq_2 hP hD hS => ?_)
  obtain rfl := hq_2
  have hP : PP G [(h, .inr (11, [.int v]))] H := hP
  have hD : va_D A [(h, .inr (11, [.int v]))] := hD
  exact n_vretW (w1 := [(h, .inr (11, [.int v]))]) C (rfl) hP hD hS (by first | omega | decide) (by first | omega | decide) dX13_init_5

set_option maxHeartbeats 4000000 in
set_option maxRecDepth 100000 in
theorem metX14_init_X14 (l : Launch) (G : GG) (h : Nat) (v0 v : Int32) : MWv l yX14_init cX14_init 2 none ({ frames := 3, cells := 0, slots := 0, locals := 72 }) [.ref h, .int v] [(h, .inr (12, [.int v0]))] G (KM G) 0 0 (fun w1 => w1 = [(h, .inr (12, [.int v]))]) := by
  -- rows printed by wip/tools/gen.py
  refine mwv_mk RX14 (by decide) rfl (Nat.le_of_ble_eq_true rfl) ?_
  intro p0_ e0_ s m args below meth c A C hname hA hP hK hD ls hl
  have hx := C.1
  have hb := C.2.1
  have hml := C.2.2.2.2.1
  have hown := C.2.2.2.2.2.1
  have hts := C.2.2.2.2.2.2
  have hS : va_S A s.heap s.heap [] := va_S.rf
  have hl : lv_has ls 2 [(0, .ref h), (1, .int v)] := hl
  refine lv_aload_n hx hb dX14_init_0 rfl (lv_at hl 0 rfl) ?_
  refine lv_iload_n hx hb dX14_init_1 rfl (lv_at hl 1 rfl) ?_
  refine c_IWvk (wr := []) (rest := []) C (metX9_init_X14 l G h v0 v) 1 q349 q308 q53 q307 rfl (by decide +kernel) ⟨rfl, rfl⟩ ⟨(Nat.le_of_ble_eq_true rfl), (Nat.le_of_ble_eq_true rfl)⟩ ((fun _ _ _ _ h => (KM_mv G).2 _ _ _ _ h)) (fun _ _ hW => (KM_mv G).1 _ _ hW hK) hA hP hD hS [0] [] rfl rfl rfl rfl (by decide) hl rfl rfl (Nat.le_of_ble_eq_true rfl) ⟨(Nat.le_of_ble_eq_true rfl), (Nat.le_of_ble_eq_true rfl)⟩ dX14_init_2 (fun w1 H locs hq_2 hP hD hS => ?_)
  obtain rfl := hq_2
  have hP : PP G [(h, .inr (12, [.int v]))] H := hP
  have hD : va_D A [(h, .inr (12, [.int v]))] := hD
  exact n_vretW (w1 := [(h, .inr (12, [.int v]))]) C (rfl) hP hD hS (by first | omega | decide) (by first | omega | decide) dX14_init_5

set_option maxHeartbeats 4000000 in
set_option maxRecDepth 100000 in
theorem metX1_guestOf (l : Launch) (G : GG) (k : Nat) (v : Int32) (hk : k < 8) : MWq l yX1_guestOf cX1_guestOf 2 (some (.object "CakesToTheWatched$Guest")) ({ frames := 4, cells := 1, slots := 1, locals := 93 }) [.int (nI k), .int v] [] G (KM G) 1 1 (fun rv w1 => ∃ q : Nat, rv = some q ∧ w1 = [(q, .inr (6 + k, [.int v]))]) := by
  -- rows printed by wip/tools/gen.py
  refine mwq_mk RX1 (by decide) rfl (Nat.le_of_ble_eq_true rfl) ?_
  intro p0_ e0_ s m args below meth c A C hA hP hK hD ls hl
  have hx := C.1
  have hb := C.2.1
  have hml := C.2.2.2.2.1
  have hown := C.2.2.2.2.2.1
  have hts := C.2.2.2.2.2.2
  have hS : va_S A s.heap s.heap [] := va_S.rf
  have hl : lv_has ls 2 [(0, .int (nI k)), (1, .int v)] := hl
  refine lv_iload_n hx hb dX1_guestOf_0 rfl (lv_at hl 0 rfl) ?_
  have k8 : k = 0 ∨ k = 1 ∨ k = 2 ∨ k = 3 ∨ k = 4 ∨ k = 5 ∨ k = 6 ∨ k = 7 := by omega
  rcases k8 with rfl | rfl | rfl | rfl | rfl | rfl | rfl | rfl
  · refine n_eqi (y := 0) rfl ?_
    refine lv_tableIn (tgt := 44) (x := 0) hx hb dX1_guestOf_1 (by decide) (by decide) rfl (by decide) ?_
    refine va_new (D := gD G) (ci := 6) (fs := [.int 0]) (C := RX8) (T := TX8) (N := 1) hx hb hts in_X8 tyX8 tyX8_ok hown (hts _ q287) (hts _ q288) (hts _ q52) hK hP hD hS hA rfl (fun j hj => (by rcases (show j = 0 by omega) with rfl <;> rfl)) (Nat.le_of_ble_eq_true rfl) (Nat.le_of_ble_eq_true rfl) dX1_guestOf_44 (fun qn_1 H hP hD hS => ?_)
    have hP : PP G [(qn_1, .inr (6, [.int 0]))] H := hP
    have hD : va_D A [(qn_1, .inr (6, [.int 0]))] := hD
    refine lv_dup hx hb dX1_guestOf_47 rfl ?_
    refine lv_iload_n hx hb dX1_guestOf_48 rfl (lv_at hl 1 rfl) ?_
    refine c_IWvk (wr := []) (rest := [.ref qn_1]) C (metX8_init_X8 l G qn_1 0 v) 1 q289 q291 q52 q290 rfl (by decide +kernel) ⟨rfl, rfl⟩ ⟨(Nat.le_of_ble_eq_true rfl), (Nat.le_of_ble_eq_true rfl)⟩ ((fun _ _ _ _ h => (KM_mv G).2 _ _ _ _ h)) (fun _ _ hW => (KM_mv G).1 _ _ hW hK) hA hP hD hS [0] [] rfl rfl rfl rfl (by decide) hl rfl rfl (Nat.le_of_ble_eq_true rfl) ⟨(Nat.le_of_ble_eq_true rfl), (Nat.le_of_ble_eq_true rfl)⟩ dX1_guestOf_49 (fun w1 H locs hq_3 hP hD hS => ?_)
    obtain rfl := hq_3
    have hP : PP G [(qn_1, .inr (6, [.int v]))] H := hP
    have hD : va_D A [(qn_1, .inr (6, [.int v]))] := hD
    exact n_aretW (r := some qn_1) (w1 := [(qn_1, .inr (6, [.int v]))]) C (⟨_, rfl, rfl⟩) hP hD hS (by first | omega | decide) (by first | omega | decide) dX1_guestOf_52
  · refine n_eqi (y := 1) rfl ?_
    refine lv_tableIn (tgt := 53) (x := 1) hx hb dX1_guestOf_1 (by decide) (by decide) rfl (by decide) ?_
    refine va_new (D := gD G) (ci := 7) (fs := [.int 0]) (C := RX9) (T := TX9) (N := 1) hx hb hts in_X9 tyX9 tyX9_ok hown (hts _ q304) (hts _ q305) (hts _ q53) hK hP hD hS hA rfl (fun j hj => (by rcases (show j = 0 by omega) with rfl <;> rfl)) (Nat.le_of_ble_eq_true rfl) (Nat.le_of_ble_eq_true rfl) dX1_guestOf_53 (fun qn_4 H hP hD hS => ?_)
    have hP : PP G [(qn_4, .inr (7, [.int 0]))] H := hP
    have hD : va_D A [(qn_4, .inr (7, [.int 0]))] := hD
    refine lv_dup hx hb dX1_guestOf_56 rfl ?_
    refine lv_iload_n hx hb dX1_guestOf_57 rfl (lv_at hl 1 rfl) ?_
    refine c_IWvk (wr := []) (rest := [.ref qn_4]) C (metX9_init_X9 l G qn_4 0 v) 1 q306 q308 q53 q307 rfl (by decide +kernel) ⟨rfl, rfl⟩ ⟨(Nat.le_of_ble_eq_true rfl), (Nat.le_of_ble_eq_true rfl)⟩ ((fun _ _ _ _ h => (KM_mv G).2 _ _ _ _ h)) (fun _ _ hW => (KM_mv G).1 _ _ hW hK) hA hP hD hS [0] [] rfl rfl rfl rfl (by decide) hl rfl rfl (Nat.le_of_ble_eq_true rfl) ⟨(Nat.le_of_ble_eq_true rfl), (Nat.le_of_ble_eq_true rfl)⟩ dX1_guestOf_58 (fun w1 H locs hq_6 hP hD hS => ?_)
    obtain rfl := hq_6
    have hP : PP G [(qn_4, .inr (7, [.int v]))] H := hP
    have hD : va_D A [(qn_4, .inr (7, [.int v]))] := hD
    exact n_aretW (r := some qn_4) (w1 := [(qn_4, .inr (7, [.int v]))]) C (⟨_, rfl, rfl⟩) hP hD hS (by first | omega | decide) (by first | omega | decide) dX1_guestOf_61
  · refine n_eqi (y := 2) rfl ?_
    refine lv_tableIn (tgt := 62) (x := 2) hx hb dX1_guestOf_1 (by decide) (by decide) rfl (by decide) ?_
    refine va_new (D := gD G) (ci := 8) (fs := [.int 0]) (C := RX10) (T := TX10) (N := 1) hx hb hts in_X10 tyX10 tyX10_ok hown (hts _ q312) (hts _ q313) (hts _ q54) hK hP hD hS hA rfl (fun j hj => (by rcases (show j = 0 by omega) with rfl <;> rfl)) (Nat.le_of_ble_eq_true rfl) (Nat.le_of_ble_eq_true rfl) dX1_guestOf_62 (fun qn_7 H hP hD hS => ?_)
    have hP : PP G [(qn_7, .inr (8, [.int 0]))] H := hP
    have hD : va_D A [(qn_7, .inr (8, [.int 0]))] := hD
    refine lv_dup hx hb dX1_guestOf_65 rfl ?_
    refine lv_iload_n hx hb dX1_guestOf_66 rfl (lv_at hl 1 rfl) ?_
    refine c_IWvk (wr := []) (rest := [.ref qn_7]) C (metX10_init_X10 l G qn_7 0 v) 1 q314 q316 q54 q315 rfl (by decide +kernel) ⟨rfl, rfl⟩ ⟨(Nat.le_of_ble_eq_true rfl), (Nat.le_of_ble_eq_true rfl)⟩ ((fun _ _ _ _ h => (KM_mv G).2 _ _ _ _ h)) (fun _ _ hW => (KM_mv G).1 _ _ hW hK) hA hP hD hS [0] [] rfl rfl rfl rfl (by decide) hl rfl rfl (Nat.le_of_ble_eq_true rfl) ⟨(Nat.le_of_ble_eq_true rfl), (Nat.le_of_ble_eq_true rfl)⟩ dX1_guestOf_67 (fun w1 H locs hq_9 hP hD hS => ?_)
    obtain rfl := hq_9
    have hP : PP G [(qn_7, .inr (8, [.int v]))] H := hP
    have hD : va_D A [(qn_7, .inr (8, [.int v]))] := hD
    exact n_aretW (r := some qn_7) (w1 := [(qn_7, .inr (8, [.int v]))]) C (⟨_, rfl, rfl⟩) hP hD hS (by first | omega | decide) (by first | omega | decide) dX1_guestOf_70
  · refine n_eqi (y := 3) rfl ?_
    refine lv_tableIn (tgt := 71) (x := 3) hx hb dX1_guestOf_1 (by decide) (by decide) rfl (by decide) ?_
    refine va_new (D := gD G) (ci := 9) (fs := [.int 0]) (C := RX11) (T := TX11) (N := 1) hx hb hts in_X11 tyX11 tyX11_ok hown (hts _ q320) (hts _ q321) (hts _ q55) hK hP hD hS hA rfl (fun j hj => (by rcases (show j = 0 by omega) with rfl <;> rfl)) (Nat.le_of_ble_eq_true rfl) (Nat.le_of_ble_eq_true rfl) dX1_guestOf_71 (fun qn_10 H hP hD hS => ?_)
    have hP : PP G [(qn_10, .inr (9, [.int 0]))] H := hP
    have hD : va_D A [(qn_10, .inr (9, [.int 0]))] := hD
    refine lv_dup hx hb dX1_guestOf_74 rfl ?_
    refine lv_iload_n hx hb dX1_guestOf_75 rfl (lv_at hl 1 rfl) ?_
    refine c_IWvk (wr := []) (rest := [.ref qn_10]) C (metX11_init_X11 l G qn_10 0 v) 1 q322 q324 q55 q323 rfl (by decide +kernel) ⟨rfl, rfl⟩ ⟨(Nat.le_of_ble_eq_true rfl), (Nat.le_of_ble_eq_true rfl)⟩ ((fun _ _ _ _ h => (KM_mv G).2 _ _ _ _ h)) (fun _ _ hW => (KM_mv G).1 _ _ hW hK) hA hP hD hS [0] [] rfl rfl rfl rfl (by decide) hl rfl rfl (Nat.le_of_ble_eq_true rfl) ⟨(Nat.le_of_ble_eq_true rfl), (Nat.le_of_ble_eq_true rfl)⟩ dX1_guestOf_76 (fun w1 H locs hq_12 hP hD hS => ?_)
    obtain rfl := hq_12
    have hP : PP G [(qn_10, .inr (9, [.int v]))] H := hP
    have hD : va_D A [(qn_10, .inr (9, [.int v]))] := hD
    exact n_aretW (r := some qn_10) (w1 := [(qn_10, .inr (9, [.int v]))]) C (⟨_, rfl, rfl⟩) hP hD hS (by first | omega | decide) (by first | omega | decide) dX1_guestOf_79
  · refine n_eqi (y := 4) rfl ?_
    refine lv_tableIn (tgt := 80) (x := 4) hx hb dX1_guestOf_1 (by decide) (by decide) rfl (by decide) ?_
    refine va_new (D := gD G) (ci := 10) (fs := [.int 0]) (C := RX12) (T := TX12) (N := 1) hx hb hts in_X12 tyX12 tyX12_ok hown (hts _ q328) (hts _ q329) (hts _ q56) hK hP hD hS hA rfl (fun j hj => (by rcases (show j = 0 by omega) with rfl <;> rfl)) (Nat.le_of_ble_eq_true rfl) (Nat.le_of_ble_eq_true rfl) dX1_guestOf_80 (fun qn_13 H hP hD hS => ?_)
    have hP : PP G [(qn_13, .inr (10, [.int 0]))] H := hP
    have hD : va_D A [(qn_13, .inr (10, [.int 0]))] := hD
    refine lv_dup hx hb dX1_guestOf_83 rfl ?_
    refine lv_iload_n hx hb dX1_guestOf_84 rfl (lv_at hl 1 rfl) ?_
    refine c_IWvk (wr := []) (rest := [.ref qn_13]) C (metX12_init_X12 l G qn_13 0 v) 1 q330 q332 q56 q331 rfl (by decide +kernel) ⟨rfl, rfl⟩ ⟨(Nat.le_of_ble_eq_true rfl), (Nat.le_of_ble_eq_true rfl)⟩ ((fun _ _ _ _ h => (KM_mv G).2 _ _ _ _ h)) (fun _ _ hW => (KM_mv G).1 _ _ hW hK) hA hP hD hS [0] [] rfl rfl rfl rfl (by decide) hl rfl rfl (Nat.le_of_ble_eq_true rfl) ⟨(Nat.le_of_ble_eq_true rfl), (Nat.le_of_ble_eq_true rfl)⟩ dX1_guestOf_85 (fun w1 H locs hq_15 hP hD hS => ?_)
    obtain rfl := hq_15
    have hP : PP G [(qn_13, .inr (10, [.int v]))] H := hP
    have hD : va_D A [(qn_13, .inr (10, [.int v]))] := hD
    exact n_aretW (r := some qn_13) (w1 := [(qn_13, .inr (10, [.int v]))]) C (⟨_, rfl, rfl⟩) hP hD hS (by first | omega | decide) (by first | omega | decide) dX1_guestOf_88
  · refine n_eqi (y := 5) rfl ?_
    refine lv_tableIn (tgt := 89) (x := 5) hx hb dX1_guestOf_1 (by decide) (by decide) rfl (by decide) ?_
    refine va_new (D := gD G) (ci := 11) (fs := [.int 0]) (C := RX13) (T := TX13) (N := 1) hx hb hts in_X13 tyX13 tyX13_ok hown (hts _ q336) (hts _ q337) (hts _ q57) hK hP hD hS hA rfl (fun j hj => (by rcases (show j = 0 by omega) with rfl <;> rfl)) (Nat.le_of_ble_eq_true rfl) (Nat.le_of_ble_eq_true rfl) dX1_guestOf_89 (fun qn_16 H hP hD hS => ?_)
    have hP : PP G [(qn_16, .inr (11, [.int 0]))] H := hP
    have hD : va_D A [(qn_16, .inr (11, [.int 0]))] := hD
    refine lv_dup hx hb dX1_guestOf_92 rfl ?_
    refine lv_iload_n hx hb dX1_guestOf_93 rfl (lv_at hl 1 rfl) ?_
    refine c_IWvk (wr := []) (rest := [.ref qn_16]) C (metX13_init_X13 l G qn_16 0 v) 1 q338 q340 q57 q339 rfl (by decide +kernel) ⟨rfl, rfl⟩ ⟨(Nat.le_of_ble_eq_true rfl), (Nat.le_of_ble_eq_true rfl)⟩ ((fun _ _ _ _ h => (KM_mv G).2 _ _ _ _ h)) (fun _ _ hW => (KM_mv G).1 _ _ hW hK) hA hP hD hS [0] [] rfl rfl rfl rfl (by decide) hl rfl rfl (Nat.le_of_ble_eq_true rfl) ⟨(Nat.le_of_ble_eq_true rfl), (Nat.le_of_ble_eq_true rfl)⟩ dX1_guestOf_94 (fun w1 H locs hq_18 hP hD hS => ?_)
    obtain rfl := hq_18
    have hP : PP G [(qn_16, .inr (11, [.int v]))] H := hP
    have hD : va_D A [(qn_16, .inr (11, [.int v]))] := hD
    exact n_aretW (r := some qn_16) (w1 := [(qn_16, .inr (11, [.int v]))]) C (⟨_, rfl, rfl⟩) hP hD hS (by first | omega | decide) (by first | omega | decide) dX1_guestOf_97
  · refine n_eqi (y := 6) rfl ?_
    refine lv_tableIn (tgt := 98) (x := 6) hx hb dX1_guestOf_1 (by decide) (by decide) rfl (by decide) ?_
    refine va_new (D := gD G) (ci := 12) (fs := [.int 0]) (C := RX14) (T := TX14) (N := 1) hx hb hts in_X14 tyX14 tyX14_ok hown (hts _ q344) (hts _ q345) (hts _ q58) hK hP hD hS hA rfl (fun j hj => (by rcases (show j = 0 by omega) with rfl <;> rfl)) (Nat.le_of_ble_eq_true rfl) (Nat.le_of_ble_eq_true rfl) dX1_guestOf_98 (fun qn_19 H hP hD hS => ?_)
    have hP : PP G [(qn_19, .inr (12, [.int 0]))] H := hP
    have hD : va_D A [(qn_19, .inr (12, [.int 0]))] := hD
    refine lv_dup hx hb dX1_guestOf_101 rfl ?_
    refine lv_iload_n hx hb dX1_guestOf_102 rfl (lv_at hl 1 rfl) ?_
    refine c_IWvk (wr := []) (rest := [.ref qn_19]) C (metX14_init_X14 l G qn_19 0 v) 1 q346 q348 q58 q347 rfl (by decide +kernel) ⟨rfl, rfl⟩ ⟨(Nat.le_of_ble_eq_true rfl), (Nat.le_of_ble_eq_true rfl)⟩ ((fun _ _ _ _ h => (KM_mv G).2 _ _ _ _ h)) (fun _ _ hW => (KM_mv G).1 _ _ hW hK) hA hP hD hS [0] [] rfl rfl rfl rfl (by decide) hl rfl rfl (Nat.le_of_ble_eq_true rfl) ⟨(Nat.le_of_ble_eq_true rfl), (Nat.le_of_ble_eq_true rfl)⟩ dX1_guestOf_103 (fun w1 H locs hq_21 hP hD hS => ?_)
    obtain rfl := hq_21
    have hP : PP G [(qn_19, .inr (12, [.int v]))] H := hP
    have hD : va_D A [(qn_19, .inr (12, [.int v]))] := hD
    exact n_aretW (r := some qn_19) (w1 := [(qn_19, .inr (12, [.int v]))]) C (⟨_, rfl, rfl⟩) hP hD hS (by first | omega | decide) (by first | omega | decide) dX1_guestOf_106
  · refine n_eqi (y := 7) rfl ?_
    refine lv_tableOut (tgt := 107) (x := 7) hx hb dX1_guestOf_1 (by decide) (by decide) ?_
    refine va_new (D := gD G) (ci := 13) (fs := [.int 0]) (C := RX15) (T := TX15) (N := 1) hx hb hts in_X15 tyX15 tyX15_ok hown (hts _ q352) (hts _ q353) (hts _ q59) hK hP hD hS hA rfl (fun j hj => (by rcases (show j = 0 by omega) with rfl <;> rfl)) (Nat.le_of_ble_eq_true rfl) (Nat.le_of_ble_eq_true rfl) dX1_guestOf_107 (fun qn_22 H hP hD hS => ?_)
    have hP : PP G [(qn_22, .inr (13, [.int 0]))] H := hP
    have hD : va_D A [(qn_22, .inr (13, [.int 0]))] := hD
    refine lv_dup hx hb dX1_guestOf_110 rfl ?_
    refine lv_iload_n hx hb dX1_guestOf_111 rfl (lv_at hl 1 rfl) ?_
    refine c_IWvk (wr := []) (rest := [.ref qn_22]) C (metX15_init_X15 l G qn_22 0 v) 1 q354 q356 q59 q355 rfl (by decide +kernel) ⟨rfl, rfl⟩ ⟨(Nat.le_of_ble_eq_true rfl), (Nat.le_of_ble_eq_true rfl)⟩ ((fun _ _ _ _ h => (KM_mv G).2 _ _ _ _ h)) (fun _ _ hW => (KM_mv G).1 _ _ hW hK) hA hP hD hS [0] [] rfl rfl rfl rfl (by decide) hl rfl rfl (Nat.le_of_ble_eq_true rfl) ⟨(Nat.le_of_ble_eq_true rfl), (Nat.le_of_ble_eq_true rfl)⟩ dX1_guestOf_112 (fun w1 H locs hq_24 hP hD hS => ?_)
    obtain rfl := hq_24
    have hP : PP G [(qn_22, .inr (13, [.int v]))] H := hP
    have hD : va_D A [(qn_22, .inr (13, [.int v]))] := hD
    exact n_aretW (r := some qn_22) (w1 := [(qn_22, .inr (13, [.int v]))]) C (⟨_, rfl, rfl⟩) hP hD hS (by first | omega | decide) (by first | omega | decide) dX1_guestOf_115

set_option maxHeartbeats 4000000 in
set_option maxRecDepth 100000 in
theorem metX1_bring (l : Launch) (G : GG) (h : Nat) (xa : Nat → Nat) (xi : Nat → Int32) (fn : Nat → Nat) (gm : GM) (wh : Nat → Option Nat) (r : Nat → Int32) (N : Nat) (fm : Nat → Nat) (j_w : Nat → Option Nat) (j_a2 j_a3 j_a4 j_a5 : Nat → Int32) (j_0 j_1 j_2 : Int32) (f : Int32) (hN : N ≤ 8) (hr : r 0 = nI N) (hwk : WK gm wh r N) (hri : RI r N) (hng : NG gm [(h, xO xa xi), (xa 0, fO fn r), (fn 0, qA G 3 9 wh), (fn 1, iA G 9 (fA r 2)), (fn 2, iA G 9 (fA r 3)), (fn 3, iA G 9 (fA r 4)), (fn 4, iA G 9 (fA r 5)), (xa 2, fR fm j_0 j_1 j_2), (fm 0, qA G 3 9 j_w), (fm 1, iA G 9 j_a2), (fm 2, iA G 9 j_a3), (fm 3, iA G 9 j_a4), (fm 4, iA G 9 j_a5)]) : MW l yX1_bring cX1_bring 6 (some .int) ({ frames := 11, cells := 8, slots := 8, locals := 309 }) [.ref h, .int f] [(h, xO xa xi), (xa 0, fO fn r), (fn 0, qA G 3 9 wh), (fn 1, iA G 9 (fA r 2)), (fn 2, iA G 9 (fA r 3)), (fn 3, iA G 9 (fA r 4)), (fn 4, iA G 9 (fA r 5)), (xa 2, fR fm j_0 j_1 j_2), (fm 0, qA G 3 9 j_w), (fm 1, iA G 9 j_a2), (fm 2, iA G 9 j_a3), (fm 3, iA G 9 j_a4), (fm 4, iA G 9 j_a5)] G (KG G gm) 8 8 (fun rv w1 => rv = sBringX r N f ∧ ∃ (g_w : Nat → Option Nat) (g_a2 g_a3 g_a4 g_a5 : Nat → Int32) (g_0 g_1 g_2 : Int32), w1 = [(h, xO xa xi), (xa 0, fO fn r), (fn 0, qA G 3 9 wh), (fn 1, iA G 9 (fA r 2)), (fn 2, iA G 9 (fA r 3)), (fn 3, iA G 9 (fA r 4)), (fn 4, iA G 9 (fA r 5)), (xa 2, fR fm g_0 g_1 g_2), (fm 0, qA G 3 9 g_w), (fm 1, iA G 9 g_a2), (fm 2, iA G 9 g_a3), (fm 3, iA G 9 g_a4), (fm 4, iA G 9 g_a5)]) := by
  -- rows printed by wip/tools/gen.py
  refine mw_mkg RX1 (by decide) rfl (Nat.le_of_ble_eq_true rfl) ?_
  intro p0_ e0_ s m args below meth c A C hA hAx hP hK hD ls hl
  have hGP := hK.2
  have hK := hK.1
  have hGA := GA.of hng hGP hAx
  have hx := C.1
  have hb := C.2.1
  have hml := C.2.2.2.2.1
  have hown := C.2.2.2.2.2.1
  have hts := C.2.2.2.2.2.2
  have hS : va_S A s.heap s.heap [] := va_S.rf
  have hl : lv_has ls 6 [(0, .ref h), (1, .int f)] := hl
  refine lv_iload_n hx hb dX1_bring_0 rfl (lv_at hl 1 rfl) ?_
  refine c_S (rest := []) C (metX1_isNine l G f) 1 (lw_S q635 q636 q39 q637) (by decide +kernel) ⟨rfl, rfl⟩ ⟨(Nat.le_of_ble_eq_true rfl), (Nat.le_of_ble_eq_true rfl)⟩ (KM_mv G) (hP.sub (ws' := []) [] rfl) hK.1 hl rfl rfl (Nat.le_of_ble_eq_true rfl) ⟨(Nat.le_of_ble_eq_true rfl), (Nat.le_of_ble_eq_true rfl)⟩ dX1_bring_1 ?_
  refine n_if_neB (b := (sIn f 0 9)) (tgt := 9) hx hb dX1_bring_4 (by decide) (fun c_1 => ?_) (fun c_1 => ?_)
  · obtain ⟨f_2, hf_2, gf_2, rfl⟩ := sIn_t (a := 0) (b := 9) (by omega) (by omega) c_1
    have tf_2 : tn (nI f_2) = f_2 := nI_clamp (by omega)
    refine lv_bipush (v := (-4)) hx hb dX1_bring_9 (by decide) ?_
    refine lv_istore_n (lv' := [(2, .int (-4)), (0, .ref h), (1, .int (nI f_2))]) hx hb dX1_bring_11 rfl hl (Nat.le_of_ble_eq_true rfl) rfl (fun ls hl => ?_)
    refine lv_iconst (v := 0) hx hb dX1_bring_12 (by decide) ?_
    refine lv_aload_n hx hb dX1_bring_13 rfl (lv_at hl 1 rfl) ?_
    refine va_get (D := gD G) (ci := 1) (v := .ref (xa 0)) (C := RX1) (T := TX1) (N := 9) hx hb hts in_X1 hown hK.1 hP 0 rfl rfl 0 (by decide) (hts _ q838) (fun _ h9 => h9) rfl dX1_bring_14 ?_
    refine c_Vk (rest := [.int 0]) C (metX2_bestJoys l G (xa 0) fn gm wh r N (by omega) (hr) (hwk) (hri.JN)) 0 (lw_V q566 q567 q568 q40 q569) (by decide +kernel) ⟨rfl, rfl⟩ ⟨(Nat.le_of_ble_eq_true rfl), (Nat.le_of_ble_eq_true rfl)⟩ (KG.call) (va_recv hK.1 hP (ci := 2) (q0 := 1) rfl rfl) (hP.sub (ws' := [(xa 0, fO fn r), (fn 0, qA G 3 9 wh), (fn 1, iA G 9 (fA r 2)), (fn 2, iA G 9 (fA r 3)), (fn 3, iA G 9 (fA r 4)), (fn 4, iA G 9 (fA r 5))]) [1, 2, 3, 4, 5, 6] rfl) (KG.at hK (hGP.kept hGA hS)) hl rfl rfl (Nat.le_of_ble_eq_true rfl) ⟨(Nat.le_of_ble_eq_true rfl), (Nat.le_of_ble_eq_true rfl)⟩ dX1_bring_17 ?_
    refine n_mmax (x := 0) (y := sBJX r N) C q583 q463 q60 q464 hl ⟨(Nat.le_of_ble_eq_true rfl), (Nat.le_of_ble_eq_true rfl)⟩ (Nat.le_of_ble_eq_true rfl) ⟨(Nat.le_of_ble_eq_true rfl), (Nat.le_of_ble_eq_true rfl)⟩ dX1_bring_20 ?_
    refine lv_istore_n (lv' := [(3, .int (mx 0 (sBJX r N))), (2, .int (-4)), (0, .ref h), (1, .int (nI f_2))]) hx hb dX1_bring_23 rfl hl (Nat.le_of_ble_eq_true rfl) rfl (fun ls hl => ?_)
    refine lv_iconst (v := 0) hx hb dX1_bring_24 (by decide) ?_
    refine lv_istore (lv' := [(4, .int 0), (3, .int (mx 0 (sBJX r N))), (2, .int (-4)), (0, .ref h), (1, .int (nI f_2))]) hx hb dX1_bring_25 hl (Nat.le_of_ble_eq_true rfl) rfl (fun ls hl => ?_)
    suffices hlp_3 : (∀ (n i : Nat), i + n = 8 → ∀ (j_w : Nat → Option Nat) (j_a2 : Nat → Int32) (j_a3 : Nat → Int32) (j_a4 : Nat → Int32) (j_a5 : Nat → Int32) (j_0 : Int32) (j_1 : Int32) (j_2 : Int32), ∀ (H : Heap) (locs : List Loc), PP G [(h, xO xa xi), (xa 0, fO fn r), (fn 0, qA G 3 9 wh), (fn 1, iA G 9 (fA r 2)), (fn 2, iA G 9 (fA r 3)), (fn 3, iA G 9 (fA r 4)), (fn 4, iA G 9 (fA r 5)), (xa 2, fR fm j_0 j_1 j_2), (fm 0, qA G 3 9 j_w), (fm 1, iA G 9 j_a2), (fm 2, iA G 9 j_a3), (fm 3, iA G 9 j_a4), (fm 4, iA G 9 j_a5)] H → va_D A [(h, xO xa xi), (xa 0, fO fn r), (fn 0, qA G 3 9 wh), (fn 1, iA G 9 (fA r 2)), (fn 2, iA G 9 (fA r 3)), (fn 3, iA G 9 (fA r 4)), (fn 4, iA G 9 (fA r 5)), (xa 2, fR fm j_0 j_1 j_2), (fm 0, qA G 3 9 j_w), (fm 1, iA G 9 j_a2), (fm 2, iA G 9 j_a3), (fm 3, iA G 9 j_a4), (fm 4, iA G 9 j_a5)] → va_S A s.heap H locs → ∀ (ls : Array Slot), lv_has ls 6 [(4, .int (nI i)), (3, .int ((brPX r N (nI f_2) i).2)), (2, .int (encL (brPX r N (nI f_2) i).1)), (0, .ref h), (1, .int (nI f_2))] → W p0_ l e0_ ({ frames := 11, cells := 8, slots := 8, locals := 309 } : Room) s m args below meth c H locs (i) (i) (MQ below (va_Qi (S := va_W) (fun rv w1 => rv = sBringX r N (nI f_2) ∧ ∃ (g_w : Nat → Option Nat) (g_a2 g_a3 g_a4 g_a5 : Nat → Int32) (g_0 g_1 g_2 : Int32), w1 = [(h, xO xa xi), (xa 0, fO fn r), (fn 0, qA G 3 9 wh), (fn 1, iA G 9 (fA r 2)), (fn 2, iA G 9 (fA r 3)), (fn 3, iA G 9 (fA r 4)), (fn 4, iA G 9 (fA r 5)), (xa 2, fR fm g_0 g_1 g_2), (fm 0, qA G 3 9 g_w), (fm 1, iA G 9 g_a2), (fm 2, iA G 9 g_a3), (fm 3, iA G 9 g_a4), (fm 4, iA G 9 g_a5)]) (fun w1 t => PP G w1 t.heap ∧ va_D A w1) A) args s 8 8 A) (F0 m 27 ls [])) by
      exact hlp_3 (8) 0 (by omega) (j_w) (j_a2) (j_a3) (j_a4) (j_a5) (j_0) (j_1) (j_2) _ _ (hP.sub [0, 1, 2, 3, 4, 5, 6, 7, 8, 9, 10, 11, 12] rfl) (hD.sub [0, 1, 2, 3, 4, 5, 6, 7, 8, 9, 10, 11, 12] (by decide) rfl) hS ls (lv_sub hl [0, 1, 2, 3, 4] rfl)
    have hend_3 : ∀ (j_w : Nat → Option Nat) (j_a2 : Nat → Int32) (j_a3 : Nat → Int32) (j_a4 : Nat → Int32) (j_a5 : Nat → Int32) (j_0 : Int32) (j_1 : Int32) (j_2 : Int32), ∀ (H : Heap) (locs : List Loc), PP G [(h, xO xa xi), (xa 0, fO fn r), (fn 0, qA G 3 9 wh), (fn 1, iA G 9 (fA r 2)), (fn 2, iA G 9 (fA r 3)), (fn 3, iA G 9 (fA r 4)), (fn 4, iA G 9 (fA r 5)), (xa 2, fR fm j_0 j_1 j_2), (fm 0, qA G 3 9 j_w), (fm 1, iA G 9 j_a2), (fm 2, iA G 9 j_a3), (fm 3, iA G 9 j_a4), (fm 4, iA G 9 j_a5)] H → va_D A [(h, xO xa xi), (xa 0, fO fn r), (fn 0, qA G 3 9 wh), (fn 1, iA G 9 (fA r 2)), (fn 2, iA G 9 (fA r 3)), (fn 3, iA G 9 (fA r 4)), (fn 4, iA G 9 (fA r 5)), (xa 2, fR fm j_0 j_1 j_2), (fm 0, qA G 3 9 j_w), (fm 1, iA G 9 j_a2), (fm 2, iA G 9 j_a3), (fm 3, iA G 9 j_a4), (fm 4, iA G 9 j_a5)] → va_S A s.heap H locs → ∀ (ls : Array Slot), lv_has ls 6 [(4, .int (nI 8)), (3, .int ((brPX r N (nI f_2) 8).2)), (2, .int (encL (brPX r N (nI f_2) 8).1)), (0, .ref h), (1, .int (nI f_2))] → W p0_ l e0_ ({ frames := 11, cells := 8, slots := 8, locals := 309 } : Room) s m args below meth c H locs (8) (8) (MQ below (va_Qi (S := va_W) (fun rv w1 => rv = sBringX r N (nI f_2) ∧ ∃ (g_w : Nat → Option Nat) (g_a2 g_a3 g_a4 g_a5 : Nat → Int32) (g_0 g_1 g_2 : Int32), w1 = [(h, xO xa xi), (xa 0, fO fn r), (fn 0, qA G 3 9 wh), (fn 1, iA G 9 (fA r 2)), (fn 2, iA G 9 (fA r 3)), (fn 3, iA G 9 (fA r 4)), (fn 4, iA G 9 (fA r 5)), (xa 2, fR fm g_0 g_1 g_2), (fm 0, qA G 3 9 g_w), (fm 1, iA G 9 g_a2), (fm 2, iA G 9 g_a3), (fm 3, iA G 9 g_a4), (fm 4, iA G 9 g_a5)]) (fun w1 t => PP G w1 t.heap ∧ va_D A w1) A) args s 8 8 A) (F0 m 27 ls []) := by
      intro j_w j_a2 j_a3 j_a4 j_a5 j_0 j_1 j_2 H locs hP hD hS ls hl
      refine lv_iload hx hb dX1_bring_27 (lv_at hl 0 rfl) ?_
      refine lv_bipush (v := 8) hx hb dX1_bring_29 (by decide) ?_
      refine n_ic_ge (x := 8) (y := 8) (tgt := 85) hx hb (by omega) (by omega) dX1_bring_31 (by decide) (fun c_4 => ?_) (fun c_4 => absurd c_4 (by omega))
      refine lv_iload_n hx hb dX1_bring_85 rfl (lv_at hl 2 rfl) ?_
      exact n_iretW (v := encL (brPX r N (nI f_2) 8).1) (w1 := [(h, xO xa xi), (xa 0, fO fn r), (fn 0, qA G 3 9 wh), (fn 1, iA G 9 (fA r 2)), (fn 2, iA G 9 (fA r 3)), (fn 3, iA G 9 (fA r 4)), (fn 4, iA G 9 (fA r 5)), (xa 2, fR fm j_0 j_1 j_2), (fm 0, qA G 3 9 j_w), (fm 1, iA G 9 j_a2), (fm 2, iA G 9 j_a3), (fm 3, iA G 9 j_a4), (fm 4, iA G 9 j_a5)]) C (⟨by first | (simp [sBringX, c_1, tf_2, c_4]; done), _, _, _, _, _, _, _, _, rfl⟩) hP hD hS (by first | omega | decide) (by first | omega | decide) dX1_bring_86
    intro n
    induction n with
    | zero =>
      intro i hi_3 j_w j_a2 j_a3 j_a4 j_a5 j_0 j_1 j_2 H locs hP hD hS ls hl
      obtain e_3 : i = 8 := by omega
      first | (subst e_3; exact hend_3 j_w j_a2 j_a3 j_a4 j_a5 j_0 j_1 j_2 H locs hP hD hS ls hl) | (rw [e_3] at hl hP hD; exact hend_3 j_w j_a2 j_a3 j_a4 j_a5 j_0 j_1 j_2 H locs hP hD hS ls hl)
    | succ n ih_3 =>
      intro i hi_3 j_w j_a2 j_a3 j_a4 j_a5 j_0 j_1 j_2 H locs hP hD hS ls hl
      refine lv_iload hx hb dX1_bring_27 (lv_at hl 0 rfl) ?_
      refine lv_bipush (v := 8) hx hb dX1_bring_29 (by decide) ?_
      refine n_ic_ge (x := i) (y := 8) (tgt := 85) hx hb (by omega) (by omega) dX1_bring_31 (by decide) (fun c_5 => absurd c_5 (by omega)) (fun c_5 => ?_)
      refine lv_aload_n hx hb dX1_bring_34 rfl (lv_at hl 3 rfl) ?_
      refine c_VWvk (wr := []) (rest := []) C (metX1_minds l G h xa xi fn gm wh r N fm j_w j_a2 j_a3 j_a4 j_a5 j_0 j_1 j_2 (by omega) (hr) (hwk) (NG.of hGA hD [0, 1, 2, 3, 4, 5, 6, 7, 8, 9, 10, 11, 12] rfl)) 0 (lw_V q579 q581 qs10 q39 q582) (by decide +kernel) ⟨rfl, rfl⟩ ⟨(Nat.le_of_ble_eq_true rfl), (Nat.le_of_ble_eq_true rfl)⟩ (KG.call) (KG.at hK (hGP.kept hGA hS)) (va_recv hK.1 hP (ci := 1) (q0 := 0) rfl rfl) hA hP hD hS [0, 1, 2, 3, 4, 5, 6, 7, 8, 9, 10, 11, 12] [] rfl rfl rfl rfl (by decide) hl rfl rfl (Nat.le_of_ble_eq_true rfl) ⟨(by dsimp only; omega), (by dsimp only; omega)⟩ dX1_bring_35 (fun w1 H locs hq_7 hP hD hS => ?_)
      obtain rfl := hq_7
      have hP : PP G [(h, xO xa xi), (xa 0, fO fn r), (fn 0, qA G 3 9 wh), (fn 1, iA G 9 (fA r 2)), (fn 2, iA G 9 (fA r 3)), (fn 3, iA G 9 (fA r 4)), (fn 4, iA G 9 (fA r 5)), (xa 2, fO fm r), (fm 0, qA G 3 9 wh), (fm 1, iA G 9 (fA r 2)), (fm 2, iA G 9 (fA r 3)), (fm 3, iA G 9 (fA r 4)), (fm 4, iA G 9 (fA r 5))] H := hP
      have hD : va_D A [(h, xO xa xi), (xa 0, fO fn r), (fn 0, qA G 3 9 wh), (fn 1, iA G 9 (fA r 2)), (fn 2, iA G 9 (fA r 3)), (fn 3, iA G 9 (fA r 4)), (fn 4, iA G 9 (fA r 5)), (xa 2, fO fm r), (fm 0, qA G 3 9 wh), (fm 1, iA G 9 (fA r 2)), (fm 2, iA G 9 (fA r 3)), (fm 3, iA G 9 (fA r 4)), (fm 4, iA G 9 (fA r 5))] := hD
      have hw_8 : WK gm wh r N := hwk
      have hr_9 : r 0 = nI N := hr
      refine lv_aload_n hx hb dX1_bring_38 rfl (lv_at hl 3 rfl) ?_
      refine va_get (D := gD G) (ci := 1) (v := .ref (xa 2)) (C := RX1) (T := TX1) (N := 9) hx hb hts in_X1 hown hK.1 hP 0 rfl rfl 2 (by decide) (hts _ q840) (fun _ h9 => h9) rfl dX1_bring_39 ?_
      refine lv_iload hx hb dX1_bring_42 (lv_at hl 0 rfl) ?_
      refine lv_iload_n hx hb dX1_bring_44 rfl (lv_at hl 4 rfl) ?_
      refine c_SWqk (wr := [(h, xO xa xi), (xa 0, fO fn r), (fn 0, qA G 3 9 wh), (fn 1, iA G 9 (fA r 2)), (fn 2, iA G 9 (fA r 3)), (fn 3, iA G 9 (fA r 4)), (fn 4, iA G 9 (fA r 5)), (xa 2, fO fm r), (fm 0, qA G 3 9 wh), (fm 1, iA G 9 (fA r 2)), (fm 2, iA G 9 (fA r 3)), (fm 3, iA G 9 (fA r 4)), (fm 4, iA G 9 (fA r 5))]) (rest := [.ref (xa 2)]) C (metX1_guestOf l G i (nI f_2) (by omega)) 2 (lw_S q284 q285 q39 q286) (by decide +kernel) ⟨rfl, rfl⟩ ⟨(Nat.le_of_ble_eq_true rfl), (Nat.le_of_ble_eq_true rfl)⟩ ((fun _ _ _ _ h => (KM_mv G).2 _ _ _ _ h)) (fun _ _ hW => (KM_mv G).1 _ _ hW hK.1) hA hP hD hS [] [0, 1, 2, 3, 4, 5, 6, 7, 8, 9, 10, 11, 12] rfl rfl rfl rfl (by decide) hl rfl rfl (Nat.le_of_ble_eq_true rfl) ⟨(by dsimp only; omega), (by dsimp only; omega)⟩ dX1_bring_45 (fun r_10 w1 H locs hq_11 hP hD hS => ?_)
      obtain ⟨qg_12, rfl, rfl⟩ := hq_11
      have hP : PP G [(h, xO xa xi), (xa 0, fO fn r), (fn 0, qA G 3 9 wh), (fn 1, iA G 9 (fA r 2)), (fn 2, iA G 9 (fA r 3)), (fn 3, iA G 9 (fA r 4)), (fn 4, iA G 9 (fA r 5)), (xa 2, fO fm r), (fm 0, qA G 3 9 wh), (fm 1, iA G 9 (fA r 2)), (fm 2, iA G 9 (fA r 3)), (fm 3, iA G 9 (fA r 4)), (fm 4, iA G 9 (fA r 5)), (qg_12, .inr (6 + i, [.int (nI f_2)]))] H := hP
      have hD : va_D A [(h, xO xa xi), (xa 0, fO fn r), (fn 0, qA G 3 9 wh), (fn 1, iA G 9 (fA r 2)), (fn 2, iA G 9 (fA r 3)), (fn 3, iA G 9 (fA r 4)), (fn 4, iA G 9 (fA r 5)), (xa 2, fO fm r), (fm 0, qA G 3 9 wh), (fm 1, iA G 9 (fA r 2)), (fm 2, iA G 9 (fA r 3)), (fm 3, iA G 9 (fA r 4)), (fm 4, iA G 9 (fA r 5)), (qg_12, .inr (6 + i, [.int (nI f_2)]))] := hD
      have hq_13 : gm qg_12 = none := NG1 hGA hD 13 rfl
      have hw_14 := WK.upG (k := i) (f := nI f_2) hwk hq_13
      have hw_15 := WK.upG (k := i) (f := nI f_2) hw_8 hq_13
      refine lv_iconst (v := 0) hx hb dX1_bring_48 (by decide) ?_
      refine lv_bipush (v := 9) hx hb dX1_bring_49 (by decide) ?_
      refine c_VWk (wr := [(h, xO xa xi), (xa 0, fO fn r), (fn 0, qA G 3 9 wh), (fn 1, iA G 9 (fA r 2)), (fn 2, iA G 9 (fA r 3)), (fn 3, iA G 9 (fA r 4)), (fn 4, iA G 9 (fA r 5)), (qg_12, .inr (6 + i, [.int (nI f_2)]))]) (rest := []) C (metX2_comes l G (xa 2) fm (upG gm qg_12 i (nI f_2)) wh r N qg_12 i (nI f_2) 0 9 (by omega) (hr_9) (hw_15) (upG_s _ _ _ _) (NG.up (NG.of hGA hD [7, 8, 9, 10, 11, 12] rfl) hD 13 rfl [7, 8, 9, 10, 11, 12] rfl (by decide))) 3 (lw_V q360 q361 q362 q40 q363) (by decide +kernel) ⟨rfl, rfl⟩ ⟨(Nat.le_of_ble_eq_true rfl), (Nat.le_of_ble_eq_true rfl)⟩ (KG.call) (KG.at hK (GP.up (hGP.kept hGA hS) hP 13 rfl (by omega))) (va_recv hK.1 hP (ci := 2) (q0 := 7) rfl rfl) hA hP hD hS [7, 8, 9, 10, 11, 12] [0, 1, 2, 3, 4, 5, 6, 13] rfl rfl rfl rfl (by decide) hl rfl rfl (Nat.le_of_ble_eq_true rfl) ⟨(by dsimp only; omega), (by dsimp only; omega)⟩ dX1_bring_51 (fun r_16 w1 H locs hq_17 hP hD hS => ?_)
      obtain ⟨rfl, rfl⟩ := hq_17
      have hP : PP G [(h, xO xa xi), (xa 0, fO fn r), (fn 0, qA G 3 9 wh), (fn 1, iA G 9 (fA r 2)), (fn 2, iA G 9 (fA r 3)), (fn 3, iA G 9 (fA r 4)), (fn 4, iA G 9 (fA r 5)), (qg_12, .inr (6 + i, [.int (nI f_2)])), (xa 2, fO fm (sAdds r N (nI i) (nI f_2) 0 9)), (fm 0, qA G 3 9 (va_up wh N (some qg_12))), (fm 1, iA G 9 (fA (sAdds r N (nI i) (nI f_2) 0 9) 2)), (fm 2, iA G 9 (fA (sAdds r N (nI i) (nI f_2) 0 9) 3)), (fm 3, iA G 9 (fA (sAdds r N (nI i) (nI f_2) 0 9) 4)), (fm 4, iA G 9 (fA (sAdds r N (nI i) (nI f_2) 0 9) 5))] H := hP
      have hD : va_D A [(h, xO xa xi), (xa 0, fO fn r), (fn 0, qA G 3 9 wh), (fn 1, iA G 9 (fA r 2)), (fn 2, iA G 9 (fA r 3)), (fn 3, iA G 9 (fA r 4)), (fn 4, iA G 9 (fA r 5)), (qg_12, .inr (6 + i, [.int (nI f_2)])), (xa 2, fO fm (sAdds r N (nI i) (nI f_2) 0 9)), (fm 0, qA G 3 9 (va_up wh N (some qg_12))), (fm 1, iA G 9 (fA (sAdds r N (nI i) (nI f_2) 0 9) 2)), (fm 2, iA G 9 (fA (sAdds r N (nI i) (nI f_2) 0 9) 3)), (fm 3, iA G 9 (fA (sAdds r N (nI i) (nI f_2) 0 9) 4)), (fm 4, iA G 9 (fA (sAdds r N (nI i) (nI f_2) 0 9) 5))] := hD
      have hw_18 : WK (upG gm qg_12 i (nI f_2)) (va_up wh N (some qg_12)) (sAdds r N (nI i) (nI f_2) 0 9) (N + 1) := WK.adds hw_15 (upG_s _ _ _ _)
      have hr_19 : (sAdds r N (nI i) (nI f_2) 0 9) 0 = nI (N + 1) := rfl
      refine lv_pop hx hb dX1_bring_54 rfl ?_
      refine lv_aload_n hx hb dX1_bring_55 rfl (lv_at hl 3 rfl) ?_
      refine va_get (D := gD G) (ci := 1) (v := .ref (xa 2)) (C := RX1) (T := TX1) (N := 9) hx hb hts in_X1 hown hK.1 hP 0 rfl rfl 2 (by decide) (hts _ q840) (fun _ h9 => h9) rfl dX1_bring_56 ?_
      refine c_Vk (rest := []) C (metX2_bestJoys l G (xa 2) fm (upG gm qg_12 i (nI f_2)) (va_up wh N (some qg_12)) (sAdds r N (nI i) (nI f_2) 0 9) (N + 1) (by omega) (hr_19) (hw_18) ((G_int hri (by omega) (by omega)).JN)) 0 (lw_V q566 q567 q568 q40 q569) (by decide +kernel) ⟨rfl, rfl⟩ ⟨(Nat.le_of_ble_eq_true rfl), (Nat.le_of_ble_eq_true rfl)⟩ (KG.call) (va_recv hK.1 hP (ci := 2) (q0 := 8) rfl rfl) (hP.sub (ws' := [(xa 2, fO fm (sAdds r N (nI i) (nI f_2) 0 9)), (fm 0, qA G 3 9 (va_up wh N (some qg_12))), (fm 1, iA G 9 (fA (sAdds r N (nI i) (nI f_2) 0 9) 2)), (fm 2, iA G 9 (fA (sAdds r N (nI i) (nI f_2) 0 9) 3)), (fm 3, iA G 9 (fA (sAdds r N (nI i) (nI f_2) 0 9) 4)), (fm 4, iA G 9 (fA (sAdds r N (nI i) (nI f_2) 0 9) 5))]) [8, 9, 10, 11, 12, 13] rfl) (KG.at hK (GP.up (hGP.kept hGA hS) hP 7 rfl (by omega))) hl rfl rfl (Nat.le_of_ble_eq_true rfl) ⟨(by dsimp only; omega), (by dsimp only; omega)⟩ dX1_bring_59 ?_
      refine lv_istore (lv' := [(5, .int (sBJX (sAdds r N (nI i) (nI f_2) 0 9) (N + 1))), (4, .int (nI i)), (3, .int ((brPX r N (nI f_2) i).2)), (2, .int (encL (brPX r N (nI f_2) i).1)), (0, .ref h), (1, .int (nI f_2))]) hx hb dX1_bring_62 hl (Nat.le_of_ble_eq_true rfl) rfl (fun ls hl => ?_)
      refine lv_iload hx hb dX1_bring_64 (lv_at hl 0 rfl) ?_
      refine lv_iload_n hx hb dX1_bring_66 rfl (lv_at hl 2 rfl) ?_
      refine lv_icmp_gt (x := sBJX (sAdds r N (nI i) (nI f_2) 0 9) (N + 1)) (y := (brPX r N (nI f_2) i).2) (tgt := 73) hx hb dX1_bring_67 (by decide) (fun c_20 => ?_) (fun c_20 => ?_)
      · have zc_20 : ¬ (sBJX (sAdds r N (nI i) (nI f_2) 0 9) (N + 1)) ≤ ((brPX r N (nI f_2) i).2) := Int32.not_le.mpr c_20
        refine lv_iload hx hb dX1_bring_73 (lv_at hl 1 rfl) ?_
        refine lv_istore_n (lv' := [(2, .int (nI i)), (5, .int (sBJX (sAdds r N (nI i) (nI f_2) 0 9) (N + 1))), (4, .int (nI i)), (3, .int ((brPX r N (nI f_2) i).2)), (0, .ref h), (1, .int (nI f_2))]) hx hb dX1_bring_75 rfl hl (Nat.le_of_ble_eq_true rfl) rfl (fun ls hl => ?_)
        refine lv_iload hx hb dX1_bring_76 (lv_at hl 1 rfl) ?_
        refine lv_istore_n (lv' := [(3, .int (sBJX (sAdds r N (nI i) (nI f_2) 0 9) (N + 1))), (2, .int (nI i)), (5, .int (sBJX (sAdds r N (nI i) (nI f_2) 0 9) (N + 1))), (4, .int (nI i)), (0, .ref h), (1, .int (nI f_2))]) hx hb dX1_bring_78 rfl hl (Nat.le_of_ble_eq_true rfl) rfl (fun ls hl => ?_)
        refine n_iinc (k := 3) (lv' := [(4, .int (nI (i + 1))), (3, .int (sBJX (sAdds r N (nI i) (nI f_2) 0 9) (N + 1))), (2, .int (nI i)), (5, .int (sBJX (sAdds r N (nI i) (nI f_2) 0 9) (N + 1))), (0, .ref h), (1, .int (nI f_2))]) hx hb i 1 dX1_bring_79 hl rfl (Nat.le_of_ble_eq_true rfl) rfl (fun ls hl => ?_)
        refine lv_goto (tgt := 27) hx hb dX1_bring_82 (by decide) ?_
        have e_21 : (brPX r N (nI f_2) (i + 1)).2 = sBJX (sAdds r N (nI i) (nI f_2) 0 9) (N + 1) := by simp [brPX, brVX, encLS, tf_2, c_5, c_20, zc_20]
        have e_22 : encL (brPX r N (nI f_2) (i + 1)).1 = nI i := by simp [brPX, brVX, encLS, tf_2, c_5, c_20, zc_20]
        have e_23 : (fR fm ((sAdds r N (nI i) (nI f_2) 0 9) 0) ((sAdds r N (nI i) (nI f_2) 0 9) 1) ((sAdds r N (nI i) (nI f_2) 0 9) 2) : va_E) = fO fm (sAdds r N (nI i) (nI f_2) 0 9) := by rfl
        exact ih_3 (i + 1) (by omega) (va_up wh N (some qg_12)) (fA (sAdds r N (nI i) (nI f_2) 0 9) 2) (fA (sAdds r N (nI i) (nI f_2) 0 9) 3) (fA (sAdds r N (nI i) (nI f_2) 0 9) 4) (fA (sAdds r N (nI i) (nI f_2) 0 9) 5) ((sAdds r N (nI i) (nI f_2) 0 9) 0) ((sAdds r N (nI i) (nI f_2) 0 9) 1) ((sAdds r N (nI i) (nI f_2) 0 9) 2) _ _ (by rw [e_23]; exact hP.sub [0, 1, 2, 3, 4, 5, 6, 8, 9, 10, 11, 12, 13] rfl) (by rw [e_23]; exact hD.sub [0, 1, 2, 3, 4, 5, 6, 8, 9, 10, 11, 12, 13] (by decide) rfl) hS ls (by rw [e_21, e_22]; exact lv_sub hl [0, 1, 2, 4, 5] rfl)
      · have zc_20 : (sBJX (sAdds r N (nI i) (nI f_2) 0 9) (N + 1)) ≤ ((brPX r N (nI f_2) i).2) := Int32.not_lt.mp c_20
        refine lv_goto (tgt := 79) hx hb dX1_bring_70 (by decide) ?_
        refine n_iinc (k := 1) (lv' := [(4, .int (nI (i + 1))), (5, .int (sBJX (sAdds r N (nI i) (nI f_2) 0 9) (N + 1))), (3, .int ((brPX r N (nI f_2) i).2)), (2, .int (encL (brPX r N (nI f_2) i).1)), (0, .ref h), (1, .int (nI f_2))]) hx hb i 1 dX1_bring_79 hl rfl (Nat.le_of_ble_eq_true rfl) rfl (fun ls hl => ?_)
        refine lv_goto (tgt := 27) hx hb dX1_bring_82 (by decide) ?_
        have e_24 : (brPX r N (nI f_2) (i + 1)).2 = (brPX r N (nI f_2) i).2 := by simp [brPX, brVX, encLS, tf_2, c_5, c_20, zc_20]
        have e_25 : encL (brPX r N (nI f_2) (i + 1)).1 = encL (brPX r N (nI f_2) i).1 := by simp [brPX, brVX, encLS, tf_2, c_5, c_20, zc_20]
        have e_26 : (fR fm ((sAdds r N (nI i) (nI f_2) 0 9) 0) ((sAdds r N (nI i) (nI f_2) 0 9) 1) ((sAdds r N (nI i) (nI f_2) 0 9) 2) : va_E) = fO fm (sAdds r N (nI i) (nI f_2) 0 9) := by rfl
        exact ih_3 (i + 1) (by omega) (va_up wh N (some qg_12)) (fA (sAdds r N (nI i) (nI f_2) 0 9) 2) (fA (sAdds r N (nI i) (nI f_2) 0 9) 3) (fA (sAdds r N (nI i) (nI f_2) 0 9) 4) (fA (sAdds r N (nI i) (nI f_2) 0 9) 5) ((sAdds r N (nI i) (nI f_2) 0 9) 0) ((sAdds r N (nI i) (nI f_2) 0 9) 1) ((sAdds r N (nI i) (nI f_2) 0 9) 2) _ _ (by rw [e_26]; exact hP.sub [0, 1, 2, 3, 4, 5, 6, 8, 9, 10, 11, 12, 13] rfl) (by rw [e_26]; exact hD.sub [0, 1, 2, 3, 4, 5, 6, 8, 9, 10, 11, 12, 13] (by decide) rfl) hS ls (by rw [e_24, e_25]; exact lv_sub hl [0, 2, 3, 4, 5] rfl)
  · refine lv_iconst (v := (-1)) hx hb dX1_bring_7 (by decide) ?_
    exact n_iretW (v := (-1)) (w1 := [(h, xO xa xi), (xa 0, fO fn r), (fn 0, qA G 3 9 wh), (fn 1, iA G 9 (fA r 2)), (fn 2, iA G 9 (fA r 3)), (fn 3, iA G 9 (fA r 4)), (fn 4, iA G 9 (fA r 5)), (xa 2, fR fm j_0 j_1 j_2), (fm 0, qA G 3 9 j_w), (fm 1, iA G 9 j_a2), (fm 2, iA G 9 j_a3), (fm 3, iA G 9 j_a4), (fm 4, iA G 9 j_a5)]) C (⟨by first | (simp [sBringX, c_1]; done), _, _, _, _, _, _, _, _, rfl⟩) hP hD hS (by first | omega | decide) (by first | omega | decide) dX1_bring_8
