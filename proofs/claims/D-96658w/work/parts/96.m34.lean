set_option maxHeartbeats 4000000 in
set_option maxRecDepth 100000 in
theorem metX1_element_s0 (l : Launch) (G : GG) (h : Nat) (xa : Nat → Nat) (xi : Nat → Int32) (sh : Nat → Nat) (gm : GM) (dn : Nat) (ra z8 : Nat) (rf : Nat → Int32) (j : Nat) (hl9 : l.stackTraces = false) (hng : NG gm [(h, xO xa xi), (xa 8, qA G 5 8 (shf sh)), (sh dn, .inr (3, [.ref ra])), (ra, tA G 0 z8 rf)]) (hdn : dn ≤ 7) (hz8 : z8 ≤ 100) (hj : j < z8) : MXl l yX1_element cX1_element 5 (some .long) [((26 : Nat), (40 : Nat), (64 : Nat), (350 : Nat)), ((41 : Nat), (55 : Nat), (64 : Nat), (350 : Nat)), ((56 : Nat), (63 : Nat), (64 : Nat), (350 : Nat)), ((26 : Nat), (40 : Nat), (74 : Nat), (144 : Nat)), ((41 : Nat), (55 : Nat), (74 : Nat), (144 : Nat)), ((56 : Nat), (63 : Nat), (74 : Nat), (144 : Nat)), ((26 : Nat), (40 : Nat), (84 : Nat), (345 : Nat)), ((41 : Nat), (55 : Nat), (84 : Nat), (345 : Nat)), ((56 : Nat), (63 : Nat), (84 : Nat), (345 : Nat))] ({ frames := 2, cells := 4, slots := 1100, locals := 43 }) [.ref h, .int (nI dn), .int (nI j)] [(h, xO xa xi), (xa 8, qA G 5 8 (shf sh)), (sh dn, .inr (3, [.ref ra])), (ra, tA G 0 z8 rf)] G (KE G gm) 4 1100 (fun rv w1 => rv = (rf j).toInt64 ∧ w1 = [(h, xO xa xi), (xa 8, qA G 5 8 (shf sh)), (sh dn, .inr (3, [.ref ra])), (ra, tA G 0 z8 rf)]) (fun _ => False) := by
  -- rows printed by wip/tools/gen.py
  refine mxl_mkg RX1 (by decide) rfl (Nat.le_of_ble_eq_true rfl) ?_
  intro p0_ e0_ s m args below meth c A C htab hA hAx hP hK hD ls hl
  have hZ : ZA A s := hK.2.2.of hP hAx
  have hM1 := hK.2.1
  have hK := hK.1
  have hGP := hK.2
  have hK := hK.1
  have hGA := GA.of hng hGP hAx
  have hx := C.1
  have hb := C.2.1
  have hml := C.2.2.2.2.1
  have hown := C.2.2.2.2.2.1
  have hts := C.2.2.2.2.2.2
  have hS : va_S A s.heap s.heap [] := va_S.rf
  have hl : lv_has ls 5 [(0, .ref h), (1, .int (nI dn)), (2, .int (nI j))] := hl
  have hs7 := sIn07 hdn
  refine lv_aload_n hx hb dX1_element_0 rfl (lv_at hl 0 rfl) ?_
  refine lv_iload_n hx hb dX1_element_1 rfl (lv_at hl 1 rfl) ?_
  refine c_V (rest := []) C (metX1_isShelf l G h xa xi (nI dn)) 1 (lw_V q166 q168 qs2 q39 q170) (by decide +kernel) ⟨rfl, rfl⟩ ⟨(Nat.le_of_ble_eq_true rfl), (Nat.le_of_ble_eq_true rfl)⟩ (KM_mv G) (va_recv hK.1 hP (ci := 1) (q0 := 0) rfl rfl) (hP.sub (ws' := [(h, xO xa xi)]) [0] rfl) hK.1 hl rfl rfl (Nat.le_of_ble_eq_true rfl) ⟨(Nat.le_of_ble_eq_true rfl), (Nat.le_of_ble_eq_true rfl)⟩ dX1_element_2 ?_
  refine n_if_neB (b := (sIn (nI dn) 0 7)) (tgt := 16) hx hb dX1_element_5 (by decide) (fun c_1 => ?_) (fun c_1 => absurd c_1 (by simp [hs7]))
  refine lv_aload_n hx hb dX1_element_16 rfl (lv_at hl 0 rfl) ?_
  refine va_get (D := gD G) (ci := 1) (v := .ref (xa 8)) (C := RX1) (T := TX1) (N := 9) hx hb hts in_X1 hown hK.1 hP 0 rfl rfl 8 (by decide) (hts _ q846) (fun _ h9 => h9) rfl dX1_element_17 ?_
  refine lv_iload_n hx hb dX1_element_20 rfl (lv_at hl 1 rfl) ?_
  refine n_aldqS (y := sh dn) C hK.1 hP 1 5 dn rfl rfl (by omega) (by omega) rfl dX1_element_21 ?_
  refine va_get (D := gD G) (ci := 3) (v := .ref ra) (C := RX3) (T := TX3) (N := 1) hx hb hts in_X3 hown hK.1 hP 2 rfl rfl 0 (by decide) (hts _ q834) (fun _ h9 => h9) rfl dX1_element_22 ?_
  refine lv_astore_n (lv' := [(3, .ref ra), (0, .ref h), (1, .int (nI dn)), (2, .int (nI j))]) hx hb dX1_element_25 rfl hl (Nat.le_of_ble_eq_true rfl) rfl (fun ls hl => ?_)
  refine lv_aload_n hx hb dX1_element_26 rfl (lv_at hl 0 rfl) ?_
  refine n_instF (q0 := 3) (n2 := "[I") C hK.2 hP rfl (nmA0 hK.1) (by decide +kernel) q174 dX1_element_27 ?_
  refine lv_if_eq (x := 0) (tgt := 41) hx hb dX1_element_30 (by decide) (fun c_2 => ?_) (fun c_2 => absurd c_2 (by decide))
  refine lv_aload_n hx hb dX1_element_41 rfl (lv_at hl 0 rfl) ?_
  refine n_instF (q0 := 3) (n2 := "[I") C hK.2 hP rfl (nmA0 hK.1) (by decide +kernel) q674 dX1_element_42 ?_
  refine lv_if_eq (x := 0) (tgt := 56) hx hb dX1_element_45 (by decide) (fun c_3 => ?_) (fun c_3 => absurd c_3 (by decide))
  refine lv_aload_n hx hb dX1_element_56 rfl (lv_at hl 0 rfl) ?_
  refine n_castT (q0 := 3) C hP rfl (nmA0 hK.1) q675 dX1_element_57 ?_
  refine lv_iload_n hx hb dX1_element_60 rfl (lv_at hl 3 rfl) ?_
  refine n_iald C hK.1 hP 3 j rfl (by omega) (by omega) dX1_element_61 ?_
  refine lv_i2l (x := rf j) (v := (rf j).toInt64) hx hb dX1_element_62 rfl ?_
  exact vx_ret (n_lretW (v := (rf j).toInt64) (w1 := [(h, xO xa xi), (xa 8, qA G 5 8 (shf sh)), (sh dn, .inr (3, [.ref ra])), (ra, tA G 0 z8 rf)]) C (⟨rfl, rfl⟩) hP hD hS (by first | omega | decide) (by first | omega | decide) dX1_element_63)

set_option maxHeartbeats 4000000 in
set_option maxRecDepth 100000 in
theorem metX1_element_s1 (l : Launch) (G : GG) (h : Nat) (xa : Nat → Nat) (xi : Nat → Int32) (sh : Nat → Nat) (gm : GM) (dn : Nat) (ra z8 : Nat) (rf : Nat → Int32) (j : Nat) (hl9 : l.stackTraces = false) (hng : NG gm [(h, xO xa xi), (xa 8, qA G 5 8 (shf sh)), (sh dn, .inr (3, [.ref ra])), (ra, tA G 1 z8 rf)]) (hdn : dn ≤ 7) (hz8 : z8 ≤ 100) (hj : j < z8) : MXl l yX1_element cX1_element 5 (some .long) [((26 : Nat), (40 : Nat), (64 : Nat), (350 : Nat)), ((41 : Nat), (55 : Nat), (64 : Nat), (350 : Nat)), ((56 : Nat), (63 : Nat), (64 : Nat), (350 : Nat)), ((26 : Nat), (40 : Nat), (74 : Nat), (144 : Nat)), ((41 : Nat), (55 : Nat), (74 : Nat), (144 : Nat)), ((56 : Nat), (63 : Nat), (74 : Nat), (144 : Nat)), ((26 : Nat), (40 : Nat), (84 : Nat), (345 : Nat)), ((41 : Nat), (55 : Nat), (84 : Nat), (345 : Nat)), ((56 : Nat), (63 : Nat), (84 : Nat), (345 : Nat))] ({ frames := 2, cells := 4, slots := 1100, locals := 43 }) [.ref h, .int (nI dn), .int (nI j)] [(h, xO xa xi), (xa 8, qA G 5 8 (shf sh)), (sh dn, .inr (3, [.ref ra])), (ra, tA G 1 z8 rf)] G (KE G gm) 4 1100 (fun rv w1 => rv = (rf j).toInt64 ∧ w1 = [(h, xO xa xi), (xa 8, qA G 5 8 (shf sh)), (sh dn, .inr (3, [.ref ra])), (ra, tA G 1 z8 rf)]) (fun _ => False) := by
  -- rows printed by wip/tools/gen.py
  refine mxl_mkg RX1 (by decide) rfl (Nat.le_of_ble_eq_true rfl) ?_
  intro p0_ e0_ s m args below meth c A C htab hA hAx hP hK hD ls hl
  have hZ : ZA A s := hK.2.2.of hP hAx
  have hM1 := hK.2.1
  have hK := hK.1
  have hGP := hK.2
  have hK := hK.1
  have hGA := GA.of hng hGP hAx
  have hx := C.1
  have hb := C.2.1
  have hml := C.2.2.2.2.1
  have hown := C.2.2.2.2.2.1
  have hts := C.2.2.2.2.2.2
  have hS : va_S A s.heap s.heap [] := va_S.rf
  have hl : lv_has ls 5 [(0, .ref h), (1, .int (nI dn)), (2, .int (nI j))] := hl
  have hs7 := sIn07 hdn
  refine lv_aload_n hx hb dX1_element_0 rfl (lv_at hl 0 rfl) ?_
  refine lv_iload_n hx hb dX1_element_1 rfl (lv_at hl 1 rfl) ?_
  refine c_V (rest := []) C (metX1_isShelf l G h xa xi (nI dn)) 1 (lw_V q166 q168 qs2 q39 q170) (by decide +kernel) ⟨rfl, rfl⟩ ⟨(Nat.le_of_ble_eq_true rfl), (Nat.le_of_ble_eq_true rfl)⟩ (KM_mv G) (va_recv hK.1 hP (ci := 1) (q0 := 0) rfl rfl) (hP.sub (ws' := [(h, xO xa xi)]) [0] rfl) hK.1 hl rfl rfl (Nat.le_of_ble_eq_true rfl) ⟨(Nat.le_of_ble_eq_true rfl), (Nat.le_of_ble_eq_true rfl)⟩ dX1_element_2 ?_
  refine n_if_neB (b := (sIn (nI dn) 0 7)) (tgt := 16) hx hb dX1_element_5 (by decide) (fun c_1 => ?_) (fun c_1 => absurd c_1 (by simp [hs7]))
  refine lv_aload_n hx hb dX1_element_16 rfl (lv_at hl 0 rfl) ?_
  refine va_get (D := gD G) (ci := 1) (v := .ref (xa 8)) (C := RX1) (T := TX1) (N := 9) hx hb hts in_X1 hown hK.1 hP 0 rfl rfl 8 (by decide) (hts _ q846) (fun _ h9 => h9) rfl dX1_element_17 ?_
  refine lv_iload_n hx hb dX1_element_20 rfl (lv_at hl 1 rfl) ?_
  refine n_aldqS (y := sh dn) C hK.1 hP 1 5 dn rfl rfl (by omega) (by omega) rfl dX1_element_21 ?_
  refine va_get (D := gD G) (ci := 3) (v := .ref ra) (C := RX3) (T := TX3) (N := 1) hx hb hts in_X3 hown hK.1 hP 2 rfl rfl 0 (by decide) (hts _ q834) (fun _ h9 => h9) rfl dX1_element_22 ?_
  refine lv_astore_n (lv' := [(3, .ref ra), (0, .ref h), (1, .int (nI dn)), (2, .int (nI j))]) hx hb dX1_element_25 rfl hl (Nat.le_of_ble_eq_true rfl) rfl (fun ls hl => ?_)
  refine lv_aload_n hx hb dX1_element_26 rfl (lv_at hl 0 rfl) ?_
  refine n_instT (q0 := 3) C hP rfl (nmA1 hK.1) q174 dX1_element_27 ?_
  refine lv_if_eq (x := 1) (tgt := 41) hx hb dX1_element_30 (by decide) (fun c_2 => absurd c_2 (by decide)) (fun c_2 => ?_)
  refine lv_aload_n hx hb dX1_element_33 rfl (lv_at hl 0 rfl) ?_
  refine n_castT (q0 := 3) C hP rfl (nmA1 hK.1) q174 dX1_element_34 ?_
  refine lv_iload_n hx hb dX1_element_37 rfl (lv_at hl 3 rfl) ?_
  refine n_bald C hK.1 hP 3 j rfl (by omega) (by omega) dX1_element_38 ?_
  refine lv_i2l (x := rf j) (v := (rf j).toInt64) hx hb dX1_element_39 rfl ?_
  exact vx_ret (n_lretW (v := (rf j).toInt64) (w1 := [(h, xO xa xi), (xa 8, qA G 5 8 (shf sh)), (sh dn, .inr (3, [.ref ra])), (ra, tA G 1 z8 rf)]) C (⟨rfl, rfl⟩) hP hD hS (by first | omega | decide) (by first | omega | decide) dX1_element_40)

set_option maxHeartbeats 4000000 in
set_option maxRecDepth 100000 in
theorem metX1_element_s2 (l : Launch) (G : GG) (h : Nat) (xa : Nat → Nat) (xi : Nat → Int32) (sh : Nat → Nat) (gm : GM) (dn : Nat) (ra z8 : Nat) (rf : Nat → Int32) (j : Nat) (hl9 : l.stackTraces = false) (hng : NG gm [(h, xO xa xi), (xa 8, qA G 5 8 (shf sh)), (sh dn, .inr (3, [.ref ra])), (ra, tA G 2 z8 rf)]) (hdn : dn ≤ 7) (hz8 : z8 ≤ 100) (hj : j < z8) : MXl l yX1_element cX1_element 5 (some .long) [((26 : Nat), (40 : Nat), (64 : Nat), (350 : Nat)), ((41 : Nat), (55 : Nat), (64 : Nat), (350 : Nat)), ((56 : Nat), (63 : Nat), (64 : Nat), (350 : Nat)), ((26 : Nat), (40 : Nat), (74 : Nat), (144 : Nat)), ((41 : Nat), (55 : Nat), (74 : Nat), (144 : Nat)), ((56 : Nat), (63 : Nat), (74 : Nat), (144 : Nat)), ((26 : Nat), (40 : Nat), (84 : Nat), (345 : Nat)), ((41 : Nat), (55 : Nat), (84 : Nat), (345 : Nat)), ((56 : Nat), (63 : Nat), (84 : Nat), (345 : Nat))] ({ frames := 2, cells := 4, slots := 1100, locals := 43 }) [.ref h, .int (nI dn), .int (nI j)] [(h, xO xa xi), (xa 8, qA G 5 8 (shf sh)), (sh dn, .inr (3, [.ref ra])), (ra, tA G 2 z8 rf)] G (KE G gm) 4 1100 (fun rv w1 => rv = (rf j).toInt64 ∧ w1 = [(h, xO xa xi), (xa 8, qA G 5 8 (shf sh)), (sh dn, .inr (3, [.ref ra])), (ra, tA G 2 z8 rf)]) (fun _ => False) := by
  -- rows printed by wip/tools/gen.py
  refine mxl_mkg RX1 (by decide) rfl (Nat.le_of_ble_eq_true rfl) ?_
  intro p0_ e0_ s m args below meth c A C htab hA hAx hP hK hD ls hl
  have hZ : ZA A s := hK.2.2.of hP hAx
  have hM1 := hK.2.1
  have hK := hK.1
  have hGP := hK.2
  have hK := hK.1
  have hGA := GA.of hng hGP hAx
  have hx := C.1
  have hb := C.2.1
  have hml := C.2.2.2.2.1
  have hown := C.2.2.2.2.2.1
  have hts := C.2.2.2.2.2.2
  have hS : va_S A s.heap s.heap [] := va_S.rf
  have hl : lv_has ls 5 [(0, .ref h), (1, .int (nI dn)), (2, .int (nI j))] := hl
  have hs7 := sIn07 hdn
  refine lv_aload_n hx hb dX1_element_0 rfl (lv_at hl 0 rfl) ?_
  refine lv_iload_n hx hb dX1_element_1 rfl (lv_at hl 1 rfl) ?_
  refine c_V (rest := []) C (metX1_isShelf l G h xa xi (nI dn)) 1 (lw_V q166 q168 qs2 q39 q170) (by decide +kernel) ⟨rfl, rfl⟩ ⟨(Nat.le_of_ble_eq_true rfl), (Nat.le_of_ble_eq_true rfl)⟩ (KM_mv G) (va_recv hK.1 hP (ci := 1) (q0 := 0) rfl rfl) (hP.sub (ws' := [(h, xO xa xi)]) [0] rfl) hK.1 hl rfl rfl (Nat.le_of_ble_eq_true rfl) ⟨(Nat.le_of_ble_eq_true rfl), (Nat.le_of_ble_eq_true rfl)⟩ dX1_element_2 ?_
  refine n_if_neB (b := (sIn (nI dn) 0 7)) (tgt := 16) hx hb dX1_element_5 (by decide) (fun c_1 => ?_) (fun c_1 => absurd c_1 (by simp [hs7]))
  refine lv_aload_n hx hb dX1_element_16 rfl (lv_at hl 0 rfl) ?_
  refine va_get (D := gD G) (ci := 1) (v := .ref (xa 8)) (C := RX1) (T := TX1) (N := 9) hx hb hts in_X1 hown hK.1 hP 0 rfl rfl 8 (by decide) (hts _ q846) (fun _ h9 => h9) rfl dX1_element_17 ?_
  refine lv_iload_n hx hb dX1_element_20 rfl (lv_at hl 1 rfl) ?_
  refine n_aldqS (y := sh dn) C hK.1 hP 1 5 dn rfl rfl (by omega) (by omega) rfl dX1_element_21 ?_
  refine va_get (D := gD G) (ci := 3) (v := .ref ra) (C := RX3) (T := TX3) (N := 1) hx hb hts in_X3 hown hK.1 hP 2 rfl rfl 0 (by decide) (hts _ q834) (fun _ h9 => h9) rfl dX1_element_22 ?_
  refine lv_astore_n (lv' := [(3, .ref ra), (0, .ref h), (1, .int (nI dn)), (2, .int (nI j))]) hx hb dX1_element_25 rfl hl (Nat.le_of_ble_eq_true rfl) rfl (fun ls hl => ?_)
  refine lv_aload_n hx hb dX1_element_26 rfl (lv_at hl 0 rfl) ?_
  refine n_instF (q0 := 3) (n2 := "[S") C hK.2 hP rfl (nmA2 hK.1) (by decide +kernel) q174 dX1_element_27 ?_
  refine lv_if_eq (x := 0) (tgt := 41) hx hb dX1_element_30 (by decide) (fun c_2 => ?_) (fun c_2 => absurd c_2 (by decide))
  refine lv_aload_n hx hb dX1_element_41 rfl (lv_at hl 0 rfl) ?_
  refine n_instT (q0 := 3) C hP rfl (nmA2 hK.1) q674 dX1_element_42 ?_
  refine lv_if_eq (x := 1) (tgt := 56) hx hb dX1_element_45 (by decide) (fun c_3 => absurd c_3 (by decide)) (fun c_3 => ?_)
  refine lv_aload_n hx hb dX1_element_48 rfl (lv_at hl 0 rfl) ?_
  refine n_castT (q0 := 3) C hP rfl (nmA2 hK.1) q674 dX1_element_49 ?_
  refine lv_iload_n hx hb dX1_element_52 rfl (lv_at hl 3 rfl) ?_
  refine n_sald C hK.1 hP 3 j rfl (by omega) (by omega) dX1_element_53 ?_
  refine lv_i2l (x := rf j) (v := (rf j).toInt64) hx hb dX1_element_54 rfl ?_
  exact vx_ret (n_lretW (v := (rf j).toInt64) (w1 := [(h, xO xa xi), (xa 8, qA G 5 8 (shf sh)), (sh dn, .inr (3, [.ref ra])), (ra, tA G 2 z8 rf)]) C (⟨rfl, rfl⟩) hP hD hS (by first | omega | decide) (by first | omega | decide) dX1_element_55)

set_option maxHeartbeats 4000000 in
set_option maxRecDepth 100000 in
theorem metX0_element_b (l : Launch) (G : GG) (h : Nat) (xa : Nat → Nat) (xi : Nat → Int32) (sh : Nat → Nat) (gm : GM) (d i : Int32) (ro : Nat) (out : Nat → Int64) (hl9 : l.stackTraces = false) (hng : NG gm [(h, xO xa xi), (ro, lA G 1 out)]) (hbad : sIn d 0 7 = false) : MWh l yX0_element cX0_element 5 (some .int) [((0 : Nat), (9 : Nat), (12 : Nat), (13 : Nat)), ((0 : Nat), (9 : Nat), (16 : Nat), (15 : Nat))] ({ frames := 7, cells := 4, slots := 1100, locals := 224 }) [.ref h, .int d, .int i, .ref ro] [(h, xO xa xi), (ro, lA G 1 out)] G (KE G gm) 4 1100 (fun rv w1 => rv = 1 ∧ w1 = [(h, xO xa xi), (ro, lA G 1 out)]) := by
  -- rows printed by wip/tools/gen.py
  refine mwh_mkg RX0 (by decide) rfl (Nat.le_of_ble_eq_true rfl) ?_
  intro p0_ e0_ s m args below meth c A C htab hA hAx hP hK hD ls hl
  have hZ : ZA A s := hK.2.2.of hP hAx
  have hM1 := hK.2.1
  have hK := hK.1
  have hGP := hK.2
  have hK := hK.1
  have hGA := GA.of hng hGP hAx
  have hx := C.1
  have hb := C.2.1
  have hml := C.2.2.2.2.1
  have hown := C.2.2.2.2.2.1
  have hts := C.2.2.2.2.2.2
  have hS : va_S A s.heap s.heap [] := va_S.rf
  have hl : lv_has ls 5 [(0, .ref h), (1, .int d), (2, .int i), (3, .ref ro)] := hl
  refine lv_aload_n hx hb dX0_element_0 rfl (lv_at hl 3 rfl) ?_
  refine lv_iconst (v := 0) hx hb dX0_element_1 (by decide) ?_
  refine lv_aload_n hx hb dX0_element_2 rfl (lv_at hl 0 rfl) ?_
  refine lv_iload_n hx hb dX0_element_3 rfl (lv_at hl 1 rfl) ?_
  refine lv_iload_n hx hb dX0_element_4 rfl (lv_at hl 2 rfl) ?_
  refine c_VXlP (X := [(h, xO xa xi), (ro, lA G 1 out)]) (pl := []) (wr := [(ro, lA G 1 out)]) (rest := [.int 0, .ref ro]) C (metX1_element_b l G h xa xi sh gm d i hl9 (NG.of hGA hD [0] rfl) (hbad)) 2 (lw_VW q1033 q1034 q1035 q39 q1036) (by decide +kernel) ⟨rfl, rfl⟩ ⟨(Nat.le_of_ble_eq_true rfl), (Nat.le_of_ble_eq_true rfl)⟩ (KE.call) (KE.at hK (hGP.kept hGA hS) hM1 hZ hS) (va_recv hK.1 hP (ci := 1) (q0 := 0) rfl rfl) hA hP hD hS [0] [1] rfl rfl rfl rfl (by decide) hl rfl rfl (Nat.le_of_ble_eq_true rfl) ⟨(Nat.le_of_ble_eq_true rfl), (Nat.le_of_ble_eq_true rfl)⟩ dX0_element_5 (fun E ce q9 H locs hpx hP hD hS hce hcv hcl => ?_) (fun r_1 w1 H locs hq_2 hP hD hS => ?_)
  · have hpx : E = "java/lang/IllegalArgumentException" := hpx
    subst hpx
    have hP : PP G [(ro, lA G 1 out), (h, xO xa xi)] H := hP
    have hD : va_D A [(ro, lA G 1 out), (h, xO xa xi)] := hD
    refine x_catch (E := "java/lang/IllegalArgumentException") (name := "java/lang/IllegalArgumentException") C hK.2 htab [] ⟨0, 9, 12, 13⟩ [⟨0, 9, 16, 15⟩] rfl (fun _ h9 => nomatch h9) (by decide) (by decide) q1031 (by decide +kernel) hce hcv hcl ?_
    refine lv_astore (lv' := [(4, .ref q9), (0, .ref h), (1, .int d), (2, .int i), (3, .ref ro)]) hx hb dX0_element_12 hl (Nat.le_of_ble_eq_true rfl) rfl (fun ls hl => ?_)
    refine lv_iconst (v := 1) hx hb dX0_element_14 (by decide) ?_
    exact n_iretW (v := 1) (w1 := [(h, xO xa xi), (ro, lA G 1 out)]) C (⟨rfl, rfl⟩) (hP.sub (ws' := [(h, xO xa xi), (ro, lA G 1 out)]) [1, 0] rfl) (hD.sub (ws' := [(h, xO xa xi), (ro, lA G 1 out)]) [1, 0] (by decide) rfl) hS (by first | omega | decide) (by first | omega | decide) dX0_element_15
  exact hq_2.elim

set_option maxHeartbeats 4000000 in
set_option maxRecDepth 100000 in
theorem metX0_element_n (l : Launch) (G : GG) (h : Nat) (xa : Nat → Nat) (xi : Nat → Int32) (sh : Nat → Nat) (gm : GM) (dn : Nat) (i : Int32) (ro : Nat) (out : Nat → Int64) (hl9 : l.stackTraces = false) (hng : NG gm [(h, xO xa xi), (xa 8, qA G 5 8 (shf sh)), (sh dn, .inr (3, [.null])), (ro, lA G 1 out)]) (hdn : dn ≤ 7) : MWh l yX0_element cX0_element 5 (some .int) [((0 : Nat), (9 : Nat), (12 : Nat), (13 : Nat)), ((0 : Nat), (9 : Nat), (16 : Nat), (15 : Nat))] ({ frames := 10, cells := 4, slots := 1100, locals := 10424 }) [.ref h, .int (nI dn), .int i, .ref ro] [(h, xO xa xi), (xa 8, qA G 5 8 (shf sh)), (sh dn, .inr (3, [.null])), (ro, lA G 1 out)] G (KE G gm) 4 1100 (fun rv w1 => rv = 2 ∧ w1 = [(h, xO xa xi), (xa 8, qA G 5 8 (shf sh)), (sh dn, .inr (3, [.null])), (ro, lA G 1 out)]) := by
  -- rows printed by wip/tools/gen.py
  refine mwh_mkg RX0 (by decide) rfl (Nat.le_of_ble_eq_true rfl) ?_
  intro p0_ e0_ s m args below meth c A C htab hA hAx hP hK hD ls hl
  have hZ : ZA A s := hK.2.2.of hP hAx
  have hM1 := hK.2.1
  have hK := hK.1
  have hGP := hK.2
  have hK := hK.1
  have hGA := GA.of hng hGP hAx
  have hx := C.1
  have hb := C.2.1
  have hml := C.2.2.2.2.1
  have hown := C.2.2.2.2.2.1
  have hts := C.2.2.2.2.2.2
  have hS : va_S A s.heap s.heap [] := va_S.rf
  have hl : lv_has ls 5 [(0, .ref h), (1, .int (nI dn)), (2, .int i), (3, .ref ro)] := hl
  refine lv_aload_n hx hb dX0_element_0 rfl (lv_at hl 3 rfl) ?_
  refine lv_iconst (v := 0) hx hb dX0_element_1 (by decide) ?_
  refine lv_aload_n hx hb dX0_element_2 rfl (lv_at hl 0 rfl) ?_
  refine lv_iload_n hx hb dX0_element_3 rfl (lv_at hl 1 rfl) ?_
  refine lv_iload_n hx hb dX0_element_4 rfl (lv_at hl 2 rfl) ?_
  refine c_VXlP (X := [(h, xO xa xi), (xa 8, qA G 5 8 (shf sh)), (sh dn, .inr (3, [.null])), (ro, lA G 1 out)]) (pl := []) (wr := [(ro, lA G 1 out)]) (rest := [.int 0, .ref ro]) C (metX1_element_n l G h xa xi sh gm dn i hl9 (NG.of hGA hD [0, 1, 2] rfl) (by omega)) 2 (lw_VW q1033 q1034 q1035 q39 q1036) (by decide +kernel) ⟨rfl, rfl⟩ ⟨(Nat.le_of_ble_eq_true rfl), (Nat.le_of_ble_eq_true rfl)⟩ (KE.call) (KE.at hK (hGP.kept hGA hS) hM1 hZ hS) (va_recv hK.1 hP (ci := 1) (q0 := 0) rfl rfl) hA hP hD hS [0, 1, 2] [3] rfl rfl rfl rfl (by decide) hl rfl rfl (Nat.le_of_ble_eq_true rfl) ⟨(Nat.le_of_ble_eq_true rfl), (Nat.le_of_ble_eq_true rfl)⟩ dX0_element_5 (fun E ce q9 H locs hpx hP hD hS hce hcv hcl => ?_) (fun r_1 w1 H locs hq_2 hP hD hS => ?_)
  · have hpx : E = "java/lang/IllegalStateException" := hpx
    subst hpx
    have hP : PP G [(ro, lA G 1 out), (h, xO xa xi), (xa 8, qA G 5 8 (shf sh)), (sh dn, .inr (3, [.null]))] H := hP
    have hD : va_D A [(ro, lA G 1 out), (h, xO xa xi), (xa 8, qA G 5 8 (shf sh)), (sh dn, .inr (3, [.null]))] := hD
    refine x_catch (E := "java/lang/IllegalStateException") (name := "java/lang/IllegalStateException") C hK.2 htab [⟨0, 9, 12, 13⟩] ⟨0, 9, 16, 15⟩ [] rfl (fun z h9 => by simp only [List.mem_cons, List.not_mem_nil, or_false] at h9; rcases h9 with rfl <;> first | exact Or.inl (by decide) | exact Or.inr ⟨by decide, _, q1031, by decide +kernel⟩) (by decide) (by decide) q1032 (by decide +kernel) hce hcv hcl ?_
    refine lv_astore (lv' := [(4, .ref q9), (0, .ref h), (1, .int (nI dn)), (2, .int i), (3, .ref ro)]) hx hb dX0_element_16 hl (Nat.le_of_ble_eq_true rfl) rfl (fun ls hl => ?_)
    refine lv_iconst (v := 2) hx hb dX0_element_18 (by decide) ?_
    exact n_iretW (v := 2) (w1 := [(h, xO xa xi), (xa 8, qA G 5 8 (shf sh)), (sh dn, .inr (3, [.null])), (ro, lA G 1 out)]) C (⟨rfl, rfl⟩) (hP.sub (ws' := [(h, xO xa xi), (xa 8, qA G 5 8 (shf sh)), (sh dn, .inr (3, [.null])), (ro, lA G 1 out)]) [1, 2, 3, 0] rfl) (hD.sub (ws' := [(h, xO xa xi), (xa 8, qA G 5 8 (shf sh)), (sh dn, .inr (3, [.null])), (ro, lA G 1 out)]) [1, 2, 3, 0] (by decide) rfl) hS (by first | omega | decide) (by first | omega | decide) dX0_element_19
  exact hq_2.elim

set_option maxHeartbeats 4000000 in
set_option maxRecDepth 100000 in
theorem metX0_element_g (l : Launch) (G : GG) (h : Nat) (xa : Nat → Nat) (xi : Nat → Int32) (sh : Nat → Nat) (gm : GM) (dn : Nat) (i : Int32) (y k : Nat) (v : Int32) (ro : Nat) (out : Nat → Int64) (hl9 : l.stackTraces = false) (hng : NG gm [(h, xO xa xi), (xa 8, qA G 5 8 (shf sh)), (sh dn, .inr (3, [.ref y])), (ro, lA G 1 out)]) (hdn : dn ≤ 7) (hy : gm y = some (k, v)) : MWh l yX0_element cX0_element 5 (some .int) [((0 : Nat), (9 : Nat), (12 : Nat), (13 : Nat)), ((0 : Nat), (9 : Nat), (16 : Nat), (15 : Nat))] ({ frames := 10, cells := 4, slots := 1100, locals := 10424 }) [.ref h, .int (nI dn), .int i, .ref ro] [(h, xO xa xi), (xa 8, qA G 5 8 (shf sh)), (sh dn, .inr (3, [.ref y])), (ro, lA G 1 out)] G (KE G gm) 4 1100 (fun rv w1 => rv = 2 ∧ w1 = [(h, xO xa xi), (xa 8, qA G 5 8 (shf sh)), (sh dn, .inr (3, [.ref y])), (ro, lA G 1 out)]) := by
  -- rows printed by wip/tools/gen.py
  refine mwh_mkg RX0 (by decide) rfl (Nat.le_of_ble_eq_true rfl) ?_
  intro p0_ e0_ s m args below meth c A C htab hA hAx hP hK hD ls hl
  have hZ : ZA A s := hK.2.2.of hP hAx
  have hM1 := hK.2.1
  have hK := hK.1
  have hGP := hK.2
  have hK := hK.1
  have hGA := GA.of hng hGP hAx
  have hx := C.1
  have hb := C.2.1
  have hml := C.2.2.2.2.1
  have hown := C.2.2.2.2.2.1
  have hts := C.2.2.2.2.2.2
  have hS : va_S A s.heap s.heap [] := va_S.rf
  have hl : lv_has ls 5 [(0, .ref h), (1, .int (nI dn)), (2, .int i), (3, .ref ro)] := hl
  refine lv_aload_n hx hb dX0_element_0 rfl (lv_at hl 3 rfl) ?_
  refine lv_iconst (v := 0) hx hb dX0_element_1 (by decide) ?_
  refine lv_aload_n hx hb dX0_element_2 rfl (lv_at hl 0 rfl) ?_
  refine lv_iload_n hx hb dX0_element_3 rfl (lv_at hl 1 rfl) ?_
  refine lv_iload_n hx hb dX0_element_4 rfl (lv_at hl 2 rfl) ?_
  refine c_VXlP (X := [(h, xO xa xi), (xa 8, qA G 5 8 (shf sh)), (sh dn, .inr (3, [.ref y])), (ro, lA G 1 out)]) (pl := []) (wr := [(ro, lA G 1 out)]) (rest := [.int 0, .ref ro]) C (metX1_element_g l G h xa xi sh gm dn i y k v hl9 (NG.of hGA hD [0, 1, 2] rfl) (by omega) (hy)) 2 (lw_VW q1033 q1034 q1035 q39 q1036) (by decide +kernel) ⟨rfl, rfl⟩ ⟨(Nat.le_of_ble_eq_true rfl), (Nat.le_of_ble_eq_true rfl)⟩ (KE.call) (KE.at hK (hGP.kept hGA hS) hM1 hZ hS) (va_recv hK.1 hP (ci := 1) (q0 := 0) rfl rfl) hA hP hD hS [0, 1, 2] [3] rfl rfl rfl rfl (by decide) hl rfl rfl (Nat.le_of_ble_eq_true rfl) ⟨(Nat.le_of_ble_eq_true rfl), (Nat.le_of_ble_eq_true rfl)⟩ dX0_element_5 (fun E ce q9 H locs hpx hP hD hS hce hcv hcl => ?_) (fun r_1 w1 H locs hq_2 hP hD hS => ?_)
  · have hpx : E = "java/lang/IllegalStateException" := hpx
    subst hpx
    have hP : PP G [(ro, lA G 1 out), (h, xO xa xi), (xa 8, qA G 5 8 (shf sh)), (sh dn, .inr (3, [.ref y]))] H := hP
    have hD : va_D A [(ro, lA G 1 out), (h, xO xa xi), (xa 8, qA G 5 8 (shf sh)), (sh dn, .inr (3, [.ref y]))] := hD
    refine x_catch (E := "java/lang/IllegalStateException") (name := "java/lang/IllegalStateException") C hK.2 htab [⟨0, 9, 12, 13⟩] ⟨0, 9, 16, 15⟩ [] rfl (fun z h9 => by simp only [List.mem_cons, List.not_mem_nil, or_false] at h9; rcases h9 with rfl <;> first | exact Or.inl (by decide) | exact Or.inr ⟨by decide, _, q1031, by decide +kernel⟩) (by decide) (by decide) q1032 (by decide +kernel) hce hcv hcl ?_
    refine lv_astore (lv' := [(4, .ref q9), (0, .ref h), (1, .int (nI dn)), (2, .int i), (3, .ref ro)]) hx hb dX0_element_16 hl (Nat.le_of_ble_eq_true rfl) rfl (fun ls hl => ?_)
    refine lv_iconst (v := 2) hx hb dX0_element_18 (by decide) ?_
    exact n_iretW (v := 2) (w1 := [(h, xO xa xi), (xa 8, qA G 5 8 (shf sh)), (sh dn, .inr (3, [.ref y])), (ro, lA G 1 out)]) C (⟨rfl, rfl⟩) (hP.sub (ws' := [(h, xO xa xi), (xa 8, qA G 5 8 (shf sh)), (sh dn, .inr (3, [.ref y])), (ro, lA G 1 out)]) [1, 2, 3, 0] rfl) (hD.sub (ws' := [(h, xO xa xi), (xa 8, qA G 5 8 (shf sh)), (sh dn, .inr (3, [.ref y])), (ro, lA G 1 out)]) [1, 2, 3, 0] (by decide) rfl) hS (by first | omega | decide) (by first | omega | decide) dX0_element_19
  exact hq_2.elim

set_option maxHeartbeats 4000000 in
set_option maxRecDepth 100000 in
theorem metX0_element_r0 (l : Launch) (G : GG) (h : Nat) (xa : Nat → Nat) (xi : Nat → Int32) (sh : Nat → Nat) (gm : GM) (dn : Nat) (ra z8 : Nat) (rf : Nat → Int32) (j : Nat) (ro : Nat) (out : Nat → Int64) (hl9 : l.stackTraces = false) (hng : NG gm [(h, xO xa xi), (xa 8, qA G 5 8 (shf sh)), (sh dn, .inr (3, [.ref ra])), (ra, tA G 0 z8 rf), (ro, lA G 1 out)]) (hdn : dn ≤ 7) (hz8 : z8 ≤ 100) (hj : j < z8) : MWh l yX0_element cX0_element 5 (some .int) [((0 : Nat), (9 : Nat), (12 : Nat), (13 : Nat)), ((0 : Nat), (9 : Nat), (16 : Nat), (15 : Nat))] ({ frames := 3, cells := 4, slots := 1100, locals := 67 }) [.ref h, .int (nI dn), .int (nI j), .ref ro] [(h, xO xa xi), (xa 8, qA G 5 8 (shf sh)), (sh dn, .inr (3, [.ref ra])), (ra, tA G 0 z8 rf), (ro, lA G 1 out)] G (KE G gm) 4 1100 (fun rv w1 => rv = 0 ∧ w1 = [(h, xO xa xi), (xa 8, qA G 5 8 (shf sh)), (sh dn, .inr (3, [.ref ra])), (ra, tA G 0 z8 rf), (ro, lA G 1 (vp_updL out 0 ((rf j).toInt64)))]) := by
  -- rows printed by wip/tools/gen.py
  refine mwh_mkg RX0 (by decide) rfl (Nat.le_of_ble_eq_true rfl) ?_
  intro p0_ e0_ s m args below meth c A C htab hA hAx hP hK hD ls hl
  have hZ : ZA A s := hK.2.2.of hP hAx
  have hM1 := hK.2.1
  have hK := hK.1
  have hGP := hK.2
  have hK := hK.1
  have hGA := GA.of hng hGP hAx
  have hx := C.1
  have hb := C.2.1
  have hml := C.2.2.2.2.1
  have hown := C.2.2.2.2.2.1
  have hts := C.2.2.2.2.2.2
  have hS : va_S A s.heap s.heap [] := va_S.rf
  have hl : lv_has ls 5 [(0, .ref h), (1, .int (nI dn)), (2, .int (nI j)), (3, .ref ro)] := hl
  refine lv_aload_n hx hb dX0_element_0 rfl (lv_at hl 3 rfl) ?_
  refine lv_iconst (v := 0) hx hb dX0_element_1 (by decide) ?_
  refine lv_aload_n hx hb dX0_element_2 rfl (lv_at hl 0 rfl) ?_
  refine lv_iload_n hx hb dX0_element_3 rfl (lv_at hl 1 rfl) ?_
  refine lv_iload_n hx hb dX0_element_4 rfl (lv_at hl 2 rfl) ?_
  refine c_VXlP (X := [(h, xO xa xi), (xa 8, qA G 5 8 (shf sh)), (sh dn, .inr (3, [.ref ra])), (ra, tA G 0 z8 rf), (ro, lA G 1 out)]) (pl := []) (wr := [(ro, lA G 1 out)]) (rest := [.int 0, .ref ro]) C (metX1_element_s0 l G h xa xi sh gm dn ra z8 rf j hl9 (NG.of hGA hD [0, 1, 2, 3] rfl) (by omega) (by omega) (by omega)) 2 (lw_VW q1033 q1034 q1035 q39 q1036) (by decide +kernel) ⟨rfl, rfl⟩ ⟨(Nat.le_of_ble_eq_true rfl), (Nat.le_of_ble_eq_true rfl)⟩ (KE.call) (KE.at hK (hGP.kept hGA hS) hM1 hZ hS) (va_recv hK.1 hP (ci := 1) (q0 := 0) rfl rfl) hA hP hD hS [0, 1, 2, 3] [4] rfl rfl rfl rfl (by decide) hl rfl rfl (Nat.le_of_ble_eq_true rfl) ⟨(Nat.le_of_ble_eq_true rfl), (Nat.le_of_ble_eq_true rfl)⟩ dX0_element_5 (fun E ce q9 H locs hpx hP hD hS hce hcv hcl => ?_) (fun r_1 w1 H locs hq_2 hP hD hS => ?_)
  · exact hpx.elim
  obtain ⟨rfl, rfl⟩ := hq_2
  have hP : PP G [(ro, lA G 1 out), (h, xO xa xi), (xa 8, qA G 5 8 (shf sh)), (sh dn, .inr (3, [.ref ra])), (ra, tA G 0 z8 rf)] H := hP
  have hD : va_D A [(ro, lA G 1 out), (h, xO xa xi), (xa 8, qA G 5 8 (shf sh)), (sh dn, .inr (3, [.ref ra])), (ra, tA G 0 z8 rf)] := hD
  refine n_last0 (x := (rf j).toInt64) C hK.1 hP hD hS 0 rfl dX0_element_8 (fun H locs hP hD hS => ?_)
  have hP : PP G [(ro, lA G 1 (vp_updL out 0 ((rf j).toInt64))), (h, xO xa xi), (xa 8, qA G 5 8 (shf sh)), (sh dn, .inr (3, [.ref ra])), (ra, tA G 0 z8 rf)] H := hP
  have hD : va_D A [(ro, lA G 1 (vp_updL out 0 ((rf j).toInt64))), (h, xO xa xi), (xa 8, qA G 5 8 (shf sh)), (sh dn, .inr (3, [.ref ra])), (ra, tA G 0 z8 rf)] := hD
  refine lv_goto (tgt := 20) hx hb dX0_element_9 (by decide) ?_
  refine lv_iconst (v := 0) hx hb dX0_element_20 (by decide) ?_
  exact n_iretW (v := 0) (w1 := [(h, xO xa xi), (xa 8, qA G 5 8 (shf sh)), (sh dn, .inr (3, [.ref ra])), (ra, tA G 0 z8 rf), (ro, lA G 1 (vp_updL out 0 ((rf j).toInt64)))]) C (⟨rfl, rfl⟩) (hP.sub (ws' := [(h, xO xa xi), (xa 8, qA G 5 8 (shf sh)), (sh dn, .inr (3, [.ref ra])), (ra, tA G 0 z8 rf), (ro, lA G 1 (vp_updL out 0 ((rf j).toInt64)))]) [1, 2, 3, 4, 0] rfl) (hD.sub (ws' := [(h, xO xa xi), (xa 8, qA G 5 8 (shf sh)), (sh dn, .inr (3, [.ref ra])), (ra, tA G 0 z8 rf), (ro, lA G 1 (vp_updL out 0 ((rf j).toInt64)))]) [1, 2, 3, 4, 0] (by decide) rfl) hS (by first | omega | decide) (by first | omega | decide) dX0_element_21

set_option maxHeartbeats 4000000 in
set_option maxRecDepth 100000 in
theorem metX0_element_o0 (l : Launch) (G : GG) (h : Nat) (xa : Nat → Nat) (xi : Nat → Int32) (sh : Nat → Nat) (gm : GM) (dn : Nat) (ra z8 : Nat) (rf : Nat → Int32) (i : Int32) (ro : Nat) (out : Nat → Int64) (hl9 : l.stackTraces = false) (hng : NG gm [(h, xO xa xi), (xa 8, qA G 5 8 (shf sh)), (sh dn, .inr (3, [.ref ra])), (ra, tA G 0 z8 rf), (ro, lA G 1 out)]) (hdn : dn ≤ 7) (hz8 : z8 ≤ 100) (hout : ¬ vp_in i z8) : MWh l yX0_element cX0_element 5 (some .int) [((0 : Nat), (9 : Nat), (12 : Nat), (13 : Nat)), ((0 : Nat), (9 : Nat), (16 : Nat), (15 : Nat))] ({ frames := 10, cells := 4, slots := 1100, locals := 10424 }) [.ref h, .int (nI dn), .int i, .ref ro] [(h, xO xa xi), (xa 8, qA G 5 8 (shf sh)), (sh dn, .inr (3, [.ref ra])), (ra, tA G 0 z8 rf), (ro, lA G 1 out)] G (KE G gm) 4 1100 (fun rv w1 => rv = 2 ∧ w1 = [(h, xO xa xi), (xa 8, qA G 5 8 (shf sh)), (sh dn, .inr (3, [.ref ra])), (ra, tA G 0 z8 rf), (ro, lA G 1 out)]) := by
  -- rows printed by wip/tools/gen.py
  refine mwh_mkg RX0 (by decide) rfl (Nat.le_of_ble_eq_true rfl) ?_
  intro p0_ e0_ s m args below meth c A C htab hA hAx hP hK hD ls hl
  have hZ : ZA A s := hK.2.2.of hP hAx
  have hM1 := hK.2.1
  have hK := hK.1
  have hGP := hK.2
  have hK := hK.1
  have hGA := GA.of hng hGP hAx
  have hx := C.1
  have hb := C.2.1
  have hml := C.2.2.2.2.1
  have hown := C.2.2.2.2.2.1
  have hts := C.2.2.2.2.2.2
  have hS : va_S A s.heap s.heap [] := va_S.rf
  have hl : lv_has ls 5 [(0, .ref h), (1, .int (nI dn)), (2, .int i), (3, .ref ro)] := hl
  refine lv_aload_n hx hb dX0_element_0 rfl (lv_at hl 3 rfl) ?_
  refine lv_iconst (v := 0) hx hb dX0_element_1 (by decide) ?_
  refine lv_aload_n hx hb dX0_element_2 rfl (lv_at hl 0 rfl) ?_
  refine lv_iload_n hx hb dX0_element_3 rfl (lv_at hl 1 rfl) ?_
  refine lv_iload_n hx hb dX0_element_4 rfl (lv_at hl 2 rfl) ?_
  refine c_VXlP (X := [(h, xO xa xi), (xa 8, qA G 5 8 (shf sh)), (sh dn, .inr (3, [.ref ra])), (ra, tA G 0 z8 rf), (ro, lA G 1 out)]) (pl := []) (wr := [(ro, lA G 1 out)]) (rest := [.int 0, .ref ro]) C (metX1_element_o0 l G h xa xi sh gm dn ra z8 rf i hl9 (NG.of hGA hD [0, 1, 2, 3] rfl) (by omega) (by omega) (hout)) 2 (lw_VW q1033 q1034 q1035 q39 q1036) (by decide +kernel) ⟨rfl, rfl⟩ ⟨(Nat.le_of_ble_eq_true rfl), (Nat.le_of_ble_eq_true rfl)⟩ (KE.call) (KE.at hK (hGP.kept hGA hS) hM1 hZ hS) (va_recv hK.1 hP (ci := 1) (q0 := 0) rfl rfl) hA hP hD hS [0, 1, 2, 3] [4] rfl rfl rfl rfl (by decide) hl rfl rfl (Nat.le_of_ble_eq_true rfl) ⟨(Nat.le_of_ble_eq_true rfl), (Nat.le_of_ble_eq_true rfl)⟩ dX0_element_5 (fun E ce q9 H locs hpx hP hD hS hce hcv hcl => ?_) (fun r_1 w1 H locs hq_2 hP hD hS => ?_)
  · have hpx : E = "java/lang/IllegalStateException" := hpx
    subst hpx
    have hP : PP G [(ro, lA G 1 out), (h, xO xa xi), (xa 8, qA G 5 8 (shf sh)), (sh dn, .inr (3, [.ref ra])), (ra, tA G 0 z8 rf)] H := hP
    have hD : va_D A [(ro, lA G 1 out), (h, xO xa xi), (xa 8, qA G 5 8 (shf sh)), (sh dn, .inr (3, [.ref ra])), (ra, tA G 0 z8 rf)] := hD
    refine x_catch (E := "java/lang/IllegalStateException") (name := "java/lang/IllegalStateException") C hK.2 htab [⟨0, 9, 12, 13⟩] ⟨0, 9, 16, 15⟩ [] rfl (fun z h9 => by simp only [List.mem_cons, List.not_mem_nil, or_false] at h9; rcases h9 with rfl <;> first | exact Or.inl (by decide) | exact Or.inr ⟨by decide, _, q1031, by decide +kernel⟩) (by decide) (by decide) q1032 (by decide +kernel) hce hcv hcl ?_
    refine lv_astore (lv' := [(4, .ref q9), (0, .ref h), (1, .int (nI dn)), (2, .int i), (3, .ref ro)]) hx hb dX0_element_16 hl (Nat.le_of_ble_eq_true rfl) rfl (fun ls hl => ?_)
    refine lv_iconst (v := 2) hx hb dX0_element_18 (by decide) ?_
    exact n_iretW (v := 2) (w1 := [(h, xO xa xi), (xa 8, qA G 5 8 (shf sh)), (sh dn, .inr (3, [.ref ra])), (ra, tA G 0 z8 rf), (ro, lA G 1 out)]) C (⟨rfl, rfl⟩) (hP.sub (ws' := [(h, xO xa xi), (xa 8, qA G 5 8 (shf sh)), (sh dn, .inr (3, [.ref ra])), (ra, tA G 0 z8 rf), (ro, lA G 1 out)]) [1, 2, 3, 4, 0] rfl) (hD.sub (ws' := [(h, xO xa xi), (xa 8, qA G 5 8 (shf sh)), (sh dn, .inr (3, [.ref ra])), (ra, tA G 0 z8 rf), (ro, lA G 1 out)]) [1, 2, 3, 4, 0] (by decide) rfl) hS (by first | omega | decide) (by first | omega | decide) dX0_element_19
  exact hq_2.elim

set_option maxHeartbeats 4000000 in
set_option maxRecDepth 100000 in
theorem metX0_element_r1 (l : Launch) (G : GG) (h : Nat) (xa : Nat → Nat) (xi : Nat → Int32) (sh : Nat → Nat) (gm : GM) (dn : Nat) (ra z8 : Nat) (rf : Nat → Int32) (j : Nat) (ro : Nat) (out : Nat → Int64) (hl9 : l.stackTraces = false) (hng : NG gm [(h, xO xa xi), (xa 8, qA G 5 8 (shf sh)), (sh dn, .inr (3, [.ref ra])), (ra, tA G 1 z8 rf), (ro, lA G 1 out)]) (hdn : dn ≤ 7) (hz8 : z8 ≤ 100) (hj : j < z8) : MWh l yX0_element cX0_element 5 (some .int) [((0 : Nat), (9 : Nat), (12 : Nat), (13 : Nat)), ((0 : Nat), (9 : Nat), (16 : Nat), (15 : Nat))] ({ frames := 3, cells := 4, slots := 1100, locals := 67 }) [.ref h, .int (nI dn), .int (nI j), .ref ro] [(h, xO xa xi), (xa 8, qA G 5 8 (shf sh)), (sh dn, .inr (3, [.ref ra])), (ra, tA G 1 z8 rf), (ro, lA G 1 out)] G (KE G gm) 4 1100 (fun rv w1 => rv = 0 ∧ w1 = [(h, xO xa xi), (xa 8, qA G 5 8 (shf sh)), (sh dn, .inr (3, [.ref ra])), (ra, tA G 1 z8 rf), (ro, lA G 1 (vp_updL out 0 ((rf j).toInt64)))]) := by
  -- rows printed by wip/tools/gen.py
  refine mwh_mkg RX0 (by decide) rfl (Nat.le_of_ble_eq_true rfl) ?_
  intro p0_ e0_ s m args below meth c A C htab hA hAx hP hK hD ls hl
  have hZ : ZA A s := hK.2.2.of hP hAx
  have hM1 := hK.2.1
  have hK := hK.1
  have hGP := hK.2
  have hK := hK.1
  have hGA := GA.of hng hGP hAx
  have hx := C.1
  have hb := C.2.1
  have hml := C.2.2.2.2.1
  have hown := C.2.2.2.2.2.1
  have hts := C.2.2.2.2.2.2
  have hS : va_S A s.heap s.heap [] := va_S.rf
  have hl : lv_has ls 5 [(0, .ref h), (1, .int (nI dn)), (2, .int (nI j)), (3, .ref ro)] := hl
  refine lv_aload_n hx hb dX0_element_0 rfl (lv_at hl 3 rfl) ?_
  refine lv_iconst (v := 0) hx hb dX0_element_1 (by decide) ?_
  refine lv_aload_n hx hb dX0_element_2 rfl (lv_at hl 0 rfl) ?_
  refine lv_iload_n hx hb dX0_element_3 rfl (lv_at hl 1 rfl) ?_
  refine lv_iload_n hx hb dX0_element_4 rfl (lv_at hl 2 rfl) ?_
  refine c_VXlP (X := [(h, xO xa xi), (xa 8, qA G 5 8 (shf sh)), (sh dn, .inr (3, [.ref ra])), (ra, tA G 1 z8 rf), (ro, lA G 1 out)]) (pl := []) (wr := [(ro, lA G 1 out)]) (rest := [.int 0, .ref ro]) C (metX1_element_s1 l G h xa xi sh gm dn ra z8 rf j hl9 (NG.of hGA hD [0, 1, 2, 3] rfl) (by omega) (by omega) (by omega)) 2 (lw_VW q1033 q1034 q1035 q39 q1036) (by decide +kernel) ⟨rfl, rfl⟩ ⟨(Nat.le_of_ble_eq_true rfl), (Nat.le_of_ble_eq_true rfl)⟩ (KE.call) (KE.at hK (hGP.kept hGA hS) hM1 hZ hS) (va_recv hK.1 hP (ci := 1) (q0 := 0) rfl rfl) hA hP hD hS [0, 1, 2, 3] [4] rfl rfl rfl rfl (by decide) hl rfl rfl (Nat.le_of_ble_eq_true rfl) ⟨(Nat.le_of_ble_eq_true rfl), (Nat.le_of_ble_eq_true rfl)⟩ dX0_element_5 (fun E ce q9 H locs hpx hP hD hS hce hcv hcl => ?_) (fun r_1 w1 H locs hq_2 hP hD hS => ?_)
  · exact hpx.elim
  obtain ⟨rfl, rfl⟩ := hq_2
  have hP : PP G [(ro, lA G 1 out), (h, xO xa xi), (xa 8, qA G 5 8 (shf sh)), (sh dn, .inr (3, [.ref ra])), (ra, tA G 1 z8 rf)] H := hP
  have hD : va_D A [(ro, lA G 1 out), (h, xO xa xi), (xa 8, qA G 5 8 (shf sh)), (sh dn, .inr (3, [.ref ra])), (ra, tA G 1 z8 rf)] := hD
  refine n_last0 (x := (rf j).toInt64) C hK.1 hP hD hS 0 rfl dX0_element_8 (fun H locs hP hD hS => ?_)
  have hP : PP G [(ro, lA G 1 (vp_updL out 0 ((rf j).toInt64))), (h, xO xa xi), (xa 8, qA G 5 8 (shf sh)), (sh dn, .inr (3, [.ref ra])), (ra, tA G 1 z8 rf)] H := hP
  have hD : va_D A [(ro, lA G 1 (vp_updL out 0 ((rf j).toInt64))), (h, xO xa xi), (xa 8, qA G 5 8 (shf sh)), (sh dn, .inr (3, [.ref ra])), (ra, tA G 1 z8 rf)] := hD
  refine lv_goto (tgt := 20) hx hb dX0_element_9 (by decide) ?_
  refine lv_iconst (v := 0) hx hb dX0_element_20 (by decide) ?_
  exact n_iretW (v := 0) (w1 := [(h, xO xa xi), (xa 8, qA G 5 8 (shf sh)), (sh dn, .inr (3, [.ref ra])), (ra, tA G 1 z8 rf), (ro, lA G 1 (vp_updL out 0 ((rf j).toInt64)))]) C (⟨rfl, rfl⟩) (hP.sub (ws' := [(h, xO xa xi), (xa 8, qA G 5 8 (shf sh)), (sh dn, .inr (3, [.ref ra])), (ra, tA G 1 z8 rf), (ro, lA G 1 (vp_updL out 0 ((rf j).toInt64)))]) [1, 2, 3, 4, 0] rfl) (hD.sub (ws' := [(h, xO xa xi), (xa 8, qA G 5 8 (shf sh)), (sh dn, .inr (3, [.ref ra])), (ra, tA G 1 z8 rf), (ro, lA G 1 (vp_updL out 0 ((rf j).toInt64)))]) [1, 2, 3, 4, 0] (by decide) rfl) hS (by first | omega | decide) (by first | omega | decide) dX0_element_21

set_option maxHeartbeats 4000000 in
set_option maxRecDepth 100000 in
theorem metX0_element_o1 (l : Launch) (G : GG) (h : Nat) (xa : Nat → Nat) (xi : Nat → Int32) (sh : Nat → Nat) (gm : GM) (dn : Nat) (ra z8 : Nat) (rf : Nat → Int32) (i : Int32) (ro : Nat) (out : Nat → Int64) (hl9 : l.stackTraces = false) (hng : NG gm [(h, xO xa xi), (xa 8, qA G 5 8 (shf sh)), (sh dn, .inr (3, [.ref ra])), (ra, tA G 1 z8 rf), (ro, lA G 1 out)]) (hdn : dn ≤ 7) (hz8 : z8 ≤ 100) (hout : ¬ vp_in i z8) : MWh l yX0_element cX0_element 5 (some .int) [((0 : Nat), (9 : Nat), (12 : Nat), (13 : Nat)), ((0 : Nat), (9 : Nat), (16 : Nat), (15 : Nat))] ({ frames := 10, cells := 4, slots := 1100, locals := 10424 }) [.ref h, .int (nI dn), .int i, .ref ro] [(h, xO xa xi), (xa 8, qA G 5 8 (shf sh)), (sh dn, .inr (3, [.ref ra])), (ra, tA G 1 z8 rf), (ro, lA G 1 out)] G (KE G gm) 4 1100 (fun rv w1 => rv = 2 ∧ w1 = [(h, xO xa xi), (xa 8, qA G 5 8 (shf sh)), (sh dn, .inr (3, [.ref ra])), (ra, tA G 1 z8 rf), (ro, lA G 1 out)]) := by
  -- rows printed by wip/tools/gen.py
  refine mwh_mkg RX0 (by decide) rfl (Nat.le_of_ble_eq_true rfl) ?_
  intro p0_ e0_ s m args below meth c A C htab hA hAx hP hK hD ls hl
  have hZ : ZA A s := hK.2.2.of hP hAx
  have hM1 := hK.2.1
  have hK := hK.1
  have hGP := hK.2
  have hK := hK.1
  have hGA := GA.of hng hGP hAx
  have hx := C.1
  have hb := C.2.1
  have hml := C.2.2.2.2.1
  have hown := C.2.2.2.2.2.1
  have hts := C.2.2.2.2.2.2
  have hS : va_S A s.heap s.heap [] := va_S.rf
  have hl : lv_has ls 5 [(0, .ref h), (1, .int (nI dn)), (2, .int i), (3, .ref ro)] := hl
  refine lv_aload_n hx hb dX0_element_0 rfl (lv_at hl 3 rfl) ?_
  refine lv_iconst (v := 0) hx hb dX0_element_1 (by decide) ?_
  refine lv_aload_n hx hb dX0_element_2 rfl (lv_at hl 0 rfl) ?_
  refine lv_iload_n hx hb dX0_element_3 rfl (lv_at hl 1 rfl) ?_
  refine lv_iload_n hx hb dX0_element_4 rfl (lv_at hl 2 rfl) ?_
  refine c_VXlP (X := [(h, xO xa xi), (xa 8, qA G 5 8 (shf sh)), (sh dn, .inr (3, [.ref ra])), (ra, tA G 1 z8 rf), (ro, lA G 1 out)]) (pl := []) (wr := [(ro, lA G 1 out)]) (rest := [.int 0, .ref ro]) C (metX1_element_o1 l G h xa xi sh gm dn ra z8 rf i hl9 (NG.of hGA hD [0, 1, 2, 3] rfl) (by omega) (by omega) (hout)) 2 (lw_VW q1033 q1034 q1035 q39 q1036) (by decide +kernel) ⟨rfl, rfl⟩ ⟨(Nat.le_of_ble_eq_true rfl), (Nat.le_of_ble_eq_true rfl)⟩ (KE.call) (KE.at hK (hGP.kept hGA hS) hM1 hZ hS) (va_recv hK.1 hP (ci := 1) (q0 := 0) rfl rfl) hA hP hD hS [0, 1, 2, 3] [4] rfl rfl rfl rfl (by decide) hl rfl rfl (Nat.le_of_ble_eq_true rfl) ⟨(Nat.le_of_ble_eq_true rfl), (Nat.le_of_ble_eq_true rfl)⟩ dX0_element_5 (fun E ce q9 H locs hpx hP hD hS hce hcv hcl => ?_) (fun r_1 w1 H locs hq_2 hP hD hS => ?_)
  · have hpx : E = "java/lang/IllegalStateException" := hpx
    subst hpx
    have hP : PP G [(ro, lA G 1 out), (h, xO xa xi), (xa 8, qA G 5 8 (shf sh)), (sh dn, .inr (3, [.ref ra])), (ra, tA G 1 z8 rf)] H := hP
    have hD : va_D A [(ro, lA G 1 out), (h, xO xa xi), (xa 8, qA G 5 8 (shf sh)), (sh dn, .inr (3, [.ref ra])), (ra, tA G 1 z8 rf)] := hD
    refine x_catch (E := "java/lang/IllegalStateException") (name := "java/lang/IllegalStateException") C hK.2 htab [⟨0, 9, 12, 13⟩] ⟨0, 9, 16, 15⟩ [] rfl (fun z h9 => by simp only [List.mem_cons, List.not_mem_nil, or_false] at h9; rcases h9 with rfl <;> first | exact Or.inl (by decide) | exact Or.inr ⟨by decide, _, q1031, by decide +kernel⟩) (by decide) (by decide) q1032 (by decide +kernel) hce hcv hcl ?_
    refine lv_astore (lv' := [(4, .ref q9), (0, .ref h), (1, .int (nI dn)), (2, .int i), (3, .ref ro)]) hx hb dX0_element_16 hl (Nat.le_of_ble_eq_true rfl) rfl (fun ls hl => ?_)
    refine lv_iconst (v := 2) hx hb dX0_element_18 (by decide) ?_
    exact n_iretW (v := 2) (w1 := [(h, xO xa xi), (xa 8, qA G 5 8 (shf sh)), (sh dn, .inr (3, [.ref ra])), (ra, tA G 1 z8 rf), (ro, lA G 1 out)]) C (⟨rfl, rfl⟩) (hP.sub (ws' := [(h, xO xa xi), (xa 8, qA G 5 8 (shf sh)), (sh dn, .inr (3, [.ref ra])), (ra, tA G 1 z8 rf), (ro, lA G 1 out)]) [1, 2, 3, 4, 0] rfl) (hD.sub (ws' := [(h, xO xa xi), (xa 8, qA G 5 8 (shf sh)), (sh dn, .inr (3, [.ref ra])), (ra, tA G 1 z8 rf), (ro, lA G 1 out)]) [1, 2, 3, 4, 0] (by decide) rfl) hS (by first | omega | decide) (by first | omega | decide) dX0_element_19
  exact hq_2.elim

set_option maxHeartbeats 4000000 in
set_option maxRecDepth 100000 in
theorem metX0_element_r2 (l : Launch) (G : GG) (h : Nat) (xa : Nat → Nat) (xi : Nat → Int32) (sh : Nat → Nat) (gm : GM) (dn : Nat) (ra z8 : Nat) (rf : Nat → Int32) (j : Nat) (ro : Nat) (out : Nat → Int64) (hl9 : l.stackTraces = false) (hng : NG gm [(h, xO xa xi), (xa 8, qA G 5 8 (shf sh)), (sh dn, .inr (3, [.ref ra])), (ra, tA G 2 z8 rf), (ro, lA G 1 out)]) (hdn : dn ≤ 7) (hz8 : z8 ≤ 100) (hj : j < z8) : MWh l yX0_element cX0_element 5 (some .int) [((0 : Nat), (9 : Nat), (12 : Nat), (13 : Nat)), ((0 : Nat), (9 : Nat), (16 : Nat), (15 : Nat))] ({ frames := 3, cells := 4, slots := 1100, locals := 67 }) [.ref h, .int (nI dn), .int (nI j), .ref ro] [(h, xO xa xi), (xa 8, qA G 5 8 (shf sh)), (sh dn, .inr (3, [.ref ra])), (ra, tA G 2 z8 rf), (ro, lA G 1 out)] G (KE G gm) 4 1100 (fun rv w1 => rv = 0 ∧ w1 = [(h, xO xa xi), (xa 8, qA G 5 8 (shf sh)), (sh dn, .inr (3, [.ref ra])), (ra, tA G 2 z8 rf), (ro, lA G 1 (vp_updL out 0 ((rf j).toInt64)))]) := by
  -- rows printed by wip/tools/gen.py
  refine mwh_mkg RX0 (by decide) rfl (Nat.le_of_ble_eq_true rfl) ?_
  intro p0_ e0_ s m args below meth c A C htab hA hAx hP hK hD ls hl
  have hZ : ZA A s := hK.2.2.of hP hAx
  have hM1 := hK.2.1
  have hK := hK.1
  have hGP := hK.2
  have hK := hK.1
  have hGA := GA.of hng hGP hAx
  have hx := C.1
  have hb := C.2.1
  have hml := C.2.2.2.2.1
  have hown := C.2.2.2.2.2.1
  have hts := C.2.2.2.2.2.2
  have hS : va_S A s.heap s.heap [] := va_S.rf
  have hl : lv_has ls 5 [(0, .ref h), (1, .int (nI dn)), (2, .int (nI j)), (3, .ref ro)] := hl
  refine lv_aload_n hx hb dX0_element_0 rfl (lv_at hl 3 rfl) ?_
  refine lv_iconst (v := 0) hx hb dX0_element_1 (by decide) ?_
  refine lv_aload_n hx hb dX0_element_2 rfl (lv_at hl 0 rfl) ?_
  refine lv_iload_n hx hb dX0_element_3 rfl (lv_at hl 1 rfl) ?_
  refine lv_iload_n hx hb dX0_element_4 rfl (lv_at hl 2 rfl) ?_
  refine c_VXlP (X := [(h, xO xa xi), (xa 8, qA G 5 8 (shf sh)), (sh dn, .inr (3, [.ref ra])), (ra, tA G 2 z8 rf), (ro, lA G 1 out)]) (pl := []) (wr := [(ro, lA G 1 out)]) (rest := [.int 0, .ref ro]) C (metX1_element_s2 l G h xa xi sh gm dn ra z8 rf j hl9 (NG.of hGA hD [0, 1, 2, 3] rfl) (by omega) (by omega) (by omega)) 2 (lw_VW q1033 q1034 q1035 q39 q1036) (by decide +kernel) ⟨rfl, rfl⟩ ⟨(Nat.le_of_ble_eq_true rfl), (Nat.le_of_ble_eq_true rfl)⟩ (KE.call) (KE.at hK (hGP.kept hGA hS) hM1 hZ hS) (va_recv hK.1 hP (ci := 1) (q0 := 0) rfl rfl) hA hP hD hS [0, 1, 2, 3] [4] rfl rfl rfl rfl (by decide) hl rfl rfl (Nat.le_of_ble_eq_true rfl) ⟨(Nat.le_of_ble_eq_true rfl), (Nat.le_of_ble_eq_true rfl)⟩ dX0_element_5 (fun E ce q9 H locs hpx hP hD hS hce hcv hcl => ?_) (fun r_1 w1 H locs hq_2 hP hD hS => ?_)
  · exact hpx.elim
  obtain ⟨rfl, rfl⟩ := hq_2
  have hP : PP G [(ro, lA G 1 out), (h, xO xa xi), (xa 8, qA G 5 8 (shf sh)), (sh dn, .inr (3, [.ref ra])), (ra, tA G 2 z8 rf)] H := hP
  have hD : va_D A [(ro, lA G 1 out), (h, xO xa xi), (xa 8, qA G 5 8 (shf sh)), (sh dn, .inr (3, [.ref ra])), (ra, tA G 2 z8 rf)] := hD
  refine n_last0 (x := (rf j).toInt64) C hK.1 hP hD hS 0 rfl dX0_element_8 (fun H locs hP hD hS => ?_)
  have hP : PP G [(ro, lA G 1 (vp_updL out 0 ((rf j).toInt64))), (h, xO xa xi), (xa 8, qA G 5 8 (shf sh)), (sh dn, .inr (3, [.ref ra])), (ra, tA G 2 z8 rf)] H := hP
  have hD : va_D A [(ro, lA G 1 (vp_updL out 0 ((rf j).toInt64))), (h, xO xa xi), (xa 8, qA G 5 8 (shf sh)), (sh dn, .inr (3, [.ref ra])), (ra, tA G 2 z8 rf)] := hD
  refine lv_goto (tgt := 20) hx hb dX0_element_9 (by decide) ?_
  refine lv_iconst (v := 0) hx hb dX0_element_20 (by decide) ?_
  exact n_iretW (v := 0) (w1 := [(h, xO xa xi), (xa 8, qA G 5 8 (shf sh)), (sh dn, .inr (3, [.ref ra])), (ra, tA G 2 z8 rf), (ro, lA G 1 (vp_updL out 0 ((rf j).toInt64)))]) C (⟨rfl, rfl⟩) (hP.sub (ws' := [(h, xO xa xi), (xa 8, qA G 5 8 (shf sh)), (sh dn, .inr (3, [.ref ra])), (ra, tA G 2 z8 rf), (ro, lA G 1 (vp_updL out 0 ((rf j).toInt64)))]) [1, 2, 3, 4, 0] rfl) (hD.sub (ws' := [(h, xO xa xi), (xa 8, qA G 5 8 (shf sh)), (sh dn, .inr (3, [.ref ra])), (ra, tA G 2 z8 rf), (ro, lA G 1 (vp_updL out 0 ((rf j).toInt64)))]) [1, 2, 3, 4, 0] (by decide) rfl) hS (by first | omega | decide) (by first | omega | decide) dX0_element_21

set_option maxHeartbeats 4000000 in
set_option maxRecDepth 100000 in
theorem metX0_element_o2 (l : Launch) (G : GG) (h : Nat) (xa : Nat → Nat) (xi : Nat → Int32) (sh : Nat → Nat) (gm : GM) (dn : Nat) (ra z8 : Nat) (rf : Nat → Int32) (i : Int32) (ro : Nat) (out : Nat → Int64) (hl9 : l.stackTraces = false) (hng : NG gm [(h, xO xa xi), (xa 8, qA G 5 8 (shf sh)), (sh dn, .inr (3, [.ref ra])), (ra, tA G 2 z8 rf), (ro, lA G 1 out)]) (hdn : dn ≤ 7) (hz8 : z8 ≤ 100) (hout : ¬ vp_in i z8) : MWh l yX0_element cX0_element 5 (some .int) [((0 : Nat), (9 : Nat), (12 : Nat), (13 : Nat)), ((0 : Nat), (9 : Nat), (16 : Nat), (15 : Nat))] ({ frames := 10, cells := 4, slots := 1100, locals := 10424 }) [.ref h, .int (nI dn), .int i, .ref ro] [(h, xO xa xi), (xa 8, qA G 5 8 (shf sh)), (sh dn, .inr (3, [.ref ra])), (ra, tA G 2 z8 rf), (ro, lA G 1 out)] G (KE G gm) 4 1100 (fun rv w1 => rv = 2 ∧ w1 = [(h, xO xa xi), (xa 8, qA G 5 8 (shf sh)), (sh dn, .inr (3, [.ref ra])), (ra, tA G 2 z8 rf), (ro, lA G 1 out)]) := by
  -- rows printed by wip/tools/gen.py
  refine mwh_mkg RX0 (by decide) rfl (Nat.le_of_ble_eq_true rfl) ?_
  intro p0_ e0_ s m args below meth c A C htab hA hAx hP hK hD ls hl
  have hZ : ZA A s := hK.2.2.of hP hAx
  have hM1 := hK.2.1
  have hK := hK.1
  have hGP := hK.2
  have hK := hK.1
  have hGA := GA.of hng hGP hAx
  have hx := C.1
  have hb := C.2.1
  have hml := C.2.2.2.2.1
  have hown := C.2.2.2.2.2.1
  have hts := C.2.2.2.2.2.2
  have hS : va_S A s.heap s.heap [] := va_S.rf
  have hl : lv_has ls 5 [(0, .ref h), (1, .int (nI dn)), (2, .int i), (3, .ref ro)] := hl
  refine lv_aload_n hx hb dX0_element_0 rfl (lv_at hl 3 rfl) ?_
  refine lv_iconst (v := 0) hx hb dX0_element_1 (by decide) ?_
  refine lv_aload_n hx hb dX0_element_2 rfl (lv_at hl 0 rfl) ?_
  refine lv_iload_n hx hb dX0_element_3 rfl (lv_at hl 1 rfl) ?_
  refine lv_iload_n hx hb dX0_element_4 rfl (lv_at hl 2 rfl) ?_
  refine c_VXlP (X := [(h, xO xa xi), (xa 8, qA G 5 8 (shf sh)), (sh dn, .inr (3, [.ref ra])), (ra, tA G 2 z8 rf), (ro, lA G 1 out)]) (pl := []) (wr := [(ro, lA G 1 out)]) (rest := [.int 0, .ref ro]) C (metX1_element_o2 l G h xa xi sh gm dn ra z8 rf i hl9 (NG.of hGA hD [0, 1, 2, 3] rfl) (by omega) (by omega) (hout)) 2 (lw_VW q1033 q1034 q1035 q39 q1036) (by decide +kernel) ⟨rfl, rfl⟩ ⟨(Nat.le_of_ble_eq_true rfl), (Nat.le_of_ble_eq_true rfl)⟩ (KE.call) (KE.at hK (hGP.kept hGA hS) hM1 hZ hS) (va_recv hK.1 hP (ci := 1) (q0 := 0) rfl rfl) hA hP hD hS [0, 1, 2, 3] [4] rfl rfl rfl rfl (by decide) hl rfl rfl (Nat.le_of_ble_eq_true rfl) ⟨(Nat.le_of_ble_eq_true rfl), (Nat.le_of_ble_eq_true rfl)⟩ dX0_element_5 (fun E ce q9 H locs hpx hP hD hS hce hcv hcl => ?_) (fun r_1 w1 H locs hq_2 hP hD hS => ?_)
  · have hpx : E = "java/lang/IllegalStateException" := hpx
    subst hpx
    have hP : PP G [(ro, lA G 1 out), (h, xO xa xi), (xa 8, qA G 5 8 (shf sh)), (sh dn, .inr (3, [.ref ra])), (ra, tA G 2 z8 rf)] H := hP
    have hD : va_D A [(ro, lA G 1 out), (h, xO xa xi), (xa 8, qA G 5 8 (shf sh)), (sh dn, .inr (3, [.ref ra])), (ra, tA G 2 z8 rf)] := hD
    refine x_catch (E := "java/lang/IllegalStateException") (name := "java/lang/IllegalStateException") C hK.2 htab [⟨0, 9, 12, 13⟩] ⟨0, 9, 16, 15⟩ [] rfl (fun z h9 => by simp only [List.mem_cons, List.not_mem_nil, or_false] at h9; rcases h9 with rfl <;> first | exact Or.inl (by decide) | exact Or.inr ⟨by decide, _, q1031, by decide +kernel⟩) (by decide) (by decide) q1032 (by decide +kernel) hce hcv hcl ?_
    refine lv_astore (lv' := [(4, .ref q9), (0, .ref h), (1, .int (nI dn)), (2, .int i), (3, .ref ro)]) hx hb dX0_element_16 hl (Nat.le_of_ble_eq_true rfl) rfl (fun ls hl => ?_)
    refine lv_iconst (v := 2) hx hb dX0_element_18 (by decide) ?_
    exact n_iretW (v := 2) (w1 := [(h, xO xa xi), (xa 8, qA G 5 8 (shf sh)), (sh dn, .inr (3, [.ref ra])), (ra, tA G 2 z8 rf), (ro, lA G 1 out)]) C (⟨rfl, rfl⟩) (hP.sub (ws' := [(h, xO xa xi), (xa 8, qA G 5 8 (shf sh)), (sh dn, .inr (3, [.ref ra])), (ra, tA G 2 z8 rf), (ro, lA G 1 out)]) [1, 2, 3, 4, 0] rfl) (hD.sub (ws' := [(h, xO xa xi), (xa 8, qA G 5 8 (shf sh)), (sh dn, .inr (3, [.ref ra])), (ra, tA G 2 z8 rf), (ro, lA G 1 out)]) [1, 2, 3, 4, 0] (by decide) rfl) hS (by first | omega | decide) (by first | omega | decide) dX0_element_19
  exact hq_2.elim
