set_option maxHeartbeats 4000000 in
set_option maxRecDepth 100000 in
theorem metX1_fete_b (l : Launch) (G : GG) (h : Nat) (xa : Nat → Nat) (xi : Nat → Int32) (sh : Nat → Nat) (gm : GM) (d : Int32) (hl9 : l.stackTraces = false) (hng : NG gm [(h, xO xa xi)]) (hbad : sIn d 0 7 = false) : MWh l yX1_fete cX1_fete 3 (some .int) [((10 : Nat), (37 : Nat), (38 : Nat), (144 : Nat)), ((10 : Nat), (37 : Nat), (42 : Nat), (119 : Nat))] ({ frames := 2, cells := 0, slots := 0, locals := 43 }) [.ref h, .int d] [(h, xO xa xi)] G (KE G gm) 0 0 (fun rv w1 => rv = -1 ∧ w1 = [(h, xO xa xi)]) := by
  -- rows printed by wip/tools/gen.py
  refine mwh_mkg RX1 (by decide) rfl (Nat.le_of_ble_eq_true rfl) ?_
  intro p0_ e0_ s m args below meth c A C htab hA hAx hP hK hD ls hl
  have hZ : ZA A s := hK.2.2.of hP hAx
  have hM1 := hK.2.1
  have hK := hK.1
  have hGP := hK.2
  have hK := hK.1
  have hGA := GA.of hng hGP hAx
  have hx := C.1
  have hb := C.2.1
  have hml := C.2.2.2.2.1
  have hown := C.2.2.2.2.2.1
  have hts := C.2.2.2.2.2.2
  have hS : va_S A s.heap s.heap [] := va_S.rf
  have hl : lv_has ls 3 [(0, .ref h), (1, .int d)] := hl
  refine lv_aload_n hx hb dX1_fete_0 rfl (lv_at hl 0 rfl) ?_
  refine lv_iload_n hx hb dX1_fete_1 rfl (lv_at hl 1 rfl) ?_
  refine c_V (rest := []) C (metX1_isShelf l G h xa xi d) 1 (lw_V q166 q168 qs2 q39 q170) (by decide +kernel) ⟨rfl, rfl⟩ ⟨(Nat.le_of_ble_eq_true rfl), (Nat.le_of_ble_eq_true rfl)⟩ (KM_mv G) (va_recv hK.1 hP (ci := 1) (q0 := 0) rfl rfl) hP hK.1 hl rfl rfl (Nat.le_of_ble_eq_true rfl) ⟨(Nat.le_of_ble_eq_true rfl), (Nat.le_of_ble_eq_true rfl)⟩ dX1_fete_2 ?_
  refine n_if_neB (b := (sIn d 0 7)) (tgt := 10) hx hb dX1_fete_5 (by decide) (fun c_1 => absurd c_1 (by simp [hbad])) (fun c_1 => ?_)
  refine lv_iconst (v := (-1)) hx hb dX1_fete_8 (by decide) ?_
  exact n_iretW (v := (-1)) (w1 := [(h, xO xa xi)]) C (⟨rfl, rfl⟩) hP hD hS (by first | omega | decide) (by first | omega | decide) dX1_fete_9

set_option maxHeartbeats 4000000 in
set_option maxRecDepth 100000 in
theorem metX1_fete_n (l : Launch) (G : GG) (h : Nat) (xa : Nat → Nat) (xi : Nat → Int32) (sh : Nat → Nat) (gm : GM) (dn : Nat) (hl9 : l.stackTraces = false) (hng : NG gm [(h, xO xa xi), (xa 8, qA G 5 8 (shf sh)), (sh dn, .inr (3, [.null]))]) (hdn : dn ≤ 7) : MWh l yX1_fete cX1_fete 3 (some .int) [((10 : Nat), (37 : Nat), (38 : Nat), (144 : Nat)), ((10 : Nat), (37 : Nat), (42 : Nat), (119 : Nat))] ({ frames := 2, cells := 0, slots := 0, locals := 43 }) [.ref h, .int (nI dn)] [(h, xO xa xi), (xa 8, qA G 5 8 (shf sh)), (sh dn, .inr (3, [.null]))] G (KE G gm) 0 0 (fun rv w1 => rv = -11 ∧ w1 = [(h, xO xa xi), (xa 8, qA G 5 8 (shf sh)), (sh dn, .inr (3, [.null]))]) := by
  -- rows printed by wip/tools/gen.py
  refine mwh_mkg RX1 (by decide) rfl (Nat.le_of_ble_eq_true rfl) ?_
  intro p0_ e0_ s m args below meth c A C htab hA hAx hP hK hD ls hl
  have hZ : ZA A s := hK.2.2.of hP hAx
  have hM1 := hK.2.1
  have hK := hK.1
  have hGP := hK.2
  have hK := hK.1
  have hGA := GA.of hng hGP hAx
  have hx := C.1
  have hb := C.2.1
  have hml := C.2.2.2.2.1
  have hown := C.2.2.2.2.2.1
  have hts := C.2.2.2.2.2.2
  have hS : va_S A s.heap s.heap [] := va_S.rf
  have hl : lv_has ls 3 [(0, .ref h), (1, .int (nI dn))] := hl
  have hs7 := sIn07 hdn
  refine lv_aload_n hx hb dX1_fete_0 rfl (lv_at hl 0 rfl) ?_
  refine lv_iload_n hx hb dX1_fete_1 rfl (lv_at hl 1 rfl) ?_
  refine c_V (rest := []) C (metX1_isShelf l G h xa xi (nI dn)) 1 (lw_V q166 q168 qs2 q39 q170) (by decide +kernel) ⟨rfl, rfl⟩ ⟨(Nat.le_of_ble_eq_true rfl), (Nat.le_of_ble_eq_true rfl)⟩ (KM_mv G) (va_recv hK.1 hP (ci := 1) (q0 := 0) rfl rfl) (hP.sub (ws' := [(h, xO xa xi)]) [0] rfl) hK.1 hl rfl rfl (Nat.le_of_ble_eq_true rfl) ⟨(Nat.le_of_ble_eq_true rfl), (Nat.le_of_ble_eq_true rfl)⟩ dX1_fete_2 ?_
  refine n_if_neB (b := (sIn (nI dn) 0 7)) (tgt := 10) hx hb dX1_fete_5 (by decide) (fun c_1 => ?_) (fun c_1 => absurd c_1 (by simp [hs7]))
  refine lv_aload_n hx hb dX1_fete_10 rfl (lv_at hl 0 rfl) ?_
  refine va_get (D := gD G) (ci := 1) (v := .ref (xa 8)) (C := RX1) (T := TX1) (N := 9) hx hb hts in_X1 hown hK.1 hP 0 rfl rfl 8 (by decide) (hts _ q846) (fun _ h9 => h9) rfl dX1_fete_11 ?_
  refine lv_iload_n hx hb dX1_fete_14 rfl (lv_at hl 1 rfl) ?_
  refine n_aldqS (y := sh dn) C hK.1 hP 1 5 dn rfl rfl (by omega) (by omega) rfl dX1_fete_15 ?_
  refine va_get (D := gD G) (ci := 3) (v := .null) (C := RX3) (T := TX3) (N := 1) hx hb hts in_X3 hown hK.1 hP 2 rfl rfl 0 (by decide) (hts _ q834) (fun _ h9 => h9) rfl dX1_fete_16 ?_
  refine lv_castN hx hb dX1_fete_19 ?_
  refine lv_astore_nN (lv' := [(2, .null), (0, .ref h), (1, .int (nI dn))]) hx hb dX1_fete_22 rfl hl (Nat.le_of_ble_eq_true rfl) rfl (fun ls hl => ?_)
  refine lv_aload_nN hx hb dX1_fete_23 rfl (lv_at hl 0 rfl) ?_
  refine lv_ifnonnullN hx hb dX1_fete_24 ?_
  refine lv_bipush (v := (-11)) hx hb dX1_fete_27 (by decide) ?_
  refine lv_goto (tgt := 37) hx hb dX1_fete_29 (by decide) ?_
  exact n_iretW (v := (-11)) (w1 := [(h, xO xa xi), (xa 8, qA G 5 8 (shf sh)), (sh dn, .inr (3, [.null]))]) C (⟨rfl, rfl⟩) hP hD hS (by first | omega | decide) (by first | omega | decide) dX1_fete_37

set_option maxHeartbeats 4000000 in
set_option maxRecDepth 100000 in
theorem metX1_fete_g (l : Launch) (G : GG) (h : Nat) (xa : Nat → Nat) (xi : Nat → Int32) (sh : Nat → Nat) (gm : GM) (dn : Nat) (y k : Nat) (v : Int32) (hl9 : l.stackTraces = false) (hng : NG gm [(h, xO xa xi), (xa 8, qA G 5 8 (shf sh)), (sh dn, .inr (3, [.ref y]))]) (hdn : dn ≤ 7) (hy : gm y = some (k, v)) : MWh l yX1_fete cX1_fete 3 (some .int) [((10 : Nat), (37 : Nat), (38 : Nat), (144 : Nat)), ((10 : Nat), (37 : Nat), (42 : Nat), (119 : Nat))] ({ frames := 9, cells := 4, slots := 1100, locals := 10400 }) [.ref h, .int (nI dn)] [(h, xO xa xi), (xa 8, qA G 5 8 (shf sh)), (sh dn, .inr (3, [.ref y]))] G (KE G gm) 4 1100 (fun rv w1 => rv = -12 ∧ w1 = [(h, xO xa xi), (xa 8, qA G 5 8 (shf sh)), (sh dn, .inr (3, [.ref y]))]) := by
  -- rows printed by wip/tools/gen.py
  refine mwh_mkg RX1 (by decide) rfl (Nat.le_of_ble_eq_true rfl) ?_
  intro p0_ e0_ s m args below meth c A C htab hA hAx hP hK hD ls hl
  have hZ : ZA A s := hK.2.2.of hP hAx
  have hM1 := hK.2.1
  have hK := hK.1
  have hGP := hK.2
  have hK := hK.1
  have hGA := GA.of hng hGP hAx
  have hx := C.1
  have hb := C.2.1
  have hml := C.2.2.2.2.1
  have hown := C.2.2.2.2.2.1
  have hts := C.2.2.2.2.2.2
  have hS : va_S A s.heap s.heap [] := va_S.rf
  have hl : lv_has ls 3 [(0, .ref h), (1, .int (nI dn))] := hl
  have hs7 := sIn07 hdn
  refine lv_aload_n hx hb dX1_fete_0 rfl (lv_at hl 0 rfl) ?_
  refine lv_iload_n hx hb dX1_fete_1 rfl (lv_at hl 1 rfl) ?_
  refine c_V (rest := []) C (metX1_isShelf l G h xa xi (nI dn)) 1 (lw_V q166 q168 qs2 q39 q170) (by decide +kernel) ⟨rfl, rfl⟩ ⟨(Nat.le_of_ble_eq_true rfl), (Nat.le_of_ble_eq_true rfl)⟩ (KM_mv G) (va_recv hK.1 hP (ci := 1) (q0 := 0) rfl rfl) (hP.sub (ws' := [(h, xO xa xi)]) [0] rfl) hK.1 hl rfl rfl (Nat.le_of_ble_eq_true rfl) ⟨(Nat.le_of_ble_eq_true rfl), (Nat.le_of_ble_eq_true rfl)⟩ dX1_fete_2 ?_
  refine n_if_neB (b := (sIn (nI dn) 0 7)) (tgt := 10) hx hb dX1_fete_5 (by decide) (fun c_1 => ?_) (fun c_1 => absurd c_1 (by simp [hs7]))
  refine lv_aload_n hx hb dX1_fete_10 rfl (lv_at hl 0 rfl) ?_
  refine va_get (D := gD G) (ci := 1) (v := .ref (xa 8)) (C := RX1) (T := TX1) (N := 9) hx hb hts in_X1 hown hK.1 hP 0 rfl rfl 8 (by decide) (hts _ q846) (fun _ h9 => h9) rfl dX1_fete_11 ?_
  refine lv_iload_n hx hb dX1_fete_14 rfl (lv_at hl 1 rfl) ?_
  refine n_aldqS (y := sh dn) C hK.1 hP 1 5 dn rfl rfl (by omega) (by omega) rfl dX1_fete_15 ?_
  refine va_get (D := gD G) (ci := 3) (v := .ref y) (C := RX3) (T := TX3) (N := 1) hx hb hts in_X3 hown hK.1 hP 2 rfl rfl 0 (by decide) (hts _ q834) (fun _ h9 => h9) rfl dX1_fete_16 ?_
  refine n_castXG C hM1 hK (hGP.kept hGA hS) hy ((gnm_xn _ ((hGP.kept hGA hS) _ _ _ hy).1).1) arr_cc.1 q174 dX1_fete_19 (fun tx9 ha9 hb9 => ?_)
  refine x_note C hl9 hK.2 hP (hGP.kept hGA hS) hS hZ E_cce eCCE_tbl e_in1.1 hl.1 ha9 hb9 ⟨Nat.le_of_ble_eq_true rfl, Nat.le_of_ble_eq_true rfl, Nat.le_of_ble_eq_true rfl, Nat.le_of_ble_eq_true rfl, Nat.le_of_ble_eq_true rfl⟩ (fun H q9 ce hP _ hS hce hcv hcl => ?_)
  refine x_catch (E := "java/lang/ClassCastException") (name := "java/lang/ClassCastException") C hK.2 htab [] ⟨10, 37, 38, 144⟩ [⟨10, 37, 42, 119⟩] rfl (fun _ h9 => nomatch h9) (by decide) (by decide) q74 (by decide +kernel) hce hcv hcl ?_
  refine lv_astore_n (lv' := [(2, .ref q9), (0, .ref h), (1, .int (nI dn))]) hx hb dX1_fete_38 rfl hl (Nat.le_of_ble_eq_true rfl) rfl (fun ls hl => ?_)
  refine lv_bipush (v := (-12)) hx hb dX1_fete_39 (by decide) ?_
  exact n_iretW (v := (-12)) (w1 := [(h, xO xa xi), (xa 8, qA G 5 8 (shf sh)), (sh dn, .inr (3, [.ref y]))]) C (⟨rfl, rfl⟩) hP hD hS (by first | omega | decide) (by first | omega | decide) dX1_fete_41

set_option maxHeartbeats 4000000 in
set_option maxRecDepth 100000 in
theorem metX1_fete_r0 (l : Launch) (G : GG) (h : Nat) (xa : Nat → Nat) (xi : Nat → Int32) (sh : Nat → Nat) (gm : GM) (dn : Nat) (ra z8 : Nat) (rf : Nat → Int32) (hl9 : l.stackTraces = false) (hng : NG gm [(h, xO xa xi), (xa 8, qA G 5 8 (shf sh)), (sh dn, .inr (3, [.ref ra])), (ra, tA G 0 z8 rf)]) (hdn : dn ≤ 7) (hz8 : z8 ≤ 100) : MWh l yX1_fete cX1_fete 3 (some .int) [((10 : Nat), (37 : Nat), (38 : Nat), (144 : Nat)), ((10 : Nat), (37 : Nat), (42 : Nat), (119 : Nat))] ({ frames := 9, cells := 4, slots := 1100, locals := 10400 }) [.ref h, .int (nI dn)] [(h, xO xa xi), (xa 8, qA G 5 8 (shf sh)), (sh dn, .inr (3, [.ref ra])), (ra, tA G 0 z8 rf)] G (KE G gm) 4 1100 (fun rv w1 => rv = -12 ∧ w1 = [(h, xO xa xi), (xa 8, qA G 5 8 (shf sh)), (sh dn, .inr (3, [.ref ra])), (ra, tA G 0 z8 rf)]) := by
  -- rows printed by wip/tools/gen.py
  refine mwh_mkg RX1 (by decide) rfl (Nat.le_of_ble_eq_true rfl) ?_
  intro p0_ e0_ s m args below meth c A C htab hA hAx hP hK hD ls hl
  have hZ : ZA A s := hK.2.2.of hP hAx
  have hM1 := hK.2.1
  have hK := hK.1
  have hGP := hK.2
  have hK := hK.1
  have hGA := GA.of hng hGP hAx
  have hx := C.1
  have hb := C.2.1
  have hml := C.2.2.2.2.1
  have hown := C.2.2.2.2.2.1
  have hts := C.2.2.2.2.2.2
  have hS : va_S A s.heap s.heap [] := va_S.rf
  have hl : lv_has ls 3 [(0, .ref h), (1, .int (nI dn))] := hl
  have hs7 := sIn07 hdn
  refine lv_aload_n hx hb dX1_fete_0 rfl (lv_at hl 0 rfl) ?_
  refine lv_iload_n hx hb dX1_fete_1 rfl (lv_at hl 1 rfl) ?_
  refine c_V (rest := []) C (metX1_isShelf l G h xa xi (nI dn)) 1 (lw_V q166 q168 qs2 q39 q170) (by decide +kernel) ⟨rfl, rfl⟩ ⟨(Nat.le_of_ble_eq_true rfl), (Nat.le_of_ble_eq_true rfl)⟩ (KM_mv G) (va_recv hK.1 hP (ci := 1) (q0 := 0) rfl rfl) (hP.sub (ws' := [(h, xO xa xi)]) [0] rfl) hK.1 hl rfl rfl (Nat.le_of_ble_eq_true rfl) ⟨(Nat.le_of_ble_eq_true rfl), (Nat.le_of_ble_eq_true rfl)⟩ dX1_fete_2 ?_
  refine n_if_neB (b := (sIn (nI dn) 0 7)) (tgt := 10) hx hb dX1_fete_5 (by decide) (fun c_1 => ?_) (fun c_1 => absurd c_1 (by simp [hs7]))
  refine lv_aload_n hx hb dX1_fete_10 rfl (lv_at hl 0 rfl) ?_
  refine va_get (D := gD G) (ci := 1) (v := .ref (xa 8)) (C := RX1) (T := TX1) (N := 9) hx hb hts in_X1 hown hK.1 hP 0 rfl rfl 8 (by decide) (hts _ q846) (fun _ h9 => h9) rfl dX1_fete_11 ?_
  refine lv_iload_n hx hb dX1_fete_14 rfl (lv_at hl 1 rfl) ?_
  refine n_aldqS (y := sh dn) C hK.1 hP 1 5 dn rfl rfl (by omega) (by omega) rfl dX1_fete_15 ?_
  refine va_get (D := gD G) (ci := 3) (v := .ref ra) (C := RX3) (T := TX3) (N := 1) hx hb hts in_X3 hown hK.1 hP 2 rfl rfl 0 (by decide) (hts _ q834) (fun _ h9 => h9) rfl dX1_fete_16 ?_
  refine n_castXT (q0 := 3) C hM1 hK (by decide) hP rfl (by decide +kernel) arr_cc.1 q174 dX1_fete_19 (fun tx9 ha9 hb9 => ?_)
  refine x_note C hl9 hK.2 hP (hGP.kept hGA hS) hS hZ E_cce eCCE_tbl e_in1.1 hl.1 ha9 hb9 ⟨Nat.le_of_ble_eq_true rfl, Nat.le_of_ble_eq_true rfl, Nat.le_of_ble_eq_true rfl, Nat.le_of_ble_eq_true rfl, Nat.le_of_ble_eq_true rfl⟩ (fun H q9 ce hP _ hS hce hcv hcl => ?_)
  refine x_catch (E := "java/lang/ClassCastException") (name := "java/lang/ClassCastException") C hK.2 htab [] ⟨10, 37, 38, 144⟩ [⟨10, 37, 42, 119⟩] rfl (fun _ h9 => nomatch h9) (by decide) (by decide) q74 (by decide +kernel) hce hcv hcl ?_
  refine lv_astore_n (lv' := [(2, .ref q9), (0, .ref h), (1, .int (nI dn))]) hx hb dX1_fete_38 rfl hl (Nat.le_of_ble_eq_true rfl) rfl (fun ls hl => ?_)
  refine lv_bipush (v := (-12)) hx hb dX1_fete_39 (by decide) ?_
  exact n_iretW (v := (-12)) (w1 := [(h, xO xa xi), (xa 8, qA G 5 8 (shf sh)), (sh dn, .inr (3, [.ref ra])), (ra, tA G 0 z8 rf)]) C (⟨rfl, rfl⟩) hP hD hS (by first | omega | decide) (by first | omega | decide) dX1_fete_41

set_option maxHeartbeats 4000000 in
set_option maxRecDepth 100000 in
theorem metX1_fete_r2 (l : Launch) (G : GG) (h : Nat) (xa : Nat → Nat) (xi : Nat → Int32) (sh : Nat → Nat) (gm : GM) (dn : Nat) (ra z8 : Nat) (rf : Nat → Int32) (hl9 : l.stackTraces = false) (hng : NG gm [(h, xO xa xi), (xa 8, qA G 5 8 (shf sh)), (sh dn, .inr (3, [.ref ra])), (ra, tA G 2 z8 rf)]) (hdn : dn ≤ 7) (hz8 : z8 ≤ 100) : MWh l yX1_fete cX1_fete 3 (some .int) [((10 : Nat), (37 : Nat), (38 : Nat), (144 : Nat)), ((10 : Nat), (37 : Nat), (42 : Nat), (119 : Nat))] ({ frames := 9, cells := 4, slots := 1100, locals := 10400 }) [.ref h, .int (nI dn)] [(h, xO xa xi), (xa 8, qA G 5 8 (shf sh)), (sh dn, .inr (3, [.ref ra])), (ra, tA G 2 z8 rf)] G (KE G gm) 4 1100 (fun rv w1 => rv = -12 ∧ w1 = [(h, xO xa xi), (xa 8, qA G 5 8 (shf sh)), (sh dn, .inr (3, [.ref ra])), (ra, tA G 2 z8 rf)]) := by
  -- rows printed by wip/tools/gen.py
  refine mwh_mkg RX1 (by decide) rfl (Nat.le_of_ble_eq_true rfl) ?_
  intro p0_ e0_ s m args below meth c A C htab hA hAx hP hK hD ls hl
  have hZ : ZA A s := hK.2.2.of hP hAx
  have hM1 := hK.2.1
  have hK := hK.1
  have hGP := hK.2
  have hK := hK.1
  have hGA := GA.of hng hGP hAx
  have hx := C.1
  have hb := C.2.1
  have hml := C.2.2.2.2.1
  have hown := C.2.2.2.2.2.1
  have hts := C.2.2.2.2.2.2
  have hS : va_S A s.heap s.heap [] := va_S.rf
  have hl : lv_has ls 3 [(0, .ref h), (1, .int (nI dn))] := hl
  have hs7 := sIn07 hdn
  refine lv_aload_n hx hb dX1_fete_0 rfl (lv_at hl 0 rfl) ?_
  refine lv_iload_n hx hb dX1_fete_1 rfl (lv_at hl 1 rfl) ?_
  refine c_V (rest := []) C (metX1_isShelf l G h xa xi (nI dn)) 1 (lw_V q166 q168 qs2 q39 q170) (by decide +kernel) ⟨rfl, rfl⟩ ⟨(Nat.le_of_ble_eq_true rfl), (Nat.le_of_ble_eq_true rfl)⟩ (KM_mv G) (va_recv hK.1 hP (ci := 1) (q0 := 0) rfl rfl) (hP.sub (ws' := [(h, xO xa xi)]) [0] rfl) hK.1 hl rfl rfl (Nat.le_of_ble_eq_true rfl) ⟨(Nat.le_of_ble_eq_true rfl), (Nat.le_of_ble_eq_true rfl)⟩ dX1_fete_2 ?_
  refine n_if_neB (b := (sIn (nI dn) 0 7)) (tgt := 10) hx hb dX1_fete_5 (by decide) (fun c_1 => ?_) (fun c_1 => absurd c_1 (by simp [hs7]))
  refine lv_aload_n hx hb dX1_fete_10 rfl (lv_at hl 0 rfl) ?_
  refine va_get (D := gD G) (ci := 1) (v := .ref (xa 8)) (C := RX1) (T := TX1) (N := 9) hx hb hts in_X1 hown hK.1 hP 0 rfl rfl 8 (by decide) (hts _ q846) (fun _ h9 => h9) rfl dX1_fete_11 ?_
  refine lv_iload_n hx hb dX1_fete_14 rfl (lv_at hl 1 rfl) ?_
  refine n_aldqS (y := sh dn) C hK.1 hP 1 5 dn rfl rfl (by omega) (by omega) rfl dX1_fete_15 ?_
  refine va_get (D := gD G) (ci := 3) (v := .ref ra) (C := RX3) (T := TX3) (N := 1) hx hb hts in_X3 hown hK.1 hP 2 rfl rfl 0 (by decide) (hts _ q834) (fun _ h9 => h9) rfl dX1_fete_16 ?_
  refine n_castXT (q0 := 3) C hM1 hK (by decide) hP rfl (by decide +kernel) arr_cc.1 q174 dX1_fete_19 (fun tx9 ha9 hb9 => ?_)
  refine x_note C hl9 hK.2 hP (hGP.kept hGA hS) hS hZ E_cce eCCE_tbl e_in1.1 hl.1 ha9 hb9 ⟨Nat.le_of_ble_eq_true rfl, Nat.le_of_ble_eq_true rfl, Nat.le_of_ble_eq_true rfl, Nat.le_of_ble_eq_true rfl, Nat.le_of_ble_eq_true rfl⟩ (fun H q9 ce hP _ hS hce hcv hcl => ?_)
  refine x_catch (E := "java/lang/ClassCastException") (name := "java/lang/ClassCastException") C hK.2 htab [] ⟨10, 37, 38, 144⟩ [⟨10, 37, 42, 119⟩] rfl (fun _ h9 => nomatch h9) (by decide) (by decide) q74 (by decide +kernel) hce hcv hcl ?_
  refine lv_astore_n (lv' := [(2, .ref q9), (0, .ref h), (1, .int (nI dn))]) hx hb dX1_fete_38 rfl hl (Nat.le_of_ble_eq_true rfl) rfl (fun ls hl => ?_)
  refine lv_bipush (v := (-12)) hx hb dX1_fete_39 (by decide) ?_
  exact n_iretW (v := (-12)) (w1 := [(h, xO xa xi), (xa 8, qA G 5 8 (shf sh)), (sh dn, .inr (3, [.ref ra])), (ra, tA G 2 z8 rf)]) C (⟨rfl, rfl⟩) hP hD hS (by first | omega | decide) (by first | omega | decide) dX1_fete_41

set_option maxHeartbeats 4000000 in
set_option maxRecDepth 100000 in
theorem metX1_reads (l : Launch) (G : GG) (h : Nat) (xa : Nat → Nat) (xi : Nat → Int32) (fn : Nat → Nat) (gm : GM) (wh : Nat → Option Nat) (r : Nat → Int32) (N : Nat) (fm : Nat → Nat) (j_w : Nat → Option Nat) (j_a2 j_a3 j_a4 j_a5 : Nat → Int32) (j_0 j_1 j_2 : Int32) (ra z8 : Nat) (rf : Nat → Int32) (ft : Nat → Option Nat) (hl9 : l.stackTraces = false) (hng : NG gm [(h, xO xa xi), (xa 0, fO fn r), (fn 0, qA G 3 9 wh), (fn 1, iA G 9 (fA r 2)), (fn 2, iA G 9 (fA r 3)), (fn 3, iA G 9 (fA r 4)), (fn 4, iA G 9 (fA r 5)), (xa 2, fR fm j_0 j_1 j_2), (fm 0, qA G 3 9 j_w), (fm 1, iA G 9 j_a2), (fm 2, iA G 9 j_a3), (fm 3, iA G 9 j_a4), (fm 4, iA G 9 j_a5), (xa 4, qA G 4 100 ft), (ra, tA G 1 z8 rf)]) (hN : N ≤ 8) (hr : r 0 = nI N) (hwk : WK gm wh r N) (hri : RI r N) (h9 : S9 r) (hz8 : z8 ≤ 100) : MTi l yX1_reads cX1_reads 4 (some .int) ({ frames := 11, cells := 920, slots := 5200, locals := 310 }) [.ref h, .ref ra] [(h, xO xa xi), (xa 0, fO fn r), (fn 0, qA G 3 9 wh), (fn 1, iA G 9 (fA r 2)), (fn 2, iA G 9 (fA r 3)), (fn 3, iA G 9 (fA r 4)), (fn 4, iA G 9 (fA r 5)), (xa 2, fR fm j_0 j_1 j_2), (fm 0, qA G 3 9 j_w), (fm 1, iA G 9 j_a2), (fm 2, iA G 9 j_a3), (fm 3, iA G 9 j_a4), (fm 4, iA G 9 j_a5), (xa 4, qA G 4 100 ft), (ra, tA G 1 z8 rf)] G (KE G gm) 920 5200 (fun rv w1 => rv = (rdA (tS rf z8) z8 r N).1 ∧ ∃ (N1 : Nat) (wh1 : Nat → Option Nat) (gm1 : GM) (tg : va_W) (g_w : Nat → Option Nat) (g_a2 g_a3 g_a4 g_a5 : Nat → Int32) (g_0 g_1 g_2 : Int32) (f8 : Nat → Option Nat), N1 ≤ 8 ∧ (rdA (tS rf z8) z8 r N).2 0 = nI N1 ∧ WK gm1 wh1 (rdA (tS rf z8) z8 r N).2 N1 ∧ RI (rdA (tS rf z8) z8 r N).2 N1 ∧ S9 (rdA (tS rf z8) z8 r N).2 ∧ GT gm gm1 tg ∧ (∀ q ∈ tg, gm q.1 = none) ∧ w1 = [(h, xO xa xi), (xa 0, fO fn ((rdA (tS rf z8) z8 r N).2)), (fn 0, qA G 3 9 wh1), (fn 1, iA G 9 (fA ((rdA (tS rf z8) z8 r N).2) 2)), (fn 2, iA G 9 (fA ((rdA (tS rf z8) z8 r N).2) 3)), (fn 3, iA G 9 (fA ((rdA (tS rf z8) z8 r N).2) 4)), (fn 4, iA G 9 (fA ((rdA (tS rf z8) z8 r N).2) 5)), (xa 2, fR fm g_0 g_1 g_2), (fm 0, qA G 3 9 g_w), (fm 1, iA G 9 g_a2), (fm 2, iA G 9 g_a3), (fm 3, iA G 9 g_a4), (fm 4, iA G 9 g_a5), (xa 4, qA G 4 100 f8), (ra, tA G 1 z8 rf)] ++ tg) (fun E q w1 => E = RX7 ∧ (rdA (tS rf z8) z8 r N).2 = r ∧ ∃ (f9 : Nat → Value) (g_w : Nat → Option Nat) (g_a2 g_a3 g_a4 g_a5 : Nat → Int32) (g_0 g_1 g_2 : Int32) (f8 : Nat → Option Nat), w1 = [(h, xO xa xi), (xa 0, fO fn r), (fn 0, qA G 3 9 wh), (fn 1, iA G 9 (fA r 2)), (fn 2, iA G 9 (fA r 3)), (fn 3, iA G 9 (fA r 4)), (fn 4, iA G 9 (fA r 5)), (xa 2, fR fm g_0 g_1 g_2), (fm 0, qA G 3 9 g_w), (fm 1, iA G 9 g_a2), (fm 2, iA G 9 g_a3), (fm 3, iA G 9 g_a4), (fm 4, iA G 9 g_a5), (xa 4, qA G 4 100 f8), (ra, tA G 1 z8 rf), (q, eO 14 f9 ((rdA (tS rf z8) z8 r N).1))]) := by
  -- rows printed by wip/tools/gen.py
  refine mti_mkg RX1 (by decide) rfl (Nat.le_of_ble_eq_true rfl) ?_
  intro p0_ e0_ s m args below meth c A C ht9 hA hAx hP hK hD ls hl
  have hZ : ZA A s := hK.2.2.of hP hAx
  have hM1 := hK.2.1
  have hK := hK.1
  have hGP := hK.2
  have hK := hK.1
  have hGA := GA.of hng hGP hAx
  have hx := C.1
  have hb := C.2.1
  have hml := C.2.2.2.2.1
  have hown := C.2.2.2.2.2.1
  have hts := C.2.2.2.2.2.2
  have hS : va_S A s.heap s.heap [] := va_S.rf
  have hl : lv_has ls 4 [(0, .ref h), (1, .ref ra)] := hl
  refine va_new (D := gD G) (ci := 5) (fs := [.null, .int 0]) (C := RX5) (T := TX5) (N := 2) hx hb hts in_X5 tyX5 tyX5_ok hown (hts _ q179) (hts _ q180) (hts _ q48) hK.1 hP hD hS hA rfl (fun j hj => (by rcases (show j = 0 ∨ j = 1 by omega) with rfl | rfl <;> rfl)) (Nat.le_of_ble_eq_true rfl) (Nat.le_of_ble_eq_true rfl) dX1_reads_0 (fun qn_1 H hP hD hS => ?_)
  have hP : PP G [(h, xO xa xi), (xa 0, fO fn r), (fn 0, qA G 3 9 wh), (fn 1, iA G 9 (fA r 2)), (fn 2, iA G 9 (fA r 3)), (fn 3, iA G 9 (fA r 4)), (fn 4, iA G 9 (fA r 5)), (xa 2, fR fm j_0 j_1 j_2), (fm 0, qA G 3 9 j_w), (fm 1, iA G 9 j_a2), (fm 2, iA G 9 j_a3), (fm 3, iA G 9 j_a4), (fm 4, iA G 9 j_a5), (xa 4, qA G 4 100 ft), (ra, tA G 1 z8 rf), (qn_1, .inr (5, [.null, .int 0]))] H := hP
  have hD : va_D A [(h, xO xa xi), (xa 0, fO fn r), (fn 0, qA G 3 9 wh), (fn 1, iA G 9 (fA r 2)), (fn 2, iA G 9 (fA r 3)), (fn 3, iA G 9 (fA r 4)), (fn 4, iA G 9 (fA r 5)), (xa 2, fR fm j_0 j_1 j_2), (fm 0, qA G 3 9 j_w), (fm 1, iA G 9 j_a2), (fm 2, iA G 9 j_a3), (fm 3, iA G 9 j_a4), (fm 4, iA G 9 j_a5), (xa 4, qA G 4 100 ft), (ra, tA G 1 z8 rf), (qn_1, .inr (5, [.null, .int 0]))] := hD
  refine lv_dup hx hb dX1_reads_3 rfl ?_
  refine lv_aload_n hx hb dX1_reads_4 rfl (lv_at hl 1 rfl) ?_
  refine c_IWvk (wr := [(h, xO xa xi), (xa 0, fO fn r), (fn 0, qA G 3 9 wh), (fn 1, iA G 9 (fA r 2)), (fn 2, iA G 9 (fA r 3)), (fn 3, iA G 9 (fA r 4)), (fn 4, iA G 9 (fA r 5)), (xa 2, fR fm j_0 j_1 j_2), (fm 0, qA G 3 9 j_w), (fm 1, iA G 9 j_a2), (fm 2, iA G 9 j_a3), (fm 3, iA G 9 j_a4), (fm 4, iA G 9 j_a5), (xa 4, qA G 4 100 ft), (ra, tA G 1 z8 rf)]) (rest := [.ref qn_1]) C (metX5_init l G qn_1 ra) 1 q181 q183 q48 q182 rfl (by decide +kernel) ⟨rfl, rfl⟩ ⟨(Nat.le_of_ble_eq_true rfl), (Nat.le_of_ble_eq_true rfl)⟩ ((fun _ _ _ _ h => (KM_mv G).2 _ _ _ _ h)) (fun _ _ hW => (KM_mv G).1 _ _ hW hK.1) hA hP hD hS [15] [0, 1, 2, 3, 4, 5, 6, 7, 8, 9, 10, 11, 12, 13, 14] rfl rfl rfl rfl (by decide) hl rfl rfl (Nat.le_of_ble_eq_true rfl) ⟨(Nat.le_of_ble_eq_true rfl), (Nat.le_of_ble_eq_true rfl)⟩ dX1_reads_5 (fun w1 H locs hq_3 hP hD hS => ?_)
  obtain rfl := hq_3
  have hP : PP G [(h, xO xa xi), (xa 0, fO fn r), (fn 0, qA G 3 9 wh), (fn 1, iA G 9 (fA r 2)), (fn 2, iA G 9 (fA r 3)), (fn 3, iA G 9 (fA r 4)), (fn 4, iA G 9 (fA r 5)), (xa 2, fR fm j_0 j_1 j_2), (fm 0, qA G 3 9 j_w), (fm 1, iA G 9 j_a2), (fm 2, iA G 9 j_a3), (fm 3, iA G 9 j_a4), (fm 4, iA G 9 j_a5), (xa 4, qA G 4 100 ft), (ra, tA G 1 z8 rf), (qn_1, .inr (5, [.ref ra, .int 0]))] H := hP
  have hD : va_D A [(h, xO xa xi), (xa 0, fO fn r), (fn 0, qA G 3 9 wh), (fn 1, iA G 9 (fA r 2)), (fn 2, iA G 9 (fA r 3)), (fn 3, iA G 9 (fA r 4)), (fn 4, iA G 9 (fA r 5)), (xa 2, fR fm j_0 j_1 j_2), (fm 0, qA G 3 9 j_w), (fm 1, iA G 9 j_a2), (fm 2, iA G 9 j_a3), (fm 3, iA G 9 j_a4), (fm 4, iA G 9 j_a5), (xa 4, qA G 4 100 ft), (ra, tA G 1 z8 rf), (qn_1, .inr (5, [.ref ra, .int 0]))] := hD
  refine lv_aload_n hx hb dX1_reads_8 rfl (lv_at hl 0 rfl) ?_
  refine va_get (D := gD G) (ci := 1) (v := .ref (xa 4)) (C := RX1) (T := TX1) (N := 9) hx hb hts in_X1 hown hK.1 hP 0 rfl rfl 4 (by decide) (hts _ q842) (fun _ h9 => h9) rfl dX1_reads_9 ?_
  generalize hT : tS rf z8 = T
  have hP : PP G [(h, xO xa xi), (xa 0, fO fn r), (fn 0, qA G 3 9 wh), (fn 1, iA G 9 (fA r 2)), (fn 2, iA G 9 (fA r 3)), (fn 3, iA G 9 (fA r 4)), (fn 4, iA G 9 (fA r 5)), (xa 2, fR fm j_0 j_1 j_2), (fm 0, qA G 3 9 j_w), (fm 1, iA G 9 j_a2), (fm 2, iA G 9 j_a3), (fm 3, iA G 9 j_a4), (fm 4, iA G 9 j_a5), (xa 4, qA G 4 100 ft), (ra, tA G 1 z8 rf), (qn_1, .inr (5, [.ref ra, .int (nI 0)]))] H := hP
  have hD : va_D A [(h, xO xa xi), (xa 0, fO fn r), (fn 0, qA G 3 9 wh), (fn 1, iA G 9 (fA r 2)), (fn 2, iA G 9 (fA r 3)), (fn 3, iA G 9 (fA r 4)), (fn 4, iA G 9 (fA r 5)), (xa 2, fR fm j_0 j_1 j_2), (fm 0, qA G 3 9 j_w), (fm 1, iA G 9 j_a2), (fm 2, iA G 9 j_a3), (fm 3, iA G 9 j_a4), (fm 4, iA G 9 j_a5), (xa 4, qA G 4 100 ft), (ra, tA G 1 z8 rf), (qn_1, .inr (5, [.ref ra, .int (nI 0)]))] := hD
  refine c_VTi (wr := [(h, xO xa xi), (xa 0, fO fn r), (fn 0, qA G 3 9 wh), (fn 1, iA G 9 (fA r 2)), (fn 2, iA G 9 (fA r 3)), (fn 3, iA G 9 (fA r 4)), (fn 4, iA G 9 (fA r 5)), (xa 2, fR fm j_0 j_1 j_2), (fm 0, qA G 3 9 j_w), (fm 1, iA G 9 j_a2), (fm 2, iA G 9 j_a3), (fm 3, iA G 9 j_a4), (fm 4, iA G 9 j_a5)]) (rest := []) C (metX5_whole l G gm qn_1 ra z8 (xa 4) rf ft hl9 (NG.of hGA hD [15, 14, 13] rfl) hz8) 1 (lw_V q192 q193 q194 q48 q195) (by decide +kernel) ⟨rfl, rfl⟩ ⟨(Nat.le_of_ble_eq_true rfl), (Nat.le_of_ble_eq_true rfl)⟩ KE.call (KE.at hK (hGP.kept hGA hS) hM1 hZ hS) (va_recv hK.1 hP (ci := 5) (q0 := 15) rfl rfl) hA hP hD hS [15, 14, 13] [0, 1, 2, 3, 4, 5, 6, 7, 8, 9, 10, 11, 12] rfl rfl rfl rfl (by decide) hl rfl rfl (Nat.le_of_ble_eq_true rfl) ⟨(Nat.le_of_ble_eq_true rfl), (Nat.le_of_ble_eq_true rfl)⟩ dX1_reads_12 (fun E ce q9 w1 H locs hpx hP hD hS hce hcv hcl => ?_) (fun rv w1 H locs hq hP hD hS => ?_)
  · rw [hT] at hpx
    obtain ⟨k1, rfl, f9, p9, g9, rfl⟩ := hpx
    have eD : rdA T z8 r N = ((whX T z8 (z8 + 1) 0 0).1, r) := by unfold rdA; rw [if_neg k1]
    have hP : PP G [(h, xO xa xi), (xa 0, fO fn r), (fn 0, qA G 3 9 wh), (fn 1, iA G 9 (fA r 2)), (fn 2, iA G 9 (fA r 3)), (fn 3, iA G 9 (fA r 4)), (fn 4, iA G 9 (fA r 5)), (xa 2, fR fm j_0 j_1 j_2), (fm 0, qA G 3 9 j_w), (fm 1, iA G 9 j_a2), (fm 2, iA G 9 j_a3), (fm 3, iA G 9 j_a4), (fm 4, iA G 9 j_a5), (qn_1, .inr (5, [.ref ra, .int (nI p9)])), (ra, tA G 1 z8 rf), (xa 4, qA G 4 100 g9), (q9, eO 14 f9 ((whX T z8 (z8 + 1) 0 0).1))] H := hP
    have hD : va_D A [(h, xO xa xi), (xa 0, fO fn r), (fn 0, qA G 3 9 wh), (fn 1, iA G 9 (fA r 2)), (fn 2, iA G 9 (fA r 3)), (fn 3, iA G 9 (fA r 4)), (fn 4, iA G 9 (fA r 5)), (xa 2, fR fm j_0 j_1 j_2), (fm 0, qA G 3 9 j_w), (fm 1, iA G 9 j_a2), (fm 2, iA G 9 j_a3), (fm 3, iA G 9 j_a4), (fm 4, iA G 9 j_a5), (qn_1, .inr (5, [.ref ra, .int (nI p9)])), (ra, tA G 1 z8 rf), (xa 4, qA G 4 100 g9), (q9, eO 14 f9 ((whX T z8 (z8 + 1) 0 0).1))] := hD
    exact x_out (E := RX7) (w1 := [(h, xO xa xi), (xa 0, fO fn r), (fn 0, qA G 3 9 wh), (fn 1, iA G 9 (fA r 2)), (fn 2, iA G 9 (fA r 3)), (fn 3, iA G 9 (fA r 4)), (fn 4, iA G 9 (fA r 5)), (xa 2, fR fm j_0 j_1 j_2), (fm 0, qA G 3 9 j_w), (fm 1, iA G 9 j_a2), (fm 2, iA G 9 j_a3), (fm 3, iA G 9 j_a4), (fm 4, iA G 9 j_a5), (xa 4, qA G 4 100 g9), (ra, tA G 1 z8 rf), (q9, eO 14 f9 ((whX T z8 (z8 + 1) 0 0).1))]) (px := fun E q w1 => E = RX7 ∧ (rdA (T) z8 r N).2 = r ∧ ∃ (f9 : Nat → Value) (g_w : Nat → Option Nat) (g_a2 g_a3 g_a4 g_a5 : Nat → Int32) (g_0 g_1 g_2 : Int32) (f8 : Nat → Option Nat), w1 = [(h, xO xa xi), (xa 0, fO fn r), (fn 0, qA G 3 9 wh), (fn 1, iA G 9 (fA r 2)), (fn 2, iA G 9 (fA r 3)), (fn 3, iA G 9 (fA r 4)), (fn 4, iA G 9 (fA r 5)), (xa 2, fR fm g_0 g_1 g_2), (fm 0, qA G 3 9 g_w), (fm 1, iA G 9 g_a2), (fm 2, iA G 9 g_a3), (fm 3, iA G 9 g_a4), (fm 4, iA G 9 g_a5), (xa 4, qA G 4 100 f8), (ra, tA G 1 z8 rf), (q, eO 14 f9 ((rdA (T) z8 r N).1))]) C ht9 ⟨rfl, by rw [eD], f9, j_w, j_a2, j_a3, j_a4, j_a5, j_0, j_1, j_2, g9, by rw [eD]⟩ (hP.sub (ws' := [(h, xO xa xi), (xa 0, fO fn r), (fn 0, qA G 3 9 wh), (fn 1, iA G 9 (fA r 2)), (fn 2, iA G 9 (fA r 3)), (fn 3, iA G 9 (fA r 4)), (fn 4, iA G 9 (fA r 5)), (xa 2, fR fm j_0 j_1 j_2), (fm 0, qA G 3 9 j_w), (fm 1, iA G 9 j_a2), (fm 2, iA G 9 j_a3), (fm 3, iA G 9 j_a4), (fm 4, iA G 9 j_a5), (xa 4, qA G 4 100 g9), (ra, tA G 1 z8 rf), (q9, eO 14 f9 ((whX T z8 (z8 + 1) 0 0).1))]) [0, 1, 2, 3, 4, 5, 6, 7, 8, 9, 10, 11, 12, 15, 14, 16] rfl) (hD.sub (ws' := [(h, xO xa xi), (xa 0, fO fn r), (fn 0, qA G 3 9 wh), (fn 1, iA G 9 (fA r 2)), (fn 2, iA G 9 (fA r 3)), (fn 3, iA G 9 (fA r 4)), (fn 4, iA G 9 (fA r 5)), (xa 2, fR fm j_0 j_1 j_2), (fm 0, qA G 3 9 j_w), (fm 1, iA G 9 j_a2), (fm 2, iA G 9 j_a3), (fm 3, iA G 9 j_a4), (fm 4, iA G 9 j_a5), (xa 4, qA G 4 100 g9), (ra, tA G 1 z8 rf), (q9, eO 14 f9 ((whX T z8 (z8 + 1) 0 0).1))]) [0, 1, 2, 3, 4, 5, 6, 7, 8, 9, 10, 11, 12, 15, 14, 16] (by decide) rfl) hS (by first | omega | decide) (by first | omega | decide) hce hcv hcl
  rw [hT] at hq
  obtain ⟨k1, rfl, to, tn9, p9, f8, hf8, hok, hn100, rfl⟩ := hq
  generalize hn : (whX T z8 (z8 + 1) 0 0).2 = n at hf8 hok hn100 hP hD ⊢
  have eD : rdA T z8 r N = if (cmX T n 0 r N).1 = 0 then (nI n, (cmX T n 0 r N).2) else ((cmX T n 0 r N).1, r) := by unfold rdA; rw [if_pos k1, hn]
  have hP : PP G ([(h, xO xa xi), (xa 0, fO fn r), (fn 0, qA G 3 9 wh), (fn 1, iA G 9 (fA r 2)), (fn 2, iA G 9 (fA r 3)), (fn 3, iA G 9 (fA r 4)), (fn 4, iA G 9 (fA r 5)), (xa 2, fR fm j_0 j_1 j_2), (fm 0, qA G 3 9 j_w), (fm 1, iA G 9 j_a2), (fm 2, iA G 9 j_a3), (fm 3, iA G 9 j_a4), (fm 4, iA G 9 j_a5), (qn_1, .inr (5, [.ref ra, .int (nI p9)])), (ra, tA G 1 z8 rf), (xa 4, qA G 4 100 f8)] ++ tb G T to tn9 n) H := hP
  have hD : va_D A ([(h, xO xa xi), (xa 0, fO fn r), (fn 0, qA G 3 9 wh), (fn 1, iA G 9 (fA r 2)), (fn 2, iA G 9 (fA r 3)), (fn 3, iA G 9 (fA r 4)), (fn 4, iA G 9 (fA r 5)), (xa 2, fR fm j_0 j_1 j_2), (fm 0, qA G 3 9 j_w), (fm 1, iA G 9 j_a2), (fm 2, iA G 9 j_a3), (fm 3, iA G 9 j_a4), (fm 4, iA G 9 j_a5), (qn_1, .inr (5, [.ref ra, .int (nI p9)])), (ra, tA G 1 z8 rf), (xa 4, qA G 4 100 f8)] ++ tb G T to tn9 n) := hD
  have hP : PP G ([(h, xO xa xi), (xa 0, fO fn r), (fn 0, qA G 3 9 wh), (fn 1, iA G 9 (fA r 2)), (fn 2, iA G 9 (fA r 3)), (fn 3, iA G 9 (fA r 4)), (fn 4, iA G 9 (fA r 5)), (xa 2, fR fm j_0 j_1 j_2), (fm 0, qA G 3 9 j_w), (fm 1, iA G 9 j_a2), (fm 2, iA G 9 j_a3), (fm 3, iA G 9 j_a4), (fm 4, iA G 9 j_a5), (xa 4, qA G 4 100 f8), (ra, tA G 1 z8 rf)] ++ tb G T to tn9 n) H := hP.part [0, 1, 2, 3, 4, 5, 6, 7, 8, 9, 10, 11, 12, 15, 14] rfl
  have hD : va_D A ([(h, xO xa xi), (xa 0, fO fn r), (fn 0, qA G 3 9 wh), (fn 1, iA G 9 (fA r 2)), (fn 2, iA G 9 (fA r 3)), (fn 3, iA G 9 (fA r 4)), (fn 4, iA G 9 (fA r 5)), (xa 2, fR fm j_0 j_1 j_2), (fm 0, qA G 3 9 j_w), (fm 1, iA G 9 j_a2), (fm 2, iA G 9 j_a3), (fm 3, iA G 9 j_a4), (fm 4, iA G 9 j_a5), (xa 4, qA G 4 100 f8), (ra, tA G 1 z8 rf)] ++ tb G T to tn9 n) := hD.part [0, 1, 2, 3, 4, 5, 6, 7, 8, 9, 10, 11, 12, 15, 14] (by decide) rfl
  refine lv_istore_n (lv' := [(2, .int (nI n)), (0, .ref h), (1, .ref ra)]) hx hb dX1_reads_15 rfl hl (Nat.le_of_ble_eq_true rfl) rfl (fun ls hl => ?_)
  refine lv_aload_n hx hb dX1_reads_16 rfl (lv_at hl 1 rfl) ?_
  refine va_get (D := gD G) (ci := 1) (v := .ref (xa 2)) (C := RX1) (T := TX1) (N := 9) hx hb hts in_X1 hown hK.1 hP 0 rfl rfl 2 (by decide) (hts _ q840) (fun _ h9 => h9) rfl dX1_reads_17 ?_
  refine lv_aload_n hx hb dX1_reads_20 rfl (lv_at hl 1 rfl) ?_
  refine va_get (D := gD G) (ci := 1) (v := .ref (xa 0)) (C := RX1) (T := TX1) (N := 9) hx hb hts in_X1 hown hK.1 hP 0 rfl rfl 0 (by decide) (hts _ q838) (fun _ h9 => h9) rfl dX1_reads_21 ?_
  refine c_VWvkP (wr := [(h, xO xa xi), (xa 4, qA G 4 100 f8), (ra, tA G 1 z8 rf)]) (rest := []) C (metX2_takes l G (xa 2) (xa 0) fm fn gm wh j_w r j_a2 j_a3 j_a4 j_a5 j_0 j_1 j_2 N hr hwk (NG.of hGA (tl_D hD) [7, 8, 9, 10, 11, 12, 1, 2, 3, 4, 5, 6] rfl)) 1 (lw_V q267 q268 q269 q40 q270) (by decide +kernel) ⟨rfl, rfl⟩ ⟨(Nat.le_of_ble_eq_true rfl), (Nat.le_of_ble_eq_true rfl)⟩ KG.call (KG.at hK (hGP.kept hGA hS)) (va_recv hK.1 hP (ci := 2) (q0 := 7) rfl rfl) hA hP hD hS [7, 8, 9, 10, 11, 12, 1, 2, 3, 4, 5, 6] [0, 13, 14] rfl rfl rfl rfl (by decide) hl rfl rfl (Nat.le_of_ble_eq_true rfl) ⟨(Nat.le_of_ble_eq_true rfl), (Nat.le_of_ble_eq_true rfl)⟩ dX1_reads_24 (fun w1 H locs hq hP hD hS => ?_)
  subst hq
  have hP : PP G ([(h, xO xa xi), (xa 4, qA G 4 100 f8), (ra, tA G 1 z8 rf), (xa 2, fO fm r), (fm 0, qA G 3 9 wh), (fm 1, iA G 9 (fA r 2)), (fm 2, iA G 9 (fA r 3)), (fm 3, iA G 9 (fA r 4)), (fm 4, iA G 9 (fA r 5)), (xa 0, fO fn r), (fn 0, qA G 3 9 wh), (fn 1, iA G 9 (fA r 2)), (fn 2, iA G 9 (fA r 3)), (fn 3, iA G 9 (fA r 4)), (fn 4, iA G 9 (fA r 5))] ++ tb G T to tn9 n) H := hP
  have hP : PP G ([(h, xO xa xi), (xa 0, fO fn r), (fn 0, qA G 3 9 wh), (fn 1, iA G 9 (fA r 2)), (fn 2, iA G 9 (fA r 3)), (fn 3, iA G 9 (fA r 4)), (fn 4, iA G 9 (fA r 5)), (xa 2, fO fm r), (fm 0, qA G 3 9 wh), (fm 1, iA G 9 (fA r 2)), (fm 2, iA G 9 (fA r 3)), (fm 3, iA G 9 (fA r 4)), (fm 4, iA G 9 (fA r 5)), (xa 4, qA G 4 100 f8), (ra, tA G 1 z8 rf)] ++ tb G T to tn9 n) H := hP.part [0, 9, 10, 11, 12, 13, 14, 3, 4, 5, 6, 7, 8, 1, 2] rfl
  have hD : va_D A ([(h, xO xa xi), (xa 4, qA G 4 100 f8), (ra, tA G 1 z8 rf), (xa 2, fO fm r), (fm 0, qA G 3 9 wh), (fm 1, iA G 9 (fA r 2)), (fm 2, iA G 9 (fA r 3)), (fm 3, iA G 9 (fA r 4)), (fm 4, iA G 9 (fA r 5)), (xa 0, fO fn r), (fn 0, qA G 3 9 wh), (fn 1, iA G 9 (fA r 2)), (fn 2, iA G 9 (fA r 3)), (fn 3, iA G 9 (fA r 4)), (fn 4, iA G 9 (fA r 5))] ++ tb G T to tn9 n) := hD
  have hD : va_D A ([(h, xO xa xi), (xa 0, fO fn r), (fn 0, qA G 3 9 wh), (fn 1, iA G 9 (fA r 2)), (fn 2, iA G 9 (fA r 3)), (fn 3, iA G 9 (fA r 4)), (fn 4, iA G 9 (fA r 5)), (xa 2, fO fm r), (fm 0, qA G 3 9 wh), (fm 1, iA G 9 (fA r 2)), (fm 2, iA G 9 (fA r 3)), (fm 3, iA G 9 (fA r 4)), (fm 4, iA G 9 (fA r 5)), (xa 4, qA G 4 100 f8), (ra, tA G 1 z8 rf)] ++ tb G T to tn9 n) := hD.part [0, 9, 10, 11, 12, 13, 14, 3, 4, 5, 6, 7, 8, 1, 2] (by decide) rfl
  refine lv_iconst (v := 0) hx hb dX1_reads_27 rfl ?_
  refine lv_istore_n (lv' := [(3, .int 0), (2, .int (nI n)), (0, .ref h), (1, .ref ra)]) hx hb dX1_reads_28 rfl hl (Nat.le_of_ble_eq_true rfl) rfl (fun ls hl => ?_)
  suffices key : ∀ (m9 k : Nat) (r1 : Nat → Int32) (N1 : Nat) (wh1 : Nat → Option Nat) (gm1 : GM) (tg : va_W) (H : Heap) (locs : List Loc), k + m9 = n → PP G ([(h, xO xa xi), (xa 0, fO fn r), (fn 0, qA G 3 9 wh), (fn 1, iA G 9 (fA r 2)), (fn 2, iA G 9 (fA r 3)), (fn 3, iA G 9 (fA r 4)), (fn 4, iA G 9 (fA r 5)), (xa 2, fO fm r1), (fm 0, qA G 3 9 wh1), (fm 1, iA G 9 (fA r1 2)), (fm 2, iA G 9 (fA r1 3)), (fm 3, iA G 9 (fA r1 4)), (fm 4, iA G 9 (fA r1 5)), (xa 4, qA G 4 100 f8), (ra, tA G 1 z8 rf)] ++ (tb G T to tn9 n ++ tg)) H → va_D A ([(h, xO xa xi), (xa 0, fO fn r), (fn 0, qA G 3 9 wh), (fn 1, iA G 9 (fA r 2)), (fn 2, iA G 9 (fA r 3)), (fn 3, iA G 9 (fA r 4)), (fn 4, iA G 9 (fA r 5)), (xa 2, fO fm r1), (fm 0, qA G 3 9 wh1), (fm 1, iA G 9 (fA r1 2)), (fm 2, iA G 9 (fA r1 3)), (fm 3, iA G 9 (fA r1 4)), (fm 4, iA G 9 (fA r1 5)), (xa 4, qA G 4 100 f8), (ra, tA G 1 z8 rf)] ++ (tb G T to tn9 n ++ tg)) → va_S A s.heap H locs → cmX T n 0 r N = cmX T m9 k r1 N1 → N1 ≤ 8 → r1 0 = nI N1 → WK gm1 wh1 r1 N1 → RI r1 N1 → S9 r1 → GT gm gm1 tg → (∀ q ∈ tg, gm q.1 = none) → ∀ ls : Array Slot, lv_has ls 4 [(3, .int (nI k)), (2, .int (nI n)), (0, .ref h), (1, .ref ra)] → W p0_ l e0_ ({ frames := 11, cells := 920, slots := 5200, locals := 310 } : Room) s m args below meth c H locs (809 + k) (5052 + k) (xq_MQ below (va_Qi (S := va_W) (fun rv w1 => rv = (rdA (T) z8 r N).1 ∧ ∃ (N1 : Nat) (wh1 : Nat → Option Nat) (gm1 : GM) (tg : va_W) (g_w : Nat → Option Nat) (g_a2 g_a3 g_a4 g_a5 : Nat → Int32) (g_0 g_1 g_2 : Int32) (f8 : Nat → Option Nat), N1 ≤ 8 ∧ (rdA (T) z8 r N).2 0 = nI N1 ∧ WK gm1 wh1 (rdA (T) z8 r N).2 N1 ∧ RI (rdA (T) z8 r N).2 N1 ∧ S9 (rdA (T) z8 r N).2 ∧ GT gm gm1 tg ∧ (∀ q ∈ tg, gm q.1 = none) ∧ w1 = [(h, xO xa xi), (xa 0, fO fn ((rdA (T) z8 r N).2)), (fn 0, qA G 3 9 wh1), (fn 1, iA G 9 (fA ((rdA (T) z8 r N).2) 2)), (fn 2, iA G 9 (fA ((rdA (T) z8 r N).2) 3)), (fn 3, iA G 9 (fA ((rdA (T) z8 r N).2) 4)), (fn 4, iA G 9 (fA ((rdA (T) z8 r N).2) 5)), (xa 2, fR fm g_0 g_1 g_2), (fm 0, qA G 3 9 g_w), (fm 1, iA G 9 g_a2), (fm 2, iA G 9 g_a3), (fm 3, iA G 9 g_a4), (fm 4, iA G 9 g_a5), (xa 4, qA G 4 100 f8), (ra, tA G 1 z8 rf)] ++ tg) (fun w1 t => PP G w1 t.heap ∧ va_D A w1) A) (xq_X (S := va_W) (fun _ => True) (fun E q w1 t => (fun E q w1 => E = RX7 ∧ (rdA (T) z8 r N).2 = r ∧ ∃ (f9 : Nat → Value) (g_w : Nat → Option Nat) (g_a2 g_a3 g_a4 g_a5 : Nat → Int32) (g_0 g_1 g_2 : Int32) (f8 : Nat → Option Nat), w1 = [(h, xO xa xi), (xa 0, fO fn r), (fn 0, qA G 3 9 wh), (fn 1, iA G 9 (fA r 2)), (fn 2, iA G 9 (fA r 3)), (fn 3, iA G 9 (fA r 4)), (fn 4, iA G 9 (fA r 5)), (xa 2, fR fm g_0 g_1 g_2), (fm 0, qA G 3 9 g_w), (fm 1, iA G 9 g_a2), (fm 2, iA G 9 g_a3), (fm 3, iA G 9 g_a4), (fm 4, iA G 9 g_a5), (xa 4, qA G 4 100 f8), (ra, tA G 1 z8 rf), (q, eO 14 f9 ((rdA (T) z8 r N).1))]) E q w1 ∧ PP G w1 t.heap ∧ va_D A w1) A) args s 920 5200 A) (F0 m 29 ls []) by
    refine W.eq (g2 := F0 m 29 ls []) rfl ?_
    exact key n 0 r N wh gm [] H locs (by omega) (by rw [List.append_nil]; exact hP) (by rw [List.append_nil]; exact hD) hS rfl hN hr hwk hri h9 (GT.rf gm []) (fun _ z => nomatch z) ls hl
  clear hP hD hS hl
  intro m9
  induction m9 with
  | zero =>
    intro k r1 N1 wh1 gm1 tg H locs hk hP hD hS hcm hN1 hr1 hwk1 hri1 h91 hgt htg ls hl
    have hk9 : k = n := by omega
    refine lv_iload_n hx hb dX1_reads_29 rfl (lv_at hl 0 rfl) ?_
    refine lv_iload_n hx hb dX1_reads_30 rfl (lv_at hl 1 rfl) ?_
    refine n_ic_ge (x := k) (y := n) (tgt := 74) hx hb (by omega) (by omega) dX1_reads_31 (by decide) (fun c9 => ?_) (fun c9 => absurd c9 (by omega))
    rw [cmX] at hcm
    rw [hcm, if_pos rfl] at eD
    refine lv_aload_n hx hb dX1_reads_74 rfl (lv_at hl 2 rfl) ?_
    refine va_get (D := gD G) (ci := 1) (v := .ref (xa 0)) (C := RX1) (T := TX1) (N := 9) hx hb hts in_X1 hown hK.1 hP 0 rfl rfl 0 (by decide) (hts _ q838) (fun _ h9 => h9) rfl dX1_reads_75 ?_
    refine lv_aload_n hx hb dX1_reads_78 rfl (lv_at hl 2 rfl) ?_
    refine va_get (D := gD G) (ci := 1) (v := .ref (xa 2)) (C := RX1) (T := TX1) (N := 9) hx hb hts in_X1 hown hK.1 hP 0 rfl rfl 2 (by decide) (hts _ q840) (fun _ h9 => h9) rfl dX1_reads_79 ?_
    have hGP1 : GP G gm1 H := hgt.GP (hGP.kept hGA hS) hP (fun q hq => List.mem_append_right _ (List.mem_append_right _ hq))
    refine c_VWvkP (wr := [(h, xO xa xi), (xa 4, qA G 4 100 f8), (ra, tA G 1 z8 rf)]) (rest := []) C (metX2_takes l G (xa 0) (xa 2) fn fm gm1 wh1 wh r1 (fA r 2) (fA r 3) (fA r 4) (fA r 5) (r 0) (r 1) (r 2) N1 hr1 hwk1 (gt_NG9 hgt hGA hD (isC := [1, 2, 3, 4, 5, 6, 7, 8, 9, 10, 11, 12]) rfl (fun q hq => List.mem_append_right _ hq))) 1 (lw_V q267 q268 q269 q40 q270) (by decide +kernel) ⟨rfl, rfl⟩ ⟨(Nat.le_of_ble_eq_true rfl), (Nat.le_of_ble_eq_true rfl)⟩ KG.call (KG.at hK hGP1) (va_recv hK.1 hP (ci := 2) (q0 := 1) rfl rfl) hA hP hD hS [1, 2, 3, 4, 5, 6, 7, 8, 9, 10, 11, 12] [0, 13, 14] rfl rfl rfl rfl (by decide) hl rfl rfl (Nat.le_of_ble_eq_true rfl) ⟨(by dsimp only; omega), (by dsimp only; omega)⟩ dX1_reads_82 (fun w1 H locs hq hP hD hS => ?_)
    subst hq
    have hP : PP G ([(h, xO xa xi), (xa 4, qA G 4 100 f8), (ra, tA G 1 z8 rf), (xa 0, fO fn r1), (fn 0, qA G 3 9 wh1), (fn 1, iA G 9 (fA r1 2)), (fn 2, iA G 9 (fA r1 3)), (fn 3, iA G 9 (fA r1 4)), (fn 4, iA G 9 (fA r1 5)), (xa 2, fO fm r1), (fm 0, qA G 3 9 wh1), (fm 1, iA G 9 (fA r1 2)), (fm 2, iA G 9 (fA r1 3)), (fm 3, iA G 9 (fA r1 4)), (fm 4, iA G 9 (fA r1 5))] ++ (tb G T to tn9 n ++ tg)) H := hP
    have hP : PP G ([(h, xO xa xi), (xa 0, fO fn r1), (fn 0, qA G 3 9 wh1), (fn 1, iA G 9 (fA r1 2)), (fn 2, iA G 9 (fA r1 3)), (fn 3, iA G 9 (fA r1 4)), (fn 4, iA G 9 (fA r1 5)), (xa 2, fO fm r1), (fm 0, qA G 3 9 wh1), (fm 1, iA G 9 (fA r1 2)), (fm 2, iA G 9 (fA r1 3)), (fm 3, iA G 9 (fA r1 4)), (fm 4, iA G 9 (fA r1 5)), (xa 4, qA G 4 100 f8), (ra, tA G 1 z8 rf)] ++ (tb G T to tn9 n ++ tg)) H := hP.part [0, 3, 4, 5, 6, 7, 8, 9, 10, 11, 12, 13, 14, 1, 2] rfl
    have hD : va_D A ([(h, xO xa xi), (xa 4, qA G 4 100 f8), (ra, tA G 1 z8 rf), (xa 0, fO fn r1), (fn 0, qA G 3 9 wh1), (fn 1, iA G 9 (fA r1 2)), (fn 2, iA G 9 (fA r1 3)), (fn 3, iA G 9 (fA r1 4)), (fn 4, iA G 9 (fA r1 5)), (xa 2, fO fm r1), (fm 0, qA G 3 9 wh1), (fm 1, iA G 9 (fA r1 2)), (fm 2, iA G 9 (fA r1 3)), (fm 3, iA G 9 (fA r1 4)), (fm 4, iA G 9 (fA r1 5))] ++ (tb G T to tn9 n ++ tg)) := hD
    have hD : va_D A ([(h, xO xa xi), (xa 0, fO fn r1), (fn 0, qA G 3 9 wh1), (fn 1, iA G 9 (fA r1 2)), (fn 2, iA G 9 (fA r1 3)), (fn 3, iA G 9 (fA r1 4)), (fn 4, iA G 9 (fA r1 5)), (xa 2, fO fm r1), (fm 0, qA G 3 9 wh1), (fm 1, iA G 9 (fA r1 2)), (fm 2, iA G 9 (fA r1 3)), (fm 3, iA G 9 (fA r1 4)), (fm 4, iA G 9 (fA r1 5)), (xa 4, qA G 4 100 f8), (ra, tA G 1 z8 rf)] ++ (tb G T to tn9 n ++ tg)) := hD.part [0, 3, 4, 5, 6, 7, 8, 9, 10, 11, 12, 13, 14, 1, 2] (by decide) rfl
    have hP : PP G ([(h, xO xa xi), (xa 0, fO fn r1), (fn 0, qA G 3 9 wh1), (fn 1, iA G 9 (fA r1 2)), (fn 2, iA G 9 (fA r1 3)), (fn 3, iA G 9 (fA r1 4)), (fn 4, iA G 9 (fA r1 5)), (xa 2, fO fm r1), (fm 0, qA G 3 9 wh1), (fm 1, iA G 9 (fA r1 2)), (fm 2, iA G 9 (fA r1 3)), (fm 3, iA G 9 (fA r1 4)), (fm 4, iA G 9 (fA r1 5)), (xa 4, qA G 4 100 f8), (ra, tA G 1 z8 rf)] ++ tg) H := PP_sub ((List.sublist_append_right _ _).append_left _) hP
    have hD : va_D A ([(h, xO xa xi), (xa 0, fO fn r1), (fn 0, qA G 3 9 wh1), (fn 1, iA G 9 (fA r1 2)), (fn 2, iA G 9 (fA r1 3)), (fn 3, iA G 9 (fA r1 4)), (fn 4, iA G 9 (fA r1 5)), (xa 2, fO fm r1), (fm 0, qA G 3 9 wh1), (fm 1, iA G 9 (fA r1 2)), (fm 2, iA G 9 (fA r1 3)), (fm 3, iA G 9 (fA r1 4)), (fm 4, iA G 9 (fA r1 5)), (xa 4, qA G 4 100 f8), (ra, tA G 1 z8 rf)] ++ tg) := D_sub ((List.sublist_append_right _ _).append_left _) hD
    refine lv_iload_n hx hb dX1_reads_85 rfl (lv_at hl 1 rfl) ?_
    refine xq_ret (n_iretW (v := nI n) (w1 := [(h, xO xa xi), (xa 0, fO fn r1), (fn 0, qA G 3 9 wh1), (fn 1, iA G 9 (fA r1 2)), (fn 2, iA G 9 (fA r1 3)), (fn 3, iA G 9 (fA r1 4)), (fn 4, iA G 9 (fA r1 5)), (xa 2, fO fm r1), (fm 0, qA G 3 9 wh1), (fm 1, iA G 9 (fA r1 2)), (fm 2, iA G 9 (fA r1 3)), (fm 3, iA G 9 (fA r1 4)), (fm 4, iA G 9 (fA r1 5)), (xa 4, qA G 4 100 f8), (ra, tA G 1 z8 rf)] ++ tg) C ?_ hP hD hS (by omega) (by omega) dX1_reads_86)
    rw [eD]
    exact ⟨rfl, N1, wh1, gm1, tg, wh1, fA r1 2, fA r1 3, fA r1 4, fA r1 5, r1 0, r1 1, r1 2, f8, hN1, hr1, hwk1, hri1, h91, hgt, htg, rfl⟩
  | succ m9 ih =>
    intro k r1 N1 wh1 gm1 tg H locs hk hP hD hS hcm hN1 hr1 hwk1 hri1 h91 hgt htg ls hl
    have hkn : k < n := by omega
    obtain ⟨hok1, hpk⟩ := hok k hkn
    have hlt := hf8 k hkn
    refine lv_iload_n hx hb dX1_reads_29 rfl (lv_at hl 0 rfl) ?_
    refine lv_iload_n hx hb dX1_reads_30 rfl (lv_at hl 1 rfl) ?_
    refine n_ic_ge (x := k) (y := n) (tgt := 74) hx hb (by omega) (by omega) dX1_reads_31 (by decide) (fun c9 => absurd c9 (by omega)) (fun c9 => ?_)
    refine lv_aload_n hx hb dX1_reads_34 rfl (lv_at hl 2 rfl) ?_
    refine lv_aload_n hx hb dX1_reads_35 rfl (lv_at hl 2 rfl) ?_
    refine va_get (D := gD G) (ci := 1) (v := .ref (xa 4)) (C := RX1) (T := TX1) (N := 9) hx hb hts in_X1 hown hK.1 hP 0 rfl rfl 4 (by decide) (hts _ q842) (fun _ h9 => h9) rfl dX1_reads_36 ?_
    refine lv_iload_n hx hb dX1_reads_39 rfl (lv_at hl 0 rfl) ?_
    refine n_aldqS C hK.1 hP 13 4 k rfl rfl (by omega) (by omega) hlt dX1_reads_40 ?_
    obtain ⟨B9, hB9⟩ := tb_split (G := G) (t := T) (to := to) (tn9 := tn9) hkn
    have hP := PP_perm (pm_in hB9) hP
    have hD := D_perm (pm_in hB9) hD
    have hP : PP G ([(h, xO xa xi), (xa 0, fO fn r), (fn 0, qA G 3 9 wh), (fn 1, iA G 9 (fA r 2)), (fn 2, iA G 9 (fA r 3)), (fn 3, iA G 9 (fA r 4)), (fn 4, iA G 9 (fA r 5)), (xa 2, fO fm r1), (fm 0, qA G 3 9 wh1), (fm 1, iA G 9 (fA r1 2)), (fm 2, iA G 9 (fA r1 3)), (fm 3, iA G 9 (fA r1 4)), (fm 4, iA G 9 (fA r1 5)), (xa 4, qA G 4 100 f8), (ra, tA G 1 z8 rf), (to k, .inr (4, [.int (T (pos T k)), .int (nI (pos T k)), .ref (tn9 k), .int (nI (stM (T (pos T k))))])), (tn9 k, iA G 4 ((stS T (pos T k) (fun _ => 0)).2.2))] ++ (B9 ++ tg)) H := hP
    have hD : va_D A ([(h, xO xa xi), (xa 0, fO fn r), (fn 0, qA G 3 9 wh), (fn 1, iA G 9 (fA r 2)), (fn 2, iA G 9 (fA r 3)), (fn 3, iA G 9 (fA r 4)), (fn 4, iA G 9 (fA r 5)), (xa 2, fO fm r1), (fm 0, qA G 3 9 wh1), (fm 1, iA G 9 (fA r1 2)), (fm 2, iA G 9 (fA r1 3)), (fm 3, iA G 9 (fA r1 4)), (fm 4, iA G 9 (fA r1 5)), (xa 4, qA G 4 100 f8), (ra, tA G 1 z8 rf), (to k, .inr (4, [.int (T (pos T k)), .int (nI (pos T k)), .ref (tn9 k), .int (nI (stM (T (pos T k))))])), (tn9 k, iA G 4 ((stS T (pos T k) (fun _ => 0)).2.2))] ++ (B9 ++ tg)) := hD
    have hGP1 : GP G gm1 H := hgt.GP (hGP.kept hGA hS) hP (fun q hq => List.mem_append_right _ (List.mem_append_right _ hq))
    refine c_VWkP (wr := [(xa 0, fO fn r), (fn 0, qA G 3 9 wh), (fn 1, iA G 9 (fA r 2)), (fn 2, iA G 9 (fA r 3)), (fn 3, iA G 9 (fA r 4)), (fn 4, iA G 9 (fA r 5)), (xa 4, qA G 4 100 f8), (ra, tA G 1 z8 rf)]) (rest := []) C (metX1_comes_u l G h xa xi fm gm1 wh1 r1 N1 (to k) (tn9 k) (T (pos T k)) (nI (pos T k)) (nI (stM (T (pos T k)))) (stS T (pos T k) (fun _ => 0)).2.2 (st_num hok1).1 (gt_NG9 hgt hGA hD (isC := [0, 7, 8, 9, 10, 11, 12, 15, 16]) rfl (fun q hq => List.mem_append_right _ hq)) hN1 hr1 hwk1 h91) 1 (lw_V q277 q279 qs9 q39 q280) (by decide +kernel) ⟨rfl, rfl⟩ ⟨(Nat.le_of_ble_eq_true rfl), (Nat.le_of_ble_eq_true rfl)⟩ KG.call (KG.at hK hGP1) (va_recv hK.1 hP (ci := 1) (q0 := 0) rfl rfl) hA hP hD hS [0, 7, 8, 9, 10, 11, 12, 15, 16] [1, 2, 3, 4, 5, 6, 13, 14] rfl rfl rfl rfl (by decide) hl rfl rfl (Nat.le_of_ble_eq_true rfl) ⟨(by dsimp only; omega), (by dsimp only; omega)⟩ dX1_reads_41 (fun rv w1 H locs hq hP hD hS => ?_)
    obtain ⟨rfl, wh2, gm2, tg2, hgt2, htg2, hwk2, rfl⟩ := hq
    refine n_if_neB (b := sDoB (sDo r1 N1 (T (pos T k)) (stS T (pos T k) (fun _ => 0)).2.2)) (tgt := 68) hx hb dX1_reads_44 (by decide) (fun c8 => ?_) (fun c8 => ?_)
    · have hP := PP_perm (pm_as _ _ _ _) hP
      have hD := D_perm (pm_as _ _ _ _) hD
      obtain ⟨r2, er2⟩ := sDoB_t c8
      rw [cmX, er2] at hcm
      have hcm : cmX T n 0 r N = cmX T m9 (k + 1) r2 (sDoN N1 (T (pos T k))) := hcm
      rw [er2] at hwk2 hP hD
      have hwk2 := hwk2 rfl
      obtain ⟨g1, g2⟩ := sDo_RI hri1 hN1 h91 (st_num hok1).1 er2
      obtain ⟨g3, g4⟩ := sDo_0 hN1 hr1 er2
      have hP : PP G ([(xa 0, fO fn r), (fn 0, qA G 3 9 wh), (fn 1, iA G 9 (fA r 2)), (fn 2, iA G 9 (fA r 3)), (fn 3, iA G 9 (fA r 4)), (fn 4, iA G 9 (fA r 5)), (xa 4, qA G 4 100 f8), (ra, tA G 1 z8 rf), (h, xO xa xi), (xa 2, fO fm r2), (fm 0, qA G 3 9 wh2), (fm 1, iA G 9 (fA r2 2)), (fm 2, iA G 9 (fA r2 3)), (fm 3, iA G 9 (fA r2 4)), (fm 4, iA G 9 (fA r2 5)), (to k, .inr (4, [.int (T (pos T k)), .int (nI (pos T k)), .ref (tn9 k), .int (nI (stM (T (pos T k))))])), (tn9 k, iA G 4 ((stS T (pos T k) (fun _ => 0)).2.2))] ++ (tg2 ++ (B9 ++ tg))) H := hP
      have hP : PP G ([(h, xO xa xi), (xa 0, fO fn r), (fn 0, qA G 3 9 wh), (fn 1, iA G 9 (fA r 2)), (fn 2, iA G 9 (fA r 3)), (fn 3, iA G 9 (fA r 4)), (fn 4, iA G 9 (fA r 5)), (xa 2, fO fm r2), (fm 0, qA G 3 9 wh2), (fm 1, iA G 9 (fA r2 2)), (fm 2, iA G 9 (fA r2 3)), (fm 3, iA G 9 (fA r2 4)), (fm 4, iA G 9 (fA r2 5)), (xa 4, qA G 4 100 f8), (ra, tA G 1 z8 rf), (to k, .inr (4, [.int (T (pos T k)), .int (nI (pos T k)), .ref (tn9 k), .int (nI (stM (T (pos T k))))])), (tn9 k, iA G 4 ((stS T (pos T k) (fun _ => 0)).2.2))] ++ (tg2 ++ (B9 ++ tg))) H := hP.part [8, 0, 1, 2, 3, 4, 5, 9, 10, 11, 12, 13, 14, 6, 7, 15, 16] rfl
      have hP : PP G ([(h, xO xa xi), (xa 0, fO fn r), (fn 0, qA G 3 9 wh), (fn 1, iA G 9 (fA r 2)), (fn 2, iA G 9 (fA r 3)), (fn 3, iA G 9 (fA r 4)), (fn 4, iA G 9 (fA r 5)), (xa 2, fO fm r2), (fm 0, qA G 3 9 wh2), (fm 1, iA G 9 (fA r2 2)), (fm 2, iA G 9 (fA r2 3)), (fm 3, iA G 9 (fA r2 4)), (fm 4, iA G 9 (fA r2 5)), (xa 4, qA G 4 100 f8), (ra, tA G 1 z8 rf)] ++ (tb G T to tn9 n ++ (tg2 ++ tg))) H := PP_perm (pm_back (a := [(h, xO xa xi), (xa 0, fO fn r), (fn 0, qA G 3 9 wh), (fn 1, iA G 9 (fA r 2)), (fn 2, iA G 9 (fA r 3)), (fn 3, iA G 9 (fA r 4)), (fn 4, iA G 9 (fA r 5)), (xa 2, fO fm r2), (fm 0, qA G 3 9 wh2), (fm 1, iA G 9 (fA r2 2)), (fm 2, iA G 9 (fA r2 3)), (fm 3, iA G 9 (fA r2 4)), (fm 4, iA G 9 (fA r2 5)), (xa 4, qA G 4 100 f8), (ra, tA G 1 z8 rf)]) (b1 := tb1 G T to tn9 k) hB9) hP
      have hD : va_D A ([(xa 0, fO fn r), (fn 0, qA G 3 9 wh), (fn 1, iA G 9 (fA r 2)), (fn 2, iA G 9 (fA r 3)), (fn 3, iA G 9 (fA r 4)), (fn 4, iA G 9 (fA r 5)), (xa 4, qA G 4 100 f8), (ra, tA G 1 z8 rf), (h, xO xa xi), (xa 2, fO fm r2), (fm 0, qA G 3 9 wh2), (fm 1, iA G 9 (fA r2 2)), (fm 2, iA G 9 (fA r2 3)), (fm 3, iA G 9 (fA r2 4)), (fm 4, iA G 9 (fA r2 5)), (to k, .inr (4, [.int (T (pos T k)), .int (nI (pos T k)), .ref (tn9 k), .int (nI (stM (T (pos T k))))])), (tn9 k, iA G 4 ((stS T (pos T k) (fun _ => 0)).2.2))] ++ (tg2 ++ (B9 ++ tg))) := hD
      have hD : va_D A ([(h, xO xa xi), (xa 0, fO fn r), (fn 0, qA G 3 9 wh), (fn 1, iA G 9 (fA r 2)), (fn 2, iA G 9 (fA r 3)), (fn 3, iA G 9 (fA r 4)), (fn 4, iA G 9 (fA r 5)), (xa 2, fO fm r2), (fm 0, qA G 3 9 wh2), (fm 1, iA G 9 (fA r2 2)), (fm 2, iA G 9 (fA r2 3)), (fm 3, iA G 9 (fA r2 4)), (fm 4, iA G 9 (fA r2 5)), (xa 4, qA G 4 100 f8), (ra, tA G 1 z8 rf), (to k, .inr (4, [.int (T (pos T k)), .int (nI (pos T k)), .ref (tn9 k), .int (nI (stM (T (pos T k))))])), (tn9 k, iA G 4 ((stS T (pos T k) (fun _ => 0)).2.2))] ++ (tg2 ++ (B9 ++ tg))) := hD.part [8, 0, 1, 2, 3, 4, 5, 9, 10, 11, 12, 13, 14, 6, 7, 15, 16] (by decide) rfl
      have hD : va_D A ([(h, xO xa xi), (xa 0, fO fn r), (fn 0, qA G 3 9 wh), (fn 1, iA G 9 (fA r 2)), (fn 2, iA G 9 (fA r 3)), (fn 3, iA G 9 (fA r 4)), (fn 4, iA G 9 (fA r 5)), (xa 2, fO fm r2), (fm 0, qA G 3 9 wh2), (fm 1, iA G 9 (fA r2 2)), (fm 2, iA G 9 (fA r2 3)), (fm 3, iA G 9 (fA r2 4)), (fm 4, iA G 9 (fA r2 5)), (xa 4, qA G 4 100 f8), (ra, tA G 1 z8 rf)] ++ (tb G T to tn9 n ++ (tg2 ++ tg))) := D_perm (pm_back (a := [(h, xO xa xi), (xa 0, fO fn r), (fn 0, qA G 3 9 wh), (fn 1, iA G 9 (fA r 2)), (fn 2, iA G 9 (fA r 3)), (fn 3, iA G 9 (fA r 4)), (fn 4, iA G 9 (fA r 5)), (xa 2, fO fm r2), (fm 0, qA G 3 9 wh2), (fm 1, iA G 9 (fA r2 2)), (fm 2, iA G 9 (fA r2 3)), (fm 3, iA G 9 (fA r2 4)), (fm 4, iA G 9 (fA r2 5)), (xa 4, qA G 4 100 f8), (ra, tA G 1 z8 rf)]) (b1 := tb1 G T to tn9 k) hB9) hD
      refine n_iinc (k := 0) (lv' := [(3, .int (nI (k + 1))), (2, .int (nI n)), (0, .ref h), (1, .ref ra)]) hx hb k 1 dX1_reads_68 hl rfl (Nat.le_of_ble_eq_true rfl) rfl (fun ls hl => ?_)
      refine lv_goto (tgt := 29) hx hb dX1_reads_71 (by decide) ?_
      exact ih (k + 1) r2 _ wh2 gm2 (tg2 ++ tg) H locs (by omega) hP hD hS hcm g4 g3 hwk2 g1 g2 (hgt.trans hgt2) (fun q hq => (List.mem_append.mp hq).elim (fun z => hgt.none (htg2 q z)) (htg q)) ls hl
    · have hP := tl_P (PP_perm (pm_as _ _ _ _) hP)
      have hD := tl_D (D_perm (pm_as _ _ _ _) hD)
      have er2 := sDoB_f c8
      rw [cmX, er2] at hcm
      have hcm : cmX T n 0 r N = (-2000 - nI (pos T k), r1) := hcm
      rw [er2] at hP hD
      have eD : rdA T z8 r N = (-2000 - nI (pos T k), r) := by rw [eD, hcm]; exact if_neg (fault2 (by omega))
      have hP : PP G [(xa 0, fO fn r), (fn 0, qA G 3 9 wh), (fn 1, iA G 9 (fA r 2)), (fn 2, iA G 9 (fA r 3)), (fn 3, iA G 9 (fA r 4)), (fn 4, iA G 9 (fA r 5)), (xa 4, qA G 4 100 f8), (ra, tA G 1 z8 rf), (h, xO xa xi), (xa 2, fO fm r1), (fm 0, qA G 3 9 wh2), (fm 1, iA G 9 (fA r1 2)), (fm 2, iA G 9 (fA r1 3)), (fm 3, iA G 9 (fA r1 4)), (fm 4, iA G 9 (fA r1 5)), (to k, .inr (4, [.int (T (pos T k)), .int (nI (pos T k)), .ref (tn9 k), .int (nI (stM (T (pos T k))))])), (tn9 k, iA G 4 ((stS T (pos T k) (fun _ => 0)).2.2))] H := hP
      have hD : va_D A [(xa 0, fO fn r), (fn 0, qA G 3 9 wh), (fn 1, iA G 9 (fA r 2)), (fn 2, iA G 9 (fA r 3)), (fn 3, iA G 9 (fA r 4)), (fn 4, iA G 9 (fA r 5)), (xa 4, qA G 4 100 f8), (ra, tA G 1 z8 rf), (h, xO xa xi), (xa 2, fO fm r1), (fm 0, qA G 3 9 wh2), (fm 1, iA G 9 (fA r1 2)), (fm 2, iA G 9 (fA r1 3)), (fm 3, iA G 9 (fA r1 4)), (fm 4, iA G 9 (fA r1 5)), (to k, .inr (4, [.int (T (pos T k)), .int (nI (pos T k)), .ref (tn9 k), .int (nI (stM (T (pos T k))))])), (tn9 k, iA G 4 ((stS T (pos T k) (fun _ => 0)).2.2))] := hD
      refine n_newF (G := G) (ci := 14) (fs := [.null, .null, .null, .null, .null, .int 0, .int 0]) (Cn := RX7) (T := TX7) (N := 7) C in_X7 tyX7 tyX7_ok q165 q242 q50 hK.1 hP hD hS hA rfl (fun j hj => (by rcases (show j = 0 ∨ j = 1 ∨ j = 2 ∨ j = 3 ∨ j = 4 ∨ j = 5 ∨ j = 6 by omega) with rfl | rfl | rfl | rfl | rfl | rfl | rfl <;> rfl)) (by dsimp only; omega) (by dsimp only; omega) dX1_reads_47 (fun qn_4 H hP hD hS hF9 => ?_)
      have hP : PP G [(xa 0, fO fn r), (fn 0, qA G 3 9 wh), (fn 1, iA G 9 (fA r 2)), (fn 2, iA G 9 (fA r 3)), (fn 3, iA G 9 (fA r 4)), (fn 4, iA G 9 (fA r 5)), (xa 4, qA G 4 100 f8), (ra, tA G 1 z8 rf), (h, xO xa xi), (xa 2, fO fm r1), (fm 0, qA G 3 9 wh2), (fm 1, iA G 9 (fA r1 2)), (fm 2, iA G 9 (fA r1 3)), (fm 3, iA G 9 (fA r1 4)), (fm 4, iA G 9 (fA r1 5)), (to k, .inr (4, [.int (T (pos T k)), .int (nI (pos T k)), .ref (tn9 k), .int (nI (stM (T (pos T k))))])), (tn9 k, iA G 4 ((stS T (pos T k) (fun _ => 0)).2.2)), (qn_4, .inr (14, [.null, .null, .null, .null, .null, .int 0, .int 0]))] H := hP
      have hD : va_D A [(xa 0, fO fn r), (fn 0, qA G 3 9 wh), (fn 1, iA G 9 (fA r 2)), (fn 2, iA G 9 (fA r 3)), (fn 3, iA G 9 (fA r 4)), (fn 4, iA G 9 (fA r 5)), (xa 4, qA G 4 100 f8), (ra, tA G 1 z8 rf), (h, xO xa xi), (xa 2, fO fm r1), (fm 0, qA G 3 9 wh2), (fm 1, iA G 9 (fA r1 2)), (fm 2, iA G 9 (fA r1 3)), (fm 3, iA G 9 (fA r1 4)), (fm 4, iA G 9 (fA r1 5)), (to k, .inr (4, [.int (T (pos T k)), .int (nI (pos T k)), .ref (tn9 k), .int (nI (stM (T (pos T k))))])), (tn9 k, iA G 4 ((stS T (pos T k) (fun _ => 0)).2.2)), (qn_4, .inr (14, [.null, .null, .null, .null, .null, .int 0, .int 0]))] := hD
      refine lv_dup hx hb dX1_reads_50 rfl ?_
      refine lv_sipush (v := (-2000)) hx hb dX1_reads_51 (by decide) ?_
      refine lv_aload_n hx hb dX1_reads_54 rfl (lv_at hl 2 rfl) ?_
      refine va_get (D := gD G) (ci := 1) (v := .ref (xa 4)) (C := RX1) (T := TX1) (N := 9) hx hb hts in_X1 hown hK.1 hP 8 rfl rfl 4 (by decide) (hts _ q842) (fun _ h9 => h9) rfl dX1_reads_55 ?_
      refine lv_iload_n hx hb dX1_reads_58 rfl (lv_at hl 0 rfl) ?_
      refine n_aldqS C hK.1 hP 6 4 k rfl rfl (by omega) (by omega) hlt dX1_reads_59 ?_
      refine va_get (D := gD G) (ci := 4) (v := .int (nI (pos T k))) (C := RX6) (T := TX6) (N := 4) hx hb hts in_X6 hown hK.1 hP 15 rfl rfl 1 (by decide) (hts _ q214) (fun _ h9 => h9) rfl dX1_reads_60 ?_
      refine lv_isub (x := (-2000)) (y := nI (pos T k)) hx hb dX1_reads_63 ?_
      refine c_IWvk (wr := [(xa 0, fO fn r), (fn 0, qA G 3 9 wh), (fn 1, iA G 9 (fA r 2)), (fn 2, iA G 9 (fA r 3)), (fn 3, iA G 9 (fA r 4)), (fn 4, iA G 9 (fA r 5)), (xa 4, qA G 4 100 f8), (ra, tA G 1 z8 rf), (h, xO xa xi), (xa 2, fO fm r1), (fm 0, qA G 3 9 wh2), (fm 1, iA G 9 (fA r1 2)), (fm 2, iA G 9 (fA r1 3)), (fm 3, iA G 9 (fA r1 4)), (fm 4, iA G 9 (fA r1 5)), (to k, .inr (4, [.int (T (pos T k)), .int (nI (pos T k)), .ref (tn9 k), .int (nI (stM (T (pos T k))))])), (tn9 k, iA G 4 ((stS T (pos T k) (fun _ => 0)).2.2))]) (rest := [.ref qn_4]) C (metX7_init l hl9 G qn_4 ((-2000) - (nI (pos T k)))) 1 q498 q252 q50 q251 rfl (by decide +kernel) ⟨rfl, rfl⟩ ⟨(Nat.le_of_ble_eq_true rfl), (Nat.le_of_ble_eq_true rfl)⟩ KI.call (KI.at hK hZ hS hF9) hA hP hD hS [17] [0, 1, 2, 3, 4, 5, 6, 7, 8, 9, 10, 11, 12, 13, 14, 15, 16] rfl rfl rfl rfl (by decide) hl rfl rfl (Nat.le_of_ble_eq_true rfl) ⟨(by dsimp only; omega), (by dsimp only; omega)⟩ dX1_reads_64 (fun w1 H locs hq_6 hP hD hS => ?_)
      obtain ⟨f_7, rfl⟩ := hq_6
      have hP : PP G [(xa 0, fO fn r), (fn 0, qA G 3 9 wh), (fn 1, iA G 9 (fA r 2)), (fn 2, iA G 9 (fA r 3)), (fn 3, iA G 9 (fA r 4)), (fn 4, iA G 9 (fA r 5)), (xa 4, qA G 4 100 f8), (ra, tA G 1 z8 rf), (h, xO xa xi), (xa 2, fO fm r1), (fm 0, qA G 3 9 wh2), (fm 1, iA G 9 (fA r1 2)), (fm 2, iA G 9 (fA r1 3)), (fm 3, iA G 9 (fA r1 4)), (fm 4, iA G 9 (fA r1 5)), (to k, .inr (4, [.int (T (pos T k)), .int (nI (pos T k)), .ref (tn9 k), .int (nI (stM (T (pos T k))))])), (tn9 k, iA G 4 ((stS T (pos T k) (fun _ => 0)).2.2)), (qn_4, eO 14 f_7 ((-2000) - (nI (pos T k))))] H := hP
      have hD : va_D A [(xa 0, fO fn r), (fn 0, qA G 3 9 wh), (fn 1, iA G 9 (fA r 2)), (fn 2, iA G 9 (fA r 3)), (fn 3, iA G 9 (fA r 4)), (fn 4, iA G 9 (fA r 5)), (xa 4, qA G 4 100 f8), (ra, tA G 1 z8 rf), (h, xO xa xi), (xa 2, fO fm r1), (fm 0, qA G 3 9 wh2), (fm 1, iA G 9 (fA r1 2)), (fm 2, iA G 9 (fA r1 3)), (fm 3, iA G 9 (fA r1 4)), (fm 4, iA G 9 (fA r1 5)), (to k, .inr (4, [.int (T (pos T k)), .int (nI (pos T k)), .ref (tn9 k), .int (nI (stM (T (pos T k))))])), (tn9 k, iA G 4 ((stS T (pos T k) (fun _ => 0)).2.2)), (qn_4, eO 14 f_7 ((-2000) - (nI (pos T k))))] := hD
      exact x_thr (ci := 14) (E := RX7) (q0 := 15) (w1 := [(h, xO xa xi), (xa 0, fO fn r), (fn 0, qA G 3 9 wh), (fn 1, iA G 9 (fA r 2)), (fn 2, iA G 9 (fA r 3)), (fn 3, iA G 9 (fA r 4)), (fn 4, iA G 9 (fA r 5)), (xa 2, fO fm r1), (fm 0, qA G 3 9 wh2), (fm 1, iA G 9 (fA r1 2)), (fm 2, iA G 9 (fA r1 3)), (fm 3, iA G 9 (fA r1 4)), (fm 4, iA G 9 (fA r1 5)), (xa 4, qA G 4 100 f8), (ra, tA G 1 z8 rf), (qn_4, eO 14 f_7 ((-2000) - (nI (pos T k))))]) (px := fun E q w1 => E = RX7 ∧ (rdA (T) z8 r N).2 = r ∧ ∃ (f9 : Nat → Value) (g_w : Nat → Option Nat) (g_a2 g_a3 g_a4 g_a5 : Nat → Int32) (g_0 g_1 g_2 : Int32) (f8 : Nat → Option Nat), w1 = [(h, xO xa xi), (xa 0, fO fn r), (fn 0, qA G 3 9 wh), (fn 1, iA G 9 (fA r 2)), (fn 2, iA G 9 (fA r 3)), (fn 3, iA G 9 (fA r 4)), (fn 4, iA G 9 (fA r 5)), (xa 2, fR fm g_0 g_1 g_2), (fm 0, qA G 3 9 g_w), (fm 1, iA G 9 g_a2), (fm 2, iA G 9 g_a3), (fm 3, iA G 9 g_a4), (fm 4, iA G 9 g_a5), (xa 4, qA G 4 100 f8), (ra, tA G 1 z8 rf), (q, eO 14 f9 ((rdA (T) z8 r N).1))]) C hK.1 ht9 ⟨rfl, by rw [eD], f_7, wh2, fA r1 2, fA r1 3, fA r1 4, fA r1 5, r1 0, r1 1, r1 2, f8, by rw [eD]⟩ (hP.sub (ws' := [(h, xO xa xi), (xa 0, fO fn r), (fn 0, qA G 3 9 wh), (fn 1, iA G 9 (fA r 2)), (fn 2, iA G 9 (fA r 3)), (fn 3, iA G 9 (fA r 4)), (fn 4, iA G 9 (fA r 5)), (xa 2, fO fm r1), (fm 0, qA G 3 9 wh2), (fm 1, iA G 9 (fA r1 2)), (fm 2, iA G 9 (fA r1 3)), (fm 3, iA G 9 (fA r1 4)), (fm 4, iA G 9 (fA r1 5)), (xa 4, qA G 4 100 f8), (ra, tA G 1 z8 rf), (qn_4, eO 14 f_7 ((-2000) - (nI (pos T k))))]) [8, 0, 1, 2, 3, 4, 5, 9, 10, 11, 12, 13, 14, 6, 7, 17] rfl) (hD.sub (ws' := [(h, xO xa xi), (xa 0, fO fn r), (fn 0, qA G 3 9 wh), (fn 1, iA G 9 (fA r 2)), (fn 2, iA G 9 (fA r 3)), (fn 3, iA G 9 (fA r 4)), (fn 4, iA G 9 (fA r 5)), (xa 2, fO fm r1), (fm 0, qA G 3 9 wh2), (fm 1, iA G 9 (fA r1 2)), (fm 2, iA G 9 (fA r1 3)), (fm 3, iA G 9 (fA r1 4)), (fm 4, iA G 9 (fA r1 5)), (xa 4, qA G 4 100 f8), (ra, tA G 1 z8 rf), (qn_4, eO 14 f_7 ((-2000) - (nI (pos T k))))]) [8, 0, 1, 2, 3, 4, 5, 9, 10, 11, 12, 13, 14, 6, 7, 17] (by decide) rfl) hS (by first | omega | decide) (by first | omega | decide) rfl rfl dX1_reads_67
