set_option maxHeartbeats 4000000 in
set_option maxRecDepth 100000 in
theorem metX1_element_b (l : Launch) (G : GG) (h : Nat) (xa : Nat → Nat) (xi : Nat → Int32) (sh : Nat → Nat) (gm : GM) (d i : Int32) (hl9 : l.stackTraces = false) (hng : NG gm [(h, xO xa xi)]) (hbad : sIn d 0 7 = false) : MXl l yX1_element cX1_element 5 (some .long) [((26 : Nat), (40 : Nat), (64 : Nat), (350 : Nat)), ((41 : Nat), (55 : Nat), (64 : Nat), (350 : Nat)), ((56 : Nat), (63 : Nat), (64 : Nat), (350 : Nat)), ((26 : Nat), (40 : Nat), (74 : Nat), (144 : Nat)), ((41 : Nat), (55 : Nat), (74 : Nat), (144 : Nat)), ((56 : Nat), (63 : Nat), (74 : Nat), (144 : Nat)), ((26 : Nat), (40 : Nat), (84 : Nat), (345 : Nat)), ((41 : Nat), (55 : Nat), (84 : Nat), (345 : Nat)), ((56 : Nat), (63 : Nat), (84 : Nat), (345 : Nat))] ({ frames := 6, cells := 4, slots := 1100, locals := 200 }) [.ref h, .int d, .int i] [(h, xO xa xi)] G (KE G gm) 4 1100 (fun _ _ => False) (fun E => E = "java/lang/IllegalArgumentException") := by
  -- rows printed by wip/tools/gen.py
  refine mxl_mkg RX1 (by decide) rfl (Nat.le_of_ble_eq_true rfl) ?_
  intro p0_ e0_ s m args below meth c A C htab hA hAx hP hK hD ls hl
  have hZ : ZA A s := hK.2.2.of hP hAx
  have hM1 := hK.2.1
  have hK := hK.1
  have hGP := hK.2
  have hK := hK.1
  have hGA := GA.of hng hGP hAx
  have hx := C.1
  have hb := C.2.1
  have hml := C.2.2.2.2.1
  have hown := C.2.2.2.2.2.1
  have hts := C.2.2.2.2.2.2
  have hS : va_S A s.heap s.heap [] := va_S.rf
  have hl : lv_has ls 5 [(0, .ref h), (1, .int d), (2, .int i)] := hl
  refine lv_aload_n hx hb dX1_element_0 rfl (lv_at hl 0 rfl) ?_
  refine lv_iload_n hx hb dX1_element_1 rfl (lv_at hl 1 rfl) ?_
  refine c_V (rest := []) C (metX1_isShelf l G h xa xi d) 1 (lw_V q166 q168 qs2 q39 q170) (by decide +kernel) ⟨rfl, rfl⟩ ⟨(Nat.le_of_ble_eq_true rfl), (Nat.le_of_ble_eq_true rfl)⟩ (KM_mv G) (va_recv hK.1 hP (ci := 1) (q0 := 0) rfl rfl) hP hK.1 hl rfl rfl (Nat.le_of_ble_eq_true rfl) ⟨(Nat.le_of_ble_eq_true rfl), (Nat.le_of_ble_eq_true rfl)⟩ dX1_element_2 ?_
  refine n_if_neB (b := (sIn d 0 7)) (tgt := 16) hx hb dX1_element_5 (by decide) (fun c_1 => absurd c_1 (by simp [hbad])) (fun c_1 => ?_)
  exact x_new0 (gm := gm) (cls := "java/lang/IllegalArgumentException") (ik := 347) (ic := 349) C hl9 hK.2 hZ hP rfl hD hS (by decide +kernel) q1037 q67 eIAE_tbl e_in1.2.2.2.2.1 rfl dX1_element_8 dX1_element_11 dX1_element_12 dX1_element_15 (by rw [htab]; decide) hl.1 ⟨Nat.le_of_ble_eq_true rfl, Nat.le_of_ble_eq_true rfl⟩ ⟨Nat.le_of_ble_eq_true rfl, Nat.le_of_ble_eq_true rfl⟩ (by first | omega | decide) (by first | omega | decide)

set_option maxHeartbeats 4000000 in
set_option maxRecDepth 100000 in
theorem metX1_element_n (l : Launch) (G : GG) (h : Nat) (xa : Nat → Nat) (xi : Nat → Int32) (sh : Nat → Nat) (gm : GM) (dn : Nat) (i : Int32) (hl9 : l.stackTraces = false) (hng : NG gm [(h, xO xa xi), (xa 8, qA G 5 8 (shf sh)), (sh dn, .inr (3, [.null]))]) (hdn : dn ≤ 7) : MXl l yX1_element cX1_element 5 (some .long) [((26 : Nat), (40 : Nat), (64 : Nat), (350 : Nat)), ((41 : Nat), (55 : Nat), (64 : Nat), (350 : Nat)), ((56 : Nat), (63 : Nat), (64 : Nat), (350 : Nat)), ((26 : Nat), (40 : Nat), (74 : Nat), (144 : Nat)), ((41 : Nat), (55 : Nat), (74 : Nat), (144 : Nat)), ((56 : Nat), (63 : Nat), (74 : Nat), (144 : Nat)), ((26 : Nat), (40 : Nat), (84 : Nat), (345 : Nat)), ((41 : Nat), (55 : Nat), (84 : Nat), (345 : Nat)), ((56 : Nat), (63 : Nat), (84 : Nat), (345 : Nat))] ({ frames := 9, cells := 4, slots := 1100, locals := 10400 }) [.ref h, .int (nI dn), .int i] [(h, xO xa xi), (xa 8, qA G 5 8 (shf sh)), (sh dn, .inr (3, [.null]))] G (KE G gm) 4 1100 (fun _ _ => False) (fun E => E = "java/lang/IllegalStateException") := by
  -- rows printed by wip/tools/gen.py
  refine mxl_mkg RX1 (by decide) rfl (Nat.le_of_ble_eq_true rfl) ?_
  intro p0_ e0_ s m args below meth c A C htab hA hAx hP hK hD ls hl
  have hZ : ZA A s := hK.2.2.of hP hAx
  have hM1 := hK.2.1
  have hK := hK.1
  have hGP := hK.2
  have hK := hK.1
  have hGA := GA.of hng hGP hAx
  have hx := C.1
  have hb := C.2.1
  have hml := C.2.2.2.2.1
  have hown := C.2.2.2.2.2.1
  have hts := C.2.2.2.2.2.2
  have hS : va_S A s.heap s.heap [] := va_S.rf
  have hl : lv_has ls 5 [(0, .ref h), (1, .int (nI dn)), (2, .int i)] := hl
  have hs7 := sIn07 hdn
  refine lv_aload_n hx hb dX1_element_0 rfl (lv_at hl 0 rfl) ?_
  refine lv_iload_n hx hb dX1_element_1 rfl (lv_at hl 1 rfl) ?_
  refine c_V (rest := []) C (metX1_isShelf l G h xa xi (nI dn)) 1 (lw_V q166 q168 qs2 q39 q170) (by decide +kernel) ⟨rfl, rfl⟩ ⟨(Nat.le_of_ble_eq_true rfl), (Nat.le_of_ble_eq_true rfl)⟩ (KM_mv G) (va_recv hK.1 hP (ci := 1) (q0 := 0) rfl rfl) (hP.sub (ws' := [(h, xO xa xi)]) [0] rfl) hK.1 hl rfl rfl (Nat.le_of_ble_eq_true rfl) ⟨(Nat.le_of_ble_eq_true rfl), (Nat.le_of_ble_eq_true rfl)⟩ dX1_element_2 ?_
  refine n_if_neB (b := (sIn (nI dn) 0 7)) (tgt := 16) hx hb dX1_element_5 (by decide) (fun c_1 => ?_) (fun c_1 => absurd c_1 (by simp [hs7]))
  refine lv_aload_n hx hb dX1_element_16 rfl (lv_at hl 0 rfl) ?_
  refine va_get (D := gD G) (ci := 1) (v := .ref (xa 8)) (C := RX1) (T := TX1) (N := 9) hx hb hts in_X1 hown hK.1 hP 0 rfl rfl 8 (by decide) (hts _ q846) (fun _ h9 => h9) rfl dX1_element_17 ?_
  refine lv_iload_n hx hb dX1_element_20 rfl (lv_at hl 1 rfl) ?_
  refine n_aldqS (y := sh dn) C hK.1 hP 1 5 dn rfl rfl (by omega) (by omega) rfl dX1_element_21 ?_
  refine va_get (D := gD G) (ci := 3) (v := .null) (C := RX3) (T := TX3) (N := 1) hx hb hts in_X3 hown hK.1 hP 2 rfl rfl 0 (by decide) (hts _ q834) (fun _ h9 => h9) rfl dX1_element_22 ?_
  refine lv_astore_nN (lv' := [(3, .null), (0, .ref h), (1, .int (nI dn)), (2, .int i)]) hx hb dX1_element_25 rfl hl (Nat.le_of_ble_eq_true rfl) rfl (fun ls hl => ?_)
  refine lv_aload_nN hx hb dX1_element_26 rfl (lv_at hl 0 rfl) ?_
  refine lv_instN hx hb dX1_element_27 ?_
  refine lv_if_eq (x := 0) (tgt := 41) hx hb dX1_element_30 (by decide) (fun c_2 => ?_) (fun c_2 => absurd c_2 (by decide))
  refine lv_aload_nN hx hb dX1_element_41 rfl (lv_at hl 0 rfl) ?_
  refine lv_instN hx hb dX1_element_42 ?_
  refine lv_if_eq (x := 0) (tgt := 56) hx hb dX1_element_45 (by decide) (fun c_3 => ?_) (fun c_3 => absurd c_3 (by decide))
  refine lv_aload_nN hx hb dX1_element_56 rfl (lv_at hl 0 rfl) ?_
  refine lv_castN hx hb dX1_element_57 ?_
  refine lv_iload_n hx hb dX1_element_60 rfl (lv_at hl 3 rfl) ?_
  refine vx_ialoadN hx hb dX1_element_61 ?_
  refine x_noteN C hl9 hK.2 hP (hGP.kept hGA hS) hS hZ hl.1 ⟨Nat.le_of_ble_eq_true rfl, Nat.le_of_ble_eq_true rfl, Nat.le_of_ble_eq_true rfl, Nat.le_of_ble_eq_true rfl⟩ (fun H q9 ce hP _ hS hce hcv hcl => ?_)
  refine x_catch (E := "java/lang/NullPointerException") (name := "java/lang/NullPointerException") C hK.2 htab [⟨26, 40, 64, 350⟩, ⟨41, 55, 64, 350⟩] ⟨56, 63, 64, 350⟩ [⟨26, 40, 74, 144⟩, ⟨41, 55, 74, 144⟩, ⟨56, 63, 74, 144⟩, ⟨26, 40, 84, 345⟩, ⟨41, 55, 84, 345⟩, ⟨56, 63, 84, 345⟩] rfl (fun z h9 => by simp only [List.mem_cons, List.not_mem_nil, or_false] at h9; rcases h9 with rfl | rfl <;> first | exact Or.inl (by decide) | fail) (by decide) (by decide) q922 (by decide +kernel) hce hcv hcl ?_
  refine lv_astore (lv' := [(4, .ref q9), (3, .null), (0, .ref h), (1, .int (nI dn)), (2, .int i)]) hx hb dX1_element_64 hl (Nat.le_of_ble_eq_true rfl) rfl (fun ls hl => ?_)
  exact x_new0 (gm := gm) (cls := "java/lang/IllegalStateException") (ik := 352) (ic := 354) C hl9 hK.2 hZ hP rfl hD hS (by decide +kernel) q1052 q68 eISE_tbl e_in1.2.2.2.2.2.1 rfl dX1_element_66 dX1_element_69 dX1_element_70 dX1_element_73 (by rw [htab]; decide) hl.1 ⟨Nat.le_of_ble_eq_true rfl, Nat.le_of_ble_eq_true rfl⟩ ⟨Nat.le_of_ble_eq_true rfl, Nat.le_of_ble_eq_true rfl⟩ (by first | omega | decide) (by first | omega | decide)

set_option maxHeartbeats 4000000 in
set_option maxRecDepth 100000 in
theorem metX1_element_g (l : Launch) (G : GG) (h : Nat) (xa : Nat → Nat) (xi : Nat → Int32) (sh : Nat → Nat) (gm : GM) (dn : Nat) (i : Int32) (y k : Nat) (v : Int32) (hl9 : l.stackTraces = false) (hng : NG gm [(h, xO xa xi), (xa 8, qA G 5 8 (shf sh)), (sh dn, .inr (3, [.ref y]))]) (hdn : dn ≤ 7) (hy : gm y = some (k, v)) : MXl l yX1_element cX1_element 5 (some .long) [((26 : Nat), (40 : Nat), (64 : Nat), (350 : Nat)), ((41 : Nat), (55 : Nat), (64 : Nat), (350 : Nat)), ((56 : Nat), (63 : Nat), (64 : Nat), (350 : Nat)), ((26 : Nat), (40 : Nat), (74 : Nat), (144 : Nat)), ((41 : Nat), (55 : Nat), (74 : Nat), (144 : Nat)), ((56 : Nat), (63 : Nat), (74 : Nat), (144 : Nat)), ((26 : Nat), (40 : Nat), (84 : Nat), (345 : Nat)), ((41 : Nat), (55 : Nat), (84 : Nat), (345 : Nat)), ((56 : Nat), (63 : Nat), (84 : Nat), (345 : Nat))] ({ frames := 9, cells := 4, slots := 1100, locals := 10400 }) [.ref h, .int (nI dn), .int i] [(h, xO xa xi), (xa 8, qA G 5 8 (shf sh)), (sh dn, .inr (3, [.ref y]))] G (KE G gm) 4 1100 (fun _ _ => False) (fun E => E = "java/lang/IllegalStateException") := by
  -- rows printed by wip/tools/gen.py
  refine mxl_mkg RX1 (by decide) rfl (Nat.le_of_ble_eq_true rfl) ?_
  intro p0_ e0_ s m args below meth c A C htab hA hAx hP hK hD ls hl
  have hZ : ZA A s := hK.2.2.of hP hAx
  have hM1 := hK.2.1
  have hK := hK.1
  have hGP := hK.2
  have hK := hK.1
  have hGA := GA.of hng hGP hAx
  have hx := C.1
  have hb := C.2.1
  have hml := C.2.2.2.2.1
  have hown := C.2.2.2.2.2.1
  have hts := C.2.2.2.2.2.2
  have hS : va_S A s.heap s.heap [] := va_S.rf
  have hl : lv_has ls 5 [(0, .ref h), (1, .int (nI dn)), (2, .int i)] := hl
  have hs7 := sIn07 hdn
  refine lv_aload_n hx hb dX1_element_0 rfl (lv_at hl 0 rfl) ?_
  refine lv_iload_n hx hb dX1_element_1 rfl (lv_at hl 1 rfl) ?_
  refine c_V (rest := []) C (metX1_isShelf l G h xa xi (nI dn)) 1 (lw_V q166 q168 qs2 q39 q170) (by decide +kernel) ⟨rfl, rfl⟩ ⟨(Nat.le_of_ble_eq_true rfl), (Nat.le_of_ble_eq_true rfl)⟩ (KM_mv G) (va_recv hK.1 hP (ci := 1) (q0 := 0) rfl rfl) (hP.sub (ws' := [(h, xO xa xi)]) [0] rfl) hK.1 hl rfl rfl (Nat.le_of_ble_eq_true rfl) ⟨(Nat.le_of_ble_eq_true rfl), (Nat.le_of_ble_eq_true rfl)⟩ dX1_element_2 ?_
  refine n_if_neB (b := (sIn (nI dn) 0 7)) (tgt := 16) hx hb dX1_element_5 (by decide) (fun c_1 => ?_) (fun c_1 => absurd c_1 (by simp [hs7]))
  refine lv_aload_n hx hb dX1_element_16 rfl (lv_at hl 0 rfl) ?_
  refine va_get (D := gD G) (ci := 1) (v := .ref (xa 8)) (C := RX1) (T := TX1) (N := 9) hx hb hts in_X1 hown hK.1 hP 0 rfl rfl 8 (by decide) (hts _ q846) (fun _ h9 => h9) rfl dX1_element_17 ?_
  refine lv_iload_n hx hb dX1_element_20 rfl (lv_at hl 1 rfl) ?_
  refine n_aldqS (y := sh dn) C hK.1 hP 1 5 dn rfl rfl (by omega) (by omega) rfl dX1_element_21 ?_
  refine va_get (D := gD G) (ci := 3) (v := .ref y) (C := RX3) (T := TX3) (N := 1) hx hb hts in_X3 hown hK.1 hP 2 rfl rfl 0 (by decide) (hts _ q834) (fun _ h9 => h9) rfl dX1_element_22 ?_
  refine lv_astore_n (lv' := [(3, .ref y), (0, .ref h), (1, .int (nI dn)), (2, .int i)]) hx hb dX1_element_25 rfl hl (Nat.le_of_ble_eq_true rfl) rfl (fun ls hl => ?_)
  refine lv_aload_n hx hb dX1_element_26 rfl (lv_at hl 0 rfl) ?_
  refine n_instG C hK (hGP.kept hGA hS) hy ((gnm_xn _ ((hGP.kept hGA hS) _ _ _ hy).1).1) q174 dX1_element_27 ?_
  refine lv_if_eq (x := 0) (tgt := 41) hx hb dX1_element_30 (by decide) (fun c_2 => ?_) (fun c_2 => absurd c_2 (by decide))
  refine lv_aload_n hx hb dX1_element_41 rfl (lv_at hl 0 rfl) ?_
  refine n_instG C hK (hGP.kept hGA hS) hy ((gnm_xn _ ((hGP.kept hGA hS) _ _ _ hy).1).2.1) q674 dX1_element_42 ?_
  refine lv_if_eq (x := 0) (tgt := 56) hx hb dX1_element_45 (by decide) (fun c_3 => ?_) (fun c_3 => absurd c_3 (by decide))
  refine lv_aload_n hx hb dX1_element_56 rfl (lv_at hl 0 rfl) ?_
  refine n_castXG C hM1 hK (hGP.kept hGA hS) hy ((gnm_xn _ ((hGP.kept hGA hS) _ _ _ hy).1).2.2) arr_cc.2.2.1 q675 dX1_element_57 (fun tx9 ha9 hb9 => ?_)
  refine x_note C hl9 hK.2 hP (hGP.kept hGA hS) hS hZ E_cce eCCE_tbl e_in1.1 hl.1 ha9 hb9 ⟨Nat.le_of_ble_eq_true rfl, Nat.le_of_ble_eq_true rfl, Nat.le_of_ble_eq_true rfl, Nat.le_of_ble_eq_true rfl, Nat.le_of_ble_eq_true rfl⟩ (fun H q9 ce hP _ hS hce hcv hcl => ?_)
  refine x_catch (E := "java/lang/ClassCastException") (name := "java/lang/ClassCastException") C hK.2 htab [⟨26, 40, 64, 350⟩, ⟨41, 55, 64, 350⟩, ⟨56, 63, 64, 350⟩, ⟨26, 40, 74, 144⟩, ⟨41, 55, 74, 144⟩] ⟨56, 63, 74, 144⟩ [⟨26, 40, 84, 345⟩, ⟨41, 55, 84, 345⟩, ⟨56, 63, 84, 345⟩] rfl (fun z h9 => by simp only [List.mem_cons, List.not_mem_nil, or_false] at h9; rcases h9 with rfl | rfl | rfl | rfl | rfl <;> first | exact Or.inl (by decide) | exact Or.inr ⟨by decide, _, q922, by decide +kernel⟩) (by decide) (by decide) q74 (by decide +kernel) hce hcv hcl ?_
  refine lv_astore (lv' := [(4, .ref q9), (3, .ref y), (0, .ref h), (1, .int (nI dn)), (2, .int i)]) hx hb dX1_element_74 hl (Nat.le_of_ble_eq_true rfl) rfl (fun ls hl => ?_)
  exact x_new0 (gm := gm) (cls := "java/lang/IllegalStateException") (ik := 352) (ic := 354) C hl9 hK.2 hZ hP rfl hD hS (by decide +kernel) q1052 q68 eISE_tbl e_in1.2.2.2.2.2.1 rfl dX1_element_76 dX1_element_79 dX1_element_80 dX1_element_83 (by rw [htab]; decide) hl.1 ⟨Nat.le_of_ble_eq_true rfl, Nat.le_of_ble_eq_true rfl⟩ ⟨Nat.le_of_ble_eq_true rfl, Nat.le_of_ble_eq_true rfl⟩ (by first | omega | decide) (by first | omega | decide)

set_option maxHeartbeats 4000000 in
set_option maxRecDepth 100000 in
theorem metX1_element_r0 (l : Launch) (G : GG) (h : Nat) (xa : Nat → Nat) (xi : Nat → Int32) (sh : Nat → Nat) (gm : GM) (dn : Nat) (ra z8 : Nat) (rf : Nat → Int32) (j : Nat) (hl9 : l.stackTraces = false) (hng : NG gm [(h, xO xa xi), (xa 8, qA G 5 8 (shf sh)), (sh dn, .inr (3, [.ref ra])), (ra, tA G 0 z8 rf)]) (hdn : dn ≤ 7) (hz8 : z8 ≤ 100) (hj : j < z8) : MXl l yX1_element cX1_element 5 (some .long) [((26 : Nat), (40 : Nat), (64 : Nat), (350 : Nat)), ((41 : Nat), (55 : Nat), (64 : Nat), (350 : Nat)), ((56 : Nat), (63 : Nat), (64 : Nat), (350 : Nat)), ((26 : Nat), (40 : Nat), (74 : Nat), (144 : Nat)), ((41 : Nat), (55 : Nat), (74 : Nat), (144 : Nat)), ((56 : Nat), (63 : Nat), (74 : Nat), (144 : Nat)), ((26 : Nat), (40 : Nat), (84 : Nat), (345 : Nat)), ((41 : Nat), (55 : Nat), (84 : Nat), (345 : Nat)), ((56 : Nat), (63 : Nat), (84 : Nat), (345 : Nat))] ({ frames := 2, cells := 4, slots := 1100, locals := 43 }) [.ref h, .int (nI dn), .int (nI j)] [(h, xO xa xi), (xa 8, qA G 5 8 (shf sh)), (sh dn, .inr (3, [.ref ra])), (ra, tA G 0 z8 rf)] G (KE G gm) 4 1100 (fun rv w1 => rv = (rf j).toInt64 ∧ w1 = [(h, xO xa xi), (xa 8, qA G 5 8 (shf sh)), (sh dn, .inr (3, [.ref ra])), (ra, tA G 0 z8 rf)]) (fun E => E = "java/lang/IllegalStateException") := by
  -- rows printed by wip/tools/gen.py
  refine mxl_mkg RX1 (by decide) rfl (Nat.le_of_ble_eq_true rfl) ?_
  intro p0_ e0_ s m args below meth c A C htab hA hAx hP hK hD ls hl
  have hZ : ZA A s := hK.2.2.of hP hAx
  have hM1 := hK.2.1
  have hK := hK.1
  have hGP := hK.2
  have hK := hK.1
  have hGA := GA.of hng hGP hAx
  have hx := C.1
  have hb := C.2.1
  have hml := C.2.2.2.2.1
  have hown := C.2.2.2.2.2.1
  have hts := C.2.2.2.2.2.2
  have hS : va_S A s.heap s.heap [] := va_S.rf
  have hl : lv_has ls 5 [(0, .ref h), (1, .int (nI dn)), (2, .int (nI j))] := hl
  have hs7 := sIn07 hdn
  refine lv_aload_n hx hb dX1_element_0 rfl (lv_at hl 0 rfl) ?_
  refine lv_iload_n hx hb dX1_element_1 rfl (lv_at hl 1 rfl) ?_
  refine c_V (rest := []) C (metX1_isShelf l G h xa xi (nI dn)) 1 (lw_V q166 q168 qs2 q39 q170) (by decide +kernel) ⟨rfl, rfl⟩ ⟨(Nat.le_of_ble_eq_true rfl), (Nat.le_of_ble_eq_true rfl)⟩ (KM_mv G) (va_recv hK.1 hP (ci := 1) (q0 := 0) rfl rfl) (hP.sub (ws' := [(h, xO xa xi)]) [0] rfl) hK.1 hl rfl rfl (Nat.le_of_ble_eq_true rfl) ⟨(Nat.le_of_ble_eq_true rfl), (Nat.le_of_ble_eq_true rfl)⟩ dX1_element_2 ?_
  refine n_if_neB (b := (sIn (nI dn) 0 7)) (tgt := 16) hx hb dX1_element_5 (by decide) (fun c_1 => ?_) (fun c_1 => absurd c_1 (by simp [hs7]))
  refine lv_aload_n hx hb dX1_element_16 rfl (lv_at hl 0 rfl) ?_
  refine va_get (D := gD G) (ci := 1) (v := .ref (xa 8)) (C := RX1) (T := TX1) (N := 9) hx hb hts in_X1 hown hK.1 hP 0 rfl rfl 8 (by decide) (hts _ q846) (fun _ h9 => h9) rfl dX1_element_17 ?_
  refine lv_iload_n hx hb dX1_element_20 rfl (lv_at hl 1 rfl) ?_
  refine n_aldqS (y := sh dn) C hK.1 hP 1 5 dn rfl rfl (by omega) (by omega) rfl dX1_element_21 ?_
  refine va_get (D := gD G) (ci := 3) (v := .ref ra) (C := RX3) (T := TX3) (N := 1) hx hb hts in_X3 hown hK.1 hP 2 rfl rfl 0 (by decide) (hts _ q834) (fun _ h9 => h9) rfl dX1_element_22 ?_
  refine lv_astore_n (lv' := [(3, .ref ra), (0, .ref h), (1, .int (nI dn)), (2, .int (nI j))]) hx hb dX1_element_25 rfl hl (Nat.le_of_ble_eq_true rfl) rfl (fun ls hl => ?_)
  refine lv_aload_n hx hb dX1_element_26 rfl (lv_at hl 0 rfl) ?_
  refine n_instF (q0 := 3) (n2 := "[I") C hK.2 hP rfl (nmA0 hK.1) (by decide +kernel) q174 dX1_element_27 ?_
  refine lv_if_eq (x := 0) (tgt := 41) hx hb dX1_element_30 (by decide) (fun c_2 => ?_) (fun c_2 => absurd c_2 (by decide))
  refine lv_aload_n hx hb dX1_element_41 rfl (lv_at hl 0 rfl) ?_
  refine n_instF (q0 := 3) (n2 := "[I") C hK.2 hP rfl (nmA0 hK.1) (by decide +kernel) q674 dX1_element_42 ?_
  refine lv_if_eq (x := 0) (tgt := 56) hx hb dX1_element_45 (by decide) (fun c_3 => ?_) (fun c_3 => absurd c_3 (by decide))
  refine lv_aload_n hx hb dX1_element_56 rfl (lv_at hl 0 rfl) ?_
  refine n_castT (q0 := 3) C hP rfl (nmA0 hK.1) q675 dX1_element_57 ?_
  refine lv_iload_n hx hb dX1_element_60 rfl (lv_at hl 3 rfl) ?_
  refine n_iald C hK.1 hP 3 j rfl (by omega) (by omega) dX1_element_61 ?_
  refine lv_i2l (x := rf j) (v := (rf j).toInt64) hx hb dX1_element_62 rfl ?_
  exact vx_ret (n_lretW (v := (rf j).toInt64) (w1 := [(h, xO xa xi), (xa 8, qA G 5 8 (shf sh)), (sh dn, .inr (3, [.ref ra])), (ra, tA G 0 z8 rf)]) C (⟨rfl, rfl⟩) hP hD hS (by first | omega | decide) (by first | omega | decide) dX1_element_63)

set_option maxHeartbeats 4000000 in
set_option maxRecDepth 100000 in
theorem metX1_element_o0 (l : Launch) (G : GG) (h : Nat) (xa : Nat → Nat) (xi : Nat → Int32) (sh : Nat → Nat) (gm : GM) (dn : Nat) (ra z8 : Nat) (rf : Nat → Int32) (i : Int32) (hl9 : l.stackTraces = false) (hng : NG gm [(h, xO xa xi), (xa 8, qA G 5 8 (shf sh)), (sh dn, .inr (3, [.ref ra])), (ra, tA G 0 z8 rf)]) (hdn : dn ≤ 7) (hz8 : z8 ≤ 100) (hout : ¬ vp_in i z8) : MXl l yX1_element cX1_element 5 (some .long) [((26 : Nat), (40 : Nat), (64 : Nat), (350 : Nat)), ((41 : Nat), (55 : Nat), (64 : Nat), (350 : Nat)), ((56 : Nat), (63 : Nat), (64 : Nat), (350 : Nat)), ((26 : Nat), (40 : Nat), (74 : Nat), (144 : Nat)), ((41 : Nat), (55 : Nat), (74 : Nat), (144 : Nat)), ((56 : Nat), (63 : Nat), (74 : Nat), (144 : Nat)), ((26 : Nat), (40 : Nat), (84 : Nat), (345 : Nat)), ((41 : Nat), (55 : Nat), (84 : Nat), (345 : Nat)), ((56 : Nat), (63 : Nat), (84 : Nat), (345 : Nat))] ({ frames := 9, cells := 4, slots := 1100, locals := 10400 }) [.ref h, .int (nI dn), .int i] [(h, xO xa xi), (xa 8, qA G 5 8 (shf sh)), (sh dn, .inr (3, [.ref ra])), (ra, tA G 0 z8 rf)] G (KE G gm) 4 1100 (fun _ _ => False) (fun E => E = "java/lang/IllegalStateException") := by
  -- rows printed by wip/tools/gen.py
  refine mxl_mkg RX1 (by decide) rfl (Nat.le_of_ble_eq_true rfl) ?_
  intro p0_ e0_ s m args below meth c A C htab hA hAx hP hK hD ls hl
  have hZ : ZA A s := hK.2.2.of hP hAx
  have hM1 := hK.2.1
  have hK := hK.1
  have hGP := hK.2
  have hK := hK.1
  have hGA := GA.of hng hGP hAx
  have hx := C.1
  have hb := C.2.1
  have hml := C.2.2.2.2.1
  have hown := C.2.2.2.2.2.1
  have hts := C.2.2.2.2.2.2
  have hS : va_S A s.heap s.heap [] := va_S.rf
  have hl : lv_has ls 5 [(0, .ref h), (1, .int (nI dn)), (2, .int i)] := hl
  have hs7 := sIn07 hdn
  refine lv_aload_n hx hb dX1_element_0 rfl (lv_at hl 0 rfl) ?_
  refine lv_iload_n hx hb dX1_element_1 rfl (lv_at hl 1 rfl) ?_
  refine c_V (rest := []) C (metX1_isShelf l G h xa xi (nI dn)) 1 (lw_V q166 q168 qs2 q39 q170) (by decide +kernel) ⟨rfl, rfl⟩ ⟨(Nat.le_of_ble_eq_true rfl), (Nat.le_of_ble_eq_true rfl)⟩ (KM_mv G) (va_recv hK.1 hP (ci := 1) (q0 := 0) rfl rfl) (hP.sub (ws' := [(h, xO xa xi)]) [0] rfl) hK.1 hl rfl rfl (Nat.le_of_ble_eq_true rfl) ⟨(Nat.le_of_ble_eq_true rfl), (Nat.le_of_ble_eq_true rfl)⟩ dX1_element_2 ?_
  refine n_if_neB (b := (sIn (nI dn) 0 7)) (tgt := 16) hx hb dX1_element_5 (by decide) (fun c_1 => ?_) (fun c_1 => absurd c_1 (by simp [hs7]))
  refine lv_aload_n hx hb dX1_element_16 rfl (lv_at hl 0 rfl) ?_
  refine va_get (D := gD G) (ci := 1) (v := .ref (xa 8)) (C := RX1) (T := TX1) (N := 9) hx hb hts in_X1 hown hK.1 hP 0 rfl rfl 8 (by decide) (hts _ q846) (fun _ h9 => h9) rfl dX1_element_17 ?_
  refine lv_iload_n hx hb dX1_element_20 rfl (lv_at hl 1 rfl) ?_
  refine n_aldqS (y := sh dn) C hK.1 hP 1 5 dn rfl rfl (by omega) (by omega) rfl dX1_element_21 ?_
  refine va_get (D := gD G) (ci := 3) (v := .ref ra) (C := RX3) (T := TX3) (N := 1) hx hb hts in_X3 hown hK.1 hP 2 rfl rfl 0 (by decide) (hts _ q834) (fun _ h9 => h9) rfl dX1_element_22 ?_
  refine lv_astore_n (lv' := [(3, .ref ra), (0, .ref h), (1, .int (nI dn)), (2, .int i)]) hx hb dX1_element_25 rfl hl (Nat.le_of_ble_eq_true rfl) rfl (fun ls hl => ?_)
  refine lv_aload_n hx hb dX1_element_26 rfl (lv_at hl 0 rfl) ?_
  refine n_instF (q0 := 3) (n2 := "[I") C hK.2 hP rfl (nmA0 hK.1) (by decide +kernel) q174 dX1_element_27 ?_
  refine lv_if_eq (x := 0) (tgt := 41) hx hb dX1_element_30 (by decide) (fun c_2 => ?_) (fun c_2 => absurd c_2 (by decide))
  refine lv_aload_n hx hb dX1_element_41 rfl (lv_at hl 0 rfl) ?_
  refine n_instF (q0 := 3) (n2 := "[I") C hK.2 hP rfl (nmA0 hK.1) (by decide +kernel) q674 dX1_element_42 ?_
  refine lv_if_eq (x := 0) (tgt := 56) hx hb dX1_element_45 (by decide) (fun c_3 => ?_) (fun c_3 => absurd c_3 (by decide))
  refine lv_aload_n hx hb dX1_element_56 rfl (lv_at hl 0 rfl) ?_
  refine n_castT (q0 := 3) C hP rfl (nmA0 hK.1) q675 dX1_element_57 ?_
  refine lv_iload_n hx hb dX1_element_60 rfl (lv_at hl 3 rfl) ?_
  refine vx_ialdZ C.1 C.2.1 hK.1 hP 3 0 rfl rfl hout dX1_element_61 (fun tx9 he9 => ?_)
  obtain ⟨ha9, hb9⟩ := idx_text (by omega) he9
  refine x_note C hl9 hK.2 hP (hGP.kept hGA hS) hS hZ E_aio eAIO_tbl e_in1.2.1 hl.1 ha9 hb9 ⟨Nat.le_of_ble_eq_true rfl, Nat.le_of_ble_eq_true rfl, Nat.le_of_ble_eq_true rfl, Nat.le_of_ble_eq_true rfl, Nat.le_of_ble_eq_true rfl⟩ (fun H q9 ce hP _ hS hce hcv hcl => ?_)
  refine x_catch (E := "java/lang/ArrayIndexOutOfBoundsException") (name := "java/lang/ArrayIndexOutOfBoundsException") C hK.2 htab [⟨26, 40, 64, 350⟩, ⟨41, 55, 64, 350⟩, ⟨56, 63, 64, 350⟩, ⟨26, 40, 74, 144⟩, ⟨41, 55, 74, 144⟩, ⟨56, 63, 74, 144⟩, ⟨26, 40, 84, 345⟩, ⟨41, 55, 84, 345⟩] ⟨56, 63, 84, 345⟩ [] rfl (fun z h9 => by simp only [List.mem_cons, List.not_mem_nil, or_false] at h9; rcases h9 with rfl | rfl | rfl | rfl | rfl | rfl | rfl | rfl <;> first | exact Or.inl (by decide) | exact Or.inr ⟨by decide, _, q922, by decide +kernel⟩ | exact Or.inr ⟨by decide, _, q74, by decide +kernel⟩) (by decide) (by decide) q893 (by decide +kernel) hce hcv hcl ?_
  refine lv_astore (lv' := [(4, .ref q9), (3, .ref ra), (0, .ref h), (1, .int (nI dn)), (2, .int i)]) hx hb dX1_element_84 hl (Nat.le_of_ble_eq_true rfl) rfl (fun ls hl => ?_)
  exact x_new0 (gm := gm) (cls := "java/lang/IllegalStateException") (ik := 352) (ic := 354) C hl9 hK.2 hZ hP rfl hD hS (by decide +kernel) q1052 q68 eISE_tbl e_in1.2.2.2.2.2.1 rfl dX1_element_86 dX1_element_89 dX1_element_90 dX1_element_93 (by rw [htab]; decide) hl.1 ⟨Nat.le_of_ble_eq_true rfl, Nat.le_of_ble_eq_true rfl⟩ ⟨Nat.le_of_ble_eq_true rfl, Nat.le_of_ble_eq_true rfl⟩ (by first | omega | decide) (by first | omega | decide)

set_option maxHeartbeats 4000000 in
set_option maxRecDepth 100000 in
theorem metX1_element_r1 (l : Launch) (G : GG) (h : Nat) (xa : Nat → Nat) (xi : Nat → Int32) (sh : Nat → Nat) (gm : GM) (dn : Nat) (ra z8 : Nat) (rf : Nat → Int32) (j : Nat) (hl9 : l.stackTraces = false) (hng : NG gm [(h, xO xa xi), (xa 8, qA G 5 8 (shf sh)), (sh dn, .inr (3, [.ref ra])), (ra, tA G 1 z8 rf)]) (hdn : dn ≤ 7) (hz8 : z8 ≤ 100) (hj : j < z8) : MXl l yX1_element cX1_element 5 (some .long) [((26 : Nat), (40 : Nat), (64 : Nat), (350 : Nat)), ((41 : Nat), (55 : Nat), (64 : Nat), (350 : Nat)), ((56 : Nat), (63 : Nat), (64 : Nat), (350 : Nat)), ((26 : Nat), (40 : Nat), (74 : Nat), (144 : Nat)), ((41 : Nat), (55 : Nat), (74 : Nat), (144 : Nat)), ((56 : Nat), (63 : Nat), (74 : Nat), (144 : Nat)), ((26 : Nat), (40 : Nat), (84 : Nat), (345 : Nat)), ((41 : Nat), (55 : Nat), (84 : Nat), (345 : Nat)), ((56 : Nat), (63 : Nat), (84 : Nat), (345 : Nat))] ({ frames := 2, cells := 4, slots := 1100, locals := 43 }) [.ref h, .int (nI dn), .int (nI j)] [(h, xO xa xi), (xa 8, qA G 5 8 (shf sh)), (sh dn, .inr (3, [.ref ra])), (ra, tA G 1 z8 rf)] G (KE G gm) 4 1100 (fun rv w1 => rv = (rf j).toInt64 ∧ w1 = [(h, xO xa xi), (xa 8, qA G 5 8 (shf sh)), (sh dn, .inr (3, [.ref ra])), (ra, tA G 1 z8 rf)]) (fun E => E = "java/lang/IllegalStateException") := by
  -- rows printed by wip/tools/gen.py
  refine mxl_mkg RX1 (by decide) rfl (Nat.le_of_ble_eq_true rfl) ?_
  intro p0_ e0_ s m args below meth c A C htab hA hAx hP hK hD ls hl
  have hZ : ZA A s := hK.2.2.of hP hAx
  have hM1 := hK.2.1
  have hK := hK.1
  have hGP := hK.2
  have hK := hK.1
  have hGA := GA.of hng hGP hAx
  have hx := C.1
  have hb := C.2.1
  have hml := C.2.2.2.2.1
  have hown := C.2.2.2.2.2.1
  have hts := C.2.2.2.2.2.2
  have hS : va_S A s.heap s.heap [] := va_S.rf
  have hl : lv_has ls 5 [(0, .ref h), (1, .int (nI dn)), (2, .int (nI j))] := hl
  have hs7 := sIn07 hdn
  refine lv_aload_n hx hb dX1_element_0 rfl (lv_at hl 0 rfl) ?_
  refine lv_iload_n hx hb dX1_element_1 rfl (lv_at hl 1 rfl) ?_
  refine c_V (rest := []) C (metX1_isShelf l G h xa xi (nI dn)) 1 (lw_V q166 q168 qs2 q39 q170) (by decide +kernel) ⟨rfl, rfl⟩ ⟨(Nat.le_of_ble_eq_true rfl), (Nat.le_of_ble_eq_true rfl)⟩ (KM_mv G) (va_recv hK.1 hP (ci := 1) (q0 := 0) rfl rfl) (hP.sub (ws' := [(h, xO xa xi)]) [0] rfl) hK.1 hl rfl rfl (Nat.le_of_ble_eq_true rfl) ⟨(Nat.le_of_ble_eq_true rfl), (Nat.le_of_ble_eq_true rfl)⟩ dX1_element_2 ?_
  refine n_if_neB (b := (sIn (nI dn) 0 7)) (tgt := 16) hx hb dX1_element_5 (by decide) (fun c_1 => ?_) (fun c_1 => absurd c_1 (by simp [hs7]))
  refine lv_aload_n hx hb dX1_element_16 rfl (lv_at hl 0 rfl) ?_
  refine va_get (D := gD G) (ci := 1) (v := .ref (xa 8)) (C := RX1) (T := TX1) (N := 9) hx hb hts in_X1 hown hK.1 hP 0 rfl rfl 8 (by decide) (hts _ q846) (fun _ h9 => h9) rfl dX1_element_17 ?_
  refine lv_iload_n hx hb dX1_element_20 rfl (lv_at hl 1 rfl) ?_
  refine n_aldqS (y := sh dn) C hK.1 hP 1 5 dn rfl rfl (by omega) (by omega) rfl dX1_element_21 ?_
  refine va_get (D := gD G) (ci := 3) (v := .ref ra) (C := RX3) (T := TX3) (N := 1) hx hb hts in_X3 hown hK.1 hP 2 rfl rfl 0 (by decide) (hts _ q834) (fun _ h9 => h9) rfl dX1_element_22 ?_
  refine lv_astore_n (lv' := [(3, .ref ra), (0, .ref h), (1, .int (nI dn)), (2, .int (nI j))]) hx hb dX1_element_25 rfl hl (Nat.le_of_ble_eq_true rfl) rfl (fun ls hl => ?_)
  refine lv_aload_n hx hb dX1_element_26 rfl (lv_at hl 0 rfl) ?_
  refine n_instT (q0 := 3) C hP rfl (nmA1 hK.1) q174 dX1_element_27 ?_
  refine lv_if_eq (x := 1) (tgt := 41) hx hb dX1_element_30 (by decide) (fun c_2 => absurd c_2 (by decide)) (fun c_2 => ?_)
  refine lv_aload_n hx hb dX1_element_33 rfl (lv_at hl 0 rfl) ?_
  refine n_castT (q0 := 3) C hP rfl (nmA1 hK.1) q174 dX1_element_34 ?_
  refine lv_iload_n hx hb dX1_element_37 rfl (lv_at hl 3 rfl) ?_
  refine n_bald C hK.1 hP 3 j rfl (by omega) (by omega) dX1_element_38 ?_
  refine lv_i2l (x := rf j) (v := (rf j).toInt64) hx hb dX1_element_39 rfl ?_
  exact vx_ret (n_lretW (v := (rf j).toInt64) (w1 := [(h, xO xa xi), (xa 8, qA G 5 8 (shf sh)), (sh dn, .inr (3, [.ref ra])), (ra, tA G 1 z8 rf)]) C (⟨rfl, rfl⟩) hP hD hS (by first | omega | decide) (by first | omega | decide) dX1_element_40)

set_option maxHeartbeats 4000000 in
set_option maxRecDepth 100000 in
theorem metX1_element_o1 (l : Launch) (G : GG) (h : Nat) (xa : Nat → Nat) (xi : Nat → Int32) (sh : Nat → Nat) (gm : GM) (dn : Nat) (ra z8 : Nat) (rf : Nat → Int32) (i : Int32) (hl9 : l.stackTraces = false) (hng : NG gm [(h, xO xa xi), (xa 8, qA G 5 8 (shf sh)), (sh dn, .inr (3, [.ref ra])), (ra, tA G 1 z8 rf)]) (hdn : dn ≤ 7) (hz8 : z8 ≤ 100) (hout : ¬ vp_in i z8) : MXl l yX1_element cX1_element 5 (some .long) [((26 : Nat), (40 : Nat), (64 : Nat), (350 : Nat)), ((41 : Nat), (55 : Nat), (64 : Nat), (350 : Nat)), ((56 : Nat), (63 : Nat), (64 : Nat), (350 : Nat)), ((26 : Nat), (40 : Nat), (74 : Nat), (144 : Nat)), ((41 : Nat), (55 : Nat), (74 : Nat), (144 : Nat)), ((56 : Nat), (63 : Nat), (74 : Nat), (144 : Nat)), ((26 : Nat), (40 : Nat), (84 : Nat), (345 : Nat)), ((41 : Nat), (55 : Nat), (84 : Nat), (345 : Nat)), ((56 : Nat), (63 : Nat), (84 : Nat), (345 : Nat))] ({ frames := 9, cells := 4, slots := 1100, locals := 10400 }) [.ref h, .int (nI dn), .int i] [(h, xO xa xi), (xa 8, qA G 5 8 (shf sh)), (sh dn, .inr (3, [.ref ra])), (ra, tA G 1 z8 rf)] G (KE G gm) 4 1100 (fun _ _ => False) (fun E => E = "java/lang/IllegalStateException") := by
  -- rows printed by wip/tools/gen.py
  refine mxl_mkg RX1 (by decide) rfl (Nat.le_of_ble_eq_true rfl) ?_
  intro p0_ e0_ s m args below meth c A C htab hA hAx hP hK hD ls hl
  have hZ : ZA A s := hK.2.2.of hP hAx
  have hM1 := hK.2.1
  have hK := hK.1
  have hGP := hK.2
  have hK := hK.1
  have hGA := GA.of hng hGP hAx
  have hx := C.1
  have hb := C.2.1
  have hml := C.2.2.2.2.1
  have hown := C.2.2.2.2.2.1
  have hts := C.2.2.2.2.2.2
  have hS : va_S A s.heap s.heap [] := va_S.rf
  have hl : lv_has ls 5 [(0, .ref h), (1, .int (nI dn)), (2, .int i)] := hl
  have hs7 := sIn07 hdn
  refine lv_aload_n hx hb dX1_element_0 rfl (lv_at hl 0 rfl) ?_
  refine lv_iload_n hx hb dX1_element_1 rfl (lv_at hl 1 rfl) ?_
  refine c_V (rest := []) C (metX1_isShelf l G h xa xi (nI dn)) 1 (lw_V q166 q168 qs2 q39 q170) (by decide +kernel) ⟨rfl, rfl⟩ ⟨(Nat.le_of_ble_eq_true rfl), (Nat.le_of_ble_eq_true rfl)⟩ (KM_mv G) (va_recv hK.1 hP (ci := 1) (q0 := 0) rfl rfl) (hP.sub (ws' := [(h, xO xa xi)]) [0] rfl) hK.1 hl rfl rfl (Nat.le_of_ble_eq_true rfl) ⟨(Nat.le_of_ble_eq_true rfl), (Nat.le_of_ble_eq_true rfl)⟩ dX1_element_2 ?_
  refine n_if_neB (b := (sIn (nI dn) 0 7)) (tgt := 16) hx hb dX1_element_5 (by decide) (fun c_1 => ?_) (fun c_1 => absurd c_1 (by simp [hs7]))
  refine lv_aload_n hx hb dX1_element_16 rfl (lv_at hl 0 rfl) ?_
  refine va_get (D := gD G) (ci := 1) (v := .ref (xa 8)) (C := RX1) (T := TX1) (N := 9) hx hb hts in_X1 hown hK.1 hP 0 rfl rfl 8 (by decide) (hts _ q846) (fun _ h9 => h9) rfl dX1_element_17 ?_
  refine lv_iload_n hx hb dX1_element_20 rfl (lv_at hl 1 rfl) ?_
  refine n_aldqS (y := sh dn) C hK.1 hP 1 5 dn rfl rfl (by omega) (by omega) rfl dX1_element_21 ?_
  refine va_get (D := gD G) (ci := 3) (v := .ref ra) (C := RX3) (T := TX3) (N := 1) hx hb hts in_X3 hown hK.1 hP 2 rfl rfl 0 (by decide) (hts _ q834) (fun _ h9 => h9) rfl dX1_element_22 ?_
  refine lv_astore_n (lv' := [(3, .ref ra), (0, .ref h), (1, .int (nI dn)), (2, .int i)]) hx hb dX1_element_25 rfl hl (Nat.le_of_ble_eq_true rfl) rfl (fun ls hl => ?_)
  refine lv_aload_n hx hb dX1_element_26 rfl (lv_at hl 0 rfl) ?_
  refine n_instT (q0 := 3) C hP rfl (nmA1 hK.1) q174 dX1_element_27 ?_
  refine lv_if_eq (x := 1) (tgt := 41) hx hb dX1_element_30 (by decide) (fun c_2 => absurd c_2 (by decide)) (fun c_2 => ?_)
  refine lv_aload_n hx hb dX1_element_33 rfl (lv_at hl 0 rfl) ?_
  refine n_castT (q0 := 3) C hP rfl (nmA1 hK.1) q174 dX1_element_34 ?_
  refine lv_iload_n hx hb dX1_element_37 rfl (lv_at hl 3 rfl) ?_
  refine vx_baldZ C.1 C.2.1 hK.1 hP 3 1 rfl rfl hout dX1_element_38 (fun tx9 he9 => ?_)
  obtain ⟨ha9, hb9⟩ := idx_text (by omega) he9
  refine x_note C hl9 hK.2 hP (hGP.kept hGA hS) hS hZ E_aio eAIO_tbl e_in1.2.1 hl.1 ha9 hb9 ⟨Nat.le_of_ble_eq_true rfl, Nat.le_of_ble_eq_true rfl, Nat.le_of_ble_eq_true rfl, Nat.le_of_ble_eq_true rfl, Nat.le_of_ble_eq_true rfl⟩ (fun H q9 ce hP _ hS hce hcv hcl => ?_)
  refine x_catch (E := "java/lang/ArrayIndexOutOfBoundsException") (name := "java/lang/ArrayIndexOutOfBoundsException") C hK.2 htab [⟨26, 40, 64, 350⟩, ⟨41, 55, 64, 350⟩, ⟨56, 63, 64, 350⟩, ⟨26, 40, 74, 144⟩, ⟨41, 55, 74, 144⟩, ⟨56, 63, 74, 144⟩] ⟨26, 40, 84, 345⟩ [⟨41, 55, 84, 345⟩, ⟨56, 63, 84, 345⟩] rfl (fun z h9 => by simp only [List.mem_cons, List.not_mem_nil, or_false] at h9; rcases h9 with rfl | rfl | rfl | rfl | rfl | rfl <;> first | exact Or.inl (by decide) | exact Or.inr ⟨by decide, _, q922, by decide +kernel⟩ | exact Or.inr ⟨by decide, _, q74, by decide +kernel⟩) (by decide) (by decide) q893 (by decide +kernel) hce hcv hcl ?_
  refine lv_astore (lv' := [(4, .ref q9), (3, .ref ra), (0, .ref h), (1, .int (nI dn)), (2, .int i)]) hx hb dX1_element_84 hl (Nat.le_of_ble_eq_true rfl) rfl (fun ls hl => ?_)
  exact x_new0 (gm := gm) (cls := "java/lang/IllegalStateException") (ik := 352) (ic := 354) C hl9 hK.2 hZ hP rfl hD hS (by decide +kernel) q1052 q68 eISE_tbl e_in1.2.2.2.2.2.1 rfl dX1_element_86 dX1_element_89 dX1_element_90 dX1_element_93 (by rw [htab]; decide) hl.1 ⟨Nat.le_of_ble_eq_true rfl, Nat.le_of_ble_eq_true rfl⟩ ⟨Nat.le_of_ble_eq_true rfl, Nat.le_of_ble_eq_true rfl⟩ (by first | omega | decide) (by first | omega | decide)

set_option maxHeartbeats 4000000 in
set_option maxRecDepth 100000 in
theorem metX1_element_r2 (l : Launch) (G : GG) (h : Nat) (xa : Nat → Nat) (xi : Nat → Int32) (sh : Nat → Nat) (gm : GM) (dn : Nat) (ra z8 : Nat) (rf : Nat → Int32) (j : Nat) (hl9 : l.stackTraces = false) (hng : NG gm [(h, xO xa xi), (xa 8, qA G 5 8 (shf sh)), (sh dn, .inr (3, [.ref ra])), (ra, tA G 2 z8 rf)]) (hdn : dn ≤ 7) (hz8 : z8 ≤ 100) (hj : j < z8) : MXl l yX1_element cX1_element 5 (some .long) [((26 : Nat), (40 : Nat), (64 : Nat), (350 : Nat)), ((41 : Nat), (55 : Nat), (64 : Nat), (350 : Nat)), ((56 : Nat), (63 : Nat), (64 : Nat), (350 : Nat)), ((26 : Nat), (40 : Nat), (74 : Nat), (144 : Nat)), ((41 : Nat), (55 : Nat), (74 : Nat), (144 : Nat)), ((56 : Nat), (63 : Nat), (74 : Nat), (144 : Nat)), ((26 : Nat), (40 : Nat), (84 : Nat), (345 : Nat)), ((41 : Nat), (55 : Nat), (84 : Nat), (345 : Nat)), ((56 : Nat), (63 : Nat), (84 : Nat), (345 : Nat))] ({ frames := 2, cells := 4, slots := 1100, locals := 43 }) [.ref h, .int (nI dn), .int (nI j)] [(h, xO xa xi), (xa 8, qA G 5 8 (shf sh)), (sh dn, .inr (3, [.ref ra])), (ra, tA G 2 z8 rf)] G (KE G gm) 4 1100 (fun rv w1 => rv = (rf j).toInt64 ∧ w1 = [(h, xO xa xi), (xa 8, qA G 5 8 (shf sh)), (sh dn, .inr (3, [.ref ra])), (ra, tA G 2 z8 rf)]) (fun E => E = "java/lang/IllegalStateException") := by
  -- rows printed by wip/tools/gen.py
  refine mxl_mkg RX1 (by decide) rfl (Nat.le_of_ble_eq_true rfl) ?_
  intro p0_ e0_ s m args below meth c A C htab hA hAx hP hK hD ls hl
  have hZ : ZA A s := hK.2.2.of hP hAx
  have hM1 := hK.2.1
  have hK := hK.1
  have hGP := hK.2
  have hK := hK.1
  have hGA := GA.of hng hGP hAx
  have hx := C.1
  have hb := C.2.1
  have hml := C.2.2.2.2.1
  have hown := C.2.2.2.2.2.1
  have hts := C.2.2.2.2.2.2
  have hS : va_S A s.heap s.heap [] := va_S.rf
  have hl : lv_has ls 5 [(0, .ref h), (1, .int (nI dn)), (2, .int (nI j))] := hl
  have hs7 := sIn07 hdn
  refine lv_aload_n hx hb dX1_element_0 rfl (lv_at hl 0 rfl) ?_
  refine lv_iload_n hx hb dX1_element_1 rfl (lv_at hl 1 rfl) ?_
  refine c_V (rest := []) C (metX1_isShelf l G h xa xi (nI dn)) 1 (lw_V q166 q168 qs2 q39 q170) (by decide +kernel) ⟨rfl, rfl⟩ ⟨(Nat.le_of_ble_eq_true rfl), (Nat.le_of_ble_eq_true rfl)⟩ (KM_mv G) (va_recv hK.1 hP (ci := 1) (q0 := 0) rfl rfl) (hP.sub (ws' := [(h, xO xa xi)]) [0] rfl) hK.1 hl rfl rfl (Nat.le_of_ble_eq_true rfl) ⟨(Nat.le_of_ble_eq_true rfl), (Nat.le_of_ble_eq_true rfl)⟩ dX1_element_2 ?_
  refine n_if_neB (b := (sIn (nI dn) 0 7)) (tgt := 16) hx hb dX1_element_5 (by decide) (fun c_1 => ?_) (fun c_1 => absurd c_1 (by simp [hs7]))
  refine lv_aload_n hx hb dX1_element_16 rfl (lv_at hl 0 rfl) ?_
  refine va_get (D := gD G) (ci := 1) (v := .ref (xa 8)) (C := RX1) (T := TX1) (N := 9) hx hb hts in_X1 hown hK.1 hP 0 rfl rfl 8 (by decide) (hts _ q846) (fun _ h9 => h9) rfl dX1_element_17 ?_
  refine lv_iload_n hx hb dX1_element_20 rfl (lv_at hl 1 rfl) ?_
  refine n_aldqS (y := sh dn) C hK.1 hP 1 5 dn rfl rfl (by omega) (by omega) rfl dX1_element_21 ?_
  refine va_get (D := gD G) (ci := 3) (v := .ref ra) (C := RX3) (T := TX3) (N := 1) hx hb hts in_X3 hown hK.1 hP 2 rfl rfl 0 (by decide) (hts _ q834) (fun _ h9 => h9) rfl dX1_element_22 ?_
  refine lv_astore_n (lv' := [(3, .ref ra), (0, .ref h), (1, .int (nI dn)), (2, .int (nI j))]) hx hb dX1_element_25 rfl hl (Nat.le_of_ble_eq_true rfl) rfl (fun ls hl => ?_)
  refine lv_aload_n hx hb dX1_element_26 rfl (lv_at hl 0 rfl) ?_
  refine n_instF (q0 := 3) (n2 := "[S") C hK.2 hP rfl (nmA2 hK.1) (by decide +kernel) q174 dX1_element_27 ?_
  refine lv_if_eq (x := 0) (tgt := 41) hx hb dX1_element_30 (by decide) (fun c_2 => ?_) (fun c_2 => absurd c_2 (by decide))
  refine lv_aload_n hx hb dX1_element_41 rfl (lv_at hl 0 rfl) ?_
  refine n_instT (q0 := 3) C hP rfl (nmA2 hK.1) q674 dX1_element_42 ?_
  refine lv_if_eq (x := 1) (tgt := 56) hx hb dX1_element_45 (by decide) (fun c_3 => absurd c_3 (by decide)) (fun c_3 => ?_)
  refine lv_aload_n hx hb dX1_element_48 rfl (lv_at hl 0 rfl) ?_
  refine n_castT (q0 := 3) C hP rfl (nmA2 hK.1) q674 dX1_element_49 ?_
  refine lv_iload_n hx hb dX1_element_52 rfl (lv_at hl 3 rfl) ?_
  refine n_sald C hK.1 hP 3 j rfl (by omega) (by omega) dX1_element_53 ?_
  refine lv_i2l (x := rf j) (v := (rf j).toInt64) hx hb dX1_element_54 rfl ?_
  exact vx_ret (n_lretW (v := (rf j).toInt64) (w1 := [(h, xO xa xi), (xa 8, qA G 5 8 (shf sh)), (sh dn, .inr (3, [.ref ra])), (ra, tA G 2 z8 rf)]) C (⟨rfl, rfl⟩) hP hD hS (by first | omega | decide) (by first | omega | decide) dX1_element_55)

set_option maxHeartbeats 4000000 in
set_option maxRecDepth 100000 in
theorem metX1_element_o2 (l : Launch) (G : GG) (h : Nat) (xa : Nat → Nat) (xi : Nat → Int32) (sh : Nat → Nat) (gm : GM) (dn : Nat) (ra z8 : Nat) (rf : Nat → Int32) (i : Int32) (hl9 : l.stackTraces = false) (hng : NG gm [(h, xO xa xi), (xa 8, qA G 5 8 (shf sh)), (sh dn, .inr (3, [.ref ra])), (ra, tA G 2 z8 rf)]) (hdn : dn ≤ 7) (hz8 : z8 ≤ 100) (hout : ¬ vp_in i z8) : MXl l yX1_element cX1_element 5 (some .long) [((26 : Nat), (40 : Nat), (64 : Nat), (350 : Nat)), ((41 : Nat), (55 : Nat), (64 : Nat), (350 : Nat)), ((56 : Nat), (63 : Nat), (64 : Nat), (350 : Nat)), ((26 : Nat), (40 : Nat), (74 : Nat), (144 : Nat)), ((41 : Nat), (55 : Nat), (74 : Nat), (144 : Nat)), ((56 : Nat), (63 : Nat), (74 : Nat), (144 : Nat)), ((26 : Nat), (40 : Nat), (84 : Nat), (345 : Nat)), ((41 : Nat), (55 : Nat), (84 : Nat), (345 : Nat)), ((56 : Nat), (63 : Nat), (84 : Nat), (345 : Nat))] ({ frames := 9, cells := 4, slots := 1100, locals := 10400 }) [.ref h, .int (nI dn), .int i] [(h, xO xa xi), (xa 8, qA G 5 8 (shf sh)), (sh dn, .inr (3, [.ref ra])), (ra, tA G 2 z8 rf)] G (KE G gm) 4 1100 (fun _ _ => False) (fun E => E = "java/lang/IllegalStateException") := by
  -- rows printed by wip/tools/gen.py
  refine mxl_mkg RX1 (by decide) rfl (Nat.le_of_ble_eq_true rfl) ?_
  intro p0_ e0_ s m args below meth c A C htab hA hAx hP hK hD ls hl
  have hZ : ZA A s := hK.2.2.of hP hAx
  have hM1 := hK.2.1
  have hK := hK.1
  have hGP := hK.2
  have hK := hK.1
  have hGA := GA.of hng hGP hAx
  have hx := C.1
  have hb := C.2.1
  have hml := C.2.2.2.2.1
  have hown := C.2.2.2.2.2.1
  have hts := C.2.2.2.2.2.2
  have hS : va_S A s.heap s.heap [] := va_S.rf
  have hl : lv_has ls 5 [(0, .ref h), (1, .int (nI dn)), (2, .int i)] := hl
  have hs7 := sIn07 hdn
  refine lv_aload_n hx hb dX1_element_0 rfl (lv_at hl 0 rfl) ?_
  refine lv_iload_n hx hb dX1_element_1 rfl (lv_at hl 1 rfl) ?_
  refine c_V (rest := []) C (metX1_isShelf l G h xa xi (nI dn)) 1 (lw_V q166 q168 qs2 q39 q170) (by decide +kernel) ⟨rfl, rfl⟩ ⟨(Nat.le_of_ble_eq_true rfl), (Nat.le_of_ble_eq_true rfl)⟩ (KM_mv G) (va_recv hK.1 hP (ci := 1) (q0 := 0) rfl rfl) (hP.sub (ws' := [(h, xO xa xi)]) [0] rfl) hK.1 hl rfl rfl (Nat.le_of_ble_eq_true rfl) ⟨(Nat.le_of_ble_eq_true rfl), (Nat.le_of_ble_eq_true rfl)⟩ dX1_element_2 ?_
  refine n_if_neB (b := (sIn (nI dn) 0 7)) (tgt := 16) hx hb dX1_element_5 (by decide) (fun c_1 => ?_) (fun c_1 => absurd c_1 (by simp [hs7]))
  refine lv_aload_n hx hb dX1_element_16 rfl (lv_at hl 0 rfl) ?_
  refine va_get (D := gD G) (ci := 1) (v := .ref (xa 8)) (C := RX1) (T := TX1) (N := 9) hx hb hts in_X1 hown hK.1 hP 0 rfl rfl 8 (by decide) (hts _ q846) (fun _ h9 => h9) rfl dX1_element_17 ?_
  refine lv_iload_n hx hb dX1_element_20 rfl (lv_at hl 1 rfl) ?_
  refine n_aldqS (y := sh dn) C hK.1 hP 1 5 dn rfl rfl (by omega) (by omega) rfl dX1_element_21 ?_
  refine va_get (D := gD G) (ci := 3) (v := .ref ra) (C := RX3) (T := TX3) (N := 1) hx hb hts in_X3 hown hK.1 hP 2 rfl rfl 0 (by decide) (hts _ q834) (fun _ h9 => h9) rfl dX1_element_22 ?_
  refine lv_astore_n (lv' := [(3, .ref ra), (0, .ref h), (1, .int (nI dn)), (2, .int i)]) hx hb dX1_element_25 rfl hl (Nat.le_of_ble_eq_true rfl) rfl (fun ls hl => ?_)
  refine lv_aload_n hx hb dX1_element_26 rfl (lv_at hl 0 rfl) ?_
  refine n_instF (q0 := 3) (n2 := "[S") C hK.2 hP rfl (nmA2 hK.1) (by decide +kernel) q174 dX1_element_27 ?_
  refine lv_if_eq (x := 0) (tgt := 41) hx hb dX1_element_30 (by decide) (fun c_2 => ?_) (fun c_2 => absurd c_2 (by decide))
  refine lv_aload_n hx hb dX1_element_41 rfl (lv_at hl 0 rfl) ?_
  refine n_instT (q0 := 3) C hP rfl (nmA2 hK.1) q674 dX1_element_42 ?_
  refine lv_if_eq (x := 1) (tgt := 56) hx hb dX1_element_45 (by decide) (fun c_3 => absurd c_3 (by decide)) (fun c_3 => ?_)
  refine lv_aload_n hx hb dX1_element_48 rfl (lv_at hl 0 rfl) ?_
  refine n_castT (q0 := 3) C hP rfl (nmA2 hK.1) q674 dX1_element_49 ?_
  refine lv_iload_n hx hb dX1_element_52 rfl (lv_at hl 3 rfl) ?_
  refine vx_saldZ C.1 C.2.1 hK.1 hP 3 2 rfl rfl hout dX1_element_53 (fun tx9 he9 => ?_)
  obtain ⟨ha9, hb9⟩ := idx_text (by omega) he9
  refine x_note C hl9 hK.2 hP (hGP.kept hGA hS) hS hZ E_aio eAIO_tbl e_in1.2.1 hl.1 ha9 hb9 ⟨Nat.le_of_ble_eq_true rfl, Nat.le_of_ble_eq_true rfl, Nat.le_of_ble_eq_true rfl, Nat.le_of_ble_eq_true rfl, Nat.le_of_ble_eq_true rfl⟩ (fun H q9 ce hP _ hS hce hcv hcl => ?_)
  refine x_catch (E := "java/lang/ArrayIndexOutOfBoundsException") (name := "java/lang/ArrayIndexOutOfBoundsException") C hK.2 htab [⟨26, 40, 64, 350⟩, ⟨41, 55, 64, 350⟩, ⟨56, 63, 64, 350⟩, ⟨26, 40, 74, 144⟩, ⟨41, 55, 74, 144⟩, ⟨56, 63, 74, 144⟩, ⟨26, 40, 84, 345⟩] ⟨41, 55, 84, 345⟩ [⟨56, 63, 84, 345⟩] rfl (fun z h9 => by simp only [List.mem_cons, List.not_mem_nil, or_false] at h9; rcases h9 with rfl | rfl | rfl | rfl | rfl | rfl | rfl <;> first | exact Or.inl (by decide) | exact Or.inr ⟨by decide, _, q922, by decide +kernel⟩ | exact Or.inr ⟨by decide, _, q74, by decide +kernel⟩) (by decide) (by decide) q893 (by decide +kernel) hce hcv hcl ?_
  refine lv_astore (lv' := [(4, .ref q9), (3, .ref ra), (0, .ref h), (1, .int (nI dn)), (2, .int i)]) hx hb dX1_element_84 hl (Nat.le_of_ble_eq_true rfl) rfl (fun ls hl => ?_)
  exact x_new0 (gm := gm) (cls := "java/lang/IllegalStateException") (ik := 352) (ic := 354) C hl9 hK.2 hZ hP rfl hD hS (by decide +kernel) q1052 q68 eISE_tbl e_in1.2.2.2.2.2.1 rfl dX1_element_86 dX1_element_89 dX1_element_90 dX1_element_93 (by rw [htab]; decide) hl.1 ⟨Nat.le_of_ble_eq_true rfl, Nat.le_of_ble_eq_true rfl⟩ ⟨Nat.le_of_ble_eq_true rfl, Nat.le_of_ble_eq_true rfl⟩ (by first | omega | decide) (by first | omega | decide)
