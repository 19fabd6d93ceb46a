set_option maxHeartbeats 4000000 in
set_option maxRecDepth 100000 in
theorem metX1_comes_p1 (l : Launch) (G : GG) (h : Nat) (xa : Nat → Nat) (xi : Nat → Int32) (fm : Nat → Nat) (gm : GM) (wh : Nat → Option Nat) (r : Nat → Int32) (N o nb : Nat) (a mm : Int32) (nu : Nat → Int32) (kk : Nat) (hng : NG gm [(h, xO xa xi), (xa 2, fO fm r), (fm 0, qA G 3 9 wh), (fm 1, iA G 9 (fA r 2)), (fm 2, iA G 9 (fA r 3)), (fm 3, iA G 9 (fA r 4)), (fm 4, iA G 9 (fA r 5)), (o, .inr (4, [.int 112, .int a, .ref nb, .int mm])), (nb, iA G 4 nu)]) (hN : N ≤ 8) (hr : r 0 = nI N) (hwk : WK gm wh r N) (h0 : nu 0 = nI kk) (hk30 : kk < 100) (h1 : 8 ≤ kk) : MW l yX1_comes cX1_comes 3 (some .boolean) ({ frames := 0, cells := 0, slots := 0, locals := 0 }) [.ref h, .ref o] [(h, xO xa xi), (xa 2, fO fm r), (fm 0, qA G 3 9 wh), (fm 1, iA G 9 (fA r 2)), (fm 2, iA G 9 (fA r 3)), (fm 3, iA G 9 (fA r 4)), (fm 4, iA G 9 (fA r 5)), (o, .inr (4, [.int 112, .int a, .ref nb, .int mm])), (nb, iA G 4 nu)] G (KG G gm) 0 0 (fun rv w1 => rv = bI false ∧ w1 = [(h, xO xa xi), (xa 2, fO fm r), (fm 0, qA G 3 9 wh), (fm 1, iA G 9 (fA r 2)), (fm 2, iA G 9 (fA r 3)), (fm 3, iA G 9 (fA r 4)), (fm 4, iA G 9 (fA r 5)), (o, .inr (4, [.int 112, .int a, .ref nb, .int mm])), (nb, iA G 4 nu)]) := by
  -- rows printed by wip/tools/gen.py
  refine mw_mkg RX1 (by decide) rfl (Nat.le_of_ble_eq_true rfl) ?_
  intro p0_ e0_ s m args below meth c A C hA hAx hP hK hD ls hl
  have hGP := hK.2
  have hK := hK.1
  have hGA := GA.of hng hGP hAx
  have hx := C.1
  have hb := C.2.1
  have hml := C.2.2.2.2.1
  have hown := C.2.2.2.2.2.1
  have hts := C.2.2.2.2.2.2
  have hS : va_S A s.heap s.heap [] := va_S.rf
  have hl : lv_has ls 3 [(0, .ref h), (1, .ref o)] := hl
  refine lv_aload_n hx hb dX1_comes_0 rfl (lv_at hl 1 rfl) ?_
  refine va_get (D := gD G) (ci := 4) (v := .ref nb) (C := RX6) (T := TX6) (N := 4) hx hb hts in_X6 hown hK.1 hP 7 rfl rfl 2 (by decide) (hts _ q216) (fun _ h9 => h9) rfl dX1_comes_1 ?_
  refine lv_astore_n (lv' := [(2, .ref nb), (0, .ref h), (1, .ref o)]) hx hb dX1_comes_4 rfl hl (Nat.le_of_ble_eq_true rfl) rfl (fun ls hl => ?_)
  refine lv_aload_n hx hb dX1_comes_5 rfl (lv_at hl 2 rfl) ?_
  refine va_get (D := gD G) (ci := 4) (v := .int 112) (C := RX6) (T := TX6) (N := 4) hx hb hts in_X6 hown hK.1 hP 7 rfl rfl 0 (by decide) (hts _ q212) (fun _ h9 => h9) rfl dX1_comes_6 ?_
  refine n_eqi (y := 112) rfl ?_
  refine lv_lookup (off := 35) (tgt := 44) (x := 112) hx hb dX1_comes_9 (by decide) (by decide) (by decide) ?_
  refine lv_aload_n hx hb dX1_comes_44 rfl (lv_at hl 0 rfl) ?_
  refine lv_iconst (v := 0) hx hb dX1_comes_45 (by decide) ?_
  refine n_iald C hK.1 hP 8 0 rfl (by omega) (by omega) dX1_comes_46 ?_
  refine n_eqi (h0) ?_
  refine lv_bipush (v := 8) hx hb dX1_comes_47 (by decide) ?_
  refine n_ic_ge (x := kk) (y := 8) (tgt := 82) hx hb (by omega) (by omega) dX1_comes_49 (by decide) (fun c_1 => ?_) (fun c_1 => absurd c_1 (by omega))
  refine lv_iconst (v := 0) hx hb dX1_comes_82 (by decide) ?_
  exact n_zretW (v := false) (w1 := [(h, xO xa xi), (xa 2, fO fm r), (fm 0, qA G 3 9 wh), (fm 1, iA G 9 (fA r 2)), (fm 2, iA G 9 (fA r 3)), (fm 3, iA G 9 (fA r 4)), (fm 4, iA G 9 (fA r 5)), (o, .inr (4, [.int 112, .int a, .ref nb, .int mm])), (nb, iA G 4 nu)]) C (⟨rfl, rfl⟩) hP hD hS (by first | omega | decide) (by first | omega | decide) dX1_comes_83

set_option maxHeartbeats 4000000 in
set_option maxRecDepth 100000 in
theorem metX1_comes_p2 (l : Launch) (G : GG) (h : Nat) (xa : Nat → Nat) (xi : Nat → Int32) (fm : Nat → Nat) (gm : GM) (wh : Nat → Option Nat) (r : Nat → Int32) (N o nb : Nat) (a mm : Int32) (nu : Nat → Int32) (kk : Nat) (hng : NG gm [(h, xO xa xi), (xa 2, fO fm r), (fm 0, qA G 3 9 wh), (fm 1, iA G 9 (fA r 2)), (fm 2, iA G 9 (fA r 3)), (fm 3, iA G 9 (fA r 4)), (fm 4, iA G 9 (fA r 5)), (o, .inr (4, [.int 112, .int a, .ref nb, .int mm])), (nb, iA G 4 nu)]) (hN : N ≤ 8) (hr : r 0 = nI N) (hwk : WK gm wh r N) (h0 : nu 0 = nI kk) (hk30 : kk < 100) (h1 : kk < 8) (h2 : sIn (nu 2) 0 30 = false) : MW l yX1_comes cX1_comes 3 (some .boolean) ({ frames := 2, cells := 0, slots := 0, locals := 42 }) [.ref h, .ref o] [(h, xO xa xi), (xa 2, fO fm r), (fm 0, qA G 3 9 wh), (fm 1, iA G 9 (fA r 2)), (fm 2, iA G 9 (fA r 3)), (fm 3, iA G 9 (fA r 4)), (fm 4, iA G 9 (fA r 5)), (o, .inr (4, [.int 112, .int a, .ref nb, .int mm])), (nb, iA G 4 nu)] G (KG G gm) 0 0 (fun rv w1 => rv = bI false ∧ w1 = [(h, xO xa xi), (xa 2, fO fm r), (fm 0, qA G 3 9 wh), (fm 1, iA G 9 (fA r 2)), (fm 2, iA G 9 (fA r 3)), (fm 3, iA G 9 (fA r 4)), (fm 4, iA G 9 (fA r 5)), (o, .inr (4, [.int 112, .int a, .ref nb, .int mm])), (nb, iA G 4 nu)]) := by
  -- rows printed by wip/tools/gen.py
  refine mw_mkg RX1 (by decide) rfl (Nat.le_of_ble_eq_true rfl) ?_
  intro p0_ e0_ s m args below meth c A C hA hAx hP hK hD ls hl
  have hGP := hK.2
  have hK := hK.1
  have hGA := GA.of hng hGP hAx
  have hx := C.1
  have hb := C.2.1
  have hml := C.2.2.2.2.1
  have hown := C.2.2.2.2.2.1
  have hts := C.2.2.2.2.2.2
  have hS : va_S A s.heap s.heap [] := va_S.rf
  have hl : lv_has ls 3 [(0, .ref h), (1, .ref o)] := hl
  refine lv_aload_n hx hb dX1_comes_0 rfl (lv_at hl 1 rfl) ?_
  refine va_get (D := gD G) (ci := 4) (v := .ref nb) (C := RX6) (T := TX6) (N := 4) hx hb hts in_X6 hown hK.1 hP 7 rfl rfl 2 (by decide) (hts _ q216) (fun _ h9 => h9) rfl dX1_comes_1 ?_
  refine lv_astore_n (lv' := [(2, .ref nb), (0, .ref h), (1, .ref o)]) hx hb dX1_comes_4 rfl hl (Nat.le_of_ble_eq_true rfl) rfl (fun ls hl => ?_)
  refine lv_aload_n hx hb dX1_comes_5 rfl (lv_at hl 2 rfl) ?_
  refine va_get (D := gD G) (ci := 4) (v := .int 112) (C := RX6) (T := TX6) (N := 4) hx hb hts in_X6 hown hK.1 hP 7 rfl rfl 0 (by decide) (hts _ q212) (fun _ h9 => h9) rfl dX1_comes_6 ?_
  refine n_eqi (y := 112) rfl ?_
  refine lv_lookup (off := 35) (tgt := 44) (x := 112) hx hb dX1_comes_9 (by decide) (by decide) (by decide) ?_
  refine lv_aload_n hx hb dX1_comes_44 rfl (lv_at hl 0 rfl) ?_
  refine lv_iconst (v := 0) hx hb dX1_comes_45 (by decide) ?_
  refine n_iald C hK.1 hP 8 0 rfl (by omega) (by omega) dX1_comes_46 ?_
  refine n_eqi (h0) ?_
  refine lv_bipush (v := 8) hx hb dX1_comes_47 (by decide) ?_
  refine n_ic_ge (x := kk) (y := 8) (tgt := 82) hx hb (by omega) (by omega) dX1_comes_49 (by decide) (fun c_1 => absurd c_1 (by omega)) (fun c_1 => ?_)
  refine lv_aload_n hx hb dX1_comes_52 rfl (lv_at hl 0 rfl) ?_
  refine lv_iconst (v := 2) hx hb dX1_comes_53 (by decide) ?_
  refine n_iald C hK.1 hP 8 2 rfl (by omega) (by omega) dX1_comes_54 ?_
  refine c_S (rest := []) C (metX1_isFeeling l G (nu 2)) 1 (lw_S q281 q282 q39 q283) (by decide +kernel) ⟨rfl, rfl⟩ ⟨(Nat.le_of_ble_eq_true rfl), (Nat.le_of_ble_eq_true rfl)⟩ (KM_mv G) (hP.sub (ws' := []) [] rfl) hK.1 hl rfl rfl (Nat.le_of_ble_eq_true rfl) ⟨(Nat.le_of_ble_eq_true rfl), (Nat.le_of_ble_eq_true rfl)⟩ dX1_comes_55 ?_
  refine n_if_eqB (b := (sIn (nu 2) 0 30)) (tgt := 82) hx hb dX1_comes_58 (by decide) (fun c_2 => ?_) (fun c_2 => absurd c_2 (by simp [h2]))
  refine lv_iconst (v := 0) hx hb dX1_comes_82 (by decide) ?_
  exact n_zretW (v := false) (w1 := [(h, xO xa xi), (xa 2, fO fm r), (fm 0, qA G 3 9 wh), (fm 1, iA G 9 (fA r 2)), (fm 2, iA G 9 (fA r 3)), (fm 3, iA G 9 (fA r 4)), (fm 4, iA G 9 (fA r 5)), (o, .inr (4, [.int 112, .int a, .ref nb, .int mm])), (nb, iA G 4 nu)]) C (⟨rfl, rfl⟩) hP hD hS (by first | omega | decide) (by first | omega | decide) dX1_comes_83

set_option maxHeartbeats 4000000 in
set_option maxRecDepth 100000 in
theorem metX1_comes_p3 (l : Launch) (G : GG) (h : Nat) (xa : Nat → Nat) (xi : Nat → Int32) (fm : Nat → Nat) (gm : GM) (wh : Nat → Option Nat) (r : Nat → Int32) (N o nb : Nat) (a mm : Int32) (nu : Nat → Int32) (kk : Nat) (hng : NG gm [(h, xO xa xi), (xa 2, fO fm r), (fm 0, qA G 3 9 wh), (fm 1, iA G 9 (fA r 2)), (fm 2, iA G 9 (fA r 3)), (fm 3, iA G 9 (fA r 4)), (fm 4, iA G 9 (fA r 5)), (o, .inr (4, [.int 112, .int a, .ref nb, .int mm])), (nb, iA G 4 nu)]) (hN : N ≤ 8) (hr : r 0 = nI N) (hwk : WK gm wh r N) (h0 : nu 0 = nI kk) (hk30 : kk < 100) (h1 : kk < 8) (h2 : sIn (nu 2) 0 30 = true) (h3 : sIn (nu 3) 0 30 = false) : MW l yX1_comes cX1_comes 3 (some .boolean) ({ frames := 2, cells := 0, slots := 0, locals := 42 }) [.ref h, .ref o] [(h, xO xa xi), (xa 2, fO fm r), (fm 0, qA G 3 9 wh), (fm 1, iA G 9 (fA r 2)), (fm 2, iA G 9 (fA r 3)), (fm 3, iA G 9 (fA r 4)), (fm 4, iA G 9 (fA r 5)), (o, .inr (4, [.int 112, .int a, .ref nb, .int mm])), (nb, iA G 4 nu)] G (KG G gm) 0 0 (fun rv w1 => rv = bI false ∧ w1 = [(h, xO xa xi), (xa 2, fO fm r), (fm 0, qA G 3 9 wh), (fm 1, iA G 9 (fA r 2)), (fm 2, iA G 9 (fA r 3)), (fm 3, iA G 9 (fA r 4)), (fm 4, iA G 9 (fA r 5)), (o, .inr (4, [.int 112, .int a, .ref nb, .int mm])), (nb, iA G 4 nu)]) := by
  -- rows printed by wip/tools/gen.py
  refine mw_mkg RX1 (by decide) rfl (Nat.le_of_ble_eq_true rfl) ?_
  intro p0_ e0_ s m args below meth c A C hA hAx hP hK hD ls hl
  have hGP := hK.2
  have hK := hK.1
  have hGA := GA.of hng hGP hAx
  have hx := C.1
  have hb := C.2.1
  have hml := C.2.2.2.2.1
  have hown := C.2.2.2.2.2.1
  have hts := C.2.2.2.2.2.2
  have hS : va_S A s.heap s.heap [] := va_S.rf
  have hl : lv_has ls 3 [(0, .ref h), (1, .ref o)] := hl
  refine lv_aload_n hx hb dX1_comes_0 rfl (lv_at hl 1 rfl) ?_
  refine va_get (D := gD G) (ci := 4) (v := .ref nb) (C := RX6) (T := TX6) (N := 4) hx hb hts in_X6 hown hK.1 hP 7 rfl rfl 2 (by decide) (hts _ q216) (fun _ h9 => h9) rfl dX1_comes_1 ?_
  refine lv_astore_n (lv' := [(2, .ref nb), (0, .ref h), (1, .ref o)]) hx hb dX1_comes_4 rfl hl (Nat.le_of_ble_eq_true rfl) rfl (fun ls hl => ?_)
  refine lv_aload_n hx hb dX1_comes_5 rfl (lv_at hl 2 rfl) ?_
  refine va_get (D := gD G) (ci := 4) (v := .int 112) (C := RX6) (T := TX6) (N := 4) hx hb hts in_X6 hown hK.1 hP 7 rfl rfl 0 (by decide) (hts _ q212) (fun _ h9 => h9) rfl dX1_comes_6 ?_
  refine n_eqi (y := 112) rfl ?_
  refine lv_lookup (off := 35) (tgt := 44) (x := 112) hx hb dX1_comes_9 (by decide) (by decide) (by decide) ?_
  refine lv_aload_n hx hb dX1_comes_44 rfl (lv_at hl 0 rfl) ?_
  refine lv_iconst (v := 0) hx hb dX1_comes_45 (by decide) ?_
  refine n_iald C hK.1 hP 8 0 rfl (by omega) (by omega) dX1_comes_46 ?_
  refine n_eqi (h0) ?_
  refine lv_bipush (v := 8) hx hb dX1_comes_47 (by decide) ?_
  refine n_ic_ge (x := kk) (y := 8) (tgt := 82) hx hb (by omega) (by omega) dX1_comes_49 (by decide) (fun c_1 => absurd c_1 (by omega)) (fun c_1 => ?_)
  refine lv_aload_n hx hb dX1_comes_52 rfl (lv_at hl 0 rfl) ?_
  refine lv_iconst (v := 2) hx hb dX1_comes_53 (by decide) ?_
  refine n_iald C hK.1 hP 8 2 rfl (by omega) (by omega) dX1_comes_54 ?_
  refine c_S (rest := []) C (metX1_isFeeling l G (nu 2)) 1 (lw_S q281 q282 q39 q283) (by decide +kernel) ⟨rfl, rfl⟩ ⟨(Nat.le_of_ble_eq_true rfl), (Nat.le_of_ble_eq_true rfl)⟩ (KM_mv G) (hP.sub (ws' := []) [] rfl) hK.1 hl rfl rfl (Nat.le_of_ble_eq_true rfl) ⟨(Nat.le_of_ble_eq_true rfl), (Nat.le_of_ble_eq_true rfl)⟩ dX1_comes_55 ?_
  refine n_if_eqB (b := (sIn (nu 2) 0 30)) (tgt := 82) hx hb dX1_comes_58 (by decide) (fun c_2 => absurd c_2 (by simp [h2])) (fun c_2 => ?_)
  refine lv_aload_n hx hb dX1_comes_61 rfl (lv_at hl 0 rfl) ?_
  refine lv_iconst (v := 3) hx hb dX1_comes_62 (by decide) ?_
  refine n_iald C hK.1 hP 8 3 rfl (by omega) (by omega) dX1_comes_63 ?_
  refine c_S (rest := []) C (metX1_isFeeling l G (nu 3)) 1 (lw_S q281 q282 q39 q283) (by decide +kernel) ⟨rfl, rfl⟩ ⟨(Nat.le_of_ble_eq_true rfl), (Nat.le_of_ble_eq_true rfl)⟩ (KM_mv G) (hP.sub (ws' := []) [] rfl) hK.1 hl rfl rfl (Nat.le_of_ble_eq_true rfl) ⟨(Nat.le_of_ble_eq_true rfl), (Nat.le_of_ble_eq_true rfl)⟩ dX1_comes_64 ?_
  refine n_if_eqB (b := (sIn (nu 3) 0 30)) (tgt := 82) hx hb dX1_comes_67 (by decide) (fun c_3 => ?_) (fun c_3 => absurd c_3 (by simp [h3]))
  refine lv_iconst (v := 0) hx hb dX1_comes_82 (by decide) ?_
  exact n_zretW (v := false) (w1 := [(h, xO xa xi), (xa 2, fO fm r), (fm 0, qA G 3 9 wh), (fm 1, iA G 9 (fA r 2)), (fm 2, iA G 9 (fA r 3)), (fm 3, iA G 9 (fA r 4)), (fm 4, iA G 9 (fA r 5)), (o, .inr (4, [.int 112, .int a, .ref nb, .int mm])), (nb, iA G 4 nu)]) C (⟨rfl, rfl⟩) hP hD hS (by first | omega | decide) (by first | omega | decide) dX1_comes_83

set_option maxHeartbeats 4000000 in
set_option maxRecDepth 100000 in
theorem metX1_comes_p4 (l : Launch) (G : GG) (h : Nat) (xa : Nat → Nat) (xi : Nat → Int32) (fm : Nat → Nat) (gm : GM) (wh : Nat → Option Nat) (r : Nat → Int32) (N o nb : Nat) (a mm : Int32) (nu : Nat → Int32) (kk : Nat) (hng : NG gm [(h, xO xa xi), (xa 2, fO fm r), (fm 0, qA G 3 9 wh), (fm 1, iA G 9 (fA r 2)), (fm 2, iA G 9 (fA r 3)), (fm 3, iA G 9 (fA r 4)), (fm 4, iA G 9 (fA r 5)), (o, .inr (4, [.int 112, .int a, .ref nb, .int mm])), (nb, iA G 4 nu)]) (hN : N ≤ 8) (hr : r 0 = nI N) (hwk : WK gm wh r N) (h0 : nu 0 = nI kk) (hk30 : kk < 100) (h1 : kk < 8) (h2 : sIn (nu 2) 0 30 = true) (h3 : sIn (nu 3) 0 30 = true) (h8 : N = 8) : MW l yX1_comes cX1_comes 3 (some .boolean) ({ frames := 2, cells := 0, slots := 0, locals := 42 }) [.ref h, .ref o] [(h, xO xa xi), (xa 2, fO fm r), (fm 0, qA G 3 9 wh), (fm 1, iA G 9 (fA r 2)), (fm 2, iA G 9 (fA r 3)), (fm 3, iA G 9 (fA r 4)), (fm 4, iA G 9 (fA r 5)), (o, .inr (4, [.int 112, .int a, .ref nb, .int mm])), (nb, iA G 4 nu)] G (KG G gm) 0 0 (fun rv w1 => rv = bI false ∧ w1 = [(h, xO xa xi), (xa 2, fO fm r), (fm 0, qA G 3 9 wh), (fm 1, iA G 9 (fA r 2)), (fm 2, iA G 9 (fA r 3)), (fm 3, iA G 9 (fA r 4)), (fm 4, iA G 9 (fA r 5)), (o, .inr (4, [.int 112, .int a, .ref nb, .int mm])), (nb, iA G 4 nu)]) := by
  -- rows printed by wip/tools/gen.py
  refine mw_mkg RX1 (by decide) rfl (Nat.le_of_ble_eq_true rfl) ?_
  intro p0_ e0_ s m args below meth c A C hA hAx hP hK hD ls hl
  have hGP := hK.2
  have hK := hK.1
  have hGA := GA.of hng hGP hAx
  have hx := C.1
  have hb := C.2.1
  have hml := C.2.2.2.2.1
  have hown := C.2.2.2.2.2.1
  have hts := C.2.2.2.2.2.2
  have hS : va_S A s.heap s.heap [] := va_S.rf
  have hl : lv_has ls 3 [(0, .ref h), (1, .ref o)] := hl
  refine lv_aload_n hx hb dX1_comes_0 rfl (lv_at hl 1 rfl) ?_
  refine va_get (D := gD G) (ci := 4) (v := .ref nb) (C := RX6) (T := TX6) (N := 4) hx hb hts in_X6 hown hK.1 hP 7 rfl rfl 2 (by decide) (hts _ q216) (fun _ h9 => h9) rfl dX1_comes_1 ?_
  refine lv_astore_n (lv' := [(2, .ref nb), (0, .ref h), (1, .ref o)]) hx hb dX1_comes_4 rfl hl (Nat.le_of_ble_eq_true rfl) rfl (fun ls hl => ?_)
  refine lv_aload_n hx hb dX1_comes_5 rfl (lv_at hl 2 rfl) ?_
  refine va_get (D := gD G) (ci := 4) (v := .int 112) (C := RX6) (T := TX6) (N := 4) hx hb hts in_X6 hown hK.1 hP 7 rfl rfl 0 (by decide) (hts _ q212) (fun _ h9 => h9) rfl dX1_comes_6 ?_
  refine n_eqi (y := 112) rfl ?_
  refine lv_lookup (off := 35) (tgt := 44) (x := 112) hx hb dX1_comes_9 (by decide) (by decide) (by decide) ?_
  refine lv_aload_n hx hb dX1_comes_44 rfl (lv_at hl 0 rfl) ?_
  refine lv_iconst (v := 0) hx hb dX1_comes_45 (by decide) ?_
  refine n_iald C hK.1 hP 8 0 rfl (by omega) (by omega) dX1_comes_46 ?_
  refine n_eqi (h0) ?_
  refine lv_bipush (v := 8) hx hb dX1_comes_47 (by decide) ?_
  refine n_ic_ge (x := kk) (y := 8) (tgt := 82) hx hb (by omega) (by omega) dX1_comes_49 (by decide) (fun c_1 => absurd c_1 (by omega)) (fun c_1 => ?_)
  refine lv_aload_n hx hb dX1_comes_52 rfl (lv_at hl 0 rfl) ?_
  refine lv_iconst (v := 2) hx hb dX1_comes_53 (by decide) ?_
  refine n_iald C hK.1 hP 8 2 rfl (by omega) (by omega) dX1_comes_54 ?_
  refine c_S (rest := []) C (metX1_isFeeling l G (nu 2)) 1 (lw_S q281 q282 q39 q283) (by decide +kernel) ⟨rfl, rfl⟩ ⟨(Nat.le_of_ble_eq_true rfl), (Nat.le_of_ble_eq_true rfl)⟩ (KM_mv G) (hP.sub (ws' := []) [] rfl) hK.1 hl rfl rfl (Nat.le_of_ble_eq_true rfl) ⟨(Nat.le_of_ble_eq_true rfl), (Nat.le_of_ble_eq_true rfl)⟩ dX1_comes_55 ?_
  refine n_if_eqB (b := (sIn (nu 2) 0 30)) (tgt := 82) hx hb dX1_comes_58 (by decide) (fun c_2 => absurd c_2 (by simp [h2])) (fun c_2 => ?_)
  refine lv_aload_n hx hb dX1_comes_61 rfl (lv_at hl 0 rfl) ?_
  refine lv_iconst (v := 3) hx hb dX1_comes_62 (by decide) ?_
  refine n_iald C hK.1 hP 8 3 rfl (by omega) (by omega) dX1_comes_63 ?_
  refine c_S (rest := []) C (metX1_isFeeling l G (nu 3)) 1 (lw_S q281 q282 q39 q283) (by decide +kernel) ⟨rfl, rfl⟩ ⟨(Nat.le_of_ble_eq_true rfl), (Nat.le_of_ble_eq_true rfl)⟩ (KM_mv G) (hP.sub (ws' := []) [] rfl) hK.1 hl rfl rfl (Nat.le_of_ble_eq_true rfl) ⟨(Nat.le_of_ble_eq_true rfl), (Nat.le_of_ble_eq_true rfl)⟩ dX1_comes_64 ?_
  refine n_if_eqB (b := (sIn (nu 3) 0 30)) (tgt := 82) hx hb dX1_comes_67 (by decide) (fun c_3 => absurd c_3 (by simp [h3])) (fun c_3 => ?_)
  refine lv_aload_n hx hb dX1_comes_70 rfl (lv_at hl 1 rfl) ?_
  refine va_get (D := gD G) (ci := 1) (v := .ref (xa 2)) (C := RX1) (T := TX1) (N := 9) hx hb hts in_X1 hown hK.1 hP 0 rfl rfl 2 (by decide) (hts _ q840) (fun _ h9 => h9) rfl dX1_comes_71 ?_
  refine va_get (D := gD G) (ci := 2) (v := .int (r 0)) (C := RX2) (T := TX2) (N := 8) hx hb hts in_X2 hown hK.1 hP 1 rfl rfl 5 (by decide) (hts _ q803) (fun _ h9 => h9) rfl dX1_comes_74 ?_
  refine n_eqi (hr) ?_
  refine lv_bipush (v := 8) hx hb dX1_comes_77 (by decide) ?_
  refine n_ic_ne (x := N) (y := 8) (tgt := 84) hx hb (by omega) (by omega) dX1_comes_79 (by decide) (fun c_4 => absurd c_4 (by omega)) (fun c_4 => ?_)
  refine lv_iconst (v := 0) hx hb dX1_comes_82 (by decide) ?_
  exact n_zretW (v := false) (w1 := [(h, xO xa xi), (xa 2, fO fm r), (fm 0, qA G 3 9 wh), (fm 1, iA G 9 (fA r 2)), (fm 2, iA G 9 (fA r 3)), (fm 3, iA G 9 (fA r 4)), (fm 4, iA G 9 (fA r 5)), (o, .inr (4, [.int 112, .int a, .ref nb, .int mm])), (nb, iA G 4 nu)]) C (⟨rfl, rfl⟩) hP hD hS (by first | omega | decide) (by first | omega | decide) dX1_comes_83

set_option maxHeartbeats 4000000 in
set_option maxRecDepth 100000 in
theorem metX1_comes_p5 (l : Launch) (G : GG) (h : Nat) (xa : Nat → Nat) (xi : Nat → Int32) (fm : Nat → Nat) (gm : GM) (wh : Nat → Option Nat) (r : Nat → Int32) (N o nb : Nat) (a mm : Int32) (nu : Nat → Int32) (kk : Nat) (hng : NG gm [(h, xO xa xi), (xa 2, fO fm r), (fm 0, qA G 3 9 wh), (fm 1, iA G 9 (fA r 2)), (fm 2, iA G 9 (fA r 3)), (fm 3, iA G 9 (fA r 4)), (fm 4, iA G 9 (fA r 5)), (o, .inr (4, [.int 112, .int a, .ref nb, .int mm])), (nb, iA G 4 nu)]) (hN : N ≤ 8) (hr : r 0 = nI N) (hwk : WK gm wh r N) (h0 : nu 0 = nI kk) (hk30 : kk < 100) (h1 : kk < 8) (h2 : sIn (nu 2) 0 30 = true) (h3 : sIn (nu 3) 0 30 = true) (h8 : N < 8) : MW l yX1_comes cX1_comes 3 (some .boolean) ({ frames := 5, cells := 1, slots := 1, locals := 114 }) [.ref h, .ref o] [(h, xO xa xi), (xa 2, fO fm r), (fm 0, qA G 3 9 wh), (fm 1, iA G 9 (fA r 2)), (fm 2, iA G 9 (fA r 3)), (fm 3, iA G 9 (fA r 4)), (fm 4, iA G 9 (fA r 5)), (o, .inr (4, [.int 112, .int a, .ref nb, .int mm])), (nb, iA G 4 nu)] G (KG G gm) 1 1 (fun rv w1 => rv = bI true ∧ ∃ q : Nat, gm q = none ∧ w1 = [(h, xO xa xi), (xa 2, fO fm (sAdds r N (nI kk) (nu 1) (nu 2) (nu 3))), (fm 0, qA G 3 9 (va_up wh N (some q))), (fm 1, iA G 9 (fA (sAdds r N (nI kk) (nu 1) (nu 2) (nu 3)) 2)), (fm 2, iA G 9 (fA (sAdds r N (nI kk) (nu 1) (nu 2) (nu 3)) 3)), (fm 3, iA G 9 (fA (sAdds r N (nI kk) (nu 1) (nu 2) (nu 3)) 4)), (fm 4, iA G 9 (fA (sAdds r N (nI kk) (nu 1) (nu 2) (nu 3)) 5)), (o, .inr (4, [.int 112, .int a, .ref nb, .int mm])), (nb, iA G 4 nu), (q, .inr (6 + kk, [.int (nu 1)]))]) := by
  -- rows printed by wip/tools/gen.py
  refine mw_mkg RX1 (by decide) rfl (Nat.le_of_ble_eq_true rfl) ?_
  intro p0_ e0_ s m args below meth c A C hA hAx hP hK hD ls hl
  have hGP := hK.2
  have hK := hK.1
  have hGA := GA.of hng hGP hAx
  have hx := C.1
  have hb := C.2.1
  have hml := C.2.2.2.2.1
  have hown := C.2.2.2.2.2.1
  have hts := C.2.2.2.2.2.2
  have hS : va_S A s.heap s.heap [] := va_S.rf
  have hl : lv_has ls 3 [(0, .ref h), (1, .ref o)] := hl
  refine lv_aload_n hx hb dX1_comes_0 rfl (lv_at hl 1 rfl) ?_
  refine va_get (D := gD G) (ci := 4) (v := .ref nb) (C := RX6) (T := TX6) (N := 4) hx hb hts in_X6 hown hK.1 hP 7 rfl rfl 2 (by decide) (hts _ q216) (fun _ h9 => h9) rfl dX1_comes_1 ?_
  refine lv_astore_n (lv' := [(2, .ref nb), (0, .ref h), (1, .ref o)]) hx hb dX1_comes_4 rfl hl (Nat.le_of_ble_eq_true rfl) rfl (fun ls hl => ?_)
  refine lv_aload_n hx hb dX1_comes_5 rfl (lv_at hl 2 rfl) ?_
  refine va_get (D := gD G) (ci := 4) (v := .int 112) (C := RX6) (T := TX6) (N := 4) hx hb hts in_X6 hown hK.1 hP 7 rfl rfl 0 (by decide) (hts _ q212) (fun _ h9 => h9) rfl dX1_comes_6 ?_
  refine n_eqi (y := 112) rfl ?_
  refine lv_lookup (off := 35) (tgt := 44) (x := 112) hx hb dX1_comes_9 (by decide) (by decide) (by decide) ?_
  refine lv_aload_n hx hb dX1_comes_44 rfl (lv_at hl 0 rfl) ?_
  refine lv_iconst (v := 0) hx hb dX1_comes_45 (by decide) ?_
  refine n_iald C hK.1 hP 8 0 rfl (by omega) (by omega) dX1_comes_46 ?_
  refine n_eqi (h0) ?_
  refine lv_bipush (v := 8) hx hb dX1_comes_47 (by decide) ?_
  refine n_ic_ge (x := kk) (y := 8) (tgt := 82) hx hb (by omega) (by omega) dX1_comes_49 (by decide) (fun c_1 => absurd c_1 (by omega)) (fun c_1 => ?_)
  refine lv_aload_n hx hb dX1_comes_52 rfl (lv_at hl 0 rfl) ?_
  refine lv_iconst (v := 2) hx hb dX1_comes_53 (by decide) ?_
  refine n_iald C hK.1 hP 8 2 rfl (by omega) (by omega) dX1_comes_54 ?_
  refine c_S (rest := []) C (metX1_isFeeling l G (nu 2)) 1 (lw_S q281 q282 q39 q283) (by decide +kernel) ⟨rfl, rfl⟩ ⟨(Nat.le_of_ble_eq_true rfl), (Nat.le_of_ble_eq_true rfl)⟩ (KM_mv G) (hP.sub (ws' := []) [] rfl) hK.1 hl rfl rfl (Nat.le_of_ble_eq_true rfl) ⟨(Nat.le_of_ble_eq_true rfl), (Nat.le_of_ble_eq_true rfl)⟩ dX1_comes_55 ?_
  refine n_if_eqB (b := (sIn (nu 2) 0 30)) (tgt := 82) hx hb dX1_comes_58 (by decide) (fun c_2 => absurd c_2 (by simp [h2])) (fun c_2 => ?_)
  refine lv_aload_n hx hb dX1_comes_61 rfl (lv_at hl 0 rfl) ?_
  refine lv_iconst (v := 3) hx hb dX1_comes_62 (by decide) ?_
  refine n_iald C hK.1 hP 8 3 rfl (by omega) (by omega) dX1_comes_63 ?_
  refine c_S (rest := []) C (metX1_isFeeling l G (nu 3)) 1 (lw_S q281 q282 q39 q283) (by decide +kernel) ⟨rfl, rfl⟩ ⟨(Nat.le_of_ble_eq_true rfl), (Nat.le_of_ble_eq_true rfl)⟩ (KM_mv G) (hP.sub (ws' := []) [] rfl) hK.1 hl rfl rfl (Nat.le_of_ble_eq_true rfl) ⟨(Nat.le_of_ble_eq_true rfl), (Nat.le_of_ble_eq_true rfl)⟩ dX1_comes_64 ?_
  refine n_if_eqB (b := (sIn (nu 3) 0 30)) (tgt := 82) hx hb dX1_comes_67 (by decide) (fun c_3 => absurd c_3 (by simp [h3])) (fun c_3 => ?_)
  refine lv_aload_n hx hb dX1_comes_70 rfl (lv_at hl 1 rfl) ?_
  refine va_get (D := gD G) (ci := 1) (v := .ref (xa 2)) (C := RX1) (T := TX1) (N := 9) hx hb hts in_X1 hown hK.1 hP 0 rfl rfl 2 (by decide) (hts _ q840) (fun _ h9 => h9) rfl dX1_comes_71 ?_
  refine va_get (D := gD G) (ci := 2) (v := .int (r 0)) (C := RX2) (T := TX2) (N := 8) hx hb hts in_X2 hown hK.1 hP 1 rfl rfl 5 (by decide) (hts _ q803) (fun _ h9 => h9) rfl dX1_comes_74 ?_
  refine n_eqi (hr) ?_
  refine lv_bipush (v := 8) hx hb dX1_comes_77 (by decide) ?_
  refine n_ic_ne (x := N) (y := 8) (tgt := 84) hx hb (by omega) (by omega) dX1_comes_79 (by decide) (fun c_4 => ?_) (fun c_4 => absurd c_4 (by omega))
  refine lv_aload_n hx hb dX1_comes_84 rfl (lv_at hl 1 rfl) ?_
  refine va_get (D := gD G) (ci := 1) (v := .ref (xa 2)) (C := RX1) (T := TX1) (N := 9) hx hb hts in_X1 hown hK.1 hP 0 rfl rfl 2 (by decide) (hts _ q840) (fun _ h9 => h9) rfl dX1_comes_85 ?_
  refine lv_aload_n hx hb dX1_comes_88 rfl (lv_at hl 0 rfl) ?_
  refine lv_iconst (v := 0) hx hb dX1_comes_89 (by decide) ?_
  refine n_iald C hK.1 hP 8 0 rfl (by omega) (by omega) dX1_comes_90 ?_
  refine n_eqi (h0) ?_
  refine lv_aload_n hx hb dX1_comes_91 rfl (lv_at hl 0 rfl) ?_
  refine lv_iconst (v := 1) hx hb dX1_comes_92 (by decide) ?_
  refine n_iald C hK.1 hP 8 1 rfl (by omega) (by omega) dX1_comes_93 ?_
  refine c_SWqk (wr := [(h, xO xa xi), (xa 2, fO fm r), (fm 0, qA G 3 9 wh), (fm 1, iA G 9 (fA r 2)), (fm 2, iA G 9 (fA r 3)), (fm 3, iA G 9 (fA r 4)), (fm 4, iA G 9 (fA r 5)), (o, .inr (4, [.int 112, .int a, .ref nb, .int mm])), (nb, iA G 4 nu)]) (rest := [.ref (xa 2)]) C (metX1_guestOf l G kk (nu 1) (by omega)) 2 (lw_S q284 q285 q39 q286) (by decide +kernel) ⟨rfl, rfl⟩ ⟨(Nat.le_of_ble_eq_true rfl), (Nat.le_of_ble_eq_true rfl)⟩ ((fun _ _ _ _ h => (KM_mv G).2 _ _ _ _ h)) (fun _ _ hW => (KM_mv G).1 _ _ hW hK.1) hA hP hD hS [] [0, 1, 2, 3, 4, 5, 6, 7, 8] rfl rfl rfl rfl (by decide) hl rfl rfl (Nat.le_of_ble_eq_true rfl) ⟨(Nat.le_of_ble_eq_true rfl), (Nat.le_of_ble_eq_true rfl)⟩ dX1_comes_94 (fun r_5 w1 H locs hq_6 hP hD hS => ?_)
  obtain ⟨qg_7, rfl, rfl⟩ := hq_6
  have hP : PP G [(h, xO xa xi), (xa 2, fO fm r), (fm 0, qA G 3 9 wh), (fm 1, iA G 9 (fA r 2)), (fm 2, iA G 9 (fA r 3)), (fm 3, iA G 9 (fA r 4)), (fm 4, iA G 9 (fA r 5)), (o, .inr (4, [.int 112, .int a, .ref nb, .int mm])), (nb, iA G 4 nu), (qg_7, .inr (6 + kk, [.int (nu 1)]))] H := hP
  have hD : va_D A [(h, xO xa xi), (xa 2, fO fm r), (fm 0, qA G 3 9 wh), (fm 1, iA G 9 (fA r 2)), (fm 2, iA G 9 (fA r 3)), (fm 3, iA G 9 (fA r 4)), (fm 4, iA G 9 (fA r 5)), (o, .inr (4, [.int 112, .int a, .ref nb, .int mm])), (nb, iA G 4 nu), (qg_7, .inr (6 + kk, [.int (nu 1)]))] := hD
  have hq_8 : gm qg_7 = none := NG1 hGA hD 9 rfl
  have hw_9 := WK.upG (k := kk) (f := nu 1) hwk hq_8
  refine lv_aload_n hx hb dX1_comes_97 rfl (lv_at hl 0 rfl) ?_
  refine lv_iconst (v := 2) hx hb dX1_comes_98 (by decide) ?_
  refine n_iald C hK.1 hP 8 2 rfl (by omega) (by omega) dX1_comes_99 ?_
  refine lv_aload_n hx hb dX1_comes_100 rfl (lv_at hl 0 rfl) ?_
  refine lv_iconst (v := 3) hx hb dX1_comes_101 (by decide) ?_
  refine n_iald C hK.1 hP 8 3 rfl (by omega) (by omega) dX1_comes_102 ?_
  refine c_VWk (wr := [(h, xO xa xi), (o, .inr (4, [.int 112, .int a, .ref nb, .int mm])), (nb, iA G 4 nu), (qg_7, .inr (6 + kk, [.int (nu 1)]))]) (rest := []) C (metX2_comes l G (xa 2) fm (upG gm qg_7 kk (nu 1)) wh r N qg_7 kk (nu 1) (nu 2) (nu 3) (by omega) (hr) (hw_9) (upG_s _ _ _ _) (NG.up (NG.of hGA hD [1, 2, 3, 4, 5, 6] rfl) hD 9 rfl [1, 2, 3, 4, 5, 6] rfl (by decide))) 3 (lw_V q360 q361 q362 q40 q363) (by decide +kernel) ⟨rfl, rfl⟩ ⟨(Nat.le_of_ble_eq_true rfl), (Nat.le_of_ble_eq_true rfl)⟩ (KG.call) (KG.at hK (GP.up (hGP.kept hGA hS) hP 9 rfl (by omega))) (va_recv hK.1 hP (ci := 2) (q0 := 1) rfl rfl) hA hP hD hS [1, 2, 3, 4, 5, 6] [0, 7, 8, 9] rfl rfl rfl rfl (by decide) hl rfl rfl (Nat.le_of_ble_eq_true rfl) ⟨(Nat.le_of_ble_eq_true rfl), (Nat.le_of_ble_eq_true rfl)⟩ dX1_comes_103 (fun r_10 w1 H locs hq_11 hP hD hS => ?_)
  obtain ⟨rfl, rfl⟩ := hq_11
  have hP : PP G [(h, xO xa xi), (o, .inr (4, [.int 112, .int a, .ref nb, .int mm])), (nb, iA G 4 nu), (qg_7, .inr (6 + kk, [.int (nu 1)])), (xa 2, fO fm (sAdds r N (nI kk) (nu 1) (nu 2) (nu 3))), (fm 0, qA G 3 9 (va_up wh N (some qg_7))), (fm 1, iA G 9 (fA (sAdds r N (nI kk) (nu 1) (nu 2) (nu 3)) 2)), (fm 2, iA G 9 (fA (sAdds r N (nI kk) (nu 1) (nu 2) (nu 3)) 3)), (fm 3, iA G 9 (fA (sAdds r N (nI kk) (nu 1) (nu 2) (nu 3)) 4)), (fm 4, iA G 9 (fA (sAdds r N (nI kk) (nu 1) (nu 2) (nu 3)) 5))] H := hP
  have hD : va_D A [(h, xO xa xi), (o, .inr (4, [.int 112, .int a, .ref nb, .int mm])), (nb, iA G 4 nu), (qg_7, .inr (6 + kk, [.int (nu 1)])), (xa 2, fO fm (sAdds r N (nI kk) (nu 1) (nu 2) (nu 3))), (fm 0, qA G 3 9 (va_up wh N (some qg_7))), (fm 1, iA G 9 (fA (sAdds r N (nI kk) (nu 1) (nu 2) (nu 3)) 2)), (fm 2, iA G 9 (fA (sAdds r N (nI kk) (nu 1) (nu 2) (nu 3)) 3)), (fm 3, iA G 9 (fA (sAdds r N (nI kk) (nu 1) (nu 2) (nu 3)) 4)), (fm 4, iA G 9 (fA (sAdds r N (nI kk) (nu 1) (nu 2) (nu 3)) 5))] := hD
  have hw_12 : WK (upG gm qg_7 kk (nu 1)) (va_up wh N (some qg_7)) (sAdds r N (nI kk) (nu 1) (nu 2) (nu 3)) (N + 1) := WK.adds hw_9 (upG_s _ _ _ _)
  have hr_13 : (sAdds r N (nI kk) (nu 1) (nu 2) (nu 3)) 0 = nI (N + 1) := rfl
  refine lv_pop hx hb dX1_comes_106 rfl ?_
  refine lv_iconst (v := 1) hx hb dX1_comes_107 (by decide) ?_
  exact n_zretW (v := true) (w1 := [(h, xO xa xi), (xa 2, fO fm (sAdds r N (nI kk) (nu 1) (nu 2) (nu 3))), (fm 0, qA G 3 9 (va_up wh N (some qg_7))), (fm 1, iA G 9 (fA (sAdds r N (nI kk) (nu 1) (nu 2) (nu 3)) 2)), (fm 2, iA G 9 (fA (sAdds r N (nI kk) (nu 1) (nu 2) (nu 3)) 3)), (fm 3, iA G 9 (fA (sAdds r N (nI kk) (nu 1) (nu 2) (nu 3)) 4)), (fm 4, iA G 9 (fA (sAdds r N (nI kk) (nu 1) (nu 2) (nu 3)) 5)), (o, .inr (4, [.int 112, .int a, .ref nb, .int mm])), (nb, iA G 4 nu), (qg_7, .inr (6 + kk, [.int (nu 1)]))]) C (⟨rfl, _, hq_8, rfl⟩) (hP.sub (ws' := [(h, xO xa xi), (xa 2, fO fm (sAdds r N (nI kk) (nu 1) (nu 2) (nu 3))), (fm 0, qA G 3 9 (va_up wh N (some qg_7))), (fm 1, iA G 9 (fA (sAdds r N (nI kk) (nu 1) (nu 2) (nu 3)) 2)), (fm 2, iA G 9 (fA (sAdds r N (nI kk) (nu 1) (nu 2) (nu 3)) 3)), (fm 3, iA G 9 (fA (sAdds r N (nI kk) (nu 1) (nu 2) (nu 3)) 4)), (fm 4, iA G 9 (fA (sAdds r N (nI kk) (nu 1) (nu 2) (nu 3)) 5)), (o, .inr (4, [.int 112, .int a, .ref nb, .int mm])), (nb, iA G 4 nu), (qg_7, .inr (6 + kk, [.int (nu 1)]))]) [0, 4, 5, 6, 7, 8, 9, 1, 2, 3] rfl) (hD.sub (ws' := [(h, xO xa xi), (xa 2, fO fm (sAdds r N (nI kk) (nu 1) (nu 2) (nu 3))), (fm 0, qA G 3 9 (va_up wh N (some qg_7))), (fm 1, iA G 9 (fA (sAdds r N (nI kk) (nu 1) (nu 2) (nu 3)) 2)), (fm 2, iA G 9 (fA (sAdds r N (nI kk) (nu 1) (nu 2) (nu 3)) 3)), (fm 3, iA G 9 (fA (sAdds r N (nI kk) (nu 1) (nu 2) (nu 3)) 4)), (fm 4, iA G 9 (fA (sAdds r N (nI kk) (nu 1) (nu 2) (nu 3)) 5)), (o, .inr (4, [.int 112, .int a, .ref nb, .int mm])), (nb, iA G 4 nu), (qg_7, .inr (6 + kk, [.int (nu 1)]))]) [0, 4, 5, 6, 7, 8, 9, 1, 2, 3] (by decide) rfl) hS (by first | omega | decide) (by first | omega | decide) dX1_comes_108

set_option maxHeartbeats 4000000 in
set_option maxRecDepth 100000 in
theorem metX1_comes_c (l : Launch) (G : GG) (h : Nat) (xa : Nat → Nat) (xi : Nat → Int32) (fm : Nat → Nat) (gm : GM) (wh : Nat → Option Nat) (r : Nat → Int32) (N o nb : Nat) (a mm : Int32) (nu : Nat → Int32) (hng : NG gm [(h, xO xa xi), (xa 2, fO fm r), (fm 0, qA G 3 9 wh), (fm 1, iA G 9 (fA r 2)), (fm 2, iA G 9 (fA r 3)), (fm 3, iA G 9 (fA r 4)), (fm 4, iA G 9 (fA r 5)), (o, .inr (4, [.int 99, .int a, .ref nb, .int mm])), (nb, iA G 4 nu)]) (hN : N ≤ 8) (hr : r 0 = nI N) (hwk : WK gm wh r N) : MW l yX1_comes cX1_comes 3 (some .boolean) ({ frames := 0, cells := 0, slots := 0, locals := 0 }) [.ref h, .ref o] [(h, xO xa xi), (xa 2, fO fm r), (fm 0, qA G 3 9 wh), (fm 1, iA G 9 (fA r 2)), (fm 2, iA G 9 (fA r 3)), (fm 3, iA G 9 (fA r 4)), (fm 4, iA G 9 (fA r 5)), (o, .inr (4, [.int 99, .int a, .ref nb, .int mm])), (nb, iA G 4 nu)] G (KG G gm) 0 0 (fun rv w1 => rv = bI true ∧ w1 = [(h, xO xa xi), (xa 2, fO fm (upd r 1 (nu 0))), (fm 0, qA G 3 9 wh), (fm 1, iA G 9 (fA (upd r 1 (nu 0)) 2)), (fm 2, iA G 9 (fA (upd r 1 (nu 0)) 3)), (fm 3, iA G 9 (fA (upd r 1 (nu 0)) 4)), (fm 4, iA G 9 (fA (upd r 1 (nu 0)) 5)), (o, .inr (4, [.int 99, .int a, .ref nb, .int mm])), (nb, iA G 4 nu)]) := by
  -- rows printed by wip/tools/gen.py
  refine mw_mkg RX1 (by decide) rfl (Nat.le_of_ble_eq_true rfl) ?_
  intro p0_ e0_ s m args below meth c A C hA hAx hP hK hD ls hl
  have hGP := hK.2
  have hK := hK.1
  have hGA := GA.of hng hGP hAx
  have hx := C.1
  have hb := C.2.1
  have hml := C.2.2.2.2.1
  have hown := C.2.2.2.2.2.1
  have hts := C.2.2.2.2.2.2
  have hS : va_S A s.heap s.heap [] := va_S.rf
  have hl : lv_has ls 3 [(0, .ref h), (1, .ref o)] := hl
  refine lv_aload_n hx hb dX1_comes_0 rfl (lv_at hl 1 rfl) ?_
  refine va_get (D := gD G) (ci := 4) (v := .ref nb) (C := RX6) (T := TX6) (N := 4) hx hb hts in_X6 hown hK.1 hP 7 rfl rfl 2 (by decide) (hts _ q216) (fun _ h9 => h9) rfl dX1_comes_1 ?_
  refine lv_astore_n (lv' := [(2, .ref nb), (0, .ref h), (1, .ref o)]) hx hb dX1_comes_4 rfl hl (Nat.le_of_ble_eq_true rfl) rfl (fun ls hl => ?_)
  refine lv_aload_n hx hb dX1_comes_5 rfl (lv_at hl 2 rfl) ?_
  refine va_get (D := gD G) (ci := 4) (v := .int 99) (C := RX6) (T := TX6) (N := 4) hx hb hts in_X6 hown hK.1 hP 7 rfl rfl 0 (by decide) (hts _ q212) (fun _ h9 => h9) rfl dX1_comes_6 ?_
  refine n_eqi (y := 99) rfl ?_
  refine lv_lookup (off := 100) (tgt := 109) (x := 99) hx hb dX1_comes_9 (by decide) (by decide) (by decide) ?_
  refine lv_aload_n hx hb dX1_comes_109 rfl (lv_at hl 1 rfl) ?_
  refine va_get (D := gD G) (ci := 1) (v := .ref (xa 2)) (C := RX1) (T := TX1) (N := 9) hx hb hts in_X1 hown hK.1 hP 0 rfl rfl 2 (by decide) (hts _ q840) (fun _ h9 => h9) rfl dX1_comes_110 ?_
  refine lv_aload_n hx hb dX1_comes_113 rfl (lv_at hl 0 rfl) ?_
  refine lv_iconst (v := 0) hx hb dX1_comes_114 (by decide) ?_
  refine n_iald C hK.1 hP 8 0 rfl (by omega) (by omega) dX1_comes_115 ?_
  refine va_put (D := gD G) (ci := 2) (v := .int (nu 0)) (ty := .int) (C := RX2) (T := TX2) (N := 8) hx hb hts in_X2 tyX2 tyX2_ok nmX2 hown hK.1 hP hD hS 1 rfl rfl 6 (by decide) (hts _ q805) (fun _ h9 => h9) rfl (by decide +kernel) rfl rfl (Nat.le_of_ble_eq_true rfl) dX1_comes_116 (fun H locs hP hD hS => ?_)
  have hP : PP G [(h, xO xa xi), (xa 2, fR fm (r 0) (nu 0) (r 2)), (fm 0, qA G 3 9 wh), (fm 1, iA G 9 (fA r 2)), (fm 2, iA G 9 (fA r 3)), (fm 3, iA G 9 (fA r 4)), (fm 4, iA G 9 (fA r 5)), (o, .inr (4, [.int 99, .int a, .ref nb, .int mm])), (nb, iA G 4 nu)] H := hP
  have hD : va_D A [(h, xO xa xi), (xa 2, fR fm (r 0) (nu 0) (r 2)), (fm 0, qA G 3 9 wh), (fm 1, iA G 9 (fA r 2)), (fm 2, iA G 9 (fA r 3)), (fm 3, iA G 9 (fA r 4)), (fm 4, iA G 9 (fA r 5)), (o, .inr (4, [.int 99, .int a, .ref nb, .int mm])), (nb, iA G 4 nu)] := hD
  have z_1 : (fO fm (upd r 1 (nu 0)) : va_E) = fR fm (r 0) (nu 0) (r 2) := fO_h1 (fd := fm) (r := r) (v := nu 0)
  have z_2 : (iA G 9 (fA (upd r 1 (nu 0)) 2) : va_E) = iA G 9 (fA r 2) := congrArg (iA G 9) (fA_h (r := r) (i := 1) (k := 2) (v := nu 0) (by decide))
  have z_3 : (iA G 9 (fA (upd r 1 (nu 0)) 3) : va_E) = iA G 9 (fA r 3) := congrArg (iA G 9) (fA_h (r := r) (i := 1) (k := 3) (v := nu 0) (by decide))
  have z_4 : (iA G 9 (fA (upd r 1 (nu 0)) 4) : va_E) = iA G 9 (fA r 4) := congrArg (iA G 9) (fA_h (r := r) (i := 1) (k := 4) (v := nu 0) (by decide))
  have z_5 : (iA G 9 (fA (upd r 1 (nu 0)) 5) : va_E) = iA G 9 (fA r 5) := congrArg (iA G 9) (fA_h (r := r) (i := 1) (k := 5) (v := nu 0) (by decide))
  have hP : PP G [(h, xO xa xi), (xa 2, fO fm (upd r 1 (nu 0))), (fm 0, qA G 3 9 wh), (fm 1, iA G 9 (fA (upd r 1 (nu 0)) 2)), (fm 2, iA G 9 (fA (upd r 1 (nu 0)) 3)), (fm 3, iA G 9 (fA (upd r 1 (nu 0)) 4)), (fm 4, iA G 9 (fA (upd r 1 (nu 0)) 5)), (o, .inr (4, [.int 99, .int a, .ref nb, .int mm])), (nb, iA G 4 nu)] H := by rw [z_1, z_2, z_3, z_4, z_5]; exact hP
  have hD : va_D A [(h, xO xa xi), (xa 2, fO fm (upd r 1 (nu 0))), (fm 0, qA G 3 9 wh), (fm 1, iA G 9 (fA (upd r 1 (nu 0)) 2)), (fm 2, iA G 9 (fA (upd r 1 (nu 0)) 3)), (fm 3, iA G 9 (fA (upd r 1 (nu 0)) 4)), (fm 4, iA G 9 (fA (upd r 1 (nu 0)) 5)), (o, .inr (4, [.int 99, .int a, .ref nb, .int mm])), (nb, iA G 4 nu)] := by rw [z_1, z_2, z_3, z_4, z_5]; exact hD
  have hr_6 : (upd r 1 (nu 0)) 0 = nI N := (r_h (r := r) (i := 1) (j := 0) (v := nu 0) (by decide)).trans hr
  have hw_7 : WK gm wh (upd r 1 (nu 0)) N := WK.h hwk (by decide)
  refine lv_iconst (v := 1) hx hb dX1_comes_119 (by decide) ?_
  exact n_zretW (v := true) (w1 := [(h, xO xa xi), (xa 2, fO fm (upd r 1 (nu 0))), (fm 0, qA G 3 9 wh), (fm 1, iA G 9 (fA (upd r 1 (nu 0)) 2)), (fm 2, iA G 9 (fA (upd r 1 (nu 0)) 3)), (fm 3, iA G 9 (fA (upd r 1 (nu 0)) 4)), (fm 4, iA G 9 (fA (upd r 1 (nu 0)) 5)), (o, .inr (4, [.int 99, .int a, .ref nb, .int mm])), (nb, iA G 4 nu)]) C (⟨rfl, rfl⟩) hP hD hS (by first | omega | decide) (by first | omega | decide) dX1_comes_120

set_option maxHeartbeats 4000000 in
set_option maxRecDepth 100000 in
theorem metX1_comes_t0 (l : Launch) (G : GG) (h : Nat) (xa : Nat → Nat) (xi : Nat → Int32) (fm : Nat → Nat) (gm : GM) (wh : Nat → Option Nat) (r : Nat → Int32) (N o nb : Nat) (a mm : Int32) (nu : Nat → Int32) (hng : NG gm [(h, xO xa xi), (xa 2, fO fm r), (fm 0, qA G 3 9 wh), (fm 1, iA G 9 (fA r 2)), (fm 2, iA G 9 (fA r 3)), (fm 3, iA G 9 (fA r 4)), (fm 4, iA G 9 (fA r 5)), (o, .inr (4, [.int 116, .int a, .ref nb, .int mm])), (nb, iA G 4 nu)]) (hN : N ≤ 8) (hr : r 0 = nI N) (hwk : WK gm wh r N) (h1 : sMay r N (nu 0) (nu 1) = false) : MW l yX1_comes cX1_comes 3 (some .boolean) ({ frames := 9, cells := 0, slots := 0, locals := 265 }) [.ref h, .ref o] [(h, xO xa xi), (xa 2, fO fm r), (fm 0, qA G 3 9 wh), (fm 1, iA G 9 (fA r 2)), (fm 2, iA G 9 (fA r 3)), (fm 3, iA G 9 (fA r 4)), (fm 4, iA G 9 (fA r 5)), (o, .inr (4, [.int 116, .int a, .ref nb, .int mm])), (nb, iA G 4 nu)] G (KG G gm) 0 0 (fun rv w1 => rv = bI false ∧ w1 = [(h, xO xa xi), (xa 2, fO fm r), (fm 0, qA G 3 9 wh), (fm 1, iA G 9 (fA r 2)), (fm 2, iA G 9 (fA r 3)), (fm 3, iA G 9 (fA r 4)), (fm 4, iA G 9 (fA r 5)), (o, .inr (4, [.int 116, .int a, .ref nb, .int mm])), (nb, iA G 4 nu)]) := by
  -- rows printed by wip/tools/gen.py
  refine mw_mkg RX1 (by decide) rfl (Nat.le_of_ble_eq_true rfl) ?_
  intro p0_ e0_ s m args below meth c A C hA hAx hP hK hD ls hl
  have hGP := hK.2
  have hK := hK.1
  have hGA := GA.of hng hGP hAx
  have hx := C.1
  have hb := C.2.1
  have hml := C.2.2.2.2.1
  have hown := C.2.2.2.2.2.1
  have hts := C.2.2.2.2.2.2
  have hS : va_S A s.heap s.heap [] := va_S.rf
  have hl : lv_has ls 3 [(0, .ref h), (1, .ref o)] := hl
  refine lv_aload_n hx hb dX1_comes_0 rfl (lv_at hl 1 rfl) ?_
  refine va_get (D := gD G) (ci := 4) (v := .ref nb) (C := RX6) (T := TX6) (N := 4) hx hb hts in_X6 hown hK.1 hP 7 rfl rfl 2 (by decide) (hts _ q216) (fun _ h9 => h9) rfl dX1_comes_1 ?_
  refine lv_astore_n (lv' := [(2, .ref nb), (0, .ref h), (1, .ref o)]) hx hb dX1_comes_4 rfl hl (Nat.le_of_ble_eq_true rfl) rfl (fun ls hl => ?_)
  refine lv_aload_n hx hb dX1_comes_5 rfl (lv_at hl 2 rfl) ?_
  refine va_get (D := gD G) (ci := 4) (v := .int 116) (C := RX6) (T := TX6) (N := 4) hx hb hts in_X6 hown hK.1 hP 7 rfl rfl 0 (by decide) (hts _ q212) (fun _ h9 => h9) rfl dX1_comes_6 ?_
  refine n_eqi (y := 116) rfl ?_
  refine lv_lookup (off := 112) (tgt := 121) (x := 116) hx hb dX1_comes_9 (by decide) (by decide) (by decide) ?_
  refine lv_aload_n hx hb dX1_comes_121 rfl (lv_at hl 1 rfl) ?_
  refine va_get (D := gD G) (ci := 1) (v := .ref (xa 2)) (C := RX1) (T := TX1) (N := 9) hx hb hts in_X1 hown hK.1 hP 0 rfl rfl 2 (by decide) (hts _ q840) (fun _ h9 => h9) rfl dX1_comes_122 ?_
  refine lv_aload_n hx hb dX1_comes_125 rfl (lv_at hl 0 rfl) ?_
  refine lv_iconst (v := 0) hx hb dX1_comes_126 (by decide) ?_
  refine n_iald C hK.1 hP 8 0 rfl (by omega) (by omega) dX1_comes_127 ?_
  refine lv_aload_n hx hb dX1_comes_128 rfl (lv_at hl 0 rfl) ?_
  refine lv_iconst (v := 1) hx hb dX1_comes_129 (by decide) ?_
  refine n_iald C hK.1 hP 8 1 rfl (by omega) (by omega) dX1_comes_130 ?_
  refine c_Sk (rest := []) C (metX1_mayEat l G (xa 2) fm gm wh r N (nu 0) (nu 1) (by omega) (hr) (hwk)) 3 (lw_S q364 q365 q39 q366) (by decide +kernel) ⟨rfl, rfl⟩ ⟨(Nat.le_of_ble_eq_true rfl), (Nat.le_of_ble_eq_true rfl)⟩ (KG.call) (hP.sub (ws' := [(xa 2, fO fm r), (fm 0, qA G 3 9 wh), (fm 1, iA G 9 (fA r 2)), (fm 2, iA G 9 (fA r 3)), (fm 3, iA G 9 (fA r 4)), (fm 4, iA G 9 (fA r 5))]) [1, 2, 3, 4, 5, 6] rfl) (KG.at hK (hGP.kept hGA hS)) hl rfl rfl (Nat.le_of_ble_eq_true rfl) ⟨(Nat.le_of_ble_eq_true rfl), (Nat.le_of_ble_eq_true rfl)⟩ dX1_comes_131 ?_
  refine n_if_neB (b := (sMay r N (nu 0) (nu 1))) (tgt := 139) hx hb dX1_comes_134 (by decide) (fun c_1 => absurd c_1 (by simp [h1])) (fun c_1 => ?_)
  refine lv_iconst (v := 0) hx hb dX1_comes_137 (by decide) ?_
  exact n_zretW (v := false) (w1 := [(h, xO xa xi), (xa 2, fO fm r), (fm 0, qA G 3 9 wh), (fm 1, iA G 9 (fA r 2)), (fm 2, iA G 9 (fA r 3)), (fm 3, iA G 9 (fA r 4)), (fm 4, iA G 9 (fA r 5)), (o, .inr (4, [.int 116, .int a, .ref nb, .int mm])), (nb, iA G 4 nu)]) C (⟨rfl, rfl⟩) hP hD hS (by first | omega | decide) (by first | omega | decide) dX1_comes_138

set_option maxHeartbeats 4000000 in
set_option maxRecDepth 100000 in
theorem metX1_comes_t1 (l : Launch) (G : GG) (h : Nat) (xa : Nat → Nat) (xi : Nat → Int32) (fm : Nat → Nat) (gm : GM) (wh : Nat → Option Nat) (r : Nat → Int32) (N o nb : Nat) (a mm : Int32) (nu : Nat → Int32) (p q : Nat) (hng : NG gm [(h, xO xa xi), (xa 2, fO fm r), (fm 0, qA G 3 9 wh), (fm 1, iA G 9 (fA r 2)), (fm 2, iA G 9 (fA r 3)), (fm 3, iA G 9 (fA r 4)), (fm 4, iA G 9 (fA r 5)), (o, .inr (4, [.int 116, .int a, .ref nb, .int mm])), (nb, iA G 4 nu)]) (hN : N ≤ 8) (hr : r 0 = nI N) (hwk : WK gm wh r N) (h0 : nu 0 = nI p) (h9 : nu 1 = nI q) (hp : p < N) (hq : q < N) (h1 : sMay r N (nI p) (nI q) = true) : MW l yX1_comes cX1_comes 3 (some .boolean) ({ frames := 10, cells := 0, slots := 0, locals := 288 }) [.ref h, .ref o] [(h, xO xa xi), (xa 2, fO fm r), (fm 0, qA G 3 9 wh), (fm 1, iA G 9 (fA r 2)), (fm 2, iA G 9 (fA r 3)), (fm 3, iA G 9 (fA r 4)), (fm 4, iA G 9 (fA r 5)), (o, .inr (4, [.int 116, .int a, .ref nb, .int mm])), (nb, iA G 4 nu)] G (KG G gm) 0 0 (fun rv w1 => rv = bI true ∧ w1 = [(h, xO xa xi), (xa 2, fO fm (sTurn r p q)), (fm 0, qA G 3 9 wh), (fm 1, iA G 9 (fA (sTurn r p q) 2)), (fm 2, iA G 9 (fA (sTurn r p q) 3)), (fm 3, iA G 9 (fA (sTurn r p q) 4)), (fm 4, iA G 9 (fA (sTurn r p q) 5)), (o, .inr (4, [.int 116, .int a, .ref nb, .int mm])), (nb, iA G 4 nu)]) := by
  -- rows printed by wip/tools/gen.py
  refine mw_mkg RX1 (by decide) rfl (Nat.le_of_ble_eq_true rfl) ?_
  intro p0_ e0_ s m args below meth c A C hA hAx hP hK hD ls hl
  have hGP := hK.2
  have hK := hK.1
  have hGA := GA.of hng hGP hAx
  have hx := C.1
  have hb := C.2.1
  have hml := C.2.2.2.2.1
  have hown := C.2.2.2.2.2.1
  have hts := C.2.2.2.2.2.2
  have hS : va_S A s.heap s.heap [] := va_S.rf
  have hl : lv_has ls 3 [(0, .ref h), (1, .ref o)] := hl
  refine lv_aload_n hx hb dX1_comes_0 rfl (lv_at hl 1 rfl) ?_
  refine va_get (D := gD G) (ci := 4) (v := .ref nb) (C := RX6) (T := TX6) (N := 4) hx hb hts in_X6 hown hK.1 hP 7 rfl rfl 2 (by decide) (hts _ q216) (fun _ h9 => h9) rfl dX1_comes_1 ?_
  refine lv_astore_n (lv' := [(2, .ref nb), (0, .ref h), (1, .ref o)]) hx hb dX1_comes_4 rfl hl (Nat.le_of_ble_eq_true rfl) rfl (fun ls hl => ?_)
  refine lv_aload_n hx hb dX1_comes_5 rfl (lv_at hl 2 rfl) ?_
  refine va_get (D := gD G) (ci := 4) (v := .int 116) (C := RX6) (T := TX6) (N := 4) hx hb hts in_X6 hown hK.1 hP 7 rfl rfl 0 (by decide) (hts _ q212) (fun _ h9 => h9) rfl dX1_comes_6 ?_
  refine n_eqi (y := 116) rfl ?_
  refine lv_lookup (off := 112) (tgt := 121) (x := 116) hx hb dX1_comes_9 (by decide) (by decide) (by decide) ?_
  refine lv_aload_n hx hb dX1_comes_121 rfl (lv_at hl 1 rfl) ?_
  refine va_get (D := gD G) (ci := 1) (v := .ref (xa 2)) (C := RX1) (T := TX1) (N := 9) hx hb hts in_X1 hown hK.1 hP 0 rfl rfl 2 (by decide) (hts _ q840) (fun _ h9 => h9) rfl dX1_comes_122 ?_
  refine lv_aload_n hx hb dX1_comes_125 rfl (lv_at hl 0 rfl) ?_
  refine lv_iconst (v := 0) hx hb dX1_comes_126 (by decide) ?_
  refine n_iald C hK.1 hP 8 0 rfl (by omega) (by omega) dX1_comes_127 ?_
  refine n_eqi (h0) ?_
  refine lv_aload_n hx hb dX1_comes_128 rfl (lv_at hl 0 rfl) ?_
  refine lv_iconst (v := 1) hx hb dX1_comes_129 (by decide) ?_
  refine n_iald C hK.1 hP 8 1 rfl (by omega) (by omega) dX1_comes_130 ?_
  refine n_eqi (h9) ?_
  refine c_Sk (rest := []) C (metX1_mayEat l G (xa 2) fm gm wh r N (nI p) (nI q) (by omega) (hr) (hwk)) 3 (lw_S q364 q365 q39 q366) (by decide +kernel) ⟨rfl, rfl⟩ ⟨(Nat.le_of_ble_eq_true rfl), (Nat.le_of_ble_eq_true rfl)⟩ (KG.call) (hP.sub (ws' := [(xa 2, fO fm r), (fm 0, qA G 3 9 wh), (fm 1, iA G 9 (fA r 2)), (fm 2, iA G 9 (fA r 3)), (fm 3, iA G 9 (fA r 4)), (fm 4, iA G 9 (fA r 5))]) [1, 2, 3, 4, 5, 6] rfl) (KG.at hK (hGP.kept hGA hS)) hl rfl rfl (Nat.le_of_ble_eq_true rfl) ⟨(Nat.le_of_ble_eq_true rfl), (Nat.le_of_ble_eq_true rfl)⟩ dX1_comes_131 ?_
  refine n_if_neB (b := (sMay r N (nI p) (nI q))) (tgt := 139) hx hb dX1_comes_134 (by decide) (fun c_1 => ?_) (fun c_1 => absurd c_1 (by simp [h1]))
  refine lv_aload_n hx hb dX1_comes_139 rfl (lv_at hl 1 rfl) ?_
  refine va_get (D := gD G) (ci := 1) (v := .ref (xa 2)) (C := RX1) (T := TX1) (N := 9) hx hb hts in_X1 hown hK.1 hP 0 rfl rfl 2 (by decide) (hts _ q840) (fun _ h9 => h9) rfl dX1_comes_140 ?_
  refine lv_aload_n hx hb dX1_comes_143 rfl (lv_at hl 0 rfl) ?_
  refine lv_iconst (v := 0) hx hb dX1_comes_144 (by decide) ?_
  refine n_iald C hK.1 hP 8 0 rfl (by omega) (by omega) dX1_comes_145 ?_
  refine n_eqi (h0) ?_
  refine lv_aload_n hx hb dX1_comes_146 rfl (lv_at hl 0 rfl) ?_
  refine lv_iconst (v := 1) hx hb dX1_comes_147 (by decide) ?_
  refine n_iald C hK.1 hP 8 1 rfl (by omega) (by omega) dX1_comes_148 ?_
  refine n_eqi (h9) ?_
  refine c_VWk (wr := [(h, xO xa xi), (o, .inr (4, [.int 116, .int a, .ref nb, .int mm])), (nb, iA G 4 nu)]) (rest := []) C (metX2_eats l G (xa 2) fm gm wh r N p q (by omega) (hr) (hwk) (by omega) (by omega) (NG.of hGA hD [1, 2, 3, 4, 5, 6] rfl)) 2 (lw_V q398 q399 q400 q40 q401) (by decide +kernel) ⟨rfl, rfl⟩ ⟨(Nat.le_of_ble_eq_true rfl), (Nat.le_of_ble_eq_true rfl)⟩ (KG.call) (KG.at hK (hGP.kept hGA hS)) (va_recv hK.1 hP (ci := 2) (q0 := 1) rfl rfl) hA hP hD hS [1, 2, 3, 4, 5, 6] [0, 7, 8] rfl rfl rfl rfl (by decide) hl rfl rfl (Nat.le_of_ble_eq_true rfl) ⟨(Nat.le_of_ble_eq_true rfl), (Nat.le_of_ble_eq_true rfl)⟩ dX1_comes_149 (fun r_2 w1 H locs hq_3 hP hD hS => ?_)
  obtain ⟨rfl, rfl⟩ := hq_3
  have hP : PP G [(h, xO xa xi), (o, .inr (4, [.int 116, .int a, .ref nb, .int mm])), (nb, iA G 4 nu), (xa 2, fO fm (sTurn r p q)), (fm 0, qA G 3 9 wh), (fm 1, iA G 9 (fA (sTurn r p q) 2)), (fm 2, iA G 9 (fA (sTurn r p q) 3)), (fm 3, iA G 9 (fA (sTurn r p q) 4)), (fm 4, iA G 9 (fA (sTurn r p q) 5))] H := hP
  have hD : va_D A [(h, xO xa xi), (o, .inr (4, [.int 116, .int a, .ref nb, .int mm])), (nb, iA G 4 nu), (xa 2, fO fm (sTurn r p q)), (fm 0, qA G 3 9 wh), (fm 1, iA G 9 (fA (sTurn r p q) 2)), (fm 2, iA G 9 (fA (sTurn r p q) 3)), (fm 3, iA G 9 (fA (sTurn r p q) 4)), (fm 4, iA G 9 (fA (sTurn r p q) 5))] := hD
  have hw_4 : WK gm wh (sTurn r p q) N := WK.turn hwk
  have hr_5 : (sTurn r p q) 0 = nI N := (sTurn_0 r p q).trans hr
  refine lv_pop hx hb dX1_comes_152 rfl ?_
  refine lv_iconst (v := 1) hx hb dX1_comes_153 (by decide) ?_
  exact n_zretW (v := true) (w1 := [(h, xO xa xi), (xa 2, fO fm (sTurn r p q)), (fm 0, qA G 3 9 wh), (fm 1, iA G 9 (fA (sTurn r p q) 2)), (fm 2, iA G 9 (fA (sTurn r p q) 3)), (fm 3, iA G 9 (fA (sTurn r p q) 4)), (fm 4, iA G 9 (fA (sTurn r p q) 5)), (o, .inr (4, [.int 116, .int a, .ref nb, .int mm])), (nb, iA G 4 nu)]) C (⟨rfl, rfl⟩) (hP.sub (ws' := [(h, xO xa xi), (xa 2, fO fm (sTurn r p q)), (fm 0, qA G 3 9 wh), (fm 1, iA G 9 (fA (sTurn r p q) 2)), (fm 2, iA G 9 (fA (sTurn r p q) 3)), (fm 3, iA G 9 (fA (sTurn r p q) 4)), (fm 4, iA G 9 (fA (sTurn r p q) 5)), (o, .inr (4, [.int 116, .int a, .ref nb, .int mm])), (nb, iA G 4 nu)]) [0, 3, 4, 5, 6, 7, 8, 1, 2] rfl) (hD.sub (ws' := [(h, xO xa xi), (xa 2, fO fm (sTurn r p q)), (fm 0, qA G 3 9 wh), (fm 1, iA G 9 (fA (sTurn r p q) 2)), (fm 2, iA G 9 (fA (sTurn r p q) 3)), (fm 3, iA G 9 (fA (sTurn r p q) 4)), (fm 4, iA G 9 (fA (sTurn r p q) 5)), (o, .inr (4, [.int 116, .int a, .ref nb, .int mm])), (nb, iA G 4 nu)]) [0, 3, 4, 5, 6, 7, 8, 1, 2] (by decide) rfl) hS (by first | omega | decide) (by first | omega | decide) dX1_comes_154

set_option maxHeartbeats 4000000 in
set_option maxRecDepth 100000 in
theorem metX1_comes_h (l : Launch) (G : GG) (h : Nat) (xa : Nat → Nat) (xi : Nat → Int32) (fm : Nat → Nat) (gm : GM) (wh : Nat → Option Nat) (r : Nat → Int32) (N o nb : Nat) (a mm : Int32) (nu : Nat → Int32) (hng : NG gm [(h, xO xa xi), (xa 2, fO fm r), (fm 0, qA G 3 9 wh), (fm 1, iA G 9 (fA r 2)), (fm 2, iA G 9 (fA r 3)), (fm 3, iA G 9 (fA r 4)), (fm 4, iA G 9 (fA r 5)), (o, .inr (4, [.int 104, .int a, .ref nb, .int mm])), (nb, iA G 4 nu)]) (hN : N ≤ 8) (hr : r 0 = nI N) (hwk : WK gm wh r N) : MW l yX1_comes cX1_comes 3 (some .boolean) ({ frames := 3, cells := 0, slots := 0, locals := 66 }) [.ref h, .ref o] [(h, xO xa xi), (xa 2, fO fm r), (fm 0, qA G 3 9 wh), (fm 1, iA G 9 (fA r 2)), (fm 2, iA G 9 (fA r 3)), (fm 3, iA G 9 (fA r 4)), (fm 4, iA G 9 (fA r 5)), (o, .inr (4, [.int 104, .int a, .ref nb, .int mm])), (nb, iA G 4 nu)] G (KG G gm) 0 0 (fun rv w1 => rv = bI (sFlOk N (nu 0) (nu 1)) ∧ w1 = [(h, xO xa xi), (xa 2, fO fm (sFlS r N (nu 0) 0 (nu 1))), (fm 0, qA G 3 9 wh), (fm 1, iA G 9 (fA (sFlS r N (nu 0) 0 (nu 1)) 2)), (fm 2, iA G 9 (fA (sFlS r N (nu 0) 0 (nu 1)) 3)), (fm 3, iA G 9 (fA (sFlS r N (nu 0) 0 (nu 1)) 4)), (fm 4, iA G 9 (fA (sFlS r N (nu 0) 0 (nu 1)) 5)), (o, .inr (4, [.int 104, .int a, .ref nb, .int mm])), (nb, iA G 4 nu)]) := by
  -- rows printed by wip/tools/gen.py
  refine mw_mkg RX1 (by decide) rfl (Nat.le_of_ble_eq_true rfl) ?_
  intro p0_ e0_ s m args below meth c A C hA hAx hP hK hD ls hl
  have hGP := hK.2
  have hK := hK.1
  have hGA := GA.of hng hGP hAx
  have hx := C.1
  have hb := C.2.1
  have hml := C.2.2.2.2.1
  have hown := C.2.2.2.2.2.1
  have hts := C.2.2.2.2.2.2
  have hS : va_S A s.heap s.heap [] := va_S.rf
  have hl : lv_has ls 3 [(0, .ref h), (1, .ref o)] := hl
  refine lv_aload_n hx hb dX1_comes_0 rfl (lv_at hl 1 rfl) ?_
  refine va_get (D := gD G) (ci := 4) (v := .ref nb) (C := RX6) (T := TX6) (N := 4) hx hb hts in_X6 hown hK.1 hP 7 rfl rfl 2 (by decide) (hts _ q216) (fun _ h9 => h9) rfl dX1_comes_1 ?_
  refine lv_astore_n (lv' := [(2, .ref nb), (0, .ref h), (1, .ref o)]) hx hb dX1_comes_4 rfl hl (Nat.le_of_ble_eq_true rfl) rfl (fun ls hl => ?_)
  refine lv_aload_n hx hb dX1_comes_5 rfl (lv_at hl 2 rfl) ?_
  refine va_get (D := gD G) (ci := 4) (v := .int 104) (C := RX6) (T := TX6) (N := 4) hx hb hts in_X6 hown hK.1 hP 7 rfl rfl 0 (by decide) (hts _ q212) (fun _ h9 => h9) rfl dX1_comes_6 ?_
  refine n_eqi (y := 104) rfl ?_
  refine lv_lookup (off := 146) (tgt := 155) (x := 104) hx hb dX1_comes_9 (by decide) (by decide) (by decide) ?_
  refine lv_aload_n hx hb dX1_comes_155 rfl (lv_at hl 1 rfl) ?_
  refine va_get (D := gD G) (ci := 1) (v := .ref (xa 2)) (C := RX1) (T := TX1) (N := 9) hx hb hts in_X1 hown hK.1 hP 0 rfl rfl 2 (by decide) (hts _ q840) (fun _ h9 => h9) rfl dX1_comes_156 ?_
  refine lv_aload_n hx hb dX1_comes_159 rfl (lv_at hl 0 rfl) ?_
  refine lv_iconst (v := 0) hx hb dX1_comes_160 (by decide) ?_
  refine n_iald C hK.1 hP 8 0 rfl (by omega) (by omega) dX1_comes_161 ?_
  refine lv_aload_n hx hb dX1_comes_162 rfl (lv_at hl 2 rfl) ?_
  refine va_get (D := gD G) (ci := 4) (v := .int 104) (C := RX6) (T := TX6) (N := 4) hx hb hts in_X6 hown hK.1 hP 7 rfl rfl 0 (by decide) (hts _ q212) (fun _ h9 => h9) rfl dX1_comes_163 ?_
  refine lv_bipush (v := 104) hx hb dX1_comes_166 (by decide) ?_
  refine lv_icmp_ne (x := 104) (y := 104) (tgt := 175) hx hb dX1_comes_168 (by decide) (fun c_1 => absurd c_1 (by decide)) (fun c_1 => ?_)
  refine lv_iconst (v := 0) hx hb dX1_comes_171 (by decide) ?_
  refine lv_goto (tgt := 176) hx hb dX1_comes_172 (by decide) ?_
  refine lv_aload_n hx hb dX1_comes_176 rfl (lv_at hl 0 rfl) ?_
  refine lv_iconst (v := 1) hx hb dX1_comes_177 (by decide) ?_
  refine n_iald C hK.1 hP 8 1 rfl (by omega) (by omega) dX1_comes_178 ?_
  refine c_SWk (wr := [(h, xO xa xi), (o, .inr (4, [.int 104, .int a, .ref nb, .int mm])), (nb, iA G 4 nu)]) (rest := []) C (metX1_feels l G (xa 2) fm gm wh r N (nu 0) 0 (nu 1) (by omega) (hr) (hwk) (NG.of hGA hD [1, 2, 3, 4, 5, 6] rfl)) 4 (lw_S q494 q495 q39 q496) (by decide +kernel) ⟨rfl, rfl⟩ ⟨(Nat.le_of_ble_eq_true rfl), (Nat.le_of_ble_eq_true rfl)⟩ (KG.call) (KG.at hK (hGP.kept hGA hS)) hA hP hD hS [1, 2, 3, 4, 5, 6] [0, 7, 8] rfl rfl rfl rfl (by decide) hl rfl rfl (Nat.le_of_ble_eq_true rfl) ⟨(Nat.le_of_ble_eq_true rfl), (Nat.le_of_ble_eq_true rfl)⟩ dX1_comes_179 (fun r_2 w1 H locs hq_3 hP hD hS => ?_)
  obtain ⟨rfl, rfl⟩ := hq_3
  have hP : PP G [(h, xO xa xi), (o, .inr (4, [.int 104, .int a, .ref nb, .int mm])), (nb, iA G 4 nu), (xa 2, fO fm (sFlS r N (nu 0) 0 (nu 1))), (fm 0, qA G 3 9 wh), (fm 1, iA G 9 (fA (sFlS r N (nu 0) 0 (nu 1)) 2)), (fm 2, iA G 9 (fA (sFlS r N (nu 0) 0 (nu 1)) 3)), (fm 3, iA G 9 (fA (sFlS r N (nu 0) 0 (nu 1)) 4)), (fm 4, iA G 9 (fA (sFlS r N (nu 0) 0 (nu 1)) 5))] H := hP
  have hD : va_D A [(h, xO xa xi), (o, .inr (4, [.int 104, .int a, .ref nb, .int mm])), (nb, iA G 4 nu), (xa 2, fO fm (sFlS r N (nu 0) 0 (nu 1))), (fm 0, qA G 3 9 wh), (fm 1, iA G 9 (fA (sFlS r N (nu 0) 0 (nu 1)) 2)), (fm 2, iA G 9 (fA (sFlS r N (nu 0) 0 (nu 1)) 3)), (fm 3, iA G 9 (fA (sFlS r N (nu 0) 0 (nu 1)) 4)), (fm 4, iA G 9 (fA (sFlS r N (nu 0) 0 (nu 1)) 5))] := hD
  have hw_4 : WK gm wh (sFlS r N (nu 0) 0 (nu 1)) N := WK.fl hwk
  have hr_5 : (sFlS r N (nu 0) 0 (nu 1)) 0 = nI N := (sFlS_0 r N (nu 0) 0 (nu 1)).trans hr
  exact n_zretW (v := (sFlOk N (nu 0) (nu 1))) (w1 := [(h, xO xa xi), (xa 2, fO fm (sFlS r N (nu 0) 0 (nu 1))), (fm 0, qA G 3 9 wh), (fm 1, iA G 9 (fA (sFlS r N (nu 0) 0 (nu 1)) 2)), (fm 2, iA G 9 (fA (sFlS r N (nu 0) 0 (nu 1)) 3)), (fm 3, iA G 9 (fA (sFlS r N (nu 0) 0 (nu 1)) 4)), (fm 4, iA G 9 (fA (sFlS r N (nu 0) 0 (nu 1)) 5)), (o, .inr (4, [.int 104, .int a, .ref nb, .int mm])), (nb, iA G 4 nu)]) C (⟨rfl, rfl⟩) (hP.sub (ws' := [(h, xO xa xi), (xa 2, fO fm (sFlS r N (nu 0) 0 (nu 1))), (fm 0, qA G 3 9 wh), (fm 1, iA G 9 (fA (sFlS r N (nu 0) 0 (nu 1)) 2)), (fm 2, iA G 9 (fA (sFlS r N (nu 0) 0 (nu 1)) 3)), (fm 3, iA G 9 (fA (sFlS r N (nu 0) 0 (nu 1)) 4)), (fm 4, iA G 9 (fA (sFlS r N (nu 0) 0 (nu 1)) 5)), (o, .inr (4, [.int 104, .int a, .ref nb, .int mm])), (nb, iA G 4 nu)]) [0, 3, 4, 5, 6, 7, 8, 1, 2] rfl) (hD.sub (ws' := [(h, xO xa xi), (xa 2, fO fm (sFlS r N (nu 0) 0 (nu 1))), (fm 0, qA G 3 9 wh), (fm 1, iA G 9 (fA (sFlS r N (nu 0) 0 (nu 1)) 2)), (fm 2, iA G 9 (fA (sFlS r N (nu 0) 0 (nu 1)) 3)), (fm 3, iA G 9 (fA (sFlS r N (nu 0) 0 (nu 1)) 4)), (fm 4, iA G 9 (fA (sFlS r N (nu 0) 0 (nu 1)) 5)), (o, .inr (4, [.int 104, .int a, .ref nb, .int mm])), (nb, iA G 4 nu)]) [0, 3, 4, 5, 6, 7, 8, 1, 2] (by decide) rfl) hS (by first | omega | decide) (by first | omega | decide) dX1_comes_182

set_option maxHeartbeats 4000000 in
set_option maxRecDepth 100000 in
theorem metX1_comes_l (l : Launch) (G : GG) (h : Nat) (xa : Nat → Nat) (xi : Nat → Int32) (fm : Nat → Nat) (gm : GM) (wh : Nat → Option Nat) (r : Nat → Int32) (N o nb : Nat) (a mm : Int32) (nu : Nat → Int32) (hng : NG gm [(h, xO xa xi), (xa 2, fO fm r), (fm 0, qA G 3 9 wh), (fm 1, iA G 9 (fA r 2)), (fm 2, iA G 9 (fA r 3)), (fm 3, iA G 9 (fA r 4)), (fm 4, iA G 9 (fA r 5)), (o, .inr (4, [.int 108, .int a, .ref nb, .int mm])), (nb, iA G 4 nu)]) (hN : N ≤ 8) (hr : r 0 = nI N) (hwk : WK gm wh r N) : MW l yX1_comes cX1_comes 3 (some .boolean) ({ frames := 3, cells := 0, slots := 0, locals := 66 }) [.ref h, .ref o] [(h, xO xa xi), (xa 2, fO fm r), (fm 0, qA G 3 9 wh), (fm 1, iA G 9 (fA r 2)), (fm 2, iA G 9 (fA r 3)), (fm 3, iA G 9 (fA r 4)), (fm 4, iA G 9 (fA r 5)), (o, .inr (4, [.int 108, .int a, .ref nb, .int mm])), (nb, iA G 4 nu)] G (KG G gm) 0 0 (fun rv w1 => rv = bI (sFlOk N (nu 0) (nu 1)) ∧ w1 = [(h, xO xa xi), (xa 2, fO fm (sFlS r N (nu 0) 1 (nu 1))), (fm 0, qA G 3 9 wh), (fm 1, iA G 9 (fA (sFlS r N (nu 0) 1 (nu 1)) 2)), (fm 2, iA G 9 (fA (sFlS r N (nu 0) 1 (nu 1)) 3)), (fm 3, iA G 9 (fA (sFlS r N (nu 0) 1 (nu 1)) 4)), (fm 4, iA G 9 (fA (sFlS r N (nu 0) 1 (nu 1)) 5)), (o, .inr (4, [.int 108, .int a, .ref nb, .int mm])), (nb, iA G 4 nu)]) := by
  -- rows printed by wip/tools/gen.py
  refine mw_mkg RX1 (by decide) rfl (Nat.le_of_ble_eq_true rfl) ?_
  intro p0_ e0_ s m args below meth c A C hA hAx hP hK hD ls hl
  have hGP := hK.2
  have hK := hK.1
  have hGA := GA.of hng hGP hAx
  have hx := C.1
  have hb := C.2.1
  have hml := C.2.2.2.2.1
  have hown := C.2.2.2.2.2.1
  have hts := C.2.2.2.2.2.2
  have hS : va_S A s.heap s.heap [] := va_S.rf
  have hl : lv_has ls 3 [(0, .ref h), (1, .ref o)] := hl
  refine lv_aload_n hx hb dX1_comes_0 rfl (lv_at hl 1 rfl) ?_
  refine va_get (D := gD G) (ci := 4) (v := .ref nb) (C := RX6) (T := TX6) (N := 4) hx hb hts in_X6 hown hK.1 hP 7 rfl rfl 2 (by decide) (hts _ q216) (fun _ h9 => h9) rfl dX1_comes_1 ?_
  refine lv_astore_n (lv' := [(2, .ref nb), (0, .ref h), (1, .ref o)]) hx hb dX1_comes_4 rfl hl (Nat.le_of_ble_eq_true rfl) rfl (fun ls hl => ?_)
  refine lv_aload_n hx hb dX1_comes_5 rfl (lv_at hl 2 rfl) ?_
  refine va_get (D := gD G) (ci := 4) (v := .int 108) (C := RX6) (T := TX6) (N := 4) hx hb hts in_X6 hown hK.1 hP 7 rfl rfl 0 (by decide) (hts _ q212) (fun _ h9 => h9) rfl dX1_comes_6 ?_
  refine n_eqi (y := 108) rfl ?_
  refine lv_lookup (off := 146) (tgt := 155) (x := 108) hx hb dX1_comes_9 (by decide) (by decide) (by decide) ?_
  refine lv_aload_n hx hb dX1_comes_155 rfl (lv_at hl 1 rfl) ?_
  refine va_get (D := gD G) (ci := 1) (v := .ref (xa 2)) (C := RX1) (T := TX1) (N := 9) hx hb hts in_X1 hown hK.1 hP 0 rfl rfl 2 (by decide) (hts _ q840) (fun _ h9 => h9) rfl dX1_comes_156 ?_
  refine lv_aload_n hx hb dX1_comes_159 rfl (lv_at hl 0 rfl) ?_
  refine lv_iconst (v := 0) hx hb dX1_comes_160 (by decide) ?_
  refine n_iald C hK.1 hP 8 0 rfl (by omega) (by omega) dX1_comes_161 ?_
  refine lv_aload_n hx hb dX1_comes_162 rfl (lv_at hl 2 rfl) ?_
  refine va_get (D := gD G) (ci := 4) (v := .int 108) (C := RX6) (T := TX6) (N := 4) hx hb hts in_X6 hown hK.1 hP 7 rfl rfl 0 (by decide) (hts _ q212) (fun _ h9 => h9) rfl dX1_comes_163 ?_
  refine lv_bipush (v := 104) hx hb dX1_comes_166 (by decide) ?_
  refine lv_icmp_ne (x := 108) (y := 104) (tgt := 175) hx hb dX1_comes_168 (by decide) (fun c_1 => ?_) (fun c_1 => absurd c_1 (by decide))
  refine lv_iconst (v := 1) hx hb dX1_comes_175 (by decide) ?_
  refine lv_aload_n hx hb dX1_comes_176 rfl (lv_at hl 0 rfl) ?_
  refine lv_iconst (v := 1) hx hb dX1_comes_177 (by decide) ?_
  refine n_iald C hK.1 hP 8 1 rfl (by omega) (by omega) dX1_comes_178 ?_
  refine c_SWk (wr := [(h, xO xa xi), (o, .inr (4, [.int 108, .int a, .ref nb, .int mm])), (nb, iA G 4 nu)]) (rest := []) C (metX1_feels l G (xa 2) fm gm wh r N (nu 0) 1 (nu 1) (by omega) (hr) (hwk) (NG.of hGA hD [1, 2, 3, 4, 5, 6] rfl)) 4 (lw_S q494 q495 q39 q496) (by decide +kernel) ⟨rfl, rfl⟩ ⟨(Nat.le_of_ble_eq_true rfl), (Nat.le_of_ble_eq_true rfl)⟩ (KG.call) (KG.at hK (hGP.kept hGA hS)) hA hP hD hS [1, 2, 3, 4, 5, 6] [0, 7, 8] rfl rfl rfl rfl (by decide) hl rfl rfl (Nat.le_of_ble_eq_true rfl) ⟨(Nat.le_of_ble_eq_true rfl), (Nat.le_of_ble_eq_true rfl)⟩ dX1_comes_179 (fun r_2 w1 H locs hq_3 hP hD hS => ?_)
  obtain ⟨rfl, rfl⟩ := hq_3
  have hP : PP G [(h, xO xa xi), (o, .inr (4, [.int 108, .int a, .ref nb, .int mm])), (nb, iA G 4 nu), (xa 2, fO fm (sFlS r N (nu 0) 1 (nu 1))), (fm 0, qA G 3 9 wh), (fm 1, iA G 9 (fA (sFlS r N (nu 0) 1 (nu 1)) 2)), (fm 2, iA G 9 (fA (sFlS r N (nu 0) 1 (nu 1)) 3)), (fm 3, iA G 9 (fA (sFlS r N (nu 0) 1 (nu 1)) 4)), (fm 4, iA G 9 (fA (sFlS r N (nu 0) 1 (nu 1)) 5))] H := hP
  have hD : va_D A [(h, xO xa xi), (o, .inr (4, [.int 108, .int a, .ref nb, .int mm])), (nb, iA G 4 nu), (xa 2, fO fm (sFlS r N (nu 0) 1 (nu 1))), (fm 0, qA G 3 9 wh), (fm 1, iA G 9 (fA (sFlS r N (nu 0) 1 (nu 1)) 2)), (fm 2, iA G 9 (fA (sFlS r N (nu 0) 1 (nu 1)) 3)), (fm 3, iA G 9 (fA (sFlS r N (nu 0) 1 (nu 1)) 4)), (fm 4, iA G 9 (fA (sFlS r N (nu 0) 1 (nu 1)) 5))] := hD
  have hw_4 : WK gm wh (sFlS r N (nu 0) 1 (nu 1)) N := WK.fl hwk
  have hr_5 : (sFlS r N (nu 0) 1 (nu 1)) 0 = nI N := (sFlS_0 r N (nu 0) 1 (nu 1)).trans hr
  exact n_zretW (v := (sFlOk N (nu 0) (nu 1))) (w1 := [(h, xO xa xi), (xa 2, fO fm (sFlS r N (nu 0) 1 (nu 1))), (fm 0, qA G 3 9 wh), (fm 1, iA G 9 (fA (sFlS r N (nu 0) 1 (nu 1)) 2)), (fm 2, iA G 9 (fA (sFlS r N (nu 0) 1 (nu 1)) 3)), (fm 3, iA G 9 (fA (sFlS r N (nu 0) 1 (nu 1)) 4)), (fm 4, iA G 9 (fA (sFlS r N (nu 0) 1 (nu 1)) 5)), (o, .inr (4, [.int 108, .int a, .ref nb, .int mm])), (nb, iA G 4 nu)]) C (⟨rfl, rfl⟩) (hP.sub (ws' := [(h, xO xa xi), (xa 2, fO fm (sFlS r N (nu 0) 1 (nu 1))), (fm 0, qA G 3 9 wh), (fm 1, iA G 9 (fA (sFlS r N (nu 0) 1 (nu 1)) 2)), (fm 2, iA G 9 (fA (sFlS r N (nu 0) 1 (nu 1)) 3)), (fm 3, iA G 9 (fA (sFlS r N (nu 0) 1 (nu 1)) 4)), (fm 4, iA G 9 (fA (sFlS r N (nu 0) 1 (nu 1)) 5)), (o, .inr (4, [.int 108, .int a, .ref nb, .int mm])), (nb, iA G 4 nu)]) [0, 3, 4, 5, 6, 7, 8, 1, 2] rfl) (hD.sub (ws' := [(h, xO xa xi), (xa 2, fO fm (sFlS r N (nu 0) 1 (nu 1))), (fm 0, qA G 3 9 wh), (fm 1, iA G 9 (fA (sFlS r N (nu 0) 1 (nu 1)) 2)), (fm 2, iA G 9 (fA (sFlS r N (nu 0) 1 (nu 1)) 3)), (fm 3, iA G 9 (fA (sFlS r N (nu 0) 1 (nu 1)) 4)), (fm 4, iA G 9 (fA (sFlS r N (nu 0) 1 (nu 1)) 5)), (o, .inr (4, [.int 108, .int a, .ref nb, .int mm])), (nb, iA G 4 nu)]) [0, 3, 4, 5, 6, 7, 8, 1, 2] (by decide) rfl) hS (by first | omega | decide) (by first | omega | decide) dX1_comes_182
