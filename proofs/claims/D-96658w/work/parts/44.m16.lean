theorem metX1_hasN (l : Launch) (G : GG) (v : Int32) (k : Nat) : MR l yX1_has cX1_has 2 (some .boolean) ({ frames := 0, cells := 0, slots := 0, locals := 0 }) [.int v, .int (nI k)] [] G (KM G) (bI (sBt v k)) := metX1_has l G v (nI k)
set_option maxHeartbeats 4000000 in
set_option maxRecDepth 100000 in
theorem metX1_feels_2 (l : Launch) (G : GG) (h : Nat) (xa : Nat → Nat) (xi : Nat → Int32) (fn : Nat → Nat) (gm : GM) (wh : Nat → Option Nat) (r : Nat → Int32) (N : Nat) (p what v : Int32) (hN : N ≤ 8) (hr : r 0 = nI N) (hwk : WK gm wh r N) (hng : NG gm [(h, xO xa xi), (xa 0, fO fn r), (fn 0, qA G 3 9 wh), (fn 1, iA G 9 (fA r 2)), (fn 2, iA G 9 (fA r 3)), (fn 3, iA G 9 (fA r 4)), (fn 4, iA G 9 (fA r 5))]) : MW l yX1_feels_2 cX1_feels_2 5 (some .int) ({ frames := 3, cells := 0, slots := 0, locals := 66 }) [.ref h, .int p, .int what, .int v] [(h, xO xa xi), (xa 0, fO fn r), (fn 0, qA G 3 9 wh), (fn 1, iA G 9 (fA r 2)), (fn 2, iA G 9 (fA r 3)), (fn 3, iA G 9 (fA r 4)), (fn 4, iA G 9 (fA r 5))] G (KG G gm) 0 0 (fun rv w1 => rv = sFeelsA r N p what v ∧ w1 = [(h, xO xa xi), (xa 0, fO fn (sFeelsS r N p what v)), (fn 0, qA G 3 9 wh), (fn 1, iA G 9 (fA (sFeelsS r N p what v) 2)), (fn 2, iA G 9 (fA (sFeelsS r N p what v) 3)), (fn 3, iA G 9 (fA (sFeelsS r N p what v) 4)), (fn 4, iA G 9 (fA (sFeelsS r N p what v) 5))]) := by
  -- rows printed by wip/tools/gen.py
  refine mw_mkg RX1 (by decide) rfl (Nat.le_of_ble_eq_true rfl) ?_
  intro p0_ e0_ s m args below meth c A C hA hAx hP hK hD ls hl
  have hGP := hK.2
  have hK := hK.1
  have hGA := GA.of hng hGP hAx
  have hx := C.1
  have hb := C.2.1
  have hml := C.2.2.2.2.1
  have hown := C.2.2.2.2.2.1
  have hts := C.2.2.2.2.2.2
  have hS : va_S A s.heap s.heap [] := va_S.rf
  have hl : lv_has ls 5 [(0, .ref h), (1, .int p), (2, .int what), (3, .int v)] := hl
  refine lv_aload_n hx hb dX1_feels_2_0 rfl (lv_at hl 0 rfl) ?_
  refine va_get (D := gD G) (ci := 1) (v := .ref (xa 0)) (C := RX1) (T := TX1) (N := 9) hx hb hts in_X1 hown hK.1 hP 0 rfl rfl 0 (by decide) (hts _ q838) (fun _ h9 => h9) rfl dX1_feels_2_1 ?_
  refine lv_iload_n hx hb dX1_feels_2_4 rfl (lv_at hl 1 rfl) ?_
  refine c_V (rest := []) C (metX2_isOne l G (xa 0) fn r N p (hr)) 1 (lw_V q497 q376 q377 q40 q378) (by decide +kernel) ⟨rfl, rfl⟩ ⟨(Nat.le_of_ble_eq_true rfl), (Nat.le_of_ble_eq_true rfl)⟩ (KX_mv G) (va_recv hK.1 hP (ci := 2) (q0 := 1) rfl rfl) (hP.sub (ws' := [(xa 0, fO fn r)]) [1] rfl) hK hl rfl rfl (Nat.le_of_ble_eq_true rfl) ⟨(Nat.le_of_ble_eq_true rfl), (Nat.le_of_ble_eq_true rfl)⟩ dX1_feels_2_5 ?_
  refine n_if_eqB (b := (sPer N p)) (tgt := 27) hx hb dX1_feels_2_8 (by decide) (fun c_1 => ?_) (fun c_1 => ?_)
  · refine lv_iconst (v := (-1)) hx hb dX1_feels_2_27 (by decide) ?_
    exact n_iretW (v := (-1)) (w1 := [(h, xO xa xi), (xa 0, fO fn r), (fn 0, qA G 3 9 wh), (fn 1, iA G 9 (fA r 2)), (fn 2, iA G 9 (fA r 3)), (fn 3, iA G 9 (fA r 4)), (fn 4, iA G 9 (fA r 5))]) C (⟨by simp [sFeelsA, sFeelsS, sFeelsOk, sFeelsAt, sFlS, sFlOk, c_1], by simp [sFeelsA, sFeelsS, sFeelsOk, sFeelsAt, sFlS, sFlOk, c_1]⟩) hP hD hS (by first | omega | decide) (by first | omega | decide) dX1_feels_2_28
  · obtain ⟨p_2, hp_2, rfl⟩ := sPer_t (by omega) c_1
    have tp_2 : tn (nI p_2) = p_2 := nI_clamp (by omega)
    refine lv_iload_n hx hb dX1_feels_2_11 rfl (lv_at hl 2 rfl) ?_
    refine lv_iconst (v := 0) hx hb dX1_feels_2_12 (by decide) ?_
    refine lv_iconst (v := 1) hx hb dX1_feels_2_13 (by decide) ?_
    refine c_S (rest := []) C (metX1_isIn l G what 0 1) 3 (lw_S q171 q172 q39 q173) (by decide +kernel) ⟨rfl, rfl⟩ ⟨(Nat.le_of_ble_eq_true rfl), (Nat.le_of_ble_eq_true rfl)⟩ (KM_mv G) (hP.sub (ws' := []) [] rfl) hK.1 hl rfl rfl (Nat.le_of_ble_eq_true rfl) ⟨(Nat.le_of_ble_eq_true rfl), (Nat.le_of_ble_eq_true rfl)⟩ dX1_feels_2_14 ?_
    refine n_if_eqB (b := (sIn what 0 1)) (tgt := 27) hx hb dX1_feels_2_17 (by decide) (fun c_3 => ?_) (fun c_3 => ?_)
    · refine lv_iconst (v := (-1)) hx hb dX1_feels_2_27 (by decide) ?_
      exact n_iretW (v := (-1)) (w1 := [(h, xO xa xi), (xa 0, fO fn r), (fn 0, qA G 3 9 wh), (fn 1, iA G 9 (fA r 2)), (fn 2, iA G 9 (fA r 3)), (fn 3, iA G 9 (fA r 4)), (fn 4, iA G 9 (fA r 5))]) C (⟨by simp [sFeelsA, sFeelsS, sFeelsOk, sFeelsAt, sFlS, sFlOk, c_1, tp_2, c_3], by simp [sFeelsA, sFeelsS, sFeelsOk, sFeelsAt, sFlS, sFlOk, c_1, tp_2, c_3]⟩) hP hD hS (by first | omega | decide) (by first | omega | decide) dX1_feels_2_28
    · obtain ⟨what_4, hwhat_4, gwhat_4, rfl⟩ := sIn_t (a := 0) (b := 1) (by omega) (by omega) c_3
      have twhat_4 : tn (nI what_4) = what_4 := nI_clamp (by omega)
      refine lv_iload_n hx hb dX1_feels_2_20 rfl (lv_at hl 3 rfl) ?_
      refine c_S (rest := []) C (metX1_isFeeling l G v) 1 (lw_S q281 q282 q39 q283) (by decide +kernel) ⟨rfl, rfl⟩ ⟨(Nat.le_of_ble_eq_true rfl), (Nat.le_of_ble_eq_true rfl)⟩ (KM_mv G) (hP.sub (ws' := []) [] rfl) hK.1 hl rfl rfl (Nat.le_of_ble_eq_true rfl) ⟨(Nat.le_of_ble_eq_true rfl), (Nat.le_of_ble_eq_true rfl)⟩ dX1_feels_2_21 ?_
      refine n_if_neB (b := (sIn v 0 30)) (tgt := 29) hx hb dX1_feels_2_24 (by decide) (fun c_5 => ?_) (fun c_5 => ?_)
      · obtain ⟨v_6, hv_6, gv_6, rfl⟩ := sIn_t (a := 0) (b := 30) (by omega) (by omega) c_5
        have tv_6 : tn (nI v_6) = v_6 := nI_clamp (by omega)
        refine lv_iload_n hx hb dX1_feels_2_29 rfl (lv_at hl 2 rfl) ?_
        refine n_if_ne (x := what_4) (tgt := 45) hx hb (by omega) dX1_feels_2_30 (by decide) (fun c_7 => ?_) (fun c_7 => ?_)
        · have zc_7 : ¬ nI what_4 = 0 := nI_ne0 c_7 (by omega)
          have yc_7 : ¬ what_4 = 0 := Nat.ne_of_gt c_7
          refine lv_aload_n hx hb dX1_feels_2_45 rfl (lv_at hl 0 rfl) ?_
          refine va_get (D := gD G) (ci := 1) (v := .ref (xa 0)) (C := RX1) (T := TX1) (N := 9) hx hb hts in_X1 hown hK.1 hP 0 rfl rfl 0 (by decide) (hts _ q838) (fun _ h9 => h9) rfl dX1_feels_2_46 ?_
          refine va_get (D := gD G) (ci := 2) (v := .ref (fn 2)) (C := RX2) (T := TX2) (N := 8) hx hb hts in_X2 hown hK.1 hP 1 rfl rfl 2 (by decide) (hts _ q797) (fun _ h9 => h9) rfl dX1_feels_2_49 ?_
          refine lv_iload_n hx hb dX1_feels_2_52 rfl (lv_at hl 1 rfl) ?_
          refine n_iald C hK.1 hP 4 p_2 rfl (by omega) (by omega) dX1_feels_2_53 ?_
          refine lv_istore (lv' := [(4, .int (r (3 + 6 * p_2 + 3))), (0, .ref h), (1, .int (nI p_2)), (2, .int (nI what_4)), (3, .int (nI v_6))]) hx hb dX1_feels_2_54 hl (Nat.le_of_ble_eq_true rfl) rfl (fun ls hl => ?_)
          refine lv_aload_n hx hb dX1_feels_2_56 rfl (lv_at hl 1 rfl) ?_
          refine va_get (D := gD G) (ci := 1) (v := .ref (xa 0)) (C := RX1) (T := TX1) (N := 9) hx hb hts in_X1 hown hK.1 hP 0 rfl rfl 0 (by decide) (hts _ q838) (fun _ h9 => h9) rfl dX1_feels_2_57 ?_
          refine lv_iload_n hx hb dX1_feels_2_60 rfl (lv_at hl 2 rfl) ?_
          refine lv_iload_n hx hb dX1_feels_2_61 rfl (lv_at hl 3 rfl) ?_
          refine lv_iload_n hx hb dX1_feels_2_62 rfl (lv_at hl 4 rfl) ?_
          refine c_SWk (wr := [(h, xO xa xi)]) (rest := []) C (metX1_feels l G (xa 0) fn gm wh r N (nI p_2) (nI what_4) (nI v_6) (by omega) (hr) (hwk) (NG.of hGA hD [1, 2, 3, 4, 5, 6] rfl)) 4 (lw_S q494 q495 q39 q496) (by decide +kernel) ⟨rfl, rfl⟩ ⟨(Nat.le_of_ble_eq_true rfl), (Nat.le_of_ble_eq_true rfl)⟩ (KG.call) (KG.at hK (hGP.kept hGA hS)) hA hP hD hS [1, 2, 3, 4, 5, 6] [0] rfl rfl rfl rfl (by decide) hl rfl rfl (Nat.le_of_ble_eq_true rfl) ⟨(Nat.le_of_ble_eq_true rfl), (Nat.le_of_ble_eq_true rfl)⟩ dX1_feels_2_63 (fun r_8 w1 H locs hq_9 hP hD hS => ?_)
          obtain ⟨rfl, rfl⟩ := hq_9
          have hP : PP G [(h, xO xa xi), (xa 0, fO fn (sFlS r N (nI p_2) (nI what_4) (nI v_6))), (fn 0, qA G 3 9 wh), (fn 1, iA G 9 (fA (sFlS r N (nI p_2) (nI what_4) (nI v_6)) 2)), (fn 2, iA G 9 (fA (sFlS r N (nI p_2) (nI what_4) (nI v_6)) 3)), (fn 3, iA G 9 (fA (sFlS r N (nI p_2) (nI what_4) (nI v_6)) 4)), (fn 4, iA G 9 (fA (sFlS r N (nI p_2) (nI what_4) (nI v_6)) 5))] H := hP
          have hD : va_D A [(h, xO xa xi), (xa 0, fO fn (sFlS r N (nI p_2) (nI what_4) (nI v_6))), (fn 0, qA G 3 9 wh), (fn 1, iA G 9 (fA (sFlS r N (nI p_2) (nI what_4) (nI v_6)) 2)), (fn 2, iA G 9 (fA (sFlS r N (nI p_2) (nI what_4) (nI v_6)) 3)), (fn 3, iA G 9 (fA (sFlS r N (nI p_2) (nI what_4) (nI v_6)) 4)), (fn 4, iA G 9 (fA (sFlS r N (nI p_2) (nI what_4) (nI v_6)) 5))] := hD
          have hw_10 : WK gm wh (sFlS r N (nI p_2) (nI what_4) (nI v_6)) N := WK.fl hwk
          have hr_11 : (sFlS r N (nI p_2) (nI what_4) (nI v_6)) 0 = nI N := (sFlS_0 r N (nI p_2) (nI what_4) (nI v_6)).trans hr
          refine lv_pop hx hb dX1_feels_2_66 rfl ?_
          refine lv_iload hx hb dX1_feels_2_67 (lv_at hl 0 rfl) ?_
          exact n_iretW (v := r (3 + 6 * p_2 + 3)) (w1 := [(h, xO xa xi), (xa 0, fO fn (sFlS r N (nI p_2) (nI what_4) (nI v_6))), (fn 0, qA G 3 9 wh), (fn 1, iA G 9 (fA (sFlS r N (nI p_2) (nI what_4) (nI v_6)) 2)), (fn 2, iA G 9 (fA (sFlS r N (nI p_2) (nI what_4) (nI v_6)) 3)), (fn 3, iA G 9 (fA (sFlS r N (nI p_2) (nI what_4) (nI v_6)) 4)), (fn 4, iA G 9 (fA (sFlS r N (nI p_2) (nI what_4) (nI v_6)) 5))]) C (⟨by simp [sFeelsA, sFeelsS, sFeelsOk, sFeelsAt, sFlS, sFlOk, c_1, tp_2, c_3, twhat_4, c_5, tv_6, c_7, yc_7, zc_7], by simp [sFeelsA, sFeelsS, sFeelsOk, sFeelsAt, sFlS, sFlOk, c_1, tp_2, c_3, twhat_4, c_5, tv_6, c_7, yc_7, zc_7]⟩) hP hD hS (by first | omega | decide) (by first | omega | decide) dX1_feels_2_69
        · obtain rfl := c_7
          have zc_7 : (nI 0 = 0) = True := eq_true rfl
          refine lv_aload_n hx hb dX1_feels_2_33 rfl (lv_at hl 0 rfl) ?_
          refine va_get (D := gD G) (ci := 1) (v := .ref (xa 0)) (C := RX1) (T := TX1) (N := 9) hx hb hts in_X1 hown hK.1 hP 0 rfl rfl 0 (by decide) (hts _ q838) (fun _ h9 => h9) rfl dX1_feels_2_34 ?_
          refine va_get (D := gD G) (ci := 2) (v := .ref (fn 1)) (C := RX2) (T := TX2) (N := 8) hx hb hts in_X2 hown hK.1 hP 1 rfl rfl 1 (by decide) (hts _ q795) (fun _ h9 => h9) rfl dX1_feels_2_37 ?_
          refine lv_iload_n hx hb dX1_feels_2_40 rfl (lv_at hl 1 rfl) ?_
          refine n_iald C hK.1 hP 3 p_2 rfl (by omega) (by omega) dX1_feels_2_41 ?_
          refine lv_goto (tgt := 54) hx hb dX1_feels_2_42 (by decide) ?_
          refine lv_istore (lv' := [(4, .int (r (3 + 6 * p_2 + 2))), (0, .ref h), (1, .int (nI p_2)), (2, .int (nI 0)), (3, .int (nI v_6))]) hx hb dX1_feels_2_54 hl (Nat.le_of_ble_eq_true rfl) rfl (fun ls hl => ?_)
          refine lv_aload_n hx hb dX1_feels_2_56 rfl (lv_at hl 1 rfl) ?_
          refine va_get (D := gD G) (ci := 1) (v := .ref (xa 0)) (C := RX1) (T := TX1) (N := 9) hx hb hts in_X1 hown hK.1 hP 0 rfl rfl 0 (by decide) (hts _ q838) (fun _ h9 => h9) rfl dX1_feels_2_57 ?_
          refine lv_iload_n hx hb dX1_feels_2_60 rfl (lv_at hl 2 rfl) ?_
          refine lv_iload_n hx hb dX1_feels_2_61 rfl (lv_at hl 3 rfl) ?_
          refine lv_iload_n hx hb dX1_feels_2_62 rfl (lv_at hl 4 rfl) ?_
          refine c_SWk (wr := [(h, xO xa xi)]) (rest := []) C (metX1_feels l G (xa 0) fn gm wh r N (nI p_2) (nI 0) (nI v_6) (by omega) (hr) (hwk) (NG.of hGA hD [1, 2, 3, 4, 5, 6] rfl)) 4 (lw_S q494 q495 q39 q496) (by decide +kernel) ⟨rfl, rfl⟩ ⟨(Nat.le_of_ble_eq_true rfl), (Nat.le_of_ble_eq_true rfl)⟩ (KG.call) (KG.at hK (hGP.kept hGA hS)) hA hP hD hS [1, 2, 3, 4, 5, 6] [0] rfl rfl rfl rfl (by decide) hl rfl rfl (Nat.le_of_ble_eq_true rfl) ⟨(Nat.le_of_ble_eq_true rfl), (Nat.le_of_ble_eq_true rfl)⟩ dX1_feels_2_63 (fun r_12 w1 H locs hq_13 hP hD hS => ?_)
          obtain ⟨rfl, rfl⟩ := hq_13
          have hP : PP G [(h, xO xa xi), (xa 0, fO fn (sFlS r N (nI p_2) (nI 0) (nI v_6))), (fn 0, qA G 3 9 wh), (fn 1, iA G 9 (fA (sFlS r N (nI p_2) (nI 0) (nI v_6)) 2)), (fn 2, iA G 9 (fA (sFlS r N (nI p_2) (nI 0) (nI v_6)) 3)), (fn 3, iA G 9 (fA (sFlS r N (nI p_2) (nI 0) (nI v_6)) 4)), (fn 4, iA G 9 (fA (sFlS r N (nI p_2) (nI 0) (nI v_6)) 5))] H := hP
          have hD : va_D A [(h, xO xa xi), (xa 0, fO fn (sFlS r N (nI p_2) (nI 0) (nI v_6))), (fn 0, qA G 3 9 wh), (fn 1, iA G 9 (fA (sFlS r N (nI p_2) (nI 0) (nI v_6)) 2)), (fn 2, iA G 9 (fA (sFlS r N (nI p_2) (nI 0) (nI v_6)) 3)), (fn 3, iA G 9 (fA (sFlS r N (nI p_2) (nI 0) (nI v_6)) 4)), (fn 4, iA G 9 (fA (sFlS r N (nI p_2) (nI 0) (nI v_6)) 5))] := hD
          have hw_14 : WK gm wh (sFlS r N (nI p_2) (nI 0) (nI v_6)) N := WK.fl hwk
          have hr_15 : (sFlS r N (nI p_2) (nI 0) (nI v_6)) 0 = nI N := (sFlS_0 r N (nI p_2) (nI 0) (nI v_6)).trans hr
          refine lv_pop hx hb dX1_feels_2_66 rfl ?_
          refine lv_iload hx hb dX1_feels_2_67 (lv_at hl 0 rfl) ?_
          exact n_iretW (v := r (3 + 6 * p_2 + 2)) (w1 := [(h, xO xa xi), (xa 0, fO fn (sFlS r N (nI p_2) (nI 0) (nI v_6))), (fn 0, qA G 3 9 wh), (fn 1, iA G 9 (fA (sFlS r N (nI p_2) (nI 0) (nI v_6)) 2)), (fn 2, iA G 9 (fA (sFlS r N (nI p_2) (nI 0) (nI v_6)) 3)), (fn 3, iA G 9 (fA (sFlS r N (nI p_2) (nI 0) (nI v_6)) 4)), (fn 4, iA G 9 (fA (sFlS r N (nI p_2) (nI 0) (nI v_6)) 5))]) C (⟨by simp [sFeelsA, sFeelsS, sFeelsOk, sFeelsAt, sFlS, sFlOk, c_1, tp_2, c_3, twhat_4, c_5, tv_6, zc_7], by simp [sFeelsA, sFeelsS, sFeelsOk, sFeelsAt, sFlS, sFlOk, c_1, tp_2, c_3, twhat_4, c_5, tv_6, zc_7]⟩) hP hD hS (by first | omega | decide) (by first | omega | decide) dX1_feels_2_69
      · refine lv_iconst (v := (-1)) hx hb dX1_feels_2_27 (by decide) ?_
        exact n_iretW (v := (-1)) (w1 := [(h, xO xa xi), (xa 0, fO fn r), (fn 0, qA G 3 9 wh), (fn 1, iA G 9 (fA r 2)), (fn 2, iA G 9 (fA r 3)), (fn 3, iA G 9 (fA r 4)), (fn 4, iA G 9 (fA r 5))]) C (⟨by simp [sFeelsA, sFeelsS, sFeelsOk, sFeelsAt, sFlS, sFlOk, c_1, tp_2, c_3, twhat_4, c_5], by simp [sFeelsA, sFeelsS, sFeelsOk, sFeelsAt, sFlS, sFlOk, c_1, tp_2, c_3, twhat_4, c_5]⟩) hP hD hS (by first | omega | decide) (by first | omega | decide) dX1_feels_2_28

set_option maxHeartbeats 4000000 in
set_option maxRecDepth 100000 in
theorem metX1_eats (l : Launch) (G : GG) (h : Nat) (xa : Nat → Nat) (xi : Nat → Int32) (fn : Nat → Nat) (gm : GM) (wh : Nat → Option Nat) (r : Nat → Int32) (N : Nat) (p q : Int32) (hN : N ≤ 8) (hr : r 0 = nI N) (hwk : WK gm wh r N) (h9 : r 2 ≤ 999) (hng : NG gm [(h, xO xa xi), (xa 0, fO fn r), (fn 0, qA G 3 9 wh), (fn 1, iA G 9 (fA r 2)), (fn 2, iA G 9 (fA r 3)), (fn 3, iA G 9 (fA r 4)), (fn 4, iA G 9 (fA r 5))]) : MW l yX1_eats cX1_eats 3 (some .int) ({ frames := 10, cells := 0, slots := 0, locals := 288 }) [.ref h, .int p, .int q] [(h, xO xa xi), (xa 0, fO fn r), (fn 0, qA G 3 9 wh), (fn 1, iA G 9 (fA r 2)), (fn 2, iA G 9 (fA r 3)), (fn 3, iA G 9 (fA r 4)), (fn 4, iA G 9 (fA r 5))] G (KG G gm) 0 0 (fun rv w1 => rv = sEatsA r N p q ∧ w1 = [(h, xO xa xi), (xa 0, fO fn (sEatsS r N p q)), (fn 0, qA G 3 9 wh), (fn 1, iA G 9 (fA (sEatsS r N p q) 2)), (fn 2, iA G 9 (fA (sEatsS r N p q) 3)), (fn 3, iA G 9 (fA (sEatsS r N p q) 4)), (fn 4, iA G 9 (fA (sEatsS r N p q) 5))]) := by
  -- rows printed by wip/tools/gen.py
  refine mw_mkg RX1 (by decide) rfl (Nat.le_of_ble_eq_true rfl) ?_
  intro p0_ e0_ s m args below meth c A C hA hAx hP hK hD ls hl
  have hGP := hK.2
  have hK := hK.1
  have hGA := GA.of hng hGP hAx
  have hx := C.1
  have hb := C.2.1
  have hml := C.2.2.2.2.1
  have hown := C.2.2.2.2.2.1
  have hts := C.2.2.2.2.2.2
  have hS : va_S A s.heap s.heap [] := va_S.rf
  have hl : lv_has ls 3 [(0, .ref h), (1, .int p), (2, .int q)] := hl
  refine lv_aload_n hx hb dX1_eats_0 rfl (lv_at hl 0 rfl) ?_
  refine va_get (D := gD G) (ci := 1) (v := .ref (xa 0)) (C := RX1) (T := TX1) (N := 9) hx hb hts in_X1 hown hK.1 hP 0 rfl rfl 0 (by decide) (hts _ q838) (fun _ h9 => h9) rfl dX1_eats_1 ?_
  refine lv_iload_n hx hb dX1_eats_4 rfl (lv_at hl 1 rfl) ?_
  refine lv_iload_n hx hb dX1_eats_5 rfl (lv_at hl 2 rfl) ?_
  refine c_V (rest := []) C (metX2_areTwo l G (xa 0) fn r N p q (by omega) (hr)) 2 (lw_V q545 q372 q373 q40 q374) (by decide +kernel) ⟨rfl, rfl⟩ ⟨(Nat.le_of_ble_eq_true rfl), (Nat.le_of_ble_eq_true rfl)⟩ (KX_mv G) (va_recv hK.1 hP (ci := 2) (q0 := 1) rfl rfl) (hP.sub (ws' := [(xa 0, fO fn r)]) [1] rfl) hK hl rfl rfl (Nat.le_of_ble_eq_true rfl) ⟨(Nat.le_of_ble_eq_true rfl), (Nat.le_of_ble_eq_true rfl)⟩ dX1_eats_6 ?_
  refine n_if_neB (b := (sTwo N p q)) (tgt := 14) hx hb dX1_eats_9 (by decide) (fun c_1 => ?_) (fun c_1 => ?_)
  · obtain ⟨p_2, q_3, hp_2, hq_3, np_2, rfl, rfl⟩ := sTwo_t (by omega) c_1
    have tp_2 : tn (nI p_2) = p_2 := nI_clamp (by omega)
    have tq_3 : tn (nI q_3) = q_3 := nI_clamp (by omega)
    refine lv_aload_n hx hb dX1_eats_14 rfl (lv_at hl 0 rfl) ?_
    refine va_get (D := gD G) (ci := 1) (v := .ref (xa 0)) (C := RX1) (T := TX1) (N := 9) hx hb hts in_X1 hown hK.1 hP 0 rfl rfl 0 (by decide) (hts _ q838) (fun _ h9 => h9) rfl dX1_eats_15 ?_
    refine lv_iload_n hx hb dX1_eats_18 rfl (lv_at hl 1 rfl) ?_
    refine lv_iload_n hx hb dX1_eats_19 rfl (lv_at hl 2 rfl) ?_
    refine c_Sk (rest := []) C (metX1_mayEat l G (xa 0) fn gm wh r N (nI p_2) (nI q_3) (by omega) (hr) (hwk)) 3 (lw_S q364 q365 q39 q366) (by decide +kernel) ⟨rfl, rfl⟩ ⟨(Nat.le_of_ble_eq_true rfl), (Nat.le_of_ble_eq_true rfl)⟩ (KG.call) (hP.sub (ws' := [(xa 0, fO fn r), (fn 0, qA G 3 9 wh), (fn 1, iA G 9 (fA r 2)), (fn 2, iA G 9 (fA r 3)), (fn 3, iA G 9 (fA r 4)), (fn 4, iA G 9 (fA r 5))]) [1, 2, 3, 4, 5, 6] rfl) (KG.at hK (hGP.kept hGA hS)) hl rfl rfl (Nat.le_of_ble_eq_true rfl) ⟨(Nat.le_of_ble_eq_true rfl), (Nat.le_of_ble_eq_true rfl)⟩ dX1_eats_20 ?_
    refine n_if_eqB (b := (sMay r N (nI p_2) (nI q_3))) (tgt := 38) hx hb dX1_eats_23 (by decide) (fun c_4 => ?_) (fun c_4 => ?_)
    · refine lv_bipush (v := (-3)) hx hb dX1_eats_38 (by decide) ?_
      exact n_iretW (v := (-3)) (w1 := [(h, xO xa xi), (xa 0, fO fn r), (fn 0, qA G 3 9 wh), (fn 1, iA G 9 (fA r 2)), (fn 2, iA G 9 (fA r 3)), (fn 3, iA G 9 (fA r 4)), (fn 4, iA G 9 (fA r 5))]) C (⟨by simp [sEatsA_eq h9, c_1, np_2, tp_2, tq_3, c_4], by first | (simp [sEatsS_eq h9, c_1, np_2, tp_2, tq_3, c_4]; done) | (simp [sEatsS_eq h9, sMay, sEatP, c_1, np_2, tp_2, tq_3, c_4]; done)⟩) hP hD hS (by first | omega | decide) (by first | omega | decide) dX1_eats_40
    · obtain ⟨ha_5, hb_6, hn_7, he_8⟩ := sMay_n2 (by omega) (by omega) (by omega) c_4
      refine lv_aload_n hx hb dX1_eats_26 rfl (lv_at hl 0 rfl) ?_
      refine va_get (D := gD G) (ci := 1) (v := .ref (xa 0)) (C := RX1) (T := TX1) (N := 9) hx hb hts in_X1 hown hK.1 hP 0 rfl rfl 0 (by decide) (hts _ q838) (fun _ h9 => h9) rfl dX1_eats_27 ?_
      refine lv_iload_n hx hb dX1_eats_30 rfl (lv_at hl 1 rfl) ?_
      refine lv_iload_n hx hb dX1_eats_31 rfl (lv_at hl 2 rfl) ?_
      refine c_VWk (wr := [(h, xO xa xi)]) (rest := []) C (metX2_eats l G (xa 0) fn gm wh r N p_2 q_3 (by omega) (hr) (hwk) (by omega) (by omega) (NG.of hGA hD [1, 2, 3, 4, 5, 6] rfl)) 2 (lw_V q398 q399 q400 q40 q401) (by decide +kernel) ⟨rfl, rfl⟩ ⟨(Nat.le_of_ble_eq_true rfl), (Nat.le_of_ble_eq_true rfl)⟩ (KG.call) (KG.at hK (hGP.kept hGA hS)) (va_recv hK.1 hP (ci := 2) (q0 := 1) rfl rfl) hA hP hD hS [1, 2, 3, 4, 5, 6] [0] rfl rfl rfl rfl (by decide) hl rfl rfl (Nat.le_of_ble_eq_true rfl) ⟨(Nat.le_of_ble_eq_true rfl), (Nat.le_of_ble_eq_true rfl)⟩ dX1_eats_32 (fun r_9 w1 H locs hq_10 hP hD hS => ?_)
      obtain ⟨rfl, rfl⟩ := hq_10
      have hP : PP G [(h, xO xa xi), (xa 0, fO fn (sTurn r p_2 q_3)), (fn 0, qA G 3 9 wh), (fn 1, iA G 9 (fA (sTurn r p_2 q_3) 2)), (fn 2, iA G 9 (fA (sTurn r p_2 q_3) 3)), (fn 3, iA G 9 (fA (sTurn r p_2 q_3) 4)), (fn 4, iA G 9 (fA (sTurn r p_2 q_3) 5))] H := hP
      have hD : va_D A [(h, xO xa xi), (xa 0, fO fn (sTurn r p_2 q_3)), (fn 0, qA G 3 9 wh), (fn 1, iA G 9 (fA (sTurn r p_2 q_3) 2)), (fn 2, iA G 9 (fA (sTurn r p_2 q_3) 3)), (fn 3, iA G 9 (fA (sTurn r p_2 q_3) 4)), (fn 4, iA G 9 (fA (sTurn r p_2 q_3) 5))] := hD
      have hw_11 : WK gm wh (sTurn r p_2 q_3) N := WK.turn hwk
      have hr_12 : (sTurn r p_2 q_3) 0 = nI N := (sTurn_0 r p_2 q_3).trans hr
      refine lv_goto (tgt := 40) hx hb dX1_eats_35 (by decide) ?_
      exact n_iretW (v := sJoy r p_2 q_3) (w1 := [(h, xO xa xi), (xa 0, fO fn (sTurn r p_2 q_3)), (fn 0, qA G 3 9 wh), (fn 1, iA G 9 (fA (sTurn r p_2 q_3) 2)), (fn 2, iA G 9 (fA (sTurn r p_2 q_3) 3)), (fn 3, iA G 9 (fA (sTurn r p_2 q_3) 4)), (fn 4, iA G 9 (fA (sTurn r p_2 q_3) 5))]) C (⟨by simp [sEatsA_eq h9, c_1, np_2, tp_2, tq_3, c_4, hn_7, he_8], by first | (simp [sEatsS_eq h9, c_1, np_2, tp_2, tq_3, c_4, hn_7, he_8]; done) | (simp [sEatsS_eq h9, sMay, sEatP, c_1, np_2, tp_2, tq_3, c_4, hn_7, he_8]; done)⟩) hP hD hS (by first | omega | decide) (by first | omega | decide) dX1_eats_40
  · refine lv_iconst (v := (-1)) hx hb dX1_eats_12 (by decide) ?_
    exact n_iretW (v := (-1)) (w1 := [(h, xO xa xi), (xa 0, fO fn r), (fn 0, qA G 3 9 wh), (fn 1, iA G 9 (fA r 2)), (fn 2, iA G 9 (fA r 3)), (fn 3, iA G 9 (fA r 4)), (fn 4, iA G 9 (fA r 5))]) C (⟨by simp [sEatsA_eq h9, c_1], by first | (simp [sEatsS_eq h9, c_1]; done) | (simp [sEatsS_eq h9, sMay, sEatP, c_1]; done)⟩) hP hD hS (by first | omega | decide) (by first | omega | decide) dX1_eats_13

set_option maxHeartbeats 4000000 in
set_option maxRecDepth 100000 in
theorem metX1_minds (l : Launch) (G : GG) (h : Nat) (xa : Nat → Nat) (xi : Nat → Int32) (fn : Nat → Nat) (gm : GM) (wh : Nat → Option Nat) (r : Nat → Int32) (N : Nat) (fm : Nat → Nat) (j_w : Nat → Option Nat) (j_a2 j_a3 j_a4 j_a5 : Nat → Int32) (j_0 j_1 j_2 : Int32) (hN : N ≤ 8) (hr : r 0 = nI N) (hwk : WK gm wh r N) (hng : NG gm [(h, xO xa xi), (xa 0, fO fn r), (fn 0, qA G 3 9 wh), (fn 1, iA G 9 (fA r 2)), (fn 2, iA G 9 (fA r 3)), (fn 3, iA G 9 (fA r 4)), (fn 4, iA G 9 (fA r 5)), (xa 2, fR fm j_0 j_1 j_2), (fm 0, qA G 3 9 j_w), (fm 1, iA G 9 j_a2), (fm 2, iA G 9 j_a3), (fm 3, iA G 9 j_a4), (fm 4, iA G 9 j_a5)]) : MWv l yX1_minds cX1_minds 1 none ({ frames := 3, cells := 0, slots := 0, locals := 102 }) [.ref h] [(h, xO xa xi), (xa 0, fO fn r), (fn 0, qA G 3 9 wh), (fn 1, iA G 9 (fA r 2)), (fn 2, iA G 9 (fA r 3)), (fn 3, iA G 9 (fA r 4)), (fn 4, iA G 9 (fA r 5)), (xa 2, fR fm j_0 j_1 j_2), (fm 0, qA G 3 9 j_w), (fm 1, iA G 9 j_a2), (fm 2, iA G 9 j_a3), (fm 3, iA G 9 j_a4), (fm 4, iA G 9 j_a5)] G (KG G gm) 0 0 (fun w1 => w1 = [(h, xO xa xi), (xa 0, fO fn r), (fn 0, qA G 3 9 wh), (fn 1, iA G 9 (fA r 2)), (fn 2, iA G 9 (fA r 3)), (fn 3, iA G 9 (fA r 4)), (fn 4, iA G 9 (fA r 5)), (xa 2, fO fm r), (fm 0, qA G 3 9 wh), (fm 1, iA G 9 (fA r 2)), (fm 2, iA G 9 (fA r 3)), (fm 3, iA G 9 (fA r 4)), (fm 4, iA G 9 (fA r 5))]) := by
  -- rows printed by wip/tools/gen.py
  refine mwv_mkg RX1 (by decide) rfl (Nat.le_of_ble_eq_true rfl) ?_
  intro p0_ e0_ s m args below meth c A C hname hA hAx hP hK hD ls hl
  have hGP := hK.2
  have hK := hK.1
  have hGA := GA.of hng hGP hAx
  have hx := C.1
  have hb := C.2.1
  have hml := C.2.2.2.2.1
  have hown := C.2.2.2.2.2.1
  have hts := C.2.2.2.2.2.2
  have hS : va_S A s.heap s.heap [] := va_S.rf
  have hl : lv_has ls 1 [(0, .ref h)] := hl
  refine lv_aload_n hx hb dX1_minds_0 rfl (lv_at hl 0 rfl) ?_
  refine va_get (D := gD G) (ci := 1) (v := .ref (xa 2)) (C := RX1) (T := TX1) (N := 9) hx hb hts in_X1 hown hK.1 hP 0 rfl rfl 2 (by decide) (hts _ q840) (fun _ h9 => h9) rfl dX1_minds_1 ?_
  refine lv_aload_n hx hb dX1_minds_4 rfl (lv_at hl 0 rfl) ?_
  refine va_get (D := gD G) (ci := 1) (v := .ref (xa 0)) (C := RX1) (T := TX1) (N := 9) hx hb hts in_X1 hown hK.1 hP 0 rfl rfl 0 (by decide) (hts _ q838) (fun _ h9 => h9) rfl dX1_minds_5 ?_
  refine c_VWvk (wr := [(h, xO xa xi)]) (rest := []) C (metX2_takes l G (xa 2) (xa 0) fm fn gm wh j_w r j_a2 j_a3 j_a4 j_a5 j_0 j_1 j_2 N (hr) (hwk) (NG.of hGA hD [7, 8, 9, 10, 11, 12, 1, 2, 3, 4, 5, 6] rfl)) 1 (lw_V q267 q268 q269 q40 q270) (by decide +kernel) ⟨rfl, rfl⟩ ⟨(Nat.le_of_ble_eq_true rfl), (Nat.le_of_ble_eq_true rfl)⟩ (KG.call) (KG.at hK (hGP.kept hGA hS)) (va_recv hK.1 hP (ci := 2) (q0 := 7) rfl rfl) hA hP hD hS [7, 8, 9, 10, 11, 12, 1, 2, 3, 4, 5, 6] [0] rfl rfl rfl rfl (by decide) hl rfl rfl (Nat.le_of_ble_eq_true rfl) ⟨(Nat.le_of_ble_eq_true rfl), (Nat.le_of_ble_eq_true rfl)⟩ dX1_minds_8 (fun w1 H locs hq_2 hP hD hS => ?_)
  obtain rfl := hq_2
  have hP : PP G [(h, xO xa xi), (xa 2, fO fm r), (fm 0, qA G 3 9 wh), (fm 1, iA G 9 (fA r 2)), (fm 2, iA G 9 (fA r 3)), (fm 3, iA G 9 (fA r 4)), (fm 4, iA G 9 (fA r 5)), (xa 0, fO fn r), (fn 0, qA G 3 9 wh), (fn 1, iA G 9 (fA r 2)), (fn 2, iA G 9 (fA r 3)), (fn 3, iA G 9 (fA r 4)), (fn 4, iA G 9 (fA r 5))] H := hP
  have hD : va_D A [(h, xO xa xi), (xa 2, fO fm r), (fm 0, qA G 3 9 wh), (fm 1, iA G 9 (fA r 2)), (fm 2, iA G 9 (fA r 3)), (fm 3, iA G 9 (fA r 4)), (fm 4, iA G 9 (fA r 5)), (xa 0, fO fn r), (fn 0, qA G 3 9 wh), (fn 1, iA G 9 (fA r 2)), (fn 2, iA G 9 (fA r 3)), (fn 3, iA G 9 (fA r 4)), (fn 4, iA G 9 (fA r 5))] := hD
  have hw_3 : WK gm wh r N := hwk
  have hr_4 : r 0 = nI N := hr
  exact n_vretW (w1 := [(h, xO xa xi), (xa 0, fO fn r), (fn 0, qA G 3 9 wh), (fn 1, iA G 9 (fA r 2)), (fn 2, iA G 9 (fA r 3)), (fn 3, iA G 9 (fA r 4)), (fn 4, iA G 9 (fA r 5)), (xa 2, fO fm r), (fm 0, qA G 3 9 wh), (fm 1, iA G 9 (fA r 2)), (fm 2, iA G 9 (fA r 3)), (fm 3, iA G 9 (fA r 4)), (fm 4, iA G 9 (fA r 5))]) C (rfl) (hP.sub (ws' := [(h, xO xa xi), (xa 0, fO fn r), (fn 0, qA G 3 9 wh), (fn 1, iA G 9 (fA r 2)), (fn 2, iA G 9 (fA r 3)), (fn 3, iA G 9 (fA r 4)), (fn 4, iA G 9 (fA r 5)), (xa 2, fO fm r), (fm 0, qA G 3 9 wh), (fm 1, iA G 9 (fA r 2)), (fm 2, iA G 9 (fA r 3)), (fm 3, iA G 9 (fA r 4)), (fm 4, iA G 9 (fA r 5))]) [0, 7, 8, 9, 10, 11, 12, 1, 2, 3, 4, 5, 6] rfl) (hD.sub (ws' := [(h, xO xa xi), (xa 0, fO fn r), (fn 0, qA G 3 9 wh), (fn 1, iA G 9 (fA r 2)), (fn 2, iA G 9 (fA r 3)), (fn 3, iA G 9 (fA r 4)), (fn 4, iA G 9 (fA r 5)), (xa 2, fO fm r), (fm 0, qA G 3 9 wh), (fm 1, iA G 9 (fA r 2)), (fm 2, iA G 9 (fA r 3)), (fm 3, iA G 9 (fA r 4)), (fm 4, iA G 9 (fA r 5))]) [0, 7, 8, 9, 10, 11, 12, 1, 2, 3, 4, 5, 6] (by decide) rfl) hS (by first | omega | decide) (by first | omega | decide) dX1_minds_11

set_option maxHeartbeats 4000000 in
set_option maxRecDepth 100000 in
theorem metX1_twoTurns (l : Launch) (G : GG) (h : Nat) (xa : Nat → Nat) (xi : Nat → Int32) (fn : Nat → Nat) (gm : GM) (wh : Nat → Option Nat) (r : Nat → Int32) (N : Nat) (fm : Nat → Nat) (j_w : Nat → Option Nat) (j_a2 j_a3 j_a4 j_a5 : Nat → Int32) (j_0 j_1 j_2 : Int32) (what : Int32) (hN : N ≤ 8) (hr : r 0 = nI N) (hwk : WK gm wh r N) (hri : RI r N) (hng : NG gm [(h, xO xa xi), (xa 0, fO fn r), (fn 0, qA G 3 9 wh), (fn 1, iA G 9 (fA r 2)), (fn 2, iA G 9 (fA r 3)), (fn 3, iA G 9 (fA r 4)), (fn 4, iA G 9 (fA r 5)), (xa 2, fR fm j_0 j_1 j_2), (fm 0, qA G 3 9 j_w), (fm 1, iA G 9 j_a2), (fm 2, iA G 9 j_a3), (fm 3, iA G 9 j_a4), (fm 4, iA G 9 j_a5)]) : MW l yX1_twoTurns cX1_twoTurns 6 (some .int) ({ frames := 11, cells := 0, slots := 0, locals := 309 }) [.ref h, .int what] [(h, xO xa xi), (xa 0, fO fn r), (fn 0, qA G 3 9 wh), (fn 1, iA G 9 (fA r 2)), (fn 2, iA G 9 (fA r 3)), (fn 3, iA G 9 (fA r 4)), (fn 4, iA G 9 (fA r 5)), (xa 2, fR fm j_0 j_1 j_2), (fm 0, qA G 3 9 j_w), (fm 1, iA G 9 j_a2), (fm 2, iA G 9 j_a3), (fm 3, iA G 9 j_a4), (fm 4, iA G 9 j_a5)] G (KG G gm) 0 0 (fun rv w1 => rv = sTTX r N what ∧ ∃ (g_w : Nat → Option Nat) (g_a2 g_a3 g_a4 g_a5 : Nat → Int32) (g_0 g_1 g_2 : Int32), w1 = [(h, xO xa xi), (xa 0, fO fn r), (fn 0, qA G 3 9 wh), (fn 1, iA G 9 (fA r 2)), (fn 2, iA G 9 (fA r 3)), (fn 3, iA G 9 (fA r 4)), (fn 4, iA G 9 (fA r 5)), (xa 2, fR fm g_0 g_1 g_2), (fm 0, qA G 3 9 g_w), (fm 1, iA G 9 g_a2), (fm 2, iA G 9 g_a3), (fm 3, iA G 9 g_a4), (fm 4, iA G 9 g_a5)]) := by
  -- rows printed by wip/tools/gen.py
  refine mw_mkg RX1 (by decide) rfl (Nat.le_of_ble_eq_true rfl) ?_
  intro p0_ e0_ s m args below meth c A C hA hAx hP hK hD ls hl
  have hGP := hK.2
  have hK := hK.1
  have hGA := GA.of hng hGP hAx
  have hx := C.1
  have hb := C.2.1
  have hml := C.2.2.2.2.1
  have hown := C.2.2.2.2.2.1
  have hts := C.2.2.2.2.2.2
  have hS : va_S A s.heap s.heap [] := va_S.rf
  have hl : lv_has ls 6 [(0, .ref h), (1, .int what)] := hl
  refine lv_iload_n hx hb dX1_twoTurns_0 rfl (lv_at hl 1 rfl) ?_
  refine lv_iconst (v := 0) hx hb dX1_twoTurns_1 (by decide) ?_
  refine lv_iconst (v := 1) hx hb dX1_twoTurns_2 (by decide) ?_
  refine c_S (rest := []) C (metX1_isIn l G what 0 1) 3 (lw_S q171 q172 q39 q173) (by decide +kernel) ⟨rfl, rfl⟩ ⟨(Nat.le_of_ble_eq_true rfl), (Nat.le_of_ble_eq_true rfl)⟩ (KM_mv G) (hP.sub (ws' := []) [] rfl) hK.1 hl rfl rfl (Nat.le_of_ble_eq_true rfl) ⟨(Nat.le_of_ble_eq_true rfl), (Nat.le_of_ble_eq_true rfl)⟩ dX1_twoTurns_3 ?_
  refine n_if_neB (b := (sIn what 0 1)) (tgt := 11) hx hb dX1_twoTurns_6 (by decide) (fun c_1 => ?_) (fun c_1 => ?_)
  · obtain ⟨what_2, hwhat_2, gwhat_2, rfl⟩ := sIn_t (a := 0) (b := 1) (by omega) (by omega) c_1
    have twhat_2 : tn (nI what_2) = what_2 := nI_clamp (by omega)
    refine lv_bipush (v := (-4)) hx hb dX1_twoTurns_11 (by decide) ?_
    refine lv_istore_n (lv' := [(2, .int (-4)), (0, .ref h), (1, .int (nI what_2))]) hx hb dX1_twoTurns_13 rfl hl (Nat.le_of_ble_eq_true rfl) rfl (fun ls hl => ?_)
    refine lv_iconst (v := 0) hx hb dX1_twoTurns_14 (by decide) ?_
    refine lv_istore_n (lv' := [(3, .int 0), (2, .int (-4)), (0, .ref h), (1, .int (nI what_2))]) hx hb dX1_twoTurns_15 rfl hl (Nat.le_of_ble_eq_true rfl) rfl (fun ls hl => ?_)
    refine lv_iconst (v := 0) hx hb dX1_twoTurns_16 (by decide) ?_
    refine lv_istore (lv' := [(4, .int 0), (3, .int 0), (2, .int (-4)), (0, .ref h), (1, .int (nI what_2))]) hx hb dX1_twoTurns_17 hl (Nat.le_of_ble_eq_true rfl) rfl (fun ls hl => ?_)
    suffices hlp_3 : (∀ (n i : Nat), i + n = 80 → ∀ (j_w : Nat → Option Nat) (j_a2 : Nat → Int32) (j_a3 : Nat → Int32) (j_a4 : Nat → Int32) (j_a5 : Nat → Int32) (j_0 : Int32) (j_1 : Int32) (j_2 : Int32), ∀ (H : Heap) (locs : List Loc), PP G [(h, xO xa xi), (xa 0, fO fn r), (fn 0, qA G 3 9 wh), (fn 1, iA G 9 (fA r 2)), (fn 2, iA G 9 (fA r 3)), (fn 3, iA G 9 (fA r 4)), (fn 4, iA G 9 (fA r 5)), (xa 2, fR fm j_0 j_1 j_2), (fm 0, qA G 3 9 j_w), (fm 1, iA G 9 j_a2), (fm 2, iA G 9 j_a3), (fm 3, iA G 9 j_a4), (fm 4, iA G 9 j_a5)] H → va_D A [(h, xO xa xi), (xa 0, fO fn r), (fn 0, qA G 3 9 wh), (fn 1, iA G 9 (fA r 2)), (fn 2, iA G 9 (fA r 3)), (fn 3, iA G 9 (fA r 4)), (fn 4, iA G 9 (fA r 5)), (xa 2, fR fm j_0 j_1 j_2), (fm 0, qA G 3 9 j_w), (fm 1, iA G 9 j_a2), (fm 2, iA G 9 j_a3), (fm 3, iA G 9 j_a4), (fm 4, iA G 9 j_a5)] → va_S A s.heap H locs → ∀ (ls : Array Slot), lv_has ls 6 [(4, .int (nI i)), (3, .int (txV r N (txO r N i))), (2, .int (enc (txO r N i))), (0, .ref h), (1, .int (nI what_2))] → W p0_ l e0_ ({ frames := 11, cells := 0, slots := 0, locals := 309 } : Room) s m args below meth c H locs (0) (0) (MQ below (va_Qi (S := va_W) (fun rv w1 => rv = sTTX r N (nI what_2) ∧ ∃ (g_w : Nat → Option Nat) (g_a2 g_a3 g_a4 g_a5 : Nat → Int32) (g_0 g_1 g_2 : Int32), w1 = [(h, xO xa xi), (xa 0, fO fn r), (fn 0, qA G 3 9 wh), (fn 1, iA G 9 (fA r 2)), (fn 2, iA G 9 (fA r 3)), (fn 3, iA G 9 (fA r 4)), (fn 4, iA G 9 (fA r 5)), (xa 2, fR fm g_0 g_1 g_2), (fm 0, qA G 3 9 g_w), (fm 1, iA G 9 g_a2), (fm 2, iA G 9 g_a3), (fm 3, iA G 9 g_a4), (fm 4, iA G 9 g_a5)]) (fun w1 t => PP G w1 t.heap ∧ va_D A w1) A) args s 0 0 A) (F0 m 19 ls [])) by
      exact hlp_3 (80) 0 (by omega) (j_w) (j_a2) (j_a3) (j_a4) (j_a5) (j_0) (j_1) (j_2) _ _ (hP.sub [0, 1, 2, 3, 4, 5, 6, 7, 8, 9, 10, 11, 12] rfl) (hD.sub [0, 1, 2, 3, 4, 5, 6, 7, 8, 9, 10, 11, 12] (by decide) rfl) hS ls (lv_sub hl [0, 1, 2, 3, 4] rfl)
    have hend_3 : ∀ (j_w : Nat → Option Nat) (j_a2 : Nat → Int32) (j_a3 : Nat → Int32) (j_a4 : Nat → Int32) (j_a5 : Nat → Int32) (j_0 : Int32) (j_1 : Int32) (j_2 : Int32), ∀ (H : Heap) (locs : List Loc), PP G [(h, xO xa xi), (xa 0, fO fn r), (fn 0, qA G 3 9 wh), (fn 1, iA G 9 (fA r 2)), (fn 2, iA G 9 (fA r 3)), (fn 3, iA G 9 (fA r 4)), (fn 4, iA G 9 (fA r 5)), (xa 2, fR fm j_0 j_1 j_2), (fm 0, qA G 3 9 j_w), (fm 1, iA G 9 j_a2), (fm 2, iA G 9 j_a3), (fm 3, iA G 9 j_a4), (fm 4, iA G 9 j_a5)] H → va_D A [(h, xO xa xi), (xa 0, fO fn r), (fn 0, qA G 3 9 wh), (fn 1, iA G 9 (fA r 2)), (fn 2, iA G 9 (fA r 3)), (fn 3, iA G 9 (fA r 4)), (fn 4, iA G 9 (fA r 5)), (xa 2, fR fm j_0 j_1 j_2), (fm 0, qA G 3 9 j_w), (fm 1, iA G 9 j_a2), (fm 2, iA G 9 j_a3), (fm 3, iA G 9 j_a4), (fm 4, iA G 9 j_a5)] → va_S A s.heap H locs → ∀ (ls : Array Slot), lv_has ls 6 [(4, .int (nI 80)), (3, .int (txV r N (txO r N 80))), (2, .int (enc (txO r N 80))), (0, .ref h), (1, .int (nI what_2))] → W p0_ l e0_ ({ frames := 11, cells := 0, slots := 0, locals := 309 } : Room) s m args below meth c H locs (0) (0) (MQ below (va_Qi (S := va_W) (fun rv w1 => rv = sTTX r N (nI what_2) ∧ ∃ (g_w : Nat → Option Nat) (g_a2 g_a3 g_a4 g_a5 : Nat → Int32) (g_0 g_1 g_2 : Int32), w1 = [(h, xO xa xi), (xa 0, fO fn r), (fn 0, qA G 3 9 wh), (fn 1, iA G 9 (fA r 2)), (fn 2, iA G 9 (fA r 3)), (fn 3, iA G 9 (fA r 4)), (fn 4, iA G 9 (fA r 5)), (xa 2, fR fm g_0 g_1 g_2), (fm 0, qA G 3 9 g_w), (fm 1, iA G 9 g_a2), (fm 2, iA G 9 g_a3), (fm 3, iA G 9 g_a4), (fm 4, iA G 9 g_a5)]) (fun w1 t => PP G w1 t.heap ∧ va_D A w1) A) args s 0 0 A) (F0 m 19 ls []) := by
      intro j_w j_a2 j_a3 j_a4 j_a5 j_0 j_1 j_2 H locs hP hD hS ls hl
      refine lv_iload hx hb dX1_twoTurns_19 (lv_at hl 0 rfl) ?_
      refine lv_bipush (v := 80) hx hb dX1_twoTurns_21 (by decide) ?_
      refine n_ic_ge (x := 80) (y := 80) (tgt := 113) hx hb (by omega) (by omega) dX1_twoTurns_23 (by decide) (fun c_4 => ?_) (fun c_4 => absurd c_4 (by omega))
      refine lv_iload_n hx hb dX1_twoTurns_113 rfl (lv_at hl 4 rfl) ?_
      refine n_if_ne (x := what_2) (tgt := 121) hx hb (by omega) dX1_twoTurns_114 (by decide) (fun c_5 => ?_) (fun c_5 => ?_)
      · have zc_5 : ¬ nI what_2 = 0 := nI_ne0 c_5 (by omega)
        have yc_5 : ¬ what_2 = 0 := Nat.ne_of_gt c_5
        refine lv_iload_n hx hb dX1_twoTurns_121 rfl (lv_at hl 2 rfl) ?_
        exact n_iretW (v := enc (txO r N 80)) (w1 := [(h, xO xa xi), (xa 0, fO fn r), (fn 0, qA G 3 9 wh), (fn 1, iA G 9 (fA r 2)), (fn 2, iA G 9 (fA r 3)), (fn 3, iA G 9 (fA r 4)), (fn 4, iA G 9 (fA r 5)), (xa 2, fR fm j_0 j_1 j_2), (fm 0, qA G 3 9 j_w), (fm 1, iA G 9 j_a2), (fm 2, iA G 9 j_a3), (fm 3, iA G 9 j_a4), (fm 4, iA G 9 j_a5)]) C (⟨by first | (simp [sTTX, c_1, twhat_2, c_4, c_5, yc_5, zc_5]; done), _, _, _, _, _, _, _, _, rfl⟩) hP hD hS (by first | omega | decide) (by first | omega | decide) dX1_twoTurns_122
      · obtain rfl := c_5
        have zc_5 : (nI 0 = 0) = True := eq_true rfl
        refine lv_iload_n hx hb dX1_twoTurns_117 rfl (lv_at hl 1 rfl) ?_
        refine lv_goto (tgt := 122) hx hb dX1_twoTurns_118 (by decide) ?_
        exact n_iretW (v := txV r N (txO r N 80)) (w1 := [(h, xO xa xi), (xa 0, fO fn r), (fn 0, qA G 3 9 wh), (fn 1, iA G 9 (fA r 2)), (fn 2, iA G 9 (fA r 3)), (fn 3, iA G 9 (fA r 4)), (fn 4, iA G 9 (fA r 5)), (xa 2, fR fm j_0 j_1 j_2), (fm 0, qA G 3 9 j_w), (fm 1, iA G 9 j_a2), (fm 2, iA G 9 j_a3), (fm 3, iA G 9 j_a4), (fm 4, iA G 9 j_a5)]) C (⟨by first | (simp [sTTX, c_1, twhat_2, c_4, zc_5]; done), _, _, _, _, _, _, _, _, rfl⟩) hP hD hS (by first | omega | decide) (by first | omega | decide) dX1_twoTurns_122
    intro n
    induction n with
    | zero =>
      intro i hi_3 j_w j_a2 j_a3 j_a4 j_a5 j_0 j_1 j_2 H locs hP hD hS ls hl
      obtain e_3 : i = 80 := by omega
      first | (subst e_3; exact hend_3 j_w j_a2 j_a3 j_a4 j_a5 j_0 j_1 j_2 H locs hP hD hS ls hl) | (rw [e_3] at hl hP hD; exact hend_3 j_w j_a2 j_a3 j_a4 j_a5 j_0 j_1 j_2 H locs hP hD hS ls hl)
    | succ n ih_3 =>
      intro i hi_3 j_w j_a2 j_a3 j_a4 j_a5 j_0 j_1 j_2 H locs hP hD hS ls hl
      refine lv_iload hx hb dX1_twoTurns_19 (lv_at hl 0 rfl) ?_
      refine lv_bipush (v := 80) hx hb dX1_twoTurns_21 (by decide) ?_
      refine n_ic_ge (x := i) (y := 80) (tgt := 113) hx hb (by omega) (by omega) dX1_twoTurns_23 (by decide) (fun c_6 => absurd c_6 (by omega)) (fun c_6 => ?_)
      refine lv_aload_n hx hb dX1_twoTurns_26 rfl (lv_at hl 3 rfl) ?_
      refine va_get (D := gD G) (ci := 1) (v := .ref (xa 0)) (C := RX1) (T := TX1) (N := 9) hx hb hts in_X1 hown hK.1 hP 0 rfl rfl 0 (by decide) (hts _ q838) (fun _ h9 => h9) rfl dX1_twoTurns_27 ?_
      refine lv_iload hx hb dX1_twoTurns_30 (lv_at hl 0 rfl) ?_
      refine lv_bipush (v := 10) hx hb dX1_twoTurns_32 (by decide) ?_
      refine n_idiv hx hb i 10 (by omega) (by omega) (by omega) dX1_twoTurns_34 ?_
      refine lv_iload hx hb dX1_twoTurns_35 (lv_at hl 0 rfl) ?_
      refine lv_bipush (v := 10) hx hb dX1_twoTurns_37 (by decide) ?_
      refine n_irem hx hb i 10 (by omega) (by omega) (by omega) dX1_twoTurns_39 ?_
      refine c_Vk (rest := []) C (metX2_canEat l G (xa 0) fn gm wh r N (nI (i / 10)) (nI (i % 10)) (by omega) (hr) (hwk)) 2 (lw_V q367 q368 q369 q40 q370) (by decide +kernel) ⟨rfl, rfl⟩ ⟨(Nat.le_of_ble_eq_true rfl), (Nat.le_of_ble_eq_true rfl)⟩ (KG.call) (va_recv hK.1 hP (ci := 2) (q0 := 1) rfl rfl) (hP.sub (ws' := [(xa 0, fO fn r), (fn 0, qA G 3 9 wh), (fn 1, iA G 9 (fA r 2)), (fn 2, iA G 9 (fA r 3)), (fn 3, iA G 9 (fA r 4)), (fn 4, iA G 9 (fA r 5))]) [1, 2, 3, 4, 5, 6] rfl) (KG.at hK (hGP.kept hGA hS)) hl rfl rfl (Nat.le_of_ble_eq_true rfl) ⟨(Nat.le_of_ble_eq_true rfl), (Nat.le_of_ble_eq_true rfl)⟩ dX1_twoTurns_40 ?_
      refine n_if_neB (b := (sEatP r N (nI (i / 10)) (nI (i % 10)))) (tgt := 49) hx hb dX1_twoTurns_43 (by decide) (fun c_7 => ?_) (fun c_7 => ?_)
      · obtain ⟨ha_8, hb_9, hn_10, he_11⟩ := sEatP_n2 (by omega) (by omega) (by omega) c_7
        refine lv_aload_n hx hb dX1_twoTurns_49 rfl (lv_at hl 3 rfl) ?_
        refine c_VWvk (wr := []) (rest := []) C (metX1_minds l G h xa xi fn gm wh r N fm j_w j_a2 j_a3 j_a4 j_a5 j_0 j_1 j_2 (by omega) (hr) (hwk) (NG.of hGA hD [0, 1, 2, 3, 4, 5, 6, 7, 8, 9, 10, 11, 12] rfl)) 0 (lw_V q579 q581 qs10 q39 q582) (by decide +kernel) ⟨rfl, rfl⟩ ⟨(Nat.le_of_ble_eq_true rfl), (Nat.le_of_ble_eq_true rfl)⟩ (KG.call) (KG.at hK (hGP.kept hGA hS)) (va_recv hK.1 hP (ci := 1) (q0 := 0) rfl rfl) hA hP hD hS [0, 1, 2, 3, 4, 5, 6, 7, 8, 9, 10, 11, 12] [] rfl rfl rfl rfl (by decide) hl rfl rfl (Nat.le_of_ble_eq_true rfl) ⟨(Nat.le_of_ble_eq_true rfl), (Nat.le_of_ble_eq_true rfl)⟩ dX1_twoTurns_50 (fun w1 H locs hq_13 hP hD hS => ?_)
        obtain rfl := hq_13
        have hP : PP G [(h, xO xa xi), (xa 0, fO fn r), (fn 0, qA G 3 9 wh), (fn 1, iA G 9 (fA r 2)), (fn 2, iA G 9 (fA r 3)), (fn 3, iA G 9 (fA r 4)), (fn 4, iA G 9 (fA r 5)), (xa 2, fO fm r), (fm 0, qA G 3 9 wh), (fm 1, iA G 9 (fA r 2)), (fm 2, iA G 9 (fA r 3)), (fm 3, iA G 9 (fA r 4)), (fm 4, iA G 9 (fA r 5))] H := hP
        have hD : va_D A [(h, xO xa xi), (xa 0, fO fn r), (fn 0, qA G 3 9 wh), (fn 1, iA G 9 (fA r 2)), (fn 2, iA G 9 (fA r 3)), (fn 3, iA G 9 (fA r 4)), (fn 4, iA G 9 (fA r 5)), (xa 2, fO fm r), (fm 0, qA G 3 9 wh), (fm 1, iA G 9 (fA r 2)), (fm 2, iA G 9 (fA r 3)), (fm 3, iA G 9 (fA r 4)), (fm 4, iA G 9 (fA r 5))] := hD
        have hw_14 : WK gm wh r N := hwk
        have hr_15 : r 0 = nI N := hr
        refine lv_aload_n hx hb dX1_twoTurns_53 rfl (lv_at hl 3 rfl) ?_
        refine va_get (D := gD G) (ci := 1) (v := .ref (xa 2)) (C := RX1) (T := TX1) (N := 9) hx hb hts in_X1 hown hK.1 hP 0 rfl rfl 2 (by decide) (hts _ q840) (fun _ h9 => h9) rfl dX1_twoTurns_54 ?_
        refine lv_iload hx hb dX1_twoTurns_57 (lv_at hl 0 rfl) ?_
        refine lv_bipush (v := 10) hx hb dX1_twoTurns_59 (by decide) ?_
        refine n_idiv hx hb i 10 (by omega) (by omega) (by omega) dX1_twoTurns_61 ?_
        refine lv_iload hx hb dX1_twoTurns_62 (lv_at hl 0 rfl) ?_
        refine lv_bipush (v := 10) hx hb dX1_twoTurns_64 (by decide) ?_
        refine n_irem hx hb i 10 (by omega) (by omega) (by omega) dX1_twoTurns_66 ?_
        refine c_VWk (wr := [(h, xO xa xi), (xa 0, fO fn r), (fn 0, qA G 3 9 wh), (fn 1, iA G 9 (fA r 2)), (fn 2, iA G 9 (fA r 3)), (fn 3, iA G 9 (fA r 4)), (fn 4, iA G 9 (fA r 5))]) (rest := []) C (metX2_eats l G (xa 2) fm gm wh r N (i / 10) (i % 10) (by omega) (hr_15) (hw_14) (by omega) (by omega) (NG.of hGA hD [7, 8, 9, 10, 11, 12] rfl)) 2 (lw_V q398 q399 q400 q40 q401) (by decide +kernel) ⟨rfl, rfl⟩ ⟨(Nat.le_of_ble_eq_true rfl), (Nat.le_of_ble_eq_true rfl)⟩ (KG.call) (KG.at hK (hGP.kept hGA hS)) (va_recv hK.1 hP (ci := 2) (q0 := 7) rfl rfl) hA hP hD hS [7, 8, 9, 10, 11, 12] [0, 1, 2, 3, 4, 5, 6] rfl rfl rfl rfl (by decide) hl rfl rfl (Nat.le_of_ble_eq_true rfl) ⟨(Nat.le_of_ble_eq_true rfl), (Nat.le_of_ble_eq_true rfl)⟩ dX1_twoTurns_67 (fun r_16 w1 H locs hq_17 hP hD hS => ?_)
        obtain ⟨rfl, rfl⟩ := hq_17
        have hP : PP G [(h, xO xa xi), (xa 0, fO fn r), (fn 0, qA G 3 9 wh), (fn 1, iA G 9 (fA r 2)), (fn 2, iA G 9 (fA r 3)), (fn 3, iA G 9 (fA r 4)), (fn 4, iA G 9 (fA r 5)), (xa 2, fO fm (sTurn r (i / 10) (i % 10))), (fm 0, qA G 3 9 wh), (fm 1, iA G 9 (fA (sTurn r (i / 10) (i % 10)) 2)), (fm 2, iA G 9 (fA (sTurn r (i / 10) (i % 10)) 3)), (fm 3, iA G 9 (fA (sTurn r (i / 10) (i % 10)) 4)), (fm 4, iA G 9 (fA (sTurn r (i / 10) (i % 10)) 5))] H := hP
        have hD : va_D A [(h, xO xa xi), (xa 0, fO fn r), (fn 0, qA G 3 9 wh), (fn 1, iA G 9 (fA r 2)), (fn 2, iA G 9 (fA r 3)), (fn 3, iA G 9 (fA r 4)), (fn 4, iA G 9 (fA r 5)), (xa 2, fO fm (sTurn r (i / 10) (i % 10))), (fm 0, qA G 3 9 wh), (fm 1, iA G 9 (fA (sTurn r (i / 10) (i % 10)) 2)), (fm 2, iA G 9 (fA (sTurn r (i / 10) (i % 10)) 3)), (fm 3, iA G 9 (fA (sTurn r (i / 10) (i % 10)) 4)), (fm 4, iA G 9 (fA (sTurn r (i / 10) (i % 10)) 5))] := hD
        have hw_18 : WK gm wh (sTurn r (i / 10) (i % 10)) N := WK.turn hw_14
        have hr_19 : (sTurn r (i / 10) (i % 10)) 0 = nI N := (sTurn_0 r (i / 10) (i % 10)).trans hr_15
        refine lv_istore (lv' := [(5, .int (sJoy r (i / 10) (i % 10))), (4, .int (nI i)), (3, .int (txV r N (txO r N i))), (2, .int (enc (txO r N i))), (0, .ref h), (1, .int (nI what_2))]) hx hb dX1_twoTurns_70 hl (Nat.le_of_ble_eq_true rfl) rfl (fun ls hl => ?_)
        refine lv_iload hx hb dX1_twoTurns_72 (lv_at hl 0 rfl) ?_
        refine lv_iconst (v := 0) hx hb dX1_twoTurns_74 (by decide) ?_
        refine lv_aload_n hx hb dX1_twoTurns_75 rfl (lv_at hl 4 rfl) ?_
        refine va_get (D := gD G) (ci := 1) (v := .ref (xa 2)) (C := RX1) (T := TX1) (N := 9) hx hb hts in_X1 hown hK.1 hP 0 rfl rfl 2 (by decide) (hts _ q840) (fun _ h9 => h9) rfl dX1_twoTurns_76 ?_
        refine c_Vk (rest := [.int 0, .int (sJoy r (i / 10) (i % 10))]) C (metX2_bestJoys l G (xa 2) fm gm wh (sTurn r (i / 10) (i % 10)) N (by omega) (hr_19) (hw_18) ((hri.turn (by omega) (by omega) he_11).JN)) 0 (lw_V q566 q567 q568 q40 q569) (by decide +kernel) ⟨rfl, rfl⟩ ⟨(Nat.le_of_ble_eq_true rfl), (Nat.le_of_ble_eq_true rfl)⟩ (KG.call) (va_recv hK.1 hP (ci := 2) (q0 := 7) rfl rfl) (hP.sub (ws' := [(xa 2, fO fm (sTurn r (i / 10) (i % 10))), (fm 0, qA G 3 9 wh), (fm 1, iA G 9 (fA (sTurn r (i / 10) (i % 10)) 2)), (fm 2, iA G 9 (fA (sTurn r (i / 10) (i % 10)) 3)), (fm 3, iA G 9 (fA (sTurn r (i / 10) (i % 10)) 4)), (fm 4, iA G 9 (fA (sTurn r (i / 10) (i % 10)) 5))]) [7, 8, 9, 10, 11, 12] rfl) (KG.at hK (hGP.kept hGA hS)) hl rfl rfl (Nat.le_of_ble_eq_true rfl) ⟨(Nat.le_of_ble_eq_true rfl), (Nat.le_of_ble_eq_true rfl)⟩ dX1_twoTurns_79 ?_
        refine n_mmax (x := 0) (y := sBJX (sTurn r (i / 10) (i % 10)) N) C q583 q463 q60 q464 hl ⟨(Nat.le_of_ble_eq_true rfl), (Nat.le_of_ble_eq_true rfl)⟩ (Nat.le_of_ble_eq_true rfl) ⟨(Nat.le_of_ble_eq_true rfl), (Nat.le_of_ble_eq_true rfl)⟩ dX1_twoTurns_82 ?_
        refine lv_iadd (x := sJoy r (i / 10) (i % 10)) (y := mx 0 (sBJX (sTurn r (i / 10) (i % 10)) N)) hx hb dX1_twoTurns_85 ?_
        refine n_eqi (rfl) ?_
        refine lv_istore (lv' := [(5, .int (ttVX r N (i / 10) (i % 10))), (4, .int (nI i)), (3, .int (txV r N (txO r N i))), (2, .int (enc (txO r N i))), (0, .ref h), (1, .int (nI what_2))]) hx hb dX1_twoTurns_86 hl (Nat.le_of_ble_eq_true rfl) rfl (fun ls hl => ?_)
        rcases ho_20 : txO r N i with _ | bo_20
        · rw [ho_20] at hl
          have hl : lv_has ls 6 [(5, .int (ttVX r N (i / 10) (i % 10))), (4, .int (nI i)), (3, .int 0), (2, .int (-4)), (0, .ref h), (1, .int (nI what_2))] := hl
          refine lv_iload_n hx hb dX1_twoTurns_88 rfl (lv_at hl 3 rfl) ?_
          refine lv_if_lt (x := (-4)) (tgt := 101) hx hb dX1_twoTurns_89 (by decide) (fun c_21 => ?_) (fun c_21 => absurd c_21 (by decide))
          refine lv_iload hx hb dX1_twoTurns_101 (lv_at hl 1 rfl) ?_
          refine lv_istore_n (lv' := [(2, .int (nI i)), (5, .int (ttVX r N (i / 10) (i % 10))), (4, .int (nI i)), (3, .int 0), (0, .ref h), (1, .int (nI what_2))]) hx hb dX1_twoTurns_103 rfl hl (Nat.le_of_ble_eq_true rfl) rfl (fun ls hl => ?_)
          refine lv_iload hx hb dX1_twoTurns_104 (lv_at hl 1 rfl) ?_
          refine lv_istore_n (lv' := [(3, .int (ttVX r N (i / 10) (i % 10))), (2, .int (nI i)), (5, .int (ttVX r N (i / 10) (i % 10))), (4, .int (nI i)), (0, .ref h), (1, .int (nI what_2))]) hx hb dX1_twoTurns_106 rfl hl (Nat.le_of_ble_eq_true rfl) rfl (fun ls hl => ?_)
          refine n_iinc (k := 3) (lv' := [(4, .int (nI (i + 1))), (3, .int (ttVX r N (i / 10) (i % 10))), (2, .int (nI i)), (5, .int (ttVX r N (i / 10) (i % 10))), (0, .ref h), (1, .int (nI what_2))]) hx hb i 1 dX1_twoTurns_107 hl rfl (Nat.le_of_ble_eq_true rfl) rfl (fun ls hl => ?_)
          refine lv_goto (tgt := 19) hx hb dX1_twoTurns_110 (by decide) ?_
          have e_22 : txV r N (txO r N (i + 1)) = ttVX r N (i / 10) (i % 10) := by simp [txO, txS, encS, encN, txVS, txVN, Nat.div_add_mod, twhat_2, c_6, c_7, hn_10, he_11, ho_20, c_21]
          have e_23 : enc (txO r N (i + 1)) = nI i := by simp [txO, txS, encS, encN, txVS, txVN, Nat.div_add_mod, twhat_2, c_6, c_7, hn_10, he_11, ho_20, c_21]
          have e_24 : (fR fm ((sTurn r (i / 10) (i % 10)) 0) ((sTurn r (i / 10) (i % 10)) 1) ((sTurn r (i / 10) (i % 10)) 2) : va_E) = fO fm (sTurn r (i / 10) (i % 10)) := by rfl
          exact ih_3 (i + 1) (by omega) wh (fA (sTurn r (i / 10) (i % 10)) 2) (fA (sTurn r (i / 10) (i % 10)) 3) (fA (sTurn r (i / 10) (i % 10)) 4) (fA (sTurn r (i / 10) (i % 10)) 5) ((sTurn r (i / 10) (i % 10)) 0) ((sTurn r (i / 10) (i % 10)) 1) ((sTurn r (i / 10) (i % 10)) 2) _ _ (by rw [e_24]; exact hP.sub [0, 1, 2, 3, 4, 5, 6, 7, 8, 9, 10, 11, 12] rfl) (by rw [e_24]; exact hD.sub [0, 1, 2, 3, 4, 5, 6, 7, 8, 9, 10, 11, 12] (by decide) rfl) hS ls (by rw [e_22, e_23]; exact lv_sub hl [0, 1, 2, 4, 5] rfl)
        · rw [ho_20] at hl
          have hl : lv_has ls 6 [(5, .int (ttVX r N (i / 10) (i % 10))), (4, .int (nI i)), (3, .int (ttVX r N bo_20.1 bo_20.2)), (2, .int (nI (10 * bo_20.1 + bo_20.2))), (0, .ref h), (1, .int (nI what_2))] := hl
          have go_20 := txO_in (by omega) i (by omega) _ ho_20
          have uo_20 : (10 * bo_20.1 + bo_20.2) / 10 = bo_20.1 := by omega
          have vo_20 : (10 * bo_20.1 + bo_20.2) % 10 = bo_20.2 := by omega
          refine lv_iload_n hx hb dX1_twoTurns_88 rfl (lv_at hl 3 rfl) ?_
          refine n_if_lt (x := 10 * bo_20.1 + bo_20.2) (tgt := 101) hx hb (by omega) dX1_twoTurns_89 (by decide) ?_
          refine lv_iload hx hb dX1_twoTurns_92 (lv_at hl 0 rfl) ?_
          refine lv_iload_n hx hb dX1_twoTurns_94 rfl (lv_at hl 2 rfl) ?_
          refine lv_icmp_gt (x := ttVX r N (i / 10) (i % 10)) (y := ttVX r N bo_20.1 bo_20.2) (tgt := 101) hx hb dX1_twoTurns_95 (by decide) (fun c_25 => ?_) (fun c_25 => ?_)
          · have zc_25 : ¬ (ttVX r N (i / 10) (i % 10)) ≤ (ttVX r N bo_20.1 bo_20.2) := Int32.not_le.mpr c_25
            refine lv_iload hx hb dX1_twoTurns_101 (lv_at hl 1 rfl) ?_
            refine lv_istore_n (lv' := [(2, .int (nI i)), (5, .int (ttVX r N (i / 10) (i % 10))), (4, .int (nI i)), (3, .int (ttVX r N bo_20.1 bo_20.2)), (0, .ref h), (1, .int (nI what_2))]) hx hb dX1_twoTurns_103 rfl hl (Nat.le_of_ble_eq_true rfl) rfl (fun ls hl => ?_)
            refine lv_iload hx hb dX1_twoTurns_104 (lv_at hl 1 rfl) ?_
            refine lv_istore_n (lv' := [(3, .int (ttVX r N (i / 10) (i % 10))), (2, .int (nI i)), (5, .int (ttVX r N (i / 10) (i % 10))), (4, .int (nI i)), (0, .ref h), (1, .int (nI what_2))]) hx hb dX1_twoTurns_106 rfl hl (Nat.le_of_ble_eq_true rfl) rfl (fun ls hl => ?_)
            refine n_iinc (k := 3) (lv' := [(4, .int (nI (i + 1))), (3, .int (ttVX r N (i / 10) (i % 10))), (2, .int (nI i)), (5, .int (ttVX r N (i / 10) (i % 10))), (0, .ref h), (1, .int (nI what_2))]) hx hb i 1 dX1_twoTurns_107 hl rfl (Nat.le_of_ble_eq_true rfl) rfl (fun ls hl => ?_)
            refine lv_goto (tgt := 19) hx hb dX1_twoTurns_110 (by decide) ?_
            have e_26 : txV r N (txO r N (i + 1)) = ttVX r N (i / 10) (i % 10) := by simp [txO, txS, encS, encN, txVS, txVN, Nat.div_add_mod, twhat_2, c_6, c_7, hn_10, he_11, ho_20, c_25, zc_25]
            have e_27 : enc (txO r N (i + 1)) = nI i := by simp [txO, txS, encS, encN, txVS, txVN, Nat.div_add_mod, twhat_2, c_6, c_7, hn_10, he_11, ho_20, c_25, zc_25]
            have e_28 : (fR fm ((sTurn r (i / 10) (i % 10)) 0) ((sTurn r (i / 10) (i % 10)) 1) ((sTurn r (i / 10) (i % 10)) 2) : va_E) = fO fm (sTurn r (i / 10) (i % 10)) := by rfl
            exact ih_3 (i + 1) (by omega) wh (fA (sTurn r (i / 10) (i % 10)) 2) (fA (sTurn r (i / 10) (i % 10)) 3) (fA (sTurn r (i / 10) (i % 10)) 4) (fA (sTurn r (i / 10) (i % 10)) 5) ((sTurn r (i / 10) (i % 10)) 0) ((sTurn r (i / 10) (i % 10)) 1) ((sTurn r (i / 10) (i % 10)) 2) _ _ (by rw [e_28]; exact hP.sub [0, 1, 2, 3, 4, 5, 6, 7, 8, 9, 10, 11, 12] rfl) (by rw [e_28]; exact hD.sub [0, 1, 2, 3, 4, 5, 6, 7, 8, 9, 10, 11, 12] (by decide) rfl) hS ls (by rw [e_26, e_27]; exact lv_sub hl [0, 1, 2, 4, 5] rfl)
          · have zc_25 : (ttVX r N (i / 10) (i % 10)) ≤ (ttVX r N bo_20.1 bo_20.2) := Int32.not_lt.mp c_25
            refine lv_goto (tgt := 107) hx hb dX1_twoTurns_98 (by decide) ?_
            refine n_iinc (k := 1) (lv' := [(4, .int (nI (i + 1))), (5, .int (ttVX r N (i / 10) (i % 10))), (3, .int (ttVX r N bo_20.1 bo_20.2)), (2, .int (nI (10 * bo_20.1 + bo_20.2))), (0, .ref h), (1, .int (nI what_2))]) hx hb i 1 dX1_twoTurns_107 hl rfl (Nat.le_of_ble_eq_true rfl) rfl (fun ls hl => ?_)
            refine lv_goto (tgt := 19) hx hb dX1_twoTurns_110 (by decide) ?_
            have e_29 : txV r N (txO r N (i + 1)) = ttVX r N bo_20.1 bo_20.2 := by simp [txO, txS, encS, encN, txVS, txVN, Nat.div_add_mod, twhat_2, c_6, c_7, hn_10, he_11, ho_20, c_25, zc_25]
            have e_30 : enc (txO r N (i + 1)) = nI (10 * bo_20.1 + bo_20.2) := by simp [txO, txS, encS, encN, txVS, txVN, Nat.div_add_mod, twhat_2, c_6, c_7, hn_10, he_11, ho_20, c_25, zc_25]
            have e_31 : (fR fm ((sTurn r (i / 10) (i % 10)) 0) ((sTurn r (i / 10) (i % 10)) 1) ((sTurn r (i / 10) (i % 10)) 2) : va_E) = fO fm (sTurn r (i / 10) (i % 10)) := by rfl
            exact ih_3 (i + 1) (by omega) wh (fA (sTurn r (i / 10) (i % 10)) 2) (fA (sTurn r (i / 10) (i % 10)) 3) (fA (sTurn r (i / 10) (i % 10)) 4) (fA (sTurn r (i / 10) (i % 10)) 5) ((sTurn r (i / 10) (i % 10)) 0) ((sTurn r (i / 10) (i % 10)) 1) ((sTurn r (i / 10) (i % 10)) 2) _ _ (by rw [e_31]; exact hP.sub [0, 1, 2, 3, 4, 5, 6, 7, 8, 9, 10, 11, 12] rfl) (by rw [e_31]; exact hD.sub [0, 1, 2, 3, 4, 5, 6, 7, 8, 9, 10, 11, 12] (by decide) rfl) hS ls (by rw [e_29, e_30]; exact lv_sub hl [0, 2, 3, 4, 5] rfl)
      · refine lv_goto (tgt := 107) hx hb dX1_twoTurns_46 (by decide) ?_
        refine n_iinc (k := 0) (lv' := [(4, .int (nI (i + 1))), (3, .int (txV r N (txO r N i))), (2, .int (enc (txO r N i))), (0, .ref h), (1, .int (nI what_2))]) hx hb i 1 dX1_twoTurns_107 hl rfl (Nat.le_of_ble_eq_true rfl) rfl (fun ls hl => ?_)
        refine lv_goto (tgt := 19) hx hb dX1_twoTurns_110 (by decide) ?_
        have e_32 : txV r N (txO r N (i + 1)) = txV r N (txO r N i) := by simp [txO, txS, encS, encN, txVS, txVN, Nat.div_add_mod, twhat_2, c_6, c_7]
        have e_33 : enc (txO r N (i + 1)) = enc (txO r N i) := by simp [txO, txS, encS, encN, txVS, txVN, Nat.div_add_mod, twhat_2, c_6, c_7]
        exact ih_3 (i + 1) (by omega) j_w j_a2 j_a3 j_a4 j_a5 j_0 j_1 j_2 _ _ (by exact hP.sub [0, 1, 2, 3, 4, 5, 6, 7, 8, 9, 10, 11, 12] rfl) (by exact hD.sub [0, 1, 2, 3, 4, 5, 6, 7, 8, 9, 10, 11, 12] (by decide) rfl) hS ls (by rw [e_32, e_33]; exact lv_sub hl [0, 1, 2, 3, 4] rfl)
  · refine lv_iconst (v := (-1)) hx hb dX1_twoTurns_9 (by decide) ?_
    exact n_iretW (v := (-1)) (w1 := [(h, xO xa xi), (xa 0, fO fn r), (fn 0, qA G 3 9 wh), (fn 1, iA G 9 (fA r 2)), (fn 2, iA G 9 (fA r 3)), (fn 3, iA G 9 (fA r 4)), (fn 4, iA G 9 (fA r 5)), (xa 2, fR fm j_0 j_1 j_2), (fm 0, qA G 3 9 j_w), (fm 1, iA G 9 j_a2), (fm 2, iA G 9 j_a3), (fm 3, iA G 9 j_a4), (fm 4, iA G 9 j_a5)]) C (⟨by first | (simp [sTTX, c_1]; done), _, _, _, _, _, _, _, _, rfl⟩) hP hD hS (by first | omega | decide) (by first | omega | decide) dX1_twoTurns_10

set_option maxHeartbeats 4000000 in
set_option maxRecDepth 100000 in
theorem metX1_greedily (l : Launch) (G : GG) (h : Nat) (xa : Nat → Nat) (xi : Nat → Int32) (fn : Nat → Nat) (gm : GM) (wh : Nat → Option Nat) (r : Nat → Int32) (N : Nat) (fm : Nat → Nat) (j_w : Nat → Option Nat) (j_a2 j_a3 j_a4 j_a5 : Nat → Int32) (j_0 j_1 j_2 : Int32) (u what : Int32) (hN : N ≤ 8) (hr : r 0 = nI N) (hwk : WK gm wh r N) (hri : RI r N) (hng : NG gm [(h, xO xa xi), (xa 0, fO fn r), (fn 0, qA G 3 9 wh), (fn 1, iA G 9 (fA r 2)), (fn 2, iA G 9 (fA r 3)), (fn 3, iA G 9 (fA r 4)), (fn 4, iA G 9 (fA r 5)), (xa 2, fR fm j_0 j_1 j_2), (fm 0, qA G 3 9 j_w), (fm 1, iA G 9 j_a2), (fm 2, iA G 9 j_a3), (fm 3, iA G 9 j_a4), (fm 4, iA G 9 j_a5)]) : MW l yX1_greedily cX1_greedily 6 (some .int) ({ frames := 10, cells := 0, slots := 0, locals := 288 }) [.ref h, .int u, .int what] [(h, xO xa xi), (xa 0, fO fn r), (fn 0, qA G 3 9 wh), (fn 1, iA G 9 (fA r 2)), (fn 2, iA G 9 (fA r 3)), (fn 3, iA G 9 (fA r 4)), (fn 4, iA G 9 (fA r 5)), (xa 2, fR fm j_0 j_1 j_2), (fm 0, qA G 3 9 j_w), (fm 1, iA G 9 j_a2), (fm 2, iA G 9 j_a3), (fm 3, iA G 9 j_a4), (fm 4, iA G 9 j_a5)] G (KG G gm) 0 0 (fun rv w1 => rv = sGreA r N u what ∧ ∃ (g_w : Nat → Option Nat) (g_a2 g_a3 g_a4 g_a5 : Nat → Int32) (g_0 g_1 g_2 : Int32), w1 = [(h, xO xa xi), (xa 0, fO fn r), (fn 0, qA G 3 9 wh), (fn 1, iA G 9 (fA r 2)), (fn 2, iA G 9 (fA r 3)), (fn 3, iA G 9 (fA r 4)), (fn 4, iA G 9 (fA r 5)), (xa 2, fR fm g_0 g_1 g_2), (fm 0, qA G 3 9 g_w), (fm 1, iA G 9 g_a2), (fm 2, iA G 9 g_a3), (fm 3, iA G 9 g_a4), (fm 4, iA G 9 g_a5)]) := by
  -- rows printed by wip/tools/gen.py
  refine mw_mkg RX1 (by decide) rfl (Nat.le_of_ble_eq_true rfl) ?_
  intro p0_ e0_ s m args below meth c A C hA hAx hP hK hD ls hl
  have hGP := hK.2
  have hK := hK.1
  have hGA := GA.of hng hGP hAx
  have hx := C.1
  have hb := C.2.1
  have hml := C.2.2.2.2.1
  have hown := C.2.2.2.2.2.1
  have hts := C.2.2.2.2.2.2
  have hS : va_S A s.heap s.heap [] := va_S.rf
  have hl : lv_has ls 6 [(0, .ref h), (1, .int u), (2, .int what)] := hl
  refine lv_iload_n hx hb dX1_greedily_0 rfl (lv_at hl 1 rfl) ?_
  refine lv_iconst (v := 0) hx hb dX1_greedily_1 (by decide) ?_
  refine lv_bipush (v := 30) hx hb dX1_greedily_2 (by decide) ?_
  refine c_S (rest := []) C (metX1_isIn l G u 0 30) 3 (lw_S q171 q172 q39 q173) (by decide +kernel) ⟨rfl, rfl⟩ ⟨(Nat.le_of_ble_eq_true rfl), (Nat.le_of_ble_eq_true rfl)⟩ (KM_mv G) (hP.sub (ws' := []) [] rfl) hK.1 hl rfl rfl (Nat.le_of_ble_eq_true rfl) ⟨(Nat.le_of_ble_eq_true rfl), (Nat.le_of_ble_eq_true rfl)⟩ dX1_greedily_4 ?_
  refine n_if_eqB (b := (sIn u 0 30)) (tgt := 19) hx hb dX1_greedily_7 (by decide) (fun c_1 => ?_) (fun c_1 => ?_)
  · refine lv_iconst (v := (-1)) hx hb dX1_greedily_19 (by decide) ?_
    exact n_iretW (v := (-1)) (w1 := [(h, xO xa xi), (xa 0, fO fn r), (fn 0, qA G 3 9 wh), (fn 1, iA G 9 (fA r 2)), (fn 2, iA G 9 (fA r 3)), (fn 3, iA G 9 (fA r 4)), (fn 4, iA G 9 (fA r 5)), (xa 2, fR fm j_0 j_1 j_2), (fm 0, qA G 3 9 j_w), (fm 1, iA G 9 j_a2), (fm 2, iA G 9 j_a3), (fm 3, iA G 9 j_a4), (fm 4, iA G 9 j_a5)]) C (⟨by first | (simp [sGreA, c_1]; done) | (simp [sGreA, c_1, hg, grd]; done) | (simp [sGreA, c_1, hg, e9, grd]; done), _, _, _, _, _, _, _, _, rfl⟩) hP hD hS (by first | omega | decide) (by first | omega | decide) dX1_greedily_20
  · obtain ⟨u_2, hu_2, gu_2, rfl⟩ := sIn_t (a := 0) (b := 30) (by omega) (by omega) c_1
    have tu_2 : tn (nI u_2) = u_2 := nI_clamp (by omega)
    refine lv_iload_n hx hb dX1_greedily_10 rfl (lv_at hl 2 rfl) ?_
    refine lv_iconst (v := 0) hx hb dX1_greedily_11 (by decide) ?_
    refine lv_iconst (v := 1) hx hb dX1_greedily_12 (by decide) ?_
    refine c_S (rest := []) C (metX1_isIn l G what 0 1) 3 (lw_S q171 q172 q39 q173) (by decide +kernel) ⟨rfl, rfl⟩ ⟨(Nat.le_of_ble_eq_true rfl), (Nat.le_of_ble_eq_true rfl)⟩ (KM_mv G) (hP.sub (ws' := []) [] rfl) hK.1 hl rfl rfl (Nat.le_of_ble_eq_true rfl) ⟨(Nat.le_of_ble_eq_true rfl), (Nat.le_of_ble_eq_true rfl)⟩ dX1_greedily_13 ?_
    refine n_if_neB (b := (sIn what 0 1)) (tgt := 21) hx hb dX1_greedily_16 (by decide) (fun c_3 => ?_) (fun c_3 => ?_)
    · obtain ⟨what_4, hwhat_4, gwhat_4, rfl⟩ := sIn_t (a := 0) (b := 1) (by omega) (by omega) c_3
      have twhat_4 : tn (nI what_4) = what_4 := nI_clamp (by omega)
      refine lv_aload_n hx hb dX1_greedily_21 rfl (lv_at hl 0 rfl) ?_
      refine c_VWvk (wr := []) (rest := []) C (metX1_minds l G h xa xi fn gm wh r N fm j_w j_a2 j_a3 j_a4 j_a5 j_0 j_1 j_2 (by omega) (hr) (hwk) (NG.of hGA hD [0, 1, 2, 3, 4, 5, 6, 7, 8, 9, 10, 11, 12] rfl)) 0 (lw_V q579 q581 qs10 q39 q582) (by decide +kernel) ⟨rfl, rfl⟩ ⟨(Nat.le_of_ble_eq_true rfl), (Nat.le_of_ble_eq_true rfl)⟩ (KG.call) (KG.at hK (hGP.kept hGA hS)) (va_recv hK.1 hP (ci := 1) (q0 := 0) rfl rfl) hA hP hD hS [0, 1, 2, 3, 4, 5, 6, 7, 8, 9, 10, 11, 12] [] rfl rfl rfl rfl (by decide) hl rfl rfl (Nat.le_of_ble_eq_true rfl) ⟨(Nat.le_of_ble_eq_true rfl), (Nat.le_of_ble_eq_true rfl)⟩ dX1_greedily_22 (fun w1 H locs hq_6 hP hD hS => ?_)
      obtain rfl := hq_6
      have hP : PP G [(h, xO xa xi), (xa 0, fO fn r), (fn 0, qA G 3 9 wh), (fn 1, iA G 9 (fA r 2)), (fn 2, iA G 9 (fA r 3)), (fn 3, iA G 9 (fA r 4)), (fn 4, iA G 9 (fA r 5)), (xa 2, fO fm r), (fm 0, qA G 3 9 wh), (fm 1, iA G 9 (fA r 2)), (fm 2, iA G 9 (fA r 3)), (fm 3, iA G 9 (fA r 4)), (fm 4, iA G 9 (fA r 5))] H := hP
      have hD : va_D A [(h, xO xa xi), (xa 0, fO fn r), (fn 0, qA G 3 9 wh), (fn 1, iA G 9 (fA r 2)), (fn 2, iA G 9 (fA r 3)), (fn 3, iA G 9 (fA r 4)), (fn 4, iA G 9 (fA r 5)), (xa 2, fO fm r), (fm 0, qA G 3 9 wh), (fm 1, iA G 9 (fA r 2)), (fm 2, iA G 9 (fA r 3)), (fm 3, iA G 9 (fA r 4)), (fm 4, iA G 9 (fA r 5))] := hD
      have hw_7 : WK gm wh r N := hwk
      have hr_8 : r 0 = nI N := hr
      refine lv_iconst (v := 0) hx hb dX1_greedily_25 (by decide) ?_
      refine lv_istore_n (lv' := [(3, .int 0), (0, .ref h), (1, .int (nI u_2)), (2, .int (nI what_4))]) hx hb dX1_greedily_26 rfl hl (Nat.le_of_ble_eq_true rfl) rfl (fun ls hl => ?_)
      refine lv_iconst (v := 0) hx hb dX1_greedily_27 (by decide) ?_
      refine lv_istore (lv' := [(4, .int 0), (3, .int 0), (0, .ref h), (1, .int (nI u_2)), (2, .int (nI what_4))]) hx hb dX1_greedily_28 hl (Nat.le_of_ble_eq_true rfl) rfl (fun ls hl => ?_)
      suffices hlp_9 : (∀ (n i : Nat), i + n = u_2 → ∀ (rm : Nat → Int32) (v : Int32), ∀ (H : Heap) (locs : List Loc), PP G [(h, xO xa xi), (xa 0, fO fn r), (fn 0, qA G 3 9 wh), (fn 1, iA G 9 (fA r 2)), (fn 2, iA G 9 (fA r 3)), (fn 3, iA G 9 (fA r 4)), (fn 4, iA G 9 (fA r 5)), (xa 2, fO fm rm), (fm 0, qA G 3 9 wh), (fm 1, iA G 9 (fA rm 2)), (fm 2, iA G 9 (fA rm 3)), (fm 3, iA G 9 (fA rm 4)), (fm 4, iA G 9 (fA rm 5))] H → va_D A [(h, xO xa xi), (xa 0, fO fn r), (fn 0, qA G 3 9 wh), (fn 1, iA G 9 (fA r 2)), (fn 2, iA G 9 (fA r 3)), (fn 3, iA G 9 (fA r 4)), (fn 4, iA G 9 (fA r 5)), (xa 2, fO fm rm), (fm 0, qA G 3 9 wh), (fm 1, iA G 9 (fA rm 2)), (fm 2, iA G 9 (fA rm 3)), (fm 3, iA G 9 (fA rm 4)), (fm 4, iA G 9 (fA rm 5))] → va_S A s.heap H locs → (grd N u_2 r 0 0 = grd N (u_2 - i) rm v i) → (rm 0 = nI N) → (WK gm wh rm N) → (RI rm N) → ∀ (ls : Array Slot), lv_has ls 6 [(4, .int (nI i)), (3, .int v), (0, .ref h), (1, .int (nI u_2)), (2, .int (nI what_4))] → W p0_ l e0_ ({ frames := 10, cells := 0, slots := 0, locals := 288 } : Room) s m args below meth c H locs (0) (0) (MQ below (va_Qi (S := va_W) (fun rv w1 => rv = sGreA r N (nI u_2) (nI what_4) ∧ ∃ (g_w : Nat → Option Nat) (g_a2 g_a3 g_a4 g_a5 : Nat → Int32) (g_0 g_1 g_2 : Int32), w1 = [(h, xO xa xi), (xa 0, fO fn r), (fn 0, qA G 3 9 wh), (fn 1, iA G 9 (fA r 2)), (fn 2, iA G 9 (fA r 3)), (fn 3, iA G 9 (fA r 4)), (fn 4, iA G 9 (fA r 5)), (xa 2, fR fm g_0 g_1 g_2), (fm 0, qA G 3 9 g_w), (fm 1, iA G 9 g_a2), (fm 2, iA G 9 g_a3), (fm 3, iA G 9 g_a4), (fm 4, iA G 9 g_a5)]) (fun w1 t => PP G w1 t.heap ∧ va_D A w1) A) args s 0 0 A) (F0 m 30 ls [])) by
        exact hlp_9 (u_2) 0 (by omega) (r) (0) _ _ (hP.sub [0, 1, 2, 3, 4, 5, 6, 7, 8, 9, 10, 11, 12] rfl) (hD.sub [0, 1, 2, 3, 4, 5, 6, 7, 8, 9, 10, 11, 12] (by decide) rfl) hS (rfl) (hr_8) (hw_7) (hri) ls (lv_sub hl [0, 1, 2, 3, 4] rfl)
      have hend_9 : ∀ (rm : Nat → Int32) (v : Int32), ∀ (H : Heap) (locs : List Loc), PP G [(h, xO xa xi), (xa 0, fO fn r), (fn 0, qA G 3 9 wh), (fn 1, iA G 9 (fA r 2)), (fn 2, iA G 9 (fA r 3)), (fn 3, iA G 9 (fA r 4)), (fn 4, iA G 9 (fA r 5)), (xa 2, fO fm rm), (fm 0, qA G 3 9 wh), (fm 1, iA G 9 (fA rm 2)), (fm 2, iA G 9 (fA rm 3)), (fm 3, iA G 9 (fA rm 4)), (fm 4, iA G 9 (fA rm 5))] H → va_D A [(h, xO xa xi), (xa 0, fO fn r), (fn 0, qA G 3 9 wh), (fn 1, iA G 9 (fA r 2)), (fn 2, iA G 9 (fA r 3)), (fn 3, iA G 9 (fA r 4)), (fn 4, iA G 9 (fA r 5)), (xa 2, fO fm rm), (fm 0, qA G 3 9 wh), (fm 1, iA G 9 (fA rm 2)), (fm 2, iA G 9 (fA rm 3)), (fm 3, iA G 9 (fA rm 4)), (fm 4, iA G 9 (fA rm 5))] → va_S A s.heap H locs → (grd N u_2 r 0 0 = grd N (u_2 - u_2) rm v u_2) → (rm 0 = nI N) → (WK gm wh rm N) → (RI rm N) → ∀ (ls : Array Slot), lv_has ls 6 [(4, .int (nI u_2)), (3, .int v), (0, .ref h), (1, .int (nI u_2)), (2, .int (nI what_4))] → W p0_ l e0_ ({ frames := 10, cells := 0, slots := 0, locals := 288 } : Room) s m args below meth c H locs (0) (0) (MQ below (va_Qi (S := va_W) (fun rv w1 => rv = sGreA r N (nI u_2) (nI what_4) ∧ ∃ (g_w : Nat → Option Nat) (g_a2 g_a3 g_a4 g_a5 : Nat → Int32) (g_0 g_1 g_2 : Int32), w1 = [(h, xO xa xi), (xa 0, fO fn r), (fn 0, qA G 3 9 wh), (fn 1, iA G 9 (fA r 2)), (fn 2, iA G 9 (fA r 3)), (fn 3, iA G 9 (fA r 4)), (fn 4, iA G 9 (fA r 5)), (xa 2, fR fm g_0 g_1 g_2), (fm 0, qA G 3 9 g_w), (fm 1, iA G 9 g_a2), (fm 2, iA G 9 g_a3), (fm 3, iA G 9 g_a4), (fm 4, iA G 9 g_a5)]) (fun w1 t => PP G w1 t.heap ∧ va_D A w1) A) args s 0 0 A) (F0 m 30 ls []) := by
        intro rm v H locs hP hD hS hg h0 hw hr2 ls hl
        refine lv_iload hx hb dX1_greedily_30 (lv_at hl 0 rfl) ?_
        refine lv_iload_n hx hb dX1_greedily_32 rfl (lv_at hl 3 rfl) ?_
        refine n_ic_ge (x := u_2) (y := u_2) (tgt := 79) hx hb (by omega) (by omega) dX1_greedily_33 (by decide) (fun c_10 => ?_) (fun c_10 => absurd c_10 (by omega))
        refine lv_iload_n hx hb dX1_greedily_79 rfl (lv_at hl 4 rfl) ?_
        refine n_if_ne (x := what_4) (tgt := 87) hx hb (by omega) dX1_greedily_80 (by decide) (fun c_11 => ?_) (fun c_11 => ?_)
        · have zc_11 : ¬ nI what_4 = 0 := nI_ne0 c_11 (by omega)
          have yc_11 : ¬ what_4 = 0 := Nat.ne_of_gt c_11
          refine lv_iload hx hb dX1_greedily_87 (lv_at hl 0 rfl) ?_
          exact n_iretW (v := nI u_2) (w1 := [(h, xO xa xi), (xa 0, fO fn r), (fn 0, qA G 3 9 wh), (fn 1, iA G 9 (fA r 2)), (fn 2, iA G 9 (fA r 3)), (fn 3, iA G 9 (fA r 4)), (fn 4, iA G 9 (fA r 5)), (xa 2, fO fm rm), (fm 0, qA G 3 9 wh), (fm 1, iA G 9 (fA rm 2)), (fm 2, iA G 9 (fA rm 3)), (fm 3, iA G 9 (fA rm 4)), (fm 4, iA G 9 (fA rm 5))]) C (⟨by first | (simp [sGreA, c_1, tu_2, c_3, twhat_4, c_10, c_11, yc_11, zc_11]; done) | (simp [sGreA, c_1, tu_2, c_3, twhat_4, c_10, c_11, yc_11, zc_11, hg, grd]; done) | (simp [sGreA, c_1, tu_2, c_3, twhat_4, c_10, c_11, yc_11, zc_11, hg, e9, grd]; done), _, _, _, _, _, _, _, _, rfl⟩) hP hD hS (by first | omega | decide) (by first | omega | decide) dX1_greedily_89
        · obtain rfl := c_11
          have zc_11 : (nI 0 = 0) = True := eq_true rfl
          refine lv_iload_n hx hb dX1_greedily_83 rfl (lv_at hl 1 rfl) ?_
          refine lv_goto (tgt := 89) hx hb dX1_greedily_84 (by decide) ?_
          exact n_iretW (v := v) (w1 := [(h, xO xa xi), (xa 0, fO fn r), (fn 0, qA G 3 9 wh), (fn 1, iA G 9 (fA r 2)), (fn 2, iA G 9 (fA r 3)), (fn 3, iA G 9 (fA r 4)), (fn 4, iA G 9 (fA r 5)), (xa 2, fO fm rm), (fm 0, qA G 3 9 wh), (fm 1, iA G 9 (fA rm 2)), (fm 2, iA G 9 (fA rm 3)), (fm 3, iA G 9 (fA rm 4)), (fm 4, iA G 9 (fA rm 5))]) C (⟨by first | (simp [sGreA, c_1, tu_2, c_3, twhat_4, c_10, zc_11]; done) | (simp [sGreA, c_1, tu_2, c_3, twhat_4, c_10, zc_11, hg, grd]; done) | (simp [sGreA, c_1, tu_2, c_3, twhat_4, c_10, zc_11, hg, e9, grd]; done), _, _, _, _, _, _, _, _, rfl⟩) hP hD hS (by first | omega | decide) (by first | omega | decide) dX1_greedily_89
      intro n
      induction n with
      | zero =>
        intro i hi_9 rm v H locs hP hD hS hg h0 hw hr2 ls hl
        obtain e_9 : i = u_2 := by omega
        first | (subst e_9; exact hend_9 rm v H locs hP hD hS hg h0 hw hr2 ls hl) | (rw [e_9] at hl hP hD; exact hend_9 rm v H locs hP hD hS hg h0 hw hr2 ls hl)
      | succ n ih_9 =>
        intro i hi_9 rm v H locs hP hD hS hg h0 hw hr2 ls hl
        have e9 : u_2 - i = (u_2 - (i + 1)) + 1 := by omega
        refine lv_iload hx hb dX1_greedily_30 (lv_at hl 0 rfl) ?_
        refine lv_iload_n hx hb dX1_greedily_32 rfl (lv_at hl 3 rfl) ?_
        refine n_ic_ge (x := i) (y := u_2) (tgt := 79) hx hb (by omega) (by omega) dX1_greedily_33 (by decide) (fun c_12 => absurd c_12 (by omega)) (fun c_12 => ?_)
        refine lv_aload_n hx hb dX1_greedily_36 rfl (lv_at hl 2 rfl) ?_
        refine va_get (D := gD G) (ci := 1) (v := .ref (xa 2)) (C := RX1) (T := TX1) (N := 9) hx hb hts in_X1 hown hK.1 hP 0 rfl rfl 2 (by decide) (hts _ q840) (fun _ h9 => h9) rfl dX1_greedily_37 ?_
        refine c_Vk (rest := []) C (metX2_best l G (xa 2) fm gm wh rm N (by omega) (h0) (hw) (hr2.JN)) 0 (lw_V q561 q562 q563 q40 q564) (by decide +kernel) ⟨rfl, rfl⟩ ⟨(Nat.le_of_ble_eq_true rfl), (Nat.le_of_ble_eq_true rfl)⟩ (KG.call) (va_recv hK.1 hP (ci := 2) (q0 := 7) rfl rfl) (hP.sub (ws' := [(xa 2, fO fm rm), (fm 0, qA G 3 9 wh), (fm 1, iA G 9 (fA rm 2)), (fm 2, iA G 9 (fA rm 3)), (fm 3, iA G 9 (fA rm 4)), (fm 4, iA G 9 (fA rm 5))]) [7, 8, 9, 10, 11, 12] rfl) (KG.at hK (hGP.kept hGA hS)) hl rfl rfl (Nat.le_of_ble_eq_true rfl) ⟨(Nat.le_of_ble_eq_true rfl), (Nat.le_of_ble_eq_true rfl)⟩ dX1_greedily_40 ?_
        rcases ho_13 : sBestO rm N with _ | qo_13
        · have eo_13 : sBest rm N = -4 := by rw [sBest, ho_13]; rfl
          refine n_eqi eo_13 ?_
          refine lv_istore (lv' := [(5, .int (-4)), (4, .int (nI i)), (3, .int v), (0, .ref h), (1, .int (nI u_2)), (2, .int (nI what_4))]) hx hb dX1_greedily_43 hl (Nat.le_of_ble_eq_true rfl) rfl (fun ls hl => ?_)
          refine lv_iload hx hb dX1_greedily_45 (lv_at hl 0 rfl) ?_
          refine lv_if_ge (x := (-4)) (tgt := 53) hx hb dX1_greedily_47 (by decide) (fun c_14 => absurd c_14 (by decide)) (fun c_14 => ?_)
          refine lv_goto (tgt := 79) hx hb dX1_greedily_50 (by decide) ?_
          refine lv_iload_n hx hb dX1_greedily_79 rfl (lv_at hl 5 rfl) ?_
          refine n_if_ne (x := what_4) (tgt := 87) hx hb (by omega) dX1_greedily_80 (by decide) (fun c_15 => ?_) (fun c_15 => ?_)
          · have zc_15 : ¬ nI what_4 = 0 := nI_ne0 c_15 (by omega)
            have yc_15 : ¬ what_4 = 0 := Nat.ne_of_gt c_15
            refine lv_iload hx hb dX1_greedily_87 (lv_at hl 1 rfl) ?_
            exact n_iretW (v := nI i) (w1 := [(h, xO xa xi), (xa 0, fO fn r), (fn 0, qA G 3 9 wh), (fn 1, iA G 9 (fA r 2)), (fn 2, iA G 9 (fA r 3)), (fn 3, iA G 9 (fA r 4)), (fn 4, iA G 9 (fA r 5)), (xa 2, fO fm rm), (fm 0, qA G 3 9 wh), (fm 1, iA G 9 (fA rm 2)), (fm 2, iA G 9 (fA rm 3)), (fm 3, iA G 9 (fA rm 4)), (fm 4, iA G 9 (fA rm 5))]) C (⟨by first | (simp [sGreA, c_1, tu_2, c_3, twhat_4, c_12, ho_13, eo_13, c_14, c_15, yc_15, zc_15]; done) | (simp [sGreA, c_1, tu_2, c_3, twhat_4, c_12, ho_13, eo_13, c_14, c_15, yc_15, zc_15, hg, grd]; done) | (simp [sGreA, c_1, tu_2, c_3, twhat_4, c_12, ho_13, eo_13, c_14, c_15, yc_15, zc_15, hg, e9, grd]; done), _, _, _, _, _, _, _, _, rfl⟩) hP hD hS (by first | omega | decide) (by first | omega | decide) dX1_greedily_89
          · obtain rfl := c_15
            have zc_15 : (nI 0 = 0) = True := eq_true rfl
            refine lv_iload_n hx hb dX1_greedily_83 rfl (lv_at hl 2 rfl) ?_
            refine lv_goto (tgt := 89) hx hb dX1_greedily_84 (by decide) ?_
            exact n_iretW (v := v) (w1 := [(h, xO xa xi), (xa 0, fO fn r), (fn 0, qA G 3 9 wh), (fn 1, iA G 9 (fA r 2)), (fn 2, iA G 9 (fA r 3)), (fn 3, iA G 9 (fA r 4)), (fn 4, iA G 9 (fA r 5)), (xa 2, fO fm rm), (fm 0, qA G 3 9 wh), (fm 1, iA G 9 (fA rm 2)), (fm 2, iA G 9 (fA rm 3)), (fm 3, iA G 9 (fA rm 4)), (fm 4, iA G 9 (fA rm 5))]) C (⟨by first | (simp [sGreA, c_1, tu_2, c_3, twhat_4, c_12, ho_13, eo_13, c_14, zc_15]; done) | (simp [sGreA, c_1, tu_2, c_3, twhat_4, c_12, ho_13, eo_13, c_14, zc_15, hg, grd]; done) | (simp [sGreA, c_1, tu_2, c_3, twhat_4, c_12, ho_13, eo_13, c_14, zc_15, hg, e9, grd]; done), _, _, _, _, _, _, _, _, rfl⟩) hP hD hS (by first | omega | decide) (by first | omega | decide) dX1_greedily_89
        · have eo_13 : sBest rm N = nI (10 * qo_13.1 + qo_13.2) := by rw [sBest, ho_13]; rfl
          have go_13 := sBestO_in ho_13
          have uo_13 : (10 * qo_13.1 + qo_13.2) / 10 = qo_13.1 := by omega
          have vo_13 : (10 * qo_13.1 + qo_13.2) % 10 = qo_13.2 := by omega
          refine n_eqi eo_13 ?_
          refine lv_istore (lv' := [(5, .int (nI (10 * qo_13.1 + qo_13.2))), (4, .int (nI i)), (3, .int v), (0, .ref h), (1, .int (nI u_2)), (2, .int (nI what_4))]) hx hb dX1_greedily_43 hl (Nat.le_of_ble_eq_true rfl) rfl (fun ls hl => ?_)
          refine lv_iload hx hb dX1_greedily_45 (lv_at hl 0 rfl) ?_
          refine n_if_ge (x := 10 * qo_13.1 + qo_13.2) (tgt := 53) hx hb (by omega) dX1_greedily_47 (by decide) ?_
          refine lv_iload_n hx hb dX1_greedily_53 rfl (lv_at hl 2 rfl) ?_
          refine lv_aload_n hx hb dX1_greedily_54 rfl (lv_at hl 3 rfl) ?_
          refine va_get (D := gD G) (ci := 1) (v := .ref (xa 2)) (C := RX1) (T := TX1) (N := 9) hx hb hts in_X1 hown hK.1 hP 0 rfl rfl 2 (by decide) (hts _ q840) (fun _ h9 => h9) rfl dX1_greedily_55 ?_
          refine lv_iload hx hb dX1_greedily_58 (lv_at hl 0 rfl) ?_
          refine lv_bipush (v := 10) hx hb dX1_greedily_60 (by decide) ?_
          refine n_idiv hx hb (10 * qo_13.1 + qo_13.2) 10 (by omega) (by omega) (by omega) dX1_greedily_62 ?_
          refine n_eqi (congrArg nI (show (10 * qo_13.1 + qo_13.2) / 10 = qo_13.1 from uo_13)) ?_
          refine lv_iload hx hb dX1_greedily_63 (lv_at hl 0 rfl) ?_
          refine lv_bipush (v := 10) hx hb dX1_greedily_65 (by decide) ?_
          refine n_irem hx hb (10 * qo_13.1 + qo_13.2) 10 (by omega) (by omega) (by omega) dX1_greedily_67 ?_
          refine n_eqi (congrArg nI (show (10 * qo_13.1 + qo_13.2) % 10 = qo_13.2 from vo_13)) ?_
          refine c_VWk (wr := [(h, xO xa xi), (xa 0, fO fn r), (fn 0, qA G 3 9 wh), (fn 1, iA G 9 (fA r 2)), (fn 2, iA G 9 (fA r 3)), (fn 3, iA G 9 (fA r 4)), (fn 4, iA G 9 (fA r 5))]) (rest := [.int v]) C (metX2_eats l G (xa 2) fm gm wh rm N qo_13.1 qo_13.2 (by omega) (h0) (hw) (by omega) (by omega) (NG.of hGA hD [7, 8, 9, 10, 11, 12] rfl)) 2 (lw_V q398 q399 q400 q40 q401) (by decide +kernel) ⟨rfl, rfl⟩ ⟨(Nat.le_of_ble_eq_true rfl), (Nat.le_of_ble_eq_true rfl)⟩ (KG.call) (KG.at hK (hGP.kept hGA hS)) (va_recv hK.1 hP (ci := 2) (q0 := 7) rfl rfl) hA hP hD hS [7, 8, 9, 10, 11, 12] [0, 1, 2, 3, 4, 5, 6] rfl rfl rfl rfl (by decide) hl rfl rfl (Nat.le_of_ble_eq_true rfl) ⟨(Nat.le_of_ble_eq_true rfl), (Nat.le_of_ble_eq_true rfl)⟩ dX1_greedily_68 (fun r_16 w1 H locs hq_17 hP hD hS => ?_)
          obtain ⟨rfl, rfl⟩ := hq_17
          have hP : PP G [(h, xO xa xi), (xa 0, fO fn r), (fn 0, qA G 3 9 wh), (fn 1, iA G 9 (fA r 2)), (fn 2, iA G 9 (fA r 3)), (fn 3, iA G 9 (fA r 4)), (fn 4, iA G 9 (fA r 5)), (xa 2, fO fm (sTurn rm qo_13.1 qo_13.2)), (fm 0, qA G 3 9 wh), (fm 1, iA G 9 (fA (sTurn rm qo_13.1 qo_13.2) 2)), (fm 2, iA G 9 (fA (sTurn rm qo_13.1 qo_13.2) 3)), (fm 3, iA G 9 (fA (sTurn rm qo_13.1 qo_13.2) 4)), (fm 4, iA G 9 (fA (sTurn rm qo_13.1 qo_13.2) 5))] H := hP
          have hD : va_D A [(h, xO xa xi), (xa 0, fO fn r), (fn 0, qA G 3 9 wh), (fn 1, iA G 9 (fA r 2)), (fn 2, iA G 9 (fA r 3)), (fn 3, iA G 9 (fA r 4)), (fn 4, iA G 9 (fA r 5)), (xa 2, fO fm (sTurn rm qo_13.1 qo_13.2)), (fm 0, qA G 3 9 wh), (fm 1, iA G 9 (fA (sTurn rm qo_13.1 qo_13.2) 2)), (fm 2, iA G 9 (fA (sTurn rm qo_13.1 qo_13.2) 3)), (fm 3, iA G 9 (fA (sTurn rm qo_13.1 qo_13.2) 4)), (fm 4, iA G 9 (fA (sTurn rm qo_13.1 qo_13.2) 5))] := hD
          have hw_18 : WK gm wh (sTurn rm qo_13.1 qo_13.2) N := WK.turn hw
          have hr_19 : (sTurn rm qo_13.1 qo_13.2) 0 = nI N := (sTurn_0 rm qo_13.1 qo_13.2).trans h0
          refine lv_iadd (x := v) (y := sJoy rm qo_13.1 qo_13.2) hx hb dX1_greedily_71 ?_
          refine lv_istore_n (lv' := [(3, .int (v + (sJoy rm qo_13.1 qo_13.2))), (5, .int (nI (10 * qo_13.1 + qo_13.2))), (4, .int (nI i)), (0, .ref h), (1, .int (nI u_2)), (2, .int (nI what_4))]) hx hb dX1_greedily_72 rfl hl (Nat.le_of_ble_eq_true rfl) rfl (fun ls hl => ?_)
          refine n_iinc (k := 2) (lv' := [(4, .int (nI (i + 1))), (3, .int (v + (sJoy rm qo_13.1 qo_13.2))), (5, .int (nI (10 * qo_13.1 + qo_13.2))), (0, .ref h), (1, .int (nI u_2)), (2, .int (nI what_4))]) hx hb i 1 dX1_greedily_73 hl rfl (Nat.le_of_ble_eq_true rfl) rfl (fun ls hl => ?_)
          refine lv_goto (tgt := 30) hx hb dX1_greedily_76 (by decide) ?_
          exact ih_9 (i + 1) (by omega) (sTurn rm qo_13.1 qo_13.2) (v + (sJoy rm qo_13.1 qo_13.2)) _ _ (by exact hP.sub [0, 1, 2, 3, 4, 5, 6, 7, 8, 9, 10, 11, 12] rfl) (by exact hD.sub [0, 1, 2, 3, 4, 5, 6, 7, 8, 9, 10, 11, 12] (by decide) rfl) hS (by rw [hg, show u_2 - i = (u_2 - (i + 1)) + 1 by omega]; simp [grd, tu_2, twhat_4, c_12, ho_13, eo_13]) (hr_19) (hw_18) (hr2.turn (by omega) (by omega) (sBestO_eat ho_13)) ls (lv_sub hl [0, 1, 3, 4, 5] rfl)
    · refine lv_iconst (v := (-1)) hx hb dX1_greedily_19 (by decide) ?_
      exact n_iretW (v := (-1)) (w1 := [(h, xO xa xi), (xa 0, fO fn r), (fn 0, qA G 3 9 wh), (fn 1, iA G 9 (fA r 2)), (fn 2, iA G 9 (fA r 3)), (fn 3, iA G 9 (fA r 4)), (fn 4, iA G 9 (fA r 5)), (xa 2, fR fm j_0 j_1 j_2), (fm 0, qA G 3 9 j_w), (fm 1, iA G 9 j_a2), (fm 2, iA G 9 j_a3), (fm 3, iA G 9 j_a4), (fm 4, iA G 9 j_a5)]) C (⟨by first | (simp [sGreA, c_1, tu_2, c_3]; done) | (simp [sGreA, c_1, tu_2, c_3, hg, grd]; done) | (simp [sGreA, c_1, tu_2, c_3, hg, e9, grd]; done), _, _, _, _, _, _, _, _, rfl⟩) hP hD hS (by first | omega | decide) (by first | omega | decide) dX1_greedily_20

set_option maxHeartbeats 4000000 in
set_option maxRecDepth 100000 in
theorem metX1_seen (l : Launch) (G : GG) (h : Nat) (xa : Nat → Nat) (xi : Nat → Int32) (fn : Nat → Nat) (gm : GM) (wh : Nat → Option Nat) (r : Nat → Int32) (N : Nat) (x : Int32) (hN : N ≤ 8) (hr : r 0 = nI N) (hwk : WK gm wh r N) : MR l yX1_seen cX1_seen 4 (some .int) ({ frames := 7, cells := 0, slots := 0, locals := 221 }) [.ref h, .int x] [(h, xO xa xi), (xa 0, fO fn r), (fn 0, qA G 3 9 wh), (fn 1, iA G 9 (fA r 2)), (fn 2, iA G 9 (fA r 3)), (fn 3, iA G 9 (fA r 4)), (fn 4, iA G 9 (fA r 5))] G (KG G gm) (sSeenX r N x) := by
  -- rows printed by wip/tools/gen.py
  refine mr_mk RX1 (by decide) rfl (Nat.le_of_ble_eq_true rfl) ?_
  intro p0_ e0_ s m args below meth c C hP hK ls hl
  have hGP := hK.2
  have hK := hK.1
  have hx := C.1
  have hb := C.2.1
  have hml := C.2.2.2.2.1
  have hown := C.2.2.2.2.2.1
  have hts := C.2.2.2.2.2.2
  have hl : lv_has ls 4 [(0, .ref h), (1, .int x)] := hl
  have h2N := pow_le9 (N := N) (by omega)
  refine lv_iload_n hx hb dX1_seen_0 rfl (lv_at hl 1 rfl) ?_
  refine lv_if_lt (x := x) (tgt := 17) hx hb dX1_seen_1 (by decide) (fun c_1 => ?_) (fun c_1 => ?_)
  · have zc_1 : ¬ 0 ≤ x := Int32.not_le.mpr c_1
    refine lv_iconst (v := (-1)) hx hb dX1_seen_17 (by decide) ?_
    exact n_iret (v := (-1)) C (by first | (simp [sSeenX, c_1, zc_1]; done) | (simp [sSeenX, hsb, c_1, zc_1]; done) | (rw [sSeenX, seB_any (i := i) (by omega) (by simp [seB, bit1, hsb, c_1, zc_1])]; simp [c_1, zc_1])) dX1_seen_18
  · have zc_1 : 0 ≤ x := Int32.not_lt.mp c_1
    refine lv_iload_n hx hb dX1_seen_4 rfl (lv_at hl 1 rfl) ?_
    refine lv_iconst (v := 1) hx hb dX1_seen_5 (by decide) ?_
    refine lv_aload_n hx hb dX1_seen_6 rfl (lv_at hl 0 rfl) ?_
    refine va_get (D := gD G) (ci := 1) (v := .ref (xa 0)) (C := RX1) (T := TX1) (N := 9) hx hb hts in_X1 hown hK.1 hP 0 rfl rfl 0 (by decide) (hts _ q838) (fun _ h9 => h9) rfl dX1_seen_7 ?_
    refine va_get (D := gD G) (ci := 2) (v := .int (r 0)) (C := RX2) (T := TX2) (N := 8) hx hb hts in_X2 hown hK.1 hP 1 rfl rfl 5 (by decide) (hts _ q803) (fun _ h9 => h9) rfl dX1_seen_10 ?_
    refine n_eqi (hr) ?_
    refine lv_ishl (x := 1) (y := nI N) hx hb dX1_seen_13 ?_
    refine n_eqi (shl1 N (by omega)) ?_
    refine lv_icmp_lt (x := x) (y := nI (2 ^ N)) (tgt := 19) hx hb dX1_seen_14 (by decide) (fun c_2 => ?_) (fun c_2 => ?_)
    · have zc_2 : ¬ (nI (2 ^ N)) ≤ x := Int32.not_le.mpr c_2
      refine lv_iconst (v := 0) hx hb dX1_seen_19 (by decide) ?_
      refine lv_istore_n (lv' := [(2, .int 0), (0, .ref h), (1, .int x)]) hx hb dX1_seen_20 rfl hl (Nat.le_of_ble_eq_true rfl) rfl (fun ls hl => ?_)
      refine lv_iconst (v := 0) hx hb dX1_seen_21 (by decide) ?_
      refine lv_istore_n (lv' := [(3, .int 0), (2, .int 0), (0, .ref h), (1, .int x)]) hx hb dX1_seen_22 rfl hl (Nat.le_of_ble_eq_true rfl) rfl (fun ls hl => ?_)
      suffices hlp_3 : (∀ (n i : Nat), i + n = N → ∀ (ls : Array Slot), lv_has ls 4 [(3, .int (nI i)), (2, .int (seN r x i)), (0, .ref h), (1, .int x)] → W p0_ l e0_ ({ frames := 7, cells := 0, slots := 0, locals := 221 } : Room) s m args below meth c s.heap [] (0) (0) (MQ below (vp_Si (fun rr9 => rr9 = sSeenX r N x)) args s 0 0 (fun _ => False)) (F0 m 23 ls [])) by
        exact hlp_3 (N) 0 (by omega) ls (lv_sub hl [0, 1, 2, 3] rfl)
      have hend_3 : ∀ (ls : Array Slot), lv_has ls 4 [(3, .int (nI N)), (2, .int (seN r x N)), (0, .ref h), (1, .int x)] → W p0_ l e0_ ({ frames := 7, cells := 0, slots := 0, locals := 221 } : Room) s m args below meth c s.heap [] (0) (0) (MQ below (vp_Si (fun rr9 => rr9 = sSeenX r N x)) args s 0 0 (fun _ => False)) (F0 m 23 ls []) := by
        intro ls hl
        refine lv_iload_n hx hb dX1_seen_23 rfl (lv_at hl 0 rfl) ?_
        refine lv_aload_n hx hb dX1_seen_24 rfl (lv_at hl 2 rfl) ?_
        refine va_get (D := gD G) (ci := 1) (v := .ref (xa 0)) (C := RX1) (T := TX1) (N := 9) hx hb hts in_X1 hown hK.1 hP 0 rfl rfl 0 (by decide) (hts _ q838) (fun _ h9 => h9) rfl dX1_seen_25 ?_
        refine va_get (D := gD G) (ci := 2) (v := .int (r 0)) (C := RX2) (T := TX2) (N := 8) hx hb hts in_X2 hown hK.1 hP 1 rfl rfl 5 (by decide) (hts _ q803) (fun _ h9 => h9) rfl dX1_seen_28 ?_
        refine n_eqi (hr) ?_
        refine n_ic_ge (x := N) (y := N) (tgt := 67) hx hb (by omega) (by omega) dX1_seen_31 (by decide) (fun c_4 => ?_) (fun c_4 => absurd c_4 (by omega))
        refine lv_iconst (v := 0) hx hb dX1_seen_67 (by decide) ?_
        refine lv_istore_n (lv' := [(3, .int 0), (2, .int (seN r x N)), (0, .ref h), (1, .int x)]) hx hb dX1_seen_68 rfl hl (Nat.le_of_ble_eq_true rfl) rfl (fun ls hl => ?_)
        suffices hlp_5 : (∀ (n i : Nat), i + n = N → (seB r x i = false) → ∀ (ls : Array Slot), lv_has ls 4 [(3, .int (nI i)), (2, .int (seN r x N)), (0, .ref h), (1, .int x)] → W p0_ l e0_ ({ frames := 7, cells := 0, slots := 0, locals := 221 } : Room) s m args below meth c s.heap [] (0) (0) (MQ below (vp_Si (fun rr9 => rr9 = sSeenX r N x)) args s 0 0 (fun _ => False)) (F0 m 69 ls [])) by
          exact hlp_5 (N) 0 (by omega) (rfl) ls (lv_sub hl [0, 1, 2, 3] rfl)
        have hend_5 : (seB r x N = false) → ∀ (ls : Array Slot), lv_has ls 4 [(3, .int (nI N)), (2, .int (seN r x N)), (0, .ref h), (1, .int x)] → W p0_ l e0_ ({ frames := 7, cells := 0, slots := 0, locals := 221 } : Room) s m args below meth c s.heap [] (0) (0) (MQ below (vp_Si (fun rr9 => rr9 = sSeenX r N x)) args s 0 0 (fun _ => False)) (F0 m 69 ls []) := by
          intro hsb ls hl
          refine lv_iload_n hx hb dX1_seen_69 rfl (lv_at hl 0 rfl) ?_
          refine lv_aload_n hx hb dX1_seen_70 rfl (lv_at hl 2 rfl) ?_
          refine va_get (D := gD G) (ci := 1) (v := .ref (xa 0)) (C := RX1) (T := TX1) (N := 9) hx hb hts in_X1 hown hK.1 hP 0 rfl rfl 0 (by decide) (hts _ q838) (fun _ h9 => h9) rfl dX1_seen_71 ?_
          refine va_get (D := gD G) (ci := 2) (v := .int (r 0)) (C := RX2) (T := TX2) (N := 8) hx hb hts in_X2 hown hK.1 hP 1 rfl rfl 5 (by decide) (hts _ q803) (fun _ h9 => h9) rfl dX1_seen_74 ?_
          refine n_eqi (hr) ?_
          refine n_ic_ge (x := N) (y := N) (tgt := 118) hx hb (by omega) (by omega) dX1_seen_77 (by decide) (fun c_6 => ?_) (fun c_6 => absurd c_6 (by omega))
          refine lv_iload_n hx hb dX1_seen_118 rfl (lv_at hl 1 rfl) ?_
          exact n_iret (v := seN r x N) C (by first | (simp [sSeenX, c_1, zc_1, c_2, zc_2, c_4, c_6]; done) | (simp [sSeenX, hsb, c_1, zc_1, c_2, zc_2, c_4, c_6]; done) | (rw [sSeenX, seB_any (i := i) (by omega) (by simp [seB, bit1, hsb, c_1, zc_1, c_2, zc_2, c_4, c_6])]; simp [c_1, zc_1, c_2, zc_2, c_4, c_6])) dX1_seen_119
        intro n
        induction n with
        | zero =>
          intro i hi_5 hsb ls hl
          obtain e_5 : i = N := by omega
          first | (subst e_5; exact hend_5 hsb ls hl) | (rw [e_5] at hl; exact hend_5 hsb ls hl)
        | succ n ih_5 =>
          intro i hi_5 hsb ls hl
          refine lv_iload_n hx hb dX1_seen_69 rfl (lv_at hl 0 rfl) ?_
          refine lv_aload_n hx hb dX1_seen_70 rfl (lv_at hl 2 rfl) ?_
          refine va_get (D := gD G) (ci := 1) (v := .ref (xa 0)) (C := RX1) (T := TX1) (N := 9) hx hb hts in_X1 hown hK.1 hP 0 rfl rfl 0 (by decide) (hts _ q838) (fun _ h9 => h9) rfl dX1_seen_71 ?_
          refine va_get (D := gD G) (ci := 2) (v := .int (r 0)) (C := RX2) (T := TX2) (N := 8) hx hb hts in_X2 hown hK.1 hP 1 rfl rfl 5 (by decide) (hts _ q803) (fun _ h9 => h9) rfl dX1_seen_74 ?_
          refine n_eqi (hr) ?_
          refine n_ic_ge (x := i) (y := N) (tgt := 118) hx hb (by omega) (by omega) dX1_seen_77 (by decide) (fun c_7 => absurd c_7 (by omega)) (fun c_7 => ?_)
          refine lv_iload_n hx hb dX1_seen_80 rfl (lv_at hl 3 rfl) ?_
          refine lv_iload_n hx hb dX1_seen_81 rfl (lv_at hl 0 rfl) ?_
          refine c_S (rest := []) C (metX1_hasN l G x i) 2 (lw_S q596 q597 q39 q598) (by decide +kernel) ⟨rfl, rfl⟩ ⟨(Nat.le_of_ble_eq_true rfl), (Nat.le_of_ble_eq_true rfl)⟩ (KM_mv G) (hP.sub (ws' := []) [] rfl) hK.1 hl rfl rfl (Nat.le_of_ble_eq_true rfl) ⟨(Nat.le_of_ble_eq_true rfl), (Nat.le_of_ble_eq_true rfl)⟩ dX1_seen_82 ?_
          refine n_if_eqB (b := (sBt x i)) (tgt := 112) hx hb dX1_seen_85 (by decide) (fun c_8 => ?_) (fun c_8 => ?_)
          · refine n_iinc (k := 0) (lv' := [(3, .int (nI (i + 1))), (2, .int (seN r x N)), (0, .ref h), (1, .int x)]) hx hb i 1 dX1_seen_112 hl rfl (Nat.le_of_ble_eq_true rfl) rfl (fun ls hl => ?_)
            refine lv_goto (tgt := 69) hx hb dX1_seen_115 (by decide) ?_
            exact ih_5 (i + 1) (by omega) (by simp [seB, bit1, hsb, c_7, c_8]) ls (lv_sub hl [0, 1, 2, 3] rfl)
          · refine lv_aload_n hx hb dX1_seen_88 rfl (lv_at hl 2 rfl) ?_
            refine va_get (D := gD G) (ci := 1) (v := .ref (xa 0)) (C := RX1) (T := TX1) (N := 9) hx hb hts in_X1 hown hK.1 hP 0 rfl rfl 0 (by decide) (hts _ q838) (fun _ h9 => h9) rfl dX1_seen_89 ?_
            refine va_get (D := gD G) (ci := 2) (v := .int (r 1)) (C := RX2) (T := TX2) (N := 8) hx hb hts in_X2 hown hK.1 hP 1 rfl rfl 6 (by decide) (hts _ q805) (fun _ h9 => h9) rfl dX1_seen_92 ?_
            refine lv_if_eq (x := r 1) (tgt := 110) hx hb dX1_seen_95 (by decide) (fun c_9 => ?_) (fun c_9 => ?_)
            · refine lv_iconst (v := 0) hx hb dX1_seen_110 (by decide) ?_
              exact n_iret (v := 0) C (by first | (simp [sSeenX, c_1, zc_1, c_2, zc_2, c_4, c_7, c_8, c_9]; done) | (simp [sSeenX, hsb, c_1, zc_1, c_2, zc_2, c_4, c_7, c_8, c_9]; done) | (rw [sSeenX, seB_any (i := i) (by omega) (by simp [seB, bit1, hsb, c_1, zc_1, c_2, zc_2, c_4, c_7, c_8, c_9])]; simp [c_1, zc_1, c_2, zc_2, c_4, c_7, c_8, c_9])) dX1_seen_111
            · refine lv_aload_n hx hb dX1_seen_98 rfl (lv_at hl 2 rfl) ?_
              refine va_get (D := gD G) (ci := 1) (v := .ref (xa 0)) (C := RX1) (T := TX1) (N := 9) hx hb hts in_X1 hown hK.1 hP 0 rfl rfl 0 (by decide) (hts _ q838) (fun _ h9 => h9) rfl dX1_seen_99 ?_
              refine va_get (D := gD G) (ci := 2) (v := .ref (fn 1)) (C := RX2) (T := TX2) (N := 8) hx hb hts in_X2 hown hK.1 hP 1 rfl rfl 1 (by decide) (hts _ q795) (fun _ h9 => h9) rfl dX1_seen_102 ?_
              refine lv_iload_n hx hb dX1_seen_105 rfl (lv_at hl 0 rfl) ?_
              refine n_iald C hK.1 hP 3 i rfl (by omega) (by omega) dX1_seen_106 ?_
              refine lv_if_ne (x := r (3 + 6 * i + 2)) (tgt := 112) hx hb dX1_seen_107 (by decide) (fun c_10 => ?_) (fun c_10 => ?_)
              · refine n_iinc (k := 0) (lv' := [(3, .int (nI (i + 1))), (2, .int (seN r x N)), (0, .ref h), (1, .int x)]) hx hb i 1 dX1_seen_112 hl rfl (Nat.le_of_ble_eq_true rfl) rfl (fun ls hl => ?_)
                refine lv_goto (tgt := 69) hx hb dX1_seen_115 (by decide) ?_
                exact ih_5 (i + 1) (by omega) (by simp [seB, bit1, hsb, c_7, c_8, c_9, c_10]) ls (lv_sub hl [0, 1, 2, 3] rfl)
              · refine lv_iconst (v := 0) hx hb dX1_seen_110 (by decide) ?_
                exact n_iret (v := 0) C (by first | (simp [sSeenX, c_1, zc_1, c_2, zc_2, c_4, c_7, c_8, c_9, c_10]; done) | (simp [sSeenX, hsb, c_1, zc_1, c_2, zc_2, c_4, c_7, c_8, c_9, c_10]; done) | (rw [sSeenX, seB_any (i := i) (by omega) (by simp [seB, bit1, hsb, c_1, zc_1, c_2, zc_2, c_4, c_7, c_8, c_9, c_10])]; simp [c_1, zc_1, c_2, zc_2, c_4, c_7, c_8, c_9, c_10])) dX1_seen_111
      intro n
      induction n with
      | zero =>
        intro i hi_3 ls hl
        obtain e_3 : i = N := by omega
        first | (subst e_3; exact hend_3 ls hl) | (rw [e_3] at hl; exact hend_3 ls hl)
      | succ n ih_3 =>
        intro i hi_3 ls hl
        refine lv_iload_n hx hb dX1_seen_23 rfl (lv_at hl 0 rfl) ?_
        refine lv_aload_n hx hb dX1_seen_24 rfl (lv_at hl 2 rfl) ?_
        refine va_get (D := gD G) (ci := 1) (v := .ref (xa 0)) (C := RX1) (T := TX1) (N := 9) hx hb hts in_X1 hown hK.1 hP 0 rfl rfl 0 (by decide) (hts _ q838) (fun _ h9 => h9) rfl dX1_seen_25 ?_
        refine va_get (D := gD G) (ci := 2) (v := .int (r 0)) (C := RX2) (T := TX2) (N := 8) hx hb hts in_X2 hown hK.1 hP 1 rfl rfl 5 (by decide) (hts _ q803) (fun _ h9 => h9) rfl dX1_seen_28 ?_
        refine n_eqi (hr) ?_
        refine n_ic_ge (x := i) (y := N) (tgt := 67) hx hb (by omega) (by omega) dX1_seen_31 (by decide) (fun c_11 => absurd c_11 (by omega)) (fun c_11 => ?_)
        refine lv_iload_n hx hb dX1_seen_34 rfl (lv_at hl 1 rfl) ?_
        refine lv_iload_n hx hb dX1_seen_35 rfl (lv_at hl 3 rfl) ?_
        refine lv_iload_n hx hb dX1_seen_36 rfl (lv_at hl 0 rfl) ?_
        refine c_S (rest := [.int (seN r x i)]) C (metX1_hasN l G x i) 2 (lw_S q596 q597 q39 q598) (by decide +kernel) ⟨rfl, rfl⟩ ⟨(Nat.le_of_ble_eq_true rfl), (Nat.le_of_ble_eq_true rfl)⟩ (KM_mv G) (hP.sub (ws' := []) [] rfl) hK.1 hl rfl rfl (Nat.le_of_ble_eq_true rfl) ⟨(Nat.le_of_ble_eq_true rfl), (Nat.le_of_ble_eq_true rfl)⟩ dX1_seen_37 ?_
        refine n_if_neB (b := (sBt x i)) (tgt := 58) hx hb dX1_seen_40 (by decide) (fun c_12 => ?_) (fun c_12 => ?_)
        · refine lv_iconst (v := 0) hx hb dX1_seen_58 (by decide) ?_
          refine lv_iadd (x := seN r x i) (y := 0) hx hb dX1_seen_59 ?_
          refine lv_istore_n (lv' := [(2, .int ((seN r x i) + 0)), (3, .int (nI i)), (0, .ref h), (1, .int x)]) hx hb dX1_seen_60 rfl hl (Nat.le_of_ble_eq_true rfl) rfl (fun ls hl => ?_)
          refine n_iinc (k := 1) (lv' := [(3, .int (nI (i + 1))), (2, .int ((seN r x i) + 0)), (0, .ref h), (1, .int x)]) hx hb i 1 dX1_seen_61 hl rfl (Nat.le_of_ble_eq_true rfl) rfl (fun ls hl => ?_)
          refine lv_goto (tgt := 23) hx hb dX1_seen_64 (by decide) ?_
          have e_13 : seN r x (i + 1) = (seN r x i) + 0 := by simp [seN, bit0, c_11, c_12]
          exact ih_3 (i + 1) (by omega) ls (by rw [e_13]; exact lv_sub hl [0, 1, 2, 3] rfl)
        · refine lv_aload_n hx hb dX1_seen_43 rfl (lv_at hl 2 rfl) ?_
          refine va_get (D := gD G) (ci := 1) (v := .ref (xa 0)) (C := RX1) (T := TX1) (N := 9) hx hb hts in_X1 hown hK.1 hP 0 rfl rfl 0 (by decide) (hts _ q838) (fun _ h9 => h9) rfl dX1_seen_44 ?_
          refine lv_iload_n hx hb dX1_seen_47 rfl (lv_at hl 0 rfl) ?_
          refine c_Vk (rest := [.int (seN r x i)]) C (metX2_canLook l G (xa 0) fn gm wh r N i (by omega) (hr) (hwk) (by omega)) 1 (lw_V q626 q381 q382 q40 q383) (by decide +kernel) ⟨rfl, rfl⟩ ⟨(Nat.le_of_ble_eq_true rfl), (Nat.le_of_ble_eq_true rfl)⟩ (KG.call) (va_recv hK.1 hP (ci := 2) (q0 := 1) rfl rfl) (hP.sub (ws' := [(xa 0, fO fn r), (fn 0, qA G 3 9 wh), (fn 1, iA G 9 (fA r 2)), (fn 2, iA G 9 (fA r 3)), (fn 3, iA G 9 (fA r 4)), (fn 4, iA G 9 (fA r 5))]) [1, 2, 3, 4, 5, 6] rfl) (KG.at hK hGP) hl rfl rfl (Nat.le_of_ble_eq_true rfl) ⟨(Nat.le_of_ble_eq_true rfl), (Nat.le_of_ble_eq_true rfl)⟩ dX1_seen_48 ?_
          refine n_if_eqB (b := (sLook r i)) (tgt := 58) hx hb dX1_seen_51 (by decide) (fun c_14 => ?_) (fun c_14 => ?_)
          · refine lv_iconst (v := 0) hx hb dX1_seen_58 (by decide) ?_
            refine lv_iadd (x := seN r x i) (y := 0) hx hb dX1_seen_59 ?_
            refine lv_istore_n (lv' := [(2, .int ((seN r x i) + 0)), (3, .int (nI i)), (0, .ref h), (1, .int x)]) hx hb dX1_seen_60 rfl hl (Nat.le_of_ble_eq_true rfl) rfl (fun ls hl => ?_)
            refine n_iinc (k := 1) (lv' := [(3, .int (nI (i + 1))), (2, .int ((seN r x i) + 0)), (0, .ref h), (1, .int x)]) hx hb i 1 dX1_seen_61 hl rfl (Nat.le_of_ble_eq_true rfl) rfl (fun ls hl => ?_)
            refine lv_goto (tgt := 23) hx hb dX1_seen_64 (by decide) ?_
            have e_15 : seN r x (i + 1) = (seN r x i) + 0 := by simp [seN, bit0, c_11, c_12, c_14]
            exact ih_3 (i + 1) (by omega) ls (by rw [e_15]; exact lv_sub hl [0, 1, 2, 3] rfl)
          · refine lv_iconst (v := 1) hx hb dX1_seen_54 (by decide) ?_
            refine lv_goto (tgt := 59) hx hb dX1_seen_55 (by decide) ?_
            refine lv_iadd (x := seN r x i) (y := 1) hx hb dX1_seen_59 ?_
            refine lv_istore_n (lv' := [(2, .int ((seN r x i) + 1)), (3, .int (nI i)), (0, .ref h), (1, .int x)]) hx hb dX1_seen_60 rfl hl (Nat.le_of_ble_eq_true rfl) rfl (fun ls hl => ?_)
            refine n_iinc (k := 1) (lv' := [(3, .int (nI (i + 1))), (2, .int ((seN r x i) + 1)), (0, .ref h), (1, .int x)]) hx hb i 1 dX1_seen_61 hl rfl (Nat.le_of_ble_eq_true rfl) rfl (fun ls hl => ?_)
            refine lv_goto (tgt := 23) hx hb dX1_seen_64 (by decide) ?_
            have e_16 : seN r x (i + 1) = (seN r x i) + 1 := by simp [seN, bit0, c_11, c_12, c_14]
            exact ih_3 (i + 1) (by omega) ls (by rw [e_16]; exact lv_sub hl [0, 1, 2, 3] rfl)
    · have zc_2 : (nI (2 ^ N)) ≤ x := Int32.not_lt.mp c_2
      refine lv_iconst (v := (-1)) hx hb dX1_seen_17 (by decide) ?_
      exact n_iret (v := (-1)) C (by first | (simp [sSeenX, c_1, zc_1, c_2, zc_2]; done) | (simp [sSeenX, hsb, c_1, zc_1, c_2, zc_2]; done) | (rw [sSeenX, seB_any (i := i) (by omega) (by simp [seB, bit1, hsb, c_1, zc_1, c_2, zc_2])]; simp [c_1, zc_1, c_2, zc_2])) dX1_seen_18

set_option maxHeartbeats 4000000 in
set_option maxRecDepth 100000 in
theorem metX1_draw (l : Launch) (G : GG) (h : Nat) (xa : Nat → Nat) (xi : Nat → Int32) (z : Int32) (N : Nat) (hN : 0 < N ∧ N ≤ 9) : MW l yX1_draw cX1_draw 2 (some .int) ({ frames := 0, cells := 0, slots := 0, locals := 0 }) [.ref h, .int (nI N)] [(h, xO xa (upd xi 7 z))] G (KM G) 0 0 (fun rv w1 => rv = nI (sRnd z N) ∧ w1 = [(h, xO xa (upd xi 7 (sDraw z)))]) := by
  -- rows printed by wip/tools/gen.py
  refine mw_mk RX1 (by decide) rfl (Nat.le_of_ble_eq_true rfl) ?_
  intro p0_ e0_ s m args below meth c A C hA hP hK hD ls hl
  have hx := C.1
  have hb := C.2.1
  have hml := C.2.2.2.2.1
  have hown := C.2.2.2.2.2.1
  have hts := C.2.2.2.2.2.2
  have hS : va_S A s.heap s.heap [] := va_S.rf
  have hl : lv_has ls 2 [(0, .ref h), (1, .int (nI N))] := hl
  refine lv_aload_n hx hb dX1_draw_0 rfl (lv_at hl 0 rfl) ?_
  refine lv_aload_n hx hb dX1_draw_1 rfl (lv_at hl 0 rfl) ?_
  refine va_get (D := gD G) (ci := 1) (v := .int z) (C := RX1) (T := TX1) (N := 9) hx hb hts in_X1 hown hK hP 0 rfl rfl 7 (by decide) (hts _ q845) (fun _ h9 => h9) rfl dX1_draw_2 ?_
  refine lv_ldcw (own := RX1) (v := 1103515245) hx hb hown (hts _ q764) dX1_draw_5 ?_
  refine lv_imul (x := z) (y := 1103515245) hx hb dX1_draw_8 ?_
  refine lv_sipush (v := 12345) hx hb dX1_draw_9 (by decide) ?_
  refine lv_iadd (x := z * 1103515245) (y := 12345) hx hb dX1_draw_12 ?_
  refine n_eqi ((sDraw_eq z).symm) ?_
  refine lv_topi (fun yv_1 eyv_1 => ?_)
  refine va_put (D := gD G) (ci := 1) (v := .int yv_1) (ty := .int) (C := RX1) (T := TX1) (N := 9) hx hb hts in_X1 tyX1 tyX1_ok nmX1 hown hK hP hD hS 0 rfl rfl 7 (by decide) (hts _ q845) (fun _ h9 => h9) rfl (by decide +kernel) rfl rfl (Nat.le_of_ble_eq_true rfl) dX1_draw_13 (fun H locs hP hD hS => ?_)
  have hP : PP G [(h, xO xa (upd xi 7 yv_1))] H := hP
  have hD : va_D A [(h, xO xa (upd xi 7 yv_1))] := hD
  subst eyv_1
  refine lv_aload_n hx hb dX1_draw_16 rfl (lv_at hl 0 rfl) ?_
  refine va_get (D := gD G) (ci := 1) (v := .int (sDraw z)) (C := RX1) (T := TX1) (N := 9) hx hb hts in_X1 hown hK hP 0 rfl rfl 7 (by decide) (hts _ q845) (fun _ h9 => h9) rfl dX1_draw_17 ?_
  refine lv_ldcw (own := RX1) (v := 2147483647) hx hb hown (hts _ q765) dX1_draw_20 ?_
  refine lv_iand (x := sDraw z) (y := 2147483647) hx hb dX1_draw_23 ?_
  refine lv_ldcw (own := RX1) (v := 65536) hx hb hown (hts _ q766) dX1_draw_24 ?_
  refine lv_idiv (x := (sDraw z) &&& 2147483647) (y := 65536) hx hb dX1_draw_27 (by decide) ?_
  refine lv_iload_n hx hb dX1_draw_28 rfl (lv_at hl 1 rfl) ?_
  refine lv_irem (x := ((sDraw z) &&& 2147483647) / 65536) (y := nI N) hx hb dX1_draw_29 (nI_ne0 hN.1 (by omega)) ?_
  exact n_iretW (v := (((sDraw z) &&& 2147483647) / 65536) - (((sDraw z) &&& 2147483647) / 65536) / (nI N) * (nI N)) (w1 := [(h, xO xa (upd xi 7 (sDraw z)))]) C (⟨drw z hN.1 hN.2, rfl⟩) hP hD hS (by first | omega | decide) (by first | omega | decide) dX1_draw_30

set_option maxHeartbeats 4000000 in
set_option maxRecDepth 100000 in
theorem metX1_atAll (l : Launch) (G : GG) (h : Nat) (xa : Nat → Nat) (xi : Nat → Int32) (fn : Nat → Nat) (gm : GM) (wh : Nat → Option Nat) (r : Nat → Int32) (N : Nat) (what : Int32) (hN : N ≤ 8) (hr : r 0 = nI N) (hwk : WK gm wh r N) : MR l yX1_atAll cX1_atAll 5 (some .int) ({ frames := 8, cells := 0, slots := 0, locals := 243 }) [.ref h, .int what] [(h, xO xa xi), (xa 0, fO fn r), (fn 0, qA G 3 9 wh), (fn 1, iA G 9 (fA r 2)), (fn 2, iA G 9 (fA r 3)), (fn 3, iA G 9 (fA r 4)), (fn 4, iA G 9 (fA r 5))] G (KG G gm) (sAtAllX r N what) := by
  -- rows printed by wip/tools/gen.py
  refine mr_mk RX1 (by decide) rfl (Nat.le_of_ble_eq_true rfl) ?_
  intro p0_ e0_ s m args below meth c C hP hK ls hl
  have hGP := hK.2
  have hK := hK.1
  have hx := C.1
  have hb := C.2.1
  have hml := C.2.2.2.2.1
  have hown := C.2.2.2.2.2.1
  have hts := C.2.2.2.2.2.2
  have hl : lv_has ls 5 [(0, .ref h), (1, .int what)] := hl
  refine lv_iload_n hx hb dX1_atAll_0 rfl (lv_at hl 1 rfl) ?_
  refine lv_iconst (v := 0) hx hb dX1_atAll_1 (by decide) ?_
  refine lv_iconst (v := 1) hx hb dX1_atAll_2 (by decide) ?_
  refine c_S (rest := []) C (metX1_isIn l G what 0 1) 3 (lw_S q171 q172 q39 q173) (by decide +kernel) ⟨rfl, rfl⟩ ⟨(Nat.le_of_ble_eq_true rfl), (Nat.le_of_ble_eq_true rfl)⟩ (KM_mv G) (hP.sub (ws' := []) [] rfl) hK.1 hl rfl rfl (Nat.le_of_ble_eq_true rfl) ⟨(Nat.le_of_ble_eq_true rfl), (Nat.le_of_ble_eq_true rfl)⟩ dX1_atAll_3 ?_
  refine n_if_neB (b := (sIn what 0 1)) (tgt := 11) hx hb dX1_atAll_6 (by decide) (fun c_1 => ?_) (fun c_1 => ?_)
  · obtain ⟨what_2, hwhat_2, gwhat_2, rfl⟩ := sIn_t (a := 0) (b := 1) (by omega) (by omega) c_1
    have twhat_2 : tn (nI what_2) = what_2 := nI_clamp (by omega)
    refine lv_aload_n hx hb dX1_atAll_11 rfl (lv_at hl 0 rfl) ?_
    refine c_Vk (rest := []) C (metX1_left l G h xa xi fn gm wh r N (by omega) (hr) (hwk)) 0 (lw_V q622 q624 qs14 q39 q625) (by decide +kernel) ⟨rfl, rfl⟩ ⟨(Nat.le_of_ble_eq_true rfl), (Nat.le_of_ble_eq_true rfl)⟩ (KG.call) (va_recv hK.1 hP (ci := 1) (q0 := 0) rfl rfl) hP (KG.at hK hGP) hl rfl rfl (Nat.le_of_ble_eq_true rfl) ⟨(Nat.le_of_ble_eq_true rfl), (Nat.le_of_ble_eq_true rfl)⟩ dX1_atAll_12 ?_
    refine lv_istore_n (lv' := [(2, .int (encL (aF r N))), (0, .ref h), (1, .int (nI what_2))]) hx hb dX1_atAll_15 rfl hl (Nat.le_of_ble_eq_true rfl) rfl (fun ls hl => ?_)
    rcases ho_3 : aF r N with _ | bo_3
    · rw [ho_3] at hl
      have hl : lv_has ls 5 [(2, .int (-4)), (0, .ref h), (1, .int (nI what_2))] := hl
      refine lv_iload_n hx hb dX1_atAll_16 rfl (lv_at hl 2 rfl) ?_
      refine lv_iconst (v := 1) hx hb dX1_atAll_17 (by decide) ?_
      refine n_ic_eq (x := what_2) (y := 1) (tgt := 25) hx hb (by omega) (by omega) dX1_atAll_18 (by decide) (fun c_4 => ?_) (fun c_4 => ?_)
      · obtain rfl := c_4
        have zc_4 : (nI 1 = 1) = True := eq_true rfl
        refine lv_iload_n hx hb dX1_atAll_25 rfl (lv_at hl 2 rfl) ?_
        refine lv_iconst (v := 1) hx hb dX1_atAll_26 (by decide) ?_
        refine n_ic_ne (x := 1) (y := 1) (tgt := 34) hx hb (by omega) (by omega) dX1_atAll_27 (by decide) (fun c_5 => absurd c_5 (by omega)) (fun c_5 => ?_)
        refine lv_iload_n hx hb dX1_atAll_30 rfl (lv_at hl 0 rfl) ?_
        refine lv_goto (tgt := 35) hx hb dX1_atAll_31 (by decide) ?_
        exact n_iret (v := (-4)) C (by simp [sAtAllX, encLN, encLS, c_1, twhat_2, ho_3, zc_4, c_5]) dX1_atAll_35
      · have zc_4 : ¬ nI what_2 = 1 := fun q => c_4 ((nI_eq (by omega) (by omega)).mp q)
        refine lv_iload_n hx hb dX1_atAll_21 rfl (lv_at hl 0 rfl) ?_
        refine lv_if_ge (x := (-4)) (tgt := 36) hx hb dX1_atAll_22 (by decide) (fun c_6 => absurd c_6 (by decide)) (fun c_6 => ?_)
        refine lv_iload_n hx hb dX1_atAll_25 rfl (lv_at hl 2 rfl) ?_
        refine lv_iconst (v := 1) hx hb dX1_atAll_26 (by decide) ?_
        refine n_ic_ne (x := what_2) (y := 1) (tgt := 34) hx hb (by omega) (by omega) dX1_atAll_27 (by decide) (fun c_7 => ?_) (fun c_7 => absurd c_7 (by omega))
        refine lv_iconst (v := 0) hx hb dX1_atAll_34 (by decide) ?_
        exact n_iret (v := 0) C (by simp [sAtAllX, encLN, encLS, c_1, twhat_2, ho_3, c_4, zc_4, c_6, c_7]) dX1_atAll_35
    · rw [ho_3] at hl
      have hl : lv_has ls 5 [(2, .int (nI bo_3)), (0, .ref h), (1, .int (nI what_2))] := hl
      have go_3 := aF_in _ _ ho_3
      refine lv_iload_n hx hb dX1_atAll_16 rfl (lv_at hl 2 rfl) ?_
      refine lv_iconst (v := 1) hx hb dX1_atAll_17 (by decide) ?_
      refine n_ic_eq (x := what_2) (y := 1) (tgt := 25) hx hb (by omega) (by omega) dX1_atAll_18 (by decide) (fun c_8 => ?_) (fun c_8 => ?_)
      · obtain rfl := c_8
        have zc_8 : (nI 1 = 1) = True := eq_true rfl
        refine lv_iload_n hx hb dX1_atAll_25 rfl (lv_at hl 2 rfl) ?_
        refine lv_iconst (v := 1) hx hb dX1_atAll_26 (by decide) ?_
        refine n_ic_ne (x := 1) (y := 1) (tgt := 34) hx hb (by omega) (by omega) dX1_atAll_27 (by decide) (fun c_9 => absurd c_9 (by omega)) (fun c_9 => ?_)
        refine lv_iload_n hx hb dX1_atAll_30 rfl (lv_at hl 0 rfl) ?_
        refine lv_goto (tgt := 35) hx hb dX1_atAll_31 (by decide) ?_
        exact n_iret (v := nI bo_3) C (by simp [sAtAllX, encLN, encLS, c_1, twhat_2, ho_3, zc_8, c_9]) dX1_atAll_35
      · have zc_8 : ¬ nI what_2 = 1 := fun q => c_8 ((nI_eq (by omega) (by omega)).mp q)
        refine lv_iload_n hx hb dX1_atAll_21 rfl (lv_at hl 0 rfl) ?_
        refine n_if_ge (x := bo_3) (tgt := 36) hx hb (by omega) dX1_atAll_22 (by decide) ?_
        refine lv_iconst (v := 0) hx hb dX1_atAll_36 (by decide) ?_
        refine lv_istore_n (lv' := [(3, .int 0), (2, .int (nI bo_3)), (0, .ref h), (1, .int (nI what_2))]) hx hb dX1_atAll_37 rfl hl (Nat.le_of_ble_eq_true rfl) rfl (fun ls hl => ?_)
        refine lv_iconst (v := 0) hx hb dX1_atAll_38 (by decide) ?_
        refine lv_istore (lv' := [(4, .int 0), (3, .int 0), (2, .int (nI bo_3)), (0, .ref h), (1, .int (nI what_2))]) hx hb dX1_atAll_39 hl (Nat.le_of_ble_eq_true rfl) rfl (fun ls hl => ?_)
        suffices hlp_10 : (∀ (n i : Nat), i + n = N → ∀ (ls : Array Slot), lv_has ls 5 [(4, .int (nI i)), (3, .int (nI (aX r bo_3 i))), (2, .int (nI bo_3)), (0, .ref h), (1, .int (nI what_2))] → W p0_ l e0_ ({ frames := 8, cells := 0, slots := 0, locals := 243 } : Room) s m args below meth c s.heap [] (0) (0) (MQ below (vp_Si (fun rr9 => rr9 = sAtAllX r N (nI what_2))) args s 0 0 (fun _ => False)) (F0 m 41 ls [])) by
          exact hlp_10 (N) 0 (by omega) ls (lv_sub hl [0, 1, 2, 3, 4] rfl)
        have hend_10 : ∀ (ls : Array Slot), lv_has ls 5 [(4, .int (nI N)), (3, .int (nI (aX r bo_3 N))), (2, .int (nI bo_3)), (0, .ref h), (1, .int (nI what_2))] → W p0_ l e0_ ({ frames := 8, cells := 0, slots := 0, locals := 243 } : Room) s m args below meth c s.heap [] (0) (0) (MQ below (vp_Si (fun rr9 => rr9 = sAtAllX r N (nI what_2))) args s 0 0 (fun _ => False)) (F0 m 41 ls []) := by
          intro ls hl
          have l1 := aX_le r bo_3 N
          refine lv_iload hx hb dX1_atAll_41 (lv_at hl 0 rfl) ?_
          refine lv_aload_n hx hb dX1_atAll_43 rfl (lv_at hl 3 rfl) ?_
          refine va_get (D := gD G) (ci := 1) (v := .ref (xa 0)) (C := RX1) (T := TX1) (N := 9) hx hb hts in_X1 hown hK.1 hP 0 rfl rfl 0 (by decide) (hts _ q838) (fun _ h9 => h9) rfl dX1_atAll_44 ?_
          refine va_get (D := gD G) (ci := 2) (v := .int (r 0)) (C := RX2) (T := TX2) (N := 8) hx hb hts in_X2 hown hK.1 hP 1 rfl rfl 5 (by decide) (hts _ q803) (fun _ h9 => h9) rfl dX1_atAll_47 ?_
          refine n_eqi (hr) ?_
          refine n_ic_ge (x := N) (y := N) (tgt := 99) hx hb (by omega) (by omega) dX1_atAll_50 (by decide) (fun c_11 => ?_) (fun c_11 => absurd c_11 (by omega))
          refine lv_iload_n hx hb dX1_atAll_99 rfl (lv_at hl 1 rfl) ?_
          refine lv_aload_n hx hb dX1_atAll_100 rfl (lv_at hl 3 rfl) ?_
          refine va_get (D := gD G) (ci := 1) (v := .ref (xa 0)) (C := RX1) (T := TX1) (N := 9) hx hb hts in_X1 hown hK.1 hP 0 rfl rfl 0 (by decide) (hts _ q838) (fun _ h9 => h9) rfl dX1_atAll_101 ?_
          refine va_get (D := gD G) (ci := 2) (v := .int (r 1)) (C := RX2) (T := TX2) (N := 8) hx hb hts in_X2 hown hK.1 hP 1 rfl rfl 6 (by decide) (hts _ q805) (fun _ h9 => h9) rfl dX1_atAll_104 ?_
          refine n_mmin (x := nI (aX r bo_3 N)) (y := r 1) C q606 q441 q60 q442 hl ⟨(Nat.le_of_ble_eq_true rfl), (Nat.le_of_ble_eq_true rfl)⟩ (Nat.le_of_ble_eq_true rfl) ⟨(Nat.le_of_ble_eq_true rfl), (Nat.le_of_ble_eq_true rfl)⟩ dX1_atAll_107 ?_
          exact n_iret (v := mn (nI (aX r bo_3 N)) (r 1)) C (by simp [sAtAllX, encLN, encLS, c_1, twhat_2, ho_3, c_8, zc_8, c_11]) dX1_atAll_110
        intro n
        induction n with
        | zero =>
          intro i hi_10 ls hl
          obtain e_10 : i = N := by omega
          first | (subst e_10; exact hend_10 ls hl) | (rw [e_10] at hl; exact hend_10 ls hl)
        | succ n ih_10 =>
          intro i hi_10 ls hl
          have l1 := aX_le r bo_3 i
          refine lv_iload hx hb dX1_atAll_41 (lv_at hl 0 rfl) ?_
          refine lv_aload_n hx hb dX1_atAll_43 rfl (lv_at hl 3 rfl) ?_
          refine va_get (D := gD G) (ci := 1) (v := .ref (xa 0)) (C := RX1) (T := TX1) (N := 9) hx hb hts in_X1 hown hK.1 hP 0 rfl rfl 0 (by decide) (hts _ q838) (fun _ h9 => h9) rfl dX1_atAll_44 ?_
          refine va_get (D := gD G) (ci := 2) (v := .int (r 0)) (C := RX2) (T := TX2) (N := 8) hx hb hts in_X2 hown hK.1 hP 1 rfl rfl 5 (by decide) (hts _ q803) (fun _ h9 => h9) rfl dX1_atAll_47 ?_
          refine n_eqi (hr) ?_
          refine n_ic_ge (x := i) (y := N) (tgt := 99) hx hb (by omega) (by omega) dX1_atAll_50 (by decide) (fun c_12 => absurd c_12 (by omega)) (fun c_12 => ?_)
          refine lv_iload_n hx hb dX1_atAll_53 rfl (lv_at hl 1 rfl) ?_
          refine lv_iload hx hb dX1_atAll_54 (lv_at hl 0 rfl) ?_
          refine lv_iload_n hx hb dX1_atAll_56 rfl (lv_at hl 2 rfl) ?_
          refine n_ic_eq (x := i) (y := bo_3) (tgt := 90) hx hb (by omega) (by omega) dX1_atAll_57 (by decide) (fun c_13 => ?_) (fun c_13 => ?_)
          · have zc_13 : nI i = nI bo_3 := congrArg nI c_13
            refine lv_iconst (v := 0) hx hb dX1_atAll_90 (by decide) ?_
            refine n_iadd hx hb (aX r bo_3 i) 0 dX1_atAll_91 ?_
            refine lv_istore_n (lv' := [(3, .int (nI ((aX r bo_3 i) + 0))), (4, .int (nI i)), (2, .int (nI bo_3)), (0, .ref h), (1, .int (nI what_2))]) hx hb dX1_atAll_92 rfl hl (Nat.le_of_ble_eq_true rfl) rfl (fun ls hl => ?_)
            refine n_iinc (k := 1) (lv' := [(4, .int (nI (i + 1))), (3, .int (nI ((aX r bo_3 i) + 0))), (2, .int (nI bo_3)), (0, .ref h), (1, .int (nI what_2))]) hx hb i 1 dX1_atAll_93 hl rfl (Nat.le_of_ble_eq_true rfl) rfl (fun ls hl => ?_)
            refine lv_goto (tgt := 41) hx hb dX1_atAll_96 (by decide) ?_
            have e_14 : aX r bo_3 (i + 1) = (aX r bo_3 i) + 0 := by simp [aX, isOne, twhat_2, c_12, c_13, zc_13]
            exact ih_10 (i + 1) (by omega) ls (by rw [e_14]; exact lv_sub hl [0, 1, 2, 3, 4] rfl)
          · have zc_13 : ¬ nI i = nI bo_3 := fun q => c_13 ((nI_eq (by omega) (by omega)).mp q)
            refine lv_aload_n hx hb dX1_atAll_60 rfl (lv_at hl 3 rfl) ?_
            refine va_get (D := gD G) (ci := 1) (v := .ref (xa 0)) (C := RX1) (T := TX1) (N := 9) hx hb hts in_X1 hown hK.1 hP 0 rfl rfl 0 (by decide) (hts _ q838) (fun _ h9 => h9) rfl dX1_atAll_61 ?_
            refine va_get (D := gD G) (ci := 2) (v := .ref (fn 1)) (C := RX2) (T := TX2) (N := 8) hx hb hts in_X2 hown hK.1 hP 1 rfl rfl 1 (by decide) (hts _ q795) (fun _ h9 => h9) rfl dX1_atAll_64 ?_
            refine lv_iload hx hb dX1_atAll_67 (lv_at hl 0 rfl) ?_
            refine n_iald C hK.1 hP 3 i rfl (by omega) (by omega) dX1_atAll_69 ?_
            refine lv_if_le (x := r (3 + 6 * i + 2)) (tgt := 90) hx hb dX1_atAll_70 (by decide) (fun c_15 => ?_) (fun c_15 => ?_)
            · have zc_15 : ¬ 0 < (r (3 + 6 * i + 2)) := Int32.not_lt.mpr c_15
              refine lv_iconst (v := 0) hx hb dX1_atAll_90 (by decide) ?_
              refine n_iadd hx hb (aX r bo_3 i) 0 dX1_atAll_91 ?_
              refine lv_istore_n (lv' := [(3, .int (nI ((aX r bo_3 i) + 0))), (4, .int (nI i)), (2, .int (nI bo_3)), (0, .ref h), (1, .int (nI what_2))]) hx hb dX1_atAll_92 rfl hl (Nat.le_of_ble_eq_true rfl) rfl (fun ls hl => ?_)
              refine n_iinc (k := 1) (lv' := [(4, .int (nI (i + 1))), (3, .int (nI ((aX r bo_3 i) + 0))), (2, .int (nI bo_3)), (0, .ref h), (1, .int (nI what_2))]) hx hb i 1 dX1_atAll_93 hl rfl (Nat.le_of_ble_eq_true rfl) rfl (fun ls hl => ?_)
              refine lv_goto (tgt := 41) hx hb dX1_atAll_96 (by decide) ?_
              have e_16 : aX r bo_3 (i + 1) = (aX r bo_3 i) + 0 := by simp [aX, isOne, twhat_2, c_12, c_13, zc_13, c_15, zc_15]
              exact ih_10 (i + 1) (by omega) ls (by rw [e_16]; exact lv_sub hl [0, 1, 2, 3, 4] rfl)
            · have zc_15 : 0 < (r (3 + 6 * i + 2)) := Int32.not_le.mp c_15
              refine lv_aload_n hx hb dX1_atAll_73 rfl (lv_at hl 3 rfl) ?_
              refine va_get (D := gD G) (ci := 1) (v := .ref (xa 0)) (C := RX1) (T := TX1) (N := 9) hx hb hts in_X1 hown hK.1 hP 0 rfl rfl 0 (by decide) (hts _ q838) (fun _ h9 => h9) rfl dX1_atAll_74 ?_
              refine va_get (D := gD G) (ci := 2) (v := .ref (fn 3)) (C := RX2) (T := TX2) (N := 8) hx hb hts in_X2 hown hK.1 hP 1 rfl rfl 3 (by decide) (hts _ q799) (fun _ h9 => h9) rfl dX1_atAll_77 ?_
              refine lv_iload hx hb dX1_atAll_80 (lv_at hl 0 rfl) ?_
              refine n_iald C hK.1 hP 5 i rfl (by omega) (by omega) dX1_atAll_82 ?_
              refine lv_if_ne (x := r (3 + 6 * i + 4)) (tgt := 90) hx hb dX1_atAll_83 (by decide) (fun c_17 => ?_) (fun c_17 => ?_)
              · refine lv_iconst (v := 0) hx hb dX1_atAll_90 (by decide) ?_
                refine n_iadd hx hb (aX r bo_3 i) 0 dX1_atAll_91 ?_
                refine lv_istore_n (lv' := [(3, .int (nI ((aX r bo_3 i) + 0))), (4, .int (nI i)), (2, .int (nI bo_3)), (0, .ref h), (1, .int (nI what_2))]) hx hb dX1_atAll_92 rfl hl (Nat.le_of_ble_eq_true rfl) rfl (fun ls hl => ?_)
                refine n_iinc (k := 1) (lv' := [(4, .int (nI (i + 1))), (3, .int (nI ((aX r bo_3 i) + 0))), (2, .int (nI bo_3)), (0, .ref h), (1, .int (nI what_2))]) hx hb i 1 dX1_atAll_93 hl rfl (Nat.le_of_ble_eq_true rfl) rfl (fun ls hl => ?_)
                refine lv_goto (tgt := 41) hx hb dX1_atAll_96 (by decide) ?_
                have e_18 : aX r bo_3 (i + 1) = (aX r bo_3 i) + 0 := by simp [aX, isOne, twhat_2, c_12, c_13, zc_13, c_15, zc_15, c_17]
                exact ih_10 (i + 1) (by omega) ls (by rw [e_18]; exact lv_sub hl [0, 1, 2, 3, 4] rfl)
              · refine lv_iconst (v := 1) hx hb dX1_atAll_86 (by decide) ?_
                refine lv_goto (tgt := 91) hx hb dX1_atAll_87 (by decide) ?_
                refine n_iadd hx hb (aX r bo_3 i) 1 dX1_atAll_91 ?_
                refine lv_istore_n (lv' := [(3, .int (nI ((aX r bo_3 i) + 1))), (4, .int (nI i)), (2, .int (nI bo_3)), (0, .ref h), (1, .int (nI what_2))]) hx hb dX1_atAll_92 rfl hl (Nat.le_of_ble_eq_true rfl) rfl (fun ls hl => ?_)
                refine n_iinc (k := 1) (lv' := [(4, .int (nI (i + 1))), (3, .int (nI ((aX r bo_3 i) + 1))), (2, .int (nI bo_3)), (0, .ref h), (1, .int (nI what_2))]) hx hb i 1 dX1_atAll_93 hl rfl (Nat.le_of_ble_eq_true rfl) rfl (fun ls hl => ?_)
                refine lv_goto (tgt := 41) hx hb dX1_atAll_96 (by decide) ?_
                have e_19 : aX r bo_3 (i + 1) = (aX r bo_3 i) + 1 := by simp [aX, isOne, twhat_2, c_12, c_13, zc_13, c_15, zc_15, c_17]
                exact ih_10 (i + 1) (by omega) ls (by rw [e_19]; exact lv_sub hl [0, 1, 2, 3, 4] rfl)
  · refine lv_iconst (v := (-1)) hx hb dX1_atAll_9 (by decide) ?_
    exact n_iret (v := (-1)) C (by simp [sAtAllX, encLN, encLS, c_1]) dX1_atAll_10

set_option maxHeartbeats 4000000 in
set_option maxRecDepth 100000 in
theorem metX1_image (l : Launch) (G : GG) (h : Nat) (xa : Nat → Nat) (xi : Nat → Int32) (fn : Nat → Nat) (gm : GM) (wh : Nat → Option Nat) (r : Nat → Int32) (N : Nat) (fk : Nat → Nat) (k_w : Nat → Option Nat) (k_a2 k_a3 k_a4 k_a5 : Nat → Int32) (k_0 k_1 k_2 : Int32) (hN : N ≤ 8) (hr : r 0 = nI N) (hwk : WK gm wh r N) (hng : NG gm [(h, xO xa xi), (xa 0, fO fn r), (fn 0, qA G 3 9 wh), (fn 1, iA G 9 (fA r 2)), (fn 2, iA G 9 (fA r 3)), (fn 3, iA G 9 (fA r 4)), (fn 4, iA G 9 (fA r 5)), (xa 1, fR fk k_0 k_1 k_2), (fk 0, qA G 3 9 k_w), (fk 1, iA G 9 k_a2), (fk 2, iA G 9 k_a3), (fk 3, iA G 9 k_a4), (fk 4, iA G 9 k_a5)]) : MW l yX1_image cX1_image 1 (some .int) ({ frames := 3, cells := 0, slots := 0, locals := 102 }) [.ref h] [(h, xO xa xi), (xa 0, fO fn r), (fn 0, qA G 3 9 wh), (fn 1, iA G 9 (fA r 2)), (fn 2, iA G 9 (fA r 3)), (fn 3, iA G 9 (fA r 4)), (fn 4, iA G 9 (fA r 5)), (xa 1, fR fk k_0 k_1 k_2), (fk 0, qA G 3 9 k_w), (fk 1, iA G 9 k_a2), (fk 2, iA G 9 k_a3), (fk 3, iA G 9 k_a4), (fk 4, iA G 9 k_a5)] G (KG G gm) 0 0 (fun rv w1 => rv = r 2 ∧ w1 = [(h, xO xa (upd xi 3 1)), (xa 0, fO fn r), (fn 0, qA G 3 9 wh), (fn 1, iA G 9 (fA r 2)), (fn 2, iA G 9 (fA r 3)), (fn 3, iA G 9 (fA r 4)), (fn 4, iA G 9 (fA r 5)), (xa 1, fO fk r), (fk 0, qA G 3 9 wh), (fk 1, iA G 9 (fA r 2)), (fk 2, iA G 9 (fA r 3)), (fk 3, iA G 9 (fA r 4)), (fk 4, iA G 9 (fA r 5))]) := by
  -- rows printed by wip/tools/gen.py
  refine mw_mkg RX1 (by decide) rfl (Nat.le_of_ble_eq_true rfl) ?_
  intro p0_ e0_ s m args below meth c A C hA hAx hP hK hD ls hl
  have hGP := hK.2
  have hK := hK.1
  have hGA := GA.of hng hGP hAx
  have hx := C.1
  have hb := C.2.1
  have hml := C.2.2.2.2.1
  have hown := C.2.2.2.2.2.1
  have hts := C.2.2.2.2.2.2
  have hS : va_S A s.heap s.heap [] := va_S.rf
  have hl : lv_has ls 1 [(0, .ref h)] := hl
  refine lv_aload_n hx hb dX1_image_0 rfl (lv_at hl 0 rfl) ?_
  refine va_get (D := gD G) (ci := 1) (v := .ref (xa 1)) (C := RX1) (T := TX1) (N := 9) hx hb hts in_X1 hown hK.1 hP 0 rfl rfl 1 (by decide) (hts _ q839) (fun _ h9 => h9) rfl dX1_image_1 ?_
  refine lv_aload_n hx hb dX1_image_4 rfl (lv_at hl 0 rfl) ?_
  refine va_get (D := gD G) (ci := 1) (v := .ref (xa 0)) (C := RX1) (T := TX1) (N := 9) hx hb hts in_X1 hown hK.1 hP 0 rfl rfl 0 (by decide) (hts _ q838) (fun _ h9 => h9) rfl dX1_image_5 ?_
  refine c_VWvk (wr := [(h, xO xa xi)]) (rest := []) C (metX2_takes l G (xa 1) (xa 0) fk fn gm wh k_w r k_a2 k_a3 k_a4 k_a5 k_0 k_1 k_2 N (hr) (hwk) (NG.of hGA hD [7, 8, 9, 10, 11, 12, 1, 2, 3, 4, 5, 6] rfl)) 1 (lw_V q267 q268 q269 q40 q270) (by decide +kernel) ⟨rfl, rfl⟩ ⟨(Nat.le_of_ble_eq_true rfl), (Nat.le_of_ble_eq_true rfl)⟩ (KG.call) (KG.at hK (hGP.kept hGA hS)) (va_recv hK.1 hP (ci := 2) (q0 := 7) rfl rfl) hA hP hD hS [7, 8, 9, 10, 11, 12, 1, 2, 3, 4, 5, 6] [0] rfl rfl rfl rfl (by decide) hl rfl rfl (Nat.le_of_ble_eq_true rfl) ⟨(Nat.le_of_ble_eq_true rfl), (Nat.le_of_ble_eq_true rfl)⟩ dX1_image_8 (fun w1 H locs hq_2 hP hD hS => ?_)
  obtain rfl := hq_2
  have hP : PP G [(h, xO xa xi), (xa 1, fO fk r), (fk 0, qA G 3 9 wh), (fk 1, iA G 9 (fA r 2)), (fk 2, iA G 9 (fA r 3)), (fk 3, iA G 9 (fA r 4)), (fk 4, iA G 9 (fA r 5)), (xa 0, fO fn r), (fn 0, qA G 3 9 wh), (fn 1, iA G 9 (fA r 2)), (fn 2, iA G 9 (fA r 3)), (fn 3, iA G 9 (fA r 4)), (fn 4, iA G 9 (fA r 5))] H := hP
  have hD : va_D A [(h, xO xa xi), (xa 1, fO fk r), (fk 0, qA G 3 9 wh), (fk 1, iA G 9 (fA r 2)), (fk 2, iA G 9 (fA r 3)), (fk 3, iA G 9 (fA r 4)), (fk 4, iA G 9 (fA r 5)), (xa 0, fO fn r), (fn 0, qA G 3 9 wh), (fn 1, iA G 9 (fA r 2)), (fn 2, iA G 9 (fA r 3)), (fn 3, iA G 9 (fA r 4)), (fn 4, iA G 9 (fA r 5))] := hD
  have hw_3 : WK gm wh r N := hwk
  have hr_4 : r 0 = nI N := hr
  refine lv_aload_n hx hb dX1_image_11 rfl (lv_at hl 0 rfl) ?_
  refine lv_iconst (v := 1) hx hb dX1_image_12 (by decide) ?_
  refine va_put (D := gD G) (ci := 1) (v := .int 1) (ty := .boolean) (C := RX1) (T := TX1) (N := 9) hx hb hts in_X1 tyX1 tyX1_ok nmX1 hown hK.1 hP hD hS 0 rfl rfl 3 (by decide) (hts _ q841) (fun _ h9 => h9) rfl (by decide +kernel) rfl rfl (Nat.le_of_ble_eq_true rfl) dX1_image_13 (fun H locs hP hD hS => ?_)
  have hP : PP G [(h, xO xa (upd xi 3 1)), (xa 1, fO fk r), (fk 0, qA G 3 9 wh), (fk 1, iA G 9 (fA r 2)), (fk 2, iA G 9 (fA r 3)), (fk 3, iA G 9 (fA r 4)), (fk 4, iA G 9 (fA r 5)), (xa 0, fO fn r), (fn 0, qA G 3 9 wh), (fn 1, iA G 9 (fA r 2)), (fn 2, iA G 9 (fA r 3)), (fn 3, iA G 9 (fA r 4)), (fn 4, iA G 9 (fA r 5))] H := hP
  have hD : va_D A [(h, xO xa (upd xi 3 1)), (xa 1, fO fk r), (fk 0, qA G 3 9 wh), (fk 1, iA G 9 (fA r 2)), (fk 2, iA G 9 (fA r 3)), (fk 3, iA G 9 (fA r 4)), (fk 4, iA G 9 (fA r 5)), (xa 0, fO fn r), (fn 0, qA G 3 9 wh), (fn 1, iA G 9 (fA r 2)), (fn 2, iA G 9 (fA r 3)), (fn 3, iA G 9 (fA r 4)), (fn 4, iA G 9 (fA r 5))] := hD
  refine lv_aload_n hx hb dX1_image_16 rfl (lv_at hl 0 rfl) ?_
  refine va_get (D := gD G) (ci := 1) (v := .ref (xa 0)) (C := RX1) (T := TX1) (N := 9) hx hb hts in_X1 hown hK.1 hP 0 rfl rfl 0 (by decide) (hts _ q838) (fun _ h9 => h9) rfl dX1_image_17 ?_
  refine va_get (D := gD G) (ci := 2) (v := .int (r 2)) (C := RX2) (T := TX2) (N := 8) hx hb hts in_X2 hown hK.1 hP 7 rfl rfl 7 (by decide) (hts _ q807) (fun _ h9 => h9) rfl dX1_image_20 ?_
  exact n_iretW (v := r 2) (w1 := [(h, xO xa (upd xi 3 1)), (xa 0, fO fn r), (fn 0, qA G 3 9 wh), (fn 1, iA G 9 (fA r 2)), (fn 2, iA G 9 (fA r 3)), (fn 3, iA G 9 (fA r 4)), (fn 4, iA G 9 (fA r 5)), (xa 1, fO fk r), (fk 0, qA G 3 9 wh), (fk 1, iA G 9 (fA r 2)), (fk 2, iA G 9 (fA r 3)), (fk 3, iA G 9 (fA r 4)), (fk 4, iA G 9 (fA r 5))]) C (⟨rfl, rfl⟩) (hP.sub (ws' := [(h, xO xa (upd xi 3 1)), (xa 0, fO fn r), (fn 0, qA G 3 9 wh), (fn 1, iA G 9 (fA r 2)), (fn 2, iA G 9 (fA r 3)), (fn 3, iA G 9 (fA r 4)), (fn 4, iA G 9 (fA r 5)), (xa 1, fO fk r), (fk 0, qA G 3 9 wh), (fk 1, iA G 9 (fA r 2)), (fk 2, iA G 9 (fA r 3)), (fk 3, iA G 9 (fA r 4)), (fk 4, iA G 9 (fA r 5))]) [0, 7, 8, 9, 10, 11, 12, 1, 2, 3, 4, 5, 6] rfl) (hD.sub (ws' := [(h, xO xa (upd xi 3 1)), (xa 0, fO fn r), (fn 0, qA G 3 9 wh), (fn 1, iA G 9 (fA r 2)), (fn 2, iA G 9 (fA r 3)), (fn 3, iA G 9 (fA r 4)), (fn 4, iA G 9 (fA r 5)), (xa 1, fO fk r), (fk 0, qA G 3 9 wh), (fk 1, iA G 9 (fA r 2)), (fk 2, iA G 9 (fA r 3)), (fk 3, iA G 9 (fA r 4)), (fk 4, iA G 9 (fA r 5))]) [0, 7, 8, 9, 10, 11, 12, 1, 2, 3, 4, 5, 6] (by decide) rfl) hS (by first | omega | decide) (by first | omega | decide) dX1_image_23

set_option maxHeartbeats 4000000 in
set_option maxRecDepth 100000 in
theorem metX1_restore (l : Launch) (G : GG) (h : Nat) (xa : Nat → Nat) (xi : Nat → Int32) (fn : Nat → Nat) (gm : GM) (wh : Nat → Option Nat) (r : Nat → Int32) (N : Nat) (fk : Nat → Nat) (wk : Nat → Option Nat) (rk : Nat → Int32) (N2 : Nat) (hN : N ≤ 8) (hr : r 0 = nI N) (hwk : WK gm wh r N) (hr2 : rk 0 = nI N2) (hwk2 : WK gm wk rk N2) (hng : NG gm [(h, xO xa xi), (xa 0, fO fn r), (fn 0, qA G 3 9 wh), (fn 1, iA G 9 (fA r 2)), (fn 2, iA G 9 (fA r 3)), (fn 3, iA G 9 (fA r 4)), (fn 4, iA G 9 (fA r 5)), (xa 1, fO fk rk), (fk 0, qA G 3 9 wk), (fk 1, iA G 9 (fA rk 2)), (fk 2, iA G 9 (fA rk 3)), (fk 3, iA G 9 (fA rk 4)), (fk 4, iA G 9 (fA rk 5))]) : MW l yX1_restore cX1_restore 1 (some .int) ({ frames := 3, cells := 0, slots := 0, locals := 102 }) [.ref h] [(h, xO xa xi), (xa 0, fO fn r), (fn 0, qA G 3 9 wh), (fn 1, iA G 9 (fA r 2)), (fn 2, iA G 9 (fA r 3)), (fn 3, iA G 9 (fA r 4)), (fn 4, iA G 9 (fA r 5)), (xa 1, fO fk rk), (fk 0, qA G 3 9 wk), (fk 1, iA G 9 (fA rk 2)), (fk 2, iA G 9 (fA rk 3)), (fk 3, iA G 9 (fA rk 4)), (fk 4, iA G 9 (fA rk 5))] G (KG G gm) 0 0 (fun rv w1 => rv = (if xi 3 = 0 then -3 else rk 2) ∧ w1 = [(h, xO xa xi), (xa 0, fO fn (if xi 3 = 0 then r else rk)), (fn 0, qA G 3 9 (if xi 3 = 0 then wh else wk)), (fn 1, iA G 9 (fA (if xi 3 = 0 then r else rk) 2)), (fn 2, iA G 9 (fA (if xi 3 = 0 then r else rk) 3)), (fn 3, iA G 9 (fA (if xi 3 = 0 then r else rk) 4)), (fn 4, iA G 9 (fA (if xi 3 = 0 then r else rk) 5)), (xa 1, fO fk rk), (fk 0, qA G 3 9 wk), (fk 1, iA G 9 (fA rk 2)), (fk 2, iA G 9 (fA rk 3)), (fk 3, iA G 9 (fA rk 4)), (fk 4, iA G 9 (fA rk 5))]) := by
  -- rows printed by wip/tools/gen.py
  refine mw_mkg RX1 (by decide) rfl (Nat.le_of_ble_eq_true rfl) ?_
  intro p0_ e0_ s m args below meth c A C hA hAx hP hK hD ls hl
  have hGP := hK.2
  have hK := hK.1
  have hGA := GA.of hng hGP hAx
  have hx := C.1
  have hb := C.2.1
  have hml := C.2.2.2.2.1
  have hown := C.2.2.2.2.2.1
  have hts := C.2.2.2.2.2.2
  have hS : va_S A s.heap s.heap [] := va_S.rf
  have hl : lv_has ls 1 [(0, .ref h)] := hl
  refine lv_aload_n hx hb dX1_restore_0 rfl (lv_at hl 0 rfl) ?_
  refine va_get (D := gD G) (ci := 1) (v := .int (xi 3)) (C := RX1) (T := TX1) (N := 9) hx hb hts in_X1 hown hK.1 hP 0 rfl rfl 3 (by decide) (hts _ q841) (fun _ h9 => h9) rfl dX1_restore_1 ?_
  refine lv_if_ne (x := xi 3) (tgt := 10) hx hb dX1_restore_4 (by decide) (fun c_1 => ?_) (fun c_1 => ?_)
  · refine lv_aload_n hx hb dX1_restore_10 rfl (lv_at hl 0 rfl) ?_
    refine va_get (D := gD G) (ci := 1) (v := .ref (xa 0)) (C := RX1) (T := TX1) (N := 9) hx hb hts in_X1 hown hK.1 hP 0 rfl rfl 0 (by decide) (hts _ q838) (fun _ h9 => h9) rfl dX1_restore_11 ?_
    refine lv_aload_n hx hb dX1_restore_14 rfl (lv_at hl 0 rfl) ?_
    refine va_get (D := gD G) (ci := 1) (v := .ref (xa 1)) (C := RX1) (T := TX1) (N := 9) hx hb hts in_X1 hown hK.1 hP 0 rfl rfl 1 (by decide) (hts _ q839) (fun _ h9 => h9) rfl dX1_restore_15 ?_
    refine c_VWvk (wr := [(h, xO xa xi)]) (rest := []) C (metX2_takes l G (xa 0) (xa 1) fn fk gm wk wh rk (fA r 2) (fA r 3) (fA r 4) (fA r 5) (r 0) (r 1) (r 2) N2 (hr2) (hwk2) (NG.of hGA hD [1, 2, 3, 4, 5, 6, 7, 8, 9, 10, 11, 12] rfl)) 1 (lw_V q267 q268 q269 q40 q270) (by decide +kernel) ⟨rfl, rfl⟩ ⟨(Nat.le_of_ble_eq_true rfl), (Nat.le_of_ble_eq_true rfl)⟩ (KG.call) (KG.at hK (hGP.kept hGA hS)) (va_recv hK.1 hP (ci := 2) (q0 := 1) rfl rfl) hA hP hD hS [1, 2, 3, 4, 5, 6, 7, 8, 9, 10, 11, 12] [0] rfl rfl rfl rfl (by decide) hl rfl rfl (Nat.le_of_ble_eq_true rfl) ⟨(Nat.le_of_ble_eq_true rfl), (Nat.le_of_ble_eq_true rfl)⟩ dX1_restore_18 (fun w1 H locs hq_3 hP hD hS => ?_)
    obtain rfl := hq_3
    have hP : PP G [(h, xO xa xi), (xa 0, fO fn rk), (fn 0, qA G 3 9 wk), (fn 1, iA G 9 (fA rk 2)), (fn 2, iA G 9 (fA rk 3)), (fn 3, iA G 9 (fA rk 4)), (fn 4, iA G 9 (fA rk 5)), (xa 1, fO fk rk), (fk 0, qA G 3 9 wk), (fk 1, iA G 9 (fA rk 2)), (fk 2, iA G 9 (fA rk 3)), (fk 3, iA G 9 (fA rk 4)), (fk 4, iA G 9 (fA rk 5))] H := hP
    have hD : va_D A [(h, xO xa xi), (xa 0, fO fn rk), (fn 0, qA G 3 9 wk), (fn 1, iA G 9 (fA rk 2)), (fn 2, iA G 9 (fA rk 3)), (fn 3, iA G 9 (fA rk 4)), (fn 4, iA G 9 (fA rk 5)), (xa 1, fO fk rk), (fk 0, qA G 3 9 wk), (fk 1, iA G 9 (fA rk 2)), (fk 2, iA G 9 (fA rk 3)), (fk 3, iA G 9 (fA rk 4)), (fk 4, iA G 9 (fA rk 5))] := hD
    have hw_4 : WK gm wk rk N2 := hwk2
    have hr_5 : rk 0 = nI N2 := hr2
    refine lv_aload_n hx hb dX1_restore_21 rfl (lv_at hl 0 rfl) ?_
    refine va_get (D := gD G) (ci := 1) (v := .ref (xa 0)) (C := RX1) (T := TX1) (N := 9) hx hb hts in_X1 hown hK.1 hP 0 rfl rfl 0 (by decide) (hts _ q838) (fun _ h9 => h9) rfl dX1_restore_22 ?_
    refine va_get (D := gD G) (ci := 2) (v := .int (rk 2)) (C := RX2) (T := TX2) (N := 8) hx hb hts in_X2 hown hK.1 hP 1 rfl rfl 7 (by decide) (hts _ q807) (fun _ h9 => h9) rfl dX1_restore_25 ?_
    exact n_iretW (v := rk 2) (w1 := [(h, xO xa xi), (xa 0, fO fn rk), (fn 0, qA G 3 9 wk), (fn 1, iA G 9 (fA rk 2)), (fn 2, iA G 9 (fA rk 3)), (fn 3, iA G 9 (fA rk 4)), (fn 4, iA G 9 (fA rk 5)), (xa 1, fO fk rk), (fk 0, qA G 3 9 wk), (fk 1, iA G 9 (fA rk 2)), (fk 2, iA G 9 (fA rk 3)), (fk 3, iA G 9 (fA rk 4)), (fk 4, iA G 9 (fA rk 5))]) C (⟨by simp [bI, c_1], by simp [bI, c_1]⟩) hP hD hS (by first | omega | decide) (by first | omega | decide) dX1_restore_28
  · refine lv_bipush (v := (-3)) hx hb dX1_restore_7 (by decide) ?_
    exact n_iretW (v := (-3)) (w1 := [(h, xO xa xi), (xa 0, fO fn r), (fn 0, qA G 3 9 wh), (fn 1, iA G 9 (fA r 2)), (fn 2, iA G 9 (fA r 3)), (fn 3, iA G 9 (fA r 4)), (fn 4, iA G 9 (fA r 5)), (xa 1, fO fk rk), (fk 0, qA G 3 9 wk), (fk 1, iA G 9 (fA rk 2)), (fk 2, iA G 9 (fA rk 3)), (fk 3, iA G 9 (fA rk 4)), (fk 4, iA G 9 (fA rk 5))]) C (⟨by simp [bI, c_1], by simp [bI, c_1]⟩) hP hD hS (by first | omega | decide) (by first | omega | decide) dX1_restore_9

set_option maxHeartbeats 4000000 in
set_option maxRecDepth 100000 in
theorem metX1_fetes (l : Launch) (G : GG) (h : Nat) (xa : Nat → Nat) (xi : Nat → Int32) (fn : Nat → Nat) (gm : GM) (wh : Nat → Option Nat) (r : Nat → Int32) (N : Nat) (fm : Nat → Nat) (j_w : Nat → Option Nat) (j_a2 j_a3 j_a4 j_a5 : Nat → Int32) (j_0 j_1 j_2 : Int32) (z0 u z what : Int32) (hN : N ≤ 8) (hr : r 0 = nI N) (hwk : WK gm wh r N) (hng : NG gm [(h, xO xa (upd xi 7 z0)), (xa 0, fO fn r), (fn 0, qA G 3 9 wh), (fn 1, iA G 9 (fA r 2)), (fn 2, iA G 9 (fA r 3)), (fn 3, iA G 9 (fA r 4)), (fn 4, iA G 9 (fA r 5)), (xa 2, fR fm j_0 j_1 j_2), (fm 0, qA G 3 9 j_w), (fm 1, iA G 9 j_a2), (fm 2, iA G 9 j_a3), (fm 3, iA G 9 j_a4), (fm 4, iA G 9 j_a5)]) : MW l yX1_fetes cX1_fetes 10 (some .int) ({ frames := 10, cells := 0, slots := 0, locals := 288 }) [.ref h, .int u, .int z, .int what] [(h, xO xa (upd xi 7 z0)), (xa 0, fO fn r), (fn 0, qA G 3 9 wh), (fn 1, iA G 9 (fA r 2)), (fn 2, iA G 9 (fA r 3)), (fn 3, iA G 9 (fA r 4)), (fn 4, iA G 9 (fA r 5)), (xa 2, fR fm j_0 j_1 j_2), (fm 0, qA G 3 9 j_w), (fm 1, iA G 9 j_a2), (fm 2, iA G 9 j_a3), (fm 3, iA G 9 j_a4), (fm 4, iA G 9 j_a5)] G (KG G gm) 0 0 (fun rv w1 => rv = sFetesA r N u z what ∧ ∃ z9 : Int32, ∃ (g_w : Nat → Option Nat) (g_a2 g_a3 g_a4 g_a5 : Nat → Int32) (g_0 g_1 g_2 : Int32), w1 = [(h, xO xa (upd xi 7 z9)), (xa 0, fO fn r), (fn 0, qA G 3 9 wh), (fn 1, iA G 9 (fA r 2)), (fn 2, iA G 9 (fA r 3)), (fn 3, iA G 9 (fA r 4)), (fn 4, iA G 9 (fA r 5)), (xa 2, fR fm g_0 g_1 g_2), (fm 0, qA G 3 9 g_w), (fm 1, iA G 9 g_a2), (fm 2, iA G 9 g_a3), (fm 3, iA G 9 g_a4), (fm 4, iA G 9 g_a5)]) := by
  -- rows printed by wip/tools/gen.py
  refine mw_mkg RX1 (by decide) rfl (Nat.le_of_ble_eq_true rfl) ?_
  intro p0_ e0_ s m args below meth c A C hA hAx hP hK hD ls hl
  have hGP := hK.2
  have hK := hK.1
  have hGA := GA.of hng hGP hAx
  have hx := C.1
  have hb := C.2.1
  have hml := C.2.2.2.2.1
  have hown := C.2.2.2.2.2.1
  have hts := C.2.2.2.2.2.2
  have hS : va_S A s.heap s.heap [] := va_S.rf
  have hl : lv_has ls 10 [(0, .ref h), (1, .int u), (2, .int z), (3, .int what)] := hl
  refine lv_iload_n hx hb dX1_fetes_0 rfl (lv_at hl 1 rfl) ?_
  refine lv_iconst (v := 1) hx hb dX1_fetes_1 (by decide) ?_
  refine lv_bipush (v := 20) hx hb dX1_fetes_2 (by decide) ?_
  refine c_S (rest := []) C (metX1_isIn l G u 1 20) 3 (lw_S q171 q172 q39 q173) (by decide +kernel) ⟨rfl, rfl⟩ ⟨(Nat.le_of_ble_eq_true rfl), (Nat.le_of_ble_eq_true rfl)⟩ (KM_mv G) (hP.sub (ws' := []) [] rfl) hK.1 hl rfl rfl (Nat.le_of_ble_eq_true rfl) ⟨(Nat.le_of_ble_eq_true rfl), (Nat.le_of_ble_eq_true rfl)⟩ dX1_fetes_4 ?_
  refine n_if_eqB (b := (sIn u 1 20)) (tgt := 19) hx hb dX1_fetes_7 (by decide) (fun c_1 => ?_) (fun c_1 => ?_)
  · refine lv_iconst (v := (-1)) hx hb dX1_fetes_19 (by decide) ?_
    exact n_iretW (v := (-1)) (w1 := [(h, xO xa (upd xi 7 z0)), (xa 0, fO fn r), (fn 0, qA G 3 9 wh), (fn 1, iA G 9 (fA r 2)), (fn 2, iA G 9 (fA r 3)), (fn 3, iA G 9 (fA r 4)), (fn 4, iA G 9 (fA r 5)), (xa 2, fR fm j_0 j_1 j_2), (fm 0, qA G 3 9 j_w), (fm 1, iA G 9 j_a2), (fm 2, iA G 9 j_a3), (fm 3, iA G 9 j_a4), (fm 4, iA G 9 j_a5)]) C (⟨by simp [sFetesA, c_1], _, _, _, _, _, _, _, _, _, rfl⟩) hP hD hS (by first | omega | decide) (by first | omega | decide) dX1_fetes_20
  · obtain ⟨u_2, hu_2, gu_2, rfl⟩ := sIn_t (a := 1) (b := 20) (by omega) (by omega) c_1
    have tu_2 : tn (nI u_2) = u_2 := nI_clamp (by omega)
    refine lv_iload_n hx hb dX1_fetes_10 rfl (lv_at hl 3 rfl) ?_
    refine lv_iconst (v := 0) hx hb dX1_fetes_11 (by decide) ?_
    refine lv_iconst (v := 1) hx hb dX1_fetes_12 (by decide) ?_
    refine c_S (rest := []) C (metX1_isIn l G what 0 1) 3 (lw_S q171 q172 q39 q173) (by decide +kernel) ⟨rfl, rfl⟩ ⟨(Nat.le_of_ble_eq_true rfl), (Nat.le_of_ble_eq_true rfl)⟩ (KM_mv G) (hP.sub (ws' := []) [] rfl) hK.1 hl rfl rfl (Nat.le_of_ble_eq_true rfl) ⟨(Nat.le_of_ble_eq_true rfl), (Nat.le_of_ble_eq_true rfl)⟩ dX1_fetes_13 ?_
    refine n_if_neB (b := (sIn what 0 1)) (tgt := 21) hx hb dX1_fetes_16 (by decide) (fun c_3 => ?_) (fun c_3 => ?_)
    · obtain ⟨what_4, hwhat_4, gwhat_4, rfl⟩ := sIn_t (a := 0) (b := 1) (by omega) (by omega) c_3
      have twhat_4 : tn (nI what_4) = what_4 := nI_clamp (by omega)
      refine lv_aload_n hx hb dX1_fetes_21 rfl (lv_at hl 0 rfl) ?_
      refine va_get (D := gD G) (ci := 1) (v := .ref (xa 0)) (C := RX1) (T := TX1) (N := 9) hx hb hts in_X1 hown hK.1 hP 0 rfl rfl 0 (by decide) (hts _ q838) (fun _ h9 => h9) rfl dX1_fetes_22 ?_
      refine va_get (D := gD G) (ci := 2) (v := .int (r 0)) (C := RX2) (T := TX2) (N := 8) hx hb hts in_X2 hown hK.1 hP 1 rfl rfl 5 (by decide) (hts _ q803) (fun _ h9 => h9) rfl dX1_fetes_25 ?_
      refine n_eqi (hr) ?_
      refine n_if_ne (x := N) (tgt := 34) hx hb (by omega) dX1_fetes_28 (by decide) (fun c_5 => ?_) (fun c_5 => ?_)
      · have zc_5 : ¬ nI N = 0 := nI_ne0 c_5 (by omega)
        have yc_5 : ¬ N = 0 := Nat.ne_of_gt c_5
        refine lv_aload_n hx hb dX1_fetes_34 rfl (lv_at hl 0 rfl) ?_
        refine lv_iload_n hx hb dX1_fetes_35 rfl (lv_at hl 2 rfl) ?_
        refine va_put (D := gD G) (ci := 1) (v := .int z) (ty := .int) (C := RX1) (T := TX1) (N := 9) hx hb hts in_X1 tyX1 tyX1_ok nmX1 hown hK.1 hP hD hS 0 rfl rfl 7 (by decide) (hts _ q845) (fun _ h9 => h9) rfl (by decide +kernel) rfl rfl (Nat.le_of_ble_eq_true rfl) dX1_fetes_36 (fun H locs hP hD hS => ?_)
        have hP : PP G [(h, xO xa (upd xi 7 z)), (xa 0, fO fn r), (fn 0, qA G 3 9 wh), (fn 1, iA G 9 (fA r 2)), (fn 2, iA G 9 (fA r 3)), (fn 3, iA G 9 (fA r 4)), (fn 4, iA G 9 (fA r 5)), (xa 2, fR fm j_0 j_1 j_2), (fm 0, qA G 3 9 j_w), (fm 1, iA G 9 j_a2), (fm 2, iA G 9 j_a3), (fm 3, iA G 9 j_a4), (fm 4, iA G 9 j_a5)] H := hP
        have hD : va_D A [(h, xO xa (upd xi 7 z)), (xa 0, fO fn r), (fn 0, qA G 3 9 wh), (fn 1, iA G 9 (fA r 2)), (fn 2, iA G 9 (fA r 3)), (fn 3, iA G 9 (fA r 4)), (fn 4, iA G 9 (fA r 5)), (xa 2, fR fm j_0 j_1 j_2), (fm 0, qA G 3 9 j_w), (fm 1, iA G 9 j_a2), (fm 2, iA G 9 j_a3), (fm 3, iA G 9 j_a4), (fm 4, iA G 9 j_a5)] := hD
        refine lv_iconst (v := 0) hx hb dX1_fetes_39 (by decide) ?_
        refine lv_istore (lv' := [(4, .int 0), (0, .ref h), (1, .int (nI u_2)), (2, .int z), (3, .int (nI what_4))]) hx hb dX1_fetes_40 hl (Nat.le_of_ble_eq_true rfl) rfl (fun ls hl => ?_)
        refine lv_iconst (v := 0) hx hb dX1_fetes_42 (by decide) ?_
        refine lv_istore (lv' := [(5, .int 0), (4, .int 0), (0, .ref h), (1, .int (nI u_2)), (2, .int z), (3, .int (nI what_4))]) hx hb dX1_fetes_43 hl (Nat.le_of_ble_eq_true rfl) rfl (fun ls hl => ?_)
        refine lv_iconst (v := 0) hx hb dX1_fetes_45 (by decide) ?_
        refine lv_istore (lv' := [(6, .int 0), (5, .int 0), (4, .int 0), (0, .ref h), (1, .int (nI u_2)), (2, .int z), (3, .int (nI what_4))]) hx hb dX1_fetes_46 hl (Nat.le_of_ble_eq_true rfl) rfl (fun ls hl => ?_)
        suffices hlp_6 : (∀ (n i : Nat), i + n = u_2 → ∀ (j_w : Nat → Option Nat) (j_a2 : Nat → Int32) (j_a3 : Nat → Int32) (j_a4 : Nat → Int32) (j_a5 : Nat → Int32) (j_0 : Int32) (j_1 : Int32) (j_2 : Int32), ∀ (H : Heap) (locs : List Loc), PP G [(h, xO xa (upd xi 7 ((ftO r N z i).1))), (xa 0, fO fn r), (fn 0, qA G 3 9 wh), (fn 1, iA G 9 (fA r 2)), (fn 2, iA G 9 (fA r 3)), (fn 3, iA G 9 (fA r 4)), (fn 4, iA G 9 (fA r 5)), (xa 2, fR fm j_0 j_1 j_2), (fm 0, qA G 3 9 j_w), (fm 1, iA G 9 j_a2), (fm 2, iA G 9 j_a3), (fm 3, iA G 9 j_a4), (fm 4, iA G 9 j_a5)] H → va_D A [(h, xO xa (upd xi 7 ((ftO r N z i).1))), (xa 0, fO fn r), (fn 0, qA G 3 9 wh), (fn 1, iA G 9 (fA r 2)), (fn 2, iA G 9 (fA r 3)), (fn 3, iA G 9 (fA r 4)), (fn 4, iA G 9 (fA r 5)), (xa 2, fR fm j_0 j_1 j_2), (fm 0, qA G 3 9 j_w), (fm 1, iA G 9 j_a2), (fm 2, iA G 9 j_a3), (fm 3, iA G 9 j_a4), (fm 4, iA G 9 j_a5)] → va_S A s.heap H locs → ∀ (ls : Array Slot), lv_has ls 10 [(6, .int (nI i)), (5, .int (nI ((ftO r N z i).2.2))), (4, .int ((ftO r N z i).2.1)), (0, .ref h), (1, .int (nI u_2)), (2, .int z), (3, .int (nI what_4))] → W p0_ l e0_ ({ frames := 10, cells := 0, slots := 0, locals := 288 } : Room) s m args below meth c H locs (0) (0) (MQ below (va_Qi (S := va_W) (fun rv w1 => rv = sFetesA r N (nI u_2) z (nI what_4) ∧ ∃ z9 : Int32, ∃ (g_w : Nat → Option Nat) (g_a2 g_a3 g_a4 g_a5 : Nat → Int32) (g_0 g_1 g_2 : Int32), w1 = [(h, xO xa (upd xi 7 z9)), (xa 0, fO fn r), (fn 0, qA G 3 9 wh), (fn 1, iA G 9 (fA r 2)), (fn 2, iA G 9 (fA r 3)), (fn 3, iA G 9 (fA r 4)), (fn 4, iA G 9 (fA r 5)), (xa 2, fR fm g_0 g_1 g_2), (fm 0, qA G 3 9 g_w), (fm 1, iA G 9 g_a2), (fm 2, iA G 9 g_a3), (fm 3, iA G 9 g_a4), (fm 4, iA G 9 g_a5)]) (fun w1 t => PP G w1 t.heap ∧ va_D A w1) A) args s 0 0 A) (F0 m 48 ls [])) by
          exact hlp_6 (u_2) 0 (by omega) (j_w) (j_a2) (j_a3) (j_a4) (j_a5) (j_0) (j_1) (j_2) _ _ (hP.sub [0, 1, 2, 3, 4, 5, 6, 7, 8, 9, 10, 11, 12] rfl) (hD.sub [0, 1, 2, 3, 4, 5, 6, 7, 8, 9, 10, 11, 12] (by decide) rfl) hS ls (lv_sub hl [0, 1, 2, 3, 4, 5, 6] rfl)
        have hend_6 : ∀ (j_w : Nat → Option Nat) (j_a2 : Nat → Int32) (j_a3 : Nat → Int32) (j_a4 : Nat → Int32) (j_a5 : Nat → Int32) (j_0 : Int32) (j_1 : Int32) (j_2 : Int32), ∀ (H : Heap) (locs : List Loc), PP G [(h, xO xa (upd xi 7 ((ftO r N z u_2).1))), (xa 0, fO fn r), (fn 0, qA G 3 9 wh), (fn 1, iA G 9 (fA r 2)), (fn 2, iA G 9 (fA r 3)), (fn 3, iA G 9 (fA r 4)), (fn 4, iA G 9 (fA r 5)), (xa 2, fR fm j_0 j_1 j_2), (fm 0, qA G 3 9 j_w), (fm 1, iA G 9 j_a2), (fm 2, iA G 9 j_a3), (fm 3, iA G 9 j_a4), (fm 4, iA G 9 j_a5)] H → va_D A [(h, xO xa (upd xi 7 ((ftO r N z u_2).1))), (xa 0, fO fn r), (fn 0, qA G 3 9 wh), (fn 1, iA G 9 (fA r 2)), (fn 2, iA G 9 (fA r 3)), (fn 3, iA G 9 (fA r 4)), (fn 4, iA G 9 (fA r 5)), (xa 2, fR fm j_0 j_1 j_2), (fm 0, qA G 3 9 j_w), (fm 1, iA G 9 j_a2), (fm 2, iA G 9 j_a3), (fm 3, iA G 9 j_a4), (fm 4, iA G 9 j_a5)] → va_S A s.heap H locs → ∀ (ls : Array Slot), lv_has ls 10 [(6, .int (nI u_2)), (5, .int (nI ((ftO r N z u_2).2.2))), (4, .int ((ftO r N z u_2).2.1)), (0, .ref h), (1, .int (nI u_2)), (2, .int z), (3, .int (nI what_4))] → W p0_ l e0_ ({ frames := 10, cells := 0, slots := 0, locals := 288 } : Room) s m args below meth c H locs (0) (0) (MQ below (va_Qi (S := va_W) (fun rv w1 => rv = sFetesA r N (nI u_2) z (nI what_4) ∧ ∃ z9 : Int32, ∃ (g_w : Nat → Option Nat) (g_a2 g_a3 g_a4 g_a5 : Nat → Int32) (g_0 g_1 g_2 : Int32), w1 = [(h, xO xa (upd xi 7 z9)), (xa 0, fO fn r), (fn 0, qA G 3 9 wh), (fn 1, iA G 9 (fA r 2)), (fn 2, iA G 9 (fA r 3)), (fn 3, iA G 9 (fA r 4)), (fn 4, iA G 9 (fA r 5)), (xa 2, fR fm g_0 g_1 g_2), (fm 0, qA G 3 9 g_w), (fm 1, iA G 9 g_a2), (fm 2, iA G 9 g_a3), (fm 3, iA G 9 g_a4), (fm 4, iA G 9 g_a5)]) (fun w1 t => PP G w1 t.heap ∧ va_D A w1) A) args s 0 0 A) (F0 m 48 ls []) := by
          intro j_w j_a2 j_a3 j_a4 j_a5 j_0 j_1 j_2 H locs hP hD hS ls hl
          have f1 := ftO_k r N z u_2
          refine lv_iload hx hb dX1_fetes_48 (lv_at hl 0 rfl) ?_
          refine lv_iload_n hx hb dX1_fetes_50 rfl (lv_at hl 4 rfl) ?_
          refine n_ic_ge (x := u_2) (y := u_2) (tgt := 142) hx hb (by omega) (by omega) dX1_fetes_51 (by decide) (fun c_7 => ?_) (fun c_7 => absurd c_7 (by omega))
          refine lv_iload_n hx hb dX1_fetes_142 rfl (lv_at hl 6 rfl) ?_
          refine n_if_ne (x := what_4) (tgt := 151) hx hb (by omega) dX1_fetes_143 (by decide) (fun c_8 => ?_) (fun c_8 => ?_)
          · have zc_8 : ¬ nI what_4 = 0 := nI_ne0 c_8 (by omega)
            have yc_8 : ¬ what_4 = 0 := Nat.ne_of_gt c_8
            refine lv_iload hx hb dX1_fetes_151 (lv_at hl 1 rfl) ?_
            exact n_iretW (v := nI ((ftO r N z u_2).2.2)) (w1 := [(h, xO xa (upd xi 7 ((ftO r N z u_2).1))), (xa 0, fO fn r), (fn 0, qA G 3 9 wh), (fn 1, iA G 9 (fA r 2)), (fn 2, iA G 9 (fA r 3)), (fn 3, iA G 9 (fA r 4)), (fn 4, iA G 9 (fA r 5)), (xa 2, fR fm j_0 j_1 j_2), (fm 0, qA G 3 9 j_w), (fm 1, iA G 9 j_a2), (fm 2, iA G 9 j_a3), (fm 3, iA G 9 j_a4), (fm 4, iA G 9 j_a5)]) C (⟨by simp [sFetesA, c_1, tu_2, c_3, twhat_4, c_5, yc_5, zc_5, c_7, c_8, yc_8, zc_8], _, _, _, _, _, _, _, _, _, rfl⟩) hP hD hS (by first | omega | decide) (by first | omega | decide) dX1_fetes_153
          · obtain rfl := c_8
            have zc_8 : (nI 0 = 0) = True := eq_true rfl
            refine lv_iload hx hb dX1_fetes_146 (lv_at hl 2 rfl) ?_
            refine lv_goto (tgt := 153) hx hb dX1_fetes_148 (by decide) ?_
            exact n_iretW (v := (ftO r N z u_2).2.1) (w1 := [(h, xO xa (upd xi 7 ((ftO r N z u_2).1))), (xa 0, fO fn r), (fn 0, qA G 3 9 wh), (fn 1, iA G 9 (fA r 2)), (fn 2, iA G 9 (fA r 3)), (fn 3, iA G 9 (fA r 4)), (fn 4, iA G 9 (fA r 5)), (xa 2, fR fm j_0 j_1 j_2), (fm 0, qA G 3 9 j_w), (fm 1, iA G 9 j_a2), (fm 2, iA G 9 j_a3), (fm 3, iA G 9 j_a4), (fm 4, iA G 9 j_a5)]) C (⟨by simp [sFetesA, c_1, tu_2, c_3, twhat_4, c_5, yc_5, zc_5, c_7, zc_8], _, _, _, _, _, _, _, _, _, rfl⟩) hP hD hS (by first | omega | decide) (by first | omega | decide) dX1_fetes_153
        intro n
        induction n with
        | zero =>
          intro i hi_6 j_w j_a2 j_a3 j_a4 j_a5 j_0 j_1 j_2 H locs hP hD hS ls hl
          obtain e_6 : i = u_2 := by omega
          first | (subst e_6; exact hend_6 j_w j_a2 j_a3 j_a4 j_a5 j_0 j_1 j_2 H locs hP hD hS ls hl) | (rw [e_6] at hl hP hD; exact hend_6 j_w j_a2 j_a3 j_a4 j_a5 j_0 j_1 j_2 H locs hP hD hS ls hl)
        | succ n ih_6 =>
          intro i hi_6 j_w j_a2 j_a3 j_a4 j_a5 j_0 j_1 j_2 H locs hP hD hS ls hl
          have f1 := ftO_k r N z i
          refine lv_iload hx hb dX1_fetes_48 (lv_at hl 0 rfl) ?_
          refine lv_iload_n hx hb dX1_fetes_50 rfl (lv_at hl 4 rfl) ?_
          refine n_ic_ge (x := i) (y := u_2) (tgt := 142) hx hb (by omega) (by omega) dX1_fetes_51 (by decide) (fun c_9 => absurd c_9 (by omega)) (fun c_9 => ?_)
          refine lv_aload_n hx hb dX1_fetes_54 rfl (lv_at hl 3 rfl) ?_
          refine c_VWvk (wr := []) (rest := []) C (metX1_minds l G h xa (upd xi 7 ((ftO r N z i).1)) fn gm wh r N fm j_w j_a2 j_a3 j_a4 j_a5 j_0 j_1 j_2 (by omega) (hr) (hwk) (NG.of hGA hD [0, 1, 2, 3, 4, 5, 6, 7, 8, 9, 10, 11, 12] rfl)) 0 (lw_V q579 q581 qs10 q39 q582) (by decide +kernel) ⟨rfl, rfl⟩ ⟨(Nat.le_of_ble_eq_true rfl), (Nat.le_of_ble_eq_true rfl)⟩ (KG.call) (KG.at hK (hGP.kept hGA hS)) (va_recv hK.1 hP (ci := 1) (q0 := 0) rfl rfl) hA hP hD hS [0, 1, 2, 3, 4, 5, 6, 7, 8, 9, 10, 11, 12] [] rfl rfl rfl rfl (by decide) hl rfl rfl (Nat.le_of_ble_eq_true rfl) ⟨(Nat.le_of_ble_eq_true rfl), (Nat.le_of_ble_eq_true rfl)⟩ dX1_fetes_55 (fun w1 H locs hq_11 hP hD hS => ?_)
          obtain rfl := hq_11
          have hP : PP G [(h, xO xa (upd xi 7 ((ftO r N z i).1))), (xa 0, fO fn r), (fn 0, qA G 3 9 wh), (fn 1, iA G 9 (fA r 2)), (fn 2, iA G 9 (fA r 3)), (fn 3, iA G 9 (fA r 4)), (fn 4, iA G 9 (fA r 5)), (xa 2, fO fm r), (fm 0, qA G 3 9 wh), (fm 1, iA G 9 (fA r 2)), (fm 2, iA G 9 (fA r 3)), (fm 3, iA G 9 (fA r 4)), (fm 4, iA G 9 (fA r 5))] H := hP
          have hD : va_D A [(h, xO xa (upd xi 7 ((ftO r N z i).1))), (xa 0, fO fn r), (fn 0, qA G 3 9 wh), (fn 1, iA G 9 (fA r 2)), (fn 2, iA G 9 (fA r 3)), (fn 3, iA G 9 (fA r 4)), (fn 4, iA G 9 (fA r 5)), (xa 2, fO fm r), (fm 0, qA G 3 9 wh), (fm 1, iA G 9 (fA r 2)), (fm 2, iA G 9 (fA r 3)), (fm 3, iA G 9 (fA r 4)), (fm 4, iA G 9 (fA r 5))] := hD
          have hw_12 : WK gm wh r N := hwk
          have hr_13 : r 0 = nI N := hr
          refine lv_iconst (v := 0) hx hb dX1_fetes_58 (by decide) ?_
          refine lv_istore (lv' := [(7, .int 0), (6, .int (nI i)), (5, .int (nI ((ftO r N z i).2.2))), (4, .int ((ftO r N z i).2.1)), (0, .ref h), (1, .int (nI u_2)), (2, .int z), (3, .int (nI what_4))]) hx hb dX1_fetes_59 hl (Nat.le_of_ble_eq_true rfl) rfl (fun ls hl => ?_)
          suffices hlp_14 : (∀ (n j : Nat), j + n = 10 → ∀ (H : Heap) (locs : List Loc), PP G [(h, xO xa (upd xi 7 ((ftI N (r, ftO r N z i) j).2.1))), (xa 0, fO fn r), (fn 0, qA G 3 9 wh), (fn 1, iA G 9 (fA r 2)), (fn 2, iA G 9 (fA r 3)), (fn 3, iA G 9 (fA r 4)), (fn 4, iA G 9 (fA r 5)), (xa 2, fO fm ((ftI N (r, ftO r N z i) j).1)), (fm 0, qA G 3 9 wh), (fm 1, iA G 9 (fA ((ftI N (r, ftO r N z i) j).1) 2)), (fm 2, iA G 9 (fA ((ftI N (r, ftO r N z i) j).1) 3)), (fm 3, iA G 9 (fA ((ftI N (r, ftO r N z i) j).1) 4)), (fm 4, iA G 9 (fA ((ftI N (r, ftO r N z i) j).1) 5))] H → va_D A [(h, xO xa (upd xi 7 ((ftI N (r, ftO r N z i) j).2.1))), (xa 0, fO fn r), (fn 0, qA G 3 9 wh), (fn 1, iA G 9 (fA r 2)), (fn 2, iA G 9 (fA r 3)), (fn 3, iA G 9 (fA r 4)), (fn 4, iA G 9 (fA r 5)), (xa 2, fO fm ((ftI N (r, ftO r N z i) j).1)), (fm 0, qA G 3 9 wh), (fm 1, iA G 9 (fA ((ftI N (r, ftO r N z i) j).1) 2)), (fm 2, iA G 9 (fA ((ftI N (r, ftO r N z i) j).1) 3)), (fm 3, iA G 9 (fA ((ftI N (r, ftO r N z i) j).1) 4)), (fm 4, iA G 9 (fA ((ftI N (r, ftO r N z i) j).1) 5))] → va_S A s.heap H locs → ∀ (ls : Array Slot), lv_has ls 10 [(7, .int (nI j)), (6, .int (nI i)), (5, .int (nI ((ftI N (r, ftO r N z i) j).2.2.2))), (4, .int ((ftI N (r, ftO r N z i) j).2.2.1)), (0, .ref h), (1, .int (nI u_2)), (2, .int z), (3, .int (nI what_4))] → W p0_ l e0_ ({ frames := 10, cells := 0, slots := 0, locals := 288 } : Room) s m args below meth c H locs (0) (0) (MQ below (va_Qi (S := va_W) (fun rv w1 => rv = sFetesA r N (nI u_2) z (nI what_4) ∧ ∃ z9 : Int32, ∃ (g_w : Nat → Option Nat) (g_a2 g_a3 g_a4 g_a5 : Nat → Int32) (g_0 g_1 g_2 : Int32), w1 = [(h, xO xa (upd xi 7 z9)), (xa 0, fO fn r), (fn 0, qA G 3 9 wh), (fn 1, iA G 9 (fA r 2)), (fn 2, iA G 9 (fA r 3)), (fn 3, iA G 9 (fA r 4)), (fn 4, iA G 9 (fA r 5)), (xa 2, fR fm g_0 g_1 g_2), (fm 0, qA G 3 9 g_w), (fm 1, iA G 9 g_a2), (fm 2, iA G 9 g_a3), (fm 3, iA G 9 g_a4), (fm 4, iA G 9 g_a5)]) (fun w1 t => PP G w1 t.heap ∧ va_D A w1) A) args s 0 0 A) (F0 m 61 ls [])) by
            exact hlp_14 (10) 0 (by omega) _ _ (hP.sub [0, 1, 2, 3, 4, 5, 6, 7, 8, 9, 10, 11, 12] rfl) (hD.sub [0, 1, 2, 3, 4, 5, 6, 7, 8, 9, 10, 11, 12] (by decide) rfl) hS ls (lv_sub hl [0, 1, 2, 3, 4, 5, 6, 7] rfl)
          have hend_14 : ∀ (H : Heap) (locs : List Loc), PP G [(h, xO xa (upd xi 7 ((ftI N (r, ftO r N z i) 10).2.1))), (xa 0, fO fn r), (fn 0, qA G 3 9 wh), (fn 1, iA G 9 (fA r 2)), (fn 2, iA G 9 (fA r 3)), (fn 3, iA G 9 (fA r 4)), (fn 4, iA G 9 (fA r 5)), (xa 2, fO fm ((ftI N (r, ftO r N z i) 10).1)), (fm 0, qA G 3 9 wh), (fm 1, iA G 9 (fA ((ftI N (r, ftO r N z i) 10).1) 2)), (fm 2, iA G 9 (fA ((ftI N (r, ftO r N z i) 10).1) 3)), (fm 3, iA G 9 (fA ((ftI N (r, ftO r N z i) 10).1) 4)), (fm 4, iA G 9 (fA ((ftI N (r, ftO r N z i) 10).1) 5))] H → va_D A [(h, xO xa (upd xi 7 ((ftI N (r, ftO r N z i) 10).2.1))), (xa 0, fO fn r), (fn 0, qA G 3 9 wh), (fn 1, iA G 9 (fA r 2)), (fn 2, iA G 9 (fA r 3)), (fn 3, iA G 9 (fA r 4)), (fn 4, iA G 9 (fA r 5)), (xa 2, fO fm ((ftI N (r, ftO r N z i) 10).1)), (fm 0, qA G 3 9 wh), (fm 1, iA G 9 (fA ((ftI N (r, ftO r N z i) 10).1) 2)), (fm 2, iA G 9 (fA ((ftI N (r, ftO r N z i) 10).1) 3)), (fm 3, iA G 9 (fA ((ftI N (r, ftO r N z i) 10).1) 4)), (fm 4, iA G 9 (fA ((ftI N (r, ftO r N z i) 10).1) 5))] → va_S A s.heap H locs → ∀ (ls : Array Slot), lv_has ls 10 [(7, .int (nI 10)), (6, .int (nI i)), (5, .int (nI ((ftI N (r, ftO r N z i) 10).2.2.2))), (4, .int ((ftI N (r, ftO r N z i) 10).2.2.1)), (0, .ref h), (1, .int (nI u_2)), (2, .int z), (3, .int (nI what_4))] → W p0_ l e0_ ({ frames := 10, cells := 0, slots := 0, locals := 288 } : Room) s m args below meth c H locs (0) (0) (MQ below (va_Qi (S := va_W) (fun rv w1 => rv = sFetesA r N (nI u_2) z (nI what_4) ∧ ∃ z9 : Int32, ∃ (g_w : Nat → Option Nat) (g_a2 g_a3 g_a4 g_a5 : Nat → Int32) (g_0 g_1 g_2 : Int32), w1 = [(h, xO xa (upd xi 7 z9)), (xa 0, fO fn r), (fn 0, qA G 3 9 wh), (fn 1, iA G 9 (fA r 2)), (fn 2, iA G 9 (fA r 3)), (fn 3, iA G 9 (fA r 4)), (fn 4, iA G 9 (fA r 5)), (xa 2, fR fm g_0 g_1 g_2), (fm 0, qA G 3 9 g_w), (fm 1, iA G 9 g_a2), (fm 2, iA G 9 g_a3), (fm 3, iA G 9 g_a4), (fm 4, iA G 9 g_a5)]) (fun w1 t => PP G w1 t.heap ∧ va_D A w1) A) args s 0 0 A) (F0 m 61 ls []) := by
            intro H locs hP hD hS ls hl
            have f2 := ftI_k N (r, ftO r N z i) 10
            simp only at f2
            refine lv_iload hx hb dX1_fetes_61 (lv_at hl 0 rfl) ?_
            refine lv_bipush (v := 10) hx hb dX1_fetes_63 (by decide) ?_
            refine n_ic_ge (x := 10) (y := 10) (tgt := 136) hx hb (by omega) (by omega) dX1_fetes_65 (by decide) (fun c_15 => ?_) (fun c_15 => absurd c_15 (by omega))
            refine n_iinc (k := 1) (lv' := [(6, .int (nI (i + 1))), (7, .int (nI 10)), (5, .int (nI ((ftI N (r, ftO r N z i) 10).2.2.2))), (4, .int ((ftI N (r, ftO r N z i) 10).2.2.1)), (0, .ref h), (1, .int (nI u_2)), (2, .int z), (3, .int (nI what_4))]) hx hb i 1 dX1_fetes_136 hl rfl (Nat.le_of_ble_eq_true rfl) rfl (fun ls hl => ?_)
            refine lv_goto (tgt := 48) hx hb dX1_fetes_139 (by decide) ?_
            have e_16 : (ftO r N z (i + 1)).2.2 = (ftI N (r, ftO r N z i) 10).2.2.2 := by rw [ftO]
            have e_17 : (ftO r N z (i + 1)).2.1 = (ftI N (r, ftO r N z i) 10).2.2.1 := by rw [ftO]
            have e_18 : (xO xa (upd xi 7 ((ftO r N z (i + 1)).1)) : va_E) = xO xa (upd xi 7 ((ftI N (r, ftO r N z i) 10).2.1)) := by rw [ftO]
            have e_19 : (fR fm (((ftI N (r, ftO r N z i) 10).1) 0) (((ftI N (r, ftO r N z i) 10).1) 1) (((ftI N (r, ftO r N z i) 10).1) 2) : va_E) = fO fm ((ftI N (r, ftO r N z i) 10).1) := by rfl
            exact ih_6 (i + 1) (by omega) wh (fA ((ftI N (r, ftO r N z i) 10).1) 2) (fA ((ftI N (r, ftO r N z i) 10).1) 3) (fA ((ftI N (r, ftO r N z i) 10).1) 4) (fA ((ftI N (r, ftO r N z i) 10).1) 5) (((ftI N (r, ftO r N z i) 10).1) 0) (((ftI N (r, ftO r N z i) 10).1) 1) (((ftI N (r, ftO r N z i) 10).1) 2) _ _ (by rw [e_18, e_19]; exact hP.sub [0, 1, 2, 3, 4, 5, 6, 7, 8, 9, 10, 11, 12] rfl) (by rw [e_18, e_19]; exact hD.sub [0, 1, 2, 3, 4, 5, 6, 7, 8, 9, 10, 11, 12] (by decide) rfl) hS ls (by rw [e_16, e_17]; exact lv_sub hl [0, 2, 3, 4, 5, 6, 7] rfl)
          intro n
          induction n with
          | zero =>
            intro j hi_14 H locs hP hD hS ls hl
            obtain e_14 : j = 10 := by omega
            first | (subst e_14; exact hend_14 H locs hP hD hS ls hl) | (rw [e_14] at hl hP hD; exact hend_14 H locs hP hD hS ls hl)
          | succ n ih_14 =>
            intro j hi_14 H locs hP hD hS ls hl
            have f2 := ftI_k N (r, ftO r N z i) j
            simp only at f2
            have g1 := ftI_WK (N := N) (x := (r, ftO r N z i)) hwk j
            have g0 : (ftI N (r, ftO r N z i) j).1 0 = nI N := (ftI_0 N (r, ftO r N z i) j).trans hr
            refine lv_iload hx hb dX1_fetes_61 (lv_at hl 0 rfl) ?_
            refine lv_bipush (v := 10) hx hb dX1_fetes_63 (by decide) ?_
            refine n_ic_ge (x := j) (y := 10) (tgt := 136) hx hb (by omega) (by omega) dX1_fetes_65 (by decide) (fun c_20 => absurd c_20 (by omega)) (fun c_20 => ?_)
            refine lv_aload_n hx hb dX1_fetes_68 rfl (lv_at hl 4 rfl) ?_
            refine lv_aload_n hx hb dX1_fetes_69 rfl (lv_at hl 4 rfl) ?_
            refine va_get (D := gD G) (ci := 1) (v := .ref (xa 0)) (C := RX1) (T := TX1) (N := 9) hx hb hts in_X1 hown hK.1 hP 0 rfl rfl 0 (by decide) (hts _ q838) (fun _ h9 => h9) rfl dX1_fetes_70 ?_
            refine va_get (D := gD G) (ci := 2) (v := .int (r 0)) (C := RX2) (T := TX2) (N := 8) hx hb hts in_X2 hown hK.1 hP 1 rfl rfl 5 (by decide) (hts _ q803) (fun _ h9 => h9) rfl dX1_fetes_73 ?_
            refine n_eqi (hr_13) ?_
            refine c_VW (wr := [(xa 0, fO fn r), (fn 0, qA G 3 9 wh), (fn 1, iA G 9 (fA r 2)), (fn 2, iA G 9 (fA r 3)), (fn 3, iA G 9 (fA r 4)), (fn 4, iA G 9 (fA r 5)), (xa 2, fO fm ((ftI N (r, ftO r N z i) j).1)), (fm 0, qA G 3 9 wh), (fm 1, iA G 9 (fA ((ftI N (r, ftO r N z i) j).1) 2)), (fm 2, iA G 9 (fA ((ftI N (r, ftO r N z i) j).1) 3)), (fm 3, iA G 9 (fA ((ftI N (r, ftO r N z i) j).1) 4)), (fm 4, iA G 9 (fA ((ftI N (r, ftO r N z i) j).1) 5))]) (rest := []) C (metX1_draw l G h xa xi ((ftI N (r, ftO r N z i) j).2.1) N (by omega)) 1 (lw_V q760 q762 qs22 q39 q763) (by decide +kernel) ⟨rfl, rfl⟩ ⟨(Nat.le_of_ble_eq_true rfl), (Nat.le_of_ble_eq_true rfl)⟩ (KM_mv G) hK.1 (va_recv hK.1 hP (ci := 1) (q0 := 0) rfl rfl) hA hP hD hS [0] [1, 2, 3, 4, 5, 6, 7, 8, 9, 10, 11, 12] rfl rfl rfl rfl (by decide) hl rfl rfl (Nat.le_of_ble_eq_true rfl) ⟨(Nat.le_of_ble_eq_true rfl), (Nat.le_of_ble_eq_true rfl)⟩ dX1_fetes_76 (fun r_21 w1 H locs hq_22 hP hD hS => ?_)
            obtain ⟨rfl, rfl⟩ := hq_22
            have hP : PP G [(xa 0, fO fn r), (fn 0, qA G 3 9 wh), (fn 1, iA G 9 (fA r 2)), (fn 2, iA G 9 (fA r 3)), (fn 3, iA G 9 (fA r 4)), (fn 4, iA G 9 (fA r 5)), (xa 2, fO fm ((ftI N (r, ftO r N z i) j).1)), (fm 0, qA G 3 9 wh), (fm 1, iA G 9 (fA ((ftI N (r, ftO r N z i) j).1) 2)), (fm 2, iA G 9 (fA ((ftI N (r, ftO r N z i) j).1) 3)), (fm 3, iA G 9 (fA ((ftI N (r, ftO r N z i) j).1) 4)), (fm 4, iA G 9 (fA ((ftI N (r, ftO r N z i) j).1) 5)), (h, xO xa (upd xi 7 (sDraw ((ftI N (r, ftO r N z i) j).2.1))))] H := hP
            have hD : va_D A [(xa 0, fO fn r), (fn 0, qA G 3 9 wh), (fn 1, iA G 9 (fA r 2)), (fn 2, iA G 9 (fA r 3)), (fn 3, iA G 9 (fA r 4)), (fn 4, iA G 9 (fA r 5)), (xa 2, fO fm ((ftI N (r, ftO r N z i) j).1)), (fm 0, qA G 3 9 wh), (fm 1, iA G 9 (fA ((ftI N (r, ftO r N z i) j).1) 2)), (fm 2, iA G 9 (fA ((ftI N (r, ftO r N z i) j).1) 3)), (fm 3, iA G 9 (fA ((ftI N (r, ftO r N z i) j).1) 4)), (fm 4, iA G 9 (fA ((ftI N (r, ftO r N z i) j).1) 5)), (h, xO xa (upd xi 7 (sDraw ((ftI N (r, ftO r N z i) j).2.1))))] := hD
            refine lv_istore (lv' := [(8, .int (nI (sRnd ((ftI N (r, ftO r N z i) j).2.1) N))), (7, .int (nI j)), (6, .int (nI i)), (5, .int (nI ((ftI N (r, ftO r N z i) j).2.2.2))), (4, .int ((ftI N (r, ftO r N z i) j).2.2.1)), (0, .ref h), (1, .int (nI u_2)), (2, .int z), (3, .int (nI what_4))]) hx hb dX1_fetes_79 hl (Nat.le_of_ble_eq_true rfl) rfl (fun ls hl => ?_)
            refine lv_aload_n hx hb dX1_fetes_81 rfl (lv_at hl 5 rfl) ?_
            refine lv_aload_n hx hb dX1_fetes_82 rfl (lv_at hl 5 rfl) ?_
            refine va_get (D := gD G) (ci := 1) (v := .ref (xa 0)) (C := RX1) (T := TX1) (N := 9) hx hb hts in_X1 hown hK.1 hP 12 rfl rfl 0 (by decide) (hts _ q838) (fun _ h9 => h9) rfl dX1_fetes_83 ?_
            refine va_get (D := gD G) (ci := 2) (v := .int (r 0)) (C := RX2) (T := TX2) (N := 8) hx hb hts in_X2 hown hK.1 hP 0 rfl rfl 5 (by decide) (hts _ q803) (fun _ h9 => h9) rfl dX1_fetes_86 ?_
            refine n_eqi (hr_13) ?_
            refine c_VW (wr := [(xa 0, fO fn r), (fn 0, qA G 3 9 wh), (fn 1, iA G 9 (fA r 2)), (fn 2, iA G 9 (fA r 3)), (fn 3, iA G 9 (fA r 4)), (fn 4, iA G 9 (fA r 5)), (xa 2, fO fm ((ftI N (r, ftO r N z i) j).1)), (fm 0, qA G 3 9 wh), (fm 1, iA G 9 (fA ((ftI N (r, ftO r N z i) j).1) 2)), (fm 2, iA G 9 (fA ((ftI N (r, ftO r N z i) j).1) 3)), (fm 3, iA G 9 (fA ((ftI N (r, ftO r N z i) j).1) 4)), (fm 4, iA G 9 (fA ((ftI N (r, ftO r N z i) j).1) 5))]) (rest := []) C (metX1_draw l G h xa xi (sDraw ((ftI N (r, ftO r N z i) j).2.1)) N (by omega)) 1 (lw_V q760 q762 qs22 q39 q763) (by decide +kernel) ⟨rfl, rfl⟩ ⟨(Nat.le_of_ble_eq_true rfl), (Nat.le_of_ble_eq_true rfl)⟩ (KM_mv G) hK.1 (va_recv hK.1 hP (ci := 1) (q0 := 12) rfl rfl) hA hP hD hS [12] [0, 1, 2, 3, 4, 5, 6, 7, 8, 9, 10, 11] rfl rfl rfl rfl (by decide) hl rfl rfl (Nat.le_of_ble_eq_true rfl) ⟨(Nat.le_of_ble_eq_true rfl), (Nat.le_of_ble_eq_true rfl)⟩ dX1_fetes_89 (fun r_23 w1 H locs hq_24 hP hD hS => ?_)
            obtain ⟨rfl, rfl⟩ := hq_24
            have hP : PP G [(xa 0, fO fn r), (fn 0, qA G 3 9 wh), (fn 1, iA G 9 (fA r 2)), (fn 2, iA G 9 (fA r 3)), (fn 3, iA G 9 (fA r 4)), (fn 4, iA G 9 (fA r 5)), (xa 2, fO fm ((ftI N (r, ftO r N z i) j).1)), (fm 0, qA G 3 9 wh), (fm 1, iA G 9 (fA ((ftI N (r, ftO r N z i) j).1) 2)), (fm 2, iA G 9 (fA ((ftI N (r, ftO r N z i) j).1) 3)), (fm 3, iA G 9 (fA ((ftI N (r, ftO r N z i) j).1) 4)), (fm 4, iA G 9 (fA ((ftI N (r, ftO r N z i) j).1) 5)), (h, xO xa (upd xi 7 (sDraw (sDraw ((ftI N (r, ftO r N z i) j).2.1)))))] H := hP
            have hD : va_D A [(xa 0, fO fn r), (fn 0, qA G 3 9 wh), (fn 1, iA G 9 (fA r 2)), (fn 2, iA G 9 (fA r 3)), (fn 3, iA G 9 (fA r 4)), (fn 4, iA G 9 (fA r 5)), (xa 2, fO fm ((ftI N (r, ftO r N z i) j).1)), (fm 0, qA G 3 9 wh), (fm 1, iA G 9 (fA ((ftI N (r, ftO r N z i) j).1) 2)), (fm 2, iA G 9 (fA ((ftI N (r, ftO r N z i) j).1) 3)), (fm 3, iA G 9 (fA ((ftI N (r, ftO r N z i) j).1) 4)), (fm 4, iA G 9 (fA ((ftI N (r, ftO r N z i) j).1) 5)), (h, xO xa (upd xi 7 (sDraw (sDraw ((ftI N (r, ftO r N z i) j).2.1)))))] := hD
            refine lv_istore (lv' := [(9, .int (nI (sRnd (sDraw ((ftI N (r, ftO r N z i) j).2.1)) N))), (8, .int (nI (sRnd ((ftI N (r, ftO r N z i) j).2.1) N))), (7, .int (nI j)), (6, .int (nI i)), (5, .int (nI ((ftI N (r, ftO r N z i) j).2.2.2))), (4, .int ((ftI N (r, ftO r N z i) j).2.2.1)), (0, .ref h), (1, .int (nI u_2)), (2, .int z), (3, .int (nI what_4))]) hx hb dX1_fetes_92 hl (Nat.le_of_ble_eq_true rfl) rfl (fun ls hl => ?_)
            refine lv_aload_n hx hb dX1_fetes_94 rfl (lv_at hl 6 rfl) ?_
            refine va_get (D := gD G) (ci := 1) (v := .ref (xa 2)) (C := RX1) (T := TX1) (N := 9) hx hb hts in_X1 hown hK.1 hP 12 rfl rfl 2 (by decide) (hts _ q840) (fun _ h9 => h9) rfl dX1_fetes_95 ?_
            refine lv_iload hx hb dX1_fetes_98 (lv_at hl 1 rfl) ?_
            refine lv_iload hx hb dX1_fetes_100 (lv_at hl 0 rfl) ?_
            refine c_Vk (rest := []) C (metX2_canEatN l G (xa 2) fm gm wh ((ftI N (r, ftO r N z i) j).1) N (sRnd ((ftI N (r, ftO r N z i) j).2.1) N) (sRnd (sDraw ((ftI N (r, ftO r N z i) j).2.1)) N) (by omega) (g0) (g1) (sRnd_lt _ (by omega)) (sRnd_lt _ (by omega))) 2 (lw_V q367 q368 q369 q40 q370) (by decide +kernel) ⟨rfl, rfl⟩ ⟨(Nat.le_of_ble_eq_true rfl), (Nat.le_of_ble_eq_true rfl)⟩ (KG.call) (va_recv hK.1 hP (ci := 2) (q0 := 6) rfl rfl) (hP.sub (ws' := [(xa 2, fO fm ((ftI N (r, ftO r N z i) j).1)), (fm 0, qA G 3 9 wh), (fm 1, iA G 9 (fA ((ftI N (r, ftO r N z i) j).1) 2)), (fm 2, iA G 9 (fA ((ftI N (r, ftO r N z i) j).1) 3)), (fm 3, iA G 9 (fA ((ftI N (r, ftO r N z i) j).1) 4)), (fm 4, iA G 9 (fA ((ftI N (r, ftO r N z i) j).1) 5))]) [6, 7, 8, 9, 10, 11] rfl) (KG.at hK (hGP.kept hGA hS)) hl rfl rfl (Nat.le_of_ble_eq_true rfl) ⟨(Nat.le_of_ble_eq_true rfl), (Nat.le_of_ble_eq_true rfl)⟩ dX1_fetes_102 ?_
            refine n_if_neB (b := (sEat ((ftI N (r, ftO r N z i) j).1) (sRnd ((ftI N (r, ftO r N z i) j).2.1) N) (sRnd (sDraw ((ftI N (r, ftO r N z i) j).2.1)) N))) (tgt := 111) hx hb dX1_fetes_105 (by decide) (fun c_25 => ?_) (fun c_25 => ?_)
            · refine lv_iload hx hb dX1_fetes_111 (lv_at hl 5 rfl) ?_
              refine lv_aload_n hx hb dX1_fetes_113 rfl (lv_at hl 6 rfl) ?_
              refine va_get (D := gD G) (ci := 1) (v := .ref (xa 2)) (C := RX1) (T := TX1) (N := 9) hx hb hts in_X1 hown hK.1 hP 12 rfl rfl 2 (by decide) (hts _ q840) (fun _ h9 => h9) rfl dX1_fetes_114 ?_
              refine lv_iload hx hb dX1_fetes_117 (lv_at hl 1 rfl) ?_
              refine lv_iload hx hb dX1_fetes_119 (lv_at hl 0 rfl) ?_
              refine c_VWk (wr := [(xa 0, fO fn r), (fn 0, qA G 3 9 wh), (fn 1, iA G 9 (fA r 2)), (fn 2, iA G 9 (fA r 3)), (fn 3, iA G 9 (fA r 4)), (fn 4, iA G 9 (fA r 5)), (h, xO xa (upd xi 7 (sDraw (sDraw ((ftI N (r, ftO r N z i) j).2.1)))))]) (rest := [.int ((ftI N (r, ftO r N z i) j).2.2.1)]) C (metX2_eats l G (xa 2) fm gm wh ((ftI N (r, ftO r N z i) j).1) N (sRnd ((ftI N (r, ftO r N z i) j).2.1) N) (sRnd (sDraw ((ftI N (r, ftO r N z i) j).2.1)) N) (by omega) (g0) (g1) (sRnd_lt _ (by omega)) (sRnd_lt _ (by omega)) (NG.of hGA hD [6, 7, 8, 9, 10, 11] rfl)) 2 (lw_V q398 q399 q400 q40 q401) (by decide +kernel) ⟨rfl, rfl⟩ ⟨(Nat.le_of_ble_eq_true rfl), (Nat.le_of_ble_eq_true rfl)⟩ (KG.call) (KG.at hK (hGP.kept hGA hS)) (va_recv hK.1 hP (ci := 2) (q0 := 6) rfl rfl) hA hP hD hS [6, 7, 8, 9, 10, 11] [0, 1, 2, 3, 4, 5, 12] rfl rfl rfl rfl (by decide) hl rfl rfl (Nat.le_of_ble_eq_true rfl) ⟨(Nat.le_of_ble_eq_true rfl), (Nat.le_of_ble_eq_true rfl)⟩ dX1_fetes_121 (fun r_26 w1 H locs hq_27 hP hD hS => ?_)
              obtain ⟨rfl, rfl⟩ := hq_27
              have hP : PP G [(xa 0, fO fn r), (fn 0, qA G 3 9 wh), (fn 1, iA G 9 (fA r 2)), (fn 2, iA G 9 (fA r 3)), (fn 3, iA G 9 (fA r 4)), (fn 4, iA G 9 (fA r 5)), (h, xO xa (upd xi 7 (sDraw (sDraw ((ftI N (r, ftO r N z i) j).2.1))))), (xa 2, fO fm (sTurn ((ftI N (r, ftO r N z i) j).1) (sRnd ((ftI N (r, ftO r N z i) j).2.1) N) (sRnd (sDraw ((ftI N (r, ftO r N z i) j).2.1)) N))), (fm 0, qA G 3 9 wh), (fm 1, iA G 9 (fA (sTurn ((ftI N (r, ftO r N z i) j).1) (sRnd ((ftI N (r, ftO r N z i) j).2.1) N) (sRnd (sDraw ((ftI N (r, ftO r N z i) j).2.1)) N)) 2)), (fm 2, iA G 9 (fA (sTurn ((ftI N (r, ftO r N z i) j).1) (sRnd ((ftI N (r, ftO r N z i) j).2.1) N) (sRnd (sDraw ((ftI N (r, ftO r N z i) j).2.1)) N)) 3)), (fm 3, iA G 9 (fA (sTurn ((ftI N (r, ftO r N z i) j).1) (sRnd ((ftI N (r, ftO r N z i) j).2.1) N) (sRnd (sDraw ((ftI N (r, ftO r N z i) j).2.1)) N)) 4)), (fm 4, iA G 9 (fA (sTurn ((ftI N (r, ftO r N z i) j).1) (sRnd ((ftI N (r, ftO r N z i) j).2.1) N) (sRnd (sDraw ((ftI N (r, ftO r N z i) j).2.1)) N)) 5))] H := hP
              have hD : va_D A [(xa 0, fO fn r), (fn 0, qA G 3 9 wh), (fn 1, iA G 9 (fA r 2)), (fn 2, iA G 9 (fA r 3)), (fn 3, iA G 9 (fA r 4)), (fn 4, iA G 9 (fA r 5)), (h, xO xa (upd xi 7 (sDraw (sDraw ((ftI N (r, ftO r N z i) j).2.1))))), (xa 2, fO fm (sTurn ((ftI N (r, ftO r N z i) j).1) (sRnd ((ftI N (r, ftO r N z i) j).2.1) N) (sRnd (sDraw ((ftI N (r, ftO r N z i) j).2.1)) N))), (fm 0, qA G 3 9 wh), (fm 1, iA G 9 (fA (sTurn ((ftI N (r, ftO r N z i) j).1) (sRnd ((ftI N (r, ftO r N z i) j).2.1) N) (sRnd (sDraw ((ftI N (r, ftO r N z i) j).2.1)) N)) 2)), (fm 2, iA G 9 (fA (sTurn ((ftI N (r, ftO r N z i) j).1) (sRnd ((ftI N (r, ftO r N z i) j).2.1) N) (sRnd (sDraw ((ftI N (r, ftO r N z i) j).2.1)) N)) 3)), (fm 3, iA G 9 (fA (sTurn ((ftI N (r, ftO r N z i) j).1) (sRnd ((ftI N (r, ftO r N z i) j).2.1) N) (sRnd (sDraw ((ftI N (r, ftO r N z i) j).2.1)) N)) 4)), (fm 4, iA G 9 (fA (sTurn ((ftI N (r, ftO r N z i) j).1) (sRnd ((ftI N (r, ftO r N z i) j).2.1) N) (sRnd (sDraw ((ftI N (r, ftO r N z i) j).2.1)) N)) 5))] := hD
              have hw_28 : WK gm wh (sTurn ((ftI N (r, ftO r N z i) j).1) (sRnd ((ftI N (r, ftO r N z i) j).2.1) N) (sRnd (sDraw ((ftI N (r, ftO r N z i) j).2.1)) N)) N := WK.turn g1
              have hr_29 : (sTurn ((ftI N (r, ftO r N z i) j).1) (sRnd ((ftI N (r, ftO r N z i) j).2.1) N) (sRnd (sDraw ((ftI N (r, ftO r N z i) j).2.1)) N)) 0 = nI N := (sTurn_0 ((ftI N (r, ftO r N z i) j).1) (sRnd ((ftI N (r, ftO r N z i) j).2.1) N) (sRnd (sDraw ((ftI N (r, ftO r N z i) j).2.1)) N)).trans g0
              refine lv_iadd (x := (ftI N (r, ftO r N z i) j).2.2.1) (y := sJoy ((ftI N (r, ftO r N z i) j).1) (sRnd ((ftI N (r, ftO r N z i) j).2.1) N) (sRnd (sDraw ((ftI N (r, ftO r N z i) j).2.1)) N)) hx hb dX1_fetes_124 ?_
              refine lv_istore (lv' := [(4, .int (((ftI N (r, ftO r N z i) j).2.2.1) + (sJoy ((ftI N (r, ftO r N z i) j).1) (sRnd ((ftI N (r, ftO r N z i) j).2.1) N) (sRnd (sDraw ((ftI N (r, ftO r N z i) j).2.1)) N)))), (9, .int (nI (sRnd (sDraw ((ftI N (r, ftO r N z i) j).2.1)) N))), (8, .int (nI (sRnd ((ftI N (r, ftO r N z i) j).2.1) N))), (7, .int (nI j)), (6, .int (nI i)), (5, .int (nI ((ftI N (r, ftO r N z i) j).2.2.2))), (0, .ref h), (1, .int (nI u_2)), (2, .int z), (3, .int (nI what_4))]) hx hb dX1_fetes_125 hl (Nat.le_of_ble_eq_true rfl) rfl (fun ls hl => ?_)
              refine n_iinc (k := 5) (lv' := [(5, .int (nI ((ftI N (r, ftO r N z i) j).2.2.2 + 1))), (4, .int (((ftI N (r, ftO r N z i) j).2.2.1) + (sJoy ((ftI N (r, ftO r N z i) j).1) (sRnd ((ftI N (r, ftO r N z i) j).2.1) N) (sRnd (sDraw ((ftI N (r, ftO r N z i) j).2.1)) N)))), (9, .int (nI (sRnd (sDraw ((ftI N (r, ftO r N z i) j).2.1)) N))), (8, .int (nI (sRnd ((ftI N (r, ftO r N z i) j).2.1) N))), (7, .int (nI j)), (6, .int (nI i)), (0, .ref h), (1, .int (nI u_2)), (2, .int z), (3, .int (nI what_4))]) hx hb ((ftI N (r, ftO r N z i) j).2.2.2) 1 dX1_fetes_127 hl rfl (Nat.le_of_ble_eq_true rfl) rfl (fun ls hl => ?_)
              refine n_iinc (k := 4) (lv' := [(7, .int (nI (j + 1))), (5, .int (nI ((ftI N (r, ftO r N z i) j).2.2.2 + 1))), (4, .int (((ftI N (r, ftO r N z i) j).2.2.1) + (sJoy ((ftI N (r, ftO r N z i) j).1) (sRnd ((ftI N (r, ftO r N z i) j).2.1) N) (sRnd (sDraw ((ftI N (r, ftO r N z i) j).2.1)) N)))), (9, .int (nI (sRnd (sDraw ((ftI N (r, ftO r N z i) j).2.1)) N))), (8, .int (nI (sRnd ((ftI N (r, ftO r N z i) j).2.1) N))), (6, .int (nI i)), (0, .ref h), (1, .int (nI u_2)), (2, .int z), (3, .int (nI what_4))]) hx hb j 1 dX1_fetes_130 hl rfl (Nat.le_of_ble_eq_true rfl) rfl (fun ls hl => ?_)
              refine lv_goto (tgt := 61) hx hb dX1_fetes_133 (by decide) ?_
              have e_30 : (ftI N (r, ftO r N z i) (j + 1)).2.2.2 = (ftI N (r, ftO r N z i) j).2.2.2 + 1 := by simp only [ftI, ftS, tu_2, twhat_4, c_20, c_25, if_true, if_false, Bool.true_eq_false]
              have e_31 : (ftI N (r, ftO r N z i) (j + 1)).2.2.1 = ((ftI N (r, ftO r N z i) j).2.2.1) + (sJoy ((ftI N (r, ftO r N z i) j).1) (sRnd ((ftI N (r, ftO r N z i) j).2.1) N) (sRnd (sDraw ((ftI N (r, ftO r N z i) j).2.1)) N)) := by simp only [ftI, ftS, tu_2, twhat_4, c_20, c_25, if_true, if_false, Bool.true_eq_false]
              have e_32 : (xO xa (upd xi 7 ((ftI N (r, ftO r N z i) (j + 1)).2.1)) : va_E) = xO xa (upd xi 7 (sDraw (sDraw ((ftI N (r, ftO r N z i) j).2.1)))) := by simp only [ftI, ftS, tu_2, twhat_4, c_20, c_25, if_true, if_false, Bool.true_eq_false]
              have e_33 : (fO fm ((ftI N (r, ftO r N z i) (j + 1)).1) : va_E) = fO fm (sTurn ((ftI N (r, ftO r N z i) j).1) (sRnd ((ftI N (r, ftO r N z i) j).2.1) N) (sRnd (sDraw ((ftI N (r, ftO r N z i) j).2.1)) N)) := by simp only [ftI, ftS, tu_2, twhat_4, c_20, c_25, if_true, if_false, Bool.true_eq_false]
              have e_34 : (iA G 9 (fA ((ftI N (r, ftO r N z i) (j + 1)).1) 2) : va_E) = iA G 9 (fA (sTurn ((ftI N (r, ftO r N z i) j).1) (sRnd ((ftI N (r, ftO r N z i) j).2.1) N) (sRnd (sDraw ((ftI N (r, ftO r N z i) j).2.1)) N)) 2) := by simp only [ftI, ftS, tu_2, twhat_4, c_20, c_25, if_true, if_false, Bool.true_eq_false]
              have e_35 : (iA G 9 (fA ((ftI N (r, ftO r N z i) (j + 1)).1) 3) : va_E) = iA G 9 (fA (sTurn ((ftI N (r, ftO r N z i) j).1) (sRnd ((ftI N (r, ftO r N z i) j).2.1) N) (sRnd (sDraw ((ftI N (r, ftO r N z i) j).2.1)) N)) 3) := by simp only [ftI, ftS, tu_2, twhat_4, c_20, c_25, if_true, if_false, Bool.true_eq_false]
              have e_36 : (iA G 9 (fA ((ftI N (r, ftO r N z i) (j + 1)).1) 4) : va_E) = iA G 9 (fA (sTurn ((ftI N (r, ftO r N z i) j).1) (sRnd ((ftI N (r, ftO r N z i) j).2.1) N) (sRnd (sDraw ((ftI N (r, ftO r N z i) j).2.1)) N)) 4) := by simp only [ftI, ftS, tu_2, twhat_4, c_20, c_25, if_true, if_false, Bool.true_eq_false]
              have e_37 : (iA G 9 (fA ((ftI N (r, ftO r N z i) (j + 1)).1) 5) : va_E) = iA G 9 (fA (sTurn ((ftI N (r, ftO r N z i) j).1) (sRnd ((ftI N (r, ftO r N z i) j).2.1) N) (sRnd (sDraw ((ftI N (r, ftO r N z i) j).2.1)) N)) 5) := by simp only [ftI, ftS, tu_2, twhat_4, c_20, c_25, if_true, if_false, Bool.true_eq_false]
              exact ih_14 (j + 1) (by omega) _ _ (by rw [e_32, e_33, e_34, e_35, e_36, e_37]; exact hP.sub [6, 0, 1, 2, 3, 4, 5, 7, 8, 9, 10, 11, 12] rfl) (by rw [e_32, e_33, e_34, e_35, e_36, e_37]; exact hD.sub [6, 0, 1, 2, 3, 4, 5, 7, 8, 9, 10, 11, 12] (by decide) rfl) hS ls (by rw [e_30, e_31]; exact lv_sub hl [0, 5, 1, 2, 6, 7, 8, 9] rfl)
            · refine lv_goto (tgt := 130) hx hb dX1_fetes_108 (by decide) ?_
              refine n_iinc (k := 2) (lv' := [(7, .int (nI (j + 1))), (9, .int (nI (sRnd (sDraw ((ftI N (r, ftO r N z i) j).2.1)) N))), (8, .int (nI (sRnd ((ftI N (r, ftO r N z i) j).2.1) N))), (6, .int (nI i)), (5, .int (nI ((ftI N (r, ftO r N z i) j).2.2.2))), (4, .int ((ftI N (r, ftO r N z i) j).2.2.1)), (0, .ref h), (1, .int (nI u_2)), (2, .int z), (3, .int (nI what_4))]) hx hb j 1 dX1_fetes_130 hl rfl (Nat.le_of_ble_eq_true rfl) rfl (fun ls hl => ?_)
              refine lv_goto (tgt := 61) hx hb dX1_fetes_133 (by decide) ?_
              have e_38 : (ftI N (r, ftO r N z i) (j + 1)).2.2.2 = (ftI N (r, ftO r N z i) j).2.2.2 := by simp only [ftI, ftS, tu_2, twhat_4, c_20, c_25, if_true, if_false, Bool.true_eq_false]
              have e_39 : (ftI N (r, ftO r N z i) (j + 1)).2.2.1 = (ftI N (r, ftO r N z i) j).2.2.1 := by simp only [ftI, ftS, tu_2, twhat_4, c_20, c_25, if_true, if_false, Bool.true_eq_false]
              have e_40 : (xO xa (upd xi 7 ((ftI N (r, ftO r N z i) (j + 1)).2.1)) : va_E) = xO xa (upd xi 7 (sDraw (sDraw ((ftI N (r, ftO r N z i) j).2.1)))) := by simp only [ftI, ftS, tu_2, twhat_4, c_20, c_25, if_true, if_false, Bool.true_eq_false]
              have e_41 : (fO fm ((ftI N (r, ftO r N z i) (j + 1)).1) : va_E) = fO fm ((ftI N (r, ftO r N z i) j).1) := by simp only [ftI, ftS, tu_2, twhat_4, c_20, c_25, if_true, if_false, Bool.true_eq_false]
              have e_42 : (iA G 9 (fA ((ftI N (r, ftO r N z i) (j + 1)).1) 2) : va_E) = iA G 9 (fA ((ftI N (r, ftO r N z i) j).1) 2) := by simp only [ftI, ftS, tu_2, twhat_4, c_20, c_25, if_true, if_false, Bool.true_eq_false]
              have e_43 : (iA G 9 (fA ((ftI N (r, ftO r N z i) (j + 1)).1) 3) : va_E) = iA G 9 (fA ((ftI N (r, ftO r N z i) j).1) 3) := by simp only [ftI, ftS, tu_2, twhat_4, c_20, c_25, if_true, if_false, Bool.true_eq_false]
              have e_44 : (iA G 9 (fA ((ftI N (r, ftO r N z i) (j + 1)).1) 4) : va_E) = iA G 9 (fA ((ftI N (r, ftO r N z i) j).1) 4) := by simp only [ftI, ftS, tu_2, twhat_4, c_20, c_25, if_true, if_false, Bool.true_eq_false]
              have e_45 : (iA G 9 (fA ((ftI N (r, ftO r N z i) (j + 1)).1) 5) : va_E) = iA G 9 (fA ((ftI N (r, ftO r N z i) j).1) 5) := by simp only [ftI, ftS, tu_2, twhat_4, c_20, c_25, if_true, if_false, Bool.true_eq_false]
              exact ih_14 (j + 1) (by omega) _ _ (by rw [e_40, e_41, e_42, e_43, e_44, e_45]; exact hP.sub [12, 0, 1, 2, 3, 4, 5, 6, 7, 8, 9, 10, 11] rfl) (by rw [e_40, e_41, e_42, e_43, e_44, e_45]; exact hD.sub [12, 0, 1, 2, 3, 4, 5, 6, 7, 8, 9, 10, 11] (by decide) rfl) hS ls (by rw [e_38, e_39]; exact lv_sub hl [0, 3, 4, 5, 6, 7, 8, 9] rfl)
      · obtain rfl := c_5
        have zc_5 : (nI 0 = 0) = True := eq_true rfl
        refine lv_bipush (v := (-3)) hx hb dX1_fetes_31 (by decide) ?_
        exact n_iretW (v := (-3)) (w1 := [(h, xO xa (upd xi 7 z0)), (xa 0, fO fn r), (fn 0, qA G 3 9 wh), (fn 1, iA G 9 (fA r 2)), (fn 2, iA G 9 (fA r 3)), (fn 3, iA G 9 (fA r 4)), (fn 4, iA G 9 (fA r 5)), (xa 2, fR fm j_0 j_1 j_2), (fm 0, qA G 3 9 j_w), (fm 1, iA G 9 j_a2), (fm 2, iA G 9 j_a3), (fm 3, iA G 9 j_a4), (fm 4, iA G 9 j_a5)]) C (⟨by simp [sFetesA, c_1, tu_2, c_3, twhat_4, zc_5], _, _, _, _, _, _, _, _, _, rfl⟩) hP hD hS (by first | omega | decide) (by first | omega | decide) dX1_fetes_33
    · refine lv_iconst (v := (-1)) hx hb dX1_fetes_19 (by decide) ?_
      exact n_iretW (v := (-1)) (w1 := [(h, xO xa (upd xi 7 z0)), (xa 0, fO fn r), (fn 0, qA G 3 9 wh), (fn 1, iA G 9 (fA r 2)), (fn 2, iA G 9 (fA r 3)), (fn 3, iA G 9 (fA r 4)), (fn 4, iA G 9 (fA r 5)), (xa 2, fR fm j_0 j_1 j_2), (fm 0, qA G 3 9 j_w), (fm 1, iA G 9 j_a2), (fm 2, iA G 9 j_a3), (fm 3, iA G 9 j_a4), (fm 4, iA G 9 j_a5)]) C (⟨by simp [sFetesA, c_1, tu_2, c_3], _, _, _, _, _, _, _, _, _, rfl⟩) hP hD hS (by first | omega | decide) (by first | omega | decide) dX1_fetes_20
