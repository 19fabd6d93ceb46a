set_option maxHeartbeats 4000000 in
set_option maxRecDepth 100000 in
theorem metX1_has (l : Launch) (G : GG) (v k : Int32) : MR l yX1_has cX1_has 2 (some .boolean) ({ frames := 0, cells := 0, slots := 0, locals := 0 }) [.int v, .int k] [] G (KM G) (bI (decide (bitX v k = 1))) := by
  -- rows printed by wip/tools/gen.py
  refine mr_mk RX1 (by decide) rfl (Nat.le_of_ble_eq_true rfl) ?_
  intro p0_ e0_ s m args below meth c C hP hK ls hl
  have hx := C.1
  have hb := C.2.1
  have hml := C.2.2.2.2.1
  have hown := C.2.2.2.2.2.1
  have hts := C.2.2.2.2.2.2
  have hl : lv_has ls 2 [(0, .int v), (1, .int k)] := hl
  refine lv_iload_n hx hb dX1_has_0 rfl (lv_at hl 0 rfl) ?_
  refine lv_iload_n hx hb dX1_has_1 rfl (lv_at hl 1 rfl) ?_
  refine lv_ishr (x := v) (y := k) hx hb dX1_has_2 ?_
  refine lv_iconst (v := 1) hx hb dX1_has_3 (by decide) ?_
  refine lv_iand (x := v >>> (k &&& 31)) (y := 1) hx hb dX1_has_4 ?_
  refine lv_iconst (v := 1) hx hb dX1_has_5 (by decide) ?_
  refine lv_icmp_ne (x := (v >>> (k &&& 31)) &&& 1) (y := 1) (tgt := 13) hx hb dX1_has_6 (by decide) (fun c_1 => ?_) (fun c_1 => ?_)
  · refine lv_iconst (v := 0) hx hb dX1_has_13 (by decide) ?_
    exact n_zret (v := false) C (by simp [bitX] at *; simp [c_1]) dX1_has_14
  · refine lv_iconst (v := 1) hx hb dX1_has_9 (by decide) ?_
    refine lv_goto (tgt := 14) hx hb dX1_has_10 (by decide) ?_
    exact n_zret (v := true) C (by simp [bitX] at *; simp [c_1]) dX1_has_14

set_option maxHeartbeats 4000000 in
set_option maxRecDepth 100000 in
theorem metX1_isShelf (l : Launch) (G : GG) (h : Nat) (xa : Nat → Nat) (xi : Nat → Int32) (d : Int32) : MR l yX1_isShelf cX1_isShelf 2 (some .boolean) ({ frames := 1, cells := 0, slots := 0, locals := 22 }) [.ref h, .int d] [(h, xO xa xi)] G (KM G) (bI (sIn d 0 7)) := by
  -- rows printed by wip/tools/gen.py
  refine mr_mk RX1 (by decide) rfl (Nat.le_of_ble_eq_true rfl) ?_
  intro p0_ e0_ s m args below meth c C hP hK ls hl
  have hx := C.1
  have hb := C.2.1
  have hml := C.2.2.2.2.1
  have hown := C.2.2.2.2.2.1
  have hts := C.2.2.2.2.2.2
  have hl : lv_has ls 2 [(0, .ref h), (1, .int d)] := hl
  refine lv_iload_n hx hb dX1_isShelf_0 rfl (lv_at hl 1 rfl) ?_
  refine lv_iconst (v := 0) hx hb dX1_isShelf_1 (by decide) ?_
  refine lv_bipush (v := 7) hx hb dX1_isShelf_2 (by decide) ?_
  refine c_S (rest := []) C (metX1_isIn l G d 0 7) 3 (lw_S q171 q172 q39 q173) (by decide +kernel) ⟨rfl, rfl⟩ ⟨(Nat.le_of_ble_eq_true rfl), (Nat.le_of_ble_eq_true rfl)⟩ (KM_mv G) (hP.sub (ws' := []) [] rfl) hK hl rfl rfl (Nat.le_of_ble_eq_true rfl) ⟨(Nat.le_of_ble_eq_true rfl), (Nat.le_of_ble_eq_true rfl)⟩ dX1_isShelf_4 ?_
  exact n_zret (v := (sIn d 0 7)) C (rfl) dX1_isShelf_7

set_option maxHeartbeats 4000000 in
set_option maxRecDepth 100000 in
theorem metX1_isNine (l : Launch) (G : GG) (d : Int32) : MR l yX1_isNine cX1_isNine 1 (some .boolean) ({ frames := 1, cells := 0, slots := 0, locals := 22 }) [.int d] [] G (KM G) (bI (sIn d 0 9)) := by
  -- rows printed by wip/tools/gen.py
  refine mr_mk RX1 (by decide) rfl (Nat.le_of_ble_eq_true rfl) ?_
  intro p0_ e0_ s m args below meth c C hP hK ls hl
  have hx := C.1
  have hb := C.2.1
  have hml := C.2.2.2.2.1
  have hown := C.2.2.2.2.2.1
  have hts := C.2.2.2.2.2.2
  have hl : lv_has ls 1 [(0, .int d)] := hl
  refine lv_iload_n hx hb dX1_isNine_0 rfl (lv_at hl 0 rfl) ?_
  refine lv_iconst (v := 0) hx hb dX1_isNine_1 (by decide) ?_
  refine lv_bipush (v := 9) hx hb dX1_isNine_2 (by decide) ?_
  refine c_S (rest := []) C (metX1_isIn l G d 0 9) 3 (lw_S q171 q172 q39 q173) (by decide +kernel) ⟨rfl, rfl⟩ ⟨(Nat.le_of_ble_eq_true rfl), (Nat.le_of_ble_eq_true rfl)⟩ (KM_mv G) hP hK hl rfl rfl (Nat.le_of_ble_eq_true rfl) ⟨(Nat.le_of_ble_eq_true rfl), (Nat.le_of_ble_eq_true rfl)⟩ dX1_isNine_4 ?_
  exact n_zret (v := (sIn d 0 9)) C (rfl) dX1_isNine_7

set_option maxHeartbeats 4000000 in
set_option maxRecDepth 100000 in
theorem metX1_isFeeling (l : Launch) (G : GG) (d : Int32) : MR l yX1_isFeeling cX1_isFeeling 1 (some .boolean) ({ frames := 1, cells := 0, slots := 0, locals := 22 }) [.int d] [] G (KM G) (bI (sIn d 0 30)) := by
  -- rows printed by wip/tools/gen.py
  refine mr_mk RX1 (by decide) rfl (Nat.le_of_ble_eq_true rfl) ?_
  intro p0_ e0_ s m args below meth c C hP hK ls hl
  have hx := C.1
  have hb := C.2.1
  have hml := C.2.2.2.2.1
  have hown := C.2.2.2.2.2.1
  have hts := C.2.2.2.2.2.2
  have hl : lv_has ls 1 [(0, .int d)] := hl
  refine lv_iload_n hx hb dX1_isFeeling_0 rfl (lv_at hl 0 rfl) ?_
  refine lv_iconst (v := 0) hx hb dX1_isFeeling_1 (by decide) ?_
  refine lv_bipush (v := 30) hx hb dX1_isFeeling_2 (by decide) ?_
  refine c_S (rest := []) C (metX1_isIn l G d 0 30) 3 (lw_S q171 q172 q39 q173) (by decide +kernel) ⟨rfl, rfl⟩ ⟨(Nat.le_of_ble_eq_true rfl), (Nat.le_of_ble_eq_true rfl)⟩ (KM_mv G) hP hK hl rfl rfl (Nat.le_of_ble_eq_true rfl) ⟨(Nat.le_of_ble_eq_true rfl), (Nat.le_of_ble_eq_true rfl)⟩ dX1_isFeeling_4 ?_
  exact n_zret (v := (sIn d 0 30)) C (rfl) dX1_isFeeling_7

set_option maxHeartbeats 4000000 in
set_option maxRecDepth 100000 in
theorem metX1_feels (l : Launch) (G : GG) (f : Nat) (fd : Nat → Nat) (gm : GM) (wh : Nat → Option Nat) (r : Nat → Int32) (N : Nat) (p what v : Int32) (hN : N ≤ 9) (hr : r 0 = nI N) (hwk : WK gm wh r N) (hng : NG gm [(f, fO fd r), (fd 0, qA G 3 9 wh), (fd 1, iA G 9 (fA r 2)), (fd 2, iA G 9 (fA r 3)), (fd 3, iA G 9 (fA r 4)), (fd 4, iA G 9 (fA r 5))]) : MW l yX1_feels cX1_feels 4 (some .boolean) ({ frames := 2, cells := 0, slots := 0, locals := 43 }) [.ref f, .int p, .int what, .int v] [(f, fO fd r), (fd 0, qA G 3 9 wh), (fd 1, iA G 9 (fA r 2)), (fd 2, iA G 9 (fA r 3)), (fd 3, iA G 9 (fA r 4)), (fd 4, iA G 9 (fA r 5))] G (KG G gm) 0 0 (fun rv w1 => rv = bI (sFlOk N p v) ∧ w1 = [(f, fO fd (sFlS r N p what v)), (fd 0, qA G 3 9 wh), (fd 1, iA G 9 (fA (sFlS r N p what v) 2)), (fd 2, iA G 9 (fA (sFlS r N p what v) 3)), (fd 3, iA G 9 (fA (sFlS r N p what v) 4)), (fd 4, iA G 9 (fA (sFlS r N p what v) 5))]) := by
  -- rows printed by wip/tools/gen.py
  refine mw_mkg RX1 (by decide) rfl (Nat.le_of_ble_eq_true rfl) ?_
  intro p0_ e0_ s m args below meth c A C hA hAx hP hK hD ls hl
  have hGP := hK.2
  have hK := hK.1
  have hGA := GA.of hng hGP hAx
  have hx := C.1
  have hb := C.2.1
  have hml := C.2.2.2.2.1
  have hown := C.2.2.2.2.2.1
  have hts := C.2.2.2.2.2.2
  have hS : va_S A s.heap s.heap [] := va_S.rf
  have hl : lv_has ls 4 [(0, .ref f), (1, .int p), (2, .int what), (3, .int v)] := hl
  refine lv_aload_n hx hb dX1_feels_0 rfl (lv_at hl 0 rfl) ?_
  refine lv_iload_n hx hb dX1_feels_1 rfl (lv_at hl 1 rfl) ?_
  refine c_V (rest := []) C (metX2_isOne l G f fd r N p (hr)) 1 (lw_V q497 q376 q377 q40 q378) (by decide +kernel) ⟨rfl, rfl⟩ ⟨(Nat.le_of_ble_eq_true rfl), (Nat.le_of_ble_eq_true rfl)⟩ (KX_mv G) (va_recv hK.1 hP (ci := 2) (q0 := 0) rfl rfl) (hP.sub (ws' := [(f, fO fd r)]) [0] rfl) hK hl rfl rfl (Nat.le_of_ble_eq_true rfl) ⟨(Nat.le_of_ble_eq_true rfl), (Nat.le_of_ble_eq_true rfl)⟩ dX1_feels_2 ?_
  refine n_if_eqB (b := (sPer N p)) (tgt := 15) hx hb dX1_feels_5 (by decide) (fun c_1 => ?_) (fun c_1 => ?_)
  · refine lv_iconst (v := 0) hx hb dX1_feels_15 (by decide) ?_
    exact n_zretW (v := false) (w1 := [(f, fO fd r), (fd 0, qA G 3 9 wh), (fd 1, iA G 9 (fA r 2)), (fd 2, iA G 9 (fA r 3)), (fd 3, iA G 9 (fA r 4)), (fd 4, iA G 9 (fA r 5))]) C (⟨by simp [sFlOk, sFlS, sFeelsAt, c_1], by simp [sFlOk, sFlS, sFeelsAt, c_1]⟩) hP hD hS (by first | omega | decide) (by first | omega | decide) dX1_feels_16
  · obtain ⟨p_2, hp_2, rfl⟩ := sPer_t (by omega) c_1
    have tp_2 : tn (nI p_2) = p_2 := nI_clamp (by omega)
    refine lv_iload_n hx hb dX1_feels_8 rfl (lv_at hl 3 rfl) ?_
    refine c_S (rest := []) C (metX1_isFeeling l G v) 1 (lw_S q281 q282 q39 q283) (by decide +kernel) ⟨rfl, rfl⟩ ⟨(Nat.le_of_ble_eq_true rfl), (Nat.le_of_ble_eq_true rfl)⟩ (KM_mv G) (hP.sub (ws' := []) [] rfl) hK.1 hl rfl rfl (Nat.le_of_ble_eq_true rfl) ⟨(Nat.le_of_ble_eq_true rfl), (Nat.le_of_ble_eq_true rfl)⟩ dX1_feels_9 ?_
    refine n_if_neB (b := (sIn v 0 30)) (tgt := 17) hx hb dX1_feels_12 (by decide) (fun c_3 => ?_) (fun c_3 => ?_)
    · obtain ⟨v_4, hv_4, gv_4, rfl⟩ := sIn_t (a := 0) (b := 30) (by omega) (by omega) c_3
      have tv_4 : tn (nI v_4) = v_4 := nI_clamp (by omega)
      refine lv_iload_n hx hb dX1_feels_17 rfl (lv_at hl 2 rfl) ?_
      refine lv_if_ne (x := what) (tgt := 31) hx hb dX1_feels_18 (by decide) (fun c_5 => ?_) (fun c_5 => ?_)
      · refine lv_aload_n hx hb dX1_feels_31 rfl (lv_at hl 0 rfl) ?_
        refine va_get (D := gD G) (ci := 2) (v := .ref (fd 2)) (C := RX2) (T := TX2) (N := 8) hx hb hts in_X2 hown hK.1 hP 0 rfl rfl 2 (by decide) (hts _ q797) (fun _ h9 => h9) rfl dX1_feels_32 ?_
        refine lv_iload_n hx hb dX1_feels_35 rfl (lv_at hl 1 rfl) ?_
        refine lv_iload_n hx hb dX1_feels_36 rfl (lv_at hl 3 rfl) ?_
        refine n_iast (x := nI v_4) C hK.1 hP hD hS 3 p_2 rfl (by omega) (by omega) dX1_feels_37 (fun H locs hP hD hS => ?_)
        have hP : PP G [(f, fO fd r), (fd 0, qA G 3 9 wh), (fd 1, iA G 9 (fA r 2)), (fd 2, iA G 9 (upd (fA r 3) p_2 (nI v_4))), (fd 3, iA G 9 (fA r 4)), (fd 4, iA G 9 (fA r 5))] H := hP
        have hD : va_D A [(f, fO fd r), (fd 0, qA G 3 9 wh), (fd 1, iA G 9 (fA r 2)), (fd 2, iA G 9 (upd (fA r 3) p_2 (nI v_4))), (fd 3, iA G 9 (fA r 4)), (fd 4, iA G 9 (fA r 5))] := hD
        have z_6 : (fO fd (upd r (3 + 6 * p_2 + 3) (nI v_4)) : va_E) = fO fd r := fO_u (fd := fd) (r := r) (p := p_2) (k := 3) (v := nI v_4)
        have z_7 : (iA G 9 (fA (upd r (3 + 6 * p_2 + 3) (nI v_4)) 2) : va_E) = iA G 9 (fA r 2) := congrArg (iA G 9) (fA_n (r := r) (p := p_2) (k := 3) (k' := 2) (v := nI v_4) (by decide) (by decide) (by decide))
        have z_8 : (iA G 9 (fA (upd r (3 + 6 * p_2 + 3) (nI v_4)) 3) : va_E) = iA G 9 (upd (fA r 3) p_2 (nI v_4)) := congrArg (iA G 9) (fA_u (r := r) (p := p_2) (k := 3) (v := nI v_4) (by decide))
        have z_9 : (iA G 9 (fA (upd r (3 + 6 * p_2 + 3) (nI v_4)) 4) : va_E) = iA G 9 (fA r 4) := congrArg (iA G 9) (fA_n (r := r) (p := p_2) (k := 3) (k' := 4) (v := nI v_4) (by decide) (by decide) (by decide))
        have z_10 : (iA G 9 (fA (upd r (3 + 6 * p_2 + 3) (nI v_4)) 5) : va_E) = iA G 9 (fA r 5) := congrArg (iA G 9) (fA_n (r := r) (p := p_2) (k := 3) (k' := 5) (v := nI v_4) (by decide) (by decide) (by decide))
        have hP : PP G [(f, fO fd (upd r (3 + 6 * p_2 + 3) (nI v_4))), (fd 0, qA G 3 9 wh), (fd 1, iA G 9 (fA (upd r (3 + 6 * p_2 + 3) (nI v_4)) 2)), (fd 2, iA G 9 (fA (upd r (3 + 6 * p_2 + 3) (nI v_4)) 3)), (fd 3, iA G 9 (fA (upd r (3 + 6 * p_2 + 3) (nI v_4)) 4)), (fd 4, iA G 9 (fA (upd r (3 + 6 * p_2 + 3) (nI v_4)) 5))] H := by rw [z_6, z_7, z_8, z_9, z_10]; exact hP
        have hD : va_D A [(f, fO fd (upd r (3 + 6 * p_2 + 3) (nI v_4))), (fd 0, qA G 3 9 wh), (fd 1, iA G 9 (fA (upd r (3 + 6 * p_2 + 3) (nI v_4)) 2)), (fd 2, iA G 9 (fA (upd r (3 + 6 * p_2 + 3) (nI v_4)) 3)), (fd 3, iA G 9 (fA (upd r (3 + 6 * p_2 + 3) (nI v_4)) 4)), (fd 4, iA G 9 (fA (upd r (3 + 6 * p_2 + 3) (nI v_4)) 5))] := by rw [z_6, z_7, z_8, z_9, z_10]; exact hD
        have hr_11 : (upd r (3 + 6 * p_2 + 3) (nI v_4)) 0 = nI N := (r_n (r := r) (p := p_2) (k := 3) (v := nI v_4) (i := 0) (by decide)).trans hr
        have hw_12 : WK gm wh (upd r (3 + 6 * p_2 + 3) (nI v_4)) N := WK.u (k := 3) hwk (by decide)
        refine lv_iconst (v := 1) hx hb dX1_feels_38 (by decide) ?_
        exact n_zretW (v := true) (w1 := [(f, fO fd (upd r (3 + 6 * p_2 + 3) (nI v_4))), (fd 0, qA G 3 9 wh), (fd 1, iA G 9 (fA (upd r (3 + 6 * p_2 + 3) (nI v_4)) 2)), (fd 2, iA G 9 (fA (upd r (3 + 6 * p_2 + 3) (nI v_4)) 3)), (fd 3, iA G 9 (fA (upd r (3 + 6 * p_2 + 3) (nI v_4)) 4)), (fd 4, iA G 9 (fA (upd r (3 + 6 * p_2 + 3) (nI v_4)) 5))]) C (⟨by simp [sFlOk, sFlS, sFeelsAt, c_1, tp_2, c_3, tv_4, c_5], by simp [sFlOk, sFlS, sFeelsAt, c_1, tp_2, c_3, tv_4, c_5]⟩) hP hD hS (by first | omega | decide) (by first | omega | decide) dX1_feels_39
      · refine lv_aload_n hx hb dX1_feels_21 rfl (lv_at hl 0 rfl) ?_
        refine va_get (D := gD G) (ci := 2) (v := .ref (fd 1)) (C := RX2) (T := TX2) (N := 8) hx hb hts in_X2 hown hK.1 hP 0 rfl rfl 1 (by decide) (hts _ q795) (fun _ h9 => h9) rfl dX1_feels_22 ?_
        refine lv_iload_n hx hb dX1_feels_25 rfl (lv_at hl 1 rfl) ?_
        refine lv_iload_n hx hb dX1_feels_26 rfl (lv_at hl 3 rfl) ?_
        refine n_iast (x := nI v_4) C hK.1 hP hD hS 2 p_2 rfl (by omega) (by omega) dX1_feels_27 (fun H locs hP hD hS => ?_)
        have hP : PP G [(f, fO fd r), (fd 0, qA G 3 9 wh), (fd 1, iA G 9 (upd (fA r 2) p_2 (nI v_4))), (fd 2, iA G 9 (fA r 3)), (fd 3, iA G 9 (fA r 4)), (fd 4, iA G 9 (fA r 5))] H := hP
        have hD : va_D A [(f, fO fd r), (fd 0, qA G 3 9 wh), (fd 1, iA G 9 (upd (fA r 2) p_2 (nI v_4))), (fd 2, iA G 9 (fA r 3)), (fd 3, iA G 9 (fA r 4)), (fd 4, iA G 9 (fA r 5))] := hD
        have z_13 : (fO fd (upd r (3 + 6 * p_2 + 2) (nI v_4)) : va_E) = fO fd r := fO_u (fd := fd) (r := r) (p := p_2) (k := 2) (v := nI v_4)
        have z_14 : (iA G 9 (fA (upd r (3 + 6 * p_2 + 2) (nI v_4)) 2) : va_E) = iA G 9 (upd (fA r 2) p_2 (nI v_4)) := congrArg (iA G 9) (fA_u (r := r) (p := p_2) (k := 2) (v := nI v_4) (by decide))
        have z_15 : (iA G 9 (fA (upd r (3 + 6 * p_2 + 2) (nI v_4)) 3) : va_E) = iA G 9 (fA r 3) := congrArg (iA G 9) (fA_n (r := r) (p := p_2) (k := 2) (k' := 3) (v := nI v_4) (by decide) (by decide) (by decide))
        have z_16 : (iA G 9 (fA (upd r (3 + 6 * p_2 + 2) (nI v_4)) 4) : va_E) = iA G 9 (fA r 4) := congrArg (iA G 9) (fA_n (r := r) (p := p_2) (k := 2) (k' := 4) (v := nI v_4) (by decide) (by decide) (by decide))
        have z_17 : (iA G 9 (fA (upd r (3 + 6 * p_2 + 2) (nI v_4)) 5) : va_E) = iA G 9 (fA r 5) := congrArg (iA G 9) (fA_n (r := r) (p := p_2) (k := 2) (k' := 5) (v := nI v_4) (by decide) (by decide) (by decide))
        have hP : PP G [(f, fO fd (upd r (3 + 6 * p_2 + 2) (nI v_4))), (fd 0, qA G 3 9 wh), (fd 1, iA G 9 (fA (upd r (3 + 6 * p_2 + 2) (nI v_4)) 2)), (fd 2, iA G 9 (fA (upd r (3 + 6 * p_2 + 2) (nI v_4)) 3)), (fd 3, iA G 9 (fA (upd r (3 + 6 * p_2 + 2) (nI v_4)) 4)), (fd 4, iA G 9 (fA (upd r (3 + 6 * p_2 + 2) (nI v_4)) 5))] H := by rw [z_13, z_14, z_15, z_16, z_17]; exact hP
        have hD : va_D A [(f, fO fd (upd r (3 + 6 * p_2 + 2) (nI v_4))), (fd 0, qA G 3 9 wh), (fd 1, iA G 9 (fA (upd r (3 + 6 * p_2 + 2) (nI v_4)) 2)), (fd 2, iA G 9 (fA (upd r (3 + 6 * p_2 + 2) (nI v_4)) 3)), (fd 3, iA G 9 (fA (upd r (3 + 6 * p_2 + 2) (nI v_4)) 4)), (fd 4, iA G 9 (fA (upd r (3 + 6 * p_2 + 2) (nI v_4)) 5))] := by rw [z_13, z_14, z_15, z_16, z_17]; exact hD
        have hr_18 : (upd r (3 + 6 * p_2 + 2) (nI v_4)) 0 = nI N := (r_n (r := r) (p := p_2) (k := 2) (v := nI v_4) (i := 0) (by decide)).trans hr
        have hw_19 : WK gm wh (upd r (3 + 6 * p_2 + 2) (nI v_4)) N := WK.u (k := 2) hwk (by decide)
        refine lv_goto (tgt := 38) hx hb dX1_feels_28 (by decide) ?_
        refine lv_iconst (v := 1) hx hb dX1_feels_38 (by decide) ?_
        exact n_zretW (v := true) (w1 := [(f, fO fd (upd r (3 + 6 * p_2 + 2) (nI v_4))), (fd 0, qA G 3 9 wh), (fd 1, iA G 9 (fA (upd r (3 + 6 * p_2 + 2) (nI v_4)) 2)), (fd 2, iA G 9 (fA (upd r (3 + 6 * p_2 + 2) (nI v_4)) 3)), (fd 3, iA G 9 (fA (upd r (3 + 6 * p_2 + 2) (nI v_4)) 4)), (fd 4, iA G 9 (fA (upd r (3 + 6 * p_2 + 2) (nI v_4)) 5))]) C (⟨by simp [sFlOk, sFlS, sFeelsAt, c_1, tp_2, c_3, tv_4, c_5], by simp [sFlOk, sFlS, sFeelsAt, c_1, tp_2, c_3, tv_4, c_5]⟩) hP hD hS (by first | omega | decide) (by first | omega | decide) dX1_feels_39
    · refine lv_iconst (v := 0) hx hb dX1_feels_15 (by decide) ?_
      exact n_zretW (v := false) (w1 := [(f, fO fd r), (fd 0, qA G 3 9 wh), (fd 1, iA G 9 (fA r 2)), (fd 2, iA G 9 (fA r 3)), (fd 3, iA G 9 (fA r 4)), (fd 4, iA G 9 (fA r 5))]) C (⟨by simp [sFlOk, sFlS, sFeelsAt, c_1, tp_2, c_3], by simp [sFlOk, sFlS, sFeelsAt, c_1, tp_2, c_3]⟩) hP hD hS (by first | omega | decide) (by first | omega | decide) dX1_feels_16

set_option maxHeartbeats 4000000 in
set_option maxRecDepth 100000 in
theorem metX1_mayEat (l : Launch) (G : GG) (f : Nat) (fd : Nat → Nat) (gm : GM) (wh : Nat → Option Nat) (r : Nat → Int32) (N : Nat) (p q : Int32) (hN : N ≤ 9) (hr : r 0 = nI N) (hwk : WK gm wh r N) : MR l yX1_mayEat cX1_mayEat 3 (some .boolean) ({ frames := 8, cells := 0, slots := 0, locals := 243 }) [.ref f, .int p, .int q] [(f, fO fd r), (fd 0, qA G 3 9 wh), (fd 1, iA G 9 (fA r 2)), (fd 2, iA G 9 (fA r 3)), (fd 3, iA G 9 (fA r 4)), (fd 4, iA G 9 (fA r 5))] G (KG G gm) (bI (sMay r N p q)) := by
  -- rows printed by wip/tools/gen.py
  refine mr_mk RX1 (by decide) rfl (Nat.le_of_ble_eq_true rfl) ?_
  intro p0_ e0_ s m args below meth c C hP hK ls hl
  have hGP := hK.2
  have hK := hK.1
  have hx := C.1
  have hb := C.2.1
  have hml := C.2.2.2.2.1
  have hown := C.2.2.2.2.2.1
  have hts := C.2.2.2.2.2.2
  have hl : lv_has ls 3 [(0, .ref f), (1, .int p), (2, .int q)] := hl
  refine lv_aload_n hx hb dX1_mayEat_0 rfl (lv_at hl 0 rfl) ?_
  refine lv_iload_n hx hb dX1_mayEat_1 rfl (lv_at hl 1 rfl) ?_
  refine lv_iload_n hx hb dX1_mayEat_2 rfl (lv_at hl 2 rfl) ?_
  refine c_Vk (rest := []) C (metX2_canEat l G f fd gm wh r N p q (by omega) (hr) (hwk)) 2 (lw_V q367 q368 q369 q40 q370) (by decide +kernel) ⟨rfl, rfl⟩ ⟨(Nat.le_of_ble_eq_true rfl), (Nat.le_of_ble_eq_true rfl)⟩ (KG.call) (va_recv hK.1 hP (ci := 2) (q0 := 0) rfl rfl) hP (KG.at hK hGP) hl rfl rfl (Nat.le_of_ble_eq_true rfl) ⟨(Nat.le_of_ble_eq_true rfl), (Nat.le_of_ble_eq_true rfl)⟩ dX1_mayEat_3 ?_
  refine n_if_eqB (b := (sEatP r N p q)) (tgt := 23) hx hb dX1_mayEat_6 (by decide) (fun c_1 => ?_) (fun c_1 => ?_)
  · refine lv_iconst (v := 0) hx hb dX1_mayEat_23 (by decide) ?_
    exact n_zret (v := false) C (by simp [sMay, c_1]) dX1_mayEat_24
  · obtain ⟨p_2, q_3, hp_2, hq_3, np_2, ep_2, rfl, rfl⟩ := sEatP_t (by omega) c_1
    have tp_2 : tn (nI p_2) = p_2 := nI_clamp (by omega)
    have tq_3 : tn (nI q_3) = q_3 := nI_clamp (by omega)
    refine lv_aload_n hx hb dX1_mayEat_9 rfl (lv_at hl 0 rfl) ?_
    refine va_get (D := gD G) (ci := 2) (v := .int (r 2)) (C := RX2) (T := TX2) (N := 8) hx hb hts in_X2 hown hK.1 hP 0 rfl rfl 7 (by decide) (hts _ q807) (fun _ h9 => h9) rfl dX1_mayEat_10 ?_
    refine lv_sipush (v := 999) hx hb dX1_mayEat_13 (by decide) ?_
    refine lv_icmp_ge (x := r 2) (y := 999) (tgt := 23) hx hb dX1_mayEat_16 (by decide) (fun c_4 => ?_) (fun c_4 => ?_)
    · have zc_4 : ¬ (r 2) < 999 := Int32.not_lt.mpr c_4
      refine lv_iconst (v := 0) hx hb dX1_mayEat_23 (by decide) ?_
      exact n_zret (v := false) C (by simp [sMay, c_1, np_2, ep_2, tp_2, tq_3, c_4, zc_4]) dX1_mayEat_24
    · have zc_4 : (r 2) < 999 := Int32.not_le.mp c_4
      refine lv_iconst (v := 1) hx hb dX1_mayEat_19 (by decide) ?_
      refine lv_goto (tgt := 24) hx hb dX1_mayEat_20 (by decide) ?_
      exact n_zret (v := true) C (by simp [sMay, c_1, np_2, ep_2, tp_2, tq_3, c_4, zc_4]) dX1_mayEat_24

set_option maxHeartbeats 4000000 in
set_option maxRecDepth 100000 in
theorem metX1_person (l : Launch) (G : GG) (h : Nat) (xa : Nat → Nat) (xi : Nat → Int32) (fn : Nat → Nat) (gm : GM) (wh : Nat → Option Nat) (r : Nat → Int32) (N : Nat) (p what : Int32) (hN : N ≤ 8) (hr : r 0 = nI N) (hwk : WK gm wh r N) : MR l yX1_person cX1_person 4 (some .int) ({ frames := 6, cells := 0, slots := 0, locals := 200 }) [.ref h, .int p, .int what] [(h, xO xa xi), (xa 0, fO fn r), (fn 0, qA G 3 9 wh), (fn 1, iA G 9 (fA r 2)), (fn 2, iA G 9 (fA r 3)), (fn 3, iA G 9 (fA r 4)), (fn 4, iA G 9 (fA r 5))] G (KG G gm) (sPerson r N p what) := by
  -- rows printed by wip/tools/gen.py
  refine mr_mk RX1 (by decide) rfl (Nat.le_of_ble_eq_true rfl) ?_
  intro p0_ e0_ s m args below meth c C hP hK ls hl
  have hGP := hK.2
  have hK := hK.1
  have hx := C.1
  have hb := C.2.1
  have hml := C.2.2.2.2.1
  have hown := C.2.2.2.2.2.1
  have hts := C.2.2.2.2.2.2
  have hl : lv_has ls 4 [(0, .ref h), (1, .int p), (2, .int what)] := hl
  refine lv_aload_n hx hb dX1_person_0 rfl (lv_at hl 0 rfl) ?_
  refine va_get (D := gD G) (ci := 1) (v := .ref (xa 0)) (C := RX1) (T := TX1) (N := 9) hx hb hts in_X1 hown hK.1 hP 0 rfl rfl 0 (by decide) (hts _ q838) (fun _ h9 => h9) rfl dX1_person_1 ?_
  refine lv_iload_n hx hb dX1_person_4 rfl (lv_at hl 1 rfl) ?_
  refine c_V (rest := []) C (metX2_isOne l G (xa 0) fn r N p (hr)) 1 (lw_V q497 q376 q377 q40 q378) (by decide +kernel) ⟨rfl, rfl⟩ ⟨(Nat.le_of_ble_eq_true rfl), (Nat.le_of_ble_eq_true rfl)⟩ (KX_mv G) (va_recv hK.1 hP (ci := 2) (q0 := 1) rfl rfl) (hP.sub (ws' := [(xa 0, fO fn r)]) [1] rfl) hK hl rfl rfl (Nat.le_of_ble_eq_true rfl) ⟨(Nat.le_of_ble_eq_true rfl), (Nat.le_of_ble_eq_true rfl)⟩ dX1_person_5 ?_
  refine n_if_neB (b := (sPer N p)) (tgt := 13) hx hb dX1_person_8 (by decide) (fun c_1 => ?_) (fun c_1 => ?_)
  · obtain ⟨p_2, hp_2, rfl⟩ := sPer_t (by omega) c_1
    have tp_2 : tn (nI p_2) = p_2 := nI_clamp (by omega)
    refine lv_aload_n hx hb dX1_person_13 rfl (lv_at hl 0 rfl) ?_
    refine va_get (D := gD G) (ci := 1) (v := .ref (xa 0)) (C := RX1) (T := TX1) (N := 9) hx hb hts in_X1 hown hK.1 hP 0 rfl rfl 0 (by decide) (hts _ q838) (fun _ h9 => h9) rfl dX1_person_14 ?_
    refine va_get (D := gD G) (ci := 2) (v := .ref (fn 0)) (C := RX2) (T := TX2) (N := 8) hx hb hts in_X2 hown hK.1 hP 1 rfl rfl 0 (by decide) (hts _ q793) (fun _ h9 => h9) rfl dX1_person_17 ?_
    refine lv_iload_n hx hb dX1_person_20 rfl (lv_at hl 1 rfl) ?_
    obtain ⟨y_3, k_4, hy_5, hg_6, hk_7⟩ := hwk.2 p_2 (by omega)
    refine n_aldqS C hK.1 hP 2 3 p_2 rfl rfl (by omega) (by omega) hy_5 dX1_person_21 ?_
    refine lv_astore_n (lv' := [(3, .ref y_3), (0, .ref h), (1, .int (nI p_2)), (2, .int what)]) hx hb dX1_person_22 rfl hl (Nat.le_of_ble_eq_true rfl) rfl (fun ls hl => ?_)
    refine lv_iload_n hx hb dX1_person_23 rfl (lv_at hl 3 rfl) ?_
    by_cases s_8 : what = 0
    · refine n_eqi s_8 ?_
      refine lv_tableIn (tgt := 76) (x := 0) hx hb dX1_person_24 (by decide) (by decide) rfl (by decide) ?_
      refine lv_aload_n hx hb dX1_person_76 rfl (lv_at hl 0 rfl) ?_
      refine g_kind (ws := [(y_3, .inr (6 + k_4, [.int (r (3 + 6 * p_2 + 1))]))]) (q0 := 0) C hK.1 (hGP _ _ _ hg_6).1 rfl (GP.pp hGP hg_6) ⟨(Nat.le_of_ble_eq_true rfl), (Nat.le_of_ble_eq_true rfl)⟩ hl (Nat.le_of_ble_eq_true rfl) ⟨(Nat.le_of_ble_eq_true rfl), (Nat.le_of_ble_eq_true rfl)⟩ dX1_person_77 ?_
      refine n_eqi (y := (r (3 + 6 * p_2))) (by rw [hk_7]) ?_
      exact n_iret (v := (r (3 + 6 * p_2))) C (by simp (decide := true) [sPerson, tn_0, tn_1, tn_2, tn_3, tn_4, tn_5, tn_6, tn_7, tn_8, c_1, tp_2, s_8]) dX1_person_80
    · skip
      by_cases s_9 : what = 1
      · refine n_eqi s_9 ?_
        refine lv_tableIn (tgt := 81) (x := 1) hx hb dX1_person_24 (by decide) (by decide) rfl (by decide) ?_
        refine lv_aload_n hx hb dX1_person_81 rfl (lv_at hl 0 rfl) ?_
        refine g_figure (ws := [(y_3, .inr (6 + k_4, [.int (r (3 + 6 * p_2 + 1))]))]) (q0 := 0) C hK.1 (hGP _ _ _ hg_6).1 rfl (GP.pp hGP hg_6) dX1_person_82 ?_
        exact n_iret (v := r (3 + 6 * p_2 + 1)) C (by simp (decide := true) [sPerson, tn_0, tn_1, tn_2, tn_3, tn_4, tn_5, tn_6, tn_7, tn_8, c_1, tp_2, s_8, s_9]) dX1_person_85
      · skip
        by_cases s_10 : what = 2
        · refine n_eqi s_10 ?_
          refine lv_tableIn (tgt := 86) (x := 2) hx hb dX1_person_24 (by decide) (by decide) rfl (by decide) ?_
          refine lv_aload_n hx hb dX1_person_86 rfl (lv_at hl 1 rfl) ?_
          refine va_get (D := gD G) (ci := 1) (v := .ref (xa 0)) (C := RX1) (T := TX1) (N := 9) hx hb hts in_X1 hown hK.1 hP 0 rfl rfl 0 (by decide) (hts _ q838) (fun _ h9 => h9) rfl dX1_person_87 ?_
          refine va_get (D := gD G) (ci := 2) (v := .ref (fn 1)) (C := RX2) (T := TX2) (N := 8) hx hb hts in_X2 hown hK.1 hP 1 rfl rfl 1 (by decide) (hts _ q795) (fun _ h9 => h9) rfl dX1_person_90 ?_
          refine lv_iload_n hx hb dX1_person_93 rfl (lv_at hl 2 rfl) ?_
          refine n_iald C hK.1 hP 3 p_2 rfl (by omega) (by omega) dX1_person_94 ?_
          exact n_iret (v := r (3 + 6 * p_2 + 2)) C (by simp (decide := true) [sPerson, tn_0, tn_1, tn_2, tn_3, tn_4, tn_5, tn_6, tn_7, tn_8, c_1, tp_2, s_8, s_9, s_10]) dX1_person_95
        · skip
          by_cases s_11 : what = 3
          · refine n_eqi s_11 ?_
            refine lv_tableIn (tgt := 96) (x := 3) hx hb dX1_person_24 (by decide) (by decide) rfl (by decide) ?_
            refine lv_aload_n hx hb dX1_person_96 rfl (lv_at hl 1 rfl) ?_
            refine va_get (D := gD G) (ci := 1) (v := .ref (xa 0)) (C := RX1) (T := TX1) (N := 9) hx hb hts in_X1 hown hK.1 hP 0 rfl rfl 0 (by decide) (hts _ q838) (fun _ h9 => h9) rfl dX1_person_97 ?_
            refine va_get (D := gD G) (ci := 2) (v := .ref (fn 2)) (C := RX2) (T := TX2) (N := 8) hx hb hts in_X2 hown hK.1 hP 1 rfl rfl 2 (by decide) (hts _ q797) (fun _ h9 => h9) rfl dX1_person_100 ?_
            refine lv_iload_n hx hb dX1_person_103 rfl (lv_at hl 2 rfl) ?_
            refine n_iald C hK.1 hP 4 p_2 rfl (by omega) (by omega) dX1_person_104 ?_
            exact n_iret (v := r (3 + 6 * p_2 + 3)) C (by simp (decide := true) [sPerson, tn_0, tn_1, tn_2, tn_3, tn_4, tn_5, tn_6, tn_7, tn_8, c_1, tp_2, s_8, s_9, s_10, s_11]) dX1_person_105
          · skip
            by_cases s_12 : what = 4
            · refine n_eqi s_12 ?_
              refine lv_tableIn (tgt := 106) (x := 4) hx hb dX1_person_24 (by decide) (by decide) rfl (by decide) ?_
              refine lv_aload_n hx hb dX1_person_106 rfl (lv_at hl 1 rfl) ?_
              refine va_get (D := gD G) (ci := 1) (v := .ref (xa 0)) (C := RX1) (T := TX1) (N := 9) hx hb hts in_X1 hown hK.1 hP 0 rfl rfl 0 (by decide) (hts _ q838) (fun _ h9 => h9) rfl dX1_person_107 ?_
              refine va_get (D := gD G) (ci := 2) (v := .ref (fn 3)) (C := RX2) (T := TX2) (N := 8) hx hb hts in_X2 hown hK.1 hP 1 rfl rfl 3 (by decide) (hts _ q799) (fun _ h9 => h9) rfl dX1_person_110 ?_
              refine lv_iload_n hx hb dX1_person_113 rfl (lv_at hl 2 rfl) ?_
              refine n_iald C hK.1 hP 5 p_2 rfl (by omega) (by omega) dX1_person_114 ?_
              exact n_iret (v := r (3 + 6 * p_2 + 4)) C (by simp (decide := true) [sPerson, tn_0, tn_1, tn_2, tn_3, tn_4, tn_5, tn_6, tn_7, tn_8, c_1, tp_2, s_8, s_9, s_10, s_11, s_12]) dX1_person_115
            · skip
              by_cases s_13 : what = 5
              · refine n_eqi s_13 ?_
                refine lv_tableIn (tgt := 116) (x := 5) hx hb dX1_person_24 (by decide) (by decide) rfl (by decide) ?_
                refine lv_aload_n hx hb dX1_person_116 rfl (lv_at hl 1 rfl) ?_
                refine va_get (D := gD G) (ci := 1) (v := .ref (xa 0)) (C := RX1) (T := TX1) (N := 9) hx hb hts in_X1 hown hK.1 hP 0 rfl rfl 0 (by decide) (hts _ q838) (fun _ h9 => h9) rfl dX1_person_117 ?_
                refine va_get (D := gD G) (ci := 2) (v := .ref (fn 4)) (C := RX2) (T := TX2) (N := 8) hx hb hts in_X2 hown hK.1 hP 1 rfl rfl 4 (by decide) (hts _ q801) (fun _ h9 => h9) rfl dX1_person_120 ?_
                refine lv_iload_n hx hb dX1_person_123 rfl (lv_at hl 2 rfl) ?_
                refine n_iald C hK.1 hP 6 p_2 rfl (by omega) (by omega) dX1_person_124 ?_
                exact n_iret (v := r (3 + 6 * p_2 + 5)) C (by simp (decide := true) [sPerson, tn_0, tn_1, tn_2, tn_3, tn_4, tn_5, tn_6, tn_7, tn_8, c_1, tp_2, s_8, s_9, s_10, s_11, s_12, s_13]) dX1_person_125
              · skip
                by_cases s_14 : what = 6
                · refine n_eqi s_14 ?_
                  refine lv_tableIn (tgt := 126) (x := 6) hx hb dX1_person_24 (by decide) (by decide) rfl (by decide) ?_
                  refine lv_aload_n hx hb dX1_person_126 rfl (lv_at hl 0 rfl) ?_
                  refine g_bite (ws := [(y_3, .inr (6 + k_4, [.int (r (3 + 6 * p_2 + 1))]))]) (q0 := 0) C hK (hGP _ _ _ hg_6).1 rfl (GP.pp hGP hg_6) (by decide +kernel) ⟨(Nat.le_of_ble_eq_true rfl), (Nat.le_of_ble_eq_true rfl)⟩ hl (Nat.le_of_ble_eq_true rfl) ⟨(Nat.le_of_ble_eq_true rfl), (Nat.le_of_ble_eq_true rfl)⟩ dX1_person_127 ?_
                  refine n_eqi (y := sBite (r (3 + 6 * p_2)) (r (3 + 6 * p_2 + 1))) (by rw [hk_7]) ?_
                  exact n_iret (v := sBite (r (3 + 6 * p_2)) (r (3 + 6 * p_2 + 1))) C (by simp (decide := true) [sPerson, tn_0, tn_1, tn_2, tn_3, tn_4, tn_5, tn_6, tn_7, tn_8, c_1, tp_2, s_8, s_9, s_10, s_11, s_12, s_13, s_14]) dX1_person_130
                · skip
                  by_cases s_15 : what = 7
                  · refine n_eqi s_15 ?_
                    refine lv_tableIn (tgt := 131) (x := 7) hx hb dX1_person_24 (by decide) (by decide) rfl (by decide) ?_
                    refine lv_aload_n hx hb dX1_person_131 rfl (lv_at hl 0 rfl) ?_
                    refine g_gaze (ws := [(y_3, .inr (6 + k_4, [.int (r (3 + 6 * p_2 + 1))]))]) (q0 := 0) C hK (hGP _ _ _ hg_6).1 rfl (GP.pp hGP hg_6) (by decide +kernel) ⟨(Nat.le_of_ble_eq_true rfl), (Nat.le_of_ble_eq_true rfl)⟩ hl (Nat.le_of_ble_eq_true rfl) ⟨(Nat.le_of_ble_eq_true rfl), (Nat.le_of_ble_eq_true rfl)⟩ dX1_person_132 ?_
                    refine n_eqi (y := sGaze (r (3 + 6 * p_2)) (r (3 + 6 * p_2 + 1))) (by rw [hk_7]) ?_
                    exact n_iret (v := sGaze (r (3 + 6 * p_2)) (r (3 + 6 * p_2 + 1))) C (by simp (decide := true) [sPerson, tn_0, tn_1, tn_2, tn_3, tn_4, tn_5, tn_6, tn_7, tn_8, c_1, tp_2, s_8, s_9, s_10, s_11, s_12, s_13, s_14, s_15]) dX1_person_135
                  · skip
                    by_cases s_16 : what = 8
                    · refine n_eqi s_16 ?_
                      refine lv_tableIn (tgt := 136) (x := 8) hx hb dX1_person_24 (by decide) (by decide) rfl (by decide) ?_
                      refine lv_aload_n hx hb dX1_person_136 rfl (lv_at hl 0 rfl) ?_
                      refine g_shy (ws := [(y_3, .inr (6 + k_4, [.int (r (3 + 6 * p_2 + 1))]))]) (q0 := 0) C hK (hGP _ _ _ hg_6).1 rfl (GP.pp hGP hg_6) (by decide +kernel) ⟨(Nat.le_of_ble_eq_true rfl), (Nat.le_of_ble_eq_true rfl)⟩ hl (Nat.le_of_ble_eq_true rfl) ⟨(Nat.le_of_ble_eq_true rfl), (Nat.le_of_ble_eq_true rfl)⟩ dX1_person_137 ?_
                      refine n_eqi (y := sShy (r (3 + 6 * p_2))) (by rw [hk_7]) ?_
                      exact n_iret (v := sShy (r (3 + 6 * p_2))) C (by first | (simp (decide := true) [sPerson, tn_0, tn_1, tn_2, tn_3, tn_4, tn_5, tn_6, tn_7, tn_8, c_1, tp_2, s_8, s_9, s_10, s_11, s_12, s_13, s_14, s_15, s_16]; done) | (simp [sPerson, sIn08_f s_8 s_9 s_10 s_11 s_12 s_13 s_14 s_15 s_16, c_1, tp_2, s_8, s_9, s_10, s_11, s_12, s_13, s_14, s_15, s_16])) dX1_person_140
                    · skip
                      have ts_8 := lv_neT (a := 0) s_8 rfl
                      have ts_9 := lv_neT (a := 1) s_9 rfl
                      have ts_10 := lv_neT (a := 2) s_10 rfl
                      have ts_11 := lv_neT (a := 3) s_11 rfl
                      have ts_12 := lv_neT (a := 4) s_12 rfl
                      have ts_13 := lv_neT (a := 5) s_13 rfl
                      have ts_14 := lv_neT (a := 6) s_14 rfl
                      have ts_15 := lv_neT (a := 7) s_15 rfl
                      have ts_16 := lv_neT (a := 8) s_16 rfl
                      refine lv_tableOut (tgt := 141) (x := what) hx hb dX1_person_24 (by omega) (by decide) ?_
                      refine lv_iconst (v := (-1)) hx hb dX1_person_141 (by decide) ?_
                      exact n_iret (v := (-1)) C (by first | (simp (decide := true) [sPerson, tn_0, tn_1, tn_2, tn_3, tn_4, tn_5, tn_6, tn_7, tn_8, c_1, tp_2, s_8, s_9, s_10, s_11, s_12, s_13, s_14, s_15, s_16]; done) | (simp [sPerson, sIn08_f s_8 s_9 s_10 s_11 s_12 s_13 s_14 s_15 s_16, c_1, tp_2, s_8, s_9, s_10, s_11, s_12, s_13, s_14, s_15, s_16])) dX1_person_142
  · refine lv_iconst (v := (-1)) hx hb dX1_person_11 (by decide) ?_
    exact n_iret (v := (-1)) C (by simp (decide := true) [sPerson, tn_0, tn_1, tn_2, tn_3, tn_4, tn_5, tn_6, tn_7, tn_8, c_1]) dX1_person_12

set_option maxHeartbeats 4000000 in
set_option maxRecDepth 100000 in
theorem metX1_slices (l : Launch) (G : GG) (h : Nat) (xa : Nat → Nat) (xi : Nat → Int32) (fn : Nat → Nat) (r : Nat → Int32) (N : Nat) (v : Int32) (hr : r 0 = nI N) : MW l yX1_slices cX1_slices 3 (some .int) ({ frames := 1, cells := 0, slots := 0, locals := 22 }) [.ref h, .int v] [(h, xO xa xi), (xa 0, fO fn r)] G (KX G) 0 0 (fun rv w1 => rv = sSlicesA r v ∧ w1 = [(h, xO xa xi), (xa 0, fO fn (sSlicesS r v))]) := by
  -- rows printed by wip/tools/gen.py
  refine mw_mk RX1 (by decide) rfl (Nat.le_of_ble_eq_true rfl) ?_
  intro p0_ e0_ s m args below meth c A C hA hP hK hD ls hl
  have hx := C.1
  have hb := C.2.1
  have hml := C.2.2.2.2.1
  have hown := C.2.2.2.2.2.1
  have hts := C.2.2.2.2.2.2
  have hS : va_S A s.heap s.heap [] := va_S.rf
  have hl : lv_has ls 3 [(0, .ref h), (1, .int v)] := hl
  refine lv_iload_n hx hb dX1_slices_0 rfl (lv_at hl 1 rfl) ?_
  refine lv_iconst (v := 0) hx hb dX1_slices_1 (by decide) ?_
  refine lv_bipush (v := 99) hx hb dX1_slices_2 (by decide) ?_
  refine c_S (rest := []) C (metX1_isIn l G v 0 99) 3 (lw_S q171 q172 q39 q173) (by decide +kernel) ⟨rfl, rfl⟩ ⟨(Nat.le_of_ble_eq_true rfl), (Nat.le_of_ble_eq_true rfl)⟩ (KM_mv G) (hP.sub (ws' := []) [] rfl) hK.1 hl rfl rfl (Nat.le_of_ble_eq_true rfl) ⟨(Nat.le_of_ble_eq_true rfl), (Nat.le_of_ble_eq_true rfl)⟩ dX1_slices_4 ?_
  refine n_if_neB (b := (sIn v 0 99)) (tgt := 12) hx hb dX1_slices_7 (by decide) (fun c_1 => ?_) (fun c_1 => ?_)
  · obtain ⟨v_2, hv_2, gv_2, rfl⟩ := sIn_t (a := 0) (b := 99) (by omega) (by omega) c_1
    have tv_2 : tn (nI v_2) = v_2 := nI_clamp (by omega)
    refine lv_aload_n hx hb dX1_slices_12 rfl (lv_at hl 0 rfl) ?_
    refine va_get (D := gD G) (ci := 1) (v := .ref (xa 0)) (C := RX1) (T := TX1) (N := 9) hx hb hts in_X1 hown hK.1 hP 0 rfl rfl 0 (by decide) (hts _ q838) (fun _ h9 => h9) rfl dX1_slices_13 ?_
    refine va_get (D := gD G) (ci := 2) (v := .int (r 1)) (C := RX2) (T := TX2) (N := 8) hx hb hts in_X2 hown hK.1 hP 1 rfl rfl 6 (by decide) (hts _ q805) (fun _ h9 => h9) rfl dX1_slices_16 ?_
    refine lv_istore_n (lv' := [(2, .int (r 1)), (0, .ref h), (1, .int (nI v_2))]) hx hb dX1_slices_19 rfl hl (Nat.le_of_ble_eq_true rfl) rfl (fun ls hl => ?_)
    refine lv_aload_n hx hb dX1_slices_20 rfl (lv_at hl 1 rfl) ?_
    refine va_get (D := gD G) (ci := 1) (v := .ref (xa 0)) (C := RX1) (T := TX1) (N := 9) hx hb hts in_X1 hown hK.1 hP 0 rfl rfl 0 (by decide) (hts _ q838) (fun _ h9 => h9) rfl dX1_slices_21 ?_
    refine lv_iload_n hx hb dX1_slices_24 rfl (lv_at hl 2 rfl) ?_
    refine va_put (D := gD G) (ci := 2) (v := .int (nI v_2)) (ty := .int) (C := RX2) (T := TX2) (N := 8) hx hb hts in_X2 tyX2 tyX2_ok nmX2 hown hK.1 hP hD hS 1 rfl rfl 6 (by decide) (hts _ q805) (fun _ h9 => h9) rfl (by decide +kernel) rfl rfl (Nat.le_of_ble_eq_true rfl) dX1_slices_25 (fun H locs hP hD hS => ?_)
    have hP : PP G [(h, xO xa xi), (xa 0, fR fn (r 0) (nI v_2) (r 2))] H := hP
    have hD : va_D A [(h, xO xa xi), (xa 0, fR fn (r 0) (nI v_2) (r 2))] := hD
    have z_3 : (fO fn (upd r 1 (nI v_2)) : va_E) = fR fn (r 0) (nI v_2) (r 2) := fO_h1 (fd := fn) (r := r) (v := nI v_2)
    have hP : PP G [(h, xO xa xi), (xa 0, fO fn (upd r 1 (nI v_2)))] H := by rw [z_3]; exact hP
    have hD : va_D A [(h, xO xa xi), (xa 0, fO fn (upd r 1 (nI v_2)))] := by rw [z_3]; exact hD
    have hr_4 : (upd r 1 (nI v_2)) 0 = nI N := (r_h (r := r) (i := 1) (j := 0) (v := nI v_2) (by decide)).trans hr
    refine lv_iload_n hx hb dX1_slices_28 rfl (lv_at hl 0 rfl) ?_
    exact n_iretW (v := r 1) (w1 := [(h, xO xa xi), (xa 0, fO fn (upd r 1 (nI v_2)))]) C (⟨by simp [sSlicesA, sSlicesS, c_1, tv_2], by simp [sSlicesA, sSlicesS, c_1, tv_2]⟩) hP hD hS (by first | omega | decide) (by first | omega | decide) dX1_slices_29
  · refine lv_iconst (v := (-1)) hx hb dX1_slices_10 (by decide) ?_
    exact n_iretW (v := (-1)) (w1 := [(h, xO xa xi), (xa 0, fO fn r)]) C (⟨by simp [sSlicesA, sSlicesS, c_1], by simp [sSlicesA, sSlicesS, c_1]⟩) hP hD hS (by first | omega | decide) (by first | omega | decide) dX1_slices_11

set_option maxHeartbeats 4000000 in
set_option maxRecDepth 100000 in
theorem metX1_joys (l : Launch) (G : GG) (h : Nat) (xa : Nat → Nat) (xi : Nat → Int32) (fn : Nat → Nat) (gm : GM) (wh : Nat → Option Nat) (r : Nat → Int32) (N : Nat) (p q what : Int32) (hN : N ≤ 8) (hr : r 0 = nI N) (hwk : WK gm wh r N) : MR l yX1_joys cX1_joys 4 (some .int) ({ frames := 9, cells := 0, slots := 0, locals := 265 }) [.ref h, .int p, .int q, .int what] [(h, xO xa xi), (xa 0, fO fn r), (fn 0, qA G 3 9 wh), (fn 1, iA G 9 (fA r 2)), (fn 2, iA G 9 (fA r 3)), (fn 3, iA G 9 (fA r 4)), (fn 4, iA G 9 (fA r 5))] G (KG G gm) (sJoysA r N p q what) := by
  -- rows printed by wip/tools/gen.py
  refine mr_mk RX1 (by decide) rfl (Nat.le_of_ble_eq_true rfl) ?_
  intro p0_ e0_ s m args below meth c C hP hK ls hl
  have hGP := hK.2
  have hK := hK.1
  have hx := C.1
  have hb := C.2.1
  have hml := C.2.2.2.2.1
  have hown := C.2.2.2.2.2.1
  have hts := C.2.2.2.2.2.2
  have hl : lv_has ls 4 [(0, .ref h), (1, .int p), (2, .int q), (3, .int what)] := hl
  refine lv_aload_n hx hb dX1_joys_0 rfl (lv_at hl 0 rfl) ?_
  refine va_get (D := gD G) (ci := 1) (v := .ref (xa 0)) (C := RX1) (T := TX1) (N := 9) hx hb hts in_X1 hown hK.1 hP 0 rfl rfl 0 (by decide) (hts _ q838) (fun _ h9 => h9) rfl dX1_joys_1 ?_
  refine lv_iload_n hx hb dX1_joys_4 rfl (lv_at hl 1 rfl) ?_
  refine lv_iload_n hx hb dX1_joys_5 rfl (lv_at hl 2 rfl) ?_
  refine c_V (rest := []) C (metX2_areTwo l G (xa 0) fn r N p q (by omega) (hr)) 2 (lw_V q545 q372 q373 q40 q374) (by decide +kernel) ⟨rfl, rfl⟩ ⟨(Nat.le_of_ble_eq_true rfl), (Nat.le_of_ble_eq_true rfl)⟩ (KX_mv G) (va_recv hK.1 hP (ci := 2) (q0 := 1) rfl rfl) (hP.sub (ws' := [(xa 0, fO fn r)]) [1] rfl) hK hl rfl rfl (Nat.le_of_ble_eq_true rfl) ⟨(Nat.le_of_ble_eq_true rfl), (Nat.le_of_ble_eq_true rfl)⟩ dX1_joys_6 ?_
  refine n_if_eqB (b := (sTwo N p q)) (tgt := 21) hx hb dX1_joys_9 (by decide) (fun c_1 => ?_) (fun c_1 => ?_)
  · refine lv_iconst (v := (-1)) hx hb dX1_joys_21 (by decide) ?_
    exact n_iret (v := (-1)) C (by simp [sJoysA, sWT_eq, c_1]) dX1_joys_22
  · obtain ⟨p_2, q_3, hp_2, hq_3, np_2, rfl, rfl⟩ := sTwo_t (by omega) c_1
    have tp_2 : tn (nI p_2) = p_2 := nI_clamp (by omega)
    have tq_3 : tn (nI q_3) = q_3 := nI_clamp (by omega)
    refine lv_iload_n hx hb dX1_joys_12 rfl (lv_at hl 3 rfl) ?_
    refine lv_iconst (v := 0) hx hb dX1_joys_13 (by decide) ?_
    refine lv_iconst (v := 2) hx hb dX1_joys_14 (by decide) ?_
    refine c_S (rest := []) C (metX1_isIn l G what 0 2) 3 (lw_S q171 q172 q39 q173) (by decide +kernel) ⟨rfl, rfl⟩ ⟨(Nat.le_of_ble_eq_true rfl), (Nat.le_of_ble_eq_true rfl)⟩ (KM_mv G) (hP.sub (ws' := []) [] rfl) hK.1 hl rfl rfl (Nat.le_of_ble_eq_true rfl) ⟨(Nat.le_of_ble_eq_true rfl), (Nat.le_of_ble_eq_true rfl)⟩ dX1_joys_15 ?_
    refine n_if_neB (b := (sIn what 0 2)) (tgt := 23) hx hb dX1_joys_18 (by decide) (fun c_4 => ?_) (fun c_4 => ?_)
    · obtain ⟨what_5, hwhat_5, gwhat_5, rfl⟩ := sIn_t (a := 0) (b := 2) (by omega) (by omega) c_4
      have twhat_5 : tn (nI what_5) = what_5 := nI_clamp (by omega)
      refine lv_aload_n hx hb dX1_joys_23 rfl (lv_at hl 0 rfl) ?_
      refine va_get (D := gD G) (ci := 1) (v := .ref (xa 0)) (C := RX1) (T := TX1) (N := 9) hx hb hts in_X1 hown hK.1 hP 0 rfl rfl 0 (by decide) (hts _ q838) (fun _ h9 => h9) rfl dX1_joys_24 ?_
      refine lv_iload_n hx hb dX1_joys_27 rfl (lv_at hl 1 rfl) ?_
      refine lv_iload_n hx hb dX1_joys_28 rfl (lv_at hl 2 rfl) ?_
      refine c_Vk (rest := []) C (metX2_canEatN l G (xa 0) fn gm wh r N p_2 q_3 (by omega) (hr) (hwk) (by omega) (by omega)) 2 (lw_V q367 q368 q369 q40 q370) (by decide +kernel) ⟨rfl, rfl⟩ ⟨(Nat.le_of_ble_eq_true rfl), (Nat.le_of_ble_eq_true rfl)⟩ (KG.call) (va_recv hK.1 hP (ci := 2) (q0 := 1) rfl rfl) (hP.sub (ws' := [(xa 0, fO fn r), (fn 0, qA G 3 9 wh), (fn 1, iA G 9 (fA r 2)), (fn 2, iA G 9 (fA r 3)), (fn 3, iA G 9 (fA r 4)), (fn 4, iA G 9 (fA r 5))]) [1, 2, 3, 4, 5, 6] rfl) (KG.at hK hGP) hl rfl rfl (Nat.le_of_ble_eq_true rfl) ⟨(Nat.le_of_ble_eq_true rfl), (Nat.le_of_ble_eq_true rfl)⟩ dX1_joys_29 ?_
      refine n_if_neB (b := (sEat r p_2 q_3)) (tgt := 38) hx hb dX1_joys_32 (by decide) (fun c_6 => ?_) (fun c_6 => ?_)
      · refine lv_iload_n hx hb dX1_joys_38 rfl (lv_at hl 3 rfl) ?_
        refine n_if_ne (x := what_5) (tgt := 54) hx hb (by omega) dX1_joys_39 (by decide) (fun c_7 => ?_) (fun c_7 => ?_)
        · have zc_7 : ¬ nI what_5 = 0 := nI_ne0 c_7 (by omega)
          have yc_7 : ¬ what_5 = 0 := Nat.ne_of_gt c_7
          refine lv_iload_n hx hb dX1_joys_54 rfl (lv_at hl 3 rfl) ?_
          refine lv_iconst (v := 1) hx hb dX1_joys_55 (by decide) ?_
          refine n_ic_ne (x := what_5) (y := 1) (tgt := 71) hx hb (by omega) (by omega) dX1_joys_56 (by decide) (fun c_8 => ?_) (fun c_8 => ?_)
          · have zc_8 : ¬ nI what_5 = 1 := fun q => c_8 ((nI_eq (by omega) (by omega)).mp q)
            refine lv_aload_n hx hb dX1_joys_71 rfl (lv_at hl 0 rfl) ?_
            refine va_get (D := gD G) (ci := 1) (v := .ref (xa 0)) (C := RX1) (T := TX1) (N := 9) hx hb hts in_X1 hown hK.1 hP 0 rfl rfl 0 (by decide) (hts _ q838) (fun _ h9 => h9) rfl dX1_joys_72 ?_
            refine lv_iload_n hx hb dX1_joys_75 rfl (lv_at hl 2 rfl) ?_
            refine c_Vk (rest := []) C (metX2_looks l G (xa 0) fn gm wh r N q_3 (by omega) (hr) (hwk) (by omega)) 1 (lw_V q552 q466 q467 q40 q468) (by decide +kernel) ⟨rfl, rfl⟩ ⟨(Nat.le_of_ble_eq_true rfl), (Nat.le_of_ble_eq_true rfl)⟩ (KG.call) (va_recv hK.1 hP (ci := 2) (q0 := 1) rfl rfl) (hP.sub (ws' := [(xa 0, fO fn r), (fn 0, qA G 3 9 wh), (fn 1, iA G 9 (fA r 2)), (fn 2, iA G 9 (fA r 3)), (fn 3, iA G 9 (fA r 4)), (fn 4, iA G 9 (fA r 5))]) [1, 2, 3, 4, 5, 6] rfl) (KG.at hK hGP) hl rfl rfl (Nat.le_of_ble_eq_true rfl) ⟨(Nat.le_of_ble_eq_true rfl), (Nat.le_of_ble_eq_true rfl)⟩ dX1_joys_76 ?_
            exact n_iret (v := sGazes r q_3) C (by simp [sJoysA, sWT_eq, c_1, np_2, tp_2, tq_3, c_4, twhat_5, c_6, c_7, yc_7, zc_7, c_8, zc_8]) dX1_joys_79
          · obtain rfl := c_8
            have zc_8 : (nI 1 = 1) = True := eq_true rfl
            refine lv_aload_n hx hb dX1_joys_59 rfl (lv_at hl 0 rfl) ?_
            refine va_get (D := gD G) (ci := 1) (v := .ref (xa 0)) (C := RX1) (T := TX1) (N := 9) hx hb hts in_X1 hown hK.1 hP 0 rfl rfl 0 (by decide) (hts _ q838) (fun _ h9 => h9) rfl dX1_joys_60 ?_
            refine lv_iload_n hx hb dX1_joys_63 rfl (lv_at hl 1 rfl) ?_
            refine lv_iload_n hx hb dX1_joys_64 rfl (lv_at hl 2 rfl) ?_
            refine c_Vk (rest := []) C (metX2_joyOf l G (xa 0) fn gm wh r N p_2 q_3 (by omega) (hr) (hwk) (by omega) (by omega)) 2 (lw_V q551 q407 q408 q40 q409) (by decide +kernel) ⟨rfl, rfl⟩ ⟨(Nat.le_of_ble_eq_true rfl), (Nat.le_of_ble_eq_true rfl)⟩ (KG.call) (va_recv hK.1 hP (ci := 2) (q0 := 1) rfl rfl) (hP.sub (ws' := [(xa 0, fO fn r), (fn 0, qA G 3 9 wh), (fn 1, iA G 9 (fA r 2)), (fn 2, iA G 9 (fA r 3)), (fn 3, iA G 9 (fA r 4)), (fn 4, iA G 9 (fA r 5))]) [1, 2, 3, 4, 5, 6] rfl) (KG.at hK hGP) hl rfl rfl (Nat.le_of_ble_eq_true rfl) ⟨(Nat.le_of_ble_eq_true rfl), (Nat.le_of_ble_eq_true rfl)⟩ dX1_joys_65 ?_
            refine lv_goto (tgt := 79) hx hb dX1_joys_68 (by decide) ?_
            exact n_iret (v := sJoyE r p_2 q_3) C (by simp [sJoysA, sWT_eq, c_1, np_2, tp_2, tq_3, c_4, twhat_5, c_6, c_7, yc_7, zc_7, zc_8]) dX1_joys_79
        · obtain rfl := c_7
          have zc_7 : (nI 0 = 0) = True := eq_true rfl
          refine lv_aload_n hx hb dX1_joys_42 rfl (lv_at hl 0 rfl) ?_
          refine va_get (D := gD G) (ci := 1) (v := .ref (xa 0)) (C := RX1) (T := TX1) (N := 9) hx hb hts in_X1 hown hK.1 hP 0 rfl rfl 0 (by decide) (hts _ q838) (fun _ h9 => h9) rfl dX1_joys_43 ?_
          refine lv_iload_n hx hb dX1_joys_46 rfl (lv_at hl 1 rfl) ?_
          refine lv_iload_n hx hb dX1_joys_47 rfl (lv_at hl 2 rfl) ?_
          refine c_Vk (rest := []) C (metX2_joys l G (xa 0) fn gm wh r N p_2 q_3 (by omega) (hr) (hwk) (by omega) (by omega)) 2 (lw_V q550 q403 q404 q40 q405) (by decide +kernel) ⟨rfl, rfl⟩ ⟨(Nat.le_of_ble_eq_true rfl), (Nat.le_of_ble_eq_true rfl)⟩ (KG.call) (va_recv hK.1 hP (ci := 2) (q0 := 1) rfl rfl) (hP.sub (ws' := [(xa 0, fO fn r), (fn 0, qA G 3 9 wh), (fn 1, iA G 9 (fA r 2)), (fn 2, iA G 9 (fA r 3)), (fn 3, iA G 9 (fA r 4)), (fn 4, iA G 9 (fA r 5))]) [1, 2, 3, 4, 5, 6] rfl) (KG.at hK hGP) hl rfl rfl (Nat.le_of_ble_eq_true rfl) ⟨(Nat.le_of_ble_eq_true rfl), (Nat.le_of_ble_eq_true rfl)⟩ dX1_joys_48 ?_
          refine lv_goto (tgt := 79) hx hb dX1_joys_51 (by decide) ?_
          exact n_iret (v := sJoy r p_2 q_3) C (by simp [sJoysA, sWT_eq, c_1, np_2, tp_2, tq_3, c_4, twhat_5, c_6, zc_7]) dX1_joys_79
      · refine lv_bipush (v := (-3)) hx hb dX1_joys_35 (by decide) ?_
        exact n_iret (v := (-3)) C (by simp [sJoysA, sWT_eq, c_1, np_2, tp_2, tq_3, c_4, twhat_5, c_6]) dX1_joys_37
    · refine lv_iconst (v := (-1)) hx hb dX1_joys_21 (by decide) ?_
      exact n_iret (v := (-1)) C (by simp [sJoysA, sWT_eq, c_1, np_2, tp_2, tq_3, c_4]) dX1_joys_22

set_option maxHeartbeats 4000000 in
set_option maxRecDepth 100000 in
theorem metX1_who (l : Launch) (G : GG) (h : Nat) (xa : Nat → Nat) (xi : Nat → Int32) (fn : Nat → Nat) (gm : GM) (wh : Nat → Option Nat) (r : Nat → Int32) (N : Nat) (what : Int32) (hN : N ≤ 8) (hr : r 0 = nI N) (hwk : WK gm wh r N) : MR l yX1_who cX1_who 5 (some .int) ({ frames := 8, cells := 0, slots := 0, locals := 243 }) [.ref h, .int what] [(h, xO xa xi), (xa 0, fO fn r), (fn 0, qA G 3 9 wh), (fn 1, iA G 9 (fA r 2)), (fn 2, iA G 9 (fA r 3)), (fn 3, iA G 9 (fA r 4)), (fn 4, iA G 9 (fA r 5))] G (KG G gm) (sWhoA r N what) := by
  -- rows printed by wip/tools/gen.py
  refine mr_mk RX1 (by decide) rfl (Nat.le_of_ble_eq_true rfl) ?_
  intro p0_ e0_ s m args below meth c C hP hK ls hl
  have hGP := hK.2
  have hK := hK.1
  have hx := C.1
  have hb := C.2.1
  have hml := C.2.2.2.2.1
  have hown := C.2.2.2.2.2.1
  have hts := C.2.2.2.2.2.2
  have hl : lv_has ls 5 [(0, .ref h), (1, .int what)] := hl
  refine lv_iload_n hx hb dX1_who_0 rfl (lv_at hl 1 rfl) ?_
  refine lv_iconst (v := 0) hx hb dX1_who_1 (by decide) ?_
  refine lv_iconst (v := 1) hx hb dX1_who_2 (by decide) ?_
  refine c_S (rest := []) C (metX1_isIn l G what 0 1) 3 (lw_S q171 q172 q39 q173) (by decide +kernel) ⟨rfl, rfl⟩ ⟨(Nat.le_of_ble_eq_true rfl), (Nat.le_of_ble_eq_true rfl)⟩ (KM_mv G) (hP.sub (ws' := []) [] rfl) hK.1 hl rfl rfl (Nat.le_of_ble_eq_true rfl) ⟨(Nat.le_of_ble_eq_true rfl), (Nat.le_of_ble_eq_true rfl)⟩ dX1_who_3 ?_
  refine n_if_neB (b := (sIn what 0 1)) (tgt := 11) hx hb dX1_who_6 (by decide) (fun c_1 => ?_) (fun c_1 => ?_)
  · obtain ⟨what_2, hwhat_2, gwhat_2, rfl⟩ := sIn_t (a := 0) (b := 1) (by omega) (by omega) c_1
    have twhat_2 : tn (nI what_2) = what_2 := nI_clamp (by omega)
    refine lv_iconst (v := 0) hx hb dX1_who_11 (by decide) ?_
    refine lv_istore_n (lv' := [(2, .int 0), (0, .ref h), (1, .int (nI what_2))]) hx hb dX1_who_12 rfl hl (Nat.le_of_ble_eq_true rfl) rfl (fun ls hl => ?_)
    refine lv_iconst (v := 0) hx hb dX1_who_13 (by decide) ?_
    refine lv_istore_n (lv' := [(3, .int 0), (2, .int 0), (0, .ref h), (1, .int (nI what_2))]) hx hb dX1_who_14 rfl hl (Nat.le_of_ble_eq_true rfl) rfl (fun ls hl => ?_)
    suffices hlp_3 : (∀ (n i : Nat), i + n = N → ∀ (ls : Array Slot), lv_has ls 5 [(3, .int (nI i)), (2, .int (whO r (nI what_2) N i)), (0, .ref h), (1, .int (nI what_2))] → W p0_ l e0_ ({ frames := 8, cells := 0, slots := 0, locals := 243 } : Room) s m args below meth c s.heap [] (0) (0) (MQ below (vp_Si (fun rr9 => rr9 = sWhoA r N (nI what_2))) args s 0 0 (fun _ => False)) (F0 m 15 ls [])) by
      exact hlp_3 (N) 0 (by omega) ls (lv_sub hl [0, 1, 2, 3] rfl)
    have hend_3 : ∀ (ls : Array Slot), lv_has ls 5 [(3, .int (nI N)), (2, .int (whO r (nI what_2) N N)), (0, .ref h), (1, .int (nI what_2))] → W p0_ l e0_ ({ frames := 8, cells := 0, slots := 0, locals := 243 } : Room) s m args below meth c s.heap [] (0) (0) (MQ below (vp_Si (fun rr9 => rr9 = sWhoA r N (nI what_2))) args s 0 0 (fun _ => False)) (F0 m 15 ls []) := by
      intro ls hl
      refine lv_iload_n hx hb dX1_who_15 rfl (lv_at hl 0 rfl) ?_
      refine lv_aload_n hx hb dX1_who_16 rfl (lv_at hl 2 rfl) ?_
      refine va_get (D := gD G) (ci := 1) (v := .ref (xa 0)) (C := RX1) (T := TX1) (N := 9) hx hb hts in_X1 hown hK.1 hP 0 rfl rfl 0 (by decide) (hts _ q838) (fun _ h9 => h9) rfl dX1_who_17 ?_
      refine va_get (D := gD G) (ci := 2) (v := .int (r 0)) (C := RX2) (T := TX2) (N := 8) hx hb hts in_X2 hown hK.1 hP 1 rfl rfl 5 (by decide) (hts _ q803) (fun _ h9 => h9) rfl dX1_who_20 ?_
      refine n_eqi (hr) ?_
      refine n_ic_ge (x := N) (y := N) (tgt := 85) hx hb (by omega) (by omega) dX1_who_23 (by decide) (fun c_4 => ?_) (fun c_4 => absurd c_4 (by omega))
      refine lv_iload_n hx hb dX1_who_85 rfl (lv_at hl 1 rfl) ?_
      exact n_iret (v := whO r (nI what_2) N N) C (by simp [sWhoA, c_1, twhat_2, c_4]) dX1_who_86
    intro n
    induction n with
    | zero =>
      intro i hi_3 ls hl
      obtain e_3 : i = N := by omega
      first | (subst e_3; exact hend_3 ls hl) | (rw [e_3] at hl; exact hend_3 ls hl)
    | succ n ih_3 =>
      intro i hi_3 ls hl
      refine lv_iload_n hx hb dX1_who_15 rfl (lv_at hl 0 rfl) ?_
      refine lv_aload_n hx hb dX1_who_16 rfl (lv_at hl 2 rfl) ?_
      refine va_get (D := gD G) (ci := 1) (v := .ref (xa 0)) (C := RX1) (T := TX1) (N := 9) hx hb hts in_X1 hown hK.1 hP 0 rfl rfl 0 (by decide) (hts _ q838) (fun _ h9 => h9) rfl dX1_who_17 ?_
      refine va_get (D := gD G) (ci := 2) (v := .int (r 0)) (C := RX2) (T := TX2) (N := 8) hx hb hts in_X2 hown hK.1 hP 1 rfl rfl 5 (by decide) (hts _ q803) (fun _ h9 => h9) rfl dX1_who_20 ?_
      refine n_eqi (hr) ?_
      refine n_ic_ge (x := i) (y := N) (tgt := 85) hx hb (by omega) (by omega) dX1_who_23 (by decide) (fun c_5 => absurd c_5 (by omega)) (fun c_5 => ?_)
      refine lv_iconst (v := 0) hx hb dX1_who_26 (by decide) ?_
      refine lv_istore (lv' := [(4, .int 0), (3, .int (nI i)), (2, .int (whO r (nI what_2) N i)), (0, .ref h), (1, .int (nI what_2))]) hx hb dX1_who_27 hl (Nat.le_of_ble_eq_true rfl) rfl (fun ls hl => ?_)
      suffices hlp_6 : (∀ (n j : Nat), j + n = N → ∀ (ls : Array Slot), lv_has ls 5 [(4, .int (nI j)), (3, .int (nI i)), (2, .int (whI r (nI what_2) i (whO r (nI what_2) N i) j)), (0, .ref h), (1, .int (nI what_2))] → W p0_ l e0_ ({ frames := 8, cells := 0, slots := 0, locals := 243 } : Room) s m args below meth c s.heap [] (0) (0) (MQ below (vp_Si (fun rr9 => rr9 = sWhoA r N (nI what_2))) args s 0 0 (fun _ => False)) (F0 m 29 ls [])) by
        exact hlp_6 (N) 0 (by omega) ls (lv_sub hl [0, 1, 2, 3, 4] rfl)
      have hend_6 : ∀ (ls : Array Slot), lv_has ls 5 [(4, .int (nI N)), (3, .int (nI i)), (2, .int (whI r (nI what_2) i (whO r (nI what_2) N i) N)), (0, .ref h), (1, .int (nI what_2))] → W p0_ l e0_ ({ frames := 8, cells := 0, slots := 0, locals := 243 } : Room) s m args below meth c s.heap [] (0) (0) (MQ below (vp_Si (fun rr9 => rr9 = sWhoA r N (nI what_2))) args s 0 0 (fun _ => False)) (F0 m 29 ls []) := by
        intro ls hl
        refine lv_iload hx hb dX1_who_29 (lv_at hl 0 rfl) ?_
        refine lv_aload_n hx hb dX1_who_31 rfl (lv_at hl 3 rfl) ?_
        refine va_get (D := gD G) (ci := 1) (v := .ref (xa 0)) (C := RX1) (T := TX1) (N := 9) hx hb hts in_X1 hown hK.1 hP 0 rfl rfl 0 (by decide) (hts _ q838) (fun _ h9 => h9) rfl dX1_who_32 ?_
        refine va_get (D := gD G) (ci := 2) (v := .int (r 0)) (C := RX2) (T := TX2) (N := 8) hx hb hts in_X2 hown hK.1 hP 1 rfl rfl 5 (by decide) (hts _ q803) (fun _ h9 => h9) rfl dX1_who_35 ?_
        refine n_eqi (hr) ?_
        refine n_ic_ge (x := N) (y := N) (tgt := 79) hx hb (by omega) (by omega) dX1_who_38 (by decide) (fun c_7 => ?_) (fun c_7 => absurd c_7 (by omega))
        refine n_iinc (k := 1) (lv' := [(3, .int (nI (i + 1))), (4, .int (nI N)), (2, .int (whI r (nI what_2) i (whO r (nI what_2) N i) N)), (0, .ref h), (1, .int (nI what_2))]) hx hb i 1 dX1_who_79 hl rfl (Nat.le_of_ble_eq_true rfl) rfl (fun ls hl => ?_)
        refine lv_goto (tgt := 15) hx hb dX1_who_82 (by decide) ?_
        have e_8 : whO r (nI what_2) N (i + 1) = whI r (nI what_2) i (whO r (nI what_2) N i) N := by rfl
        exact ih_3 (i + 1) (by omega) ls (by rw [e_8]; exact lv_sub hl [0, 2, 3, 4] rfl)
      intro n
      induction n with
      | zero =>
        intro j hi_6 ls hl
        obtain e_6 : j = N := by omega
        first | (subst e_6; exact hend_6 ls hl) | (rw [e_6] at hl; exact hend_6 ls hl)
      | succ n ih_6 =>
        intro j hi_6 ls hl
        refine lv_iload hx hb dX1_who_29 (lv_at hl 0 rfl) ?_
        refine lv_aload_n hx hb dX1_who_31 rfl (lv_at hl 3 rfl) ?_
        refine va_get (D := gD G) (ci := 1) (v := .ref (xa 0)) (C := RX1) (T := TX1) (N := 9) hx hb hts in_X1 hown hK.1 hP 0 rfl rfl 0 (by decide) (hts _ q838) (fun _ h9 => h9) rfl dX1_who_32 ?_
        refine va_get (D := gD G) (ci := 2) (v := .int (r 0)) (C := RX2) (T := TX2) (N := 8) hx hb hts in_X2 hown hK.1 hP 1 rfl rfl 5 (by decide) (hts _ q803) (fun _ h9 => h9) rfl dX1_who_35 ?_
        refine n_eqi (hr) ?_
        refine n_ic_ge (x := j) (y := N) (tgt := 79) hx hb (by omega) (by omega) dX1_who_38 (by decide) (fun c_9 => absurd c_9 (by omega)) (fun c_9 => ?_)
        refine lv_iload_n hx hb dX1_who_41 rfl (lv_at hl 2 rfl) ?_
        refine lv_aload_n hx hb dX1_who_42 rfl (lv_at hl 3 rfl) ?_
        refine va_get (D := gD G) (ci := 1) (v := .ref (xa 0)) (C := RX1) (T := TX1) (N := 9) hx hb hts in_X1 hown hK.1 hP 0 rfl rfl 0 (by decide) (hts _ q838) (fun _ h9 => h9) rfl dX1_who_43 ?_
        refine lv_iload_n hx hb dX1_who_46 rfl (lv_at hl 1 rfl) ?_
        refine lv_iload hx hb dX1_who_47 (lv_at hl 0 rfl) ?_
        refine c_Vk (rest := [.int (whI r (nI what_2) i (whO r (nI what_2) N i) j)]) C (metX2_canEatN l G (xa 0) fn gm wh r N i j (by omega) (hr) (hwk) (by omega) (by omega)) 2 (lw_V q367 q368 q369 q40 q370) (by decide +kernel) ⟨rfl, rfl⟩ ⟨(Nat.le_of_ble_eq_true rfl), (Nat.le_of_ble_eq_true rfl)⟩ (KG.call) (va_recv hK.1 hP (ci := 2) (q0 := 1) rfl rfl) (hP.sub (ws' := [(xa 0, fO fn r), (fn 0, qA G 3 9 wh), (fn 1, iA G 9 (fA r 2)), (fn 2, iA G 9 (fA r 3)), (fn 3, iA G 9 (fA r 4)), (fn 4, iA G 9 (fA r 5))]) [1, 2, 3, 4, 5, 6] rfl) (KG.at hK hGP) hl rfl rfl (Nat.le_of_ble_eq_true rfl) ⟨(Nat.le_of_ble_eq_true rfl), (Nat.le_of_ble_eq_true rfl)⟩ dX1_who_49 ?_
        refine n_if_eqB (b := (sEat r i j)) (tgt := 70) hx hb dX1_who_52 (by decide) (fun c_10 => ?_) (fun c_10 => ?_)
        · refine lv_iconst (v := 0) hx hb dX1_who_70 (by decide) ?_
          refine lv_ior (x := whI r (nI what_2) i (whO r (nI what_2) N i) j) (y := 0) hx hb dX1_who_71 ?_
          refine lv_istore_n (lv' := [(2, .int ((whI r (nI what_2) i (whO r (nI what_2) N i) j) ||| 0)), (4, .int (nI j)), (3, .int (nI i)), (0, .ref h), (1, .int (nI what_2))]) hx hb dX1_who_72 rfl hl (Nat.le_of_ble_eq_true rfl) rfl (fun ls hl => ?_)
          refine n_iinc (k := 1) (lv' := [(4, .int (nI (j + 1))), (2, .int ((whI r (nI what_2) i (whO r (nI what_2) N i) j) ||| 0)), (3, .int (nI i)), (0, .ref h), (1, .int (nI what_2))]) hx hb j 1 dX1_who_73 hl rfl (Nat.le_of_ble_eq_true rfl) rfl (fun ls hl => ?_)
          refine lv_goto (tgt := 29) hx hb dX1_who_76 (by decide) ?_
          have e_11 : whI r (nI what_2) i (whO r (nI what_2) N i) (j + 1) = (whI r (nI what_2) i (whO r (nI what_2) N i) j) ||| 0 := by simp [whI, whS, twhat_2, c_9, c_10]
          exact ih_6 (j + 1) (by omega) ls (by rw [e_11]; exact lv_sub hl [0, 2, 1, 3, 4] rfl)
        · refine lv_iconst (v := 1) hx hb dX1_who_55 (by decide) ?_
          refine lv_iload_n hx hb dX1_who_56 rfl (lv_at hl 4 rfl) ?_
          refine n_if_ne (x := what_2) (tgt := 64) hx hb (by omega) dX1_who_57 (by decide) (fun c_12 => ?_) (fun c_12 => ?_)
          · have zc_12 : ¬ nI what_2 = 0 := nI_ne0 c_12 (by omega)
            have yc_12 : ¬ what_2 = 0 := Nat.ne_of_gt c_12
            refine lv_iload hx hb dX1_who_64 (lv_at hl 0 rfl) ?_
            refine lv_ishl (x := 1) (y := nI j) hx hb dX1_who_66 ?_
            refine lv_goto (tgt := 71) hx hb dX1_who_67 (by decide) ?_
            refine lv_ior (x := whI r (nI what_2) i (whO r (nI what_2) N i) j) (y := 1 <<< ((nI j) &&& 31)) hx hb dX1_who_71 ?_
            refine lv_istore_n (lv' := [(2, .int ((whI r (nI what_2) i (whO r (nI what_2) N i) j) ||| (1 <<< ((nI j) &&& 31)))), (4, .int (nI j)), (3, .int (nI i)), (0, .ref h), (1, .int (nI what_2))]) hx hb dX1_who_72 rfl hl (Nat.le_of_ble_eq_true rfl) rfl (fun ls hl => ?_)
            refine n_iinc (k := 1) (lv' := [(4, .int (nI (j + 1))), (2, .int ((whI r (nI what_2) i (whO r (nI what_2) N i) j) ||| (1 <<< ((nI j) &&& 31)))), (3, .int (nI i)), (0, .ref h), (1, .int (nI what_2))]) hx hb j 1 dX1_who_73 hl rfl (Nat.le_of_ble_eq_true rfl) rfl (fun ls hl => ?_)
            refine lv_goto (tgt := 29) hx hb dX1_who_76 (by decide) ?_
            have e_13 : whI r (nI what_2) i (whO r (nI what_2) N i) (j + 1) = (whI r (nI what_2) i (whO r (nI what_2) N i) j) ||| (1 <<< ((nI j) &&& 31)) := by simp [whI, whS, twhat_2, c_9, c_10, c_12, yc_12, zc_12]
            exact ih_6 (j + 1) (by omega) ls (by rw [e_13]; exact lv_sub hl [0, 2, 1, 3, 4] rfl)
          · obtain rfl := c_12
            have zc_12 : (nI 0 = 0) = True := eq_true rfl
            refine lv_iload_n hx hb dX1_who_60 rfl (lv_at hl 1 rfl) ?_
            refine lv_goto (tgt := 66) hx hb dX1_who_61 (by decide) ?_
            refine lv_ishl (x := 1) (y := nI i) hx hb dX1_who_66 ?_
            refine lv_goto (tgt := 71) hx hb dX1_who_67 (by decide) ?_
            refine lv_ior (x := whI r (nI 0) i (whO r (nI 0) N i) j) (y := 1 <<< ((nI i) &&& 31)) hx hb dX1_who_71 ?_
            refine lv_istore_n (lv' := [(2, .int ((whI r (nI 0) i (whO r (nI 0) N i) j) ||| (1 <<< ((nI i) &&& 31)))), (4, .int (nI j)), (3, .int (nI i)), (0, .ref h), (1, .int (nI 0))]) hx hb dX1_who_72 rfl hl (Nat.le_of_ble_eq_true rfl) rfl (fun ls hl => ?_)
            refine n_iinc (k := 1) (lv' := [(4, .int (nI (j + 1))), (2, .int ((whI r (nI 0) i (whO r (nI 0) N i) j) ||| (1 <<< ((nI i) &&& 31)))), (3, .int (nI i)), (0, .ref h), (1, .int (nI 0))]) hx hb j 1 dX1_who_73 hl rfl (Nat.le_of_ble_eq_true rfl) rfl (fun ls hl => ?_)
            refine lv_goto (tgt := 29) hx hb dX1_who_76 (by decide) ?_
            have e_14 : whI r (nI 0) i (whO r (nI 0) N i) (j + 1) = (whI r (nI 0) i (whO r (nI 0) N i) j) ||| (1 <<< ((nI i) &&& 31)) := by simp [whI, whS, twhat_2, c_9, c_10, zc_12]
            exact ih_6 (j + 1) (by omega) ls (by rw [e_14]; exact lv_sub hl [0, 2, 1, 3, 4] rfl)
  · refine lv_iconst (v := (-1)) hx hb dX1_who_9 (by decide) ?_
    exact n_iret (v := (-1)) C (by simp [sWhoA, c_1]) dX1_who_10

set_option maxHeartbeats 4000000 in
set_option maxRecDepth 100000 in
theorem metX1_bestPair (l : Launch) (G : GG) (h : Nat) (xa : Nat → Nat) (xi : Nat → Int32) (fn : Nat → Nat) (gm : GM) (wh : Nat → Option Nat) (r : Nat → Int32) (N : Nat) (what : Int32) (hN : N ≤ 8) (hr : r 0 = nI N) (hwk : WK gm wh r N) (hJ : JN r N) : MR l yX1_bestPair cX1_bestPair 2 (some .int) ({ frames := 11, cells := 0, slots := 0, locals := 309 }) [.ref h, .int what] [(h, xO xa xi), (xa 0, fO fn r), (fn 0, qA G 3 9 wh), (fn 1, iA G 9 (fA r 2)), (fn 2, iA G 9 (fA r 3)), (fn 3, iA G 9 (fA r 4)), (fn 4, iA G 9 (fA r 5))] G (KG G gm) (sBPA r N what) := by
  -- rows printed by wip/tools/gen.py
  refine mr_mk RX1 (by decide) rfl (Nat.le_of_ble_eq_true rfl) ?_
  intro p0_ e0_ s m args below meth c C hP hK ls hl
  have hGP := hK.2
  have hK := hK.1
  have hx := C.1
  have hb := C.2.1
  have hml := C.2.2.2.2.1
  have hown := C.2.2.2.2.2.1
  have hts := C.2.2.2.2.2.2
  have hl : lv_has ls 2 [(0, .ref h), (1, .int what)] := hl
  refine lv_iload_n hx hb dX1_bestPair_0 rfl (lv_at hl 1 rfl) ?_
  refine lv_iconst (v := 0) hx hb dX1_bestPair_1 (by decide) ?_
  refine lv_iconst (v := 1) hx hb dX1_bestPair_2 (by decide) ?_
  refine c_S (rest := []) C (metX1_isIn l G what 0 1) 3 (lw_S q171 q172 q39 q173) (by decide +kernel) ⟨rfl, rfl⟩ ⟨(Nat.le_of_ble_eq_true rfl), (Nat.le_of_ble_eq_true rfl)⟩ (KM_mv G) (hP.sub (ws' := []) [] rfl) hK.1 hl rfl rfl (Nat.le_of_ble_eq_true rfl) ⟨(Nat.le_of_ble_eq_true rfl), (Nat.le_of_ble_eq_true rfl)⟩ dX1_bestPair_3 ?_
  refine n_if_neB (b := (sIn what 0 1)) (tgt := 11) hx hb dX1_bestPair_6 (by decide) (fun c_1 => ?_) (fun c_1 => ?_)
  · obtain ⟨what_2, hwhat_2, gwhat_2, rfl⟩ := sIn_t (a := 0) (b := 1) (by omega) (by omega) c_1
    have twhat_2 : tn (nI what_2) = what_2 := nI_clamp (by omega)
    refine lv_iload_n hx hb dX1_bestPair_11 rfl (lv_at hl 1 rfl) ?_
    refine n_if_ne (x := what_2) (tgt := 25) hx hb (by omega) dX1_bestPair_12 (by decide) (fun c_3 => ?_) (fun c_3 => ?_)
    · have zc_3 : ¬ nI what_2 = 0 := nI_ne0 c_3 (by omega)
      have yc_3 : ¬ what_2 = 0 := Nat.ne_of_gt c_3
      refine lv_aload_n hx hb dX1_bestPair_25 rfl (lv_at hl 0 rfl) ?_
      refine va_get (D := gD G) (ci := 1) (v := .ref (xa 0)) (C := RX1) (T := TX1) (N := 9) hx hb hts in_X1 hown hK.1 hP 0 rfl rfl 0 (by decide) (hts _ q838) (fun _ h9 => h9) rfl dX1_bestPair_26 ?_
      refine c_Vk (rest := []) C (metX2_bestJoys l G (xa 0) fn gm wh r N (by omega) (hr) (hwk) (hJ)) 0 (lw_V q566 q567 q568 q40 q569) (by decide +kernel) ⟨rfl, rfl⟩ ⟨(Nat.le_of_ble_eq_true rfl), (Nat.le_of_ble_eq_true rfl)⟩ (KG.call) (va_recv hK.1 hP (ci := 2) (q0 := 1) rfl rfl) (hP.sub (ws' := [(xa 0, fO fn r), (fn 0, qA G 3 9 wh), (fn 1, iA G 9 (fA r 2)), (fn 2, iA G 9 (fA r 3)), (fn 3, iA G 9 (fA r 4)), (fn 4, iA G 9 (fA r 5))]) [1, 2, 3, 4, 5, 6] rfl) (KG.at hK hGP) hl rfl rfl (Nat.le_of_ble_eq_true rfl) ⟨(Nat.le_of_ble_eq_true rfl), (Nat.le_of_ble_eq_true rfl)⟩ dX1_bestPair_29 ?_
      exact n_iret (v := sBJX r N) C (by first | (simp [sBPA, c_1, twhat_2, c_3, yc_3, zc_3]; done) | (simp [sBPA, c_1, twhat_2, c_3, yc_3, zc_3]; rfl)) dX1_bestPair_32
    · obtain rfl := c_3
      have zc_3 : (nI 0 = 0) = True := eq_true rfl
      refine lv_aload_n hx hb dX1_bestPair_15 rfl (lv_at hl 0 rfl) ?_
      refine va_get (D := gD G) (ci := 1) (v := .ref (xa 0)) (C := RX1) (T := TX1) (N := 9) hx hb hts in_X1 hown hK.1 hP 0 rfl rfl 0 (by decide) (hts _ q838) (fun _ h9 => h9) rfl dX1_bestPair_16 ?_
      refine c_Vk (rest := []) C (metX2_best l G (xa 0) fn gm wh r N (by omega) (hr) (hwk) (hJ)) 0 (lw_V q561 q562 q563 q40 q564) (by decide +kernel) ⟨rfl, rfl⟩ ⟨(Nat.le_of_ble_eq_true rfl), (Nat.le_of_ble_eq_true rfl)⟩ (KG.call) (va_recv hK.1 hP (ci := 2) (q0 := 1) rfl rfl) (hP.sub (ws' := [(xa 0, fO fn r), (fn 0, qA G 3 9 wh), (fn 1, iA G 9 (fA r 2)), (fn 2, iA G 9 (fA r 3)), (fn 3, iA G 9 (fA r 4)), (fn 4, iA G 9 (fA r 5))]) [1, 2, 3, 4, 5, 6] rfl) (KG.at hK hGP) hl rfl rfl (Nat.le_of_ble_eq_true rfl) ⟨(Nat.le_of_ble_eq_true rfl), (Nat.le_of_ble_eq_true rfl)⟩ dX1_bestPair_19 ?_
      refine lv_goto (tgt := 32) hx hb dX1_bestPair_22 (by decide) ?_
      exact n_iret (v := sBest r N) C (by first | (simp [sBPA, c_1, twhat_2, zc_3]; done) | (simp [sBPA, c_1, twhat_2, zc_3]; rfl)) dX1_bestPair_32
  · refine lv_iconst (v := (-1)) hx hb dX1_bestPair_9 (by decide) ?_
    exact n_iret (v := (-1)) C (by first | (simp [sBPA, c_1]; done) | (simp [sBPA, c_1]; rfl)) dX1_bestPair_10

set_option maxHeartbeats 4000000 in
set_option maxRecDepth 100000 in
theorem metX1_bestLooker (l : Launch) (G : GG) (h : Nat) (xa : Nat → Nat) (xi : Nat → Int32) (fn : Nat → Nat) (gm : GM) (wh : Nat → Option Nat) (r : Nat → Int32) (N : Nat) (p : Int32) (hN : N ≤ 8) (hr : r 0 = nI N) (hwk : WK gm wh r N) : MR l yX1_bestLooker cX1_bestLooker 4 (some .int) ({ frames := 9, cells := 0, slots := 0, locals := 265 }) [.ref h, .int p] [(h, xO xa xi), (xa 0, fO fn r), (fn 0, qA G 3 9 wh), (fn 1, iA G 9 (fA r 2)), (fn 2, iA G 9 (fA r 3)), (fn 3, iA G 9 (fA r 4)), (fn 4, iA G 9 (fA r 5))] G (KG G gm) (sBLA r N p) := by
  -- rows printed by wip/tools/gen.py
  refine mr_mk RX1 (by decide) rfl (Nat.le_of_ble_eq_true rfl) ?_
  intro p0_ e0_ s m args below meth c C hP hK ls hl
  have hGP := hK.2
  have hK := hK.1
  have hx := C.1
  have hb := C.2.1
  have hml := C.2.2.2.2.1
  have hown := C.2.2.2.2.2.1
  have hts := C.2.2.2.2.2.2
  have hl : lv_has ls 4 [(0, .ref h), (1, .int p)] := hl
  refine lv_aload_n hx hb dX1_bestLooker_0 rfl (lv_at hl 0 rfl) ?_
  refine va_get (D := gD G) (ci := 1) (v := .ref (xa 0)) (C := RX1) (T := TX1) (N := 9) hx hb hts in_X1 hown hK.1 hP 0 rfl rfl 0 (by decide) (hts _ q838) (fun _ h9 => h9) rfl dX1_bestLooker_1 ?_
  refine lv_iload_n hx hb dX1_bestLooker_4 rfl (lv_at hl 1 rfl) ?_
  refine c_V (rest := []) C (metX2_isOne l G (xa 0) fn r N p (hr)) 1 (lw_V q497 q376 q377 q40 q378) (by decide +kernel) ⟨rfl, rfl⟩ ⟨(Nat.le_of_ble_eq_true rfl), (Nat.le_of_ble_eq_true rfl)⟩ (KX_mv G) (va_recv hK.1 hP (ci := 2) (q0 := 1) rfl rfl) (hP.sub (ws' := [(xa 0, fO fn r)]) [1] rfl) hK hl rfl rfl (Nat.le_of_ble_eq_true rfl) ⟨(Nat.le_of_ble_eq_true rfl), (Nat.le_of_ble_eq_true rfl)⟩ dX1_bestLooker_5 ?_
  refine n_if_neB (b := (sPer N p)) (tgt := 13) hx hb dX1_bestLooker_8 (by decide) (fun c_1 => ?_) (fun c_1 => ?_)
  · obtain ⟨p_2, hp_2, rfl⟩ := sPer_t (by omega) c_1
    have tp_2 : tn (nI p_2) = p_2 := nI_clamp (by omega)
    refine lv_bipush (v := (-4)) hx hb dX1_bestLooker_13 (by decide) ?_
    refine lv_istore_n (lv' := [(2, .int (-4)), (0, .ref h), (1, .int (nI p_2))]) hx hb dX1_bestLooker_15 rfl hl (Nat.le_of_ble_eq_true rfl) rfl (fun ls hl => ?_)
    refine lv_iconst (v := 0) hx hb dX1_bestLooker_16 (by decide) ?_
    refine lv_istore_n (lv' := [(3, .int 0), (2, .int (-4)), (0, .ref h), (1, .int (nI p_2))]) hx hb dX1_bestLooker_17 rfl hl (Nat.le_of_ble_eq_true rfl) rfl (fun ls hl => ?_)
    suffices hlp_3 : (∀ (n i : Nat), i + n = N → ∀ (ls : Array Slot), lv_has ls 4 [(3, .int (nI i)), (2, .int (encL (blO r p_2 i))), (0, .ref h), (1, .int (nI p_2))] → W p0_ l e0_ ({ frames := 9, cells := 0, slots := 0, locals := 265 } : Room) s m args below meth c s.heap [] (0) (0) (MQ below (vp_Si (fun rr9 => rr9 = sBLA r N (nI p_2))) args s 0 0 (fun _ => False)) (F0 m 18 ls [])) by
      exact hlp_3 (N) 0 (by omega) ls (lv_sub hl [0, 1, 2, 3] rfl)
    have hend_3 : ∀ (ls : Array Slot), lv_has ls 4 [(3, .int (nI N)), (2, .int (encL (blO r p_2 N))), (0, .ref h), (1, .int (nI p_2))] → W p0_ l e0_ ({ frames := 9, cells := 0, slots := 0, locals := 265 } : Room) s m args below meth c s.heap [] (0) (0) (MQ below (vp_Si (fun rr9 => rr9 = sBLA r N (nI p_2))) args s 0 0 (fun _ => False)) (F0 m 18 ls []) := by
      intro ls hl
      refine lv_iload_n hx hb dX1_bestLooker_18 rfl (lv_at hl 0 rfl) ?_
      refine lv_aload_n hx hb dX1_bestLooker_19 rfl (lv_at hl 2 rfl) ?_
      refine va_get (D := gD G) (ci := 1) (v := .ref (xa 0)) (C := RX1) (T := TX1) (N := 9) hx hb hts in_X1 hown hK.1 hP 0 rfl rfl 0 (by decide) (hts _ q838) (fun _ h9 => h9) rfl dX1_bestLooker_20 ?_
      refine va_get (D := gD G) (ci := 2) (v := .int (r 0)) (C := RX2) (T := TX2) (N := 8) hx hb hts in_X2 hown hK.1 hP 1 rfl rfl 5 (by decide) (hts _ q803) (fun _ h9 => h9) rfl dX1_bestLooker_23 ?_
      refine n_eqi (hr) ?_
      refine n_ic_ge (x := N) (y := N) (tgt := 74) hx hb (by omega) (by omega) dX1_bestLooker_26 (by decide) (fun c_4 => ?_) (fun c_4 => absurd c_4 (by omega))
      refine lv_iload_n hx hb dX1_bestLooker_74 rfl (lv_at hl 1 rfl) ?_
      exact n_iret (v := encL (blO r p_2 N)) C (by simp [sBLA, c_1, tp_2, c_4]) dX1_bestLooker_75
    intro n
    induction n with
    | zero =>
      intro i hi_3 ls hl
      obtain e_3 : i = N := by omega
      first | (subst e_3; exact hend_3 ls hl) | (rw [e_3] at hl; exact hend_3 ls hl)
    | succ n ih_3 =>
      intro i hi_3 ls hl
      refine lv_iload_n hx hb dX1_bestLooker_18 rfl (lv_at hl 0 rfl) ?_
      refine lv_aload_n hx hb dX1_bestLooker_19 rfl (lv_at hl 2 rfl) ?_
      refine va_get (D := gD G) (ci := 1) (v := .ref (xa 0)) (C := RX1) (T := TX1) (N := 9) hx hb hts in_X1 hown hK.1 hP 0 rfl rfl 0 (by decide) (hts _ q838) (fun _ h9 => h9) rfl dX1_bestLooker_20 ?_
      refine va_get (D := gD G) (ci := 2) (v := .int (r 0)) (C := RX2) (T := TX2) (N := 8) hx hb hts in_X2 hown hK.1 hP 1 rfl rfl 5 (by decide) (hts _ q803) (fun _ h9 => h9) rfl dX1_bestLooker_23 ?_
      refine n_eqi (hr) ?_
      refine n_ic_ge (x := i) (y := N) (tgt := 74) hx hb (by omega) (by omega) dX1_bestLooker_26 (by decide) (fun c_5 => absurd c_5 (by omega)) (fun c_5 => ?_)
      refine lv_aload_n hx hb dX1_bestLooker_29 rfl (lv_at hl 2 rfl) ?_
      refine va_get (D := gD G) (ci := 1) (v := .ref (xa 0)) (C := RX1) (T := TX1) (N := 9) hx hb hts in_X1 hown hK.1 hP 0 rfl rfl 0 (by decide) (hts _ q838) (fun _ h9 => h9) rfl dX1_bestLooker_30 ?_
      refine lv_iload_n hx hb dX1_bestLooker_33 rfl (lv_at hl 3 rfl) ?_
      refine lv_iload_n hx hb dX1_bestLooker_34 rfl (lv_at hl 0 rfl) ?_
      refine c_Vk (rest := []) C (metX2_canEatN l G (xa 0) fn gm wh r N p_2 i (by omega) (hr) (hwk) (by omega) (by omega)) 2 (lw_V q367 q368 q369 q40 q370) (by decide +kernel) ⟨rfl, rfl⟩ ⟨(Nat.le_of_ble_eq_true rfl), (Nat.le_of_ble_eq_true rfl)⟩ (KG.call) (va_recv hK.1 hP (ci := 2) (q0 := 1) rfl rfl) (hP.sub (ws' := [(xa 0, fO fn r), (fn 0, qA G 3 9 wh), (fn 1, iA G 9 (fA r 2)), (fn 2, iA G 9 (fA r 3)), (fn 3, iA G 9 (fA r 4)), (fn 4, iA G 9 (fA r 5))]) [1, 2, 3, 4, 5, 6] rfl) (KG.at hK hGP) hl rfl rfl (Nat.le_of_ble_eq_true rfl) ⟨(Nat.le_of_ble_eq_true rfl), (Nat.le_of_ble_eq_true rfl)⟩ dX1_bestLooker_35 ?_
      refine n_if_eqB (b := (sEat r p_2 i)) (tgt := 68) hx hb dX1_bestLooker_38 (by decide) (fun c_6 => ?_) (fun c_6 => ?_)
      · refine n_iinc (k := 0) (lv' := [(3, .int (nI (i + 1))), (2, .int (encL (blO r p_2 i))), (0, .ref h), (1, .int (nI p_2))]) hx hb i 1 dX1_bestLooker_68 hl rfl (Nat.le_of_ble_eq_true rfl) rfl (fun ls hl => ?_)
        refine lv_goto (tgt := 18) hx hb dX1_bestLooker_71 (by decide) ?_
        have e_7 : encL (blO r p_2 (i + 1)) = encL (blO r p_2 i) := by simp [blO, blS, encLS, encLN, tp_2, c_5, c_6]
        exact ih_3 (i + 1) (by omega) ls (by rw [e_7]; exact lv_sub hl [0, 1, 2, 3] rfl)
      · rcases ho_8 : blO r p_2 i with _ | bo_8
        · rw [ho_8] at hl
          have hl : lv_has ls 4 [(3, .int (nI i)), (2, .int (-4)), (0, .ref h), (1, .int (nI p_2))] := hl
          refine lv_iload_n hx hb dX1_bestLooker_41 rfl (lv_at hl 1 rfl) ?_
          refine lv_if_lt (x := (-4)) (tgt := 66) hx hb dX1_bestLooker_42 (by decide) (fun c_9 => ?_) (fun c_9 => absurd c_9 (by decide))
          refine lv_iload_n hx hb dX1_bestLooker_66 rfl (lv_at hl 0 rfl) ?_
          refine lv_istore_n (lv' := [(2, .int (nI i)), (3, .int (nI i)), (0, .ref h), (1, .int (nI p_2))]) hx hb dX1_bestLooker_67 rfl hl (Nat.le_of_ble_eq_true rfl) rfl (fun ls hl => ?_)
          refine n_iinc (k := 1) (lv' := [(3, .int (nI (i + 1))), (2, .int (nI i)), (0, .ref h), (1, .int (nI p_2))]) hx hb i 1 dX1_bestLooker_68 hl rfl (Nat.le_of_ble_eq_true rfl) rfl (fun ls hl => ?_)
          refine lv_goto (tgt := 18) hx hb dX1_bestLooker_71 (by decide) ?_
          have e_10 : encL (blO r p_2 (i + 1)) = nI i := by simp [blO, blS, encLS, encLN, tp_2, c_5, c_6, ho_8, c_9]
          exact ih_3 (i + 1) (by omega) ls (by rw [e_10]; exact lv_sub hl [0, 1, 2, 3] rfl)
        · rw [ho_8] at hl
          have hl : lv_has ls 4 [(3, .int (nI i)), (2, .int (nI bo_8)), (0, .ref h), (1, .int (nI p_2))] := hl
          have go_8 := blO_in _ _ ho_8
          refine lv_iload_n hx hb dX1_bestLooker_41 rfl (lv_at hl 1 rfl) ?_
          refine n_if_lt (x := bo_8) (tgt := 66) hx hb (by omega) dX1_bestLooker_42 (by decide) ?_
          refine lv_aload_n hx hb dX1_bestLooker_45 rfl (lv_at hl 2 rfl) ?_
          refine va_get (D := gD G) (ci := 1) (v := .ref (xa 0)) (C := RX1) (T := TX1) (N := 9) hx hb hts in_X1 hown hK.1 hP 0 rfl rfl 0 (by decide) (hts _ q838) (fun _ h9 => h9) rfl dX1_bestLooker_46 ?_
          refine lv_iload_n hx hb dX1_bestLooker_49 rfl (lv_at hl 3 rfl) ?_
          refine lv_iload_n hx hb dX1_bestLooker_50 rfl (lv_at hl 0 rfl) ?_
          refine c_Vk (rest := []) C (metX2_joys l G (xa 0) fn gm wh r N p_2 i (by omega) (hr) (hwk) (by omega) (by omega)) 2 (lw_V q550 q403 q404 q40 q405) (by decide +kernel) ⟨rfl, rfl⟩ ⟨(Nat.le_of_ble_eq_true rfl), (Nat.le_of_ble_eq_true rfl)⟩ (KG.call) (va_recv hK.1 hP (ci := 2) (q0 := 1) rfl rfl) (hP.sub (ws' := [(xa 0, fO fn r), (fn 0, qA G 3 9 wh), (fn 1, iA G 9 (fA r 2)), (fn 2, iA G 9 (fA r 3)), (fn 3, iA G 9 (fA r 4)), (fn 4, iA G 9 (fA r 5))]) [1, 2, 3, 4, 5, 6] rfl) (KG.at hK hGP) hl rfl rfl (Nat.le_of_ble_eq_true rfl) ⟨(Nat.le_of_ble_eq_true rfl), (Nat.le_of_ble_eq_true rfl)⟩ dX1_bestLooker_51 ?_
          refine lv_aload_n hx hb dX1_bestLooker_54 rfl (lv_at hl 2 rfl) ?_
          refine va_get (D := gD G) (ci := 1) (v := .ref (xa 0)) (C := RX1) (T := TX1) (N := 9) hx hb hts in_X1 hown hK.1 hP 0 rfl rfl 0 (by decide) (hts _ q838) (fun _ h9 => h9) rfl dX1_bestLooker_55 ?_
          refine lv_iload_n hx hb dX1_bestLooker_58 rfl (lv_at hl 3 rfl) ?_
          refine lv_iload_n hx hb dX1_bestLooker_59 rfl (lv_at hl 1 rfl) ?_
          refine c_Vk (rest := [.int (sJoy r p_2 i)]) C (metX2_joys l G (xa 0) fn gm wh r N p_2 bo_8 (by omega) (hr) (hwk) (by omega) (by omega)) 2 (lw_V q550 q403 q404 q40 q405) (by decide +kernel) ⟨rfl, rfl⟩ ⟨(Nat.le_of_ble_eq_true rfl), (Nat.le_of_ble_eq_true rfl)⟩ (KG.call) (va_recv hK.1 hP (ci := 2) (q0 := 1) rfl rfl) (hP.sub (ws' := [(xa 0, fO fn r), (fn 0, qA G 3 9 wh), (fn 1, iA G 9 (fA r 2)), (fn 2, iA G 9 (fA r 3)), (fn 3, iA G 9 (fA r 4)), (fn 4, iA G 9 (fA r 5))]) [1, 2, 3, 4, 5, 6] rfl) (KG.at hK hGP) hl rfl rfl (Nat.le_of_ble_eq_true rfl) ⟨(Nat.le_of_ble_eq_true rfl), (Nat.le_of_ble_eq_true rfl)⟩ dX1_bestLooker_60 ?_
          refine lv_icmp_le (x := sJoy r p_2 i) (y := sJoy r p_2 bo_8) (tgt := 68) hx hb dX1_bestLooker_63 (by decide) (fun c_11 => ?_) (fun c_11 => ?_)
          · have zc_11 : ¬ (sJoy r p_2 bo_8) < (sJoy r p_2 i) := Int32.not_lt.mpr c_11
            refine n_iinc (k := 0) (lv' := [(3, .int (nI (i + 1))), (2, .int (nI bo_8)), (0, .ref h), (1, .int (nI p_2))]) hx hb i 1 dX1_bestLooker_68 hl rfl (Nat.le_of_ble_eq_true rfl) rfl (fun ls hl => ?_)
            refine lv_goto (tgt := 18) hx hb dX1_bestLooker_71 (by decide) ?_
            have e_12 : encL (blO r p_2 (i + 1)) = nI bo_8 := by simp [blO, blS, encLS, encLN, tp_2, c_5, c_6, ho_8, c_11, zc_11]
            exact ih_3 (i + 1) (by omega) ls (by rw [e_12]; exact lv_sub hl [0, 1, 2, 3] rfl)
          · have zc_11 : (sJoy r p_2 bo_8) < (sJoy r p_2 i) := Int32.not_le.mp c_11
            refine lv_iload_n hx hb dX1_bestLooker_66 rfl (lv_at hl 0 rfl) ?_
            refine lv_istore_n (lv' := [(2, .int (nI i)), (3, .int (nI i)), (0, .ref h), (1, .int (nI p_2))]) hx hb dX1_bestLooker_67 rfl hl (Nat.le_of_ble_eq_true rfl) rfl (fun ls hl => ?_)
            refine n_iinc (k := 1) (lv' := [(3, .int (nI (i + 1))), (2, .int (nI i)), (0, .ref h), (1, .int (nI p_2))]) hx hb i 1 dX1_bestLooker_68 hl rfl (Nat.le_of_ble_eq_true rfl) rfl (fun ls hl => ?_)
            refine lv_goto (tgt := 18) hx hb dX1_bestLooker_71 (by decide) ?_
            have e_13 : encL (blO r p_2 (i + 1)) = nI i := by simp [blO, blS, encLS, encLN, tp_2, c_5, c_6, ho_8, c_11, zc_11]
            exact ih_3 (i + 1) (by omega) ls (by rw [e_13]; exact lv_sub hl [0, 1, 2, 3] rfl)
  · refine lv_iconst (v := (-1)) hx hb dX1_bestLooker_11 (by decide) ?_
    exact n_iret (v := (-1)) C (by simp [sBLA, c_1]) dX1_bestLooker_12

set_option maxHeartbeats 4000000 in
set_option maxRecDepth 100000 in
theorem metX1_left (l : Launch) (G : GG) (h : Nat) (xa : Nat → Nat) (xi : Nat → Int32) (fn : Nat → Nat) (gm : GM) (wh : Nat → Option Nat) (r : Nat → Int32) (N : Nat) (hN : N ≤ 8) (hr : r 0 = nI N) (hwk : WK gm wh r N) : MR l yX1_left cX1_left 3 (some .int) ({ frames := 7, cells := 0, slots := 0, locals := 221 }) [.ref h] [(h, xO xa xi), (xa 0, fO fn r), (fn 0, qA G 3 9 wh), (fn 1, iA G 9 (fA r 2)), (fn 2, iA G 9 (fA r 3)), (fn 3, iA G 9 (fA r 4)), (fn 4, iA G 9 (fA r 5))] G (KG G gm) (encL (aF r N)) := by
  -- rows printed by wip/tools/gen.py
  refine mr_mk RX1 (by decide) rfl (Nat.le_of_ble_eq_true rfl) ?_
  intro p0_ e0_ s m args below meth c C hP hK ls hl
  have hGP := hK.2
  have hK := hK.1
  have hx := C.1
  have hb := C.2.1
  have hml := C.2.2.2.2.1
  have hown := C.2.2.2.2.2.1
  have hts := C.2.2.2.2.2.2
  have hl : lv_has ls 3 [(0, .ref h)] := hl
  refine lv_bipush (v := (-4)) hx hb dX1_left_0 (by decide) ?_
  refine lv_istore_n (lv' := [(1, .int (-4)), (0, .ref h)]) hx hb dX1_left_2 rfl hl (Nat.le_of_ble_eq_true rfl) rfl (fun ls hl => ?_)
  refine lv_iconst (v := 0) hx hb dX1_left_3 (by decide) ?_
  refine lv_istore_n (lv' := [(2, .int 0), (1, .int (-4)), (0, .ref h)]) hx hb dX1_left_4 rfl hl (Nat.le_of_ble_eq_true rfl) rfl (fun ls hl => ?_)
  suffices hlp_1 : (∀ (n i : Nat), i + n = N → ∀ (ls : Array Slot), lv_has ls 3 [(2, .int (nI i)), (1, .int (encL (aF r i))), (0, .ref h)] → W p0_ l e0_ ({ frames := 7, cells := 0, slots := 0, locals := 221 } : Room) s m args below meth c s.heap [] (0) (0) (MQ below (vp_Si (fun rr9 => rr9 = encL (aF r N))) args s 0 0 (fun _ => False)) (F0 m 5 ls [])) by
    exact hlp_1 (N) 0 (by omega) ls (lv_sub hl [0, 1, 2] rfl)
  have hend_1 : ∀ (ls : Array Slot), lv_has ls 3 [(2, .int (nI N)), (1, .int (encL (aF r N))), (0, .ref h)] → W p0_ l e0_ ({ frames := 7, cells := 0, slots := 0, locals := 221 } : Room) s m args below meth c s.heap [] (0) (0) (MQ below (vp_Si (fun rr9 => rr9 = encL (aF r N))) args s 0 0 (fun _ => False)) (F0 m 5 ls []) := by
    intro ls hl
    refine lv_iload_n hx hb dX1_left_5 rfl (lv_at hl 0 rfl) ?_
    refine lv_aload_n hx hb dX1_left_6 rfl (lv_at hl 2 rfl) ?_
    refine va_get (D := gD G) (ci := 1) (v := .ref (xa 0)) (C := RX1) (T := TX1) (N := 9) hx hb hts in_X1 hown hK.1 hP 0 rfl rfl 0 (by decide) (hts _ q838) (fun _ h9 => h9) rfl dX1_left_7 ?_
    refine va_get (D := gD G) (ci := 2) (v := .int (r 0)) (C := RX2) (T := TX2) (N := 8) hx hb hts in_X2 hown hK.1 hP 1 rfl rfl 5 (by decide) (hts _ q803) (fun _ h9 => h9) rfl dX1_left_10 ?_
    refine n_eqi (hr) ?_
    refine n_ic_ge (x := N) (y := N) (tgt := 60) hx hb (by omega) (by omega) dX1_left_13 (by decide) (fun c_2 => ?_) (fun c_2 => absurd c_2 (by omega))
    refine lv_iload_n hx hb dX1_left_60 rfl (lv_at hl 1 rfl) ?_
    exact n_iret (v := encL (aF r N)) C (rfl) dX1_left_61
  intro n
  induction n with
  | zero =>
    intro i hi_1 ls hl
    obtain e_1 : i = N := by omega
    first | (subst e_1; exact hend_1 ls hl) | (rw [e_1] at hl; exact hend_1 ls hl)
  | succ n ih_1 =>
    intro i hi_1 ls hl
    refine lv_iload_n hx hb dX1_left_5 rfl (lv_at hl 0 rfl) ?_
    refine lv_aload_n hx hb dX1_left_6 rfl (lv_at hl 2 rfl) ?_
    refine va_get (D := gD G) (ci := 1) (v := .ref (xa 0)) (C := RX1) (T := TX1) (N := 9) hx hb hts in_X1 hown hK.1 hP 0 rfl rfl 0 (by decide) (hts _ q838) (fun _ h9 => h9) rfl dX1_left_7 ?_
    refine va_get (D := gD G) (ci := 2) (v := .int (r 0)) (C := RX2) (T := TX2) (N := 8) hx hb hts in_X2 hown hK.1 hP 1 rfl rfl 5 (by decide) (hts _ q803) (fun _ h9 => h9) rfl dX1_left_10 ?_
    refine n_eqi (hr) ?_
    refine n_ic_ge (x := i) (y := N) (tgt := 60) hx hb (by omega) (by omega) dX1_left_13 (by decide) (fun c_3 => absurd c_3 (by omega)) (fun c_3 => ?_)
    refine lv_aload_n hx hb dX1_left_16 rfl (lv_at hl 2 rfl) ?_
    refine va_get (D := gD G) (ci := 1) (v := .ref (xa 0)) (C := RX1) (T := TX1) (N := 9) hx hb hts in_X1 hown hK.1 hP 0 rfl rfl 0 (by decide) (hts _ q838) (fun _ h9 => h9) rfl dX1_left_17 ?_
    refine lv_iload_n hx hb dX1_left_20 rfl (lv_at hl 0 rfl) ?_
    refine c_Vk (rest := []) C (metX2_canLook l G (xa 0) fn gm wh r N i (by omega) (hr) (hwk) (by omega)) 1 (lw_V q626 q381 q382 q40 q383) (by decide +kernel) ⟨rfl, rfl⟩ ⟨(Nat.le_of_ble_eq_true rfl), (Nat.le_of_ble_eq_true rfl)⟩ (KG.call) (va_recv hK.1 hP (ci := 2) (q0 := 1) rfl rfl) (hP.sub (ws' := [(xa 0, fO fn r), (fn 0, qA G 3 9 wh), (fn 1, iA G 9 (fA r 2)), (fn 2, iA G 9 (fA r 3)), (fn 3, iA G 9 (fA r 4)), (fn 4, iA G 9 (fA r 5))]) [1, 2, 3, 4, 5, 6] rfl) (KG.at hK hGP) hl rfl rfl (Nat.le_of_ble_eq_true rfl) ⟨(Nat.le_of_ble_eq_true rfl), (Nat.le_of_ble_eq_true rfl)⟩ dX1_left_21 ?_
    refine n_if_eqB (b := (sLook r i)) (tgt := 54) hx hb dX1_left_24 (by decide) (fun c_4 => ?_) (fun c_4 => ?_)
    · refine n_iinc (k := 0) (lv' := [(2, .int (nI (i + 1))), (1, .int (encL (aF r i))), (0, .ref h)]) hx hb i 1 dX1_left_54 hl rfl (Nat.le_of_ble_eq_true rfl) rfl (fun ls hl => ?_)
      refine lv_goto (tgt := 5) hx hb dX1_left_57 (by decide) ?_
      have e_5 : encL (aF r (i + 1)) = encL (aF r i) := by simp [aF, encLS, encLN, c_3, c_4]
      exact ih_1 (i + 1) (by omega) ls (by rw [e_5]; exact lv_sub hl [0, 1, 2] rfl)
    · rcases ho_6 : aF r i with _ | bo_6
      · rw [ho_6] at hl
        have hl : lv_has ls 3 [(2, .int (nI i)), (1, .int (-4)), (0, .ref h)] := hl
        refine lv_iload_n hx hb dX1_left_27 rfl (lv_at hl 1 rfl) ?_
        refine lv_if_lt (x := (-4)) (tgt := 52) hx hb dX1_left_28 (by decide) (fun c_7 => ?_) (fun c_7 => absurd c_7 (by decide))
        refine lv_iload_n hx hb dX1_left_52 rfl (lv_at hl 0 rfl) ?_
        refine lv_istore_n (lv' := [(1, .int (nI i)), (2, .int (nI i)), (0, .ref h)]) hx hb dX1_left_53 rfl hl (Nat.le_of_ble_eq_true rfl) rfl (fun ls hl => ?_)
        refine n_iinc (k := 1) (lv' := [(2, .int (nI (i + 1))), (1, .int (nI i)), (0, .ref h)]) hx hb i 1 dX1_left_54 hl rfl (Nat.le_of_ble_eq_true rfl) rfl (fun ls hl => ?_)
        refine lv_goto (tgt := 5) hx hb dX1_left_57 (by decide) ?_
        have e_8 : encL (aF r (i + 1)) = nI i := by simp [aF, encLS, encLN, c_3, c_4, ho_6, c_7]
        exact ih_1 (i + 1) (by omega) ls (by rw [e_8]; exact lv_sub hl [0, 1, 2] rfl)
      · rw [ho_6] at hl
        have hl : lv_has ls 3 [(2, .int (nI i)), (1, .int (nI bo_6)), (0, .ref h)] := hl
        have go_6 := aF_in _ _ ho_6
        refine lv_iload_n hx hb dX1_left_27 rfl (lv_at hl 1 rfl) ?_
        refine n_if_lt (x := bo_6) (tgt := 52) hx hb (by omega) dX1_left_28 (by decide) ?_
        refine lv_aload_n hx hb dX1_left_31 rfl (lv_at hl 2 rfl) ?_
        refine va_get (D := gD G) (ci := 1) (v := .ref (xa 0)) (C := RX1) (T := TX1) (N := 9) hx hb hts in_X1 hown hK.1 hP 0 rfl rfl 0 (by decide) (hts _ q838) (fun _ h9 => h9) rfl dX1_left_32 ?_
        refine va_get (D := gD G) (ci := 2) (v := .ref (fn 1)) (C := RX2) (T := TX2) (N := 8) hx hb hts in_X2 hown hK.1 hP 1 rfl rfl 1 (by decide) (hts _ q795) (fun _ h9 => h9) rfl dX1_left_35 ?_
        refine lv_iload_n hx hb dX1_left_38 rfl (lv_at hl 0 rfl) ?_
        refine n_iald C hK.1 hP 3 i rfl (by omega) (by omega) dX1_left_39 ?_
        refine lv_aload_n hx hb dX1_left_40 rfl (lv_at hl 2 rfl) ?_
        refine va_get (D := gD G) (ci := 1) (v := .ref (xa 0)) (C := RX1) (T := TX1) (N := 9) hx hb hts in_X1 hown hK.1 hP 0 rfl rfl 0 (by decide) (hts _ q838) (fun _ h9 => h9) rfl dX1_left_41 ?_
        refine va_get (D := gD G) (ci := 2) (v := .ref (fn 1)) (C := RX2) (T := TX2) (N := 8) hx hb hts in_X2 hown hK.1 hP 1 rfl rfl 1 (by decide) (hts _ q795) (fun _ h9 => h9) rfl dX1_left_44 ?_
        refine lv_iload_n hx hb dX1_left_47 rfl (lv_at hl 1 rfl) ?_
        refine n_iald C hK.1 hP 3 bo_6 rfl (by omega) (by omega) dX1_left_48 ?_
        refine lv_icmp_ge (x := r (3 + 6 * i + 2)) (y := r (3 + 6 * bo_6 + 2)) (tgt := 54) hx hb dX1_left_49 (by decide) (fun c_9 => ?_) (fun c_9 => ?_)
        · have zc_9 : ¬ (r (3 + 6 * i + 2)) < (r (3 + 6 * bo_6 + 2)) := Int32.not_lt.mpr c_9
          refine n_iinc (k := 0) (lv' := [(2, .int (nI (i + 1))), (1, .int (nI bo_6)), (0, .ref h)]) hx hb i 1 dX1_left_54 hl rfl (Nat.le_of_ble_eq_true rfl) rfl (fun ls hl => ?_)
          refine lv_goto (tgt := 5) hx hb dX1_left_57 (by decide) ?_
          have e_10 : encL (aF r (i + 1)) = nI bo_6 := by simp [aF, encLS, encLN, c_3, c_4, ho_6, c_9, zc_9]
          exact ih_1 (i + 1) (by omega) ls (by rw [e_10]; exact lv_sub hl [0, 1, 2] rfl)
        · have zc_9 : (r (3 + 6 * i + 2)) < (r (3 + 6 * bo_6 + 2)) := Int32.not_le.mp c_9
          refine lv_iload_n hx hb dX1_left_52 rfl (lv_at hl 0 rfl) ?_
          refine lv_istore_n (lv' := [(1, .int (nI i)), (2, .int (nI i)), (0, .ref h)]) hx hb dX1_left_53 rfl hl (Nat.le_of_ble_eq_true rfl) rfl (fun ls hl => ?_)
          refine n_iinc (k := 1) (lv' := [(2, .int (nI (i + 1))), (1, .int (nI i)), (0, .ref h)]) hx hb i 1 dX1_left_54 hl rfl (Nat.le_of_ble_eq_true rfl) rfl (fun ls hl => ?_)
          refine lv_goto (tgt := 5) hx hb dX1_left_57 (by decide) ?_
          have e_11 : encL (aF r (i + 1)) = nI i := by simp [aF, encLS, encLN, c_3, c_4, ho_6, c_9, zc_9]
          exact ih_1 (i + 1) (by omega) ls (by rw [e_11]; exact lv_sub hl [0, 1, 2] rfl)

set_option maxHeartbeats 4000000 in
set_option maxRecDepth 100000 in
theorem metX1_stuck (l : Launch) (G : GG) (h : Nat) (xa : Nat → Nat) (xi : Nat → Int32) (fn : Nat → Nat) (gm : GM) (wh : Nat → Option Nat) (r : Nat → Int32) (N : Nat) (hN : N ≤ 8) (hr : r 0 = nI N) (hwk : WK gm wh r N) (hJ : JN r N) : MR l yX1_stuck cX1_stuck 3 (some .int) ({ frames := 10, cells := 0, slots := 0, locals := 288 }) [.ref h] [(h, xO xa xi), (xa 0, fO fn r), (fn 0, qA G 3 9 wh), (fn 1, iA G 9 (fA r 2)), (fn 2, iA G 9 (fA r 3)), (fn 3, iA G 9 (fA r 4)), (fn 4, iA G 9 (fA r 5))] G (KG G gm) (sStuckX r N) := by
  -- rows printed by wip/tools/gen.py
  refine mr_mk RX1 (by decide) rfl (Nat.le_of_ble_eq_true rfl) ?_
  intro p0_ e0_ s m args below meth c C hP hK ls hl
  have hGP := hK.2
  have hK := hK.1
  have hx := C.1
  have hb := C.2.1
  have hml := C.2.2.2.2.1
  have hown := C.2.2.2.2.2.1
  have hts := C.2.2.2.2.2.2
  have hl : lv_has ls 3 [(0, .ref h)] := hl
  refine lv_iconst (v := 0) hx hb dX1_stuck_0 (by decide) ?_
  refine lv_istore_n (lv' := [(1, .int 0), (0, .ref h)]) hx hb dX1_stuck_1 rfl hl (Nat.le_of_ble_eq_true rfl) rfl (fun ls hl => ?_)
  refine lv_iconst (v := 0) hx hb dX1_stuck_2 (by decide) ?_
  refine lv_istore_n (lv' := [(2, .int 0), (1, .int 0), (0, .ref h)]) hx hb dX1_stuck_3 rfl hl (Nat.le_of_ble_eq_true rfl) rfl (fun ls hl => ?_)
  suffices hlp_1 : (∀ (n i : Nat), i + n = N → ∀ (ls : Array Slot), lv_has ls 3 [(2, .int (nI i)), (1, .int (bI (stH r i))), (0, .ref h)] → W p0_ l e0_ ({ frames := 10, cells := 0, slots := 0, locals := 288 } : Room) s m args below meth c s.heap [] (0) (0) (MQ below (vp_Si (fun rr9 => rr9 = sStuckX r N)) args s 0 0 (fun _ => False)) (F0 m 4 ls [])) by
    exact hlp_1 (N) 0 (by omega) ls (lv_sub hl [0, 1, 2] rfl)
  have hend_1 : ∀ (ls : Array Slot), lv_has ls 3 [(2, .int (nI N)), (1, .int (bI (stH r N))), (0, .ref h)] → W p0_ l e0_ ({ frames := 10, cells := 0, slots := 0, locals := 288 } : Room) s m args below meth c s.heap [] (0) (0) (MQ below (vp_Si (fun rr9 => rr9 = sStuckX r N)) args s 0 0 (fun _ => False)) (F0 m 4 ls []) := by
    intro ls hl
    refine lv_iload_n hx hb dX1_stuck_4 rfl (lv_at hl 0 rfl) ?_
    refine lv_aload_n hx hb dX1_stuck_5 rfl (lv_at hl 2 rfl) ?_
    refine va_get (D := gD G) (ci := 1) (v := .ref (xa 0)) (C := RX1) (T := TX1) (N := 9) hx hb hts in_X1 hown hK.1 hP 0 rfl rfl 0 (by decide) (hts _ q838) (fun _ h9 => h9) rfl dX1_stuck_6 ?_
    refine va_get (D := gD G) (ci := 2) (v := .int (r 0)) (C := RX2) (T := TX2) (N := 8) hx hb hts in_X2 hown hK.1 hP 1 rfl rfl 5 (by decide) (hts _ q803) (fun _ h9 => h9) rfl dX1_stuck_9 ?_
    refine n_eqi (hr) ?_
    refine n_ic_ge (x := N) (y := N) (tgt := 41) hx hb (by omega) (by omega) dX1_stuck_12 (by decide) (fun c_2 => ?_) (fun c_2 => absurd c_2 (by omega))
    refine lv_aload_n hx hb dX1_stuck_41 rfl (lv_at hl 2 rfl) ?_
    refine va_get (D := gD G) (ci := 1) (v := .ref (xa 0)) (C := RX1) (T := TX1) (N := 9) hx hb hts in_X1 hown hK.1 hP 0 rfl rfl 0 (by decide) (hts _ q838) (fun _ h9 => h9) rfl dX1_stuck_42 ?_
    refine va_get (D := gD G) (ci := 2) (v := .int (r 1)) (C := RX2) (T := TX2) (N := 8) hx hb hts in_X2 hown hK.1 hP 1 rfl rfl 6 (by decide) (hts _ q805) (fun _ h9 => h9) rfl dX1_stuck_45 ?_
    refine lv_if_le (x := r 1) (tgt := 69) hx hb dX1_stuck_48 (by decide) (fun c_3 => ?_) (fun c_3 => ?_)
    · have zc_3 : ¬ 0 < (r 1) := Int32.not_lt.mpr c_3
      refine lv_iconst (v := 0) hx hb dX1_stuck_69 (by decide) ?_
      exact n_iret (v := 0) C (by simp [sStuckX, c_2, c_3, zc_3]) dX1_stuck_70
    · have zc_3 : 0 < (r 1) := Int32.not_le.mp c_3
      refine lv_iload_n hx hb dX1_stuck_51 rfl (lv_at hl 1 rfl) ?_
      refine n_if_eqB (b := (stH r N)) (tgt := 69) hx hb dX1_stuck_52 (by decide) (fun c_4 => ?_) (fun c_4 => ?_)
      · refine lv_iconst (v := 0) hx hb dX1_stuck_69 (by decide) ?_
        exact n_iret (v := 0) C (by simp [sStuckX, c_2, c_3, zc_3, c_4]) dX1_stuck_70
      · refine lv_aload_n hx hb dX1_stuck_55 rfl (lv_at hl 2 rfl) ?_
        refine va_get (D := gD G) (ci := 1) (v := .ref (xa 0)) (C := RX1) (T := TX1) (N := 9) hx hb hts in_X1 hown hK.1 hP 0 rfl rfl 0 (by decide) (hts _ q838) (fun _ h9 => h9) rfl dX1_stuck_56 ?_
        refine c_Vk (rest := []) C (metX2_best l G (xa 0) fn gm wh r N (by omega) (hr) (hwk) (hJ)) 0 (lw_V q561 q562 q563 q40 q564) (by decide +kernel) ⟨rfl, rfl⟩ ⟨(Nat.le_of_ble_eq_true rfl), (Nat.le_of_ble_eq_true rfl)⟩ (KG.call) (va_recv hK.1 hP (ci := 2) (q0 := 1) rfl rfl) (hP.sub (ws' := [(xa 0, fO fn r), (fn 0, qA G 3 9 wh), (fn 1, iA G 9 (fA r 2)), (fn 2, iA G 9 (fA r 3)), (fn 3, iA G 9 (fA r 4)), (fn 4, iA G 9 (fA r 5))]) [1, 2, 3, 4, 5, 6] rfl) (KG.at hK hGP) hl rfl rfl (Nat.le_of_ble_eq_true rfl) ⟨(Nat.le_of_ble_eq_true rfl), (Nat.le_of_ble_eq_true rfl)⟩ dX1_stuck_59 ?_
        rcases ho_5 : sBestO r N with _ | qo_5
        · have eo_5 : sBest r N = -4 := by rw [sBest, ho_5]; rfl
          refine n_eqi eo_5 ?_
          refine lv_if_ge (x := (-4)) (tgt := 69) hx hb dX1_stuck_62 (by decide) (fun c_6 => absurd c_6 (by decide)) (fun c_6 => ?_)
          refine lv_iconst (v := 1) hx hb dX1_stuck_65 (by decide) ?_
          refine lv_goto (tgt := 70) hx hb dX1_stuck_66 (by decide) ?_
          exact n_iret (v := 1) C (by simp [sStuckX, c_2, c_3, zc_3, c_4, ho_5, eo_5, c_6]) dX1_stuck_70
        · have eo_5 : sBest r N = nI (10 * qo_5.1 + qo_5.2) := by rw [sBest, ho_5]; rfl
          have go_5 := sBestO_in ho_5
          have uo_5 : (10 * qo_5.1 + qo_5.2) / 10 = qo_5.1 := by omega
          have vo_5 : (10 * qo_5.1 + qo_5.2) % 10 = qo_5.2 := by omega
          refine n_eqi eo_5 ?_
          refine n_if_ge (x := 10 * qo_5.1 + qo_5.2) (tgt := 69) hx hb (by omega) dX1_stuck_62 (by decide) ?_
          refine lv_iconst (v := 0) hx hb dX1_stuck_69 (by decide) ?_
          exact n_iret (v := 0) C (by simp [sStuckX, c_2, c_3, zc_3, c_4, ho_5, eo_5]) dX1_stuck_70
  intro n
  induction n with
  | zero =>
    intro i hi_1 ls hl
    obtain e_1 : i = N := by omega
    first | (subst e_1; exact hend_1 ls hl) | (rw [e_1] at hl; exact hend_1 ls hl)
  | succ n ih_1 =>
    intro i hi_1 ls hl
    refine lv_iload_n hx hb dX1_stuck_4 rfl (lv_at hl 0 rfl) ?_
    refine lv_aload_n hx hb dX1_stuck_5 rfl (lv_at hl 2 rfl) ?_
    refine va_get (D := gD G) (ci := 1) (v := .ref (xa 0)) (C := RX1) (T := TX1) (N := 9) hx hb hts in_X1 hown hK.1 hP 0 rfl rfl 0 (by decide) (hts _ q838) (fun _ h9 => h9) rfl dX1_stuck_6 ?_
    refine va_get (D := gD G) (ci := 2) (v := .int (r 0)) (C := RX2) (T := TX2) (N := 8) hx hb hts in_X2 hown hK.1 hP 1 rfl rfl 5 (by decide) (hts _ q803) (fun _ h9 => h9) rfl dX1_stuck_9 ?_
    refine n_eqi (hr) ?_
    refine n_ic_ge (x := i) (y := N) (tgt := 41) hx hb (by omega) (by omega) dX1_stuck_12 (by decide) (fun c_7 => absurd c_7 (by omega)) (fun c_7 => ?_)
    refine lv_iload_n hx hb dX1_stuck_15 rfl (lv_at hl 1 rfl) ?_
    refine lv_aload_n hx hb dX1_stuck_16 rfl (lv_at hl 2 rfl) ?_
    refine va_get (D := gD G) (ci := 1) (v := .ref (xa 0)) (C := RX1) (T := TX1) (N := 9) hx hb hts in_X1 hown hK.1 hP 0 rfl rfl 0 (by decide) (hts _ q838) (fun _ h9 => h9) rfl dX1_stuck_17 ?_
    refine va_get (D := gD G) (ci := 2) (v := .ref (fn 1)) (C := RX2) (T := TX2) (N := 8) hx hb hts in_X2 hown hK.1 hP 1 rfl rfl 1 (by decide) (hts _ q795) (fun _ h9 => h9) rfl dX1_stuck_20 ?_
    refine lv_iload_n hx hb dX1_stuck_23 rfl (lv_at hl 0 rfl) ?_
    refine n_iald C hK.1 hP 3 i rfl (by omega) (by omega) dX1_stuck_24 ?_
    refine lv_if_le (x := r (3 + 6 * i + 2)) (tgt := 32) hx hb dX1_stuck_25 (by decide) (fun c_8 => ?_) (fun c_8 => ?_)
    · have zc_8 : ¬ 0 < (r (3 + 6 * i + 2)) := Int32.not_lt.mpr c_8
      refine lv_iconst (v := 0) hx hb dX1_stuck_32 (by decide) ?_
      refine lv_ior (x := bI (stH r i)) (y := 0) hx hb dX1_stuck_33 ?_
      refine lv_istore_n (lv' := [(1, .int ((bI (stH r i)) ||| 0)), (2, .int (nI i)), (0, .ref h)]) hx hb dX1_stuck_34 rfl hl (Nat.le_of_ble_eq_true rfl) rfl (fun ls hl => ?_)
      refine n_iinc (k := 1) (lv' := [(2, .int (nI (i + 1))), (1, .int ((bI (stH r i)) ||| 0)), (0, .ref h)]) hx hb i 1 dX1_stuck_35 hl rfl (Nat.le_of_ble_eq_true rfl) rfl (fun ls hl => ?_)
      refine lv_goto (tgt := 4) hx hb dX1_stuck_38 (by decide) ?_
      have e_9 : bI (stH r (i + 1)) = (bI (stH r i)) ||| 0 := by simp [stH, bI_or1, bI_or0, c_7, c_8, zc_8]
      exact ih_1 (i + 1) (by omega) ls (by rw [e_9]; exact lv_sub hl [0, 1, 2] rfl)
    · have zc_8 : 0 < (r (3 + 6 * i + 2)) := Int32.not_le.mp c_8
      refine lv_iconst (v := 1) hx hb dX1_stuck_28 (by decide) ?_
      refine lv_goto (tgt := 33) hx hb dX1_stuck_29 (by decide) ?_
      refine lv_ior (x := bI (stH r i)) (y := 1) hx hb dX1_stuck_33 ?_
      refine lv_istore_n (lv' := [(1, .int ((bI (stH r i)) ||| 1)), (2, .int (nI i)), (0, .ref h)]) hx hb dX1_stuck_34 rfl hl (Nat.le_of_ble_eq_true rfl) rfl (fun ls hl => ?_)
      refine n_iinc (k := 1) (lv' := [(2, .int (nI (i + 1))), (1, .int ((bI (stH r i)) ||| 1)), (0, .ref h)]) hx hb i 1 dX1_stuck_35 hl rfl (Nat.le_of_ble_eq_true rfl) rfl (fun ls hl => ?_)
      refine lv_goto (tgt := 4) hx hb dX1_stuck_38 (by decide) ?_
      have e_10 : bI (stH r (i + 1)) = (bI (stH r i)) ||| 1 := by simp [stH, bI_or1, bI_or0, c_7, c_8, zc_8]
      exact ih_1 (i + 1) (by omega) ls (by rw [e_10]; exact lv_sub hl [0, 1, 2] rfl)

set_option maxHeartbeats 4000000 in
set_option maxRecDepth 100000 in
theorem metX1_feeds (l : Launch) (G : GG) (h : Nat) (xa : Nat → Nat) (xi : Nat → Int32) (fn : Nat → Nat) (gm : GM) (wh : Nat → Option Nat) (r : Nat → Int32) (N : Nat) (p : Int32) (hN : N ≤ 8) (hr : r 0 = nI N) (hwk : WK gm wh r N) (hB : ∀ p, p < N → ¬ sBite (r (3 + 6 * p)) (r (3 + 6 * p + 1)) = 0) : MR l yX1_feeds cX1_feeds 3 (some .int) ({ frames := 6, cells := 0, slots := 0, locals := 200 }) [.ref h, .int p] [(h, xO xa xi), (xa 0, fO fn r), (fn 0, qA G 3 9 wh), (fn 1, iA G 9 (fA r 2)), (fn 2, iA G 9 (fA r 3)), (fn 3, iA G 9 (fA r 4)), (fn 4, iA G 9 (fA r 5))] G (KG G gm) (sFeedsA r N p) := by
  -- rows printed by wip/tools/gen.py
  refine mr_mk RX1 (by decide) rfl (Nat.le_of_ble_eq_true rfl) ?_
  intro p0_ e0_ s m args below meth c C hP hK ls hl
  have hGP := hK.2
  have hK := hK.1
  have hx := C.1
  have hb := C.2.1
  have hml := C.2.2.2.2.1
  have hown := C.2.2.2.2.2.1
  have hts := C.2.2.2.2.2.2
  have hl : lv_has ls 3 [(0, .ref h), (1, .int p)] := hl
  refine lv_aload_n hx hb dX1_feeds_0 rfl (lv_at hl 0 rfl) ?_
  refine va_get (D := gD G) (ci := 1) (v := .ref (xa 0)) (C := RX1) (T := TX1) (N := 9) hx hb hts in_X1 hown hK.1 hP 0 rfl rfl 0 (by decide) (hts _ q838) (fun _ h9 => h9) rfl dX1_feeds_1 ?_
  refine lv_iload_n hx hb dX1_feeds_4 rfl (lv_at hl 1 rfl) ?_
  refine c_V (rest := []) C (metX2_isOne l G (xa 0) fn r N p (hr)) 1 (lw_V q497 q376 q377 q40 q378) (by decide +kernel) ⟨rfl, rfl⟩ ⟨(Nat.le_of_ble_eq_true rfl), (Nat.le_of_ble_eq_true rfl)⟩ (KX_mv G) (va_recv hK.1 hP (ci := 2) (q0 := 1) rfl rfl) (hP.sub (ws' := [(xa 0, fO fn r)]) [1] rfl) hK hl rfl rfl (Nat.le_of_ble_eq_true rfl) ⟨(Nat.le_of_ble_eq_true rfl), (Nat.le_of_ble_eq_true rfl)⟩ dX1_feeds_5 ?_
  refine n_if_neB (b := (sPer N p)) (tgt := 13) hx hb dX1_feeds_8 (by decide) (fun c_1 => ?_) (fun c_1 => ?_)
  · obtain ⟨p_2, hp_2, rfl⟩ := sPer_t (by omega) c_1
    have tp_2 : tn (nI p_2) = p_2 := nI_clamp (by omega)
    refine lv_aload_n hx hb dX1_feeds_13 rfl (lv_at hl 0 rfl) ?_
    refine va_get (D := gD G) (ci := 1) (v := .ref (xa 0)) (C := RX1) (T := TX1) (N := 9) hx hb hts in_X1 hown hK.1 hP 0 rfl rfl 0 (by decide) (hts _ q838) (fun _ h9 => h9) rfl dX1_feeds_14 ?_
    refine va_get (D := gD G) (ci := 2) (v := .ref (fn 0)) (C := RX2) (T := TX2) (N := 8) hx hb hts in_X2 hown hK.1 hP 1 rfl rfl 0 (by decide) (hts _ q793) (fun _ h9 => h9) rfl dX1_feeds_17 ?_
    refine lv_iload_n hx hb dX1_feeds_20 rfl (lv_at hl 1 rfl) ?_
    obtain ⟨y_3, k_4, hy_5, hg_6, hk_7⟩ := hwk.2 p_2 (by omega)
    refine n_aldqS C hK.1 hP 2 3 p_2 rfl rfl (by omega) (by omega) hy_5 dX1_feeds_21 ?_
    refine g_bite (ws := [(y_3, .inr (6 + k_4, [.int (r (3 + 6 * p_2 + 1))]))]) (q0 := 0) C hK (hGP _ _ _ hg_6).1 rfl (GP.pp hGP hg_6) (by decide +kernel) ⟨(Nat.le_of_ble_eq_true rfl), (Nat.le_of_ble_eq_true rfl)⟩ hl (Nat.le_of_ble_eq_true rfl) ⟨(Nat.le_of_ble_eq_true rfl), (Nat.le_of_ble_eq_true rfl)⟩ dX1_feeds_22 ?_
    refine n_eqi (y := sBite (r (3 + 6 * p_2)) (r (3 + 6 * p_2 + 1))) (by rw [hk_7]) ?_
    refine lv_istore_n (lv' := [(2, .int (sBite (r (3 + 6 * p_2)) (r (3 + 6 * p_2 + 1)))), (0, .ref h), (1, .int (nI p_2))]) hx hb dX1_feeds_25 rfl hl (Nat.le_of_ble_eq_true rfl) rfl (fun ls hl => ?_)
    refine lv_aload_n hx hb dX1_feeds_26 rfl (lv_at hl 1 rfl) ?_
    refine va_get (D := gD G) (ci := 1) (v := .ref (xa 0)) (C := RX1) (T := TX1) (N := 9) hx hb hts in_X1 hown hK.1 hP 0 rfl rfl 0 (by decide) (hts _ q838) (fun _ h9 => h9) rfl dX1_feeds_27 ?_
    refine va_get (D := gD G) (ci := 2) (v := .ref (fn 1)) (C := RX2) (T := TX2) (N := 8) hx hb hts in_X2 hown hK.1 hP 1 rfl rfl 1 (by decide) (hts _ q795) (fun _ h9 => h9) rfl dX1_feeds_30 ?_
    refine lv_iload_n hx hb dX1_feeds_33 rfl (lv_at hl 2 rfl) ?_
    refine n_iald C hK.1 hP 3 p_2 rfl (by omega) (by omega) dX1_feeds_34 ?_
    refine lv_iload_n hx hb dX1_feeds_35 rfl (lv_at hl 0 rfl) ?_
    refine lv_iadd (x := r (3 + 6 * p_2 + 2)) (y := sBite (r (3 + 6 * p_2)) (r (3 + 6 * p_2 + 1))) hx hb dX1_feeds_36 ?_
    refine lv_iconst (v := 1) hx hb dX1_feeds_37 (by decide) ?_
    refine lv_isub (x := (r (3 + 6 * p_2 + 2)) + (sBite (r (3 + 6 * p_2)) (r (3 + 6 * p_2 + 1)))) (y := 1) hx hb dX1_feeds_38 ?_
    refine lv_iload_n hx hb dX1_feeds_39 rfl (lv_at hl 0 rfl) ?_
    refine lv_idiv (x := ((r (3 + 6 * p_2 + 2)) + (sBite (r (3 + 6 * p_2)) (r (3 + 6 * p_2 + 1)))) - 1) (y := sBite (r (3 + 6 * p_2)) (r (3 + 6 * p_2 + 1))) hx hb dX1_feeds_40 (hB _ (by assumption)) ?_
    exact n_iret (v := (((r (3 + 6 * p_2 + 2)) + (sBite (r (3 + 6 * p_2)) (r (3 + 6 * p_2 + 1)))) - 1) / (sBite (r (3 + 6 * p_2)) (r (3 + 6 * p_2 + 1)))) C (by simp [sFeedsA, c_1, tp_2]) dX1_feeds_41
  · refine lv_iconst (v := (-1)) hx hb dX1_feeds_11 (by decide) ?_
    exact n_iret (v := (-1)) C (by simp [sFeedsA, c_1]) dX1_feeds_12

set_option maxHeartbeats 4000000 in
set_option maxRecDepth 100000 in
theorem metX1_buy (l : Launch) (G : GG) (h : Nat) (xa : Nat → Nat) (xi : Nat → Int32) (fn : Nat → Nat) (gm : GM) (wh : Nat → Option Nat) (r : Nat → Int32) (N : Nat) (v : Int32) (hN : N ≤ 8) (hr : r 0 = nI N) (hwk : WK gm wh r N) : MR l yX1_buy cX1_buy 4 (some .int) ({ frames := 7, cells := 0, slots := 0, locals := 221 }) [.ref h, .int v] [(h, xO xa xi), (xa 0, fO fn r), (fn 0, qA G 3 9 wh), (fn 1, iA G 9 (fA r 2)), (fn 2, iA G 9 (fA r 3)), (fn 3, iA G 9 (fA r 4)), (fn 4, iA G 9 (fA r 5))] G (KG G gm) (sBuy r v N) := by
  -- rows printed by wip/tools/gen.py
  refine mr_mk RX1 (by decide) rfl (Nat.le_of_ble_eq_true rfl) ?_
  intro p0_ e0_ s m args below meth c C hP hK ls hl
  have hGP := hK.2
  have hK := hK.1
  have hx := C.1
  have hb := C.2.1
  have hml := C.2.2.2.2.1
  have hown := C.2.2.2.2.2.1
  have hts := C.2.2.2.2.2.2
  have hl : lv_has ls 4 [(0, .ref h), (1, .int v)] := hl
  refine lv_iconst (v := 0) hx hb dX1_buy_0 (by decide) ?_
  refine lv_istore_n (lv' := [(2, .int 0), (0, .ref h), (1, .int v)]) hx hb dX1_buy_1 rfl hl (Nat.le_of_ble_eq_true rfl) rfl (fun ls hl => ?_)
  refine lv_iconst (v := 0) hx hb dX1_buy_2 (by decide) ?_
  refine lv_istore_n (lv' := [(3, .int 0), (2, .int 0), (0, .ref h), (1, .int v)]) hx hb dX1_buy_3 rfl hl (Nat.le_of_ble_eq_true rfl) rfl (fun ls hl => ?_)
  suffices hlp_1 : (∀ (n i : Nat), i + n = N → ∀ (ls : Array Slot), lv_has ls 4 [(3, .int (nI i)), (2, .int (sBuy r v i)), (0, .ref h), (1, .int v)] → W p0_ l e0_ ({ frames := 7, cells := 0, slots := 0, locals := 221 } : Room) s m args below meth c s.heap [] (0) (0) (MQ below (vp_Si (fun rr9 => rr9 = sBuy r v N)) args s 0 0 (fun _ => False)) (F0 m 4 ls [])) by
    exact hlp_1 (N) 0 (by omega) ls (lv_sub hl [0, 1, 2, 3] rfl)
  have hend_1 : ∀ (ls : Array Slot), lv_has ls 4 [(3, .int (nI N)), (2, .int (sBuy r v N)), (0, .ref h), (1, .int v)] → W p0_ l e0_ ({ frames := 7, cells := 0, slots := 0, locals := 221 } : Room) s m args below meth c s.heap [] (0) (0) (MQ below (vp_Si (fun rr9 => rr9 = sBuy r v N)) args s 0 0 (fun _ => False)) (F0 m 4 ls []) := by
    intro ls hl
    refine lv_iload_n hx hb dX1_buy_4 rfl (lv_at hl 0 rfl) ?_
    refine lv_aload_n hx hb dX1_buy_5 rfl (lv_at hl 2 rfl) ?_
    refine va_get (D := gD G) (ci := 1) (v := .ref (xa 0)) (C := RX1) (T := TX1) (N := 9) hx hb hts in_X1 hown hK.1 hP 0 rfl rfl 0 (by decide) (hts _ q838) (fun _ h9 => h9) rfl dX1_buy_6 ?_
    refine va_get (D := gD G) (ci := 2) (v := .int (r 0)) (C := RX2) (T := TX2) (N := 8) hx hb hts in_X2 hown hK.1 hP 1 rfl rfl 5 (by decide) (hts _ q803) (fun _ h9 => h9) rfl dX1_buy_9 ?_
    refine n_eqi (hr) ?_
    refine n_ic_ge (x := N) (y := N) (tgt := 53) hx hb (by omega) (by omega) dX1_buy_12 (by decide) (fun c_2 => ?_) (fun c_2 => absurd c_2 (by omega))
    refine lv_iload_n hx hb dX1_buy_53 rfl (lv_at hl 1 rfl) ?_
    exact n_iret (v := sBuy r v N) C (rfl) dX1_buy_54
  intro n
  induction n with
  | zero =>
    intro i hi_1 ls hl
    obtain e_1 : i = N := by omega
    first | (subst e_1; exact hend_1 ls hl) | (rw [e_1] at hl; exact hend_1 ls hl)
  | succ n ih_1 =>
    intro i hi_1 ls hl
    refine lv_iload_n hx hb dX1_buy_4 rfl (lv_at hl 0 rfl) ?_
    refine lv_aload_n hx hb dX1_buy_5 rfl (lv_at hl 2 rfl) ?_
    refine va_get (D := gD G) (ci := 1) (v := .ref (xa 0)) (C := RX1) (T := TX1) (N := 9) hx hb hts in_X1 hown hK.1 hP 0 rfl rfl 0 (by decide) (hts _ q838) (fun _ h9 => h9) rfl dX1_buy_6 ?_
    refine va_get (D := gD G) (ci := 2) (v := .int (r 0)) (C := RX2) (T := TX2) (N := 8) hx hb hts in_X2 hown hK.1 hP 1 rfl rfl 5 (by decide) (hts _ q803) (fun _ h9 => h9) rfl dX1_buy_9 ?_
    refine n_eqi (hr) ?_
    refine n_ic_ge (x := i) (y := N) (tgt := 53) hx hb (by omega) (by omega) dX1_buy_12 (by decide) (fun c_3 => absurd c_3 (by omega)) (fun c_3 => ?_)
    refine lv_iload_n hx hb dX1_buy_15 rfl (lv_at hl 1 rfl) ?_
    refine lv_aload_n hx hb dX1_buy_16 rfl (lv_at hl 2 rfl) ?_
    refine va_get (D := gD G) (ci := 1) (v := .ref (xa 0)) (C := RX1) (T := TX1) (N := 9) hx hb hts in_X1 hown hK.1 hP 0 rfl rfl 0 (by decide) (hts _ q838) (fun _ h9 => h9) rfl dX1_buy_17 ?_
    refine va_get (D := gD G) (ci := 2) (v := .ref (fn 1)) (C := RX2) (T := TX2) (N := 8) hx hb hts in_X2 hown hK.1 hP 1 rfl rfl 1 (by decide) (hts _ q795) (fun _ h9 => h9) rfl dX1_buy_20 ?_
    refine lv_iload_n hx hb dX1_buy_23 rfl (lv_at hl 0 rfl) ?_
    refine n_iald C hK.1 hP 3 i rfl (by omega) (by omega) dX1_buy_24 ?_
    refine lv_if_le (x := r (3 + 6 * i + 2)) (tgt := 44) hx hb dX1_buy_25 (by decide) (fun c_4 => ?_) (fun c_4 => ?_)
    · have zc_4 : ¬ 0 < (r (3 + 6 * i + 2)) := Int32.not_lt.mpr c_4
      refine lv_iconst (v := 0) hx hb dX1_buy_44 (by decide) ?_
      refine lv_iadd (x := sBuy r v i) (y := 0) hx hb dX1_buy_45 ?_
      refine lv_istore_n (lv' := [(2, .int ((sBuy r v i) + 0)), (3, .int (nI i)), (0, .ref h), (1, .int v)]) hx hb dX1_buy_46 rfl hl (Nat.le_of_ble_eq_true rfl) rfl (fun ls hl => ?_)
      refine n_iinc (k := 1) (lv' := [(3, .int (nI (i + 1))), (2, .int ((sBuy r v i) + 0)), (0, .ref h), (1, .int v)]) hx hb i 1 dX1_buy_47 hl rfl (Nat.le_of_ble_eq_true rfl) rfl (fun ls hl => ?_)
      refine lv_goto (tgt := 4) hx hb dX1_buy_50 (by decide) ?_
      have e_5 : sBuy r v (i + 1) = (sBuy r v i) + 0 := by simp [sBuy, c_3, c_4, zc_4]
      exact ih_1 (i + 1) (by omega) ls (by rw [e_5]; exact lv_sub hl [0, 1, 2, 3] rfl)
    · have zc_4 : 0 < (r (3 + 6 * i + 2)) := Int32.not_le.mp c_4
      refine lv_aload_n hx hb dX1_buy_28 rfl (lv_at hl 2 rfl) ?_
      refine va_get (D := gD G) (ci := 1) (v := .ref (xa 0)) (C := RX1) (T := TX1) (N := 9) hx hb hts in_X1 hown hK.1 hP 0 rfl rfl 0 (by decide) (hts _ q838) (fun _ h9 => h9) rfl dX1_buy_29 ?_
      refine lv_iload_n hx hb dX1_buy_32 rfl (lv_at hl 0 rfl) ?_
      refine c_Vk (rest := [.int (sBuy r v i)]) C (metX2_stills l G (xa 0) fn gm wh r N i (by omega) (hr) (hwk) (by omega)) 1 (lw_V q650 q411 q412 q40 q413) (by decide +kernel) ⟨rfl, rfl⟩ ⟨(Nat.le_of_ble_eq_true rfl), (Nat.le_of_ble_eq_true rfl)⟩ (KG.call) (va_recv hK.1 hP (ci := 2) (q0 := 1) rfl rfl) (hP.sub (ws' := [(xa 0, fO fn r), (fn 0, qA G 3 9 wh), (fn 1, iA G 9 (fA r 2)), (fn 2, iA G 9 (fA r 3)), (fn 3, iA G 9 (fA r 4)), (fn 4, iA G 9 (fA r 5))]) [1, 2, 3, 4, 5, 6] rfl) (KG.at hK hGP) hl rfl rfl (Nat.le_of_ble_eq_true rfl) ⟨(Nat.le_of_ble_eq_true rfl), (Nat.le_of_ble_eq_true rfl)⟩ dX1_buy_33 ?_
      refine lv_iload_n hx hb dX1_buy_36 rfl (lv_at hl 3 rfl) ?_
      refine lv_icmp_lt (x := sBites r i) (y := v) (tgt := 44) hx hb dX1_buy_37 (by decide) (fun c_6 => ?_) (fun c_6 => ?_)
      · have zc_6 : ¬ v ≤ (sBites r i) := Int32.not_le.mpr c_6
        refine lv_iconst (v := 0) hx hb dX1_buy_44 (by decide) ?_
        refine lv_iadd (x := sBuy r v i) (y := 0) hx hb dX1_buy_45 ?_
        refine lv_istore_n (lv' := [(2, .int ((sBuy r v i) + 0)), (3, .int (nI i)), (0, .ref h), (1, .int v)]) hx hb dX1_buy_46 rfl hl (Nat.le_of_ble_eq_true rfl) rfl (fun ls hl => ?_)
        refine n_iinc (k := 1) (lv' := [(3, .int (nI (i + 1))), (2, .int ((sBuy r v i) + 0)), (0, .ref h), (1, .int v)]) hx hb i 1 dX1_buy_47 hl rfl (Nat.le_of_ble_eq_true rfl) rfl (fun ls hl => ?_)
        refine lv_goto (tgt := 4) hx hb dX1_buy_50 (by decide) ?_
        have e_7 : sBuy r v (i + 1) = (sBuy r v i) + 0 := by simp [sBuy, c_3, c_4, zc_4, c_6, zc_6]
        exact ih_1 (i + 1) (by omega) ls (by rw [e_7]; exact lv_sub hl [0, 1, 2, 3] rfl)
      · have zc_6 : v ≤ (sBites r i) := Int32.not_lt.mp c_6
        refine lv_iconst (v := 1) hx hb dX1_buy_40 (by decide) ?_
        refine lv_goto (tgt := 45) hx hb dX1_buy_41 (by decide) ?_
        refine lv_iadd (x := sBuy r v i) (y := 1) hx hb dX1_buy_45 ?_
        refine lv_istore_n (lv' := [(2, .int ((sBuy r v i) + 1)), (3, .int (nI i)), (0, .ref h), (1, .int v)]) hx hb dX1_buy_46 rfl hl (Nat.le_of_ble_eq_true rfl) rfl (fun ls hl => ?_)
        refine n_iinc (k := 1) (lv' := [(3, .int (nI (i + 1))), (2, .int ((sBuy r v i) + 1)), (0, .ref h), (1, .int v)]) hx hb i 1 dX1_buy_47 hl rfl (Nat.le_of_ble_eq_true rfl) rfl (fun ls hl => ?_)
        refine lv_goto (tgt := 4) hx hb dX1_buy_50 (by decide) ?_
        have e_8 : sBuy r v (i + 1) = (sBuy r v i) + 1 := by simp [sBuy, c_3, c_4, zc_4, c_6, zc_6]
        exact ih_1 (i + 1) (by omega) ls (by rw [e_8]; exact lv_sub hl [0, 1, 2, 3] rfl)

set_option maxHeartbeats 4000000 in
set_option maxRecDepth 100000 in
theorem metX1_sell (l : Launch) (G : GG) (h : Nat) (xa : Nat → Nat) (xi : Nat → Int32) (fn : Nat → Nat) (gm : GM) (wh : Nat → Option Nat) (r : Nat → Int32) (N : Nat) (v : Int32) (hN : N ≤ 8) (hr : r 0 = nI N) (hwk : WK gm wh r N) : MR l yX1_sell cX1_sell 4 (some .int) ({ frames := 7, cells := 0, slots := 0, locals := 221 }) [.ref h, .int v] [(h, xO xa xi), (xa 0, fO fn r), (fn 0, qA G 3 9 wh), (fn 1, iA G 9 (fA r 2)), (fn 2, iA G 9 (fA r 3)), (fn 3, iA G 9 (fA r 4)), (fn 4, iA G 9 (fA r 5))] G (KG G gm) (sSel r v N) := by
  -- rows printed by wip/tools/gen.py
  refine mr_mk RX1 (by decide) rfl (Nat.le_of_ble_eq_true rfl) ?_
  intro p0_ e0_ s m args below meth c C hP hK ls hl
  have hGP := hK.2
  have hK := hK.1
  have hx := C.1
  have hb := C.2.1
  have hml := C.2.2.2.2.1
  have hown := C.2.2.2.2.2.1
  have hts := C.2.2.2.2.2.2
  have hl : lv_has ls 4 [(0, .ref h), (1, .int v)] := hl
  refine lv_iconst (v := 0) hx hb dX1_sell_0 (by decide) ?_
  refine lv_istore_n (lv' := [(2, .int 0), (0, .ref h), (1, .int v)]) hx hb dX1_sell_1 rfl hl (Nat.le_of_ble_eq_true rfl) rfl (fun ls hl => ?_)
  refine lv_iconst (v := 0) hx hb dX1_sell_2 (by decide) ?_
  refine lv_istore_n (lv' := [(3, .int 0), (2, .int 0), (0, .ref h), (1, .int v)]) hx hb dX1_sell_3 rfl hl (Nat.le_of_ble_eq_true rfl) rfl (fun ls hl => ?_)
  suffices hlp_1 : (∀ (n i : Nat), i + n = N → ∀ (ls : Array Slot), lv_has ls 4 [(3, .int (nI i)), (2, .int (sSel r v i)), (0, .ref h), (1, .int v)] → W p0_ l e0_ ({ frames := 7, cells := 0, slots := 0, locals := 221 } : Room) s m args below meth c s.heap [] (0) (0) (MQ below (vp_Si (fun rr9 => rr9 = sSel r v N)) args s 0 0 (fun _ => False)) (F0 m 4 ls [])) by
    exact hlp_1 (N) 0 (by omega) ls (lv_sub hl [0, 1, 2, 3] rfl)
  have hend_1 : ∀ (ls : Array Slot), lv_has ls 4 [(3, .int (nI N)), (2, .int (sSel r v N)), (0, .ref h), (1, .int v)] → W p0_ l e0_ ({ frames := 7, cells := 0, slots := 0, locals := 221 } : Room) s m args below meth c s.heap [] (0) (0) (MQ below (vp_Si (fun rr9 => rr9 = sSel r v N)) args s 0 0 (fun _ => False)) (F0 m 4 ls []) := by
    intro ls hl
    refine lv_iload_n hx hb dX1_sell_4 rfl (lv_at hl 0 rfl) ?_
    refine lv_aload_n hx hb dX1_sell_5 rfl (lv_at hl 2 rfl) ?_
    refine va_get (D := gD G) (ci := 1) (v := .ref (xa 0)) (C := RX1) (T := TX1) (N := 9) hx hb hts in_X1 hown hK.1 hP 0 rfl rfl 0 (by decide) (hts _ q838) (fun _ h9 => h9) rfl dX1_sell_6 ?_
    refine va_get (D := gD G) (ci := 2) (v := .int (r 0)) (C := RX2) (T := TX2) (N := 8) hx hb hts in_X2 hown hK.1 hP 1 rfl rfl 5 (by decide) (hts _ q803) (fun _ h9 => h9) rfl dX1_sell_9 ?_
    refine n_eqi (hr) ?_
    refine n_ic_ge (x := N) (y := N) (tgt := 52) hx hb (by omega) (by omega) dX1_sell_12 (by decide) (fun c_2 => ?_) (fun c_2 => absurd c_2 (by omega))
    refine lv_iload_n hx hb dX1_sell_52 rfl (lv_at hl 1 rfl) ?_
    exact n_iret (v := sSel r v N) C (rfl) dX1_sell_53
  intro n
  induction n with
  | zero =>
    intro i hi_1 ls hl
    obtain e_1 : i = N := by omega
    first | (subst e_1; exact hend_1 ls hl) | (rw [e_1] at hl; exact hend_1 ls hl)
  | succ n ih_1 =>
    intro i hi_1 ls hl
    refine lv_iload_n hx hb dX1_sell_4 rfl (lv_at hl 0 rfl) ?_
    refine lv_aload_n hx hb dX1_sell_5 rfl (lv_at hl 2 rfl) ?_
    refine va_get (D := gD G) (ci := 1) (v := .ref (xa 0)) (C := RX1) (T := TX1) (N := 9) hx hb hts in_X1 hown hK.1 hP 0 rfl rfl 0 (by decide) (hts _ q838) (fun _ h9 => h9) rfl dX1_sell_6 ?_
    refine va_get (D := gD G) (ci := 2) (v := .int (r 0)) (C := RX2) (T := TX2) (N := 8) hx hb hts in_X2 hown hK.1 hP 1 rfl rfl 5 (by decide) (hts _ q803) (fun _ h9 => h9) rfl dX1_sell_9 ?_
    refine n_eqi (hr) ?_
    refine n_ic_ge (x := i) (y := N) (tgt := 52) hx hb (by omega) (by omega) dX1_sell_12 (by decide) (fun c_3 => absurd c_3 (by omega)) (fun c_3 => ?_)
    refine lv_iload_n hx hb dX1_sell_15 rfl (lv_at hl 1 rfl) ?_
    refine lv_aload_n hx hb dX1_sell_16 rfl (lv_at hl 2 rfl) ?_
    refine va_get (D := gD G) (ci := 1) (v := .ref (xa 0)) (C := RX1) (T := TX1) (N := 9) hx hb hts in_X1 hown hK.1 hP 0 rfl rfl 0 (by decide) (hts _ q838) (fun _ h9 => h9) rfl dX1_sell_17 ?_
    refine lv_iload_n hx hb dX1_sell_20 rfl (lv_at hl 0 rfl) ?_
    refine c_Vk (rest := [.int (sSel r v i)]) C (metX2_canLook l G (xa 0) fn gm wh r N i (by omega) (hr) (hwk) (by omega)) 1 (lw_V q626 q381 q382 q40 q383) (by decide +kernel) ⟨rfl, rfl⟩ ⟨(Nat.le_of_ble_eq_true rfl), (Nat.le_of_ble_eq_true rfl)⟩ (KG.call) (va_recv hK.1 hP (ci := 2) (q0 := 1) rfl rfl) (hP.sub (ws' := [(xa 0, fO fn r), (fn 0, qA G 3 9 wh), (fn 1, iA G 9 (fA r 2)), (fn 2, iA G 9 (fA r 3)), (fn 3, iA G 9 (fA r 4)), (fn 4, iA G 9 (fA r 5))]) [1, 2, 3, 4, 5, 6] rfl) (KG.at hK hGP) hl rfl rfl (Nat.le_of_ble_eq_true rfl) ⟨(Nat.le_of_ble_eq_true rfl), (Nat.le_of_ble_eq_true rfl)⟩ dX1_sell_21 ?_
    refine n_if_eqB (b := (sLook r i)) (tgt := 43) hx hb dX1_sell_24 (by decide) (fun c_4 => ?_) (fun c_4 => ?_)
    · refine lv_iconst (v := 0) hx hb dX1_sell_43 (by decide) ?_
      refine lv_iadd (x := sSel r v i) (y := 0) hx hb dX1_sell_44 ?_
      refine lv_istore_n (lv' := [(2, .int ((sSel r v i) + 0)), (3, .int (nI i)), (0, .ref h), (1, .int v)]) hx hb dX1_sell_45 rfl hl (Nat.le_of_ble_eq_true rfl) rfl (fun ls hl => ?_)
      refine n_iinc (k := 1) (lv' := [(3, .int (nI (i + 1))), (2, .int ((sSel r v i) + 0)), (0, .ref h), (1, .int v)]) hx hb i 1 dX1_sell_46 hl rfl (Nat.le_of_ble_eq_true rfl) rfl (fun ls hl => ?_)
      refine lv_goto (tgt := 4) hx hb dX1_sell_49 (by decide) ?_
      have e_5 : sSel r v (i + 1) = (sSel r v i) + 0 := by simp [sSel, c_3, c_4]
      exact ih_1 (i + 1) (by omega) ls (by rw [e_5]; exact lv_sub hl [0, 1, 2, 3] rfl)
    · refine lv_aload_n hx hb dX1_sell_27 rfl (lv_at hl 2 rfl) ?_
      refine va_get (D := gD G) (ci := 1) (v := .ref (xa 0)) (C := RX1) (T := TX1) (N := 9) hx hb hts in_X1 hown hK.1 hP 0 rfl rfl 0 (by decide) (hts _ q838) (fun _ h9 => h9) rfl dX1_sell_28 ?_
      refine lv_iload_n hx hb dX1_sell_31 rfl (lv_at hl 0 rfl) ?_
      refine c_Vk (rest := [.int (sSel r v i)]) C (metX2_looks l G (xa 0) fn gm wh r N i (by omega) (hr) (hwk) (by omega)) 1 (lw_V q552 q466 q467 q40 q468) (by decide +kernel) ⟨rfl, rfl⟩ ⟨(Nat.le_of_ble_eq_true rfl), (Nat.le_of_ble_eq_true rfl)⟩ (KG.call) (va_recv hK.1 hP (ci := 2) (q0 := 1) rfl rfl) (hP.sub (ws' := [(xa 0, fO fn r), (fn 0, qA G 3 9 wh), (fn 1, iA G 9 (fA r 2)), (fn 2, iA G 9 (fA r 3)), (fn 3, iA G 9 (fA r 4)), (fn 4, iA G 9 (fA r 5))]) [1, 2, 3, 4, 5, 6] rfl) (KG.at hK hGP) hl rfl rfl (Nat.le_of_ble_eq_true rfl) ⟨(Nat.le_of_ble_eq_true rfl), (Nat.le_of_ble_eq_true rfl)⟩ dX1_sell_32 ?_
      refine lv_iload_n hx hb dX1_sell_35 rfl (lv_at hl 3 rfl) ?_
      refine lv_icmp_ge (x := sGazes r i) (y := v) (tgt := 43) hx hb dX1_sell_36 (by decide) (fun c_6 => ?_) (fun c_6 => ?_)
      · have zc_6 : ¬ (sGazes r i) < v := Int32.not_lt.mpr c_6
        refine lv_iconst (v := 0) hx hb dX1_sell_43 (by decide) ?_
        refine lv_iadd (x := sSel r v i) (y := 0) hx hb dX1_sell_44 ?_
        refine lv_istore_n (lv' := [(2, .int ((sSel r v i) + 0)), (3, .int (nI i)), (0, .ref h), (1, .int v)]) hx hb dX1_sell_45 rfl hl (Nat.le_of_ble_eq_true rfl) rfl (fun ls hl => ?_)
        refine n_iinc (k := 1) (lv' := [(3, .int (nI (i + 1))), (2, .int ((sSel r v i) + 0)), (0, .ref h), (1, .int v)]) hx hb i 1 dX1_sell_46 hl rfl (Nat.le_of_ble_eq_true rfl) rfl (fun ls hl => ?_)
        refine lv_goto (tgt := 4) hx hb dX1_sell_49 (by decide) ?_
        have e_7 : sSel r v (i + 1) = (sSel r v i) + 0 := by simp [sSel, c_3, c_4, c_6, zc_6]
        exact ih_1 (i + 1) (by omega) ls (by rw [e_7]; exact lv_sub hl [0, 1, 2, 3] rfl)
      · have zc_6 : (sGazes r i) < v := Int32.not_le.mp c_6
        refine lv_iconst (v := 1) hx hb dX1_sell_39 (by decide) ?_
        refine lv_goto (tgt := 44) hx hb dX1_sell_40 (by decide) ?_
        refine lv_iadd (x := sSel r v i) (y := 1) hx hb dX1_sell_44 ?_
        refine lv_istore_n (lv' := [(2, .int ((sSel r v i) + 1)), (3, .int (nI i)), (0, .ref h), (1, .int v)]) hx hb dX1_sell_45 rfl hl (Nat.le_of_ble_eq_true rfl) rfl (fun ls hl => ?_)
        refine n_iinc (k := 1) (lv' := [(3, .int (nI (i + 1))), (2, .int ((sSel r v i) + 1)), (0, .ref h), (1, .int v)]) hx hb i 1 dX1_sell_46 hl rfl (Nat.le_of_ble_eq_true rfl) rfl (fun ls hl => ?_)
        refine lv_goto (tgt := 4) hx hb dX1_sell_49 (by decide) ?_
        have e_8 : sSel r v (i + 1) = (sSel r v i) + 1 := by simp [sSel, c_3, c_4, c_6, zc_6]
        exact ih_1 (i + 1) (by omega) ls (by rw [e_8]; exact lv_sub hl [0, 1, 2, 3] rfl)

set_option maxHeartbeats 4000000 in
set_option maxRecDepth 100000 in
theorem metX1_prices (l : Launch) (G : GG) (h : Nat) (xa : Nat → Nat) (xi : Nat → Int32) (fn : Nat → Nat) (gm : GM) (wh : Nat → Option Nat) (r : Nat → Int32) (N : Nat) (v what : Int32) (hN : N ≤ 8) (hr : r 0 = nI N) (hwk : WK gm wh r N) : MR l yX1_prices cX1_prices 3 (some .int) ({ frames := 8, cells := 0, slots := 0, locals := 244 }) [.ref h, .int v, .int what] [(h, xO xa xi), (xa 0, fO fn r), (fn 0, qA G 3 9 wh), (fn 1, iA G 9 (fA r 2)), (fn 2, iA G 9 (fA r 3)), (fn 3, iA G 9 (fA r 4)), (fn 4, iA G 9 (fA r 5))] G (KG G gm) (sPricesA r N v what) := by
  -- rows printed by wip/tools/gen.py
  refine mr_mk RX1 (by decide) rfl (Nat.le_of_ble_eq_true rfl) ?_
  intro p0_ e0_ s m args below meth c C hP hK ls hl
  have hGP := hK.2
  have hK := hK.1
  have hx := C.1
  have hb := C.2.1
  have hml := C.2.2.2.2.1
  have hown := C.2.2.2.2.2.1
  have hts := C.2.2.2.2.2.2
  have hl : lv_has ls 3 [(0, .ref h), (1, .int v), (2, .int what)] := hl
  refine lv_iload_n hx hb dX1_prices_0 rfl (lv_at hl 1 rfl) ?_
  refine lv_iconst (v := 0) hx hb dX1_prices_1 (by decide) ?_
  refine lv_bipush (v := 31) hx hb dX1_prices_2 (by decide) ?_
  refine c_S (rest := []) C (metX1_isIn l G v 0 31) 3 (lw_S q171 q172 q39 q173) (by decide +kernel) ⟨rfl, rfl⟩ ⟨(Nat.le_of_ble_eq_true rfl), (Nat.le_of_ble_eq_true rfl)⟩ (KM_mv G) (hP.sub (ws' := []) [] rfl) hK.1 hl rfl rfl (Nat.le_of_ble_eq_true rfl) ⟨(Nat.le_of_ble_eq_true rfl), (Nat.le_of_ble_eq_true rfl)⟩ dX1_prices_4 ?_
  refine n_if_eqB (b := (sIn v 0 31)) (tgt := 19) hx hb dX1_prices_7 (by decide) (fun c_1 => ?_) (fun c_1 => ?_)
  · refine lv_iconst (v := (-1)) hx hb dX1_prices_19 (by decide) ?_
    exact n_iret (v := (-1)) C (by simp [sPricesA, c_1]) dX1_prices_20
  · obtain ⟨v_2, hv_2, gv_2, rfl⟩ := sIn_t (a := 0) (b := 31) (by omega) (by omega) c_1
    have tv_2 : tn (nI v_2) = v_2 := nI_clamp (by omega)
    refine lv_iload_n hx hb dX1_prices_10 rfl (lv_at hl 2 rfl) ?_
    refine lv_iconst (v := 0) hx hb dX1_prices_11 (by decide) ?_
    refine lv_iconst (v := 1) hx hb dX1_prices_12 (by decide) ?_
    refine c_S (rest := []) C (metX1_isIn l G what 0 1) 3 (lw_S q171 q172 q39 q173) (by decide +kernel) ⟨rfl, rfl⟩ ⟨(Nat.le_of_ble_eq_true rfl), (Nat.le_of_ble_eq_true rfl)⟩ (KM_mv G) (hP.sub (ws' := []) [] rfl) hK.1 hl rfl rfl (Nat.le_of_ble_eq_true rfl) ⟨(Nat.le_of_ble_eq_true rfl), (Nat.le_of_ble_eq_true rfl)⟩ dX1_prices_13 ?_
    refine n_if_neB (b := (sIn what 0 1)) (tgt := 21) hx hb dX1_prices_16 (by decide) (fun c_3 => ?_) (fun c_3 => ?_)
    · obtain ⟨what_4, hwhat_4, gwhat_4, rfl⟩ := sIn_t (a := 0) (b := 1) (by omega) (by omega) c_3
      have twhat_4 : tn (nI what_4) = what_4 := nI_clamp (by omega)
      refine lv_iload_n hx hb dX1_prices_21 rfl (lv_at hl 2 rfl) ?_
      refine n_if_ne (x := what_4) (tgt := 33) hx hb (by omega) dX1_prices_22 (by decide) (fun c_5 => ?_) (fun c_5 => ?_)
      · have zc_5 : ¬ nI what_4 = 0 := nI_ne0 c_5 (by omega)
        have yc_5 : ¬ what_4 = 0 := Nat.ne_of_gt c_5
        refine lv_aload_n hx hb dX1_prices_33 rfl (lv_at hl 0 rfl) ?_
        refine lv_iload_n hx hb dX1_prices_34 rfl (lv_at hl 1 rfl) ?_
        refine c_Vk (rest := []) C (metX1_sell l G h xa xi fn gm wh r N (nI v_2) (by omega) (hr) (hwk)) 1 (lw_V q651 q653 qs16 q39 q654) (by decide +kernel) ⟨rfl, rfl⟩ ⟨(Nat.le_of_ble_eq_true rfl), (Nat.le_of_ble_eq_true rfl)⟩ (KG.call) (va_recv hK.1 hP (ci := 1) (q0 := 0) rfl rfl) hP (KG.at hK hGP) hl rfl rfl (Nat.le_of_ble_eq_true rfl) ⟨(Nat.le_of_ble_eq_true rfl), (Nat.le_of_ble_eq_true rfl)⟩ dX1_prices_35 ?_
        exact n_iret (v := sSel r (nI v_2) N) C (by simp [sPricesA, c_1, tv_2, c_3, twhat_4, c_5, yc_5, zc_5]) dX1_prices_38
      · obtain rfl := c_5
        have zc_5 : (nI 0 = 0) = True := eq_true rfl
        refine lv_aload_n hx hb dX1_prices_25 rfl (lv_at hl 0 rfl) ?_
        refine lv_iload_n hx hb dX1_prices_26 rfl (lv_at hl 1 rfl) ?_
        refine c_Vk (rest := []) C (metX1_buy l G h xa xi fn gm wh r N (nI v_2) (by omega) (hr) (hwk)) 1 (lw_V q646 q648 qs15 q39 q649) (by decide +kernel) ⟨rfl, rfl⟩ ⟨(Nat.le_of_ble_eq_true rfl), (Nat.le_of_ble_eq_true rfl)⟩ (KG.call) (va_recv hK.1 hP (ci := 1) (q0 := 0) rfl rfl) hP (KG.at hK hGP) hl rfl rfl (Nat.le_of_ble_eq_true rfl) ⟨(Nat.le_of_ble_eq_true rfl), (Nat.le_of_ble_eq_true rfl)⟩ dX1_prices_27 ?_
        refine lv_goto (tgt := 38) hx hb dX1_prices_30 (by decide) ?_
        exact n_iret (v := sBuy r (nI v_2) N) C (by simp [sPricesA, c_1, tv_2, c_3, twhat_4, zc_5]) dX1_prices_38
    · refine lv_iconst (v := (-1)) hx hb dX1_prices_19 (by decide) ?_
      exact n_iret (v := (-1)) C (by simp [sPricesA, c_1, tv_2, c_3]) dX1_prices_20

set_option maxHeartbeats 4000000 in
set_option maxRecDepth 100000 in
theorem metX1_clears (l : Launch) (G : GG) (h : Nat) (xa : Nat → Nat) (xi : Nat → Int32) (fn : Nat → Nat) (gm : GM) (wh : Nat → Option Nat) (r : Nat → Int32) (N : Nat) (g : Int32) (hN : N ≤ 8) (hr : r 0 = nI N) (hwk : WK gm wh r N) : MR l yX1_clears cX1_clears 3 (some .int) ({ frames := 8, cells := 0, slots := 0, locals := 244 }) [.ref h, .int g] [(h, xO xa xi), (xa 0, fO fn r), (fn 0, qA G 3 9 wh), (fn 1, iA G 9 (fA r 2)), (fn 2, iA G 9 (fA r 3)), (fn 3, iA G 9 (fA r 4)), (fn 4, iA G 9 (fA r 5))] G (KG G gm) (sClearsA r N g) := by
  -- rows printed by wip/tools/gen.py
  refine mr_mk RX1 (by decide) rfl (Nat.le_of_ble_eq_true rfl) ?_
  intro p0_ e0_ s m args below meth c C hP hK ls hl
  have hGP := hK.2
  have hK := hK.1
  have hx := C.1
  have hb := C.2.1
  have hml := C.2.2.2.2.1
  have hown := C.2.2.2.2.2.1
  have hts := C.2.2.2.2.2.2
  have hl : lv_has ls 3 [(0, .ref h), (1, .int g)] := hl
  refine lv_iload_n hx hb dX1_clears_0 rfl (lv_at hl 1 rfl) ?_
  refine lv_iconst (v := 0) hx hb dX1_clears_1 (by decide) ?_
  refine lv_bipush (v := 31) hx hb dX1_clears_2 (by decide) ?_
  refine c_S (rest := []) C (metX1_isIn l G g 0 31) 3 (lw_S q171 q172 q39 q173) (by decide +kernel) ⟨rfl, rfl⟩ ⟨(Nat.le_of_ble_eq_true rfl), (Nat.le_of_ble_eq_true rfl)⟩ (KM_mv G) (hP.sub (ws' := []) [] rfl) hK.1 hl rfl rfl (Nat.le_of_ble_eq_true rfl) ⟨(Nat.le_of_ble_eq_true rfl), (Nat.le_of_ble_eq_true rfl)⟩ dX1_clears_4 ?_
  refine n_if_neB (b := (sIn g 0 31)) (tgt := 12) hx hb dX1_clears_7 (by decide) (fun c_1 => ?_) (fun c_1 => ?_)
  · obtain ⟨g_2, hg_2, gg_2, rfl⟩ := sIn_t (a := 0) (b := 31) (by omega) (by omega) c_1
    have tg_2 : tn (nI g_2) = g_2 := nI_clamp (by omega)
    refine lv_iconst (v := 0) hx hb dX1_clears_12 (by decide) ?_
    refine lv_istore_n (lv' := [(2, .int 0), (0, .ref h), (1, .int (nI g_2))]) hx hb dX1_clears_13 rfl hl (Nat.le_of_ble_eq_true rfl) rfl (fun ls hl => ?_)
    suffices hlp_3 : (∀ (n i : Nat), i + n = 32 → (clr (clP r N (nI g_2)) 32 0 = clr (clP r N (nI g_2)) (32 - i) i) → ∀ (ls : Array Slot), lv_has ls 3 [(2, .int (nI i)), (0, .ref h), (1, .int (nI g_2))] → W p0_ l e0_ ({ frames := 8, cells := 0, slots := 0, locals := 244 } : Room) s m args below meth c s.heap [] (0) (0) (MQ below (vp_Si (fun rr9 => rr9 = sClearsA r N (nI g_2))) args s 0 0 (fun _ => False)) (F0 m 14 ls [])) by
      exact hlp_3 (32) 0 (by omega) (rfl) ls (lv_sub hl [0, 1, 2] rfl)
    have hend_3 : (clr (clP r N (nI g_2)) 32 0 = clr (clP r N (nI g_2)) (32 - 32) 32) → ∀ (ls : Array Slot), lv_has ls 3 [(2, .int (nI 32)), (0, .ref h), (1, .int (nI g_2))] → W p0_ l e0_ ({ frames := 8, cells := 0, slots := 0, locals := 244 } : Room) s m args below meth c s.heap [] (0) (0) (MQ below (vp_Si (fun rr9 => rr9 = sClearsA r N (nI g_2))) args s 0 0 (fun _ => False)) (F0 m 14 ls []) := by
      intro hcl ls hl
      refine lv_iload_n hx hb dX1_clears_14 rfl (lv_at hl 0 rfl) ?_
      refine lv_bipush (v := 31) hx hb dX1_clears_15 (by decide) ?_
      refine n_ic_gt (x := 32) (y := 31) (tgt := 51) hx hb (by omega) (by omega) dX1_clears_17 (by decide) (fun c_4 => ?_) (fun c_4 => absurd c_4 (by omega))
      refine lv_bipush (v := (-4)) hx hb dX1_clears_51 (by decide) ?_
      exact n_iret (v := (-4)) C (by first | (simp [sClearsA, c_1, tg_2, c_4]; done) | (rw [sClearsA]; simp only [c_1, tg_2, c_4, Bool.true_eq_false, if_false]; rw [hcl]; rfl)) dX1_clears_53
    intro n
    induction n with
    | zero =>
      intro i hi_3 hcl ls hl
      obtain e_3 : i = 32 := by omega
      first | (subst e_3; exact hend_3 hcl ls hl) | (rw [e_3] at hl; exact hend_3 hcl ls hl)
    | succ n ih_3 =>
      intro i hi_3 hcl ls hl
      refine lv_iload_n hx hb dX1_clears_14 rfl (lv_at hl 0 rfl) ?_
      refine lv_bipush (v := 31) hx hb dX1_clears_15 (by decide) ?_
      refine n_ic_gt (x := i) (y := 31) (tgt := 51) hx hb (by omega) (by omega) dX1_clears_17 (by decide) (fun c_5 => absurd c_5 (by omega)) (fun c_5 => ?_)
      refine lv_aload_n hx hb dX1_clears_20 rfl (lv_at hl 1 rfl) ?_
      refine lv_iload_n hx hb dX1_clears_21 rfl (lv_at hl 0 rfl) ?_
      refine c_Vk (rest := []) C (metX1_buy l G h xa xi fn gm wh r N (nI i) (by omega) (hr) (hwk)) 1 (lw_V q646 q648 qs15 q39 q649) (by decide +kernel) ⟨rfl, rfl⟩ ⟨(Nat.le_of_ble_eq_true rfl), (Nat.le_of_ble_eq_true rfl)⟩ (KG.call) (va_recv hK.1 hP (ci := 1) (q0 := 0) rfl rfl) hP (KG.at hK hGP) hl rfl rfl (Nat.le_of_ble_eq_true rfl) ⟨(Nat.le_of_ble_eq_true rfl), (Nat.le_of_ble_eq_true rfl)⟩ dX1_clears_22 ?_
      refine lv_aload_n hx hb dX1_clears_25 rfl (lv_at hl 1 rfl) ?_
      refine va_get (D := gD G) (ci := 1) (v := .ref (xa 0)) (C := RX1) (T := TX1) (N := 9) hx hb hts in_X1 hown hK.1 hP 0 rfl rfl 0 (by decide) (hts _ q838) (fun _ h9 => h9) rfl dX1_clears_26 ?_
      refine va_get (D := gD G) (ci := 2) (v := .int (r 1)) (C := RX2) (T := TX2) (N := 8) hx hb hts in_X2 hown hK.1 hP 1 rfl rfl 6 (by decide) (hts _ q805) (fun _ h9 => h9) rfl dX1_clears_29 ?_
      refine lv_aload_n hx hb dX1_clears_32 rfl (lv_at hl 1 rfl) ?_
      refine lv_iload_n hx hb dX1_clears_33 rfl (lv_at hl 2 rfl) ?_
      refine c_Vk (rest := [.int (r 1), .int (sBuy r (nI i) N)]) C (metX1_sell l G h xa xi fn gm wh r N (nI g_2) (by omega) (hr) (hwk)) 1 (lw_V q651 q653 qs16 q39 q654) (by decide +kernel) ⟨rfl, rfl⟩ ⟨(Nat.le_of_ble_eq_true rfl), (Nat.le_of_ble_eq_true rfl)⟩ (KG.call) (va_recv hK.1 hP (ci := 1) (q0 := 0) rfl rfl) hP (KG.at hK hGP) hl rfl rfl (Nat.le_of_ble_eq_true rfl) ⟨(Nat.le_of_ble_eq_true rfl), (Nat.le_of_ble_eq_true rfl)⟩ dX1_clears_34 ?_
      refine n_mmin (x := r 1) (y := sSel r (nI g_2) N) C q606 q441 q60 q442 hl ⟨(Nat.le_of_ble_eq_true rfl), (Nat.le_of_ble_eq_true rfl)⟩ (Nat.le_of_ble_eq_true rfl) ⟨(Nat.le_of_ble_eq_true rfl), (Nat.le_of_ble_eq_true rfl)⟩ dX1_clears_37 ?_
      refine lv_icmp_gt (x := sBuy r (nI i) N) (y := mn (r 1) (sSel r (nI g_2) N)) (tgt := 45) hx hb dX1_clears_40 (by decide) (fun c_6 => ?_) (fun c_6 => ?_)
      · have zc_6 : ¬ (sBuy r (nI i) N) ≤ (mn (r 1) (sSel r (nI g_2) N)) := Int32.not_le.mpr c_6
        have k_7 := lt_mn.mp c_6
        refine n_iinc (k := 0) (lv' := [(2, .int (nI (i + 1))), (0, .ref h), (1, .int (nI g_2))]) hx hb i 1 dX1_clears_45 hl rfl (Nat.le_of_ble_eq_true rfl) rfl (fun ls hl => ?_)
        refine lv_goto (tgt := 14) hx hb dX1_clears_48 (by decide) ?_
        exact ih_3 (i + 1) (by omega) (by rw [hcl, show 32 - i = (32 - (i + 1)) + 1 by omega, clr, if_neg (clP_f k_7)]) ls (lv_sub hl [0, 1, 2] rfl)
      · have zc_6 : (sBuy r (nI i) N) ≤ (mn (r 1) (sSel r (nI g_2) N)) := Int32.not_lt.mp c_6
        have k_8 := (le_mn.mp (Int32.not_lt.mp c_6)).1
        have k_9 := (le_mn.mp (Int32.not_lt.mp c_6)).2
        refine lv_iload_n hx hb dX1_clears_43 rfl (lv_at hl 0 rfl) ?_
        exact n_iret (v := nI i) C (by rw [sClearsA]; simp only [c_1, tg_2, c_5, c_6, zc_6, Bool.true_eq_false, if_false]; rw [hcl, show 32 - i = (32 - (i + 1)) + 1 by omega, clr, if_pos (clP_t k_8 k_9)]) dX1_clears_44
  · refine lv_iconst (v := (-1)) hx hb dX1_clears_10 (by decide) ?_
    exact n_iret (v := (-1)) C (by first | (simp [sClearsA, c_1]; done) | (rw [sClearsA]; simp only [c_1, Bool.true_eq_false, if_false]; rw [hcl]; rfl)) dX1_clears_11

set_option maxHeartbeats 4000000 in
set_option maxRecDepth 100000 in
theorem metX1_allHunger (l : Launch) (G : GG) (h : Nat) (xa : Nat → Nat) (xi : Nat → Int32) (fn : Nat → Nat) (gm : GM) (wh : Nat → Option Nat) (r : Nat → Int32) (N : Nat) (hN : N ≤ 8) (hr : r 0 = nI N) (hwk : WK gm wh r N) : MR l yX1_allHunger cX1_allHunger 3 (some .int) ({ frames := 0, cells := 0, slots := 0, locals := 0 }) [.ref h] [(h, xO xa xi), (xa 0, fO fn r), (fn 0, qA G 3 9 wh), (fn 1, iA G 9 (fA r 2)), (fn 2, iA G 9 (fA r 3)), (fn 3, iA G 9 (fA r 4)), (fn 4, iA G 9 (fA r 5))] G (KG G gm) (sHun r N) := by
  -- rows printed by wip/tools/gen.py
  refine mr_mk RX1 (by decide) rfl (Nat.le_of_ble_eq_true rfl) ?_
  intro p0_ e0_ s m args below meth c C hP hK ls hl
  have hGP := hK.2
  have hK := hK.1
  have hx := C.1
  have hb := C.2.1
  have hml := C.2.2.2.2.1
  have hown := C.2.2.2.2.2.1
  have hts := C.2.2.2.2.2.2
  have hl : lv_has ls 3 [(0, .ref h)] := hl
  refine lv_iconst (v := 0) hx hb dX1_allHunger_0 (by decide) ?_
  refine lv_istore_n (lv' := [(1, .int 0), (0, .ref h)]) hx hb dX1_allHunger_1 rfl hl (Nat.le_of_ble_eq_true rfl) rfl (fun ls hl => ?_)
  refine lv_iconst (v := 0) hx hb dX1_allHunger_2 (by decide) ?_
  refine lv_istore_n (lv' := [(2, .int 0), (1, .int 0), (0, .ref h)]) hx hb dX1_allHunger_3 rfl hl (Nat.le_of_ble_eq_true rfl) rfl (fun ls hl => ?_)
  suffices hlp_1 : (∀ (n i : Nat), i + n = N → ∀ (ls : Array Slot), lv_has ls 3 [(2, .int (nI i)), (1, .int (sHun r i)), (0, .ref h)] → W p0_ l e0_ ({ frames := 0, cells := 0, slots := 0, locals := 0 } : Room) s m args below meth c s.heap [] (0) (0) (MQ below (vp_Si (fun rr9 => rr9 = sHun r N)) args s 0 0 (fun _ => False)) (F0 m 4 ls [])) by
    exact hlp_1 (N) 0 (by omega) ls (lv_sub hl [0, 1, 2] rfl)
  have hend_1 : ∀ (ls : Array Slot), lv_has ls 3 [(2, .int (nI N)), (1, .int (sHun r N)), (0, .ref h)] → W p0_ l e0_ ({ frames := 0, cells := 0, slots := 0, locals := 0 } : Room) s m args below meth c s.heap [] (0) (0) (MQ below (vp_Si (fun rr9 => rr9 = sHun r N)) args s 0 0 (fun _ => False)) (F0 m 4 ls []) := by
    intro ls hl
    refine lv_iload_n hx hb dX1_allHunger_4 rfl (lv_at hl 0 rfl) ?_
    refine lv_aload_n hx hb dX1_allHunger_5 rfl (lv_at hl 2 rfl) ?_
    refine va_get (D := gD G) (ci := 1) (v := .ref (xa 0)) (C := RX1) (T := TX1) (N := 9) hx hb hts in_X1 hown hK.1 hP 0 rfl rfl 0 (by decide) (hts _ q838) (fun _ h9 => h9) rfl dX1_allHunger_6 ?_
    refine va_get (D := gD G) (ci := 2) (v := .int (r 0)) (C := RX2) (T := TX2) (N := 8) hx hb hts in_X2 hown hK.1 hP 1 rfl rfl 5 (by decide) (hts _ q803) (fun _ h9 => h9) rfl dX1_allHunger_9 ?_
    refine n_eqi (hr) ?_
    refine n_ic_ge (x := N) (y := N) (tgt := 33) hx hb (by omega) (by omega) dX1_allHunger_12 (by decide) (fun c_2 => ?_) (fun c_2 => absurd c_2 (by omega))
    refine lv_iload_n hx hb dX1_allHunger_33 rfl (lv_at hl 1 rfl) ?_
    exact n_iret (v := sHun r N) C (rfl) dX1_allHunger_34
  intro n
  induction n with
  | zero =>
    intro i hi_1 ls hl
    obtain e_1 : i = N := by omega
    first | (subst e_1; exact hend_1 ls hl) | (rw [e_1] at hl; exact hend_1 ls hl)
  | succ n ih_1 =>
    intro i hi_1 ls hl
    refine lv_iload_n hx hb dX1_allHunger_4 rfl (lv_at hl 0 rfl) ?_
    refine lv_aload_n hx hb dX1_allHunger_5 rfl (lv_at hl 2 rfl) ?_
    refine va_get (D := gD G) (ci := 1) (v := .ref (xa 0)) (C := RX1) (T := TX1) (N := 9) hx hb hts in_X1 hown hK.1 hP 0 rfl rfl 0 (by decide) (hts _ q838) (fun _ h9 => h9) rfl dX1_allHunger_6 ?_
    refine va_get (D := gD G) (ci := 2) (v := .int (r 0)) (C := RX2) (T := TX2) (N := 8) hx hb hts in_X2 hown hK.1 hP 1 rfl rfl 5 (by decide) (hts _ q803) (fun _ h9 => h9) rfl dX1_allHunger_9 ?_
    refine n_eqi (hr) ?_
    refine n_ic_ge (x := i) (y := N) (tgt := 33) hx hb (by omega) (by omega) dX1_allHunger_12 (by decide) (fun c_3 => absurd c_3 (by omega)) (fun c_3 => ?_)
    refine lv_iload_n hx hb dX1_allHunger_15 rfl (lv_at hl 1 rfl) ?_
    refine lv_aload_n hx hb dX1_allHunger_16 rfl (lv_at hl 2 rfl) ?_
    refine va_get (D := gD G) (ci := 1) (v := .ref (xa 0)) (C := RX1) (T := TX1) (N := 9) hx hb hts in_X1 hown hK.1 hP 0 rfl rfl 0 (by decide) (hts _ q838) (fun _ h9 => h9) rfl dX1_allHunger_17 ?_
    refine va_get (D := gD G) (ci := 2) (v := .ref (fn 1)) (C := RX2) (T := TX2) (N := 8) hx hb hts in_X2 hown hK.1 hP 1 rfl rfl 1 (by decide) (hts _ q795) (fun _ h9 => h9) rfl dX1_allHunger_20 ?_
    refine lv_iload_n hx hb dX1_allHunger_23 rfl (lv_at hl 0 rfl) ?_
    refine n_iald C hK.1 hP 3 i rfl (by omega) (by omega) dX1_allHunger_24 ?_
    refine lv_iadd (x := sHun r i) (y := r (3 + 6 * i + 2)) hx hb dX1_allHunger_25 ?_
    refine lv_istore_n (lv' := [(1, .int ((sHun r i) + (r (3 + 6 * i + 2)))), (2, .int (nI i)), (0, .ref h)]) hx hb dX1_allHunger_26 rfl hl (Nat.le_of_ble_eq_true rfl) rfl (fun ls hl => ?_)
    refine n_iinc (k := 1) (lv' := [(2, .int (nI (i + 1))), (1, .int ((sHun r i) + (r (3 + 6 * i + 2)))), (0, .ref h)]) hx hb i 1 dX1_allHunger_27 hl rfl (Nat.le_of_ble_eq_true rfl) rfl (fun ls hl => ?_)
    refine lv_goto (tgt := 4) hx hb dX1_allHunger_30 (by decide) ?_
    have e_4 : sHun r (i + 1) = (sHun r i) + (r (3 + 6 * i + 2)) := by rfl
    exact ih_1 (i + 1) (by omega) ls (by rw [e_4]; exact lv_sub hl [0, 1, 2] rfl)

set_option maxHeartbeats 4000000 in
set_option maxRecDepth 100000 in
theorem metX1_shareOf (l : Launch) (G : GG) (h : Nat) (xa : Nat → Nat) (xi : Nat → Int32) (fn : Nat → Nat) (gm : GM) (wh : Nat → Option Nat) (r : Nat → Int32) (N : Nat) (p : Nat) (hN : N ≤ 8) (hr : r 0 = nI N) (hwk : WK gm wh r N) (hp : p < N) (hsh : ∀ p, p < N → ¬ r (3 + 6 * p + 2) = 0 → ¬ sHun r N = 0) : MR l yX1_shareOf cX1_shareOf 2 (some .int) ({ frames := 1, cells := 0, slots := 0, locals := 22 }) [.ref h, .int (nI p)] [(h, xO xa xi), (xa 0, fO fn r), (fn 0, qA G 3 9 wh), (fn 1, iA G 9 (fA r 2)), (fn 2, iA G 9 (fA r 3)), (fn 3, iA G 9 (fA r 4)), (fn 4, iA G 9 (fA r 5))] G (KG G gm) (sPart r N p) := by
  -- rows printed by wip/tools/gen.py
  refine mr_mk RX1 (by decide) rfl (Nat.le_of_ble_eq_true rfl) ?_
  intro p0_ e0_ s m args below meth c C hP hK ls hl
  have hGP := hK.2
  have hK := hK.1
  have hx := C.1
  have hb := C.2.1
  have hml := C.2.2.2.2.1
  have hown := C.2.2.2.2.2.1
  have hts := C.2.2.2.2.2.2
  have hl : lv_has ls 2 [(0, .ref h), (1, .int (nI p))] := hl
  refine lv_aload_n hx hb dX1_shareOf_0 rfl (lv_at hl 0 rfl) ?_
  refine va_get (D := gD G) (ci := 1) (v := .ref (xa 0)) (C := RX1) (T := TX1) (N := 9) hx hb hts in_X1 hown hK.1 hP 0 rfl rfl 0 (by decide) (hts _ q838) (fun _ h9 => h9) rfl dX1_shareOf_1 ?_
  refine va_get (D := gD G) (ci := 2) (v := .ref (fn 1)) (C := RX2) (T := TX2) (N := 8) hx hb hts in_X2 hown hK.1 hP 1 rfl rfl 1 (by decide) (hts _ q795) (fun _ h9 => h9) rfl dX1_shareOf_4 ?_
  refine lv_iload_n hx hb dX1_shareOf_7 rfl (lv_at hl 1 rfl) ?_
  refine n_iald C hK.1 hP 3 p rfl (by omega) (by omega) dX1_shareOf_8 ?_
  refine lv_if_ne (x := r (3 + 6 * p + 2)) (tgt := 16) hx hb dX1_shareOf_9 (by decide) (fun c_1 => ?_) (fun c_1 => ?_)
  · refine lv_aload_n hx hb dX1_shareOf_16 rfl (lv_at hl 0 rfl) ?_
    refine va_get (D := gD G) (ci := 1) (v := .ref (xa 0)) (C := RX1) (T := TX1) (N := 9) hx hb hts in_X1 hown hK.1 hP 0 rfl rfl 0 (by decide) (hts _ q838) (fun _ h9 => h9) rfl dX1_shareOf_17 ?_
    refine va_get (D := gD G) (ci := 2) (v := .int (r 1)) (C := RX2) (T := TX2) (N := 8) hx hb hts in_X2 hown hK.1 hP 1 rfl rfl 6 (by decide) (hts _ q805) (fun _ h9 => h9) rfl dX1_shareOf_20 ?_
    refine lv_aload_n hx hb dX1_shareOf_23 rfl (lv_at hl 0 rfl) ?_
    refine va_get (D := gD G) (ci := 1) (v := .ref (xa 0)) (C := RX1) (T := TX1) (N := 9) hx hb hts in_X1 hown hK.1 hP 0 rfl rfl 0 (by decide) (hts _ q838) (fun _ h9 => h9) rfl dX1_shareOf_24 ?_
    refine va_get (D := gD G) (ci := 2) (v := .ref (fn 1)) (C := RX2) (T := TX2) (N := 8) hx hb hts in_X2 hown hK.1 hP 1 rfl rfl 1 (by decide) (hts _ q795) (fun _ h9 => h9) rfl dX1_shareOf_27 ?_
    refine lv_iload_n hx hb dX1_shareOf_30 rfl (lv_at hl 1 rfl) ?_
    refine n_iald C hK.1 hP 3 p rfl (by omega) (by omega) dX1_shareOf_31 ?_
    refine lv_imul (x := r 1) (y := r (3 + 6 * p + 2)) hx hb dX1_shareOf_32 ?_
    refine lv_aload_n hx hb dX1_shareOf_33 rfl (lv_at hl 0 rfl) ?_
    refine c_Vk (rest := [.int ((r 1) * (r (3 + 6 * p + 2)))]) C (metX1_allHunger l G h xa xi fn gm wh r N (by omega) (hr) (hwk)) 0 (lw_V q711 q713 qs21 q39 q714) (by decide +kernel) ⟨rfl, rfl⟩ ⟨(Nat.le_of_ble_eq_true rfl), (Nat.le_of_ble_eq_true rfl)⟩ (KG.call) (va_recv hK.1 hP (ci := 1) (q0 := 0) rfl rfl) hP (KG.at hK hGP) hl rfl rfl (Nat.le_of_ble_eq_true rfl) ⟨(Nat.le_of_ble_eq_true rfl), (Nat.le_of_ble_eq_true rfl)⟩ dX1_shareOf_34 ?_
    refine lv_idiv (x := (r 1) * (r (3 + 6 * p + 2))) (y := sHun r N) hx hb dX1_shareOf_37 (hsh _ hp c_1) ?_
    exact n_iret (v := ((r 1) * (r (3 + 6 * p + 2))) / (sHun r N)) C (by simp [sPart, hsh _ hp, c_1]) dX1_shareOf_38
  · refine lv_iconst (v := 0) hx hb dX1_shareOf_12 (by decide) ?_
    refine lv_goto (tgt := 38) hx hb dX1_shareOf_13 (by decide) ?_
    exact n_iret (v := 0) C (by simp [sPart, hsh _ hp, c_1]) dX1_shareOf_38

set_option maxHeartbeats 4000000 in
set_option maxRecDepth 100000 in
theorem metX1_shares (l : Launch) (G : GG) (h : Nat) (xa : Nat → Nat) (xi : Nat → Int32) (fn : Nat → Nat) (gm : GM) (wh : Nat → Option Nat) (r : Nat → Int32) (N : Nat) (p : Int32) (hN : N ≤ 8) (hr : r 0 = nI N) (hwk : WK gm wh r N) (hsh : ∀ p, p < N → ¬ r (3 + 6 * p + 2) = 0 → ¬ sHun r N = 0) : MR l yX1_shares cX1_shares 4 (some .int) ({ frames := 2, cells := 0, slots := 0, locals := 43 }) [.ref h, .int p] [(h, xO xa xi), (xa 0, fO fn r), (fn 0, qA G 3 9 wh), (fn 1, iA G 9 (fA r 2)), (fn 2, iA G 9 (fA r 3)), (fn 3, iA G 9 (fA r 4)), (fn 4, iA G 9 (fA r 5))] G (KG G gm) (sSharesA r N p) := by
  -- rows printed by wip/tools/gen.py
  refine mr_mk RX1 (by decide) rfl (Nat.le_of_ble_eq_true rfl) ?_
  intro p0_ e0_ s m args below meth c C hP hK ls hl
  have hGP := hK.2
  have hK := hK.1
  have hx := C.1
  have hb := C.2.1
  have hml := C.2.2.2.2.1
  have hown := C.2.2.2.2.2.1
  have hts := C.2.2.2.2.2.2
  have hl : lv_has ls 4 [(0, .ref h), (1, .int p)] := hl
  refine lv_iload_n hx hb dX1_shares_0 rfl (lv_at hl 1 rfl) ?_
  refine lv_iconst (v := (-1)) hx hb dX1_shares_1 (by decide) ?_
  refine lv_icmp_lt (x := p) (y := (-1)) (tgt := 16) hx hb dX1_shares_2 (by decide) (fun c_1 => ?_) (fun c_1 => ?_)
  · have zc_1 : ¬ (-1) ≤ p := Int32.not_le.mpr c_1
    have k_2 := shr_lt (N := N) c_1
    refine lv_iconst (v := (-1)) hx hb dX1_shares_16 (by decide) ?_
    exact n_iret (v := (-1)) C (by simp [sSharesA, c_1, zc_1, k_2]) dX1_shares_17
  · have zc_1 : (-1) ≤ p := Int32.not_lt.mp c_1
    refine lv_iload_n hx hb dX1_shares_5 rfl (lv_at hl 1 rfl) ?_
    refine lv_aload_n hx hb dX1_shares_6 rfl (lv_at hl 0 rfl) ?_
    refine va_get (D := gD G) (ci := 1) (v := .ref (xa 0)) (C := RX1) (T := TX1) (N := 9) hx hb hts in_X1 hown hK.1 hP 0 rfl rfl 0 (by decide) (hts _ q838) (fun _ h9 => h9) rfl dX1_shares_7 ?_
    refine va_get (D := gD G) (ci := 2) (v := .int (r 0)) (C := RX2) (T := TX2) (N := 8) hx hb hts in_X2 hown hK.1 hP 1 rfl rfl 5 (by decide) (hts _ q803) (fun _ h9 => h9) rfl dX1_shares_10 ?_
    refine n_eqi (hr) ?_
    refine lv_icmp_lt (x := p) (y := nI N) (tgt := 18) hx hb dX1_shares_13 (by decide) (fun c_3 => ?_) (fun c_3 => ?_)
    · have zc_3 : ¬ (nI N) ≤ p := Int32.not_le.mpr c_3
      refine lv_iload_n hx hb dX1_shares_18 rfl (lv_at hl 1 rfl) ?_
      refine lv_if_lt (x := p) (tgt := 28) hx hb dX1_shares_19 (by decide) (fun c_4 => ?_) (fun c_4 => ?_)
      · have zc_4 : ¬ 0 ≤ p := Int32.not_le.mpr c_4
        obtain rfl := shr_m1 c_1 c_4
        refine lv_aload_n hx hb dX1_shares_28 rfl (lv_at hl 0 rfl) ?_
        refine va_get (D := gD G) (ci := 1) (v := .ref (xa 0)) (C := RX1) (T := TX1) (N := 9) hx hb hts in_X1 hown hK.1 hP 0 rfl rfl 0 (by decide) (hts _ q838) (fun _ h9 => h9) rfl dX1_shares_29 ?_
        refine va_get (D := gD G) (ci := 2) (v := .int (r 1)) (C := RX2) (T := TX2) (N := 8) hx hb hts in_X2 hown hK.1 hP 1 rfl rfl 6 (by decide) (hts _ q805) (fun _ h9 => h9) rfl dX1_shares_32 ?_
        refine lv_istore_n (lv' := [(2, .int (r 1)), (0, .ref h), (1, .int (-1))]) hx hb dX1_shares_35 rfl hl (Nat.le_of_ble_eq_true rfl) rfl (fun ls hl => ?_)
        refine lv_iconst (v := 0) hx hb dX1_shares_36 (by decide) ?_
        refine lv_istore_n (lv' := [(3, .int 0), (2, .int (r 1)), (0, .ref h), (1, .int (-1))]) hx hb dX1_shares_37 rfl hl (Nat.le_of_ble_eq_true rfl) rfl (fun ls hl => ?_)
        suffices hlp_5 : (∀ (n i : Nat), i + n = N → ∀ (ls : Array Slot), lv_has ls 4 [(3, .int (nI i)), (2, .int (sShL r N i)), (0, .ref h), (1, .int (-1))] → W p0_ l e0_ ({ frames := 2, cells := 0, slots := 0, locals := 43 } : Room) s m args below meth c s.heap [] (0) (0) (MQ below (vp_Si (fun rr9 => rr9 = sSharesA r N (-1))) args s 0 0 (fun _ => False)) (F0 m 38 ls [])) by
          exact hlp_5 (N) 0 (by omega) ls (lv_sub hl [0, 1, 2, 3] rfl)
        have hend_5 : ∀ (ls : Array Slot), lv_has ls 4 [(3, .int (nI N)), (2, .int (sShL r N N)), (0, .ref h), (1, .int (-1))] → W p0_ l e0_ ({ frames := 2, cells := 0, slots := 0, locals := 43 } : Room) s m args below meth c s.heap [] (0) (0) (MQ below (vp_Si (fun rr9 => rr9 = sSharesA r N (-1))) args s 0 0 (fun _ => False)) (F0 m 38 ls []) := by
          intro ls hl
          refine lv_iload_n hx hb dX1_shares_38 rfl (lv_at hl 0 rfl) ?_
          refine lv_aload_n hx hb dX1_shares_39 rfl (lv_at hl 2 rfl) ?_
          refine va_get (D := gD G) (ci := 1) (v := .ref (xa 0)) (C := RX1) (T := TX1) (N := 9) hx hb hts in_X1 hown hK.1 hP 0 rfl rfl 0 (by decide) (hts _ q838) (fun _ h9 => h9) rfl dX1_shares_40 ?_
          refine va_get (D := gD G) (ci := 2) (v := .int (r 0)) (C := RX2) (T := TX2) (N := 8) hx hb hts in_X2 hown hK.1 hP 1 rfl rfl 5 (by decide) (hts _ q803) (fun _ h9 => h9) rfl dX1_shares_43 ?_
          refine n_eqi (hr) ?_
          refine n_ic_ge (x := N) (y := N) (tgt := 63) hx hb (by omega) (by omega) dX1_shares_46 (by decide) (fun c_6 => ?_) (fun c_6 => absurd c_6 (by omega))
          refine lv_iload_n hx hb dX1_shares_63 rfl (lv_at hl 1 rfl) ?_
          exact n_iret (v := sShL r N N) C (by simp [sSharesA, c_6]) dX1_shares_64
        intro n
        induction n with
        | zero =>
          intro i hi_5 ls hl
          obtain e_5 : i = N := by omega
          first | (subst e_5; exact hend_5 ls hl) | (rw [e_5] at hl; exact hend_5 ls hl)
        | succ n ih_5 =>
          intro i hi_5 ls hl
          refine lv_iload_n hx hb dX1_shares_38 rfl (lv_at hl 0 rfl) ?_
          refine lv_aload_n hx hb dX1_shares_39 rfl (lv_at hl 2 rfl) ?_
          refine va_get (D := gD G) (ci := 1) (v := .ref (xa 0)) (C := RX1) (T := TX1) (N := 9) hx hb hts in_X1 hown hK.1 hP 0 rfl rfl 0 (by decide) (hts _ q838) (fun _ h9 => h9) rfl dX1_shares_40 ?_
          refine va_get (D := gD G) (ci := 2) (v := .int (r 0)) (C := RX2) (T := TX2) (N := 8) hx hb hts in_X2 hown hK.1 hP 1 rfl rfl 5 (by decide) (hts _ q803) (fun _ h9 => h9) rfl dX1_shares_43 ?_
          refine n_eqi (hr) ?_
          refine n_ic_ge (x := i) (y := N) (tgt := 63) hx hb (by omega) (by omega) dX1_shares_46 (by decide) (fun c_7 => absurd c_7 (by omega)) (fun c_7 => ?_)
          refine lv_iload_n hx hb dX1_shares_49 rfl (lv_at hl 1 rfl) ?_
          refine lv_aload_n hx hb dX1_shares_50 rfl (lv_at hl 2 rfl) ?_
          refine lv_iload_n hx hb dX1_shares_51 rfl (lv_at hl 0 rfl) ?_
          refine c_Vk (rest := [.int (sShL r N i)]) C (metX1_shareOf l G h xa xi fn gm wh r N i (by omega) (hr) (hwk) (by omega) (hsh)) 1 (lw_V q707 q709 qs20 q39 q710) (by decide +kernel) ⟨rfl, rfl⟩ ⟨(Nat.le_of_ble_eq_true rfl), (Nat.le_of_ble_eq_true rfl)⟩ (KG.call) (va_recv hK.1 hP (ci := 1) (q0 := 0) rfl rfl) hP (KG.at hK hGP) hl rfl rfl (Nat.le_of_ble_eq_true rfl) ⟨(Nat.le_of_ble_eq_true rfl), (Nat.le_of_ble_eq_true rfl)⟩ dX1_shares_52 ?_
          refine lv_isub (x := sShL r N i) (y := sPart r N i) hx hb dX1_shares_55 ?_
          refine lv_istore_n (lv' := [(2, .int ((sShL r N i) - (sPart r N i))), (3, .int (nI i)), (0, .ref h), (1, .int (-1))]) hx hb dX1_shares_56 rfl hl (Nat.le_of_ble_eq_true rfl) rfl (fun ls hl => ?_)
          refine n_iinc (k := 1) (lv' := [(3, .int (nI (i + 1))), (2, .int ((sShL r N i) - (sPart r N i))), (0, .ref h), (1, .int (-1))]) hx hb i 1 dX1_shares_57 hl rfl (Nat.le_of_ble_eq_true rfl) rfl (fun ls hl => ?_)
          refine lv_goto (tgt := 38) hx hb dX1_shares_60 (by decide) ?_
          have e_8 : sShL r N (i + 1) = (sShL r N i) - (sPart r N i) := by rfl
          exact ih_5 (i + 1) (by omega) ls (by rw [e_8]; exact lv_sub hl [0, 1, 2, 3] rfl)
      · have zc_4 : 0 ≤ p := Int32.not_lt.mp c_4
        obtain ⟨p_9, hp_9, rfl⟩ := shr_in (by omega) c_4 c_3
        have tp_9 : tn (nI p_9) = p_9 := nI_clamp (by omega)
        have up_9 := sPer_i (N := N) (by omega) hp_9
        have vp_9 : ¬ (nI p_9 = -1) := fun e9 => absurd (show nI p_9 < 0 by rw [e9]; decide) (nI_pos (by omega))
        refine lv_aload_n hx hb dX1_shares_22 rfl (lv_at hl 0 rfl) ?_
        refine lv_iload_n hx hb dX1_shares_23 rfl (lv_at hl 1 rfl) ?_
        refine c_Vk (rest := []) C (metX1_shareOf l G h xa xi fn gm wh r N p_9 (by omega) (hr) (hwk) (by omega) (hsh)) 1 (lw_V q707 q709 qs20 q39 q710) (by decide +kernel) ⟨rfl, rfl⟩ ⟨(Nat.le_of_ble_eq_true rfl), (Nat.le_of_ble_eq_true rfl)⟩ (KG.call) (va_recv hK.1 hP (ci := 1) (q0 := 0) rfl rfl) hP (KG.at hK hGP) hl rfl rfl (Nat.le_of_ble_eq_true rfl) ⟨(Nat.le_of_ble_eq_true rfl), (Nat.le_of_ble_eq_true rfl)⟩ dX1_shares_24 ?_
        exact n_iret (v := sPart r N p_9) C (by simp [sSharesA, tp_9, up_9, vp_9]) dX1_shares_27
    · have zc_3 : (nI N) ≤ p := Int32.not_lt.mp c_3
      have k_10 := shr_ge (N := N) (by omega) (Int32.not_lt.mp c_3)
      refine lv_iconst (v := (-1)) hx hb dX1_shares_16 (by decide) ?_
      exact n_iret (v := (-1)) C (by simp [sSharesA, c_1, zc_1, c_3, zc_3, k_10]) dX1_shares_17

set_option maxHeartbeats 4000000 in
set_option maxRecDepth 100000 in
theorem metX1_lastOnes (l : Launch) (G : GG) (h : Nat) (xa : Nat → Nat) (xi : Nat → Int32) (u k what : Int32) : MR l yX1_lastOnes cX1_lastOnes 5 (some .int) ({ frames := 1, cells := 0, slots := 0, locals := 22 }) [.ref h, .int u, .int k, .int what] [(h, xO xa xi)] G (KM G) (sLastA u k what) := by
  -- rows printed by wip/tools/gen.py
  refine mr_mk RX1 (by decide) rfl (Nat.le_of_ble_eq_true rfl) ?_
  intro p0_ e0_ s m args below meth c C hP hK ls hl
  have hx := C.1
  have hb := C.2.1
  have hml := C.2.2.2.2.1
  have hown := C.2.2.2.2.2.1
  have hts := C.2.2.2.2.2.2
  have hl : lv_has ls 5 [(0, .ref h), (1, .int u), (2, .int k), (3, .int what)] := hl
  refine lv_iload_n hx hb dX1_lastOnes_0 rfl (lv_at hl 1 rfl) ?_
  refine lv_iconst (v := 0) hx hb dX1_lastOnes_1 (by decide) ?_
  refine lv_bipush (v := 99) hx hb dX1_lastOnes_2 (by decide) ?_
  refine c_S (rest := []) C (metX1_isIn l G u 0 99) 3 (lw_S q171 q172 q39 q173) (by decide +kernel) ⟨rfl, rfl⟩ ⟨(Nat.le_of_ble_eq_true rfl), (Nat.le_of_ble_eq_true rfl)⟩ (KM_mv G) (hP.sub (ws' := []) [] rfl) hK hl rfl rfl (Nat.le_of_ble_eq_true rfl) ⟨(Nat.le_of_ble_eq_true rfl), (Nat.le_of_ble_eq_true rfl)⟩ dX1_lastOnes_4 ?_
  refine n_if_eqB (b := (sIn u 0 99)) (tgt := 29) hx hb dX1_lastOnes_7 (by decide) (fun c_1 => ?_) (fun c_1 => ?_)
  · refine lv_iconst (v := (-1)) hx hb dX1_lastOnes_29 (by decide) ?_
    exact n_iret (v := (-1)) C (by simp [sLastA, c_1]) dX1_lastOnes_30
  · obtain ⟨u_2, hu_2, gu_2, rfl⟩ := sIn_t (a := 0) (b := 99) (by omega) (by omega) c_1
    have tu_2 : tn (nI u_2) = u_2 := nI_clamp (by omega)
    refine lv_iload_n hx hb dX1_lastOnes_10 rfl (lv_at hl 2 rfl) ?_
    refine lv_iconst (v := 1) hx hb dX1_lastOnes_11 (by decide) ?_
    refine lv_bipush (v := 9) hx hb dX1_lastOnes_12 (by decide) ?_
    refine c_S (rest := []) C (metX1_isIn l G k 1 9) 3 (lw_S q171 q172 q39 q173) (by decide +kernel) ⟨rfl, rfl⟩ ⟨(Nat.le_of_ble_eq_true rfl), (Nat.le_of_ble_eq_true rfl)⟩ (KM_mv G) (hP.sub (ws' := []) [] rfl) hK hl rfl rfl (Nat.le_of_ble_eq_true rfl) ⟨(Nat.le_of_ble_eq_true rfl), (Nat.le_of_ble_eq_true rfl)⟩ dX1_lastOnes_14 ?_
    refine n_if_eqB (b := (sIn k 1 9)) (tgt := 29) hx hb dX1_lastOnes_17 (by decide) (fun c_3 => ?_) (fun c_3 => ?_)
    · refine lv_iconst (v := (-1)) hx hb dX1_lastOnes_29 (by decide) ?_
      exact n_iret (v := (-1)) C (by simp [sLastA, c_1, tu_2, c_3]) dX1_lastOnes_30
    · obtain ⟨k_4, hk_4, gk_4, rfl⟩ := sIn_t (a := 1) (b := 9) (by omega) (by omega) c_3
      have tk_4 : tn (nI k_4) = k_4 := nI_clamp (by omega)
      refine lv_iload_n hx hb dX1_lastOnes_20 rfl (lv_at hl 3 rfl) ?_
      refine lv_iconst (v := 0) hx hb dX1_lastOnes_21 (by decide) ?_
      refine lv_iconst (v := 1) hx hb dX1_lastOnes_22 (by decide) ?_
      refine c_S (rest := []) C (metX1_isIn l G what 0 1) 3 (lw_S q171 q172 q39 q173) (by decide +kernel) ⟨rfl, rfl⟩ ⟨(Nat.le_of_ble_eq_true rfl), (Nat.le_of_ble_eq_true rfl)⟩ (KM_mv G) (hP.sub (ws' := []) [] rfl) hK hl rfl rfl (Nat.le_of_ble_eq_true rfl) ⟨(Nat.le_of_ble_eq_true rfl), (Nat.le_of_ble_eq_true rfl)⟩ dX1_lastOnes_23 ?_
      refine n_if_neB (b := (sIn what 0 1)) (tgt := 31) hx hb dX1_lastOnes_26 (by decide) (fun c_5 => ?_) (fun c_5 => ?_)
      · obtain ⟨what_6, hwhat_6, gwhat_6, rfl⟩ := sIn_t (a := 0) (b := 1) (by omega) (by omega) c_5
        have twhat_6 : tn (nI what_6) = what_6 := nI_clamp (by omega)
        refine lv_iload_n hx hb dX1_lastOnes_31 rfl (lv_at hl 1 rfl) ?_
        refine lv_iload_n hx hb dX1_lastOnes_32 rfl (lv_at hl 2 rfl) ?_
        refine lv_iconst (v := 1) hx hb dX1_lastOnes_33 (by decide) ?_
        refine n_iadd hx hb k_4 1 dX1_lastOnes_34 ?_
        refine n_irem hx hb u_2 (k_4 + 1) (by omega) (by omega) (by omega) dX1_lastOnes_35 ?_
        have hm_7 : u_2 % (k_4 + 1) < (k_4 + 1) := Nat.mod_lt _ (by omega)
        refine lv_istore (lv' := [(4, .int (nI (u_2 % (k_4 + 1)))), (0, .ref h), (1, .int (nI u_2)), (2, .int (nI k_4)), (3, .int (nI what_6))]) hx hb dX1_lastOnes_36 hl (Nat.le_of_ble_eq_true rfl) rfl (fun ls hl => ?_)
        refine lv_iload_n hx hb dX1_lastOnes_38 rfl (lv_at hl 4 rfl) ?_
        refine lv_iconst (v := 1) hx hb dX1_lastOnes_39 (by decide) ?_
        refine n_ic_ne (x := what_6) (y := 1) (tgt := 48) hx hb (by omega) (by omega) dX1_lastOnes_40 (by decide) (fun c_8 => ?_) (fun c_8 => ?_)
        · have zc_8 : ¬ nI what_6 = 1 := fun q => c_8 ((nI_eq (by omega) (by omega)).mp q)
          refine lv_iload hx hb dX1_lastOnes_48 (lv_at hl 0 rfl) ?_
          refine n_if_le (x := u_2 % (k_4 + 1)) (tgt := 57) hx hb (by omega) dX1_lastOnes_50 (by decide) (fun c_9 => ?_) (fun c_9 => ?_)
          · have zc_9 : nI (u_2 % (k_4 + 1)) = 0 := congrArg nI c_9
            refine lv_iconst (v := 0) hx hb dX1_lastOnes_57 (by decide) ?_
            exact n_iret (v := 0) C (by simp [sLastA, c_1, tu_2, c_3, tk_4, c_5, twhat_6, c_8, zc_8, c_9, zc_9]) dX1_lastOnes_58
          · have zc_9 : ¬ nI (u_2 % (k_4 + 1)) = 0 := nI_ne0 c_9 (by omega)
            have yc_9 : ¬ u_2 % (k_4 + 1) = 0 := Nat.ne_of_gt c_9
            refine lv_iconst (v := 1) hx hb dX1_lastOnes_53 (by decide) ?_
            refine lv_goto (tgt := 58) hx hb dX1_lastOnes_54 (by decide) ?_
            exact n_iret (v := 1) C (by simp [sLastA, c_1, tu_2, c_3, tk_4, c_5, twhat_6, c_8, zc_8, c_9, yc_9, zc_9]) dX1_lastOnes_58
        · obtain rfl := c_8
          have zc_8 : (nI 1 = 1) = True := eq_true rfl
          refine lv_iload hx hb dX1_lastOnes_43 (lv_at hl 0 rfl) ?_
          refine lv_goto (tgt := 58) hx hb dX1_lastOnes_45 (by decide) ?_
          exact n_iret (v := nI (u_2 % (k_4 + 1))) C (by simp [sLastA, c_1, tu_2, c_3, tk_4, c_5, twhat_6, zc_8]) dX1_lastOnes_58
      · refine lv_iconst (v := (-1)) hx hb dX1_lastOnes_29 (by decide) ?_
        exact n_iret (v := (-1)) C (by simp [sLastA, c_1, tu_2, c_3, tk_4, c_5]) dX1_lastOnes_30

set_option maxHeartbeats 4000000 in
set_option maxRecDepth 100000 in
theorem metX1_count (l : Launch) (G : GG) (h : Nat) (xa : Nat → Nat) (xi : Nat → Int32) (fn : Nat → Nat) (gm : GM) (wh : Nat → Option Nat) (r : Nat → Int32) (N : Nat) (what : Int32) (hN : N ≤ 8) (hr : r 0 = nI N) (hwk : WK gm wh r N) : MR l yX1_count cX1_count 4 (some .int) ({ frames := 1, cells := 0, slots := 0, locals := 22 }) [.ref h, .int what] [(h, xO xa xi), (xa 0, fO fn r), (fn 0, qA G 3 9 wh), (fn 1, iA G 9 (fA r 2)), (fn 2, iA G 9 (fA r 3)), (fn 3, iA G 9 (fA r 4)), (fn 4, iA G 9 (fA r 5))] G (KG G gm) (sCountX r N what) := by
  -- rows printed by wip/tools/gen.py
  refine mr_mk RX1 (by decide) rfl (Nat.le_of_ble_eq_true rfl) ?_
  intro p0_ e0_ s m args below meth c C hP hK ls hl
  have hGP := hK.2
  have hK := hK.1
  have hx := C.1
  have hb := C.2.1
  have hml := C.2.2.2.2.1
  have hown := C.2.2.2.2.2.1
  have hts := C.2.2.2.2.2.2
  have hl : lv_has ls 4 [(0, .ref h), (1, .int what)] := hl
  refine lv_iconst (v := 0) hx hb dX1_count_0 (by decide) ?_
  refine lv_istore_n (lv' := [(2, .int 0), (0, .ref h), (1, .int what)]) hx hb dX1_count_1 rfl hl (Nat.le_of_ble_eq_true rfl) rfl (fun ls hl => ?_)
  refine lv_iload_n hx hb dX1_count_2 rfl (lv_at hl 2 rfl) ?_
  by_cases s_1 : what = 0
  · refine n_eqi s_1 ?_
    refine lv_tableIn (tgt := 44) (x := 0) hx hb dX1_count_3 (by decide) (by decide) rfl (by decide) ?_
    refine lv_aload_n hx hb dX1_count_44 rfl (lv_at hl 1 rfl) ?_
    refine va_get (D := gD G) (ci := 1) (v := .ref (xa 0)) (C := RX1) (T := TX1) (N := 9) hx hb hts in_X1 hown hK.1 hP 0 rfl rfl 0 (by decide) (hts _ q838) (fun _ h9 => h9) rfl dX1_count_45 ?_
    refine va_get (D := gD G) (ci := 2) (v := .int (r 0)) (C := RX2) (T := TX2) (N := 8) hx hb hts in_X2 hown hK.1 hP 1 rfl rfl 5 (by decide) (hts _ q803) (fun _ h9 => h9) rfl dX1_count_48 ?_
    refine n_eqi (hr) ?_
    exact n_iret (v := nI N) C (by first | (simp [sCountX, s_1]; done) | (simp [sCountX, s_1]; exact hr.symm)) dX1_count_51
  · skip
    by_cases s_2 : what = 1
    · refine n_eqi s_2 ?_
      refine lv_tableIn (tgt := 52) (x := 1) hx hb dX1_count_3 (by decide) (by decide) rfl (by decide) ?_
      refine lv_aload_n hx hb dX1_count_52 rfl (lv_at hl 1 rfl) ?_
      refine va_get (D := gD G) (ci := 1) (v := .ref (xa 0)) (C := RX1) (T := TX1) (N := 9) hx hb hts in_X1 hown hK.1 hP 0 rfl rfl 0 (by decide) (hts _ q838) (fun _ h9 => h9) rfl dX1_count_53 ?_
      refine va_get (D := gD G) (ci := 2) (v := .int (r 1)) (C := RX2) (T := TX2) (N := 8) hx hb hts in_X2 hown hK.1 hP 1 rfl rfl 6 (by decide) (hts _ q805) (fun _ h9 => h9) rfl dX1_count_56 ?_
      exact n_iret (v := r 1) C (by first | (simp [sCountX, s_1, s_2]; done) | (simp [sCountX, s_1, s_2]; exact hr.symm)) dX1_count_59
    · skip
      by_cases s_3 : what = 2
      · refine n_eqi s_3 ?_
        refine lv_tableIn (tgt := 60) (x := 2) hx hb dX1_count_3 (by decide) (by decide) rfl (by decide) ?_
        refine lv_aload_n hx hb dX1_count_60 rfl (lv_at hl 1 rfl) ?_
        refine va_get (D := gD G) (ci := 1) (v := .ref (xa 0)) (C := RX1) (T := TX1) (N := 9) hx hb hts in_X1 hown hK.1 hP 0 rfl rfl 0 (by decide) (hts _ q838) (fun _ h9 => h9) rfl dX1_count_61 ?_
        refine va_get (D := gD G) (ci := 2) (v := .int (r 2)) (C := RX2) (T := TX2) (N := 8) hx hb hts in_X2 hown hK.1 hP 1 rfl rfl 7 (by decide) (hts _ q807) (fun _ h9 => h9) rfl dX1_count_64 ?_
        exact n_iret (v := r 2) C (by first | (simp [sCountX, s_1, s_2, s_3]; done) | (simp [sCountX, s_1, s_2, s_3]; exact hr.symm)) dX1_count_67
      · skip
        by_cases s_4 : what = 3
        · refine n_eqi s_4 ?_
          refine lv_tableIn (tgt := 68) (x := 3) hx hb dX1_count_3 (by decide) (by decide) rfl (by decide) ?_
          refine lv_aload_n hx hb dX1_count_68 rfl (lv_at hl 1 rfl) ?_
          refine c_Vk (rest := []) C (metX1_allHunger l G h xa xi fn gm wh r N (by omega) (hr) (hwk)) 0 (lw_V q711 q713 qs21 q39 q714) (by decide +kernel) ⟨rfl, rfl⟩ ⟨(Nat.le_of_ble_eq_true rfl), (Nat.le_of_ble_eq_true rfl)⟩ (KG.call) (va_recv hK.1 hP (ci := 1) (q0 := 0) rfl rfl) hP (KG.at hK hGP) hl rfl rfl (Nat.le_of_ble_eq_true rfl) ⟨(Nat.le_of_ble_eq_true rfl), (Nat.le_of_ble_eq_true rfl)⟩ dX1_count_69 ?_
          exact n_iret (v := sHun r N) C (by first | (simp [sCountX, s_1, s_2, s_3, s_4]; done) | (simp [sCountX, s_1, s_2, s_3, s_4]; exact hr.symm)) dX1_count_72
        · skip
          by_cases s_5 : what = 4
          · refine n_eqi s_5 ?_
            refine lv_tableIn (tgt := 73) (x := 4) hx hb dX1_count_3 (by decide) (by decide) rfl (by decide) ?_
            refine lv_iconst (v := 0) hx hb dX1_count_73 (by decide) ?_
            refine lv_istore_n (lv' := [(3, .int 0), (2, .int 0), (0, .ref h), (1, .int what)]) hx hb dX1_count_74 rfl hl (Nat.le_of_ble_eq_true rfl) rfl (fun ls hl => ?_)
            suffices hlp_6 : (∀ (n i : Nat), i + n = N → ∀ (ls : Array Slot), lv_has ls 4 [(3, .int (nI i)), (2, .int (cnA r 3 i)), (0, .ref h), (1, .int what)] → W p0_ l e0_ ({ frames := 1, cells := 0, slots := 0, locals := 22 } : Room) s m args below meth c s.heap [] (0) (0) (MQ below (vp_Si (fun rr9 => rr9 = sCountX r N what)) args s 0 0 (fun _ => False)) (F0 m 75 ls [])) by
              exact hlp_6 (N) 0 (by omega) ls (lv_sub hl [0, 1, 2, 3] rfl)
            have hend_6 : ∀ (ls : Array Slot), lv_has ls 4 [(3, .int (nI N)), (2, .int (cnA r 3 N)), (0, .ref h), (1, .int what)] → W p0_ l e0_ ({ frames := 1, cells := 0, slots := 0, locals := 22 } : Room) s m args below meth c s.heap [] (0) (0) (MQ below (vp_Si (fun rr9 => rr9 = sCountX r N what)) args s 0 0 (fun _ => False)) (F0 m 75 ls []) := by
              intro ls hl
              refine lv_iload_n hx hb dX1_count_75 rfl (lv_at hl 0 rfl) ?_
              refine lv_aload_n hx hb dX1_count_76 rfl (lv_at hl 2 rfl) ?_
              refine va_get (D := gD G) (ci := 1) (v := .ref (xa 0)) (C := RX1) (T := TX1) (N := 9) hx hb hts in_X1 hown hK.1 hP 0 rfl rfl 0 (by decide) (hts _ q838) (fun _ h9 => h9) rfl dX1_count_77 ?_
              refine va_get (D := gD G) (ci := 2) (v := .int (r 0)) (C := RX2) (T := TX2) (N := 8) hx hb hts in_X2 hown hK.1 hP 1 rfl rfl 5 (by decide) (hts _ q803) (fun _ h9 => h9) rfl dX1_count_80 ?_
              refine n_eqi (hr) ?_
              refine n_ic_ge (x := N) (y := N) (tgt := 104) hx hb (by omega) (by omega) dX1_count_83 (by decide) (fun c_7 => ?_) (fun c_7 => absurd c_7 (by omega))
              refine lv_iload_n hx hb dX1_count_104 rfl (lv_at hl 1 rfl) ?_
              exact n_iret (v := cnA r 3 N) C (by first | (simp [sCountX, s_1, s_2, s_3, s_4, s_5, c_7]; done) | (simp [sCountX, s_1, s_2, s_3, s_4, s_5, c_7]; exact hr.symm)) dX1_count_105
            intro n
            induction n with
            | zero =>
              intro i hi_6 ls hl
              obtain e_6 : i = N := by omega
              first | (subst e_6; exact hend_6 ls hl) | (rw [e_6] at hl; exact hend_6 ls hl)
            | succ n ih_6 =>
              intro i hi_6 ls hl
              refine lv_iload_n hx hb dX1_count_75 rfl (lv_at hl 0 rfl) ?_
              refine lv_aload_n hx hb dX1_count_76 rfl (lv_at hl 2 rfl) ?_
              refine va_get (D := gD G) (ci := 1) (v := .ref (xa 0)) (C := RX1) (T := TX1) (N := 9) hx hb hts in_X1 hown hK.1 hP 0 rfl rfl 0 (by decide) (hts _ q838) (fun _ h9 => h9) rfl dX1_count_77 ?_
              refine va_get (D := gD G) (ci := 2) (v := .int (r 0)) (C := RX2) (T := TX2) (N := 8) hx hb hts in_X2 hown hK.1 hP 1 rfl rfl 5 (by decide) (hts _ q803) (fun _ h9 => h9) rfl dX1_count_80 ?_
              refine n_eqi (hr) ?_
              refine n_ic_ge (x := i) (y := N) (tgt := 104) hx hb (by omega) (by omega) dX1_count_83 (by decide) (fun c_8 => absurd c_8 (by omega)) (fun c_8 => ?_)
              refine lv_iload_n hx hb dX1_count_86 rfl (lv_at hl 1 rfl) ?_
              refine lv_aload_n hx hb dX1_count_87 rfl (lv_at hl 2 rfl) ?_
              refine va_get (D := gD G) (ci := 1) (v := .ref (xa 0)) (C := RX1) (T := TX1) (N := 9) hx hb hts in_X1 hown hK.1 hP 0 rfl rfl 0 (by decide) (hts _ q838) (fun _ h9 => h9) rfl dX1_count_88 ?_
              refine va_get (D := gD G) (ci := 2) (v := .ref (fn 2)) (C := RX2) (T := TX2) (N := 8) hx hb hts in_X2 hown hK.1 hP 1 rfl rfl 2 (by decide) (hts _ q797) (fun _ h9 => h9) rfl dX1_count_91 ?_
              refine lv_iload_n hx hb dX1_count_94 rfl (lv_at hl 0 rfl) ?_
              refine n_iald C hK.1 hP 4 i rfl (by omega) (by omega) dX1_count_95 ?_
              refine lv_iadd (x := cnA r 3 i) (y := r (3 + 6 * i + 3)) hx hb dX1_count_96 ?_
              refine lv_istore_n (lv' := [(2, .int ((cnA r 3 i) + (r (3 + 6 * i + 3)))), (3, .int (nI i)), (0, .ref h), (1, .int what)]) hx hb dX1_count_97 rfl hl (Nat.le_of_ble_eq_true rfl) rfl (fun ls hl => ?_)
              refine n_iinc (k := 1) (lv' := [(3, .int (nI (i + 1))), (2, .int ((cnA r 3 i) + (r (3 + 6 * i + 3)))), (0, .ref h), (1, .int what)]) hx hb i 1 dX1_count_98 hl rfl (Nat.le_of_ble_eq_true rfl) rfl (fun ls hl => ?_)
              refine lv_goto (tgt := 75) hx hb dX1_count_101 (by decide) ?_
              have e_9 : cnA r 3 (i + 1) = (cnA r 3 i) + (r (3 + 6 * i + 3)) := by simp [cnA, c_8]
              exact ih_6 (i + 1) (by omega) ls (by rw [e_9]; exact lv_sub hl [0, 1, 2, 3] rfl)
          · skip
            by_cases s_10 : what = 5
            · refine n_eqi s_10 ?_
              refine lv_tableIn (tgt := 106) (x := 5) hx hb dX1_count_3 (by decide) (by decide) rfl (by decide) ?_
              refine lv_iconst (v := 0) hx hb dX1_count_106 (by decide) ?_
              refine lv_istore_n (lv' := [(3, .int 0), (2, .int 0), (0, .ref h), (1, .int what)]) hx hb dX1_count_107 rfl hl (Nat.le_of_ble_eq_true rfl) rfl (fun ls hl => ?_)
              suffices hlp_11 : (∀ (n i : Nat), i + n = N → ∀ (ls : Array Slot), lv_has ls 4 [(3, .int (nI i)), (2, .int (cnA r 4 i)), (0, .ref h), (1, .int what)] → W p0_ l e0_ ({ frames := 1, cells := 0, slots := 0, locals := 22 } : Room) s m args below meth c s.heap [] (0) (0) (MQ below (vp_Si (fun rr9 => rr9 = sCountX r N what)) args s 0 0 (fun _ => False)) (F0 m 108 ls [])) by
                exact hlp_11 (N) 0 (by omega) ls (lv_sub hl [0, 1, 2, 3] rfl)
              have hend_11 : ∀ (ls : Array Slot), lv_has ls 4 [(3, .int (nI N)), (2, .int (cnA r 4 N)), (0, .ref h), (1, .int what)] → W p0_ l e0_ ({ frames := 1, cells := 0, slots := 0, locals := 22 } : Room) s m args below meth c s.heap [] (0) (0) (MQ below (vp_Si (fun rr9 => rr9 = sCountX r N what)) args s 0 0 (fun _ => False)) (F0 m 108 ls []) := by
                intro ls hl
                refine lv_iload_n hx hb dX1_count_108 rfl (lv_at hl 0 rfl) ?_
                refine lv_aload_n hx hb dX1_count_109 rfl (lv_at hl 2 rfl) ?_
                refine va_get (D := gD G) (ci := 1) (v := .ref (xa 0)) (C := RX1) (T := TX1) (N := 9) hx hb hts in_X1 hown hK.1 hP 0 rfl rfl 0 (by decide) (hts _ q838) (fun _ h9 => h9) rfl dX1_count_110 ?_
                refine va_get (D := gD G) (ci := 2) (v := .int (r 0)) (C := RX2) (T := TX2) (N := 8) hx hb hts in_X2 hown hK.1 hP 1 rfl rfl 5 (by decide) (hts _ q803) (fun _ h9 => h9) rfl dX1_count_113 ?_
                refine n_eqi (hr) ?_
                refine n_ic_ge (x := N) (y := N) (tgt := 137) hx hb (by omega) (by omega) dX1_count_116 (by decide) (fun c_12 => ?_) (fun c_12 => absurd c_12 (by omega))
                refine lv_iload_n hx hb dX1_count_137 rfl (lv_at hl 1 rfl) ?_
                exact n_iret (v := cnA r 4 N) C (by first | (simp [sCountX, s_1, s_2, s_3, s_4, s_5, s_10, c_12]; done) | (simp [sCountX, s_1, s_2, s_3, s_4, s_5, s_10, c_12]; exact hr.symm)) dX1_count_138
              intro n
              induction n with
              | zero =>
                intro i hi_11 ls hl
                obtain e_11 : i = N := by omega
                first | (subst e_11; exact hend_11 ls hl) | (rw [e_11] at hl; exact hend_11 ls hl)
              | succ n ih_11 =>
                intro i hi_11 ls hl
                refine lv_iload_n hx hb dX1_count_108 rfl (lv_at hl 0 rfl) ?_
                refine lv_aload_n hx hb dX1_count_109 rfl (lv_at hl 2 rfl) ?_
                refine va_get (D := gD G) (ci := 1) (v := .ref (xa 0)) (C := RX1) (T := TX1) (N := 9) hx hb hts in_X1 hown hK.1 hP 0 rfl rfl 0 (by decide) (hts _ q838) (fun _ h9 => h9) rfl dX1_count_110 ?_
                refine va_get (D := gD G) (ci := 2) (v := .int (r 0)) (C := RX2) (T := TX2) (N := 8) hx hb hts in_X2 hown hK.1 hP 1 rfl rfl 5 (by decide) (hts _ q803) (fun _ h9 => h9) rfl dX1_count_113 ?_
                refine n_eqi (hr) ?_
                refine n_ic_ge (x := i) (y := N) (tgt := 137) hx hb (by omega) (by omega) dX1_count_116 (by decide) (fun c_13 => absurd c_13 (by omega)) (fun c_13 => ?_)
                refine lv_iload_n hx hb dX1_count_119 rfl (lv_at hl 1 rfl) ?_
                refine lv_aload_n hx hb dX1_count_120 rfl (lv_at hl 2 rfl) ?_
                refine va_get (D := gD G) (ci := 1) (v := .ref (xa 0)) (C := RX1) (T := TX1) (N := 9) hx hb hts in_X1 hown hK.1 hP 0 rfl rfl 0 (by decide) (hts _ q838) (fun _ h9 => h9) rfl dX1_count_121 ?_
                refine va_get (D := gD G) (ci := 2) (v := .ref (fn 3)) (C := RX2) (T := TX2) (N := 8) hx hb hts in_X2 hown hK.1 hP 1 rfl rfl 3 (by decide) (hts _ q799) (fun _ h9 => h9) rfl dX1_count_124 ?_
                refine lv_iload_n hx hb dX1_count_127 rfl (lv_at hl 0 rfl) ?_
                refine n_iald C hK.1 hP 5 i rfl (by omega) (by omega) dX1_count_128 ?_
                refine lv_iadd (x := cnA r 4 i) (y := r (3 + 6 * i + 4)) hx hb dX1_count_129 ?_
                refine lv_istore_n (lv' := [(2, .int ((cnA r 4 i) + (r (3 + 6 * i + 4)))), (3, .int (nI i)), (0, .ref h), (1, .int what)]) hx hb dX1_count_130 rfl hl (Nat.le_of_ble_eq_true rfl) rfl (fun ls hl => ?_)
                refine n_iinc (k := 1) (lv' := [(3, .int (nI (i + 1))), (2, .int ((cnA r 4 i) + (r (3 + 6 * i + 4)))), (0, .ref h), (1, .int what)]) hx hb i 1 dX1_count_131 hl rfl (Nat.le_of_ble_eq_true rfl) rfl (fun ls hl => ?_)
                refine lv_goto (tgt := 108) hx hb dX1_count_134 (by decide) ?_
                have e_14 : cnA r 4 (i + 1) = (cnA r 4 i) + (r (3 + 6 * i + 4)) := by simp [cnA, c_13]
                exact ih_11 (i + 1) (by omega) ls (by rw [e_14]; exact lv_sub hl [0, 1, 2, 3] rfl)
            · skip
              by_cases s_15 : what = 6
              · refine n_eqi s_15 ?_
                refine lv_tableIn (tgt := 139) (x := 6) hx hb dX1_count_3 (by decide) (by decide) rfl (by decide) ?_
                refine lv_iconst (v := 0) hx hb dX1_count_139 (by decide) ?_
                refine lv_istore_n (lv' := [(3, .int 0), (2, .int 0), (0, .ref h), (1, .int what)]) hx hb dX1_count_140 rfl hl (Nat.le_of_ble_eq_true rfl) rfl (fun ls hl => ?_)
                suffices hlp_16 : (∀ (n i : Nat), i + n = N → ∀ (ls : Array Slot), lv_has ls 4 [(3, .int (nI i)), (2, .int (cnOr r i)), (0, .ref h), (1, .int what)] → W p0_ l e0_ ({ frames := 1, cells := 0, slots := 0, locals := 22 } : Room) s m args below meth c s.heap [] (0) (0) (MQ below (vp_Si (fun rr9 => rr9 = sCountX r N what)) args s 0 0 (fun _ => False)) (F0 m 141 ls [])) by
                  exact hlp_16 (N) 0 (by omega) ls (lv_sub hl [0, 1, 2, 3] rfl)
                have hend_16 : ∀ (ls : Array Slot), lv_has ls 4 [(3, .int (nI N)), (2, .int (cnOr r N)), (0, .ref h), (1, .int what)] → W p0_ l e0_ ({ frames := 1, cells := 0, slots := 0, locals := 22 } : Room) s m args below meth c s.heap [] (0) (0) (MQ below (vp_Si (fun rr9 => rr9 = sCountX r N what)) args s 0 0 (fun _ => False)) (F0 m 141 ls []) := by
                  intro ls hl
                  refine lv_iload_n hx hb dX1_count_141 rfl (lv_at hl 0 rfl) ?_
                  refine lv_aload_n hx hb dX1_count_142 rfl (lv_at hl 2 rfl) ?_
                  refine va_get (D := gD G) (ci := 1) (v := .ref (xa 0)) (C := RX1) (T := TX1) (N := 9) hx hb hts in_X1 hown hK.1 hP 0 rfl rfl 0 (by decide) (hts _ q838) (fun _ h9 => h9) rfl dX1_count_143 ?_
                  refine va_get (D := gD G) (ci := 2) (v := .int (r 0)) (C := RX2) (T := TX2) (N := 8) hx hb hts in_X2 hown hK.1 hP 1 rfl rfl 5 (by decide) (hts _ q803) (fun _ h9 => h9) rfl dX1_count_146 ?_
                  refine n_eqi (hr) ?_
                  refine n_ic_ge (x := N) (y := N) (tgt := 180) hx hb (by omega) (by omega) dX1_count_149 (by decide) (fun c_17 => ?_) (fun c_17 => absurd c_17 (by omega))
                  refine lv_iload_n hx hb dX1_count_180 rfl (lv_at hl 1 rfl) ?_
                  exact n_iret (v := cnOr r N) C (by first | (simp [sCountX, s_1, s_2, s_3, s_4, s_5, s_10, s_15, c_17]; done) | (simp [sCountX, s_1, s_2, s_3, s_4, s_5, s_10, s_15, c_17]; exact hr.symm)) dX1_count_181
                intro n
                induction n with
                | zero =>
                  intro i hi_16 ls hl
                  obtain e_16 : i = N := by omega
                  first | (subst e_16; exact hend_16 ls hl) | (rw [e_16] at hl; exact hend_16 ls hl)
                | succ n ih_16 =>
                  intro i hi_16 ls hl
                  refine lv_iload_n hx hb dX1_count_141 rfl (lv_at hl 0 rfl) ?_
                  refine lv_aload_n hx hb dX1_count_142 rfl (lv_at hl 2 rfl) ?_
                  refine va_get (D := gD G) (ci := 1) (v := .ref (xa 0)) (C := RX1) (T := TX1) (N := 9) hx hb hts in_X1 hown hK.1 hP 0 rfl rfl 0 (by decide) (hts _ q838) (fun _ h9 => h9) rfl dX1_count_143 ?_
                  refine va_get (D := gD G) (ci := 2) (v := .int (r 0)) (C := RX2) (T := TX2) (N := 8) hx hb hts in_X2 hown hK.1 hP 1 rfl rfl 5 (by decide) (hts _ q803) (fun _ h9 => h9) rfl dX1_count_146 ?_
                  refine n_eqi (hr) ?_
                  refine n_ic_ge (x := i) (y := N) (tgt := 180) hx hb (by omega) (by omega) dX1_count_149 (by decide) (fun c_18 => absurd c_18 (by omega)) (fun c_18 => ?_)
                  refine lv_iload_n hx hb dX1_count_152 rfl (lv_at hl 1 rfl) ?_
                  refine lv_aload_n hx hb dX1_count_153 rfl (lv_at hl 2 rfl) ?_
                  refine va_get (D := gD G) (ci := 1) (v := .ref (xa 0)) (C := RX1) (T := TX1) (N := 9) hx hb hts in_X1 hown hK.1 hP 0 rfl rfl 0 (by decide) (hts _ q838) (fun _ h9 => h9) rfl dX1_count_154 ?_
                  refine va_get (D := gD G) (ci := 2) (v := .ref (fn 3)) (C := RX2) (T := TX2) (N := 8) hx hb hts in_X2 hown hK.1 hP 1 rfl rfl 3 (by decide) (hts _ q799) (fun _ h9 => h9) rfl dX1_count_157 ?_
                  refine lv_iload_n hx hb dX1_count_160 rfl (lv_at hl 0 rfl) ?_
                  refine n_iald C hK.1 hP 5 i rfl (by omega) (by omega) dX1_count_161 ?_
                  refine lv_if_ne (x := r (3 + 6 * i + 4)) (tgt := 171) hx hb dX1_count_162 (by decide) (fun c_19 => ?_) (fun c_19 => ?_)
                  · refine lv_iconst (v := 0) hx hb dX1_count_171 (by decide) ?_
                    refine lv_ior (x := cnOr r i) (y := 0) hx hb dX1_count_172 ?_
                    refine lv_istore_n (lv' := [(2, .int ((cnOr r i) ||| 0)), (3, .int (nI i)), (0, .ref h), (1, .int what)]) hx hb dX1_count_173 rfl hl (Nat.le_of_ble_eq_true rfl) rfl (fun ls hl => ?_)
                    refine n_iinc (k := 1) (lv' := [(3, .int (nI (i + 1))), (2, .int ((cnOr r i) ||| 0)), (0, .ref h), (1, .int what)]) hx hb i 1 dX1_count_174 hl rfl (Nat.le_of_ble_eq_true rfl) rfl (fun ls hl => ?_)
                    refine lv_goto (tgt := 141) hx hb dX1_count_177 (by decide) ?_
                    have e_20 : cnOr r (i + 1) = (cnOr r i) ||| 0 := by simp [cnOr, c_18, c_19]
                    exact ih_16 (i + 1) (by omega) ls (by rw [e_20]; exact lv_sub hl [0, 1, 2, 3] rfl)
                  · refine lv_iconst (v := 1) hx hb dX1_count_165 (by decide) ?_
                    refine lv_iload_n hx hb dX1_count_166 rfl (lv_at hl 0 rfl) ?_
                    refine lv_ishl (x := 1) (y := nI i) hx hb dX1_count_167 ?_
                    refine lv_goto (tgt := 172) hx hb dX1_count_168 (by decide) ?_
                    refine lv_ior (x := cnOr r i) (y := 1 <<< ((nI i) &&& 31)) hx hb dX1_count_172 ?_
                    refine lv_istore_n (lv' := [(2, .int ((cnOr r i) ||| (1 <<< ((nI i) &&& 31)))), (3, .int (nI i)), (0, .ref h), (1, .int what)]) hx hb dX1_count_173 rfl hl (Nat.le_of_ble_eq_true rfl) rfl (fun ls hl => ?_)
                    refine n_iinc (k := 1) (lv' := [(3, .int (nI (i + 1))), (2, .int ((cnOr r i) ||| (1 <<< ((nI i) &&& 31)))), (0, .ref h), (1, .int what)]) hx hb i 1 dX1_count_174 hl rfl (Nat.le_of_ble_eq_true rfl) rfl (fun ls hl => ?_)
                    refine lv_goto (tgt := 141) hx hb dX1_count_177 (by decide) ?_
                    have e_21 : cnOr r (i + 1) = (cnOr r i) ||| (1 <<< ((nI i) &&& 31)) := by simp [cnOr, c_18, c_19]
                    exact ih_16 (i + 1) (by omega) ls (by rw [e_21]; exact lv_sub hl [0, 1, 2, 3] rfl)
              · skip
                have ts_1 := lv_neT (a := 0) s_1 rfl
                have ts_2 := lv_neT (a := 1) s_2 rfl
                have ts_3 := lv_neT (a := 2) s_3 rfl
                have ts_4 := lv_neT (a := 3) s_4 rfl
                have ts_5 := lv_neT (a := 4) s_5 rfl
                have ts_10 := lv_neT (a := 5) s_10 rfl
                have ts_15 := lv_neT (a := 6) s_15 rfl
                refine lv_tableOut (tgt := 182) (x := what) hx hb dX1_count_3 (by omega) (by decide) ?_
                refine lv_iconst (v := (-1)) hx hb dX1_count_182 (by decide) ?_
                exact n_iret (v := (-1)) C (by first | (simp [sCountX, s_1, s_2, s_3, s_4, s_5, s_10, s_15]; done) | (simp [sCountX, s_1, s_2, s_3, s_4, s_5, s_10, s_15]; exact hr.symm)) dX1_count_183

set_option maxHeartbeats 4000000 in
set_option maxRecDepth 100000 in
theorem metX1_joyless (l : Launch) (G : GG) (h : Nat) (xa : Nat → Nat) (xi : Nat → Int32) (fn : Nat → Nat) (gm : GM) (wh : Nat → Option Nat) (r : Nat → Int32) (N : Nat) (hN : N ≤ 8) (hr : r 0 = nI N) (hwk : WK gm wh r N) : MR l yX1_joyless cX1_joyless 4 (some .int) ({ frames := 9, cells := 0, slots := 0, locals := 265 }) [.ref h] [(h, xO xa xi), (xa 0, fO fn r), (fn 0, qA G 3 9 wh), (fn 1, iA G 9 (fA r 2)), (fn 2, iA G 9 (fA r 3)), (fn 3, iA G 9 (fA r 4)), (fn 4, iA G 9 (fA r 5))] G (KG G gm) (jlO r N N) := by
  -- rows printed by wip/tools/gen.py
  refine mr_mk RX1 (by decide) rfl (Nat.le_of_ble_eq_true rfl) ?_
  intro p0_ e0_ s m args below meth c C hP hK ls hl
  have hGP := hK.2
  have hK := hK.1
  have hx := C.1
  have hb := C.2.1
  have hml := C.2.2.2.2.1
  have hown := C.2.2.2.2.2.1
  have hts := C.2.2.2.2.2.2
  have hl : lv_has ls 4 [(0, .ref h)] := hl
  refine lv_iconst (v := 0) hx hb dX1_joyless_0 (by decide) ?_
  refine lv_istore_n (lv' := [(1, .int 0), (0, .ref h)]) hx hb dX1_joyless_1 rfl hl (Nat.le_of_ble_eq_true rfl) rfl (fun ls hl => ?_)
  refine lv_iconst (v := 0) hx hb dX1_joyless_2 (by decide) ?_
  refine lv_istore_n (lv' := [(2, .int 0), (1, .int 0), (0, .ref h)]) hx hb dX1_joyless_3 rfl hl (Nat.le_of_ble_eq_true rfl) rfl (fun ls hl => ?_)
  suffices hlp_1 : (∀ (n i : Nat), i + n = N → ∀ (ls : Array Slot), lv_has ls 4 [(2, .int (nI i)), (1, .int (jlO r N i)), (0, .ref h)] → W p0_ l e0_ ({ frames := 9, cells := 0, slots := 0, locals := 265 } : Room) s m args below meth c s.heap [] (0) (0) (MQ below (vp_Si (fun rr9 => rr9 = jlO r N N)) args s 0 0 (fun _ => False)) (F0 m 4 ls [])) by
    exact hlp_1 (N) 0 (by omega) ls (lv_sub hl [0, 1, 2] rfl)
  have hend_1 : ∀ (ls : Array Slot), lv_has ls 4 [(2, .int (nI N)), (1, .int (jlO r N N)), (0, .ref h)] → W p0_ l e0_ ({ frames := 9, cells := 0, slots := 0, locals := 265 } : Room) s m args below meth c s.heap [] (0) (0) (MQ below (vp_Si (fun rr9 => rr9 = jlO r N N)) args s 0 0 (fun _ => False)) (F0 m 4 ls []) := by
    intro ls hl
    refine lv_iload_n hx hb dX1_joyless_4 rfl (lv_at hl 0 rfl) ?_
    refine lv_aload_n hx hb dX1_joyless_5 rfl (lv_at hl 2 rfl) ?_
    refine va_get (D := gD G) (ci := 1) (v := .ref (xa 0)) (C := RX1) (T := TX1) (N := 9) hx hb hts in_X1 hown hK.1 hP 0 rfl rfl 0 (by decide) (hts _ q838) (fun _ h9 => h9) rfl dX1_joyless_6 ?_
    refine va_get (D := gD G) (ci := 2) (v := .int (r 0)) (C := RX2) (T := TX2) (N := 8) hx hb hts in_X2 hown hK.1 hP 1 rfl rfl 5 (by decide) (hts _ q803) (fun _ h9 => h9) rfl dX1_joyless_9 ?_
    refine n_eqi (hr) ?_
    refine n_ic_ge (x := N) (y := N) (tgt := 72) hx hb (by omega) (by omega) dX1_joyless_12 (by decide) (fun c_2 => ?_) (fun c_2 => absurd c_2 (by omega))
    refine lv_iload_n hx hb dX1_joyless_72 rfl (lv_at hl 1 rfl) ?_
    exact n_iret (v := jlO r N N) C (rfl) dX1_joyless_73
  intro n
  induction n with
  | zero =>
    intro i hi_1 ls hl
    obtain e_1 : i = N := by omega
    first | (subst e_1; exact hend_1 ls hl) | (rw [e_1] at hl; exact hend_1 ls hl)
  | succ n ih_1 =>
    intro i hi_1 ls hl
    refine lv_iload_n hx hb dX1_joyless_4 rfl (lv_at hl 0 rfl) ?_
    refine lv_aload_n hx hb dX1_joyless_5 rfl (lv_at hl 2 rfl) ?_
    refine va_get (D := gD G) (ci := 1) (v := .ref (xa 0)) (C := RX1) (T := TX1) (N := 9) hx hb hts in_X1 hown hK.1 hP 0 rfl rfl 0 (by decide) (hts _ q838) (fun _ h9 => h9) rfl dX1_joyless_6 ?_
    refine va_get (D := gD G) (ci := 2) (v := .int (r 0)) (C := RX2) (T := TX2) (N := 8) hx hb hts in_X2 hown hK.1 hP 1 rfl rfl 5 (by decide) (hts _ q803) (fun _ h9 => h9) rfl dX1_joyless_9 ?_
    refine n_eqi (hr) ?_
    refine n_ic_ge (x := i) (y := N) (tgt := 72) hx hb (by omega) (by omega) dX1_joyless_12 (by decide) (fun c_3 => absurd c_3 (by omega)) (fun c_3 => ?_)
    refine lv_iconst (v := 0) hx hb dX1_joyless_15 (by decide) ?_
    refine lv_istore_n (lv' := [(3, .int 0), (2, .int (nI i)), (1, .int (jlO r N i)), (0, .ref h)]) hx hb dX1_joyless_16 rfl hl (Nat.le_of_ble_eq_true rfl) rfl (fun ls hl => ?_)
    suffices hlp_4 : (∀ (n j : Nat), j + n = N → ∀ (ls : Array Slot), lv_has ls 4 [(3, .int (nI j)), (2, .int (nI i)), (1, .int (jlI r i (jlO r N i) j)), (0, .ref h)] → W p0_ l e0_ ({ frames := 9, cells := 0, slots := 0, locals := 265 } : Room) s m args below meth c s.heap [] (0) (0) (MQ below (vp_Si (fun rr9 => rr9 = jlO r N N)) args s 0 0 (fun _ => False)) (F0 m 17 ls [])) by
      exact hlp_4 (N) 0 (by omega) ls (lv_sub hl [0, 1, 2, 3] rfl)
    have hend_4 : ∀ (ls : Array Slot), lv_has ls 4 [(3, .int (nI N)), (2, .int (nI i)), (1, .int (jlI r i (jlO r N i) N)), (0, .ref h)] → W p0_ l e0_ ({ frames := 9, cells := 0, slots := 0, locals := 265 } : Room) s m args below meth c s.heap [] (0) (0) (MQ below (vp_Si (fun rr9 => rr9 = jlO r N N)) args s 0 0 (fun _ => False)) (F0 m 17 ls []) := by
      intro ls hl
      refine lv_iload_n hx hb dX1_joyless_17 rfl (lv_at hl 0 rfl) ?_
      refine lv_aload_n hx hb dX1_joyless_18 rfl (lv_at hl 3 rfl) ?_
      refine va_get (D := gD G) (ci := 1) (v := .ref (xa 0)) (C := RX1) (T := TX1) (N := 9) hx hb hts in_X1 hown hK.1 hP 0 rfl rfl 0 (by decide) (hts _ q838) (fun _ h9 => h9) rfl dX1_joyless_19 ?_
      refine va_get (D := gD G) (ci := 2) (v := .int (r 0)) (C := RX2) (T := TX2) (N := 8) hx hb hts in_X2 hown hK.1 hP 1 rfl rfl 5 (by decide) (hts _ q803) (fun _ h9 => h9) rfl dX1_joyless_22 ?_
      refine n_eqi (hr) ?_
      refine n_ic_ge (x := N) (y := N) (tgt := 66) hx hb (by omega) (by omega) dX1_joyless_25 (by decide) (fun c_5 => ?_) (fun c_5 => absurd c_5 (by omega))
      refine n_iinc (k := 1) (lv' := [(2, .int (nI (i + 1))), (3, .int (nI N)), (1, .int (jlI r i (jlO r N i) N)), (0, .ref h)]) hx hb i 1 dX1_joyless_66 hl rfl (Nat.le_of_ble_eq_true rfl) rfl (fun ls hl => ?_)
      refine lv_goto (tgt := 4) hx hb dX1_joyless_69 (by decide) ?_
      have e_6 : jlO r N (i + 1) = jlI r i (jlO r N i) N := by rfl
      exact ih_1 (i + 1) (by omega) ls (by rw [e_6]; exact lv_sub hl [0, 2, 3] rfl)
    intro n
    induction n with
    | zero =>
      intro j hi_4 ls hl
      obtain e_4 : j = N := by omega
      first | (subst e_4; exact hend_4 ls hl) | (rw [e_4] at hl; exact hend_4 ls hl)
    | succ n ih_4 =>
      intro j hi_4 ls hl
      refine lv_iload_n hx hb dX1_joyless_17 rfl (lv_at hl 0 rfl) ?_
      refine lv_aload_n hx hb dX1_joyless_18 rfl (lv_at hl 3 rfl) ?_
      refine va_get (D := gD G) (ci := 1) (v := .ref (xa 0)) (C := RX1) (T := TX1) (N := 9) hx hb hts in_X1 hown hK.1 hP 0 rfl rfl 0 (by decide) (hts _ q838) (fun _ h9 => h9) rfl dX1_joyless_19 ?_
      refine va_get (D := gD G) (ci := 2) (v := .int (r 0)) (C := RX2) (T := TX2) (N := 8) hx hb hts in_X2 hown hK.1 hP 1 rfl rfl 5 (by decide) (hts _ q803) (fun _ h9 => h9) rfl dX1_joyless_22 ?_
      refine n_eqi (hr) ?_
      refine n_ic_ge (x := j) (y := N) (tgt := 66) hx hb (by omega) (by omega) dX1_joyless_25 (by decide) (fun c_7 => absurd c_7 (by omega)) (fun c_7 => ?_)
      refine lv_iload_n hx hb dX1_joyless_28 rfl (lv_at hl 2 rfl) ?_
      refine lv_aload_n hx hb dX1_joyless_29 rfl (lv_at hl 3 rfl) ?_
      refine va_get (D := gD G) (ci := 1) (v := .ref (xa 0)) (C := RX1) (T := TX1) (N := 9) hx hb hts in_X1 hown hK.1 hP 0 rfl rfl 0 (by decide) (hts _ q838) (fun _ h9 => h9) rfl dX1_joyless_30 ?_
      refine lv_iload_n hx hb dX1_joyless_33 rfl (lv_at hl 1 rfl) ?_
      refine lv_iload_n hx hb dX1_joyless_34 rfl (lv_at hl 0 rfl) ?_
      refine c_Vk (rest := [.int (jlI r i (jlO r N i) j)]) C (metX2_canEatN l G (xa 0) fn gm wh r N i j (by omega) (hr) (hwk) (by omega) (by omega)) 2 (lw_V q367 q368 q369 q40 q370) (by decide +kernel) ⟨rfl, rfl⟩ ⟨(Nat.le_of_ble_eq_true rfl), (Nat.le_of_ble_eq_true rfl)⟩ (KG.call) (va_recv hK.1 hP (ci := 2) (q0 := 1) rfl rfl) (hP.sub (ws' := [(xa 0, fO fn r), (fn 0, qA G 3 9 wh), (fn 1, iA G 9 (fA r 2)), (fn 2, iA G 9 (fA r 3)), (fn 3, iA G 9 (fA r 4)), (fn 4, iA G 9 (fA r 5))]) [1, 2, 3, 4, 5, 6] rfl) (KG.at hK hGP) hl rfl rfl (Nat.le_of_ble_eq_true rfl) ⟨(Nat.le_of_ble_eq_true rfl), (Nat.le_of_ble_eq_true rfl)⟩ dX1_joyless_35 ?_
      refine n_if_eqB (b := (sEat r i j)) (tgt := 57) hx hb dX1_joyless_38 (by decide) (fun c_8 => ?_) (fun c_8 => ?_)
      · refine lv_iconst (v := 0) hx hb dX1_joyless_57 (by decide) ?_
        refine lv_iadd (x := jlI r i (jlO r N i) j) (y := 0) hx hb dX1_joyless_58 ?_
        refine lv_istore_n (lv' := [(1, .int ((jlI r i (jlO r N i) j) + 0)), (3, .int (nI j)), (2, .int (nI i)), (0, .ref h)]) hx hb dX1_joyless_59 rfl hl (Nat.le_of_ble_eq_true rfl) rfl (fun ls hl => ?_)
        refine n_iinc (k := 1) (lv' := [(3, .int (nI (j + 1))), (1, .int ((jlI r i (jlO r N i) j) + 0)), (2, .int (nI i)), (0, .ref h)]) hx hb j 1 dX1_joyless_60 hl rfl (Nat.le_of_ble_eq_true rfl) rfl (fun ls hl => ?_)
        refine lv_goto (tgt := 17) hx hb dX1_joyless_63 (by decide) ?_
        have e_9 : jlI r i (jlO r N i) (j + 1) = (jlI r i (jlO r N i) j) + 0 := by simp [jlI, c_7, c_8]
        exact ih_4 (j + 1) (by omega) ls (by rw [e_9]; exact lv_sub hl [0, 2, 1, 3] rfl)
      · refine lv_aload_n hx hb dX1_joyless_41 rfl (lv_at hl 3 rfl) ?_
        refine va_get (D := gD G) (ci := 1) (v := .ref (xa 0)) (C := RX1) (T := TX1) (N := 9) hx hb hts in_X1 hown hK.1 hP 0 rfl rfl 0 (by decide) (hts _ q838) (fun _ h9 => h9) rfl dX1_joyless_42 ?_
        refine lv_iload_n hx hb dX1_joyless_45 rfl (lv_at hl 1 rfl) ?_
        refine lv_iload_n hx hb dX1_joyless_46 rfl (lv_at hl 0 rfl) ?_
        refine c_Vk (rest := [.int (jlI r i (jlO r N i) j)]) C (metX2_joys l G (xa 0) fn gm wh r N i j (by omega) (hr) (hwk) (by omega) (by omega)) 2 (lw_V q550 q403 q404 q40 q405) (by decide +kernel) ⟨rfl, rfl⟩ ⟨(Nat.le_of_ble_eq_true rfl), (Nat.le_of_ble_eq_true rfl)⟩ (KG.call) (va_recv hK.1 hP (ci := 2) (q0 := 1) rfl rfl) (hP.sub (ws' := [(xa 0, fO fn r), (fn 0, qA G 3 9 wh), (fn 1, iA G 9 (fA r 2)), (fn 2, iA G 9 (fA r 3)), (fn 3, iA G 9 (fA r 4)), (fn 4, iA G 9 (fA r 5))]) [1, 2, 3, 4, 5, 6] rfl) (KG.at hK hGP) hl rfl rfl (Nat.le_of_ble_eq_true rfl) ⟨(Nat.le_of_ble_eq_true rfl), (Nat.le_of_ble_eq_true rfl)⟩ dX1_joyless_47 ?_
        refine lv_if_ne (x := sJoy r i j) (tgt := 57) hx hb dX1_joyless_50 (by decide) (fun c_10 => ?_) (fun c_10 => ?_)
        · refine lv_iconst (v := 0) hx hb dX1_joyless_57 (by decide) ?_
          refine lv_iadd (x := jlI r i (jlO r N i) j) (y := 0) hx hb dX1_joyless_58 ?_
          refine lv_istore_n (lv' := [(1, .int ((jlI r i (jlO r N i) j) + 0)), (3, .int (nI j)), (2, .int (nI i)), (0, .ref h)]) hx hb dX1_joyless_59 rfl hl (Nat.le_of_ble_eq_true rfl) rfl (fun ls hl => ?_)
          refine n_iinc (k := 1) (lv' := [(3, .int (nI (j + 1))), (1, .int ((jlI r i (jlO r N i) j) + 0)), (2, .int (nI i)), (0, .ref h)]) hx hb j 1 dX1_joyless_60 hl rfl (Nat.le_of_ble_eq_true rfl) rfl (fun ls hl => ?_)
          refine lv_goto (tgt := 17) hx hb dX1_joyless_63 (by decide) ?_
          have e_11 : jlI r i (jlO r N i) (j + 1) = (jlI r i (jlO r N i) j) + 0 := by simp [jlI, c_7, c_8, c_10]
          exact ih_4 (j + 1) (by omega) ls (by rw [e_11]; exact lv_sub hl [0, 2, 1, 3] rfl)
        · refine lv_iconst (v := 1) hx hb dX1_joyless_53 (by decide) ?_
          refine lv_goto (tgt := 58) hx hb dX1_joyless_54 (by decide) ?_
          refine lv_iadd (x := jlI r i (jlO r N i) j) (y := 1) hx hb dX1_joyless_58 ?_
          refine lv_istore_n (lv' := [(1, .int ((jlI r i (jlO r N i) j) + 1)), (3, .int (nI j)), (2, .int (nI i)), (0, .ref h)]) hx hb dX1_joyless_59 rfl hl (Nat.le_of_ble_eq_true rfl) rfl (fun ls hl => ?_)
          refine n_iinc (k := 1) (lv' := [(3, .int (nI (j + 1))), (1, .int ((jlI r i (jlO r N i) j) + 1)), (2, .int (nI i)), (0, .ref h)]) hx hb j 1 dX1_joyless_60 hl rfl (Nat.le_of_ble_eq_true rfl) rfl (fun ls hl => ?_)
          refine lv_goto (tgt := 17) hx hb dX1_joyless_63 (by decide) ?_
          have e_12 : jlI r i (jlO r N i) (j + 1) = (jlI r i (jlO r N i) j) + 1 := by simp [jlI, c_7, c_8, c_10]
          exact ih_4 (j + 1) (by omega) ls (by rw [e_12]; exact lv_sub hl [0, 2, 1, 3] rfl)
