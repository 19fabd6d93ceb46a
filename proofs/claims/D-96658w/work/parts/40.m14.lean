set_option maxHeartbeats 4000000 in
set_option maxRecDepth 100000 in
theorem metX1_isIn (l : Launch) (G : GG) (v lo hi : Int32) : MR l yX1_isIn cX1_isIn 3 (some .boolean) ({ frames := 0, cells := 0, slots := 0, locals := 0 }) [.int v, .int lo, .int hi] [] G (KM G) (bI (sIn v lo hi)) := by
  -- rows printed by wip/tools/gen.py
  refine mr_mk RX1 (by decide) rfl (Nat.le_of_ble_eq_true rfl) ?_
  intro p0_ e0_ s m args below meth c C hP hK ls hl
  have hx := C.1
  have hb := C.2.1
  have hml := C.2.2.2.2.1
  have hown := C.2.2.2.2.2.1
  have hts := C.2.2.2.2.2.2
  have hl : lv_has ls 3 [(0, .int v), (1, .int lo), (2, .int hi)] := hl
  refine lv_iload_n hx hb dX1_isIn_0 rfl (lv_at hl 0 rfl) ?_
  refine lv_iload_n hx hb dX1_isIn_1 rfl (lv_at hl 1 rfl) ?_
  refine lv_icmp_lt (x := v) (y := lo) (tgt := 14) hx hb dX1_isIn_2 (by decide) (fun c_1 => ?_) (fun c_1 => ?_)
  · have zc_1 : ¬ lo ≤ v := Int32.not_le.mpr c_1
    refine lv_iconst (v := 0) hx hb dX1_isIn_14 (by decide) ?_
    exact n_zret (v := false) C (by simp [sIn, c_1, zc_1]) dX1_isIn_15
  · have zc_1 : lo ≤ v := Int32.not_lt.mp c_1
    refine lv_iload_n hx hb dX1_isIn_5 rfl (lv_at hl 0 rfl) ?_
    refine lv_iload_n hx hb dX1_isIn_6 rfl (lv_at hl 2 rfl) ?_
    refine lv_icmp_gt (x := v) (y := hi) (tgt := 14) hx hb dX1_isIn_7 (by decide) (fun c_2 => ?_) (fun c_2 => ?_)
    · have zc_2 : ¬ v ≤ hi := Int32.not_le.mpr c_2
      refine lv_iconst (v := 0) hx hb dX1_isIn_14 (by decide) ?_
      exact n_zret (v := false) C (by simp [sIn, c_1, zc_1, c_2, zc_2]) dX1_isIn_15
    · have zc_2 : v ≤ hi := Int32.not_lt.mp c_2
      refine lv_iconst (v := 1) hx hb dX1_isIn_10 (by decide) ?_
      refine lv_goto (tgt := 15) hx hb dX1_isIn_11 (by decide) ?_
      exact n_zret (v := true) C (by simp [sIn, c_1, zc_1, c_2, zc_2]) dX1_isIn_15

set_option maxHeartbeats 4000000 in
set_option maxRecDepth 100000 in
theorem metX2_isOne (l : Launch) (G : GG) (f : Nat) (fd : Nat → Nat) (r : Nat → Int32) (N : Nat) (p : Int32) (hr : r 0 = nI N) : MR l yX2_isOne cX2_isOne 2 (some .boolean) ({ frames := 1, cells := 0, slots := 0, locals := 22 }) [.ref f, .int p] [(f, fO fd r)] G (KX G) (bI (sPer N p)) := by
  -- rows printed by wip/tools/gen.py
  refine mr_mk RX2 (by decide) rfl (Nat.le_of_ble_eq_true rfl) ?_
  intro p0_ e0_ s m args below meth c C hP hK ls hl
  have hx := C.1
  have hb := C.2.1
  have hml := C.2.2.2.2.1
  have hown := C.2.2.2.2.2.1
  have hts := C.2.2.2.2.2.2
  have hl : lv_has ls 2 [(0, .ref f), (1, .int p)] := hl
  refine lv_iload_n hx hb dX2_isOne_0 rfl (lv_at hl 1 rfl) ?_
  refine lv_iconst (v := 0) hx hb dX2_isOne_1 (by decide) ?_
  refine lv_aload_n hx hb dX2_isOne_2 rfl (lv_at hl 0 rfl) ?_
  refine va_get (D := gD G) (ci := 2) (v := .int (r 0)) (C := RX2) (T := TX2) (N := 8) hx hb hts in_X2 hown hK.1 hP 0 rfl rfl 5 (by decide) (hts _ q802) (fun _ h9 => h9) rfl dX2_isOne_3 ?_
  refine n_eqi (hr) ?_
  refine lv_iconst (v := 1) hx hb dX2_isOne_6 (by decide) ?_
  refine lv_isub (x := nI N) (y := 1) hx hb dX2_isOne_7 ?_
  refine c_SNk (rest := []) C (metX1_isIn l G p 0 ((nI N) - 1)) 3 (host := "CakesToTheWatched") (hK.2.2.2.2.2.1 ("CakesToTheWatched$Fete", 50, ⟨"CakesToTheWatched", "isIn", "(III)Z"⟩, "CakesToTheWatched") (by decide +kernel)) q173 q172 q39 (by decide +kernel) ⟨rfl, rfl⟩ ⟨(Nat.le_of_ble_eq_true rfl), (Nat.le_of_ble_eq_true rfl)⟩ ((fun _ _ _ _ h => (KM_mv G).2 _ _ _ _ h)) (hP.sub (ws' := []) [] rfl) (fun _ _ hW => (KM_mv G).1 _ _ hW hK.1) hl rfl rfl (Nat.le_of_ble_eq_true rfl) ⟨(Nat.le_of_ble_eq_true rfl), (Nat.le_of_ble_eq_true rfl)⟩ dX2_isOne_8 ?_
  exact n_zret (v := (sIn p 0 ((nI N) - 1))) C (rfl) dX2_isOne_11

set_option maxHeartbeats 4000000 in
set_option maxRecDepth 100000 in
theorem metX2_areTwo (l : Launch) (G : GG) (f : Nat) (fd : Nat → Nat) (r : Nat → Int32) (N : Nat) (p q : Int32) (hN : N ≤ 9) (hr : r 0 = nI N) : MR l yX2_areTwo cX2_areTwo 3 (some .boolean) ({ frames := 2, cells := 0, slots := 0, locals := 43 }) [.ref f, .int p, .int q] [(f, fO fd r)] G (KX G) (bI (sTwo N p q)) := by
  -- rows printed by wip/tools/gen.py
  refine mr_mk RX2 (by decide) rfl (Nat.le_of_ble_eq_true rfl) ?_
  intro p0_ e0_ s m args below meth c C hP hK ls hl
  have hx := C.1
  have hb := C.2.1
  have hml := C.2.2.2.2.1
  have hown := C.2.2.2.2.2.1
  have hts := C.2.2.2.2.2.2
  have hl : lv_has ls 3 [(0, .ref f), (1, .int p), (2, .int q)] := hl
  refine lv_aload_n hx hb dX2_areTwo_0 rfl (lv_at hl 0 rfl) ?_
  refine lv_iload_n hx hb dX2_areTwo_1 rfl (lv_at hl 1 rfl) ?_
  refine c_V (rest := []) C (metX2_isOne l G f fd r N p (hr)) 1 (lw_V q375 q376 q377 q40 q378) (by decide +kernel) ⟨rfl, rfl⟩ ⟨(Nat.le_of_ble_eq_true rfl), (Nat.le_of_ble_eq_true rfl)⟩ (KX_mv G) (va_recv hK.1 hP (ci := 2) (q0 := 0) rfl rfl) hP hK hl rfl rfl (Nat.le_of_ble_eq_true rfl) ⟨(Nat.le_of_ble_eq_true rfl), (Nat.le_of_ble_eq_true rfl)⟩ dX2_areTwo_2 ?_
  refine n_if_eqB (b := (sPer N p)) (tgt := 25) hx hb dX2_areTwo_5 (by decide) (fun c_1 => ?_) (fun c_1 => ?_)
  · refine lv_iconst (v := 0) hx hb dX2_areTwo_25 (by decide) ?_
    exact n_zret (v := false) C (by simp [sTwo, c_1]) dX2_areTwo_26
  · obtain ⟨p_2, hp_2, rfl⟩ := sPer_t (by omega) c_1
    have tp_2 : tn (nI p_2) = p_2 := nI_clamp (by omega)
    refine lv_aload_n hx hb dX2_areTwo_8 rfl (lv_at hl 0 rfl) ?_
    refine lv_iload_n hx hb dX2_areTwo_9 rfl (lv_at hl 2 rfl) ?_
    refine c_V (rest := []) C (metX2_isOne l G f fd r N q (hr)) 1 (lw_V q375 q376 q377 q40 q378) (by decide +kernel) ⟨rfl, rfl⟩ ⟨(Nat.le_of_ble_eq_true rfl), (Nat.le_of_ble_eq_true rfl)⟩ (KX_mv G) (va_recv hK.1 hP (ci := 2) (q0 := 0) rfl rfl) hP hK hl rfl rfl (Nat.le_of_ble_eq_true rfl) ⟨(Nat.le_of_ble_eq_true rfl), (Nat.le_of_ble_eq_true rfl)⟩ dX2_areTwo_10 ?_
    refine n_if_eqB (b := (sPer N q)) (tgt := 25) hx hb dX2_areTwo_13 (by decide) (fun c_3 => ?_) (fun c_3 => ?_)
    · refine lv_iconst (v := 0) hx hb dX2_areTwo_25 (by decide) ?_
      exact n_zret (v := false) C (by simp [sTwo, c_1, tp_2, c_3]) dX2_areTwo_26
    · obtain ⟨q_4, hq_4, rfl⟩ := sPer_t (by omega) c_3
      have tq_4 : tn (nI q_4) = q_4 := nI_clamp (by omega)
      refine lv_iload_n hx hb dX2_areTwo_16 rfl (lv_at hl 1 rfl) ?_
      refine lv_iload_n hx hb dX2_areTwo_17 rfl (lv_at hl 2 rfl) ?_
      refine n_ic_eq (x := p_2) (y := q_4) (tgt := 25) hx hb (by omega) (by omega) dX2_areTwo_18 (by decide) (fun c_5 => ?_) (fun c_5 => ?_)
      · have zc_5 : nI p_2 = nI q_4 := congrArg nI c_5
        refine lv_iconst (v := 0) hx hb dX2_areTwo_25 (by decide) ?_
        exact n_zret (v := false) C (by simp [sTwo, c_1, tp_2, c_3, tq_4, c_5, zc_5]) dX2_areTwo_26
      · have zc_5 : ¬ nI p_2 = nI q_4 := fun q => c_5 ((nI_eq (by omega) (by omega)).mp q)
        refine lv_iconst (v := 1) hx hb dX2_areTwo_21 (by decide) ?_
        refine lv_goto (tgt := 26) hx hb dX2_areTwo_22 (by decide) ?_
        exact n_zret (v := true) C (by simp [sTwo, c_1, tp_2, c_3, tq_4, c_5, zc_5]) dX2_areTwo_26

set_option maxHeartbeats 4000000 in
set_option maxRecDepth 100000 in
theorem metX2_canLook (l : Launch) (G : GG) (f : Nat) (fd : Nat → Nat) (gm : GM) (wh : Nat → Option Nat) (r : Nat → Int32) (N : Nat) (q : Nat) (hN : N ≤ 9) (hr : r 0 = nI N) (hwk : WK gm wh r N) (hq : q < N) : MR l yX2_canLook cX2_canLook 2 (some .boolean) ({ frames := 6, cells := 0, slots := 0, locals := 200 }) [.ref f, .int (nI q)] [(f, fO fd r), (fd 0, qA G 3 9 wh), (fd 1, iA G 9 (fA r 2)), (fd 2, iA G 9 (fA r 3)), (fd 3, iA G 9 (fA r 4)), (fd 4, iA G 9 (fA r 5))] G (KG G gm) (bI (sLook r q)) := by
  -- rows printed by wip/tools/gen.py
  refine mr_mk RX2 (by decide) rfl (Nat.le_of_ble_eq_true rfl) ?_
  intro p0_ e0_ s m args below meth c C hP hK ls hl
  have hGP := hK.2
  have hK := hK.1
  have hx := C.1
  have hb := C.2.1
  have hml := C.2.2.2.2.1
  have hown := C.2.2.2.2.2.1
  have hts := C.2.2.2.2.2.2
  have hl : lv_has ls 2 [(0, .ref f), (1, .int (nI q))] := hl
  refine lv_aload_n hx hb dX2_canLook_0 rfl (lv_at hl 0 rfl) ?_
  refine va_get (D := gD G) (ci := 2) (v := .ref (fd 3)) (C := RX2) (T := TX2) (N := 8) hx hb hts in_X2 hown hK.1 hP 0 rfl rfl 3 (by decide) (hts _ q798) (fun _ h9 => h9) rfl dX2_canLook_1 ?_
  refine lv_iload_n hx hb dX2_canLook_4 rfl (lv_at hl 1 rfl) ?_
  refine n_iald C hK.1 hP 4 q rfl (by omega) (by omega) dX2_canLook_5 ?_
  refine lv_if_ne (x := r (3 + 6 * q + 4)) (tgt := 25) hx hb dX2_canLook_6 (by decide) (fun c_1 => ?_) (fun c_1 => ?_)
  · refine lv_iconst (v := 0) hx hb dX2_canLook_25 (by decide) ?_
    exact n_zret (v := false) C (by simp [sLook, c_1]) dX2_canLook_26
  · refine lv_aload_n hx hb dX2_canLook_9 rfl (lv_at hl 0 rfl) ?_
    refine va_get (D := gD G) (ci := 2) (v := .ref (fd 0)) (C := RX2) (T := TX2) (N := 8) hx hb hts in_X2 hown hK.1 hP 0 rfl rfl 0 (by decide) (hts _ q792) (fun _ h9 => h9) rfl dX2_canLook_10 ?_
    refine lv_iload_n hx hb dX2_canLook_13 rfl (lv_at hl 1 rfl) ?_
    obtain ⟨y_2, k_3, hy_4, hg_5, hk_6⟩ := hwk.2 q (by omega)
    refine n_aldqS C hK.1 hP 1 3 q rfl rfl (by omega) (by omega) hy_4 dX2_canLook_14 ?_
    refine g_sees (ws := [(y_2, .inr (6 + k_3, [.int (r (3 + 6 * q + 1))]))]) (q0 := 0) C hK (hGP _ _ _ hg_5).1 rfl (GP.pp hGP hg_5) (by decide +kernel) ⟨(Nat.le_of_ble_eq_true rfl), (Nat.le_of_ble_eq_true rfl)⟩ hl (Nat.le_of_ble_eq_true rfl) ⟨(Nat.le_of_ble_eq_true rfl), (Nat.le_of_ble_eq_true rfl)⟩ dX2_canLook_15 ?_
    refine n_eqi (y := bI (!decide ((r (3 + 6 * q)) = 4))) (by rw [hk_6]) ?_
    refine n_if_eqB (b := !decide ((r (3 + 6 * q)) = 4)) (tgt := 25) hx hb dX2_canLook_18 (by decide) (fun c_7 => ?_) (fun c_7 => ?_)
    · refine lv_iconst (v := 0) hx hb dX2_canLook_25 (by decide) ?_
      exact n_zret (v := false) C (by simp [sLook, c_1, c_7]) dX2_canLook_26
    · refine lv_iconst (v := 1) hx hb dX2_canLook_21 (by decide) ?_
      refine lv_goto (tgt := 26) hx hb dX2_canLook_22 (by decide) ?_
      exact n_zret (v := true) C (by simp [sLook, c_1, c_7]) dX2_canLook_26

set_option maxHeartbeats 4000000 in
set_option maxRecDepth 100000 in
theorem metX2_stills (l : Launch) (G : GG) (f : Nat) (fd : Nat → Nat) (gm : GM) (wh : Nat → Option Nat) (r : Nat → Int32) (N : Nat) (p : Nat) (hN : N ≤ 9) (hr : r 0 = nI N) (hwk : WK gm wh r N) (hp : p < N) : MR l yX2_stills cX2_stills 2 (some .int) ({ frames := 6, cells := 0, slots := 0, locals := 200 }) [.ref f, .int (nI p)] [(f, fO fd r), (fd 0, qA G 3 9 wh), (fd 1, iA G 9 (fA r 2)), (fd 2, iA G 9 (fA r 3)), (fd 3, iA G 9 (fA r 4)), (fd 4, iA G 9 (fA r 5))] G (KG G gm) (sBites r p) := by
  -- rows printed by wip/tools/gen.py
  refine mr_mk RX2 (by decide) rfl (Nat.le_of_ble_eq_true rfl) ?_
  intro p0_ e0_ s m args below meth c C hP hK ls hl
  have hGP := hK.2
  have hK := hK.1
  have hx := C.1
  have hb := C.2.1
  have hml := C.2.2.2.2.1
  have hown := C.2.2.2.2.2.1
  have hts := C.2.2.2.2.2.2
  have hl : lv_has ls 2 [(0, .ref f), (1, .int (nI p))] := hl
  refine lv_aload_n hx hb dX2_stills_0 rfl (lv_at hl 0 rfl) ?_
  refine va_get (D := gD G) (ci := 2) (v := .ref (fd 1)) (C := RX2) (T := TX2) (N := 8) hx hb hts in_X2 hown hK.1 hP 0 rfl rfl 1 (by decide) (hts _ q794) (fun _ h9 => h9) rfl dX2_stills_1 ?_
  refine lv_iload_n hx hb dX2_stills_4 rfl (lv_at hl 1 rfl) ?_
  refine n_iald C hK.1 hP 2 p rfl (by omega) (by omega) dX2_stills_5 ?_
  refine lv_aload_n hx hb dX2_stills_6 rfl (lv_at hl 0 rfl) ?_
  refine va_get (D := gD G) (ci := 2) (v := .ref (fd 0)) (C := RX2) (T := TX2) (N := 8) hx hb hts in_X2 hown hK.1 hP 0 rfl rfl 0 (by decide) (hts _ q792) (fun _ h9 => h9) rfl dX2_stills_7 ?_
  refine lv_iload_n hx hb dX2_stills_10 rfl (lv_at hl 1 rfl) ?_
  obtain ⟨y_1, k_2, hy_3, hg_4, hk_5⟩ := hwk.2 p (by omega)
  refine n_aldqS C hK.1 hP 1 3 p rfl rfl (by omega) (by omega) hy_3 dX2_stills_11 ?_
  refine g_bite (ws := [(y_1, .inr (6 + k_2, [.int (r (3 + 6 * p + 1))]))]) (q0 := 0) C hK (hGP _ _ _ hg_4).1 rfl (GP.pp hGP hg_4) (by decide +kernel) ⟨(Nat.le_of_ble_eq_true rfl), (Nat.le_of_ble_eq_true rfl)⟩ hl (Nat.le_of_ble_eq_true rfl) ⟨(Nat.le_of_ble_eq_true rfl), (Nat.le_of_ble_eq_true rfl)⟩ dX2_stills_12 ?_
  refine n_eqi (y := sBite (r (3 + 6 * p)) (r (3 + 6 * p + 1))) (by rw [hk_5]) ?_
  refine n_mmin (x := r (3 + 6 * p + 2)) (y := sBite (r (3 + 6 * p)) (r (3 + 6 * p + 1))) C q440 q441 q60 q442 hl ⟨(Nat.le_of_ble_eq_true rfl), (Nat.le_of_ble_eq_true rfl)⟩ (Nat.le_of_ble_eq_true rfl) ⟨(Nat.le_of_ble_eq_true rfl), (Nat.le_of_ble_eq_true rfl)⟩ dX2_stills_15 ?_
  exact n_iret (v := mn (r (3 + 6 * p + 2)) (sBite (r (3 + 6 * p)) (r (3 + 6 * p + 1)))) C (by simp [sBites]) dX2_stills_18

set_option maxHeartbeats 4000000 in
set_option maxRecDepth 100000 in
theorem metX2_looks (l : Launch) (G : GG) (f : Nat) (fd : Nat → Nat) (gm : GM) (wh : Nat → Option Nat) (r : Nat → Int32) (N : Nat) (q : Nat) (hN : N ≤ 9) (hr : r 0 = nI N) (hwk : WK gm wh r N) (hq : q < N) : MR l yX2_looks cX2_looks 2 (some .int) ({ frames := 6, cells := 0, slots := 0, locals := 200 }) [.ref f, .int (nI q)] [(f, fO fd r), (fd 0, qA G 3 9 wh), (fd 1, iA G 9 (fA r 2)), (fd 2, iA G 9 (fA r 3)), (fd 3, iA G 9 (fA r 4)), (fd 4, iA G 9 (fA r 5))] G (KG G gm) (sGazes r q) := by
  -- rows printed by wip/tools/gen.py
  refine mr_mk RX2 (by decide) rfl (Nat.le_of_ble_eq_true rfl) ?_
  intro p0_ e0_ s m args below meth c C hP hK ls hl
  have hGP := hK.2
  have hK := hK.1
  have hx := C.1
  have hb := C.2.1
  have hml := C.2.2.2.2.1
  have hown := C.2.2.2.2.2.1
  have hts := C.2.2.2.2.2.2
  have hl : lv_has ls 2 [(0, .ref f), (1, .int (nI q))] := hl
  refine lv_aload_n hx hb dX2_looks_0 rfl (lv_at hl 0 rfl) ?_
  refine va_get (D := gD G) (ci := 2) (v := .ref (fd 2)) (C := RX2) (T := TX2) (N := 8) hx hb hts in_X2 hown hK.1 hP 0 rfl rfl 2 (by decide) (hts _ q796) (fun _ h9 => h9) rfl dX2_looks_1 ?_
  refine lv_iload_n hx hb dX2_looks_4 rfl (lv_at hl 1 rfl) ?_
  refine n_iald C hK.1 hP 3 q rfl (by omega) (by omega) dX2_looks_5 ?_
  refine lv_aload_n hx hb dX2_looks_6 rfl (lv_at hl 0 rfl) ?_
  refine va_get (D := gD G) (ci := 2) (v := .ref (fd 0)) (C := RX2) (T := TX2) (N := 8) hx hb hts in_X2 hown hK.1 hP 0 rfl rfl 0 (by decide) (hts _ q792) (fun _ h9 => h9) rfl dX2_looks_7 ?_
  refine lv_iload_n hx hb dX2_looks_10 rfl (lv_at hl 1 rfl) ?_
  obtain ⟨y_1, k_2, hy_3, hg_4, hk_5⟩ := hwk.2 q (by omega)
  refine n_aldqS C hK.1 hP 1 3 q rfl rfl (by omega) (by omega) hy_3 dX2_looks_11 ?_
  refine g_gaze (ws := [(y_1, .inr (6 + k_2, [.int (r (3 + 6 * q + 1))]))]) (q0 := 0) C hK (hGP _ _ _ hg_4).1 rfl (GP.pp hGP hg_4) (by decide +kernel) ⟨(Nat.le_of_ble_eq_true rfl), (Nat.le_of_ble_eq_true rfl)⟩ hl (Nat.le_of_ble_eq_true rfl) ⟨(Nat.le_of_ble_eq_true rfl), (Nat.le_of_ble_eq_true rfl)⟩ dX2_looks_12 ?_
  refine n_eqi (y := sGaze (r (3 + 6 * q)) (r (3 + 6 * q + 1))) (by rw [hk_5]) ?_
  refine n_mmin (x := r (3 + 6 * q + 3)) (y := sGaze (r (3 + 6 * q)) (r (3 + 6 * q + 1))) C q440 q441 q60 q442 hl ⟨(Nat.le_of_ble_eq_true rfl), (Nat.le_of_ble_eq_true rfl)⟩ (Nat.le_of_ble_eq_true rfl) ⟨(Nat.le_of_ble_eq_true rfl), (Nat.le_of_ble_eq_true rfl)⟩ dX2_looks_15 ?_
  exact n_iret (v := mn (r (3 + 6 * q + 3)) (sGaze (r (3 + 6 * q)) (r (3 + 6 * q + 1)))) C (by simp [sGazes]) dX2_looks_18

set_option maxHeartbeats 4000000 in
set_option maxRecDepth 100000 in
theorem metX2_joyOf (l : Launch) (G : GG) (f : Nat) (fd : Nat → Nat) (gm : GM) (wh : Nat → Option Nat) (r : Nat → Int32) (N : Nat) (p q : Nat) (hN : N ≤ 9) (hr : r 0 = nI N) (hwk : WK gm wh r N) (hp : p < N) (hq : q < N) : MR l yX2_joyOf cX2_joyOf 3 (some .int) ({ frames := 7, cells := 0, slots := 0, locals := 221 }) [.ref f, .int (nI p), .int (nI q)] [(f, fO fd r), (fd 0, qA G 3 9 wh), (fd 1, iA G 9 (fA r 2)), (fd 2, iA G 9 (fA r 3)), (fd 3, iA G 9 (fA r 4)), (fd 4, iA G 9 (fA r 5))] G (KG G gm) (sJoyE r p q) := by
  -- rows printed by wip/tools/gen.py
  refine mr_mk RX2 (by decide) rfl (Nat.le_of_ble_eq_true rfl) ?_
  intro p0_ e0_ s m args below meth c C hP hK ls hl
  have hGP := hK.2
  have hK := hK.1
  have hx := C.1
  have hb := C.2.1
  have hml := C.2.2.2.2.1
  have hown := C.2.2.2.2.2.1
  have hts := C.2.2.2.2.2.2
  have hl : lv_has ls 3 [(0, .ref f), (1, .int (nI p)), (2, .int (nI q))] := hl
  refine lv_iconst (v := 0) hx hb dX2_joyOf_0 (by decide) ?_
  refine lv_aload_n hx hb dX2_joyOf_1 rfl (lv_at hl 0 rfl) ?_
  refine lv_iload_n hx hb dX2_joyOf_2 rfl (lv_at hl 1 rfl) ?_
  refine c_Vk (rest := [.int 0]) C (metX2_stills l G f fd gm wh r N p (by omega) (hr) (hwk) (by omega)) 1 (lw_V q410 q411 q412 q40 q413) (by decide +kernel) ⟨rfl, rfl⟩ ⟨(Nat.le_of_ble_eq_true rfl), (Nat.le_of_ble_eq_true rfl)⟩ (KG.call) (va_recv hK.1 hP (ci := 2) (q0 := 0) rfl rfl) hP (KG.at hK hGP) hl rfl rfl (Nat.le_of_ble_eq_true rfl) ⟨(Nat.le_of_ble_eq_true rfl), (Nat.le_of_ble_eq_true rfl)⟩ dX2_joyOf_3 ?_
  refine lv_aload_n hx hb dX2_joyOf_6 rfl (lv_at hl 0 rfl) ?_
  refine va_get (D := gD G) (ci := 2) (v := .ref (fd 0)) (C := RX2) (T := TX2) (N := 8) hx hb hts in_X2 hown hK.1 hP 0 rfl rfl 0 (by decide) (hts _ q792) (fun _ h9 => h9) rfl dX2_joyOf_7 ?_
  refine lv_iload_n hx hb dX2_joyOf_10 rfl (lv_at hl 1 rfl) ?_
  obtain ⟨y_1, k_2, hy_3, hg_4, hk_5⟩ := hwk.2 p (by omega)
  refine n_aldqS C hK.1 hP 1 3 p rfl rfl (by omega) (by omega) hy_3 dX2_joyOf_11 ?_
  refine g_shy (ws := [(y_1, .inr (6 + k_2, [.int (r (3 + 6 * p + 1))]))]) (q0 := 0) C hK (hGP _ _ _ hg_4).1 rfl (GP.pp hGP hg_4) (by decide +kernel) ⟨(Nat.le_of_ble_eq_true rfl), (Nat.le_of_ble_eq_true rfl)⟩ hl (Nat.le_of_ble_eq_true rfl) ⟨(Nat.le_of_ble_eq_true rfl), (Nat.le_of_ble_eq_true rfl)⟩ dX2_joyOf_12 ?_
  refine n_eqi (y := sShy (r (3 + 6 * p))) (by rw [hk_5]) ?_
  refine lv_aload_n hx hb dX2_joyOf_15 rfl (lv_at hl 0 rfl) ?_
  refine va_get (D := gD G) (ci := 2) (v := .ref (fd 4)) (C := RX2) (T := TX2) (N := 8) hx hb hts in_X2 hown hK.1 hP 0 rfl rfl 4 (by decide) (hts _ q800) (fun _ h9 => h9) rfl dX2_joyOf_16 ?_
  refine lv_iload_n hx hb dX2_joyOf_19 rfl (lv_at hl 2 rfl) ?_
  refine n_iald C hK.1 hP 5 q rfl (by omega) (by omega) dX2_joyOf_20 ?_
  refine lv_imul (x := sShy (r (3 + 6 * p))) (y := r (3 + 6 * q + 5)) hx hb dX2_joyOf_21 ?_
  refine lv_isub (x := sBites r p) (y := (sShy (r (3 + 6 * p))) * (r (3 + 6 * q + 5))) hx hb dX2_joyOf_22 ?_
  refine n_mmax (x := 0) (y := (sBites r p) - ((sShy (r (3 + 6 * p))) * (r (3 + 6 * q + 5)))) C q462 q463 q60 q464 hl ⟨(Nat.le_of_ble_eq_true rfl), (Nat.le_of_ble_eq_true rfl)⟩ (Nat.le_of_ble_eq_true rfl) ⟨(Nat.le_of_ble_eq_true rfl), (Nat.le_of_ble_eq_true rfl)⟩ dX2_joyOf_23 ?_
  exact n_iret (v := mx 0 ((sBites r p) - ((sShy (r (3 + 6 * p))) * (r (3 + 6 * q + 5))))) C (by simp [sJoyE]) dX2_joyOf_26

set_option maxHeartbeats 4000000 in
set_option maxRecDepth 100000 in
theorem metX2_joys (l : Launch) (G : GG) (f : Nat) (fd : Nat → Nat) (gm : GM) (wh : Nat → Option Nat) (r : Nat → Int32) (N : Nat) (p q : Nat) (hN : N ≤ 9) (hr : r 0 = nI N) (hwk : WK gm wh r N) (hp : p < N) (hq : q < N) : MR l yX2_joys cX2_joys 3 (some .int) ({ frames := 8, cells := 0, slots := 0, locals := 243 }) [.ref f, .int (nI p), .int (nI q)] [(f, fO fd r), (fd 0, qA G 3 9 wh), (fd 1, iA G 9 (fA r 2)), (fd 2, iA G 9 (fA r 3)), (fd 3, iA G 9 (fA r 4)), (fd 4, iA G 9 (fA r 5))] G (KG G gm) (sJoy r p q) := by
  -- rows printed by wip/tools/gen.py
  refine mr_mk RX2 (by decide) rfl (Nat.le_of_ble_eq_true rfl) ?_
  intro p0_ e0_ s m args below meth c C hP hK ls hl
  have hGP := hK.2
  have hK := hK.1
  have hx := C.1
  have hb := C.2.1
  have hml := C.2.2.2.2.1
  have hown := C.2.2.2.2.2.1
  have hts := C.2.2.2.2.2.2
  have hl : lv_has ls 3 [(0, .ref f), (1, .int (nI p)), (2, .int (nI q))] := hl
  refine lv_aload_n hx hb dX2_joys_0 rfl (lv_at hl 0 rfl) ?_
  refine lv_iload_n hx hb dX2_joys_1 rfl (lv_at hl 1 rfl) ?_
  refine lv_iload_n hx hb dX2_joys_2 rfl (lv_at hl 2 rfl) ?_
  refine c_Vk (rest := []) C (metX2_joyOf l G f fd gm wh r N p q (by omega) (hr) (hwk) (by omega) (by omega)) 2 (lw_V q406 q407 q408 q40 q409) (by decide +kernel) ⟨rfl, rfl⟩ ⟨(Nat.le_of_ble_eq_true rfl), (Nat.le_of_ble_eq_true rfl)⟩ (KG.call) (va_recv hK.1 hP (ci := 2) (q0 := 0) rfl rfl) hP (KG.at hK hGP) hl rfl rfl (Nat.le_of_ble_eq_true rfl) ⟨(Nat.le_of_ble_eq_true rfl), (Nat.le_of_ble_eq_true rfl)⟩ dX2_joys_3 ?_
  refine lv_aload_n hx hb dX2_joys_6 rfl (lv_at hl 0 rfl) ?_
  refine lv_iload_n hx hb dX2_joys_7 rfl (lv_at hl 2 rfl) ?_
  refine c_Vk (rest := [.int (sJoyE r p q)]) C (metX2_looks l G f fd gm wh r N q (by omega) (hr) (hwk) (by omega)) 1 (lw_V q465 q466 q467 q40 q468) (by decide +kernel) ⟨rfl, rfl⟩ ⟨(Nat.le_of_ble_eq_true rfl), (Nat.le_of_ble_eq_true rfl)⟩ (KG.call) (va_recv hK.1 hP (ci := 2) (q0 := 0) rfl rfl) hP (KG.at hK hGP) hl rfl rfl (Nat.le_of_ble_eq_true rfl) ⟨(Nat.le_of_ble_eq_true rfl), (Nat.le_of_ble_eq_true rfl)⟩ dX2_joys_8 ?_
  refine lv_iadd (x := sJoyE r p q) (y := sGazes r q) hx hb dX2_joys_11 ?_
  exact n_iret (v := (sJoyE r p q) + (sGazes r q)) C (by simp [sJoy]) dX2_joys_12

set_option maxHeartbeats 4000000 in
set_option maxRecDepth 100000 in
theorem metX2_canEat (l : Launch) (G : GG) (f : Nat) (fd : Nat → Nat) (gm : GM) (wh : Nat → Option Nat) (r : Nat → Int32) (N : Nat) (p q : Int32) (hN : N ≤ 9) (hr : r 0 = nI N) (hwk : WK gm wh r N) : MR l yX2_canEat cX2_canEat 3 (some .boolean) ({ frames := 7, cells := 0, slots := 0, locals := 221 }) [.ref f, .int p, .int q] [(f, fO fd r), (fd 0, qA G 3 9 wh), (fd 1, iA G 9 (fA r 2)), (fd 2, iA G 9 (fA r 3)), (fd 3, iA G 9 (fA r 4)), (fd 4, iA G 9 (fA r 5))] G (KG G gm) (bI (sEatP r N p q)) := by
  -- rows printed by wip/tools/gen.py
  refine mr_mk RX2 (by decide) rfl (Nat.le_of_ble_eq_true rfl) ?_
  intro p0_ e0_ s m args below meth c C hP hK ls hl
  have hGP := hK.2
  have hK := hK.1
  have hx := C.1
  have hb := C.2.1
  have hml := C.2.2.2.2.1
  have hown := C.2.2.2.2.2.1
  have hts := C.2.2.2.2.2.2
  have hl : lv_has ls 3 [(0, .ref f), (1, .int p), (2, .int q)] := hl
  refine lv_aload_n hx hb dX2_canEat_0 rfl (lv_at hl 0 rfl) ?_
  refine lv_iload_n hx hb dX2_canEat_1 rfl (lv_at hl 1 rfl) ?_
  refine lv_iload_n hx hb dX2_canEat_2 rfl (lv_at hl 2 rfl) ?_
  refine c_V (rest := []) C (metX2_areTwo l G f fd r N p q (by omega) (hr)) 2 (lw_V q371 q372 q373 q40 q374) (by decide +kernel) ⟨rfl, rfl⟩ ⟨(Nat.le_of_ble_eq_true rfl), (Nat.le_of_ble_eq_true rfl)⟩ (KX_mv G) (va_recv hK.1 hP (ci := 2) (q0 := 0) rfl rfl) (hP.sub (ws' := [(f, fO fd r)]) [0] rfl) hK hl rfl rfl (Nat.le_of_ble_eq_true rfl) ⟨(Nat.le_of_ble_eq_true rfl), (Nat.le_of_ble_eq_true rfl)⟩ dX2_canEat_3 ?_
  refine n_if_eqB (b := (sTwo N p q)) (tgt := 37) hx hb dX2_canEat_6 (by decide) (fun c_1 => ?_) (fun c_1 => ?_)
  · refine lv_iconst (v := 0) hx hb dX2_canEat_37 (by decide) ?_
    exact n_zret (v := false) C (by simp [sEatP, sEat, c_1]) dX2_canEat_38
  · obtain ⟨p_2, q_3, hp_2, hq_3, np_2, rfl, rfl⟩ := sTwo_t (by omega) c_1
    have tp_2 : tn (nI p_2) = p_2 := nI_clamp (by omega)
    have tq_3 : tn (nI q_3) = q_3 := nI_clamp (by omega)
    refine lv_aload_n hx hb dX2_canEat_9 rfl (lv_at hl 0 rfl) ?_
    refine va_get (D := gD G) (ci := 2) (v := .int (r 1)) (C := RX2) (T := TX2) (N := 8) hx hb hts in_X2 hown hK.1 hP 0 rfl rfl 6 (by decide) (hts _ q804) (fun _ h9 => h9) rfl dX2_canEat_10 ?_
    refine lv_if_le (x := r 1) (tgt := 37) hx hb dX2_canEat_13 (by decide) (fun c_4 => ?_) (fun c_4 => ?_)
    · have zc_4 : ¬ 0 < (r 1) := Int32.not_lt.mpr c_4
      refine lv_iconst (v := 0) hx hb dX2_canEat_37 (by decide) ?_
      exact n_zret (v := false) C (by simp [sEatP, sEat, c_1, np_2, tp_2, tq_3, c_4, zc_4]) dX2_canEat_38
    · have zc_4 : 0 < (r 1) := Int32.not_le.mp c_4
      refine lv_aload_n hx hb dX2_canEat_16 rfl (lv_at hl 0 rfl) ?_
      refine va_get (D := gD G) (ci := 2) (v := .ref (fd 1)) (C := RX2) (T := TX2) (N := 8) hx hb hts in_X2 hown hK.1 hP 0 rfl rfl 1 (by decide) (hts _ q794) (fun _ h9 => h9) rfl dX2_canEat_17 ?_
      refine lv_iload_n hx hb dX2_canEat_20 rfl (lv_at hl 1 rfl) ?_
      refine n_iald C hK.1 hP 2 p_2 rfl (by omega) (by omega) dX2_canEat_21 ?_
      refine lv_if_le (x := r (3 + 6 * p_2 + 2)) (tgt := 37) hx hb dX2_canEat_22 (by decide) (fun c_5 => ?_) (fun c_5 => ?_)
      · have zc_5 : ¬ 0 < (r (3 + 6 * p_2 + 2)) := Int32.not_lt.mpr c_5
        refine lv_iconst (v := 0) hx hb dX2_canEat_37 (by decide) ?_
        exact n_zret (v := false) C (by simp [sEatP, sEat, c_1, np_2, tp_2, tq_3, c_4, zc_4, c_5, zc_5]) dX2_canEat_38
      · have zc_5 : 0 < (r (3 + 6 * p_2 + 2)) := Int32.not_le.mp c_5
        refine lv_aload_n hx hb dX2_canEat_25 rfl (lv_at hl 0 rfl) ?_
        refine lv_iload_n hx hb dX2_canEat_26 rfl (lv_at hl 2 rfl) ?_
        refine c_Vk (rest := []) C (metX2_canLook l G f fd gm wh r N q_3 (by omega) (hr) (hwk) (by omega)) 1 (lw_V q380 q381 q382 q40 q383) (by decide +kernel) ⟨rfl, rfl⟩ ⟨(Nat.le_of_ble_eq_true rfl), (Nat.le_of_ble_eq_true rfl)⟩ (KG.call) (va_recv hK.1 hP (ci := 2) (q0 := 0) rfl rfl) hP (KG.at hK hGP) hl rfl rfl (Nat.le_of_ble_eq_true rfl) ⟨(Nat.le_of_ble_eq_true rfl), (Nat.le_of_ble_eq_true rfl)⟩ dX2_canEat_27 ?_
        refine n_if_eqB (b := (sLook r q_3)) (tgt := 37) hx hb dX2_canEat_30 (by decide) (fun c_6 => ?_) (fun c_6 => ?_)
        · refine lv_iconst (v := 0) hx hb dX2_canEat_37 (by decide) ?_
          exact n_zret (v := false) C (by simp [sEatP, sEat, c_1, np_2, tp_2, tq_3, c_4, zc_4, c_5, zc_5, c_6]) dX2_canEat_38
        · refine lv_iconst (v := 1) hx hb dX2_canEat_33 (by decide) ?_
          refine lv_goto (tgt := 38) hx hb dX2_canEat_34 (by decide) ?_
          exact n_zret (v := true) C (by simp [sEatP, sEat, c_1, np_2, tp_2, tq_3, c_4, zc_4, c_5, zc_5, c_6]) dX2_canEat_38

theorem metX2_canEatN (l : Launch) (G : GG) (f : Nat) (fd : Nat → Nat) (gm : GM) (wh : Nat → Option Nat) (r : Nat → Int32) (N : Nat) (p q : Nat) (hN : N ≤ 9) (hr : r 0 = nI N) (hwk : WK gm wh r N) (hp : p < N) (hq : q < N) : MR l yX2_canEat cX2_canEat 3 (some .boolean) ({ frames := 7, cells := 0, slots := 0, locals := 221 }) [.ref f, .int (nI p), .int (nI q)] [(f, fO fd r), (fd 0, qA G 3 9 wh), (fd 1, iA G 9 (fA r 2)), (fd 2, iA G 9 (fA r 3)), (fd 3, iA G 9 (fA r 4)), (fd 4, iA G 9 (fA r 5))] G (KG G gm) (bI (sEat r p q)) := by
  have h := metX2_canEat l G f fd gm wh r N (nI p) (nI q) hN hr hwk
  rw [sEatP_n hN hp hq] at h
  exact h
set_option maxHeartbeats 4000000 in
set_option maxRecDepth 100000 in
theorem metX2_best (l : Launch) (G : GG) (f : Nat) (fd : Nat → Nat) (gm : GM) (wh : Nat → Option Nat) (r : Nat → Int32) (N : Nat) (hN : N ≤ 9) (hr : r 0 = nI N) (hwk : WK gm wh r N) (hJ : JN r N) : MR l yX2_best cX2_best 4 (some .int) ({ frames := 9, cells := 0, slots := 0, locals := 265 }) [.ref f] [(f, fO fd r), (fd 0, qA G 3 9 wh), (fd 1, iA G 9 (fA r 2)), (fd 2, iA G 9 (fA r 3)), (fd 3, iA G 9 (fA r 4)), (fd 4, iA G 9 (fA r 5))] G (KG G gm) (sBest r N) := by
  -- rows printed by wip/tools/gen.py
  refine mr_mk RX2 (by decide) rfl (Nat.le_of_ble_eq_true rfl) ?_
  intro p0_ e0_ s m args below meth c C hP hK ls hl
  have hGP := hK.2
  have hK := hK.1
  have hx := C.1
  have hb := C.2.1
  have hml := C.2.2.2.2.1
  have hown := C.2.2.2.2.2.1
  have hts := C.2.2.2.2.2.2
  have hl : lv_has ls 4 [(0, .ref f)] := hl
  refine lv_bipush (v := (-4)) hx hb dX2_best_0 (by decide) ?_
  refine lv_istore_n (lv' := [(1, .int (-4)), (0, .ref f)]) hx hb dX2_best_2 rfl hl (Nat.le_of_ble_eq_true rfl) rfl (fun ls hl => ?_)
  refine lv_iconst (v := 0) hx hb dX2_best_3 (by decide) ?_
  refine lv_istore_n (lv' := [(2, .int 0), (1, .int (-4)), (0, .ref f)]) hx hb dX2_best_4 rfl hl (Nat.le_of_ble_eq_true rfl) rfl (fun ls hl => ?_)
  suffices hlp_1 : (∀ (n i : Nat), i + n = N → ∀ (ls : Array Slot), lv_has ls 4 [(2, .int (nI i)), (1, .int (enc (bout r N i))), (0, .ref f)] → W p0_ l e0_ ({ frames := 9, cells := 0, slots := 0, locals := 265 } : Room) s m args below meth c s.heap [] (0) (0) (MQ below (vp_Si (fun rr9 => rr9 = sBest r N)) args s 0 0 (fun _ => False)) (F0 m 5 ls [])) by
    exact hlp_1 (N) 0 (by omega) ls (lv_sub hl [0, 1, 2] rfl)
  have hend_1 : ∀ (ls : Array Slot), lv_has ls 4 [(2, .int (nI N)), (1, .int (enc (bout r N N))), (0, .ref f)] → W p0_ l e0_ ({ frames := 9, cells := 0, slots := 0, locals := 265 } : Room) s m args below meth c s.heap [] (0) (0) (MQ below (vp_Si (fun rr9 => rr9 = sBest r N)) args s 0 0 (fun _ => False)) (F0 m 5 ls []) := by
    intro ls hl
    refine lv_iload_n hx hb dX2_best_5 rfl (lv_at hl 0 rfl) ?_
    refine lv_aload_n hx hb dX2_best_6 rfl (lv_at hl 2 rfl) ?_
    refine va_get (D := gD G) (ci := 2) (v := .int (r 0)) (C := RX2) (T := TX2) (N := 8) hx hb hts in_X2 hown hK.1 hP 0 rfl rfl 5 (by decide) (hts _ q802) (fun _ h9 => h9) rfl dX2_best_7 ?_
    refine n_eqi (hr) ?_
    refine n_ic_ge (x := N) (y := N) (tgt := 76) hx hb (by omega) (by omega) dX2_best_10 (by decide) (fun c_2 => ?_) (fun c_2 => absurd c_2 (by omega))
    refine lv_iload_n hx hb dX2_best_76 rfl (lv_at hl 1 rfl) ?_
    exact n_iret (v := enc (bout r N N)) C (rfl) dX2_best_77
  intro n
  induction n with
  | zero =>
    intro i hi_1 ls hl
    obtain e_1 : i = N := by omega
    first | (subst e_1; exact hend_1 ls hl) | (rw [e_1] at hl; exact hend_1 ls hl)
  | succ n ih_1 =>
    intro i hi_1 ls hl
    refine lv_iload_n hx hb dX2_best_5 rfl (lv_at hl 0 rfl) ?_
    refine lv_aload_n hx hb dX2_best_6 rfl (lv_at hl 2 rfl) ?_
    refine va_get (D := gD G) (ci := 2) (v := .int (r 0)) (C := RX2) (T := TX2) (N := 8) hx hb hts in_X2 hown hK.1 hP 0 rfl rfl 5 (by decide) (hts _ q802) (fun _ h9 => h9) rfl dX2_best_7 ?_
    refine n_eqi (hr) ?_
    refine n_ic_ge (x := i) (y := N) (tgt := 76) hx hb (by omega) (by omega) dX2_best_10 (by decide) (fun c_3 => absurd c_3 (by omega)) (fun c_3 => ?_)
    refine lv_iconst (v := 0) hx hb dX2_best_13 (by decide) ?_
    refine lv_istore_n (lv' := [(3, .int 0), (2, .int (nI i)), (1, .int (enc (bout r N i))), (0, .ref f)]) hx hb dX2_best_14 rfl hl (Nat.le_of_ble_eq_true rfl) rfl (fun ls hl => ?_)
    suffices hlp_4 : (∀ (n j : Nat), j + n = N → ∀ (ls : Array Slot), lv_has ls 4 [(3, .int (nI j)), (2, .int (nI i)), (1, .int (enc (bin r i (bout r N i) j))), (0, .ref f)] → W p0_ l e0_ ({ frames := 9, cells := 0, slots := 0, locals := 265 } : Room) s m args below meth c s.heap [] (0) (0) (MQ below (vp_Si (fun rr9 => rr9 = sBest r N)) args s 0 0 (fun _ => False)) (F0 m 15 ls [])) by
      exact hlp_4 (N) 0 (by omega) ls (lv_sub hl [0, 1, 2, 3] rfl)
    have hend_4 : ∀ (ls : Array Slot), lv_has ls 4 [(3, .int (nI N)), (2, .int (nI i)), (1, .int (enc (bin r i (bout r N i) N))), (0, .ref f)] → W p0_ l e0_ ({ frames := 9, cells := 0, slots := 0, locals := 265 } : Room) s m args below meth c s.heap [] (0) (0) (MQ below (vp_Si (fun rr9 => rr9 = sBest r N)) args s 0 0 (fun _ => False)) (F0 m 15 ls []) := by
      intro ls hl
      refine lv_iload_n hx hb dX2_best_15 rfl (lv_at hl 0 rfl) ?_
      refine lv_aload_n hx hb dX2_best_16 rfl (lv_at hl 3 rfl) ?_
      refine va_get (D := gD G) (ci := 2) (v := .int (r 0)) (C := RX2) (T := TX2) (N := 8) hx hb hts in_X2 hown hK.1 hP 0 rfl rfl 5 (by decide) (hts _ q802) (fun _ h9 => h9) rfl dX2_best_17 ?_
      refine n_eqi (hr) ?_
      refine n_ic_ge (x := N) (y := N) (tgt := 70) hx hb (by omega) (by omega) dX2_best_20 (by decide) (fun c_5 => ?_) (fun c_5 => absurd c_5 (by omega))
      refine n_iinc (k := 1) (lv' := [(2, .int (nI (i + 1))), (3, .int (nI N)), (1, .int (enc (bin r i (bout r N i) N))), (0, .ref f)]) hx hb i 1 dX2_best_70 hl rfl (Nat.le_of_ble_eq_true rfl) rfl (fun ls hl => ?_)
      refine lv_goto (tgt := 5) hx hb dX2_best_73 (by decide) ?_
      have e_6 : enc (bout r N (i + 1)) = enc (bin r i (bout r N i) N) := by rfl
      exact ih_1 (i + 1) (by omega) ls (by rw [e_6]; exact lv_sub hl [0, 2, 3] rfl)
    intro n
    induction n with
    | zero =>
      intro j hi_4 ls hl
      obtain e_4 : j = N := by omega
      first | (subst e_4; exact hend_4 ls hl) | (rw [e_4] at hl; exact hend_4 ls hl)
    | succ n ih_4 =>
      intro j hi_4 ls hl
      refine lv_iload_n hx hb dX2_best_15 rfl (lv_at hl 0 rfl) ?_
      refine lv_aload_n hx hb dX2_best_16 rfl (lv_at hl 3 rfl) ?_
      refine va_get (D := gD G) (ci := 2) (v := .int (r 0)) (C := RX2) (T := TX2) (N := 8) hx hb hts in_X2 hown hK.1 hP 0 rfl rfl 5 (by decide) (hts _ q802) (fun _ h9 => h9) rfl dX2_best_17 ?_
      refine n_eqi (hr) ?_
      refine n_ic_ge (x := j) (y := N) (tgt := 70) hx hb (by omega) (by omega) dX2_best_20 (by decide) (fun c_7 => absurd c_7 (by omega)) (fun c_7 => ?_)
      refine lv_aload_n hx hb dX2_best_23 rfl (lv_at hl 3 rfl) ?_
      refine lv_iload_n hx hb dX2_best_24 rfl (lv_at hl 1 rfl) ?_
      refine lv_iload_n hx hb dX2_best_25 rfl (lv_at hl 0 rfl) ?_
      refine c_Vk (rest := []) C (metX2_canEatN l G f fd gm wh r N i j (by omega) (hr) (hwk) (by omega) (by omega)) 2 (lw_V q565 q368 q369 q40 q370) (by decide +kernel) ⟨rfl, rfl⟩ ⟨(Nat.le_of_ble_eq_true rfl), (Nat.le_of_ble_eq_true rfl)⟩ (KG.call) (va_recv hK.1 hP (ci := 2) (q0 := 0) rfl rfl) hP (KG.at hK hGP) hl rfl rfl (Nat.le_of_ble_eq_true rfl) ⟨(Nat.le_of_ble_eq_true rfl), (Nat.le_of_ble_eq_true rfl)⟩ dX2_best_26 ?_
      refine n_if_eqB (b := (sEat r i j)) (tgt := 64) hx hb dX2_best_29 (by decide) (fun c_8 => ?_) (fun c_8 => ?_)
      · refine n_iinc (k := 0) (lv' := [(3, .int (nI (j + 1))), (2, .int (nI i)), (1, .int (enc (bin r i (bout r N i) j))), (0, .ref f)]) hx hb j 1 dX2_best_64 hl rfl (Nat.le_of_ble_eq_true rfl) rfl (fun ls hl => ?_)
        refine lv_goto (tgt := 15) hx hb dX2_best_67 (by decide) ?_
        have e_9 : enc (bin r i (bout r N i) (j + 1)) = enc (bin r i (bout r N i) j) := by simp [bin, bstp, encS, encN, bval, c_7, c_8]
        exact ih_4 (j + 1) (by omega) ls (by rw [e_9]; exact lv_sub hl [0, 1, 2, 3] rfl)
      · rcases ho_10 : bin r i (bout r N i) j with _ | bo_10
        · rw [ho_10] at hl
          have hl : lv_has ls 4 [(3, .int (nI j)), (2, .int (nI i)), (1, .int (-4)), (0, .ref f)] := hl
          have hj_11 : (-1 : Int32) < sJoy r i j := hJ.gt (by omega) (by omega)
          refine lv_iload_n hx hb dX2_best_32 rfl (lv_at hl 2 rfl) ?_
          refine lv_if_lt (x := (-4)) (tgt := 57) hx hb dX2_best_33 (by decide) (fun c_12 => ?_) (fun c_12 => absurd c_12 (by decide))
          refine lv_bipush (v := 10) hx hb dX2_best_57 (by decide) ?_
          refine lv_iload_n hx hb dX2_best_59 rfl (lv_at hl 1 rfl) ?_
          refine n_imul hx hb 10 i dX2_best_60 ?_
          refine lv_iload_n hx hb dX2_best_61 rfl (lv_at hl 0 rfl) ?_
          refine n_iadd hx hb (10 * i) j dX2_best_62 ?_
          refine lv_istore_n (lv' := [(1, .int (nI ((10 * i) + j))), (3, .int (nI j)), (2, .int (nI i)), (0, .ref f)]) hx hb dX2_best_63 rfl hl (Nat.le_of_ble_eq_true rfl) rfl (fun ls hl => ?_)
          refine n_iinc (k := 1) (lv' := [(3, .int (nI (j + 1))), (1, .int (nI ((10 * i) + j))), (2, .int (nI i)), (0, .ref f)]) hx hb j 1 dX2_best_64 hl rfl (Nat.le_of_ble_eq_true rfl) rfl (fun ls hl => ?_)
          refine lv_goto (tgt := 15) hx hb dX2_best_67 (by decide) ?_
          have e_13 : enc (bin r i (bout r N i) (j + 1)) = nI ((10 * i) + j) := by simp [bin, bstp, encS, encN, bval, c_7, c_8, ho_10, hj_11, c_12]
          exact ih_4 (j + 1) (by omega) ls (by rw [e_13]; exact lv_sub hl [0, 2, 1, 3] rfl)
        · rw [ho_10] at hl
          have hl : lv_has ls 4 [(3, .int (nI j)), (2, .int (nI i)), (1, .int (nI (10 * bo_10.1 + bo_10.2))), (0, .ref f)] := hl
          have go_10 := bin_in (N := N) (by omega) (bout_in i (by omega)) j (by omega) _ ho_10
          have uo_10 : (10 * bo_10.1 + bo_10.2) / 10 = bo_10.1 := by omega
          have vo_10 : (10 * bo_10.1 + bo_10.2) % 10 = bo_10.2 := by omega
          refine lv_iload_n hx hb dX2_best_32 rfl (lv_at hl 2 rfl) ?_
          refine n_if_lt (x := 10 * bo_10.1 + bo_10.2) (tgt := 57) hx hb (by omega) dX2_best_33 (by decide) ?_
          refine lv_aload_n hx hb dX2_best_36 rfl (lv_at hl 3 rfl) ?_
          refine lv_iload_n hx hb dX2_best_37 rfl (lv_at hl 1 rfl) ?_
          refine lv_iload_n hx hb dX2_best_38 rfl (lv_at hl 0 rfl) ?_
          refine c_Vk (rest := []) C (metX2_joys l G f fd gm wh r N i j (by omega) (hr) (hwk) (by omega) (by omega)) 2 (lw_V q402 q403 q404 q40 q405) (by decide +kernel) ⟨rfl, rfl⟩ ⟨(Nat.le_of_ble_eq_true rfl), (Nat.le_of_ble_eq_true rfl)⟩ (KG.call) (va_recv hK.1 hP (ci := 2) (q0 := 0) rfl rfl) hP (KG.at hK hGP) hl rfl rfl (Nat.le_of_ble_eq_true rfl) ⟨(Nat.le_of_ble_eq_true rfl), (Nat.le_of_ble_eq_true rfl)⟩ dX2_best_39 ?_
          refine lv_aload_n hx hb dX2_best_42 rfl (lv_at hl 3 rfl) ?_
          refine lv_iload_n hx hb dX2_best_43 rfl (lv_at hl 2 rfl) ?_
          refine lv_bipush (v := 10) hx hb dX2_best_44 (by decide) ?_
          refine n_idiv hx hb (10 * bo_10.1 + bo_10.2) 10 (by omega) (by omega) (by omega) dX2_best_46 ?_
          refine n_eqi (congrArg nI (show (10 * bo_10.1 + bo_10.2) / 10 = bo_10.1 from uo_10)) ?_
          refine lv_iload_n hx hb dX2_best_47 rfl (lv_at hl 2 rfl) ?_
          refine lv_bipush (v := 10) hx hb dX2_best_48 (by decide) ?_
          refine n_irem hx hb (10 * bo_10.1 + bo_10.2) 10 (by omega) (by omega) (by omega) dX2_best_50 ?_
          refine n_eqi (congrArg nI (show (10 * bo_10.1 + bo_10.2) % 10 = bo_10.2 from vo_10)) ?_
          refine c_Vk (rest := [.int (sJoy r i j)]) C (metX2_joys l G f fd gm wh r N bo_10.1 bo_10.2 (by omega) (hr) (hwk) (by omega) (by omega)) 2 (lw_V q402 q403 q404 q40 q405) (by decide +kernel) ⟨rfl, rfl⟩ ⟨(Nat.le_of_ble_eq_true rfl), (Nat.le_of_ble_eq_true rfl)⟩ (KG.call) (va_recv hK.1 hP (ci := 2) (q0 := 0) rfl rfl) hP (KG.at hK hGP) hl rfl rfl (Nat.le_of_ble_eq_true rfl) ⟨(Nat.le_of_ble_eq_true rfl), (Nat.le_of_ble_eq_true rfl)⟩ dX2_best_51 ?_
          refine lv_icmp_le (x := sJoy r i j) (y := sJoy r bo_10.1 bo_10.2) (tgt := 64) hx hb dX2_best_54 (by decide) (fun c_14 => ?_) (fun c_14 => ?_)
          · have zc_14 : ¬ (sJoy r bo_10.1 bo_10.2) < (sJoy r i j) := Int32.not_lt.mpr c_14
            refine n_iinc (k := 0) (lv' := [(3, .int (nI (j + 1))), (2, .int (nI i)), (1, .int (nI (10 * bo_10.1 + bo_10.2))), (0, .ref f)]) hx hb j 1 dX2_best_64 hl rfl (Nat.le_of_ble_eq_true rfl) rfl (fun ls hl => ?_)
            refine lv_goto (tgt := 15) hx hb dX2_best_67 (by decide) ?_
            have e_15 : enc (bin r i (bout r N i) (j + 1)) = nI (10 * bo_10.1 + bo_10.2) := by simp [bin, bstp, encS, encN, bval, c_7, c_8, ho_10, c_14, zc_14]
            exact ih_4 (j + 1) (by omega) ls (by rw [e_15]; exact lv_sub hl [0, 1, 2, 3] rfl)
          · have zc_14 : (sJoy r bo_10.1 bo_10.2) < (sJoy r i j) := Int32.not_le.mp c_14
            refine lv_bipush (v := 10) hx hb dX2_best_57 (by decide) ?_
            refine lv_iload_n hx hb dX2_best_59 rfl (lv_at hl 1 rfl) ?_
            refine n_imul hx hb 10 i dX2_best_60 ?_
            refine lv_iload_n hx hb dX2_best_61 rfl (lv_at hl 0 rfl) ?_
            refine n_iadd hx hb (10 * i) j dX2_best_62 ?_
            refine lv_istore_n (lv' := [(1, .int (nI ((10 * i) + j))), (3, .int (nI j)), (2, .int (nI i)), (0, .ref f)]) hx hb dX2_best_63 rfl hl (Nat.le_of_ble_eq_true rfl) rfl (fun ls hl => ?_)
            refine n_iinc (k := 1) (lv' := [(3, .int (nI (j + 1))), (1, .int (nI ((10 * i) + j))), (2, .int (nI i)), (0, .ref f)]) hx hb j 1 dX2_best_64 hl rfl (Nat.le_of_ble_eq_true rfl) rfl (fun ls hl => ?_)
            refine lv_goto (tgt := 15) hx hb dX2_best_67 (by decide) ?_
            have e_16 : enc (bin r i (bout r N i) (j + 1)) = nI ((10 * i) + j) := by simp [bin, bstp, encS, encN, bval, c_7, c_8, ho_10, c_14, zc_14]
            exact ih_4 (j + 1) (by omega) ls (by rw [e_16]; exact lv_sub hl [0, 2, 1, 3] rfl)

set_option maxHeartbeats 4000000 in
set_option maxRecDepth 100000 in
theorem metX2_bestJoys (l : Launch) (G : GG) (f : Nat) (fd : Nat → Nat) (gm : GM) (wh : Nat → Option Nat) (r : Nat → Int32) (N : Nat) (hN : N ≤ 9) (hr : r 0 = nI N) (hwk : WK gm wh r N) (hJ : JN r N) : MR l yX2_bestJoys cX2_bestJoys 2 (some .int) ({ frames := 10, cells := 0, slots := 0, locals := 288 }) [.ref f] [(f, fO fd r), (fd 0, qA G 3 9 wh), (fd 1, iA G 9 (fA r 2)), (fd 2, iA G 9 (fA r 3)), (fd 3, iA G 9 (fA r 4)), (fd 4, iA G 9 (fA r 5))] G (KG G gm) (sBJX r N) := by
  -- rows printed by wip/tools/gen.py
  refine mr_mk RX2 (by decide) rfl (Nat.le_of_ble_eq_true rfl) ?_
  intro p0_ e0_ s m args below meth c C hP hK ls hl
  have hGP := hK.2
  have hK := hK.1
  have hx := C.1
  have hb := C.2.1
  have hml := C.2.2.2.2.1
  have hown := C.2.2.2.2.2.1
  have hts := C.2.2.2.2.2.2
  have hl : lv_has ls 2 [(0, .ref f)] := hl
  refine lv_aload_n hx hb dX2_bestJoys_0 rfl (lv_at hl 0 rfl) ?_
  refine c_Vk (rest := []) C (metX2_best l G f fd gm wh r N (by omega) (hr) (hwk) (hJ)) 0 (lw_V q570 q562 q563 q40 q564) (by decide +kernel) ⟨rfl, rfl⟩ ⟨(Nat.le_of_ble_eq_true rfl), (Nat.le_of_ble_eq_true rfl)⟩ (KG.call) (va_recv hK.1 hP (ci := 2) (q0 := 0) rfl rfl) hP (KG.at hK hGP) hl rfl rfl (Nat.le_of_ble_eq_true rfl) ⟨(Nat.le_of_ble_eq_true rfl), (Nat.le_of_ble_eq_true rfl)⟩ dX2_bestJoys_1 ?_
  rcases ho_1 : sBestO r N with _ | qo_1
  · have eo_1 : sBest r N = -4 := by rw [sBest, ho_1]; rfl
    refine n_eqi eo_1 ?_
    refine lv_istore_n (lv' := [(1, .int (-4)), (0, .ref f)]) hx hb dX2_bestJoys_4 rfl hl (Nat.le_of_ble_eq_true rfl) rfl (fun ls hl => ?_)
    refine lv_iload_n hx hb dX2_bestJoys_5 rfl (lv_at hl 0 rfl) ?_
    refine lv_if_ge (x := (-4)) (tgt := 14) hx hb dX2_bestJoys_6 (by decide) (fun c_2 => absurd c_2 (by decide)) (fun c_2 => ?_)
    refine lv_bipush (v := (-4)) hx hb dX2_bestJoys_9 (by decide) ?_
    refine lv_goto (tgt := 26) hx hb dX2_bestJoys_11 (by decide) ?_
    exact n_iret (v := (-4)) C (by simp [sBJX, ho_1, eo_1, c_2]) dX2_bestJoys_26
  · have eo_1 : sBest r N = nI (10 * qo_1.1 + qo_1.2) := by rw [sBest, ho_1]; rfl
    have go_1 := sBestO_in ho_1
    have uo_1 : (10 * qo_1.1 + qo_1.2) / 10 = qo_1.1 := by omega
    have vo_1 : (10 * qo_1.1 + qo_1.2) % 10 = qo_1.2 := by omega
    refine n_eqi eo_1 ?_
    refine lv_istore_n (lv' := [(1, .int (nI (10 * qo_1.1 + qo_1.2))), (0, .ref f)]) hx hb dX2_bestJoys_4 rfl hl (Nat.le_of_ble_eq_true rfl) rfl (fun ls hl => ?_)
    refine lv_iload_n hx hb dX2_bestJoys_5 rfl (lv_at hl 0 rfl) ?_
    refine n_if_ge (x := 10 * qo_1.1 + qo_1.2) (tgt := 14) hx hb (by omega) dX2_bestJoys_6 (by decide) ?_
    refine lv_aload_n hx hb dX2_bestJoys_14 rfl (lv_at hl 1 rfl) ?_
    refine lv_iload_n hx hb dX2_bestJoys_15 rfl (lv_at hl 0 rfl) ?_
    refine lv_bipush (v := 10) hx hb dX2_bestJoys_16 (by decide) ?_
    refine n_idiv hx hb (10 * qo_1.1 + qo_1.2) 10 (by omega) (by omega) (by omega) dX2_bestJoys_18 ?_
    refine n_eqi (congrArg nI (show (10 * qo_1.1 + qo_1.2) / 10 = qo_1.1 from uo_1)) ?_
    refine lv_iload_n hx hb dX2_bestJoys_19 rfl (lv_at hl 0 rfl) ?_
    refine lv_bipush (v := 10) hx hb dX2_bestJoys_20 (by decide) ?_
    refine n_irem hx hb (10 * qo_1.1 + qo_1.2) 10 (by omega) (by omega) (by omega) dX2_bestJoys_22 ?_
    refine n_eqi (congrArg nI (show (10 * qo_1.1 + qo_1.2) % 10 = qo_1.2 from vo_1)) ?_
    refine c_Vk (rest := []) C (metX2_joys l G f fd gm wh r N qo_1.1 qo_1.2 (by omega) (hr) (hwk) (by omega) (by omega)) 2 (lw_V q402 q403 q404 q40 q405) (by decide +kernel) ⟨rfl, rfl⟩ ⟨(Nat.le_of_ble_eq_true rfl), (Nat.le_of_ble_eq_true rfl)⟩ (KG.call) (va_recv hK.1 hP (ci := 2) (q0 := 0) rfl rfl) hP (KG.at hK hGP) hl rfl rfl (Nat.le_of_ble_eq_true rfl) ⟨(Nat.le_of_ble_eq_true rfl), (Nat.le_of_ble_eq_true rfl)⟩ dX2_bestJoys_23 ?_
    exact n_iret (v := sJoy r qo_1.1 qo_1.2) C (by simp [sBJX, ho_1, eo_1]) dX2_bestJoys_26

set_option maxHeartbeats 4000000 in
set_option maxRecDepth 100000 in
theorem metX2_eats (l : Launch) (G : GG) (f : Nat) (fd : Nat → Nat) (gm : GM) (wh : Nat → Option Nat) (r : Nat → Int32) (N : Nat) (p q : Nat) (hN : N ≤ 9) (hr : r 0 = nI N) (hwk : WK gm wh r N) (hp : p < N) (hq : q < N) (hng : NG gm [(f, fO fd r), (fd 0, qA G 3 9 wh), (fd 1, iA G 9 (fA r 2)), (fd 2, iA G 9 (fA r 3)), (fd 3, iA G 9 (fA r 4)), (fd 4, iA G 9 (fA r 5))]) : MW l yX2_eats cX2_eats 4 (some .int) ({ frames := 9, cells := 0, slots := 0, locals := 265 }) [.ref f, .int (nI p), .int (nI q)] [(f, fO fd r), (fd 0, qA G 3 9 wh), (fd 1, iA G 9 (fA r 2)), (fd 2, iA G 9 (fA r 3)), (fd 3, iA G 9 (fA r 4)), (fd 4, iA G 9 (fA r 5))] G (KG G gm) 0 0 (fun rv w1 => rv = sJoy r p q ∧ w1 = [(f, fO fd (sTurn r p q)), (fd 0, qA G 3 9 wh), (fd 1, iA G 9 (fA (sTurn r p q) 2)), (fd 2, iA G 9 (fA (sTurn r p q) 3)), (fd 3, iA G 9 (fA (sTurn r p q) 4)), (fd 4, iA G 9 (fA (sTurn r p q) 5))]) := by
  -- rows printed by wip/tools/gen.py
  refine mw_mkg RX2 (by decide) rfl (Nat.le_of_ble_eq_true rfl) ?_
  intro p0_ e0_ s m args below meth c A C hA hAx hP hK hD ls hl
  have hGP := hK.2
  have hK := hK.1
  have hGA := GA.of hng hGP hAx
  have hx := C.1
  have hb := C.2.1
  have hml := C.2.2.2.2.1
  have hown := C.2.2.2.2.2.1
  have hts := C.2.2.2.2.2.2
  have hS : va_S A s.heap s.heap [] := va_S.rf
  have hl : lv_has ls 4 [(0, .ref f), (1, .int (nI p)), (2, .int (nI q))] := hl
  refine lv_aload_n hx hb dX2_eats_0 rfl (lv_at hl 0 rfl) ?_
  refine lv_iload_n hx hb dX2_eats_1 rfl (lv_at hl 1 rfl) ?_
  refine lv_iload_n hx hb dX2_eats_2 rfl (lv_at hl 2 rfl) ?_
  refine c_Vk (rest := []) C (metX2_joys l G f fd gm wh r N p q (by omega) (hr) (hwk) (by omega) (by omega)) 2 (lw_V q402 q403 q404 q40 q405) (by decide +kernel) ⟨rfl, rfl⟩ ⟨(Nat.le_of_ble_eq_true rfl), (Nat.le_of_ble_eq_true rfl)⟩ (KG.call) (va_recv hK.1 hP (ci := 2) (q0 := 0) rfl rfl) hP (KG.at hK (hGP.kept hGA hS)) hl rfl rfl (Nat.le_of_ble_eq_true rfl) ⟨(Nat.le_of_ble_eq_true rfl), (Nat.le_of_ble_eq_true rfl)⟩ dX2_eats_3 ?_
  refine lv_istore_n (lv' := [(3, .int (sJoy r p q)), (0, .ref f), (1, .int (nI p)), (2, .int (nI q))]) hx hb dX2_eats_6 rfl hl (Nat.le_of_ble_eq_true rfl) rfl (fun ls hl => ?_)
  refine lv_aload_n hx hb dX2_eats_7 rfl (lv_at hl 1 rfl) ?_
  refine va_get (D := gD G) (ci := 2) (v := .ref (fd 1)) (C := RX2) (T := TX2) (N := 8) hx hb hts in_X2 hown hK.1 hP 0 rfl rfl 1 (by decide) (hts _ q794) (fun _ h9 => h9) rfl dX2_eats_8 ?_
  refine lv_iload_n hx hb dX2_eats_11 rfl (lv_at hl 2 rfl) ?_
  refine lv_dup2_11 hx hb dX2_eats_12 rfl rfl ?_
  refine n_iald C hK.1 hP 2 p rfl (by omega) (by omega) dX2_eats_13 ?_
  refine lv_aload_n hx hb dX2_eats_14 rfl (lv_at hl 1 rfl) ?_
  refine lv_iload_n hx hb dX2_eats_15 rfl (lv_at hl 2 rfl) ?_
  refine c_Vk (rest := [.int (r (3 + 6 * p + 2)), .int (nI p), .ref (fd 1)]) C (metX2_stills l G f fd gm wh r N p (by omega) (hr) (hwk) (by omega)) 1 (lw_V q410 q411 q412 q40 q413) (by decide +kernel) ⟨rfl, rfl⟩ ⟨(Nat.le_of_ble_eq_true rfl), (Nat.le_of_ble_eq_true rfl)⟩ (KG.call) (va_recv hK.1 hP (ci := 2) (q0 := 0) rfl rfl) hP (KG.at hK (hGP.kept hGA hS)) hl rfl rfl (Nat.le_of_ble_eq_true rfl) ⟨(Nat.le_of_ble_eq_true rfl), (Nat.le_of_ble_eq_true rfl)⟩ dX2_eats_16 ?_
  refine lv_isub (x := r (3 + 6 * p + 2)) (y := sBites r p) hx hb dX2_eats_19 ?_
  refine n_iast (x := (r (3 + 6 * p + 2)) - (sBites r p)) C hK.1 hP hD hS 2 p rfl (by omega) (by omega) dX2_eats_20 (fun H locs hP hD hS => ?_)
  have hP : PP G [(f, fO fd r), (fd 0, qA G 3 9 wh), (fd 1, iA G 9 (upd (fA r 2) p ((r (3 + 6 * p + 2)) - (sBites r p)))), (fd 2, iA G 9 (fA r 3)), (fd 3, iA G 9 (fA r 4)), (fd 4, iA G 9 (fA r 5))] H := hP
  have hD : va_D A [(f, fO fd r), (fd 0, qA G 3 9 wh), (fd 1, iA G 9 (upd (fA r 2) p ((r (3 + 6 * p + 2)) - (sBites r p)))), (fd 2, iA G 9 (fA r 3)), (fd 3, iA G 9 (fA r 4)), (fd 4, iA G 9 (fA r 5))] := hD
  have z_1 : (fO fd (sT1 r p) : va_E) = fO fd r := fO_u (fd := fd) (r := r) (p := p) (k := 2) (v := (r (3 + 6 * p + 2)) - (sBites r p))
  have z_2 : (iA G 9 (fA (sT1 r p) 2) : va_E) = iA G 9 (upd (fA r 2) p ((r (3 + 6 * p + 2)) - (sBites r p))) := congrArg (iA G 9) (fA_u (r := r) (p := p) (k := 2) (v := (r (3 + 6 * p + 2)) - (sBites r p)) (by decide))
  have z_3 : (iA G 9 (fA (sT1 r p) 3) : va_E) = iA G 9 (fA r 3) := congrArg (iA G 9) (fA_n (r := r) (p := p) (k := 2) (k' := 3) (v := (r (3 + 6 * p + 2)) - (sBites r p)) (by decide) (by decide) (by decide))
  have z_4 : (iA G 9 (fA (sT1 r p) 4) : va_E) = iA G 9 (fA r 4) := congrArg (iA G 9) (fA_n (r := r) (p := p) (k := 2) (k' := 4) (v := (r (3 + 6 * p + 2)) - (sBites r p)) (by decide) (by decide) (by decide))
  have z_5 : (iA G 9 (fA (sT1 r p) 5) : va_E) = iA G 9 (fA r 5) := congrArg (iA G 9) (fA_n (r := r) (p := p) (k := 2) (k' := 5) (v := (r (3 + 6 * p + 2)) - (sBites r p)) (by decide) (by decide) (by decide))
  have hP : PP G [(f, fO fd (sT1 r p)), (fd 0, qA G 3 9 wh), (fd 1, iA G 9 (fA (sT1 r p) 2)), (fd 2, iA G 9 (fA (sT1 r p) 3)), (fd 3, iA G 9 (fA (sT1 r p) 4)), (fd 4, iA G 9 (fA (sT1 r p) 5))] H := by rw [z_1, z_2, z_3, z_4, z_5]; exact hP
  have hD : va_D A [(f, fO fd (sT1 r p)), (fd 0, qA G 3 9 wh), (fd 1, iA G 9 (fA (sT1 r p) 2)), (fd 2, iA G 9 (fA (sT1 r p) 3)), (fd 3, iA G 9 (fA (sT1 r p) 4)), (fd 4, iA G 9 (fA (sT1 r p) 5))] := by rw [z_1, z_2, z_3, z_4, z_5]; exact hD
  have hr_6 : (sT1 r p) 0 = nI N := (r_n (r := r) (p := p) (k := 2) (v := (r (3 + 6 * p + 2)) - (sBites r p)) (i := 0) (by decide)).trans hr
  have hw_7 : WK gm wh (sT1 r p) N := WK.u (k := 2) hwk (by decide)
  refine lv_aload_n hx hb dX2_eats_21 rfl (lv_at hl 1 rfl) ?_
  refine va_get (D := gD G) (ci := 2) (v := .ref (fd 2)) (C := RX2) (T := TX2) (N := 8) hx hb hts in_X2 hown hK.1 hP 0 rfl rfl 2 (by decide) (hts _ q796) (fun _ h9 => h9) rfl dX2_eats_22 ?_
  refine lv_iload_n hx hb dX2_eats_25 rfl (lv_at hl 3 rfl) ?_
  refine lv_dup2_11 hx hb dX2_eats_26 rfl rfl ?_
  refine n_iald C hK.1 hP 3 q rfl (by omega) (by omega) dX2_eats_27 ?_
  refine lv_aload_n hx hb dX2_eats_28 rfl (lv_at hl 1 rfl) ?_
  refine lv_iload_n hx hb dX2_eats_29 rfl (lv_at hl 3 rfl) ?_
  refine c_Vk (rest := [.int ((sT1 r p) (3 + 6 * q + 3)), .int (nI q), .ref (fd 2)]) C (metX2_looks l G f fd gm wh (sT1 r p) N q (by omega) (hr_6) (hw_7) (by omega)) 1 (lw_V q465 q466 q467 q40 q468) (by decide +kernel) ⟨rfl, rfl⟩ ⟨(Nat.le_of_ble_eq_true rfl), (Nat.le_of_ble_eq_true rfl)⟩ (KG.call) (va_recv hK.1 hP (ci := 2) (q0 := 0) rfl rfl) hP (KG.at hK (hGP.kept hGA hS)) hl rfl rfl (Nat.le_of_ble_eq_true rfl) ⟨(Nat.le_of_ble_eq_true rfl), (Nat.le_of_ble_eq_true rfl)⟩ dX2_eats_30 ?_
  refine lv_isub (x := (sT1 r p) (3 + 6 * q + 3)) (y := sGazes (sT1 r p) q) hx hb dX2_eats_33 ?_
  refine n_iast (x := ((sT1 r p) (3 + 6 * q + 3)) - (sGazes (sT1 r p) q)) C hK.1 hP hD hS 3 q rfl (by omega) (by omega) dX2_eats_34 (fun H locs hP hD hS => ?_)
  have hP : PP G [(f, fO fd (sT1 r p)), (fd 0, qA G 3 9 wh), (fd 1, iA G 9 (fA (sT1 r p) 2)), (fd 2, iA G 9 (upd (fA (sT1 r p) 3) q (((sT1 r p) (3 + 6 * q + 3)) - (sGazes (sT1 r p) q)))), (fd 3, iA G 9 (fA (sT1 r p) 4)), (fd 4, iA G 9 (fA (sT1 r p) 5))] H := hP
  have hD : va_D A [(f, fO fd (sT1 r p)), (fd 0, qA G 3 9 wh), (fd 1, iA G 9 (fA (sT1 r p) 2)), (fd 2, iA G 9 (upd (fA (sT1 r p) 3) q (((sT1 r p) (3 + 6 * q + 3)) - (sGazes (sT1 r p) q)))), (fd 3, iA G 9 (fA (sT1 r p) 4)), (fd 4, iA G 9 (fA (sT1 r p) 5))] := hD
  have z_8 : (fO fd (sT2 r p q) : va_E) = fO fd (sT1 r p) := fO_u (fd := fd) (r := sT1 r p) (p := q) (k := 3) (v := ((sT1 r p) (3 + 6 * q + 3)) - (sGazes (sT1 r p) q))
  have z_9 : (iA G 9 (fA (sT2 r p q) 2) : va_E) = iA G 9 (fA (sT1 r p) 2) := congrArg (iA G 9) (fA_n (r := sT1 r p) (p := q) (k := 3) (k' := 2) (v := ((sT1 r p) (3 + 6 * q + 3)) - (sGazes (sT1 r p) q)) (by decide) (by decide) (by decide))
  have z_10 : (iA G 9 (fA (sT2 r p q) 3) : va_E) = iA G 9 (upd (fA (sT1 r p) 3) q (((sT1 r p) (3 + 6 * q + 3)) - (sGazes (sT1 r p) q))) := congrArg (iA G 9) (fA_u (r := sT1 r p) (p := q) (k := 3) (v := ((sT1 r p) (3 + 6 * q + 3)) - (sGazes (sT1 r p) q)) (by decide))
  have z_11 : (iA G 9 (fA (sT2 r p q) 4) : va_E) = iA G 9 (fA (sT1 r p) 4) := congrArg (iA G 9) (fA_n (r := sT1 r p) (p := q) (k := 3) (k' := 4) (v := ((sT1 r p) (3 + 6 * q + 3)) - (sGazes (sT1 r p) q)) (by decide) (by decide) (by decide))
  have z_12 : (iA G 9 (fA (sT2 r p q) 5) : va_E) = iA G 9 (fA (sT1 r p) 5) := congrArg (iA G 9) (fA_n (r := sT1 r p) (p := q) (k := 3) (k' := 5) (v := ((sT1 r p) (3 + 6 * q + 3)) - (sGazes (sT1 r p) q)) (by decide) (by decide) (by decide))
  have hP : PP G [(f, fO fd (sT2 r p q)), (fd 0, qA G 3 9 wh), (fd 1, iA G 9 (fA (sT2 r p q) 2)), (fd 2, iA G 9 (fA (sT2 r p q) 3)), (fd 3, iA G 9 (fA (sT2 r p q) 4)), (fd 4, iA G 9 (fA (sT2 r p q) 5))] H := by rw [z_8, z_9, z_10, z_11, z_12]; exact hP
  have hD : va_D A [(f, fO fd (sT2 r p q)), (fd 0, qA G 3 9 wh), (fd 1, iA G 9 (fA (sT2 r p q) 2)), (fd 2, iA G 9 (fA (sT2 r p q) 3)), (fd 3, iA G 9 (fA (sT2 r p q) 4)), (fd 4, iA G 9 (fA (sT2 r p q) 5))] := by rw [z_8, z_9, z_10, z_11, z_12]; exact hD
  have hr_13 : (sT2 r p q) 0 = nI N := (r_n (r := sT1 r p) (p := q) (k := 3) (v := ((sT1 r p) (3 + 6 * q + 3)) - (sGazes (sT1 r p) q)) (i := 0) (by decide)).trans hr_6
  have hw_14 : WK gm wh (sT2 r p q) N := WK.u (k := 3) hw_7 (by decide)
  refine lv_aload_n hx hb dX2_eats_35 rfl (lv_at hl 1 rfl) ?_
  refine va_get (D := gD G) (ci := 2) (v := .ref (fd 3)) (C := RX2) (T := TX2) (N := 8) hx hb hts in_X2 hown hK.1 hP 0 rfl rfl 3 (by decide) (hts _ q798) (fun _ h9 => h9) rfl dX2_eats_36 ?_
  refine lv_iload_n hx hb dX2_eats_39 rfl (lv_at hl 2 rfl) ?_
  refine lv_bipush (v := 99) hx hb dX2_eats_40 (by decide) ?_
  refine lv_aload_n hx hb dX2_eats_42 rfl (lv_at hl 1 rfl) ?_
  refine va_get (D := gD G) (ci := 2) (v := .ref (fd 3)) (C := RX2) (T := TX2) (N := 8) hx hb hts in_X2 hown hK.1 hP 0 rfl rfl 3 (by decide) (hts _ q798) (fun _ h9 => h9) rfl dX2_eats_43 ?_
  refine lv_iload_n hx hb dX2_eats_46 rfl (lv_at hl 2 rfl) ?_
  refine n_iald C hK.1 hP 4 p rfl (by omega) (by omega) dX2_eats_47 ?_
  refine lv_iconst (v := 1) hx hb dX2_eats_48 (by decide) ?_
  refine lv_iadd (x := (sT2 r p q) (3 + 6 * p + 4)) (y := 1) hx hb dX2_eats_49 ?_
  refine n_mmin (x := 99) (y := ((sT2 r p q) (3 + 6 * p + 4)) + 1) C q440 q441 q60 q442 hl ⟨(Nat.le_of_ble_eq_true rfl), (Nat.le_of_ble_eq_true rfl)⟩ (Nat.le_of_ble_eq_true rfl) ⟨(Nat.le_of_ble_eq_true rfl), (Nat.le_of_ble_eq_true rfl)⟩ dX2_eats_50 ?_
  refine n_iast (x := mn 99 (((sT2 r p q) (3 + 6 * p + 4)) + 1)) C hK.1 hP hD hS 4 p rfl (by omega) (by omega) dX2_eats_53 (fun H locs hP hD hS => ?_)
  have hP : PP G [(f, fO fd (sT2 r p q)), (fd 0, qA G 3 9 wh), (fd 1, iA G 9 (fA (sT2 r p q) 2)), (fd 2, iA G 9 (fA (sT2 r p q) 3)), (fd 3, iA G 9 (upd (fA (sT2 r p q) 4) p (mn 99 (((sT2 r p q) (3 + 6 * p + 4)) + 1)))), (fd 4, iA G 9 (fA (sT2 r p q) 5))] H := hP
  have hD : va_D A [(f, fO fd (sT2 r p q)), (fd 0, qA G 3 9 wh), (fd 1, iA G 9 (fA (sT2 r p q) 2)), (fd 2, iA G 9 (fA (sT2 r p q) 3)), (fd 3, iA G 9 (upd (fA (sT2 r p q) 4) p (mn 99 (((sT2 r p q) (3 + 6 * p + 4)) + 1)))), (fd 4, iA G 9 (fA (sT2 r p q) 5))] := hD
  have z_15 : (fO fd (sT3 r p q) : va_E) = fO fd (sT2 r p q) := fO_u (fd := fd) (r := sT2 r p q) (p := p) (k := 4) (v := mn 99 (((sT2 r p q) (3 + 6 * p + 4)) + 1))
  have z_16 : (iA G 9 (fA (sT3 r p q) 2) : va_E) = iA G 9 (fA (sT2 r p q) 2) := congrArg (iA G 9) (fA_n (r := sT2 r p q) (p := p) (k := 4) (k' := 2) (v := mn 99 (((sT2 r p q) (3 + 6 * p + 4)) + 1)) (by decide) (by decide) (by decide))
  have z_17 : (iA G 9 (fA (sT3 r p q) 3) : va_E) = iA G 9 (fA (sT2 r p q) 3) := congrArg (iA G 9) (fA_n (r := sT2 r p q) (p := p) (k := 4) (k' := 3) (v := mn 99 (((sT2 r p q) (3 + 6 * p + 4)) + 1)) (by decide) (by decide) (by decide))
  have z_18 : (iA G 9 (fA (sT3 r p q) 4) : va_E) = iA G 9 (upd (fA (sT2 r p q) 4) p (mn 99 (((sT2 r p q) (3 + 6 * p + 4)) + 1))) := congrArg (iA G 9) (fA_u (r := sT2 r p q) (p := p) (k := 4) (v := mn 99 (((sT2 r p q) (3 + 6 * p + 4)) + 1)) (by decide))
  have z_19 : (iA G 9 (fA (sT3 r p q) 5) : va_E) = iA G 9 (fA (sT2 r p q) 5) := congrArg (iA G 9) (fA_n (r := sT2 r p q) (p := p) (k := 4) (k' := 5) (v := mn 99 (((sT2 r p q) (3 + 6 * p + 4)) + 1)) (by decide) (by decide) (by decide))
  have hP : PP G [(f, fO fd (sT3 r p q)), (fd 0, qA G 3 9 wh), (fd 1, iA G 9 (fA (sT3 r p q) 2)), (fd 2, iA G 9 (fA (sT3 r p q) 3)), (fd 3, iA G 9 (fA (sT3 r p q) 4)), (fd 4, iA G 9 (fA (sT3 r p q) 5))] H := by rw [z_15, z_16, z_17, z_18, z_19]; exact hP
  have hD : va_D A [(f, fO fd (sT3 r p q)), (fd 0, qA G 3 9 wh), (fd 1, iA G 9 (fA (sT3 r p q) 2)), (fd 2, iA G 9 (fA (sT3 r p q) 3)), (fd 3, iA G 9 (fA (sT3 r p q) 4)), (fd 4, iA G 9 (fA (sT3 r p q) 5))] := by rw [z_15, z_16, z_17, z_18, z_19]; exact hD
  have hr_20 : (sT3 r p q) 0 = nI N := (r_n (r := sT2 r p q) (p := p) (k := 4) (v := mn 99 (((sT2 r p q) (3 + 6 * p + 4)) + 1)) (i := 0) (by decide)).trans hr_13
  have hw_21 : WK gm wh (sT3 r p q) N := WK.u (k := 4) hw_14 (by decide)
  refine lv_aload_n hx hb dX2_eats_54 rfl (lv_at hl 1 rfl) ?_
  refine va_get (D := gD G) (ci := 2) (v := .ref (fd 4)) (C := RX2) (T := TX2) (N := 8) hx hb hts in_X2 hown hK.1 hP 0 rfl rfl 4 (by decide) (hts _ q800) (fun _ h9 => h9) rfl dX2_eats_55 ?_
  refine lv_iload_n hx hb dX2_eats_58 rfl (lv_at hl 3 rfl) ?_
  refine lv_bipush (v := 99) hx hb dX2_eats_59 (by decide) ?_
  refine lv_aload_n hx hb dX2_eats_61 rfl (lv_at hl 1 rfl) ?_
  refine va_get (D := gD G) (ci := 2) (v := .ref (fd 4)) (C := RX2) (T := TX2) (N := 8) hx hb hts in_X2 hown hK.1 hP 0 rfl rfl 4 (by decide) (hts _ q800) (fun _ h9 => h9) rfl dX2_eats_62 ?_
  refine lv_iload_n hx hb dX2_eats_65 rfl (lv_at hl 3 rfl) ?_
  refine n_iald C hK.1 hP 5 q rfl (by omega) (by omega) dX2_eats_66 ?_
  refine lv_iconst (v := 1) hx hb dX2_eats_67 (by decide) ?_
  refine lv_iadd (x := (sT3 r p q) (3 + 6 * q + 5)) (y := 1) hx hb dX2_eats_68 ?_
  refine n_mmin (x := 99) (y := ((sT3 r p q) (3 + 6 * q + 5)) + 1) C q440 q441 q60 q442 hl ⟨(Nat.le_of_ble_eq_true rfl), (Nat.le_of_ble_eq_true rfl)⟩ (Nat.le_of_ble_eq_true rfl) ⟨(Nat.le_of_ble_eq_true rfl), (Nat.le_of_ble_eq_true rfl)⟩ dX2_eats_69 ?_
  refine n_iast (x := mn 99 (((sT3 r p q) (3 + 6 * q + 5)) + 1)) C hK.1 hP hD hS 5 q rfl (by omega) (by omega) dX2_eats_72 (fun H locs hP hD hS => ?_)
  have hP : PP G [(f, fO fd (sT3 r p q)), (fd 0, qA G 3 9 wh), (fd 1, iA G 9 (fA (sT3 r p q) 2)), (fd 2, iA G 9 (fA (sT3 r p q) 3)), (fd 3, iA G 9 (fA (sT3 r p q) 4)), (fd 4, iA G 9 (upd (fA (sT3 r p q) 5) q (mn 99 (((sT3 r p q) (3 + 6 * q + 5)) + 1))))] H := hP
  have hD : va_D A [(f, fO fd (sT3 r p q)), (fd 0, qA G 3 9 wh), (fd 1, iA G 9 (fA (sT3 r p q) 2)), (fd 2, iA G 9 (fA (sT3 r p q) 3)), (fd 3, iA G 9 (fA (sT3 r p q) 4)), (fd 4, iA G 9 (upd (fA (sT3 r p q) 5) q (mn 99 (((sT3 r p q) (3 + 6 * q + 5)) + 1))))] := hD
  have z_22 : (fO fd (sT4 r p q) : va_E) = fO fd (sT3 r p q) := fO_u (fd := fd) (r := sT3 r p q) (p := q) (k := 5) (v := mn 99 (((sT3 r p q) (3 + 6 * q + 5)) + 1))
  have z_23 : (iA G 9 (fA (sT4 r p q) 2) : va_E) = iA G 9 (fA (sT3 r p q) 2) := congrArg (iA G 9) (fA_n (r := sT3 r p q) (p := q) (k := 5) (k' := 2) (v := mn 99 (((sT3 r p q) (3 + 6 * q + 5)) + 1)) (by decide) (by decide) (by decide))
  have z_24 : (iA G 9 (fA (sT4 r p q) 3) : va_E) = iA G 9 (fA (sT3 r p q) 3) := congrArg (iA G 9) (fA_n (r := sT3 r p q) (p := q) (k := 5) (k' := 3) (v := mn 99 (((sT3 r p q) (3 + 6 * q + 5)) + 1)) (by decide) (by decide) (by decide))
  have z_25 : (iA G 9 (fA (sT4 r p q) 4) : va_E) = iA G 9 (fA (sT3 r p q) 4) := congrArg (iA G 9) (fA_n (r := sT3 r p q) (p := q) (k := 5) (k' := 4) (v := mn 99 (((sT3 r p q) (3 + 6 * q + 5)) + 1)) (by decide) (by decide) (by decide))
  have z_26 : (iA G 9 (fA (sT4 r p q) 5) : va_E) = iA G 9 (upd (fA (sT3 r p q) 5) q (mn 99 (((sT3 r p q) (3 + 6 * q + 5)) + 1))) := congrArg (iA G 9) (fA_u (r := sT3 r p q) (p := q) (k := 5) (v := mn 99 (((sT3 r p q) (3 + 6 * q + 5)) + 1)) (by decide))
  have hP : PP G [(f, fO fd (sT4 r p q)), (fd 0, qA G 3 9 wh), (fd 1, iA G 9 (fA (sT4 r p q) 2)), (fd 2, iA G 9 (fA (sT4 r p q) 3)), (fd 3, iA G 9 (fA (sT4 r p q) 4)), (fd 4, iA G 9 (fA (sT4 r p q) 5))] H := by rw [z_22, z_23, z_24, z_25, z_26]; exact hP
  have hD : va_D A [(f, fO fd (sT4 r p q)), (fd 0, qA G 3 9 wh), (fd 1, iA G 9 (fA (sT4 r p q) 2)), (fd 2, iA G 9 (fA (sT4 r p q) 3)), (fd 3, iA G 9 (fA (sT4 r p q) 4)), (fd 4, iA G 9 (fA (sT4 r p q) 5))] := by rw [z_22, z_23, z_24, z_25, z_26]; exact hD
  have hr_27 : (sT4 r p q) 0 = nI N := (r_n (r := sT3 r p q) (p := q) (k := 5) (v := mn 99 (((sT3 r p q) (3 + 6 * q + 5)) + 1)) (i := 0) (by decide)).trans hr_20
  have hw_28 : WK gm wh (sT4 r p q) N := WK.u (k := 5) hw_21 (by decide)
  refine lv_aload_n hx hb dX2_eats_73 rfl (lv_at hl 1 rfl) ?_
  refine lv_dup hx hb dX2_eats_74 rfl ?_
  refine va_get (D := gD G) (ci := 2) (v := .int ((sT4 r p q) 1)) (C := RX2) (T := TX2) (N := 8) hx hb hts in_X2 hown hK.1 hP 0 rfl rfl 6 (by decide) (hts _ q804) (fun _ h9 => h9) rfl dX2_eats_75 ?_
  refine lv_iconst (v := 1) hx hb dX2_eats_78 (by decide) ?_
  refine lv_isub (x := (sT4 r p q) 1) (y := 1) hx hb dX2_eats_79 ?_
  refine va_put (D := gD G) (ci := 2) (v := .int (((sT4 r p q) 1) - 1)) (ty := .int) (C := RX2) (T := TX2) (N := 8) hx hb hts in_X2 tyX2 tyX2_ok nmX2 hown hK.1 hP hD hS 0 rfl rfl 6 (by decide) (hts _ q804) (fun _ h9 => h9) rfl (by decide +kernel) rfl rfl (Nat.le_of_ble_eq_true rfl) dX2_eats_80 (fun H locs hP hD hS => ?_)
  have hP : PP G [(f, fR fd ((sT4 r p q) 0) (((sT4 r p q) 1) - 1) ((sT4 r p q) 2)), (fd 0, qA G 3 9 wh), (fd 1, iA G 9 (fA (sT4 r p q) 2)), (fd 2, iA G 9 (fA (sT4 r p q) 3)), (fd 3, iA G 9 (fA (sT4 r p q) 4)), (fd 4, iA G 9 (fA (sT4 r p q) 5))] H := hP
  have hD : va_D A [(f, fR fd ((sT4 r p q) 0) (((sT4 r p q) 1) - 1) ((sT4 r p q) 2)), (fd 0, qA G 3 9 wh), (fd 1, iA G 9 (fA (sT4 r p q) 2)), (fd 2, iA G 9 (fA (sT4 r p q) 3)), (fd 3, iA G 9 (fA (sT4 r p q) 4)), (fd 4, iA G 9 (fA (sT4 r p q) 5))] := hD
  have z_29 : (fO fd (sT5 r p q) : va_E) = fR fd ((sT4 r p q) 0) (((sT4 r p q) 1) - 1) ((sT4 r p q) 2) := fO_h1 (fd := fd) (r := sT4 r p q) (v := ((sT4 r p q) 1) - 1)
  have z_30 : (iA G 9 (fA (sT5 r p q) 2) : va_E) = iA G 9 (fA (sT4 r p q) 2) := congrArg (iA G 9) (fA_h (r := sT4 r p q) (i := 1) (k := 2) (v := ((sT4 r p q) 1) - 1) (by decide))
  have z_31 : (iA G 9 (fA (sT5 r p q) 3) : va_E) = iA G 9 (fA (sT4 r p q) 3) := congrArg (iA G 9) (fA_h (r := sT4 r p q) (i := 1) (k := 3) (v := ((sT4 r p q) 1) - 1) (by decide))
  have z_32 : (iA G 9 (fA (sT5 r p q) 4) : va_E) = iA G 9 (fA (sT4 r p q) 4) := congrArg (iA G 9) (fA_h (r := sT4 r p q) (i := 1) (k := 4) (v := ((sT4 r p q) 1) - 1) (by decide))
  have z_33 : (iA G 9 (fA (sT5 r p q) 5) : va_E) = iA G 9 (fA (sT4 r p q) 5) := congrArg (iA G 9) (fA_h (r := sT4 r p q) (i := 1) (k := 5) (v := ((sT4 r p q) 1) - 1) (by decide))
  have hP : PP G [(f, fO fd (sT5 r p q)), (fd 0, qA G 3 9 wh), (fd 1, iA G 9 (fA (sT5 r p q) 2)), (fd 2, iA G 9 (fA (sT5 r p q) 3)), (fd 3, iA G 9 (fA (sT5 r p q) 4)), (fd 4, iA G 9 (fA (sT5 r p q) 5))] H := by rw [z_29, z_30, z_31, z_32, z_33]; exact hP
  have hD : va_D A [(f, fO fd (sT5 r p q)), (fd 0, qA G 3 9 wh), (fd 1, iA G 9 (fA (sT5 r p q) 2)), (fd 2, iA G 9 (fA (sT5 r p q) 3)), (fd 3, iA G 9 (fA (sT5 r p q) 4)), (fd 4, iA G 9 (fA (sT5 r p q) 5))] := by rw [z_29, z_30, z_31, z_32, z_33]; exact hD
  have hr_34 : (sT5 r p q) 0 = nI N := (r_h (r := sT4 r p q) (i := 1) (j := 0) (v := ((sT4 r p q) 1) - 1) (by decide)).trans hr_27
  have hw_35 : WK gm wh (sT5 r p q) N := WK.h hw_28 (by decide)
  refine lv_aload_n hx hb dX2_eats_83 rfl (lv_at hl 1 rfl) ?_
  refine lv_dup hx hb dX2_eats_84 rfl ?_
  refine va_get (D := gD G) (ci := 2) (v := .int ((sT5 r p q) 2)) (C := RX2) (T := TX2) (N := 8) hx hb hts in_X2 hown hK.1 hP 0 rfl rfl 7 (by decide) (hts _ q806) (fun _ h9 => h9) rfl dX2_eats_85 ?_
  refine lv_iconst (v := 1) hx hb dX2_eats_88 (by decide) ?_
  refine lv_iadd (x := (sT5 r p q) 2) (y := 1) hx hb dX2_eats_89 ?_
  refine va_put (D := gD G) (ci := 2) (v := .int (((sT5 r p q) 2) + 1)) (ty := .int) (C := RX2) (T := TX2) (N := 8) hx hb hts in_X2 tyX2 tyX2_ok nmX2 hown hK.1 hP hD hS 0 rfl rfl 7 (by decide) (hts _ q806) (fun _ h9 => h9) rfl (by decide +kernel) rfl rfl (Nat.le_of_ble_eq_true rfl) dX2_eats_90 (fun H locs hP hD hS => ?_)
  have hP : PP G [(f, fR fd ((sT5 r p q) 0) ((sT5 r p q) 1) (((sT5 r p q) 2) + 1)), (fd 0, qA G 3 9 wh), (fd 1, iA G 9 (fA (sT5 r p q) 2)), (fd 2, iA G 9 (fA (sT5 r p q) 3)), (fd 3, iA G 9 (fA (sT5 r p q) 4)), (fd 4, iA G 9 (fA (sT5 r p q) 5))] H := hP
  have hD : va_D A [(f, fR fd ((sT5 r p q) 0) ((sT5 r p q) 1) (((sT5 r p q) 2) + 1)), (fd 0, qA G 3 9 wh), (fd 1, iA G 9 (fA (sT5 r p q) 2)), (fd 2, iA G 9 (fA (sT5 r p q) 3)), (fd 3, iA G 9 (fA (sT5 r p q) 4)), (fd 4, iA G 9 (fA (sT5 r p q) 5))] := hD
  have z_36 : (fO fd (sTurn r p q) : va_E) = fR fd ((sT5 r p q) 0) ((sT5 r p q) 1) (((sT5 r p q) 2) + 1) := fO_h2 (fd := fd) (r := sT5 r p q) (v := ((sT5 r p q) 2) + 1)
  have z_37 : (iA G 9 (fA (sTurn r p q) 2) : va_E) = iA G 9 (fA (sT5 r p q) 2) := congrArg (iA G 9) (fA_h (r := sT5 r p q) (i := 2) (k := 2) (v := ((sT5 r p q) 2) + 1) (by decide))
  have z_38 : (iA G 9 (fA (sTurn r p q) 3) : va_E) = iA G 9 (fA (sT5 r p q) 3) := congrArg (iA G 9) (fA_h (r := sT5 r p q) (i := 2) (k := 3) (v := ((sT5 r p q) 2) + 1) (by decide))
  have z_39 : (iA G 9 (fA (sTurn r p q) 4) : va_E) = iA G 9 (fA (sT5 r p q) 4) := congrArg (iA G 9) (fA_h (r := sT5 r p q) (i := 2) (k := 4) (v := ((sT5 r p q) 2) + 1) (by decide))
  have z_40 : (iA G 9 (fA (sTurn r p q) 5) : va_E) = iA G 9 (fA (sT5 r p q) 5) := congrArg (iA G 9) (fA_h (r := sT5 r p q) (i := 2) (k := 5) (v := ((sT5 r p q) 2) + 1) (by decide))
  have hP : PP G [(f, fO fd (sTurn r p q)), (fd 0, qA G 3 9 wh), (fd 1, iA G 9 (fA (sTurn r p q) 2)), (fd 2, iA G 9 (fA (sTurn r p q) 3)), (fd 3, iA G 9 (fA (sTurn r p q) 4)), (fd 4, iA G 9 (fA (sTurn r p q) 5))] H := by rw [z_36, z_37, z_38, z_39, z_40]; exact hP
  have hD : va_D A [(f, fO fd (sTurn r p q)), (fd 0, qA G 3 9 wh), (fd 1, iA G 9 (fA (sTurn r p q) 2)), (fd 2, iA G 9 (fA (sTurn r p q) 3)), (fd 3, iA G 9 (fA (sTurn r p q) 4)), (fd 4, iA G 9 (fA (sTurn r p q) 5))] := by rw [z_36, z_37, z_38, z_39, z_40]; exact hD
  have hr_41 : (sTurn r p q) 0 = nI N := (r_h (r := sT5 r p q) (i := 2) (j := 0) (v := ((sT5 r p q) 2) + 1) (by decide)).trans hr_34
  have hw_42 : WK gm wh (sTurn r p q) N := WK.h hw_35 (by decide)
  refine lv_iload_n hx hb dX2_eats_93 rfl (lv_at hl 0 rfl) ?_
  exact n_iretW (v := sJoy r p q) (w1 := [(f, fO fd (sTurn r p q)), (fd 0, qA G 3 9 wh), (fd 1, iA G 9 (fA (sTurn r p q) 2)), (fd 2, iA G 9 (fA (sTurn r p q) 3)), (fd 3, iA G 9 (fA (sTurn r p q) 4)), (fd 4, iA G 9 (fA (sTurn r p q) 5))]) C (⟨rfl, rfl⟩) hP hD hS (by first | omega | decide) (by first | omega | decide) dX2_eats_94

set_option maxHeartbeats 4000000 in
set_option maxRecDepth 100000 in
theorem metX2_copies (l : Launch) (G : GG) (a b : Nat) (f g : Nat → Int32) : MWv l yX2_copies cX2_copies 2 none ({ frames := 1, cells := 0, slots := 0, locals := 60 }) [.ref a, .ref b] [(a, iA G 9 f), (b, iA G 9 g)] G (KM G) 0 0 (fun w1 => w1 = [(a, iA G 9 f), (b, iA G 9 f)]) := by
  -- rows printed by wip/tools/gen.py
  refine mwv_mk RX2 (by decide) rfl (Nat.le_of_ble_eq_true rfl) ?_
  intro p0_ e0_ s m args below meth c A C hname hA hP hK hD ls hl
  have hx := C.1
  have hb := C.2.1
  have hml := C.2.2.2.2.1
  have hown := C.2.2.2.2.2.1
  have hts := C.2.2.2.2.2.2
  have hS : va_S A s.heap s.heap [] := va_S.rf
  have hl : lv_has ls 2 [(0, .ref a), (1, .ref b)] := hl
  refine lv_aload_n hx hb dX2_copies_0 rfl (lv_at hl 0 rfl) ?_
  refine lv_iconst (v := 0) hx hb dX2_copies_1 (by decide) ?_
  refine lv_aload_n hx hb dX2_copies_2 rfl (lv_at hl 1 rfl) ?_
  refine lv_iconst (v := 0) hx hb dX2_copies_3 (by decide) ?_
  refine lv_aload_n hx hb dX2_copies_4 rfl (lv_at hl 1 rfl) ?_
  refine va_alen C.1 C.2.1 hK hP 1 0 (v := nI 9) rfl rfl rfl dX2_copies_5 ?_
  refine n_cpyi (n := 9) C hK hP hD hS q271 q273 q272 q51 0 1 rfl rfl (by omega) hl ⟨(Nat.le_of_ble_eq_true rfl), (Nat.le_of_ble_eq_true rfl)⟩ (Nat.le_of_ble_eq_true rfl) dX2_copies_6 (fun H locs hP hD hS => ?_)
  have hP : PP G [(a, iA G 9 f), (b, iA G 9 f)] H := hP
  have hD : va_D A [(a, iA G 9 f), (b, iA G 9 f)] := hD
  exact n_vretW (w1 := [(a, iA G 9 f), (b, iA G 9 f)]) C (rfl) hP hD hS (by first | omega | decide) (by first | omega | decide) dX2_copies_9

set_option maxHeartbeats 4000000 in
set_option maxRecDepth 100000 in
theorem metX2_takes (l : Launch) (G : GG) (f g : Nat) (fd gd : Nat → Nat) (gm : GM) (wh j_w : Nat → Option Nat) (r j_a2 j_a3 j_a4 j_a5 : Nat → Int32) (j_0 j_1 j_2 : Int32) (N : Nat) (hr : r 0 = nI N) (hwk : WK gm wh r N) (hng : NG gm [(f, fR fd j_0 j_1 j_2), (fd 0, qA G 3 9 j_w), (fd 1, iA G 9 j_a2), (fd 2, iA G 9 j_a3), (fd 3, iA G 9 j_a4), (fd 4, iA G 9 j_a5), (g, fO gd r), (gd 0, qA G 3 9 wh), (gd 1, iA G 9 (fA r 2)), (gd 2, iA G 9 (fA r 3)), (gd 3, iA G 9 (fA r 4)), (gd 4, iA G 9 (fA r 5))]) : MWv l yX2_takes cX2_takes 2 none ({ frames := 2, cells := 0, slots := 0, locals := 81 }) [.ref f, .ref g] [(f, fR fd j_0 j_1 j_2), (fd 0, qA G 3 9 j_w), (fd 1, iA G 9 j_a2), (fd 2, iA G 9 j_a3), (fd 3, iA G 9 j_a4), (fd 4, iA G 9 j_a5), (g, fO gd r), (gd 0, qA G 3 9 wh), (gd 1, iA G 9 (fA r 2)), (gd 2, iA G 9 (fA r 3)), (gd 3, iA G 9 (fA r 4)), (gd 4, iA G 9 (fA r 5))] G (KG G gm) 0 0 (fun w1 => w1 = [(f, fO fd r), (fd 0, qA G 3 9 wh), (fd 1, iA G 9 (fA r 2)), (fd 2, iA G 9 (fA r 3)), (fd 3, iA G 9 (fA r 4)), (fd 4, iA G 9 (fA r 5)), (g, fO gd r), (gd 0, qA G 3 9 wh), (gd 1, iA G 9 (fA r 2)), (gd 2, iA G 9 (fA r 3)), (gd 3, iA G 9 (fA r 4)), (gd 4, iA G 9 (fA r 5))]) := by
  -- rows printed by wip/tools/gen.py
  refine mwv_mkg RX2 (by decide) rfl (Nat.le_of_ble_eq_true rfl) ?_
  intro p0_ e0_ s m args below meth c A C hname hA hAx hP hK hD ls hl
  have hGP := hK.2
  have hK := hK.1
  have hGA := GA.of hng hGP hAx
  have hx := C.1
  have hb := C.2.1
  have hml := C.2.2.2.2.1
  have hown := C.2.2.2.2.2.1
  have hts := C.2.2.2.2.2.2
  have hS : va_S A s.heap s.heap [] := va_S.rf
  have hl : lv_has ls 2 [(0, .ref f), (1, .ref g)] := hl
  refine lv_aload_n hx hb dX2_takes_0 rfl (lv_at hl 1 rfl) ?_
  refine va_get (D := gD G) (ci := 2) (v := .ref (gd 0)) (C := RX2) (T := TX2) (N := 8) hx hb hts in_X2 hown hK.1 hP 6 rfl rfl 0 (by decide) (hts _ q792) (fun _ h9 => h9) rfl dX2_takes_1 ?_
  refine lv_iconst (v := 0) hx hb dX2_takes_4 (by decide) ?_
  refine lv_aload_n hx hb dX2_takes_5 rfl (lv_at hl 0 rfl) ?_
  refine va_get (D := gD G) (ci := 2) (v := .ref (fd 0)) (C := RX2) (T := TX2) (N := 8) hx hb hts in_X2 hown hK.1 hP 0 rfl rfl 0 (by decide) (hts _ q792) (fun _ h9 => h9) rfl dX2_takes_6 ?_
  refine lv_iconst (v := 0) hx hb dX2_takes_9 (by decide) ?_
  refine lv_bipush (v := 9) hx hb dX2_takes_10 (by decide) ?_
  refine n_cpyq C hK.1 hP hD hS q271 q273 q272 q51 7 1 rfl rfl (hwk.any hK (hGP.kept hGA hS)) hl ⟨(Nat.le_of_ble_eq_true rfl), (Nat.le_of_ble_eq_true rfl)⟩ (Nat.le_of_ble_eq_true rfl) dX2_takes_12 (fun H locs hP hD hS => ?_)
  have hP : PP G [(f, fR fd j_0 j_1 j_2), (fd 0, qA G 3 9 wh), (fd 1, iA G 9 j_a2), (fd 2, iA G 9 j_a3), (fd 3, iA G 9 j_a4), (fd 4, iA G 9 j_a5), (g, fO gd r), (gd 0, qA G 3 9 wh), (gd 1, iA G 9 (fA r 2)), (gd 2, iA G 9 (fA r 3)), (gd 3, iA G 9 (fA r 4)), (gd 4, iA G 9 (fA r 5))] H := hP
  have hD : va_D A [(f, fR fd j_0 j_1 j_2), (fd 0, qA G 3 9 wh), (fd 1, iA G 9 j_a2), (fd 2, iA G 9 j_a3), (fd 3, iA G 9 j_a4), (fd 4, iA G 9 j_a5), (g, fO gd r), (gd 0, qA G 3 9 wh), (gd 1, iA G 9 (fA r 2)), (gd 2, iA G 9 (fA r 3)), (gd 3, iA G 9 (fA r 4)), (gd 4, iA G 9 (fA r 5))] := hD
  refine lv_aload_n hx hb dX2_takes_15 rfl (lv_at hl 1 rfl) ?_
  refine va_get (D := gD G) (ci := 2) (v := .ref (gd 1)) (C := RX2) (T := TX2) (N := 8) hx hb hts in_X2 hown hK.1 hP 6 rfl rfl 1 (by decide) (hts _ q794) (fun _ h9 => h9) rfl dX2_takes_16 ?_
  refine lv_aload_n hx hb dX2_takes_19 rfl (lv_at hl 0 rfl) ?_
  refine va_get (D := gD G) (ci := 2) (v := .ref (fd 1)) (C := RX2) (T := TX2) (N := 8) hx hb hts in_X2 hown hK.1 hP 0 rfl rfl 1 (by decide) (hts _ q794) (fun _ h9 => h9) rfl dX2_takes_20 ?_
  refine c_SWv (wr := [(f, fR fd j_0 j_1 j_2), (fd 0, qA G 3 9 wh), (fd 2, iA G 9 j_a3), (fd 3, iA G 9 j_a4), (fd 4, iA G 9 j_a5), (g, fO gd r), (gd 0, qA G 3 9 wh), (gd 2, iA G 9 (fA r 3)), (gd 3, iA G 9 (fA r 4)), (gd 4, iA G 9 (fA r 5))]) (rest := []) C (metX2_copies l G (gd 1) (fd 1) (fA r 2) j_a2) 2 (lw_S q274 q275 q40 q276) (by decide +kernel) ⟨rfl, rfl⟩ ⟨(Nat.le_of_ble_eq_true rfl), (Nat.le_of_ble_eq_true rfl)⟩ (KM_mv G) hK.1 hA hP hD hS [8, 2] [0, 1, 3, 4, 5, 6, 7, 9, 10, 11] rfl rfl rfl rfl (by decide) hl rfl rfl (Nat.le_of_ble_eq_true rfl) ⟨(Nat.le_of_ble_eq_true rfl), (Nat.le_of_ble_eq_true rfl)⟩ dX2_takes_23 (fun w1 H locs hq_2 hP hD hS => ?_)
  obtain rfl := hq_2
  have hP : PP G [(f, fR fd j_0 j_1 j_2), (fd 0, qA G 3 9 wh), (fd 2, iA G 9 j_a3), (fd 3, iA G 9 j_a4), (fd 4, iA G 9 j_a5), (g, fO gd r), (gd 0, qA G 3 9 wh), (gd 2, iA G 9 (fA r 3)), (gd 3, iA G 9 (fA r 4)), (gd 4, iA G 9 (fA r 5)), (gd 1, iA G 9 (fA r 2)), (fd 1, iA G 9 (fA r 2))] H := hP
  have hD : va_D A [(f, fR fd j_0 j_1 j_2), (fd 0, qA G 3 9 wh), (fd 2, iA G 9 j_a3), (fd 3, iA G 9 j_a4), (fd 4, iA G 9 j_a5), (g, fO gd r), (gd 0, qA G 3 9 wh), (gd 2, iA G 9 (fA r 3)), (gd 3, iA G 9 (fA r 4)), (gd 4, iA G 9 (fA r 5)), (gd 1, iA G 9 (fA r 2)), (fd 1, iA G 9 (fA r 2))] := hD
  refine lv_aload_n hx hb dX2_takes_26 rfl (lv_at hl 1 rfl) ?_
  refine va_get (D := gD G) (ci := 2) (v := .ref (gd 2)) (C := RX2) (T := TX2) (N := 8) hx hb hts in_X2 hown hK.1 hP 5 rfl rfl 2 (by decide) (hts _ q796) (fun _ h9 => h9) rfl dX2_takes_27 ?_
  refine lv_aload_n hx hb dX2_takes_30 rfl (lv_at hl 0 rfl) ?_
  refine va_get (D := gD G) (ci := 2) (v := .ref (fd 2)) (C := RX2) (T := TX2) (N := 8) hx hb hts in_X2 hown hK.1 hP 0 rfl rfl 2 (by decide) (hts _ q796) (fun _ h9 => h9) rfl dX2_takes_31 ?_
  refine c_SWv (wr := [(f, fR fd j_0 j_1 j_2), (fd 0, qA G 3 9 wh), (fd 3, iA G 9 j_a4), (fd 4, iA G 9 j_a5), (g, fO gd r), (gd 0, qA G 3 9 wh), (gd 3, iA G 9 (fA r 4)), (gd 4, iA G 9 (fA r 5)), (gd 1, iA G 9 (fA r 2)), (fd 1, iA G 9 (fA r 2))]) (rest := []) C (metX2_copies l G (gd 2) (fd 2) (fA r 3) j_a3) 2 (lw_S q274 q275 q40 q276) (by decide +kernel) ⟨rfl, rfl⟩ ⟨(Nat.le_of_ble_eq_true rfl), (Nat.le_of_ble_eq_true rfl)⟩ (KM_mv G) hK.1 hA hP hD hS [7, 2] [0, 1, 3, 4, 5, 6, 8, 9, 10, 11] rfl rfl rfl rfl (by decide) hl rfl rfl (Nat.le_of_ble_eq_true rfl) ⟨(Nat.le_of_ble_eq_true rfl), (Nat.le_of_ble_eq_true rfl)⟩ dX2_takes_34 (fun w1 H locs hq_4 hP hD hS => ?_)
  obtain rfl := hq_4
  have hP : PP G [(f, fR fd j_0 j_1 j_2), (fd 0, qA G 3 9 wh), (fd 3, iA G 9 j_a4), (fd 4, iA G 9 j_a5), (g, fO gd r), (gd 0, qA G 3 9 wh), (gd 3, iA G 9 (fA r 4)), (gd 4, iA G 9 (fA r 5)), (gd 1, iA G 9 (fA r 2)), (fd 1, iA G 9 (fA r 2)), (gd 2, iA G 9 (fA r 3)), (fd 2, iA G 9 (fA r 3))] H := hP
  have hD : va_D A [(f, fR fd j_0 j_1 j_2), (fd 0, qA G 3 9 wh), (fd 3, iA G 9 j_a4), (fd 4, iA G 9 j_a5), (g, fO gd r), (gd 0, qA G 3 9 wh), (gd 3, iA G 9 (fA r 4)), (gd 4, iA G 9 (fA r 5)), (gd 1, iA G 9 (fA r 2)), (fd 1, iA G 9 (fA r 2)), (gd 2, iA G 9 (fA r 3)), (fd 2, iA G 9 (fA r 3))] := hD
  refine lv_aload_n hx hb dX2_takes_37 rfl (lv_at hl 1 rfl) ?_
  refine va_get (D := gD G) (ci := 2) (v := .ref (gd 3)) (C := RX2) (T := TX2) (N := 8) hx hb hts in_X2 hown hK.1 hP 4 rfl rfl 3 (by decide) (hts _ q798) (fun _ h9 => h9) rfl dX2_takes_38 ?_
  refine lv_aload_n hx hb dX2_takes_41 rfl (lv_at hl 0 rfl) ?_
  refine va_get (D := gD G) (ci := 2) (v := .ref (fd 3)) (C := RX2) (T := TX2) (N := 8) hx hb hts in_X2 hown hK.1 hP 0 rfl rfl 3 (by decide) (hts _ q798) (fun _ h9 => h9) rfl dX2_takes_42 ?_
  refine c_SWv (wr := [(f, fR fd j_0 j_1 j_2), (fd 0, qA G 3 9 wh), (fd 4, iA G 9 j_a5), (g, fO gd r), (gd 0, qA G 3 9 wh), (gd 4, iA G 9 (fA r 5)), (gd 1, iA G 9 (fA r 2)), (fd 1, iA G 9 (fA r 2)), (gd 2, iA G 9 (fA r 3)), (fd 2, iA G 9 (fA r 3))]) (rest := []) C (metX2_copies l G (gd 3) (fd 3) (fA r 4) j_a4) 2 (lw_S q274 q275 q40 q276) (by decide +kernel) ⟨rfl, rfl⟩ ⟨(Nat.le_of_ble_eq_true rfl), (Nat.le_of_ble_eq_true rfl)⟩ (KM_mv G) hK.1 hA hP hD hS [6, 2] [0, 1, 3, 4, 5, 7, 8, 9, 10, 11] rfl rfl rfl rfl (by decide) hl rfl rfl (Nat.le_of_ble_eq_true rfl) ⟨(Nat.le_of_ble_eq_true rfl), (Nat.le_of_ble_eq_true rfl)⟩ dX2_takes_45 (fun w1 H locs hq_6 hP hD hS => ?_)
  obtain rfl := hq_6
  have hP : PP G [(f, fR fd j_0 j_1 j_2), (fd 0, qA G 3 9 wh), (fd 4, iA G 9 j_a5), (g, fO gd r), (gd 0, qA G 3 9 wh), (gd 4, iA G 9 (fA r 5)), (gd 1, iA G 9 (fA r 2)), (fd 1, iA G 9 (fA r 2)), (gd 2, iA G 9 (fA r 3)), (fd 2, iA G 9 (fA r 3)), (gd 3, iA G 9 (fA r 4)), (fd 3, iA G 9 (fA r 4))] H := hP
  have hD : va_D A [(f, fR fd j_0 j_1 j_2), (fd 0, qA G 3 9 wh), (fd 4, iA G 9 j_a5), (g, fO gd r), (gd 0, qA G 3 9 wh), (gd 4, iA G 9 (fA r 5)), (gd 1, iA G 9 (fA r 2)), (fd 1, iA G 9 (fA r 2)), (gd 2, iA G 9 (fA r 3)), (fd 2, iA G 9 (fA r 3)), (gd 3, iA G 9 (fA r 4)), (fd 3, iA G 9 (fA r 4))] := hD
  refine lv_aload_n hx hb dX2_takes_48 rfl (lv_at hl 1 rfl) ?_
  refine va_get (D := gD G) (ci := 2) (v := .ref (gd 4)) (C := RX2) (T := TX2) (N := 8) hx hb hts in_X2 hown hK.1 hP 3 rfl rfl 4 (by decide) (hts _ q800) (fun _ h9 => h9) rfl dX2_takes_49 ?_
  refine lv_aload_n hx hb dX2_takes_52 rfl (lv_at hl 0 rfl) ?_
  refine va_get (D := gD G) (ci := 2) (v := .ref (fd 4)) (C := RX2) (T := TX2) (N := 8) hx hb hts in_X2 hown hK.1 hP 0 rfl rfl 4 (by decide) (hts _ q800) (fun _ h9 => h9) rfl dX2_takes_53 ?_
  refine c_SWv (wr := [(f, fR fd j_0 j_1 j_2), (fd 0, qA G 3 9 wh), (g, fO gd r), (gd 0, qA G 3 9 wh), (gd 1, iA G 9 (fA r 2)), (fd 1, iA G 9 (fA r 2)), (gd 2, iA G 9 (fA r 3)), (fd 2, iA G 9 (fA r 3)), (gd 3, iA G 9 (fA r 4)), (fd 3, iA G 9 (fA r 4))]) (rest := []) C (metX2_copies l G (gd 4) (fd 4) (fA r 5) j_a5) 2 (lw_S q274 q275 q40 q276) (by decide +kernel) ⟨rfl, rfl⟩ ⟨(Nat.le_of_ble_eq_true rfl), (Nat.le_of_ble_eq_true rfl)⟩ (KM_mv G) hK.1 hA hP hD hS [5, 2] [0, 1, 3, 4, 6, 7, 8, 9, 10, 11] rfl rfl rfl rfl (by decide) hl rfl rfl (Nat.le_of_ble_eq_true rfl) ⟨(Nat.le_of_ble_eq_true rfl), (Nat.le_of_ble_eq_true rfl)⟩ dX2_takes_56 (fun w1 H locs hq_8 hP hD hS => ?_)
  obtain rfl := hq_8
  have hP : PP G [(f, fR fd j_0 j_1 j_2), (fd 0, qA G 3 9 wh), (g, fO gd r), (gd 0, qA G 3 9 wh), (gd 1, iA G 9 (fA r 2)), (fd 1, iA G 9 (fA r 2)), (gd 2, iA G 9 (fA r 3)), (fd 2, iA G 9 (fA r 3)), (gd 3, iA G 9 (fA r 4)), (fd 3, iA G 9 (fA r 4)), (gd 4, iA G 9 (fA r 5)), (fd 4, iA G 9 (fA r 5))] H := hP
  have hD : va_D A [(f, fR fd j_0 j_1 j_2), (fd 0, qA G 3 9 wh), (g, fO gd r), (gd 0, qA G 3 9 wh), (gd 1, iA G 9 (fA r 2)), (fd 1, iA G 9 (fA r 2)), (gd 2, iA G 9 (fA r 3)), (fd 2, iA G 9 (fA r 3)), (gd 3, iA G 9 (fA r 4)), (fd 3, iA G 9 (fA r 4)), (gd 4, iA G 9 (fA r 5)), (fd 4, iA G 9 (fA r 5))] := hD
  refine lv_aload_n hx hb dX2_takes_59 rfl (lv_at hl 0 rfl) ?_
  refine lv_aload_n hx hb dX2_takes_60 rfl (lv_at hl 1 rfl) ?_
  refine va_get (D := gD G) (ci := 2) (v := .int (r 0)) (C := RX2) (T := TX2) (N := 8) hx hb hts in_X2 hown hK.1 hP 2 rfl rfl 5 (by decide) (hts _ q802) (fun _ h9 => h9) rfl dX2_takes_61 ?_
  refine va_put (D := gD G) (ci := 2) (v := .int (r 0)) (ty := .int) (C := RX2) (T := TX2) (N := 8) hx hb hts in_X2 tyX2 tyX2_ok nmX2 hown hK.1 hP hD hS 0 rfl rfl 5 (by decide) (hts _ q802) (fun _ h9 => h9) rfl (by decide +kernel) rfl rfl (Nat.le_of_ble_eq_true rfl) dX2_takes_64 (fun H locs hP hD hS => ?_)
  have hP : PP G [(f, fR fd (r 0) j_1 j_2), (fd 0, qA G 3 9 wh), (g, fO gd r), (gd 0, qA G 3 9 wh), (gd 1, iA G 9 (fA r 2)), (fd 1, iA G 9 (fA r 2)), (gd 2, iA G 9 (fA r 3)), (fd 2, iA G 9 (fA r 3)), (gd 3, iA G 9 (fA r 4)), (fd 3, iA G 9 (fA r 4)), (gd 4, iA G 9 (fA r 5)), (fd 4, iA G 9 (fA r 5))] H := hP
  have hD : va_D A [(f, fR fd (r 0) j_1 j_2), (fd 0, qA G 3 9 wh), (g, fO gd r), (gd 0, qA G 3 9 wh), (gd 1, iA G 9 (fA r 2)), (fd 1, iA G 9 (fA r 2)), (gd 2, iA G 9 (fA r 3)), (fd 2, iA G 9 (fA r 3)), (gd 3, iA G 9 (fA r 4)), (fd 3, iA G 9 (fA r 4)), (gd 4, iA G 9 (fA r 5)), (fd 4, iA G 9 (fA r 5))] := hD
  refine lv_aload_n hx hb dX2_takes_67 rfl (lv_at hl 0 rfl) ?_
  refine lv_aload_n hx hb dX2_takes_68 rfl (lv_at hl 1 rfl) ?_
  refine va_get (D := gD G) (ci := 2) (v := .int (r 1)) (C := RX2) (T := TX2) (N := 8) hx hb hts in_X2 hown hK.1 hP 2 rfl rfl 6 (by decide) (hts _ q804) (fun _ h9 => h9) rfl dX2_takes_69 ?_
  refine va_put (D := gD G) (ci := 2) (v := .int (r 1)) (ty := .int) (C := RX2) (T := TX2) (N := 8) hx hb hts in_X2 tyX2 tyX2_ok nmX2 hown hK.1 hP hD hS 0 rfl rfl 6 (by decide) (hts _ q804) (fun _ h9 => h9) rfl (by decide +kernel) rfl rfl (Nat.le_of_ble_eq_true rfl) dX2_takes_72 (fun H locs hP hD hS => ?_)
  have hP : PP G [(f, fR fd (r 0) (r 1) j_2), (fd 0, qA G 3 9 wh), (g, fO gd r), (gd 0, qA G 3 9 wh), (gd 1, iA G 9 (fA r 2)), (fd 1, iA G 9 (fA r 2)), (gd 2, iA G 9 (fA r 3)), (fd 2, iA G 9 (fA r 3)), (gd 3, iA G 9 (fA r 4)), (fd 3, iA G 9 (fA r 4)), (gd 4, iA G 9 (fA r 5)), (fd 4, iA G 9 (fA r 5))] H := hP
  have hD : va_D A [(f, fR fd (r 0) (r 1) j_2), (fd 0, qA G 3 9 wh), (g, fO gd r), (gd 0, qA G 3 9 wh), (gd 1, iA G 9 (fA r 2)), (fd 1, iA G 9 (fA r 2)), (gd 2, iA G 9 (fA r 3)), (fd 2, iA G 9 (fA r 3)), (gd 3, iA G 9 (fA r 4)), (fd 3, iA G 9 (fA r 4)), (gd 4, iA G 9 (fA r 5)), (fd 4, iA G 9 (fA r 5))] := hD
  refine lv_aload_n hx hb dX2_takes_75 rfl (lv_at hl 0 rfl) ?_
  refine lv_aload_n hx hb dX2_takes_76 rfl (lv_at hl 1 rfl) ?_
  refine va_get (D := gD G) (ci := 2) (v := .int (r 2)) (C := RX2) (T := TX2) (N := 8) hx hb hts in_X2 hown hK.1 hP 2 rfl rfl 7 (by decide) (hts _ q806) (fun _ h9 => h9) rfl dX2_takes_77 ?_
  refine va_put (D := gD G) (ci := 2) (v := .int (r 2)) (ty := .int) (C := RX2) (T := TX2) (N := 8) hx hb hts in_X2 tyX2 tyX2_ok nmX2 hown hK.1 hP hD hS 0 rfl rfl 7 (by decide) (hts _ q806) (fun _ h9 => h9) rfl (by decide +kernel) rfl rfl (Nat.le_of_ble_eq_true rfl) dX2_takes_80 (fun H locs hP hD hS => ?_)
  have hP : PP G [(f, fR fd (r 0) (r 1) (r 2)), (fd 0, qA G 3 9 wh), (g, fO gd r), (gd 0, qA G 3 9 wh), (gd 1, iA G 9 (fA r 2)), (fd 1, iA G 9 (fA r 2)), (gd 2, iA G 9 (fA r 3)), (fd 2, iA G 9 (fA r 3)), (gd 3, iA G 9 (fA r 4)), (fd 3, iA G 9 (fA r 4)), (gd 4, iA G 9 (fA r 5)), (fd 4, iA G 9 (fA r 5))] H := hP
  have hD : va_D A [(f, fR fd (r 0) (r 1) (r 2)), (fd 0, qA G 3 9 wh), (g, fO gd r), (gd 0, qA G 3 9 wh), (gd 1, iA G 9 (fA r 2)), (fd 1, iA G 9 (fA r 2)), (gd 2, iA G 9 (fA r 3)), (fd 2, iA G 9 (fA r 3)), (gd 3, iA G 9 (fA r 4)), (fd 3, iA G 9 (fA r 4)), (gd 4, iA G 9 (fA r 5)), (fd 4, iA G 9 (fA r 5))] := hD
  exact n_vretW (w1 := [(f, fR fd (r 0) (r 1) (r 2)), (fd 0, qA G 3 9 wh), (fd 1, iA G 9 (fA r 2)), (fd 2, iA G 9 (fA r 3)), (fd 3, iA G 9 (fA r 4)), (fd 4, iA G 9 (fA r 5)), (g, fO gd r), (gd 0, qA G 3 9 wh), (gd 1, iA G 9 (fA r 2)), (gd 2, iA G 9 (fA r 3)), (gd 3, iA G 9 (fA r 4)), (gd 4, iA G 9 (fA r 5))]) C (rfl) (hP.sub (ws' := [(f, fR fd (r 0) (r 1) (r 2)), (fd 0, qA G 3 9 wh), (fd 1, iA G 9 (fA r 2)), (fd 2, iA G 9 (fA r 3)), (fd 3, iA G 9 (fA r 4)), (fd 4, iA G 9 (fA r 5)), (g, fO gd r), (gd 0, qA G 3 9 wh), (gd 1, iA G 9 (fA r 2)), (gd 2, iA G 9 (fA r 3)), (gd 3, iA G 9 (fA r 4)), (gd 4, iA G 9 (fA r 5))]) [0, 1, 5, 7, 9, 11, 2, 3, 4, 6, 8, 10] rfl) (hD.sub (ws' := [(f, fR fd (r 0) (r 1) (r 2)), (fd 0, qA G 3 9 wh), (fd 1, iA G 9 (fA r 2)), (fd 2, iA G 9 (fA r 3)), (fd 3, iA G 9 (fA r 4)), (fd 4, iA G 9 (fA r 5)), (g, fO gd r), (gd 0, qA G 3 9 wh), (gd 1, iA G 9 (fA r 2)), (gd 2, iA G 9 (fA r 3)), (gd 3, iA G 9 (fA r 4)), (gd 4, iA G 9 (fA r 5))]) [0, 1, 5, 7, 9, 11, 2, 3, 4, 6, 8, 10] (by decide) rfl) hS (by first | omega | decide) (by first | omega | decide) dX2_takes_83

set_option maxHeartbeats 4000000 in
set_option maxRecDepth 100000 in
theorem metX2_comes (l : Launch) (G : GG) (f : Nat) (fd : Nat → Nat) (gm : GM) (wh : Nat → Option Nat) (r : Nat → Int32) (N : Nat) (y k : Nat) (v u w : Int32) (hN : N ≤ 8) (hr : r 0 = nI N) (hwk : WK gm wh r N) (hy : gm y = some (k, v)) (hng : NG gm [(f, fO fd r), (fd 0, qA G 3 9 wh), (fd 1, iA G 9 (fA r 2)), (fd 2, iA G 9 (fA r 3)), (fd 3, iA G 9 (fA r 4)), (fd 4, iA G 9 (fA r 5))]) : MW l yX2_comes cX2_comes 4 (some .int) ({ frames := 0, cells := 0, slots := 0, locals := 0 }) [.ref f, .ref y, .int u, .int w] [(f, fO fd r), (fd 0, qA G 3 9 wh), (fd 1, iA G 9 (fA r 2)), (fd 2, iA G 9 (fA r 3)), (fd 3, iA G 9 (fA r 4)), (fd 4, iA G 9 (fA r 5))] G (KG G gm) 0 0 (fun rv w1 => rv = nI N ∧ w1 = [(f, fO fd (sAdds r N (nI k) v u w)), (fd 0, qA G 3 9 (va_up wh N (some y))), (fd 1, iA G 9 (fA (sAdds r N (nI k) v u w) 2)), (fd 2, iA G 9 (fA (sAdds r N (nI k) v u w) 3)), (fd 3, iA G 9 (fA (sAdds r N (nI k) v u w) 4)), (fd 4, iA G 9 (fA (sAdds r N (nI k) v u w) 5))]) := by
  -- rows printed by wip/tools/gen.py
  refine mw_mkg RX2 (by decide) rfl (Nat.le_of_ble_eq_true rfl) ?_
  intro p0_ e0_ s m args below meth c A C hA hAx hP hK hD ls hl
  have hGP := hK.2
  have hK := hK.1
  have hGA := GA.of hng hGP hAx
  have hx := C.1
  have hb := C.2.1
  have hml := C.2.2.2.2.1
  have hown := C.2.2.2.2.2.1
  have hts := C.2.2.2.2.2.2
  have hS : va_S A s.heap s.heap [] := va_S.rf
  have hl : lv_has ls 4 [(0, .ref f), (1, .ref y), (2, .int u), (3, .int w)] := hl
  refine lv_aload_n hx hb dX2_comes_0 rfl (lv_at hl 0 rfl) ?_
  refine va_get (D := gD G) (ci := 2) (v := .ref (fd 0)) (C := RX2) (T := TX2) (N := 8) hx hb hts in_X2 hown hK.1 hP 0 rfl rfl 0 (by decide) (hts _ q792) (fun _ h9 => h9) rfl dX2_comes_1 ?_
  refine lv_aload_n hx hb dX2_comes_4 rfl (lv_at hl 0 rfl) ?_
  refine va_get (D := gD G) (ci := 2) (v := .int (r 0)) (C := RX2) (T := TX2) (N := 8) hx hb hts in_X2 hown hK.1 hP 0 rfl rfl 5 (by decide) (hts _ q802) (fun _ h9 => h9) rfl dX2_comes_5 ?_
  refine n_eqi (hr) ?_
  refine lv_aload_n hx hb dX2_comes_8 rfl (lv_at hl 1 rfl) ?_
  refine n_astqG C hK.1 hP hD hS 1 3 N rfl rfl ((hGP.kept hGA hS).any hK hy) (by omega) (by omega) dX2_comes_9 (fun H locs hP hD hS => ?_)
  have hP : PP G [(f, fO fd r), (fd 0, qA G 3 9 (va_up wh N (some y))), (fd 1, iA G 9 (fA r 2)), (fd 2, iA G 9 (fA r 3)), (fd 3, iA G 9 (fA r 4)), (fd 4, iA G 9 (fA r 5))] H := hP
  have hD : va_D A [(f, fO fd r), (fd 0, qA G 3 9 (va_up wh N (some y))), (fd 1, iA G 9 (fA r 2)), (fd 2, iA G 9 (fA r 3)), (fd 3, iA G 9 (fA r 4)), (fd 4, iA G 9 (fA r 5))] := hD
  have z_1 : (fO fd (upd r (3 + 6 * N + 0) (nI k)) : va_E) = fO fd r := fO_u (fd := fd) (r := r) (p := N) (k := 0) (v := nI k)
  have z_2 : (iA G 9 (fA (upd r (3 + 6 * N + 0) (nI k)) 2) : va_E) = iA G 9 (fA r 2) := congrArg (iA G 9) (fA_n (r := r) (p := N) (k := 0) (k' := 2) (v := nI k) (by decide) (by decide) (by decide))
  have z_3 : (iA G 9 (fA (upd r (3 + 6 * N + 0) (nI k)) 3) : va_E) = iA G 9 (fA r 3) := congrArg (iA G 9) (fA_n (r := r) (p := N) (k := 0) (k' := 3) (v := nI k) (by decide) (by decide) (by decide))
  have z_4 : (iA G 9 (fA (upd r (3 + 6 * N + 0) (nI k)) 4) : va_E) = iA G 9 (fA r 4) := congrArg (iA G 9) (fA_n (r := r) (p := N) (k := 0) (k' := 4) (v := nI k) (by decide) (by decide) (by decide))
  have z_5 : (iA G 9 (fA (upd r (3 + 6 * N + 0) (nI k)) 5) : va_E) = iA G 9 (fA r 5) := congrArg (iA G 9) (fA_n (r := r) (p := N) (k := 0) (k' := 5) (v := nI k) (by decide) (by decide) (by decide))
  have hP : PP G [(f, fO fd (upd r (3 + 6 * N + 0) (nI k))), (fd 0, qA G 3 9 (va_up wh N (some y))), (fd 1, iA G 9 (fA (upd r (3 + 6 * N + 0) (nI k)) 2)), (fd 2, iA G 9 (fA (upd r (3 + 6 * N + 0) (nI k)) 3)), (fd 3, iA G 9 (fA (upd r (3 + 6 * N + 0) (nI k)) 4)), (fd 4, iA G 9 (fA (upd r (3 + 6 * N + 0) (nI k)) 5))] H := by rw [z_1, z_2, z_3, z_4, z_5]; exact hP
  have hD : va_D A [(f, fO fd (upd r (3 + 6 * N + 0) (nI k))), (fd 0, qA G 3 9 (va_up wh N (some y))), (fd 1, iA G 9 (fA (upd r (3 + 6 * N + 0) (nI k)) 2)), (fd 2, iA G 9 (fA (upd r (3 + 6 * N + 0) (nI k)) 3)), (fd 3, iA G 9 (fA (upd r (3 + 6 * N + 0) (nI k)) 4)), (fd 4, iA G 9 (fA (upd r (3 + 6 * N + 0) (nI k)) 5))] := by rw [z_1, z_2, z_3, z_4, z_5]; exact hD
  have hr_6 : (upd r (3 + 6 * N + 0) (nI k)) 0 = nI N := (r_n (r := r) (p := N) (k := 0) (v := nI k) (i := 0) (by decide)).trans hr
  have z_7 : (fO fd (upd (upd r (3 + 6 * N + 0) (nI k)) (3 + 6 * N + 1) v) : va_E) = fO fd (upd r (3 + 6 * N + 0) (nI k)) := fO_u (fd := fd) (r := upd r (3 + 6 * N + 0) (nI k)) (p := N) (k := 1) (v := v)
  have z_8 : (iA G 9 (fA (upd (upd r (3 + 6 * N + 0) (nI k)) (3 + 6 * N + 1) v) 2) : va_E) = iA G 9 (fA (upd r (3 + 6 * N + 0) (nI k)) 2) := congrArg (iA G 9) (fA_n (r := upd r (3 + 6 * N + 0) (nI k)) (p := N) (k := 1) (k' := 2) (v := v) (by decide) (by decide) (by decide))
  have z_9 : (iA G 9 (fA (upd (upd r (3 + 6 * N + 0) (nI k)) (3 + 6 * N + 1) v) 3) : va_E) = iA G 9 (fA (upd r (3 + 6 * N + 0) (nI k)) 3) := congrArg (iA G 9) (fA_n (r := upd r (3 + 6 * N + 0) (nI k)) (p := N) (k := 1) (k' := 3) (v := v) (by decide) (by decide) (by decide))
  have z_10 : (iA G 9 (fA (upd (upd r (3 + 6 * N + 0) (nI k)) (3 + 6 * N + 1) v) 4) : va_E) = iA G 9 (fA (upd r (3 + 6 * N + 0) (nI k)) 4) := congrArg (iA G 9) (fA_n (r := upd r (3 + 6 * N + 0) (nI k)) (p := N) (k := 1) (k' := 4) (v := v) (by decide) (by decide) (by decide))
  have z_11 : (iA G 9 (fA (upd (upd r (3 + 6 * N + 0) (nI k)) (3 + 6 * N + 1) v) 5) : va_E) = iA G 9 (fA (upd r (3 + 6 * N + 0) (nI k)) 5) := congrArg (iA G 9) (fA_n (r := upd r (3 + 6 * N + 0) (nI k)) (p := N) (k := 1) (k' := 5) (v := v) (by decide) (by decide) (by decide))
  have hP : PP G [(f, fO fd (upd (upd r (3 + 6 * N + 0) (nI k)) (3 + 6 * N + 1) v)), (fd 0, qA G 3 9 (va_up wh N (some y))), (fd 1, iA G 9 (fA (upd (upd r (3 + 6 * N + 0) (nI k)) (3 + 6 * N + 1) v) 2)), (fd 2, iA G 9 (fA (upd (upd r (3 + 6 * N + 0) (nI k)) (3 + 6 * N + 1) v) 3)), (fd 3, iA G 9 (fA (upd (upd r (3 + 6 * N + 0) (nI k)) (3 + 6 * N + 1) v) 4)), (fd 4, iA G 9 (fA (upd (upd r (3 + 6 * N + 0) (nI k)) (3 + 6 * N + 1) v) 5))] H := by rw [z_7, z_8, z_9, z_10, z_11]; exact hP
  have hD : va_D A [(f, fO fd (upd (upd r (3 + 6 * N + 0) (nI k)) (3 + 6 * N + 1) v)), (fd 0, qA G 3 9 (va_up wh N (some y))), (fd 1, iA G 9 (fA (upd (upd r (3 + 6 * N + 0) (nI k)) (3 + 6 * N + 1) v) 2)), (fd 2, iA G 9 (fA (upd (upd r (3 + 6 * N + 0) (nI k)) (3 + 6 * N + 1) v) 3)), (fd 3, iA G 9 (fA (upd (upd r (3 + 6 * N + 0) (nI k)) (3 + 6 * N + 1) v) 4)), (fd 4, iA G 9 (fA (upd (upd r (3 + 6 * N + 0) (nI k)) (3 + 6 * N + 1) v) 5))] := by rw [z_7, z_8, z_9, z_10, z_11]; exact hD
  have hr_12 : (upd (upd r (3 + 6 * N + 0) (nI k)) (3 + 6 * N + 1) v) 0 = nI N := (r_n (r := upd r (3 + 6 * N + 0) (nI k)) (p := N) (k := 1) (v := v) (i := 0) (by decide)).trans hr_6
  refine lv_aload_n hx hb dX2_comes_10 rfl (lv_at hl 0 rfl) ?_
  refine va_get (D := gD G) (ci := 2) (v := .ref (fd 1)) (C := RX2) (T := TX2) (N := 8) hx hb hts in_X2 hown hK.1 hP 0 rfl rfl 1 (by decide) (hts _ q794) (fun _ h9 => h9) rfl dX2_comes_11 ?_
  refine lv_aload_n hx hb dX2_comes_14 rfl (lv_at hl 0 rfl) ?_
  refine va_get (D := gD G) (ci := 2) (v := .int ((upd (upd r (3 + 6 * N + 0) (nI k)) (3 + 6 * N + 1) v) 0)) (C := RX2) (T := TX2) (N := 8) hx hb hts in_X2 hown hK.1 hP 0 rfl rfl 5 (by decide) (hts _ q802) (fun _ h9 => h9) rfl dX2_comes_15 ?_
  refine n_eqi (hr_12) ?_
  refine lv_iload_n hx hb dX2_comes_18 rfl (lv_at hl 2 rfl) ?_
  refine n_iast (x := u) C hK.1 hP hD hS 2 N rfl (by omega) (by omega) dX2_comes_19 (fun H locs hP hD hS => ?_)
  have hP : PP G [(f, fO fd (upd (upd r (3 + 6 * N + 0) (nI k)) (3 + 6 * N + 1) v)), (fd 0, qA G 3 9 (va_up wh N (some y))), (fd 1, iA G 9 (upd (fA (upd (upd r (3 + 6 * N + 0) (nI k)) (3 + 6 * N + 1) v) 2) N u)), (fd 2, iA G 9 (fA (upd (upd r (3 + 6 * N + 0) (nI k)) (3 + 6 * N + 1) v) 3)), (fd 3, iA G 9 (fA (upd (upd r (3 + 6 * N + 0) (nI k)) (3 + 6 * N + 1) v) 4)), (fd 4, iA G 9 (fA (upd (upd r (3 + 6 * N + 0) (nI k)) (3 + 6 * N + 1) v) 5))] H := hP
  have hD : va_D A [(f, fO fd (upd (upd r (3 + 6 * N + 0) (nI k)) (3 + 6 * N + 1) v)), (fd 0, qA G 3 9 (va_up wh N (some y))), (fd 1, iA G 9 (upd (fA (upd (upd r (3 + 6 * N + 0) (nI k)) (3 + 6 * N + 1) v) 2) N u)), (fd 2, iA G 9 (fA (upd (upd r (3 + 6 * N + 0) (nI k)) (3 + 6 * N + 1) v) 3)), (fd 3, iA G 9 (fA (upd (upd r (3 + 6 * N + 0) (nI k)) (3 + 6 * N + 1) v) 4)), (fd 4, iA G 9 (fA (upd (upd r (3 + 6 * N + 0) (nI k)) (3 + 6 * N + 1) v) 5))] := hD
  have z_13 : (fO fd (upd (upd (upd r (3 + 6 * N + 0) (nI k)) (3 + 6 * N + 1) v) (3 + 6 * N + 2) u) : va_E) = fO fd (upd (upd r (3 + 6 * N + 0) (nI k)) (3 + 6 * N + 1) v) := fO_u (fd := fd) (r := upd (upd r (3 + 6 * N + 0) (nI k)) (3 + 6 * N + 1) v) (p := N) (k := 2) (v := u)
  have z_14 : (iA G 9 (fA (upd (upd (upd r (3 + 6 * N + 0) (nI k)) (3 + 6 * N + 1) v) (3 + 6 * N + 2) u) 2) : va_E) = iA G 9 (upd (fA (upd (upd r (3 + 6 * N + 0) (nI k)) (3 + 6 * N + 1) v) 2) N u) := congrArg (iA G 9) (fA_u (r := upd (upd r (3 + 6 * N + 0) (nI k)) (3 + 6 * N + 1) v) (p := N) (k := 2) (v := u) (by decide))
  have z_15 : (iA G 9 (fA (upd (upd (upd r (3 + 6 * N + 0) (nI k)) (3 + 6 * N + 1) v) (3 + 6 * N + 2) u) 3) : va_E) = iA G 9 (fA (upd (upd r (3 + 6 * N + 0) (nI k)) (3 + 6 * N + 1) v) 3) := congrArg (iA G 9) (fA_n (r := upd (upd r (3 + 6 * N + 0) (nI k)) (3 + 6 * N + 1) v) (p := N) (k := 2) (k' := 3) (v := u) (by decide) (by decide) (by decide))
  have z_16 : (iA G 9 (fA (upd (upd (upd r (3 + 6 * N + 0) (nI k)) (3 + 6 * N + 1) v) (3 + 6 * N + 2) u) 4) : va_E) = iA G 9 (fA (upd (upd r (3 + 6 * N + 0) (nI k)) (3 + 6 * N + 1) v) 4) := congrArg (iA G 9) (fA_n (r := upd (upd r (3 + 6 * N + 0) (nI k)) (3 + 6 * N + 1) v) (p := N) (k := 2) (k' := 4) (v := u) (by decide) (by decide) (by decide))
  have z_17 : (iA G 9 (fA (upd (upd (upd r (3 + 6 * N + 0) (nI k)) (3 + 6 * N + 1) v) (3 + 6 * N + 2) u) 5) : va_E) = iA G 9 (fA (upd (upd r (3 + 6 * N + 0) (nI k)) (3 + 6 * N + 1) v) 5) := congrArg (iA G 9) (fA_n (r := upd (upd r (3 + 6 * N + 0) (nI k)) (3 + 6 * N + 1) v) (p := N) (k := 2) (k' := 5) (v := u) (by decide) (by decide) (by decide))
  have hP : PP G [(f, fO fd (upd (upd (upd r (3 + 6 * N + 0) (nI k)) (3 + 6 * N + 1) v) (3 + 6 * N + 2) u)), (fd 0, qA G 3 9 (va_up wh N (some y))), (fd 1, iA G 9 (fA (upd (upd (upd r (3 + 6 * N + 0) (nI k)) (3 + 6 * N + 1) v) (3 + 6 * N + 2) u) 2)), (fd 2, iA G 9 (fA (upd (upd (upd r (3 + 6 * N + 0) (nI k)) (3 + 6 * N + 1) v) (3 + 6 * N + 2) u) 3)), (fd 3, iA G 9 (fA (upd (upd (upd r (3 + 6 * N + 0) (nI k)) (3 + 6 * N + 1) v) (3 + 6 * N + 2) u) 4)), (fd 4, iA G 9 (fA (upd (upd (upd r (3 + 6 * N + 0) (nI k)) (3 + 6 * N + 1) v) (3 + 6 * N + 2) u) 5))] H := by rw [z_13, z_14, z_15, z_16, z_17]; exact hP
  have hD : va_D A [(f, fO fd (upd (upd (upd r (3 + 6 * N + 0) (nI k)) (3 + 6 * N + 1) v) (3 + 6 * N + 2) u)), (fd 0, qA G 3 9 (va_up wh N (some y))), (fd 1, iA G 9 (fA (upd (upd (upd r (3 + 6 * N + 0) (nI k)) (3 + 6 * N + 1) v) (3 + 6 * N + 2) u) 2)), (fd 2, iA G 9 (fA (upd (upd (upd r (3 + 6 * N + 0) (nI k)) (3 + 6 * N + 1) v) (3 + 6 * N + 2) u) 3)), (fd 3, iA G 9 (fA (upd (upd (upd r (3 + 6 * N + 0) (nI k)) (3 + 6 * N + 1) v) (3 + 6 * N + 2) u) 4)), (fd 4, iA G 9 (fA (upd (upd (upd r (3 + 6 * N + 0) (nI k)) (3 + 6 * N + 1) v) (3 + 6 * N + 2) u) 5))] := by rw [z_13, z_14, z_15, z_16, z_17]; exact hD
  have hr_18 : (upd (upd (upd r (3 + 6 * N + 0) (nI k)) (3 + 6 * N + 1) v) (3 + 6 * N + 2) u) 0 = nI N := (r_n (r := upd (upd r (3 + 6 * N + 0) (nI k)) (3 + 6 * N + 1) v) (p := N) (k := 2) (v := u) (i := 0) (by decide)).trans hr_12
  refine lv_aload_n hx hb dX2_comes_20 rfl (lv_at hl 0 rfl) ?_
  refine va_get (D := gD G) (ci := 2) (v := .ref (fd 2)) (C := RX2) (T := TX2) (N := 8) hx hb hts in_X2 hown hK.1 hP 0 rfl rfl 2 (by decide) (hts _ q796) (fun _ h9 => h9) rfl dX2_comes_21 ?_
  refine lv_aload_n hx hb dX2_comes_24 rfl (lv_at hl 0 rfl) ?_
  refine va_get (D := gD G) (ci := 2) (v := .int ((upd (upd (upd r (3 + 6 * N + 0) (nI k)) (3 + 6 * N + 1) v) (3 + 6 * N + 2) u) 0)) (C := RX2) (T := TX2) (N := 8) hx hb hts in_X2 hown hK.1 hP 0 rfl rfl 5 (by decide) (hts _ q802) (fun _ h9 => h9) rfl dX2_comes_25 ?_
  refine n_eqi (hr_18) ?_
  refine lv_iload_n hx hb dX2_comes_28 rfl (lv_at hl 3 rfl) ?_
  refine n_iast (x := w) C hK.1 hP hD hS 3 N rfl (by omega) (by omega) dX2_comes_29 (fun H locs hP hD hS => ?_)
  have hP : PP G [(f, fO fd (upd (upd (upd r (3 + 6 * N + 0) (nI k)) (3 + 6 * N + 1) v) (3 + 6 * N + 2) u)), (fd 0, qA G 3 9 (va_up wh N (some y))), (fd 1, iA G 9 (fA (upd (upd (upd r (3 + 6 * N + 0) (nI k)) (3 + 6 * N + 1) v) (3 + 6 * N + 2) u) 2)), (fd 2, iA G 9 (upd (fA (upd (upd (upd r (3 + 6 * N + 0) (nI k)) (3 + 6 * N + 1) v) (3 + 6 * N + 2) u) 3) N w)), (fd 3, iA G 9 (fA (upd (upd (upd r (3 + 6 * N + 0) (nI k)) (3 + 6 * N + 1) v) (3 + 6 * N + 2) u) 4)), (fd 4, iA G 9 (fA (upd (upd (upd r (3 + 6 * N + 0) (nI k)) (3 + 6 * N + 1) v) (3 + 6 * N + 2) u) 5))] H := hP
  have hD : va_D A [(f, fO fd (upd (upd (upd r (3 + 6 * N + 0) (nI k)) (3 + 6 * N + 1) v) (3 + 6 * N + 2) u)), (fd 0, qA G 3 9 (va_up wh N (some y))), (fd 1, iA G 9 (fA (upd (upd (upd r (3 + 6 * N + 0) (nI k)) (3 + 6 * N + 1) v) (3 + 6 * N + 2) u) 2)), (fd 2, iA G 9 (upd (fA (upd (upd (upd r (3 + 6 * N + 0) (nI k)) (3 + 6 * N + 1) v) (3 + 6 * N + 2) u) 3) N w)), (fd 3, iA G 9 (fA (upd (upd (upd r (3 + 6 * N + 0) (nI k)) (3 + 6 * N + 1) v) (3 + 6 * N + 2) u) 4)), (fd 4, iA G 9 (fA (upd (upd (upd r (3 + 6 * N + 0) (nI k)) (3 + 6 * N + 1) v) (3 + 6 * N + 2) u) 5))] := hD
  have z_19 : (fO fd (upd (upd (upd (upd r (3 + 6 * N + 0) (nI k)) (3 + 6 * N + 1) v) (3 + 6 * N + 2) u) (3 + 6 * N + 3) w) : va_E) = fO fd (upd (upd (upd r (3 + 6 * N + 0) (nI k)) (3 + 6 * N + 1) v) (3 + 6 * N + 2) u) := fO_u (fd := fd) (r := upd (upd (upd r (3 + 6 * N + 0) (nI k)) (3 + 6 * N + 1) v) (3 + 6 * N + 2) u) (p := N) (k := 3) (v := w)
  have z_20 : (iA G 9 (fA (upd (upd (upd (upd r (3 + 6 * N + 0) (nI k)) (3 + 6 * N + 1) v) (3 + 6 * N + 2) u) (3 + 6 * N + 3) w) 2) : va_E) = iA G 9 (fA (upd (upd (upd r (3 + 6 * N + 0) (nI k)) (3 + 6 * N + 1) v) (3 + 6 * N + 2) u) 2) := congrArg (iA G 9) (fA_n (r := upd (upd (upd r (3 + 6 * N + 0) (nI k)) (3 + 6 * N + 1) v) (3 + 6 * N + 2) u) (p := N) (k := 3) (k' := 2) (v := w) (by decide) (by decide) (by decide))
  have z_21 : (iA G 9 (fA (upd (upd (upd (upd r (3 + 6 * N + 0) (nI k)) (3 + 6 * N + 1) v) (3 + 6 * N + 2) u) (3 + 6 * N + 3) w) 3) : va_E) = iA G 9 (upd (fA (upd (upd (upd r (3 + 6 * N + 0) (nI k)) (3 + 6 * N + 1) v) (3 + 6 * N + 2) u) 3) N w) := congrArg (iA G 9) (fA_u (r := upd (upd (upd r (3 + 6 * N + 0) (nI k)) (3 + 6 * N + 1) v) (3 + 6 * N + 2) u) (p := N) (k := 3) (v := w) (by decide))
  have z_22 : (iA G 9 (fA (upd (upd (upd (upd r (3 + 6 * N + 0) (nI k)) (3 + 6 * N + 1) v) (3 + 6 * N + 2) u) (3 + 6 * N + 3) w) 4) : va_E) = iA G 9 (fA (upd (upd (upd r (3 + 6 * N + 0) (nI k)) (3 + 6 * N + 1) v) (3 + 6 * N + 2) u) 4) := congrArg (iA G 9) (fA_n (r := upd (upd (upd r (3 + 6 * N + 0) (nI k)) (3 + 6 * N + 1) v) (3 + 6 * N + 2) u) (p := N) (k := 3) (k' := 4) (v := w) (by decide) (by decide) (by decide))
  have z_23 : (iA G 9 (fA (upd (upd (upd (upd r (3 + 6 * N + 0) (nI k)) (3 + 6 * N + 1) v) (3 + 6 * N + 2) u) (3 + 6 * N + 3) w) 5) : va_E) = iA G 9 (fA (upd (upd (upd r (3 + 6 * N + 0) (nI k)) (3 + 6 * N + 1) v) (3 + 6 * N + 2) u) 5) := congrArg (iA G 9) (fA_n (r := upd (upd (upd r (3 + 6 * N + 0) (nI k)) (3 + 6 * N + 1) v) (3 + 6 * N + 2) u) (p := N) (k := 3) (k' := 5) (v := w) (by decide) (by decide) (by decide))
  have hP : PP G [(f, fO fd (upd (upd (upd (upd r (3 + 6 * N + 0) (nI k)) (3 + 6 * N + 1) v) (3 + 6 * N + 2) u) (3 + 6 * N + 3) w)), (fd 0, qA G 3 9 (va_up wh N (some y))), (fd 1, iA G 9 (fA (upd (upd (upd (upd r (3 + 6 * N + 0) (nI k)) (3 + 6 * N + 1) v) (3 + 6 * N + 2) u) (3 + 6 * N + 3) w) 2)), (fd 2, iA G 9 (fA (upd (upd (upd (upd r (3 + 6 * N + 0) (nI k)) (3 + 6 * N + 1) v) (3 + 6 * N + 2) u) (3 + 6 * N + 3) w) 3)), (fd 3, iA G 9 (fA (upd (upd (upd (upd r (3 + 6 * N + 0) (nI k)) (3 + 6 * N + 1) v) (3 + 6 * N + 2) u) (3 + 6 * N + 3) w) 4)), (fd 4, iA G 9 (fA (upd (upd (upd (upd r (3 + 6 * N + 0) (nI k)) (3 + 6 * N + 1) v) (3 + 6 * N + 2) u) (3 + 6 * N + 3) w) 5))] H := by rw [z_19, z_20, z_21, z_22, z_23]; exact hP
  have hD : va_D A [(f, fO fd (upd (upd (upd (upd r (3 + 6 * N + 0) (nI k)) (3 + 6 * N + 1) v) (3 + 6 * N + 2) u) (3 + 6 * N + 3) w)), (fd 0, qA G 3 9 (va_up wh N (some y))), (fd 1, iA G 9 (fA (upd (upd (upd (upd r (3 + 6 * N + 0) (nI k)) (3 + 6 * N + 1) v) (3 + 6 * N + 2) u) (3 + 6 * N + 3) w) 2)), (fd 2, iA G 9 (fA (upd (upd (upd (upd r (3 + 6 * N + 0) (nI k)) (3 + 6 * N + 1) v) (3 + 6 * N + 2) u) (3 + 6 * N + 3) w) 3)), (fd 3, iA G 9 (fA (upd (upd (upd (upd r (3 + 6 * N + 0) (nI k)) (3 + 6 * N + 1) v) (3 + 6 * N + 2) u) (3 + 6 * N + 3) w) 4)), (fd 4, iA G 9 (fA (upd (upd (upd (upd r (3 + 6 * N + 0) (nI k)) (3 + 6 * N + 1) v) (3 + 6 * N + 2) u) (3 + 6 * N + 3) w) 5))] := by rw [z_19, z_20, z_21, z_22, z_23]; exact hD
  have hr_24 : (upd (upd (upd (upd r (3 + 6 * N + 0) (nI k)) (3 + 6 * N + 1) v) (3 + 6 * N + 2) u) (3 + 6 * N + 3) w) 0 = nI N := (r_n (r := upd (upd (upd r (3 + 6 * N + 0) (nI k)) (3 + 6 * N + 1) v) (3 + 6 * N + 2) u) (p := N) (k := 3) (v := w) (i := 0) (by decide)).trans hr_18
  refine lv_aload_n hx hb dX2_comes_30 rfl (lv_at hl 0 rfl) ?_
  refine va_get (D := gD G) (ci := 2) (v := .ref (fd 3)) (C := RX2) (T := TX2) (N := 8) hx hb hts in_X2 hown hK.1 hP 0 rfl rfl 3 (by decide) (hts _ q798) (fun _ h9 => h9) rfl dX2_comes_31 ?_
  refine lv_aload_n hx hb dX2_comes_34 rfl (lv_at hl 0 rfl) ?_
  refine va_get (D := gD G) (ci := 2) (v := .int ((upd (upd (upd (upd r (3 + 6 * N + 0) (nI k)) (3 + 6 * N + 1) v) (3 + 6 * N + 2) u) (3 + 6 * N + 3) w) 0)) (C := RX2) (T := TX2) (N := 8) hx hb hts in_X2 hown hK.1 hP 0 rfl rfl 5 (by decide) (hts _ q802) (fun _ h9 => h9) rfl dX2_comes_35 ?_
  refine n_eqi (hr_24) ?_
  refine lv_iconst (v := 0) hx hb dX2_comes_38 (by decide) ?_
  refine n_iast (x := 0) C hK.1 hP hD hS 4 N rfl (by omega) (by omega) dX2_comes_39 (fun H locs hP hD hS => ?_)
  have hP : PP G [(f, fO fd (upd (upd (upd (upd r (3 + 6 * N + 0) (nI k)) (3 + 6 * N + 1) v) (3 + 6 * N + 2) u) (3 + 6 * N + 3) w)), (fd 0, qA G 3 9 (va_up wh N (some y))), (fd 1, iA G 9 (fA (upd (upd (upd (upd r (3 + 6 * N + 0) (nI k)) (3 + 6 * N + 1) v) (3 + 6 * N + 2) u) (3 + 6 * N + 3) w) 2)), (fd 2, iA G 9 (fA (upd (upd (upd (upd r (3 + 6 * N + 0) (nI k)) (3 + 6 * N + 1) v) (3 + 6 * N + 2) u) (3 + 6 * N + 3) w) 3)), (fd 3, iA G 9 (upd (fA (upd (upd (upd (upd r (3 + 6 * N + 0) (nI k)) (3 + 6 * N + 1) v) (3 + 6 * N + 2) u) (3 + 6 * N + 3) w) 4) N 0)), (fd 4, iA G 9 (fA (upd (upd (upd (upd r (3 + 6 * N + 0) (nI k)) (3 + 6 * N + 1) v) (3 + 6 * N + 2) u) (3 + 6 * N + 3) w) 5))] H := hP
  have hD : va_D A [(f, fO fd (upd (upd (upd (upd r (3 + 6 * N + 0) (nI k)) (3 + 6 * N + 1) v) (3 + 6 * N + 2) u) (3 + 6 * N + 3) w)), (fd 0, qA G 3 9 (va_up wh N (some y))), (fd 1, iA G 9 (fA (upd (upd (upd (upd r (3 + 6 * N + 0) (nI k)) (3 + 6 * N + 1) v) (3 + 6 * N + 2) u) (3 + 6 * N + 3) w) 2)), (fd 2, iA G 9 (fA (upd (upd (upd (upd r (3 + 6 * N + 0) (nI k)) (3 + 6 * N + 1) v) (3 + 6 * N + 2) u) (3 + 6 * N + 3) w) 3)), (fd 3, iA G 9 (upd (fA (upd (upd (upd (upd r (3 + 6 * N + 0) (nI k)) (3 + 6 * N + 1) v) (3 + 6 * N + 2) u) (3 + 6 * N + 3) w) 4) N 0)), (fd 4, iA G 9 (fA (upd (upd (upd (upd r (3 + 6 * N + 0) (nI k)) (3 + 6 * N + 1) v) (3 + 6 * N + 2) u) (3 + 6 * N + 3) w) 5))] := hD
  have z_25 : (fO fd (upd (upd (upd (upd (upd r (3 + 6 * N + 0) (nI k)) (3 + 6 * N + 1) v) (3 + 6 * N + 2) u) (3 + 6 * N + 3) w) (3 + 6 * N + 4) 0) : va_E) = fO fd (upd (upd (upd (upd r (3 + 6 * N + 0) (nI k)) (3 + 6 * N + 1) v) (3 + 6 * N + 2) u) (3 + 6 * N + 3) w) := fO_u (fd := fd) (r := upd (upd (upd (upd r (3 + 6 * N + 0) (nI k)) (3 + 6 * N + 1) v) (3 + 6 * N + 2) u) (3 + 6 * N + 3) w) (p := N) (k := 4) (v := 0)
  have z_26 : (iA G 9 (fA (upd (upd (upd (upd (upd r (3 + 6 * N + 0) (nI k)) (3 + 6 * N + 1) v) (3 + 6 * N + 2) u) (3 + 6 * N + 3) w) (3 + 6 * N + 4) 0) 2) : va_E) = iA G 9 (fA (upd (upd (upd (upd r (3 + 6 * N + 0) (nI k)) (3 + 6 * N + 1) v) (3 + 6 * N + 2) u) (3 + 6 * N + 3) w) 2) := congrArg (iA G 9) (fA_n (r := upd (upd (upd (upd r (3 + 6 * N + 0) (nI k)) (3 + 6 * N + 1) v) (3 + 6 * N + 2) u) (3 + 6 * N + 3) w) (p := N) (k := 4) (k' := 2) (v := 0) (by decide) (by decide) (by decide))
  have z_27 : (iA G 9 (fA (upd (upd (upd (upd (upd r (3 + 6 * N + 0) (nI k)) (3 + 6 * N + 1) v) (3 + 6 * N + 2) u) (3 + 6 * N + 3) w) (3 + 6 * N + 4) 0) 3) : va_E) = iA G 9 (fA (upd (upd (upd (upd r (3 + 6 * N + 0) (nI k)) (3 + 6 * N + 1) v) (3 + 6 * N + 2) u) (3 + 6 * N + 3) w) 3) := congrArg (iA G 9) (fA_n (r := upd (upd (upd (upd r (3 + 6 * N + 0) (nI k)) (3 + 6 * N + 1) v) (3 + 6 * N + 2) u) (3 + 6 * N + 3) w) (p := N) (k := 4) (k' := 3) (v := 0) (by decide) (by decide) (by decide))
  have z_28 : (iA G 9 (fA (upd (upd (upd (upd (upd r (3 + 6 * N + 0) (nI k)) (3 + 6 * N + 1) v) (3 + 6 * N + 2) u) (3 + 6 * N + 3) w) (3 + 6 * N + 4) 0) 4) : va_E) = iA G 9 (upd (fA (upd (upd (upd (upd r (3 + 6 * N + 0) (nI k)) (3 + 6 * N + 1) v) (3 + 6 * N + 2) u) (3 + 6 * N + 3) w) 4) N 0) := congrArg (iA G 9) (fA_u (r := upd (upd (upd (upd r (3 + 6 * N + 0) (nI k)) (3 + 6 * N + 1) v) (3 + 6 * N + 2) u) (3 + 6 * N + 3) w) (p := N) (k := 4) (v := 0) (by decide))
  have z_29 : (iA G 9 (fA (upd (upd (upd (upd (upd r (3 + 6 * N + 0) (nI k)) (3 + 6 * N + 1) v) (3 + 6 * N + 2) u) (3 + 6 * N + 3) w) (3 + 6 * N + 4) 0) 5) : va_E) = iA G 9 (fA (upd (upd (upd (upd r (3 + 6 * N + 0) (nI k)) (3 + 6 * N + 1) v) (3 + 6 * N + 2) u) (3 + 6 * N + 3) w) 5) := congrArg (iA G 9) (fA_n (r := upd (upd (upd (upd r (3 + 6 * N + 0) (nI k)) (3 + 6 * N + 1) v) (3 + 6 * N + 2) u) (3 + 6 * N + 3) w) (p := N) (k := 4) (k' := 5) (v := 0) (by decide) (by decide) (by decide))
  have hP : PP G [(f, fO fd (upd (upd (upd (upd (upd r (3 + 6 * N + 0) (nI k)) (3 + 6 * N + 1) v) (3 + 6 * N + 2) u) (3 + 6 * N + 3) w) (3 + 6 * N + 4) 0)), (fd 0, qA G 3 9 (va_up wh N (some y))), (fd 1, iA G 9 (fA (upd (upd (upd (upd (upd r (3 + 6 * N + 0) (nI k)) (3 + 6 * N + 1) v) (3 + 6 * N + 2) u) (3 + 6 * N + 3) w) (3 + 6 * N + 4) 0) 2)), (fd 2, iA G 9 (fA (upd (upd (upd (upd (upd r (3 + 6 * N + 0) (nI k)) (3 + 6 * N + 1) v) (3 + 6 * N + 2) u) (3 + 6 * N + 3) w) (3 + 6 * N + 4) 0) 3)), (fd 3, iA G 9 (fA (upd (upd (upd (upd (upd r (3 + 6 * N + 0) (nI k)) (3 + 6 * N + 1) v) (3 + 6 * N + 2) u) (3 + 6 * N + 3) w) (3 + 6 * N + 4) 0) 4)), (fd 4, iA G 9 (fA (upd (upd (upd (upd (upd r (3 + 6 * N + 0) (nI k)) (3 + 6 * N + 1) v) (3 + 6 * N + 2) u) (3 + 6 * N + 3) w) (3 + 6 * N + 4) 0) 5))] H := by rw [z_25, z_26, z_27, z_28, z_29]; exact hP
  have hD : va_D A [(f, fO fd (upd (upd (upd (upd (upd r (3 + 6 * N + 0) (nI k)) (3 + 6 * N + 1) v) (3 + 6 * N + 2) u) (3 + 6 * N + 3) w) (3 + 6 * N + 4) 0)), (fd 0, qA G 3 9 (va_up wh N (some y))), (fd 1, iA G 9 (fA (upd (upd (upd (upd (upd r (3 + 6 * N + 0) (nI k)) (3 + 6 * N + 1) v) (3 + 6 * N + 2) u) (3 + 6 * N + 3) w) (3 + 6 * N + 4) 0) 2)), (fd 2, iA G 9 (fA (upd (upd (upd (upd (upd r (3 + 6 * N + 0) (nI k)) (3 + 6 * N + 1) v) (3 + 6 * N + 2) u) (3 + 6 * N + 3) w) (3 + 6 * N + 4) 0) 3)), (fd 3, iA G 9 (fA (upd (upd (upd (upd (upd r (3 + 6 * N + 0) (nI k)) (3 + 6 * N + 1) v) (3 + 6 * N + 2) u) (3 + 6 * N + 3) w) (3 + 6 * N + 4) 0) 4)), (fd 4, iA G 9 (fA (upd (upd (upd (upd (upd r (3 + 6 * N + 0) (nI k)) (3 + 6 * N + 1) v) (3 + 6 * N + 2) u) (3 + 6 * N + 3) w) (3 + 6 * N + 4) 0) 5))] := by rw [z_25, z_26, z_27, z_28, z_29]; exact hD
  have hr_30 : (upd (upd (upd (upd (upd r (3 + 6 * N + 0) (nI k)) (3 + 6 * N + 1) v) (3 + 6 * N + 2) u) (3 + 6 * N + 3) w) (3 + 6 * N + 4) 0) 0 = nI N := (r_n (r := upd (upd (upd (upd r (3 + 6 * N + 0) (nI k)) (3 + 6 * N + 1) v) (3 + 6 * N + 2) u) (3 + 6 * N + 3) w) (p := N) (k := 4) (v := 0) (i := 0) (by decide)).trans hr_24
  refine lv_aload_n hx hb dX2_comes_40 rfl (lv_at hl 0 rfl) ?_
  refine va_get (D := gD G) (ci := 2) (v := .ref (fd 4)) (C := RX2) (T := TX2) (N := 8) hx hb hts in_X2 hown hK.1 hP 0 rfl rfl 4 (by decide) (hts _ q800) (fun _ h9 => h9) rfl dX2_comes_41 ?_
  refine lv_aload_n hx hb dX2_comes_44 rfl (lv_at hl 0 rfl) ?_
  refine va_get (D := gD G) (ci := 2) (v := .int ((upd (upd (upd (upd (upd r (3 + 6 * N + 0) (nI k)) (3 + 6 * N + 1) v) (3 + 6 * N + 2) u) (3 + 6 * N + 3) w) (3 + 6 * N + 4) 0) 0)) (C := RX2) (T := TX2) (N := 8) hx hb hts in_X2 hown hK.1 hP 0 rfl rfl 5 (by decide) (hts _ q802) (fun _ h9 => h9) rfl dX2_comes_45 ?_
  refine n_eqi (hr_30) ?_
  refine lv_iconst (v := 0) hx hb dX2_comes_48 (by decide) ?_
  refine n_iast (x := 0) C hK.1 hP hD hS 5 N rfl (by omega) (by omega) dX2_comes_49 (fun H locs hP hD hS => ?_)
  have hP : PP G [(f, fO fd (upd (upd (upd (upd (upd r (3 + 6 * N + 0) (nI k)) (3 + 6 * N + 1) v) (3 + 6 * N + 2) u) (3 + 6 * N + 3) w) (3 + 6 * N + 4) 0)), (fd 0, qA G 3 9 (va_up wh N (some y))), (fd 1, iA G 9 (fA (upd (upd (upd (upd (upd r (3 + 6 * N + 0) (nI k)) (3 + 6 * N + 1) v) (3 + 6 * N + 2) u) (3 + 6 * N + 3) w) (3 + 6 * N + 4) 0) 2)), (fd 2, iA G 9 (fA (upd (upd (upd (upd (upd r (3 + 6 * N + 0) (nI k)) (3 + 6 * N + 1) v) (3 + 6 * N + 2) u) (3 + 6 * N + 3) w) (3 + 6 * N + 4) 0) 3)), (fd 3, iA G 9 (fA (upd (upd (upd (upd (upd r (3 + 6 * N + 0) (nI k)) (3 + 6 * N + 1) v) (3 + 6 * N + 2) u) (3 + 6 * N + 3) w) (3 + 6 * N + 4) 0) 4)), (fd 4, iA G 9 (upd (fA (upd (upd (upd (upd (upd r (3 + 6 * N + 0) (nI k)) (3 + 6 * N + 1) v) (3 + 6 * N + 2) u) (3 + 6 * N + 3) w) (3 + 6 * N + 4) 0) 5) N 0))] H := hP
  have hD : va_D A [(f, fO fd (upd (upd (upd (upd (upd r (3 + 6 * N + 0) (nI k)) (3 + 6 * N + 1) v) (3 + 6 * N + 2) u) (3 + 6 * N + 3) w) (3 + 6 * N + 4) 0)), (fd 0, qA G 3 9 (va_up wh N (some y))), (fd 1, iA G 9 (fA (upd (upd (upd (upd (upd r (3 + 6 * N + 0) (nI k)) (3 + 6 * N + 1) v) (3 + 6 * N + 2) u) (3 + 6 * N + 3) w) (3 + 6 * N + 4) 0) 2)), (fd 2, iA G 9 (fA (upd (upd (upd (upd (upd r (3 + 6 * N + 0) (nI k)) (3 + 6 * N + 1) v) (3 + 6 * N + 2) u) (3 + 6 * N + 3) w) (3 + 6 * N + 4) 0) 3)), (fd 3, iA G 9 (fA (upd (upd (upd (upd (upd r (3 + 6 * N + 0) (nI k)) (3 + 6 * N + 1) v) (3 + 6 * N + 2) u) (3 + 6 * N + 3) w) (3 + 6 * N + 4) 0) 4)), (fd 4, iA G 9 (upd (fA (upd (upd (upd (upd (upd r (3 + 6 * N + 0) (nI k)) (3 + 6 * N + 1) v) (3 + 6 * N + 2) u) (3 + 6 * N + 3) w) (3 + 6 * N + 4) 0) 5) N 0))] := hD
  have z_31 : (fO fd (sA6 r N (nI k) v u w) : va_E) = fO fd (upd (upd (upd (upd (upd r (3 + 6 * N + 0) (nI k)) (3 + 6 * N + 1) v) (3 + 6 * N + 2) u) (3 + 6 * N + 3) w) (3 + 6 * N + 4) 0) := fO_u (fd := fd) (r := upd (upd (upd (upd (upd r (3 + 6 * N + 0) (nI k)) (3 + 6 * N + 1) v) (3 + 6 * N + 2) u) (3 + 6 * N + 3) w) (3 + 6 * N + 4) 0) (p := N) (k := 5) (v := 0)
  have z_32 : (iA G 9 (fA (sA6 r N (nI k) v u w) 2) : va_E) = iA G 9 (fA (upd (upd (upd (upd (upd r (3 + 6 * N + 0) (nI k)) (3 + 6 * N + 1) v) (3 + 6 * N + 2) u) (3 + 6 * N + 3) w) (3 + 6 * N + 4) 0) 2) := congrArg (iA G 9) (fA_n (r := upd (upd (upd (upd (upd r (3 + 6 * N + 0) (nI k)) (3 + 6 * N + 1) v) (3 + 6 * N + 2) u) (3 + 6 * N + 3) w) (3 + 6 * N + 4) 0) (p := N) (k := 5) (k' := 2) (v := 0) (by decide) (by decide) (by decide))
  have z_33 : (iA G 9 (fA (sA6 r N (nI k) v u w) 3) : va_E) = iA G 9 (fA (upd (upd (upd (upd (upd r (3 + 6 * N + 0) (nI k)) (3 + 6 * N + 1) v) (3 + 6 * N + 2) u) (3 + 6 * N + 3) w) (3 + 6 * N + 4) 0) 3) := congrArg (iA G 9) (fA_n (r := upd (upd (upd (upd (upd r (3 + 6 * N + 0) (nI k)) (3 + 6 * N + 1) v) (3 + 6 * N + 2) u) (3 + 6 * N + 3) w) (3 + 6 * N + 4) 0) (p := N) (k := 5) (k' := 3) (v := 0) (by decide) (by decide) (by decide))
  have z_34 : (iA G 9 (fA (sA6 r N (nI k) v u w) 4) : va_E) = iA G 9 (fA (upd (upd (upd (upd (upd r (3 + 6 * N + 0) (nI k)) (3 + 6 * N + 1) v) (3 + 6 * N + 2) u) (3 + 6 * N + 3) w) (3 + 6 * N + 4) 0) 4) := congrArg (iA G 9) (fA_n (r := upd (upd (upd (upd (upd r (3 + 6 * N + 0) (nI k)) (3 + 6 * N + 1) v) (3 + 6 * N + 2) u) (3 + 6 * N + 3) w) (3 + 6 * N + 4) 0) (p := N) (k := 5) (k' := 4) (v := 0) (by decide) (by decide) (by decide))
  have z_35 : (iA G 9 (fA (sA6 r N (nI k) v u w) 5) : va_E) = iA G 9 (upd (fA (upd (upd (upd (upd (upd r (3 + 6 * N + 0) (nI k)) (3 + 6 * N + 1) v) (3 + 6 * N + 2) u) (3 + 6 * N + 3) w) (3 + 6 * N + 4) 0) 5) N 0) := congrArg (iA G 9) (fA_u (r := upd (upd (upd (upd (upd r (3 + 6 * N + 0) (nI k)) (3 + 6 * N + 1) v) (3 + 6 * N + 2) u) (3 + 6 * N + 3) w) (3 + 6 * N + 4) 0) (p := N) (k := 5) (v := 0) (by decide))
  have hP : PP G [(f, fO fd (sA6 r N (nI k) v u w)), (fd 0, qA G 3 9 (va_up wh N (some y))), (fd 1, iA G 9 (fA (sA6 r N (nI k) v u w) 2)), (fd 2, iA G 9 (fA (sA6 r N (nI k) v u w) 3)), (fd 3, iA G 9 (fA (sA6 r N (nI k) v u w) 4)), (fd 4, iA G 9 (fA (sA6 r N (nI k) v u w) 5))] H := by rw [z_31, z_32, z_33, z_34, z_35]; exact hP
  have hD : va_D A [(f, fO fd (sA6 r N (nI k) v u w)), (fd 0, qA G 3 9 (va_up wh N (some y))), (fd 1, iA G 9 (fA (sA6 r N (nI k) v u w) 2)), (fd 2, iA G 9 (fA (sA6 r N (nI k) v u w) 3)), (fd 3, iA G 9 (fA (sA6 r N (nI k) v u w) 4)), (fd 4, iA G 9 (fA (sA6 r N (nI k) v u w) 5))] := by rw [z_31, z_32, z_33, z_34, z_35]; exact hD
  have hr_36 : (sA6 r N (nI k) v u w) 0 = nI N := (r_n (r := upd (upd (upd (upd (upd r (3 + 6 * N + 0) (nI k)) (3 + 6 * N + 1) v) (3 + 6 * N + 2) u) (3 + 6 * N + 3) w) (3 + 6 * N + 4) 0) (p := N) (k := 5) (v := 0) (i := 0) (by decide)).trans hr_30
  refine lv_aload_n hx hb dX2_comes_50 rfl (lv_at hl 0 rfl) ?_
  refine lv_dup hx hb dX2_comes_51 rfl ?_
  refine va_get (D := gD G) (ci := 2) (v := .int ((sA6 r N (nI k) v u w) 0)) (C := RX2) (T := TX2) (N := 8) hx hb hts in_X2 hown hK.1 hP 0 rfl rfl 5 (by decide) (hts _ q802) (fun _ h9 => h9) rfl dX2_comes_52 ?_
  refine n_eqi (hr_36) ?_
  refine lv_iconst (v := 1) hx hb dX2_comes_55 (by decide) ?_
  refine n_iadd hx hb N 1 dX2_comes_56 ?_
  refine va_put (D := gD G) (ci := 2) (v := .int (nI (N + 1))) (ty := .int) (C := RX2) (T := TX2) (N := 8) hx hb hts in_X2 tyX2 tyX2_ok nmX2 hown hK.1 hP hD hS 0 rfl rfl 5 (by decide) (hts _ q802) (fun _ h9 => h9) rfl (by decide +kernel) rfl rfl (Nat.le_of_ble_eq_true rfl) dX2_comes_57 (fun H locs hP hD hS => ?_)
  have hP : PP G [(f, fR fd (nI (N + 1)) ((sA6 r N (nI k) v u w) 1) ((sA6 r N (nI k) v u w) 2)), (fd 0, qA G 3 9 (va_up wh N (some y))), (fd 1, iA G 9 (fA (sA6 r N (nI k) v u w) 2)), (fd 2, iA G 9 (fA (sA6 r N (nI k) v u w) 3)), (fd 3, iA G 9 (fA (sA6 r N (nI k) v u w) 4)), (fd 4, iA G 9 (fA (sA6 r N (nI k) v u w) 5))] H := hP
  have hD : va_D A [(f, fR fd (nI (N + 1)) ((sA6 r N (nI k) v u w) 1) ((sA6 r N (nI k) v u w) 2)), (fd 0, qA G 3 9 (va_up wh N (some y))), (fd 1, iA G 9 (fA (sA6 r N (nI k) v u w) 2)), (fd 2, iA G 9 (fA (sA6 r N (nI k) v u w) 3)), (fd 3, iA G 9 (fA (sA6 r N (nI k) v u w) 4)), (fd 4, iA G 9 (fA (sA6 r N (nI k) v u w) 5))] := hD
  have z_37 : (fO fd (sAdds r N (nI k) v u w) : va_E) = fR fd (nI (N + 1)) ((sA6 r N (nI k) v u w) 1) ((sA6 r N (nI k) v u w) 2) := fO_h0 (fd := fd) (r := sA6 r N (nI k) v u w) (v := nI (N + 1))
  have z_38 : (iA G 9 (fA (sAdds r N (nI k) v u w) 2) : va_E) = iA G 9 (fA (sA6 r N (nI k) v u w) 2) := congrArg (iA G 9) (fA_h (r := sA6 r N (nI k) v u w) (i := 0) (k := 2) (v := nI (N + 1)) (by decide))
  have z_39 : (iA G 9 (fA (sAdds r N (nI k) v u w) 3) : va_E) = iA G 9 (fA (sA6 r N (nI k) v u w) 3) := congrArg (iA G 9) (fA_h (r := sA6 r N (nI k) v u w) (i := 0) (k := 3) (v := nI (N + 1)) (by decide))
  have z_40 : (iA G 9 (fA (sAdds r N (nI k) v u w) 4) : va_E) = iA G 9 (fA (sA6 r N (nI k) v u w) 4) := congrArg (iA G 9) (fA_h (r := sA6 r N (nI k) v u w) (i := 0) (k := 4) (v := nI (N + 1)) (by decide))
  have z_41 : (iA G 9 (fA (sAdds r N (nI k) v u w) 5) : va_E) = iA G 9 (fA (sA6 r N (nI k) v u w) 5) := congrArg (iA G 9) (fA_h (r := sA6 r N (nI k) v u w) (i := 0) (k := 5) (v := nI (N + 1)) (by decide))
  have hP : PP G [(f, fO fd (sAdds r N (nI k) v u w)), (fd 0, qA G 3 9 (va_up wh N (some y))), (fd 1, iA G 9 (fA (sAdds r N (nI k) v u w) 2)), (fd 2, iA G 9 (fA (sAdds r N (nI k) v u w) 3)), (fd 3, iA G 9 (fA (sAdds r N (nI k) v u w) 4)), (fd 4, iA G 9 (fA (sAdds r N (nI k) v u w) 5))] H := by rw [z_37, z_38, z_39, z_40, z_41]; exact hP
  have hD : va_D A [(f, fO fd (sAdds r N (nI k) v u w)), (fd 0, qA G 3 9 (va_up wh N (some y))), (fd 1, iA G 9 (fA (sAdds r N (nI k) v u w) 2)), (fd 2, iA G 9 (fA (sAdds r N (nI k) v u w) 3)), (fd 3, iA G 9 (fA (sAdds r N (nI k) v u w) 4)), (fd 4, iA G 9 (fA (sAdds r N (nI k) v u w) 5))] := by rw [z_37, z_38, z_39, z_40, z_41]; exact hD
  have hr_42 : (sAdds r N (nI k) v u w) 0 = nI (N + 1) := rfl
  refine lv_aload_n hx hb dX2_comes_60 rfl (lv_at hl 0 rfl) ?_
  refine va_get (D := gD G) (ci := 2) (v := .int ((sAdds r N (nI k) v u w) 0)) (C := RX2) (T := TX2) (N := 8) hx hb hts in_X2 hown hK.1 hP 0 rfl rfl 5 (by decide) (hts _ q802) (fun _ h9 => h9) rfl dX2_comes_61 ?_
  refine n_eqi (y := nI (N + 1)) rfl ?_
  refine lv_iconst (v := 1) hx hb dX2_comes_64 (by decide) ?_
  refine n_isub hx hb (N + 1) 1 (by omega) dX2_comes_65 ?_
  exact n_iretW (v := nI ((N + 1) - 1)) (w1 := [(f, fO fd (sAdds r N (nI k) v u w)), (fd 0, qA G 3 9 (va_up wh N (some y))), (fd 1, iA G 9 (fA (sAdds r N (nI k) v u w) 2)), (fd 2, iA G 9 (fA (sAdds r N (nI k) v u w) 3)), (fd 3, iA G 9 (fA (sAdds r N (nI k) v u w) 4)), (fd 4, iA G 9 (fA (sAdds r N (nI k) v u w) 5))]) C (⟨rfl, rfl⟩) hP hD hS (by first | omega | decide) (by first | omega | decide) dX2_comes_66
