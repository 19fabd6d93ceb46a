set_option maxHeartbeats 4000000 in
set_option maxRecDepth 100000 in
theorem metX4_here (l : Launch) (G : GG) (h : Nat) (ad : Nat → Nat) (iv : Nat → Int32) (el : Nat → Int32) (ra re pl : Nat)  (ht : ra + re ≤ 800) (hpl : pl < 2 ^ 30) : MR l yX4_here cX4_here 1 (some .int) ({ frames := 0, cells := 0, slots := 0, locals := 0 }) [.ref h] [(h, mO ad (upd (upd (upd iv 5 (nI pl)) 6 (nI ra)) 7 (nI re))), (ad 18, iA G 800 el)] G (KM G) (tM el ra re pl) := by
  -- rows printed by wip/tools/gen.py
  refine mr_mk RX4 (by decide) rfl (Nat.le_of_ble_eq_true rfl) ?_
  intro p0_ e0_ s m args below meth c C hP hK ls hl
  have hx := C.1
  have hb := C.2.1
  have hml := C.2.2.2.2.1
  have hown := C.2.2.2.2.2.1
  have hts := C.2.2.2.2.2.2
  have hl : lv_has ls 1 [(0, .ref h)] := hl
  refine lv_aload_n hx hb dX4_here_0 rfl (lv_at hl 0 rfl) ?_
  refine va_get (D := gD G) (ci := 0) (v := .int (nI pl)) (C := RX4) (T := TX4) (N := 20) hx hb hts in_X4 hown hK hP 0 rfl rfl 5 (by decide) (hts _ q1078) (fun _ h9 => h9) rfl dX4_here_1 ?_
  refine lv_aload_n hx hb dX4_here_4 rfl (lv_at hl 0 rfl) ?_
  refine va_get (D := gD G) (ci := 0) (v := .int (nI re)) (C := RX4) (T := TX4) (N := 20) hx hb hts in_X4 hown hK hP 0 rfl rfl 7 (by decide) (hts _ q1080) (fun _ h9 => h9) rfl dX4_here_5 ?_
  refine n_ic_ge (x := pl) (y := re) (tgt := 32) hx hb (by omega) (by omega) dX4_here_8 (by decide) (fun c_1 => ?_) (fun c_1 => ?_)
  · have zc_1 : ¬ pl < re := Nat.not_lt.mpr c_1
    refine lv_iconst (v := (-1)) hx hb dX4_here_32 (by decide) ?_
    exact n_iret (v := (-1)) C (by simp [tM, c_1, zc_1]) dX4_here_33
  · have zc_1 : ¬ re ≤ pl := Nat.not_le.mpr c_1
    refine lv_aload_n hx hb dX4_here_11 rfl (lv_at hl 0 rfl) ?_
    refine va_get (D := gD G) (ci := 0) (v := .ref (ad 18)) (C := RX4) (T := TX4) (N := 20) hx hb hts in_X4 hown hK hP 0 rfl rfl 18 (by decide) (hts _ q1091) (fun _ h9 => h9) rfl dX4_here_12 ?_
    refine lv_aload_n hx hb dX4_here_15 rfl (lv_at hl 0 rfl) ?_
    refine va_get (D := gD G) (ci := 0) (v := .int (nI ra)) (C := RX4) (T := TX4) (N := 20) hx hb hts in_X4 hown hK hP 0 rfl rfl 6 (by decide) (hts _ q1079) (fun _ h9 => h9) rfl dX4_here_16 ?_
    refine lv_aload_n hx hb dX4_here_19 rfl (lv_at hl 0 rfl) ?_
    refine va_get (D := gD G) (ci := 0) (v := .int (nI pl)) (C := RX4) (T := TX4) (N := 20) hx hb hts in_X4 hown hK hP 0 rfl rfl 5 (by decide) (hts _ q1078) (fun _ h9 => h9) rfl dX4_here_20 ?_
    refine n_iadd hx hb ra pl dX4_here_23 ?_
    refine n_iald C hK hP 1 (ra + pl) rfl (by omega) (by omega) dX4_here_24 ?_
    refine lv_sipush (v := 255) hx hb dX4_here_25 (by decide) ?_
    refine lv_iand (x := el (ra + pl)) (y := 255) hx hb dX4_here_28 ?_
    refine lv_goto (tgt := 33) hx hb dX4_here_29 (by decide) ?_
    exact n_iret (v := (el (ra + pl)) &&& 255) C (by simp [tM, c_1, zc_1]) dX4_here_33

set_option maxHeartbeats 4000000 in
set_option maxRecDepth 100000 in
theorem metX4_readsNumber (l : Launch) (G : GG) (h : Nat) (ad : Nat → Nat) (iv : Nat → Int32) (el : Nat → Int32) (ra re pl : Nat) (nu : Nat → Int32) (k d : Nat) (ht : ra + re ≤ 800) (hpl : pl < 2 ^ 29) (hk : k < 4) (hd : d < 8) : MW l yX4_readsNumber cX4_readsNumber 4 (some .boolean) ({ frames := 1, cells := 0, slots := 0, locals := 22 }) [.ref h, .int (nI k), .int (nI d)] [(h, mO ad (upd (upd (upd iv 5 (nI pl)) 6 (nI ra)) 7 (nI re))), (ad 8, iA G 4 nu), (ad 18, iA G 800 el)] G (KM G) 0 0 (fun rv w1 => rv = bI (rdN (tM el ra re) d pl 0).1 ∧ w1 = [(h, mO ad (upd (upd (upd iv 5 (nI ((rdN (tM el ra re) d pl 0).2.1))) 6 (nI ra)) 7 (nI re))), (ad 8, iA G 4 (upd nu k (rdN (tM el ra re) d pl 0).2.2)), (ad 18, iA G 800 el)]) := by
  -- rows printed by wip/tools/gen.py
  refine mw_mk RX4 (by decide) rfl (Nat.le_of_ble_eq_true rfl) ?_
  intro p0_ e0_ s m args below meth c A C hA hP hK hD ls hl
  have hx := C.1
  have hb := C.2.1
  have hml := C.2.2.2.2.1
  have hown := C.2.2.2.2.2.1
  have hts := C.2.2.2.2.2.2
  have hS : va_S A s.heap s.heap [] := va_S.rf
  have hl : lv_has ls 4 [(0, .ref h), (1, .int (nI k)), (2, .int (nI d))] := hl
  refine lv_aload_n hx hb dX4_readsNumber_0 rfl (lv_at hl 0 rfl) ?_
  refine va_get (D := gD G) (ci := 0) (v := .ref (ad 8)) (C := RX4) (T := TX4) (N := 20) hx hb hts in_X4 hown hK hP 0 rfl rfl 8 (by decide) (hts _ q1081) (fun _ h9 => h9) rfl dX4_readsNumber_1 ?_
  refine lv_iload_n hx hb dX4_readsNumber_4 rfl (lv_at hl 1 rfl) ?_
  refine lv_iconst (v := 0) hx hb dX4_readsNumber_5 (by decide) ?_
  refine n_iast (x := 0) C hK hP hD hS 1 k rfl (by omega) (by omega) dX4_readsNumber_6 (fun H locs hP hD hS => ?_)
  have hP : PP G [(h, mO ad (upd (upd (upd iv 5 (nI pl)) 6 (nI ra)) 7 (nI re))), (ad 8, iA G 4 (upd nu k 0)), (ad 18, iA G 800 el)] H := hP
  have hD : va_D A [(h, mO ad (upd (upd (upd iv 5 (nI pl)) 6 (nI ra)) 7 (nI re))), (ad 8, iA G 4 (upd nu k 0)), (ad 18, iA G 800 el)] := hD
  refine lv_iconst (v := 0) hx hb dX4_readsNumber_7 (by decide) ?_
  refine lv_istore_n (lv' := [(3, .int 0), (0, .ref h), (1, .int (nI k)), (2, .int (nI d))]) hx hb dX4_readsNumber_8 rfl hl (Nat.le_of_ble_eq_true rfl) rfl (fun ls hl => ?_)
  suffices hlp_1 : (∀ (n i : Nat), i + n = d → ∀ (v : Int32), ∀ (H : Heap) (locs : List Loc), PP G [(h, mO ad (upd (upd (upd iv 5 (nI (pl + i))) 6 (nI ra)) 7 (nI re))), (ad 8, iA G 4 (upd nu k v)), (ad 18, iA G 800 el)] H → va_D A [(h, mO ad (upd (upd (upd iv 5 (nI (pl + i))) 6 (nI ra)) 7 (nI re))), (ad 8, iA G 4 (upd nu k v)), (ad 18, iA G 800 el)] → va_S A s.heap H locs → (rdN (tM el ra re) d pl 0 = rdN (tM el ra re) (d - i) (pl + i) v) → ∀ (ls : Array Slot), lv_has ls 4 [(3, .int (nI i)), (0, .ref h), (1, .int (nI k)), (2, .int (nI d))] → W p0_ l e0_ ({ frames := 1, cells := 0, slots := 0, locals := 22 } : Room) s m args below meth c H locs (0) (0) (MQ below (va_Qi (S := va_W) (fun rv w1 => rv = bI (rdN (tM el ra re) d pl 0).1 ∧ w1 = [(h, mO ad (upd (upd (upd iv 5 (nI ((rdN (tM el ra re) d pl 0).2.1))) 6 (nI ra)) 7 (nI re))), (ad 8, iA G 4 (upd nu k (rdN (tM el ra re) d pl 0).2.2)), (ad 18, iA G 800 el)]) (fun w1 t => PP G w1 t.heap ∧ va_D A w1) A) args s 0 0 A) (F0 m 9 ls [])) by
    exact hlp_1 (d) 0 (by omega) (0) _ _ (hP.sub [0, 1, 2] rfl) (hD.sub [0, 1, 2] (by decide) rfl) hS (rfl) ls (lv_sub hl [0, 1, 2, 3] rfl)
  have hend_1 : ∀ (v : Int32), ∀ (H : Heap) (locs : List Loc), PP G [(h, mO ad (upd (upd (upd iv 5 (nI (pl + d))) 6 (nI ra)) 7 (nI re))), (ad 8, iA G 4 (upd nu k v)), (ad 18, iA G 800 el)] H → va_D A [(h, mO ad (upd (upd (upd iv 5 (nI (pl + d))) 6 (nI ra)) 7 (nI re))), (ad 8, iA G 4 (upd nu k v)), (ad 18, iA G 800 el)] → va_S A s.heap H locs → (rdN (tM el ra re) d pl 0 = rdN (tM el ra re) (d - d) (pl + d) v) → ∀ (ls : Array Slot), lv_has ls 4 [(3, .int (nI d)), (0, .ref h), (1, .int (nI k)), (2, .int (nI d))] → W p0_ l e0_ ({ frames := 1, cells := 0, slots := 0, locals := 22 } : Room) s m args below meth c H locs (0) (0) (MQ below (va_Qi (S := va_W) (fun rv w1 => rv = bI (rdN (tM el ra re) d pl 0).1 ∧ w1 = [(h, mO ad (upd (upd (upd iv 5 (nI ((rdN (tM el ra re) d pl 0).2.1))) 6 (nI ra)) 7 (nI re))), (ad 8, iA G 4 (upd nu k (rdN (tM el ra re) d pl 0).2.2)), (ad 18, iA G 800 el)]) (fun w1 t => PP G w1 t.heap ∧ va_D A w1) A) args s 0 0 A) (F0 m 9 ls []) := by
    intro v H locs hP hD hS hg ls hl
    refine lv_iload_n hx hb dX4_readsNumber_9 rfl (lv_at hl 0 rfl) ?_
    refine lv_iload_n hx hb dX4_readsNumber_10 rfl (lv_at hl 3 rfl) ?_
    refine n_ic_ge (x := d) (y := d) (tgt := 69) hx hb (by omega) (by omega) dX4_readsNumber_11 (by decide) (fun c_2 => ?_) (fun c_2 => absurd c_2 (by omega))
    have hrd : rdN (tM el ra re) d pl 0 = (true, pl + d, v) := by rw [hg, Nat.sub_self, rdN]
    refine lv_iconst (v := 1) hx hb dX4_readsNumber_69 (by decide) ?_
    exact n_zretW (v := true) (w1 := [(h, mO ad (upd (upd (upd iv 5 (nI (pl + d))) 6 (nI ra)) 7 (nI re))), (ad 8, iA G 4 (upd nu k v)), (ad 18, iA G 800 el)]) C (by rw [hrd]; exact ⟨rfl, rfl⟩) hP hD hS (by first | omega | decide) (by first | omega | decide) dX4_readsNumber_70
  intro n
  induction n with
  | zero =>
    intro i hi_1 v H locs hP hD hS hg ls hl
    obtain e_1 : i = d := by omega
    first | (subst e_1; exact hend_1 v H locs hP hD hS hg ls hl) | (rw [e_1] at hl hP hD; exact hend_1 v H locs hP hD hS hg ls hl)
  | succ n ih_1 =>
    intro i hi_1 v H locs hP hD hS hg ls hl
    have e9 : d - i = (d - (i + 1)) + 1 := by omega
    refine lv_iload_n hx hb dX4_readsNumber_9 rfl (lv_at hl 0 rfl) ?_
    refine lv_iload_n hx hb dX4_readsNumber_10 rfl (lv_at hl 3 rfl) ?_
    refine n_ic_ge (x := i) (y := d) (tgt := 69) hx hb (by omega) (by omega) dX4_readsNumber_11 (by decide) (fun c_3 => absurd c_3 (by omega)) (fun c_3 => ?_)
    refine lv_aload_n hx hb dX4_readsNumber_14 rfl (lv_at hl 1 rfl) ?_
    refine c_V (rest := []) C (metX4_here l G h ad iv el ra re (pl + i) (by omega) (by omega)) 0 (lw_V q1152 q1154 qs25 q42 q1155) (by decide +kernel) ⟨rfl, rfl⟩ ⟨(Nat.le_of_ble_eq_true rfl), (Nat.le_of_ble_eq_true rfl)⟩ (KM_mv G) (va_recv hK hP (ci := 0) (q0 := 0) rfl rfl) (hP.sub (ws' := [(h, mO ad (upd (upd (upd iv 5 (nI (pl + i))) 6 (nI ra)) 7 (nI re))), (ad 18, iA G 800 el)]) [0, 2] rfl) hK hl rfl rfl (Nat.le_of_ble_eq_true rfl) ⟨(Nat.le_of_ble_eq_true rfl), (Nat.le_of_ble_eq_true rfl)⟩ dX4_readsNumber_15 ?_
    refine lv_bipush (v := 48) hx hb dX4_readsNumber_18 (by decide) ?_
    refine lv_bipush (v := 57) hx hb dX4_readsNumber_20 (by decide) ?_
    refine c_S (rest := []) C (metX4_isIn l G (tM el ra re (pl + i)) 48 57) 3 (lw_S q1145 q1146 q42 q1147) (by decide +kernel) ⟨rfl, rfl⟩ ⟨(Nat.le_of_ble_eq_true rfl), (Nat.le_of_ble_eq_true rfl)⟩ (KM_mv G) (hP.sub (ws' := []) [] rfl) hK hl rfl rfl (Nat.le_of_ble_eq_true rfl) ⟨(Nat.le_of_ble_eq_true rfl), (Nat.le_of_ble_eq_true rfl)⟩ dX4_readsNumber_22 ?_
    refine n_if_neB (b := (sIn (tM el ra re (pl + i)) 48 57)) (tgt := 30) hx hb dX4_readsNumber_25 (by decide) (fun c_4 => ?_) (fun c_4 => ?_)
    · obtain ⟨tM_el_ra_5, htM_el_ra_5, gtM_el_ra_5, qtM_el_ra_5⟩ := sIn_t (a := 48) (b := 57) (by omega) (by omega) c_4
      have utM_el_ra_5 : sIn (nI tM_el_ra_5) 48 57 = true := by rw [← qtM_el_ra_5]; exact c_4
      have ttM_el_ra_5 : tn (nI tM_el_ra_5) = tM_el_ra_5 := nI_clamp (by omega)
      refine lv_aload_n hx hb dX4_readsNumber_30 rfl (lv_at hl 1 rfl) ?_
      refine va_get (D := gD G) (ci := 0) (v := .ref (ad 8)) (C := RX4) (T := TX4) (N := 20) hx hb hts in_X4 hown hK hP 0 rfl rfl 8 (by decide) (hts _ q1081) (fun _ h9 => h9) rfl dX4_readsNumber_31 ?_
      refine lv_iload_n hx hb dX4_readsNumber_34 rfl (lv_at hl 2 rfl) ?_
      refine lv_bipush (v := 10) hx hb dX4_readsNumber_35 (by decide) ?_
      refine lv_aload_n hx hb dX4_readsNumber_37 rfl (lv_at hl 1 rfl) ?_
      refine va_get (D := gD G) (ci := 0) (v := .ref (ad 8)) (C := RX4) (T := TX4) (N := 20) hx hb hts in_X4 hown hK hP 0 rfl rfl 8 (by decide) (hts _ q1081) (fun _ h9 => h9) rfl dX4_readsNumber_38 ?_
      refine lv_iload_n hx hb dX4_readsNumber_41 rfl (lv_at hl 2 rfl) ?_
      refine n_iald C hK hP 1 k rfl (by omega) (by omega) dX4_readsNumber_42 ?_
      refine n_eqi (show upd nu k v k = v by simp [upd]) ?_
      refine lv_imul (x := 10) (y := v) hx hb dX4_readsNumber_43 ?_
      refine lv_aload_n hx hb dX4_readsNumber_44 rfl (lv_at hl 1 rfl) ?_
      refine c_V (rest := [.int (10 * v), .int (nI k), .ref (ad 8)]) C (metX4_here l G h ad iv el ra re (pl + i) (by omega) (by omega)) 0 (lw_V q1152 q1154 qs25 q42 q1155) (by decide +kernel) ⟨rfl, rfl⟩ ⟨(Nat.le_of_ble_eq_true rfl), (Nat.le_of_ble_eq_true rfl)⟩ (KM_mv G) (va_recv hK hP (ci := 0) (q0 := 0) rfl rfl) (hP.sub (ws' := [(h, mO ad (upd (upd (upd iv 5 (nI (pl + i))) 6 (nI ra)) 7 (nI re))), (ad 18, iA G 800 el)]) [0, 2] rfl) hK hl rfl rfl (Nat.le_of_ble_eq_true rfl) ⟨(Nat.le_of_ble_eq_true rfl), (Nat.le_of_ble_eq_true rfl)⟩ dX4_readsNumber_45 ?_
      refine n_eqi (qtM_el_ra_5) ?_
      refine lv_iadd (x := 10 * v) (y := nI tM_el_ra_5) hx hb dX4_readsNumber_48 ?_
      refine lv_bipush (v := 48) hx hb dX4_readsNumber_49 (by decide) ?_
      refine lv_isub (x := (10 * v) + (nI tM_el_ra_5)) (y := 48) hx hb dX4_readsNumber_51 ?_
      refine n_iast (x := ((10 * v) + (nI tM_el_ra_5)) - 48) C hK hP hD hS 1 k rfl (by omega) (by omega) dX4_readsNumber_52 (fun H locs hP hD hS => ?_)
      have hP : PP G [(h, mO ad (upd (upd (upd iv 5 (nI (pl + i))) 6 (nI ra)) 7 (nI re))), (ad 8, iA G 4 (upd (upd nu k v) k (((10 * v) + (nI tM_el_ra_5)) - 48))), (ad 18, iA G 800 el)] H := hP
      have hD : va_D A [(h, mO ad (upd (upd (upd iv 5 (nI (pl + i))) 6 (nI ra)) 7 (nI re))), (ad 8, iA G 4 (upd (upd nu k v) k (((10 * v) + (nI tM_el_ra_5)) - 48))), (ad 18, iA G 800 el)] := hD
      refine lv_aload_n hx hb dX4_readsNumber_53 rfl (lv_at hl 1 rfl) ?_
      refine lv_dup hx hb dX4_readsNumber_54 rfl ?_
      refine va_get (D := gD G) (ci := 0) (v := .int (nI (pl + i))) (C := RX4) (T := TX4) (N := 20) hx hb hts in_X4 hown hK hP 0 rfl rfl 5 (by decide) (hts _ q1078) (fun _ h9 => h9) rfl dX4_readsNumber_55 ?_
      refine lv_iconst (v := 1) hx hb dX4_readsNumber_58 (by decide) ?_
      refine n_iadd hx hb (pl + i) 1 dX4_readsNumber_59 ?_
      refine lv_topi (fun yv_6 eyv_6 => ?_)
      refine va_put (D := gD G) (ci := 0) (v := .int yv_6) (ty := .int) (C := RX4) (T := TX4) (N := 20) hx hb hts in_X4 tyX4 tyX4_ok nmX4 hown hK hP hD hS 0 rfl rfl 5 (by decide) (hts _ q1078) (fun _ h9 => h9) rfl (by decide +kernel) rfl rfl (Nat.le_of_ble_eq_true rfl) dX4_readsNumber_60 (fun H locs hP hD hS => ?_)
      have hP : PP G [(h, mO ad (upd (upd (upd iv 5 yv_6) 6 (nI ra)) 7 (nI re))), (ad 8, iA G 4 (upd (upd nu k v) k (((10 * v) + (nI tM_el_ra_5)) - 48))), (ad 18, iA G 800 el)] H := hP
      have hD : va_D A [(h, mO ad (upd (upd (upd iv 5 yv_6) 6 (nI ra)) 7 (nI re))), (ad 8, iA G 4 (upd (upd nu k v) k (((10 * v) + (nI tM_el_ra_5)) - 48))), (ad 18, iA G 800 el)] := hD
      subst eyv_6
      refine n_iinc (k := 0) (lv' := [(3, .int (nI (i + 1))), (0, .ref h), (1, .int (nI k)), (2, .int (nI d))]) hx hb i 1 dX4_readsNumber_63 hl rfl (Nat.le_of_ble_eq_true rfl) rfl (fun ls hl => ?_)
      refine lv_goto (tgt := 9) hx hb dX4_readsNumber_66 (by decide) ?_
      have e_7 : (mO ad (upd (upd (upd iv 5 (nI (pl + (i + 1)))) 6 (nI ra)) 7 (nI re)) : va_E) = mO ad (upd (upd (upd iv 5 (nI ((pl + i) + 1))) 6 (nI ra)) 7 (nI re)) := by rfl
      have e_8 : (iA G 4 (upd nu k (((10 * v) + (nI tM_el_ra_5)) - 48)) : va_E) = iA G 4 (upd (upd nu k v) k (((10 * v) + (nI tM_el_ra_5)) - 48)) := by rw [upd_same]
      exact ih_1 (i + 1) (by omega) (((10 * v) + (nI tM_el_ra_5)) - 48) _ _ (by rw [e_7, e_8]; exact hP.sub [0, 1, 2] rfl) (by rw [e_7, e_8]; exact hD.sub [0, 1, 2] (by decide) rfl) hS (by rw [hg, e9, rdN]; simp [c_3, c_4, qtM_el_ra_5, utM_el_ra_5, ttM_el_ra_5, Nat.add_assoc]) ls (lv_sub hl [0, 1, 2, 3] rfl)
    · have hrd : rdN (tM el ra re) d pl 0 = (false, pl + i, v) := by rw [hg, e9, rdN]; simp [c_3, c_4]
      refine lv_iconst (v := 0) hx hb dX4_readsNumber_28 (by decide) ?_
      exact n_zretW (v := false) (w1 := [(h, mO ad (upd (upd (upd iv 5 (nI (pl + i))) 6 (nI ra)) 7 (nI re))), (ad 8, iA G 4 (upd nu k v)), (ad 18, iA G 800 el)]) C (by rw [hrd]; exact ⟨rfl, rfl⟩) hP hD hS (by first | omega | decide) (by first | omega | decide) dX4_readsNumber_29

set_option maxHeartbeats 4000000 in
set_option maxRecDepth 100000 in
theorem metX4_readsStatement (l : Launch) (G : GG) (h : Nat) (ad : Nat → Nat) (iv : Nat → Int32) (el : Nat → Int32) (ra re pl : Nat) (nu : Nat → Int32) (ht : ra + re ≤ 800) (hpl : pl < 2 ^ 28) : MW l yX4_readsStatement cX4_readsStatement 3 (some .boolean) ({ frames := 2, cells := 0, slots := 0, locals := 45 }) [.ref h] [(h, mO ad (upd (upd (upd iv 5 (nI pl)) 6 (nI ra)) 7 (nI re))), (ad 8, iA G 4 nu), (ad 18, iA G 800 el)] G (KM G) 0 0 (fun rv w1 => rv = bI (stS (tM el ra re) pl nu).1 ∧ w1 = [(h, mO ad (upd (upd (upd iv 5 (nI ((stS (tM el ra re) pl nu).2.1))) 6 (nI ra)) 7 (nI re))), (ad 8, iA G 4 ((stS (tM el ra re) pl nu).2.2)), (ad 18, iA G 800 el)]) := by
  -- rows printed by wip/tools/gen.py
  refine mw_mk RX4 (by decide) rfl (Nat.le_of_ble_eq_true rfl) ?_
  intro p0_ e0_ s m args below meth c A C hA hP hK hD ls hl
  have hx := C.1
  have hb := C.2.1
  have hml := C.2.2.2.2.1
  have hown := C.2.2.2.2.2.1
  have hts := C.2.2.2.2.2.2
  have hS : va_S A s.heap s.heap [] := va_S.rf
  have hl : lv_has ls 3 [(0, .ref h)] := hl
  refine lv_aload_n hx hb dX4_readsStatement_0 rfl (lv_at hl 0 rfl) ?_
  refine c_V (rest := []) C (metX4_here l G h ad iv el ra re pl (by omega) (by omega)) 0 (lw_V q1152 q1154 qs25 q42 q1155) (by decide +kernel) ⟨rfl, rfl⟩ ⟨(Nat.le_of_ble_eq_true rfl), (Nat.le_of_ble_eq_true rfl)⟩ (KM_mv G) (va_recv hK hP (ci := 0) (q0 := 0) rfl rfl) (hP.sub (ws' := [(h, mO ad (upd (upd (upd iv 5 (nI pl)) 6 (nI ra)) 7 (nI re))), (ad 18, iA G 800 el)]) [0, 2] rfl) hK hl rfl rfl (Nat.le_of_ble_eq_true rfl) ⟨(Nat.le_of_ble_eq_true rfl), (Nat.le_of_ble_eq_true rfl)⟩ dX4_readsStatement_1 ?_
  refine lv_istore_n (lv' := [(1, .int (tM el ra re pl)), (0, .ref h)]) hx hb dX4_readsStatement_4 rfl hl (Nat.le_of_ble_eq_true rfl) rfl (fun ls hl => ?_)
  refine lv_aload_n hx hb dX4_readsStatement_5 rfl (lv_at hl 1 rfl) ?_
  refine lv_dup hx hb dX4_readsStatement_6 rfl ?_
  refine va_get (D := gD G) (ci := 0) (v := .int (nI pl)) (C := RX4) (T := TX4) (N := 20) hx hb hts in_X4 hown hK hP 0 rfl rfl 5 (by decide) (hts _ q1078) (fun _ h9 => h9) rfl dX4_readsStatement_7 ?_
  refine lv_iconst (v := 1) hx hb dX4_readsStatement_10 (by decide) ?_
  refine n_iadd hx hb pl 1 dX4_readsStatement_11 ?_
  refine lv_topi (fun yv_1 eyv_1 => ?_)
  refine va_put (D := gD G) (ci := 0) (v := .int yv_1) (ty := .int) (C := RX4) (T := TX4) (N := 20) hx hb hts in_X4 tyX4 tyX4_ok nmX4 hown hK hP hD hS 0 rfl rfl 5 (by decide) (hts _ q1078) (fun _ h9 => h9) rfl (by decide +kernel) rfl rfl (Nat.le_of_ble_eq_true rfl) dX4_readsStatement_12 (fun H locs hP hD hS => ?_)
  have hP : PP G [(h, mO ad (upd (upd (upd iv 5 yv_1) 6 (nI ra)) 7 (nI re))), (ad 8, iA G 4 nu), (ad 18, iA G 800 el)] H := hP
  have hD : va_D A [(h, mO ad (upd (upd (upd iv 5 yv_1) 6 (nI ra)) 7 (nI re))), (ad 8, iA G 4 nu), (ad 18, iA G 800 el)] := hD
  subst eyv_1
  refine lv_iload_n hx hb dX4_readsStatement_15 rfl (lv_at hl 0 rfl) ?_
  by_cases s_2 : tM el ra re pl = 99
  · refine n_eqi s_2 ?_
    refine lv_lookup (off := 97) (tgt := 113) (x := 99) hx hb dX4_readsStatement_16 (by decide) (by decide) (by decide) ?_
    refine lv_aload_n hx hb dX4_readsStatement_113 rfl (lv_at hl 1 rfl) ?_
    refine lv_iconst (v := 0) hx hb dX4_readsStatement_114 (by decide) ?_
    refine lv_iconst (v := 2) hx hb dX4_readsStatement_115 (by decide) ?_
    refine c_VW (wr := []) (rest := []) C (metX4_readsNumber l G h ad iv el ra re (pl + 1) nu 0 2 (by omega) (by omega) (by omega) (by omega)) 2 (lw_V q1156 q1158 qs26 q42 q1159) (by decide +kernel) ⟨rfl, rfl⟩ ⟨(Nat.le_of_ble_eq_true rfl), (Nat.le_of_ble_eq_true rfl)⟩ (KM_mv G) hK (va_recv hK hP (ci := 0) (q0 := 0) rfl rfl) hA hP hD hS [0, 1, 2] [] rfl rfl rfl rfl (by decide) hl rfl rfl (Nat.le_of_ble_eq_true rfl) ⟨(Nat.le_of_ble_eq_true rfl), (Nat.le_of_ble_eq_true rfl)⟩ dX4_readsStatement_116 (fun r_3 w1 H locs hq_4 hP hD hS => ?_)
    obtain ⟨rfl, rfl⟩ := hq_4
    have hP : PP G [(h, mO ad (upd (upd (upd iv 5 (nI ((rdN (tM el ra re) 2 (pl + 1) 0).2.1))) 6 (nI ra)) 7 (nI re))), (ad 8, iA G 4 (upd nu 0 (rdN (tM el ra re) 2 (pl + 1) 0).2.2)), (ad 18, iA G 800 el)] H := hP
    have hD : va_D A [(h, mO ad (upd (upd (upd iv 5 (nI ((rdN (tM el ra re) 2 (pl + 1) 0).2.1))) 6 (nI ra)) 7 (nI re))), (ad 8, iA G 4 (upd nu 0 (rdN (tM el ra re) 2 (pl + 1) 0).2.2)), (ad 18, iA G 800 el)] := hD
    have af_5 := rdN_le (tM el ra re) 2 (pl + 1) 0
    refine lv_istore_n (lv' := [(2, .int (bI ((rdN (tM el ra re) 2 (pl + 1) 0).1))), (1, .int (tM el ra re pl)), (0, .ref h)]) hx hb dX4_readsStatement_119 rfl hl (Nat.le_of_ble_eq_true rfl) rfl (fun ls hl => ?_)
    refine lv_goto (tgt := 189) hx hb dX4_readsStatement_120 (by decide) ?_
    refine lv_iload_n hx hb dX4_readsStatement_189 rfl (lv_at hl 0 rfl) ?_
    refine n_if_eqB (b := (rdN (tM el ra re) 2 (pl + 1) 0).1) (tgt := 202) hx hb dX4_readsStatement_190 (by decide) (fun c_6 => ?_) (fun c_6 => ?_)
    · refine lv_iconst (v := 0) hx hb dX4_readsStatement_202 (by decide) ?_
      exact n_zretW (v := false) (w1 := [(h, mO ad (upd (upd (upd iv 5 (nI ((rdN (tM el ra re) 2 (pl + 1) 0).2.1))) 6 (nI ra)) 7 (nI re))), (ad 8, iA G 4 (upd nu 0 (rdN (tM el ra re) 2 (pl + 1) 0).2.2)), (ad 18, iA G 800 el)]) C (⟨by simp [stS, stN, rn, s_2, c_6], by simp [stS, stN, rn, s_2, c_6]⟩) hP hD hS (by first | omega | decide) (by first | omega | decide) dX4_readsStatement_203
    · refine lv_aload_n hx hb dX4_readsStatement_193 rfl (lv_at hl 2 rfl) ?_
      refine c_V (rest := []) C (metX4_here l G h ad iv el ra re ((rdN (tM el ra re) 2 (pl + 1) 0).2.1) (by omega) (by omega)) 0 (lw_V q1152 q1154 qs25 q42 q1155) (by decide +kernel) ⟨rfl, rfl⟩ ⟨(Nat.le_of_ble_eq_true rfl), (Nat.le_of_ble_eq_true rfl)⟩ (KM_mv G) (va_recv hK hP (ci := 0) (q0 := 0) rfl rfl) (hP.sub (ws' := [(h, mO ad (upd (upd (upd iv 5 (nI ((rdN (tM el ra re) 2 (pl + 1) 0).2.1))) 6 (nI ra)) 7 (nI re))), (ad 18, iA G 800 el)]) [0, 2] rfl) hK hl rfl rfl (Nat.le_of_ble_eq_true rfl) ⟨(Nat.le_of_ble_eq_true rfl), (Nat.le_of_ble_eq_true rfl)⟩ dX4_readsStatement_194 ?_
      refine lv_bipush (v := 59) hx hb dX4_readsStatement_197 (by decide) ?_
      refine lv_icmp_eq (x := tM el ra re ((rdN (tM el ra re) 2 (pl + 1) 0).2.1)) (y := 59) (tgt := 204) hx hb dX4_readsStatement_199 (by decide) (fun c_7 => ?_) (fun c_7 => ?_)
      · refine lv_aload_n hx hb dX4_readsStatement_204 rfl (lv_at hl 2 rfl) ?_
        refine lv_dup hx hb dX4_readsStatement_205 rfl ?_
        refine va_get (D := gD G) (ci := 0) (v := .int (nI ((rdN (tM el ra re) 2 (pl + 1) 0).2.1))) (C := RX4) (T := TX4) (N := 20) hx hb hts in_X4 hown hK hP 0 rfl rfl 5 (by decide) (hts _ q1078) (fun _ h9 => h9) rfl dX4_readsStatement_206 ?_
        refine lv_iconst (v := 1) hx hb dX4_readsStatement_209 (by decide) ?_
        refine n_iadd hx hb ((rdN (tM el ra re) 2 (pl + 1) 0).2.1) 1 dX4_readsStatement_210 ?_
        refine lv_topi (fun yv_8 eyv_8 => ?_)
        refine va_put (D := gD G) (ci := 0) (v := .int yv_8) (ty := .int) (C := RX4) (T := TX4) (N := 20) hx hb hts in_X4 tyX4 tyX4_ok nmX4 hown hK hP hD hS 0 rfl rfl 5 (by decide) (hts _ q1078) (fun _ h9 => h9) rfl (by decide +kernel) rfl rfl (Nat.le_of_ble_eq_true rfl) dX4_readsStatement_211 (fun H locs hP hD hS => ?_)
        have hP : PP G [(h, mO ad (upd (upd (upd iv 5 yv_8) 6 (nI ra)) 7 (nI re))), (ad 8, iA G 4 (upd nu 0 (rdN (tM el ra re) 2 (pl + 1) 0).2.2)), (ad 18, iA G 800 el)] H := hP
        have hD : va_D A [(h, mO ad (upd (upd (upd iv 5 yv_8) 6 (nI ra)) 7 (nI re))), (ad 8, iA G 4 (upd nu 0 (rdN (tM el ra re) 2 (pl + 1) 0).2.2)), (ad 18, iA G 800 el)] := hD
        subst eyv_8
        refine lv_iconst (v := 1) hx hb dX4_readsStatement_214 (by decide) ?_
        exact n_zretW (v := true) (w1 := [(h, mO ad (upd (upd (upd iv 5 (nI (((rdN (tM el ra re) 2 (pl + 1) 0).2.1) + 1))) 6 (nI ra)) 7 (nI re))), (ad 8, iA G 4 (upd nu 0 (rdN (tM el ra re) 2 (pl + 1) 0).2.2)), (ad 18, iA G 800 el)]) C (⟨by simp [stS, stN, rn, s_2, c_6, c_7], by simp [stS, stN, rn, s_2, c_6, c_7]⟩) hP hD hS (by first | omega | decide) (by first | omega | decide) dX4_readsStatement_215
      · refine lv_iconst (v := 0) hx hb dX4_readsStatement_202 (by decide) ?_
        exact n_zretW (v := false) (w1 := [(h, mO ad (upd (upd (upd iv 5 (nI ((rdN (tM el ra re) 2 (pl + 1) 0).2.1))) 6 (nI ra)) 7 (nI re))), (ad 8, iA G 4 (upd nu 0 (rdN (tM el ra re) 2 (pl + 1) 0).2.2)), (ad 18, iA G 800 el)]) C (⟨by simp [stS, stN, rn, s_2, c_6, c_7], by simp [stS, stN, rn, s_2, c_6, c_7]⟩) hP hD hS (by first | omega | decide) (by first | omega | decide) dX4_readsStatement_203
  · skip
    by_cases s_9 : tM el ra re pl = 104
    · refine n_eqi s_9 ?_
      refine lv_lookup (off := 134) (tgt := 150) (x := 104) hx hb dX4_readsStatement_16 (by decide) (by decide) (by decide) ?_
      refine lv_aload_n hx hb dX4_readsStatement_150 rfl (lv_at hl 1 rfl) ?_
      refine lv_iconst (v := 0) hx hb dX4_readsStatement_151 (by decide) ?_
      refine lv_iconst (v := 1) hx hb dX4_readsStatement_152 (by decide) ?_
      refine c_VW (wr := []) (rest := []) C (metX4_readsNumber l G h ad iv el ra re (pl + 1) nu 0 1 (by omega) (by omega) (by omega) (by omega)) 2 (lw_V q1156 q1158 qs26 q42 q1159) (by decide +kernel) ⟨rfl, rfl⟩ ⟨(Nat.le_of_ble_eq_true rfl), (Nat.le_of_ble_eq_true rfl)⟩ (KM_mv G) hK (va_recv hK hP (ci := 0) (q0 := 0) rfl rfl) hA hP hD hS [0, 1, 2] [] rfl rfl rfl rfl (by decide) hl rfl rfl (Nat.le_of_ble_eq_true rfl) ⟨(Nat.le_of_ble_eq_true rfl), (Nat.le_of_ble_eq_true rfl)⟩ dX4_readsStatement_153 (fun r_10 w1 H locs hq_11 hP hD hS => ?_)
      obtain ⟨rfl, rfl⟩ := hq_11
      have hP : PP G [(h, mO ad (upd (upd (upd iv 5 (nI ((rdN (tM el ra re) 1 (pl + 1) 0).2.1))) 6 (nI ra)) 7 (nI re))), (ad 8, iA G 4 (upd nu 0 (rdN (tM el ra re) 1 (pl + 1) 0).2.2)), (ad 18, iA G 800 el)] H := hP
      have hD : va_D A [(h, mO ad (upd (upd (upd iv 5 (nI ((rdN (tM el ra re) 1 (pl + 1) 0).2.1))) 6 (nI ra)) 7 (nI re))), (ad 8, iA G 4 (upd nu 0 (rdN (tM el ra re) 1 (pl + 1) 0).2.2)), (ad 18, iA G 800 el)] := hD
      have af_12 := rdN_le (tM el ra re) 1 (pl + 1) 0
      refine n_if_eqB (b := (rdN (tM el ra re) 1 (pl + 1) 0).1) (tgt := 172) hx hb dX4_readsStatement_156 (by decide) (fun c_13 => ?_) (fun c_13 => ?_)
      · refine lv_iconst (v := 0) hx hb dX4_readsStatement_172 (by decide) ?_
        refine lv_istore_n (lv' := [(2, .int 0), (1, .int (tM el ra re pl)), (0, .ref h)]) hx hb dX4_readsStatement_173 rfl hl (Nat.le_of_ble_eq_true rfl) rfl (fun ls hl => ?_)
        refine lv_goto (tgt := 189) hx hb dX4_readsStatement_174 (by decide) ?_
        refine lv_iload_n hx hb dX4_readsStatement_189 rfl (lv_at hl 0 rfl) ?_
        refine lv_if_eq (x := 0) (tgt := 202) hx hb dX4_readsStatement_190 (by decide) (fun c_14 => ?_) (fun c_14 => absurd c_14 (by decide))
        refine lv_iconst (v := 0) hx hb dX4_readsStatement_202 (by decide) ?_
        exact n_zretW (v := false) (w1 := [(h, mO ad (upd (upd (upd iv 5 (nI ((rdN (tM el ra re) 1 (pl + 1) 0).2.1))) 6 (nI ra)) 7 (nI re))), (ad 8, iA G 4 (upd nu 0 (rdN (tM el ra re) 1 (pl + 1) 0).2.2)), (ad 18, iA G 800 el)]) C (⟨by simp [stS, stN, rn, s_2, s_9, c_13, c_14], by simp [stS, stN, rn, s_2, s_9, c_13, c_14]⟩) hP hD hS (by first | omega | decide) (by first | omega | decide) dX4_readsStatement_203
      · refine lv_aload_n hx hb dX4_readsStatement_159 rfl (lv_at hl 1 rfl) ?_
        refine lv_iconst (v := 1) hx hb dX4_readsStatement_160 (by decide) ?_
        refine lv_iconst (v := 2) hx hb dX4_readsStatement_161 (by decide) ?_
        refine c_VW (wr := []) (rest := []) C (metX4_readsNumber l G h ad iv el ra re ((rdN (tM el ra re) 1 (pl + 1) 0).2.1) (upd nu 0 (rdN (tM el ra re) 1 (pl + 1) 0).2.2) 1 2 (by omega) (by omega) (by omega) (by omega)) 2 (lw_V q1156 q1158 qs26 q42 q1159) (by decide +kernel) ⟨rfl, rfl⟩ ⟨(Nat.le_of_ble_eq_true rfl), (Nat.le_of_ble_eq_true rfl)⟩ (KM_mv G) hK (va_recv hK hP (ci := 0) (q0 := 0) rfl rfl) hA hP hD hS [0, 1, 2] [] rfl rfl rfl rfl (by decide) hl rfl rfl (Nat.le_of_ble_eq_true rfl) ⟨(Nat.le_of_ble_eq_true rfl), (Nat.le_of_ble_eq_true rfl)⟩ dX4_readsStatement_162 (fun r_15 w1 H locs hq_16 hP hD hS => ?_)
        obtain ⟨rfl, rfl⟩ := hq_16
        have hP : PP G [(h, mO ad (upd (upd (upd iv 5 (nI ((rdN (tM el ra re) 2 ((rdN (tM el ra re) 1 (pl + 1) 0).2.1) 0).2.1))) 6 (nI ra)) 7 (nI re))), (ad 8, iA G 4 (upd (upd nu 0 (rdN (tM el ra re) 1 (pl + 1) 0).2.2) 1 (rdN (tM el ra re) 2 ((rdN (tM el ra re) 1 (pl + 1) 0).2.1) 0).2.2)), (ad 18, iA G 800 el)] H := hP
        have hD : va_D A [(h, mO ad (upd (upd (upd iv 5 (nI ((rdN (tM el ra re) 2 ((rdN (tM el ra re) 1 (pl + 1) 0).2.1) 0).2.1))) 6 (nI ra)) 7 (nI re))), (ad 8, iA G 4 (upd (upd nu 0 (rdN (tM el ra re) 1 (pl + 1) 0).2.2) 1 (rdN (tM el ra re) 2 ((rdN (tM el ra re) 1 (pl + 1) 0).2.1) 0).2.2)), (ad 18, iA G 800 el)] := hD
        have af_17 := rdN_le (tM el ra re) 2 ((rdN (tM el ra re) 1 (pl + 1) 0).2.1) 0
        refine n_if_eqB (b := (rdN (tM el ra re) 2 ((rdN (tM el ra re) 1 (pl + 1) 0).2.1) 0).1) (tgt := 172) hx hb dX4_readsStatement_165 (by decide) (fun c_18 => ?_) (fun c_18 => ?_)
        · refine lv_iconst (v := 0) hx hb dX4_readsStatement_172 (by decide) ?_
          refine lv_istore_n (lv' := [(2, .int 0), (1, .int (tM el ra re pl)), (0, .ref h)]) hx hb dX4_readsStatement_173 rfl hl (Nat.le_of_ble_eq_true rfl) rfl (fun ls hl => ?_)
          refine lv_goto (tgt := 189) hx hb dX4_readsStatement_174 (by decide) ?_
          refine lv_iload_n hx hb dX4_readsStatement_189 rfl (lv_at hl 0 rfl) ?_
          refine lv_if_eq (x := 0) (tgt := 202) hx hb dX4_readsStatement_190 (by decide) (fun c_19 => ?_) (fun c_19 => absurd c_19 (by decide))
          refine lv_iconst (v := 0) hx hb dX4_readsStatement_202 (by decide) ?_
          exact n_zretW (v := false) (w1 := [(h, mO ad (upd (upd (upd iv 5 (nI ((rdN (tM el ra re) 2 ((rdN (tM el ra re) 1 (pl + 1) 0).2.1) 0).2.1))) 6 (nI ra)) 7 (nI re))), (ad 8, iA G 4 (upd (upd nu 0 (rdN (tM el ra re) 1 (pl + 1) 0).2.2) 1 (rdN (tM el ra re) 2 ((rdN (tM el ra re) 1 (pl + 1) 0).2.1) 0).2.2)), (ad 18, iA G 800 el)]) C (⟨by simp [stS, stN, rn, s_2, s_9, c_13, c_18, c_19], by simp [stS, stN, rn, s_2, s_9, c_13, c_18, c_19]⟩) hP hD hS (by first | omega | decide) (by first | omega | decide) dX4_readsStatement_203
        · refine lv_iconst (v := 1) hx hb dX4_readsStatement_168 (by decide) ?_
          refine lv_goto (tgt := 173) hx hb dX4_readsStatement_169 (by decide) ?_
          refine lv_istore_n (lv' := [(2, .int 1), (1, .int (tM el ra re pl)), (0, .ref h)]) hx hb dX4_readsStatement_173 rfl hl (Nat.le_of_ble_eq_true rfl) rfl (fun ls hl => ?_)
          refine lv_goto (tgt := 189) hx hb dX4_readsStatement_174 (by decide) ?_
          refine lv_iload_n hx hb dX4_readsStatement_189 rfl (lv_at hl 0 rfl) ?_
          refine lv_if_eq (x := 1) (tgt := 202) hx hb dX4_readsStatement_190 (by decide) (fun c_20 => absurd c_20 (by decide)) (fun c_20 => ?_)
          refine lv_aload_n hx hb dX4_readsStatement_193 rfl (lv_at hl 2 rfl) ?_
          refine c_V (rest := []) C (metX4_here l G h ad iv el ra re ((rdN (tM el ra re) 2 ((rdN (tM el ra re) 1 (pl + 1) 0).2.1) 0).2.1) (by omega) (by omega)) 0 (lw_V q1152 q1154 qs25 q42 q1155) (by decide +kernel) ⟨rfl, rfl⟩ ⟨(Nat.le_of_ble_eq_true rfl), (Nat.le_of_ble_eq_true rfl)⟩ (KM_mv G) (va_recv hK hP (ci := 0) (q0 := 0) rfl rfl) (hP.sub (ws' := [(h, mO ad (upd (upd (upd iv 5 (nI ((rdN (tM el ra re) 2 ((rdN (tM el ra re) 1 (pl + 1) 0).2.1) 0).2.1))) 6 (nI ra)) 7 (nI re))), (ad 18, iA G 800 el)]) [0, 2] rfl) hK hl rfl rfl (Nat.le_of_ble_eq_true rfl) ⟨(Nat.le_of_ble_eq_true rfl), (Nat.le_of_ble_eq_true rfl)⟩ dX4_readsStatement_194 ?_
          refine lv_bipush (v := 59) hx hb dX4_readsStatement_197 (by decide) ?_
          refine lv_icmp_eq (x := tM el ra re ((rdN (tM el ra re) 2 ((rdN (tM el ra re) 1 (pl + 1) 0).2.1) 0).2.1)) (y := 59) (tgt := 204) hx hb dX4_readsStatement_199 (by decide) (fun c_21 => ?_) (fun c_21 => ?_)
          · refine lv_aload_n hx hb dX4_readsStatement_204 rfl (lv_at hl 2 rfl) ?_
            refine lv_dup hx hb dX4_readsStatement_205 rfl ?_
            refine va_get (D := gD G) (ci := 0) (v := .int (nI ((rdN (tM el ra re) 2 ((rdN (tM el ra re) 1 (pl + 1) 0).2.1) 0).2.1))) (C := RX4) (T := TX4) (N := 20) hx hb hts in_X4 hown hK hP 0 rfl rfl 5 (by decide) (hts _ q1078) (fun _ h9 => h9) rfl dX4_readsStatement_206 ?_
            refine lv_iconst (v := 1) hx hb dX4_readsStatement_209 (by decide) ?_
            refine n_iadd hx hb ((rdN (tM el ra re) 2 ((rdN (tM el ra re) 1 (pl + 1) 0).2.1) 0).2.1) 1 dX4_readsStatement_210 ?_
            refine lv_topi (fun yv_22 eyv_22 => ?_)
            refine va_put (D := gD G) (ci := 0) (v := .int yv_22) (ty := .int) (C := RX4) (T := TX4) (N := 20) hx hb hts in_X4 tyX4 tyX4_ok nmX4 hown hK hP hD hS 0 rfl rfl 5 (by decide) (hts _ q1078) (fun _ h9 => h9) rfl (by decide +kernel) rfl rfl (Nat.le_of_ble_eq_true rfl) dX4_readsStatement_211 (fun H locs hP hD hS => ?_)
            have hP : PP G [(h, mO ad (upd (upd (upd iv 5 yv_22) 6 (nI ra)) 7 (nI re))), (ad 8, iA G 4 (upd (upd nu 0 (rdN (tM el ra re) 1 (pl + 1) 0).2.2) 1 (rdN (tM el ra re) 2 ((rdN (tM el ra re) 1 (pl + 1) 0).2.1) 0).2.2)), (ad 18, iA G 800 el)] H := hP
            have hD : va_D A [(h, mO ad (upd (upd (upd iv 5 yv_22) 6 (nI ra)) 7 (nI re))), (ad 8, iA G 4 (upd (upd nu 0 (rdN (tM el ra re) 1 (pl + 1) 0).2.2) 1 (rdN (tM el ra re) 2 ((rdN (tM el ra re) 1 (pl + 1) 0).2.1) 0).2.2)), (ad 18, iA G 800 el)] := hD
            subst eyv_22
            refine lv_iconst (v := 1) hx hb dX4_readsStatement_214 (by decide) ?_
            exact n_zretW (v := true) (w1 := [(h, mO ad (upd (upd (upd iv 5 (nI (((rdN (tM el ra re) 2 ((rdN (tM el ra re) 1 (pl + 1) 0).2.1) 0).2.1) + 1))) 6 (nI ra)) 7 (nI re))), (ad 8, iA G 4 (upd (upd nu 0 (rdN (tM el ra re) 1 (pl + 1) 0).2.2) 1 (rdN (tM el ra re) 2 ((rdN (tM el ra re) 1 (pl + 1) 0).2.1) 0).2.2)), (ad 18, iA G 800 el)]) C (⟨by simp [stS, stN, rn, s_2, s_9, c_13, c_18, c_20, c_21], by simp [stS, stN, rn, s_2, s_9, c_13, c_18, c_20, c_21]⟩) hP hD hS (by first | omega | decide) (by first | omega | decide) dX4_readsStatement_215
          · refine lv_iconst (v := 0) hx hb dX4_readsStatement_202 (by decide) ?_
            exact n_zretW (v := false) (w1 := [(h, mO ad (upd (upd (upd iv 5 (nI ((rdN (tM el ra re) 2 ((rdN (tM el ra re) 1 (pl + 1) 0).2.1) 0).2.1))) 6 (nI ra)) 7 (nI re))), (ad 8, iA G 4 (upd (upd nu 0 (rdN (tM el ra re) 1 (pl + 1) 0).2.2) 1 (rdN (tM el ra re) 2 ((rdN (tM el ra re) 1 (pl + 1) 0).2.1) 0).2.2)), (ad 18, iA G 800 el)]) C (⟨by simp [stS, stN, rn, s_2, s_9, c_13, c_18, c_20, c_21], by simp [stS, stN, rn, s_2, s_9, c_13, c_18, c_20, c_21]⟩) hP hD hS (by first | omega | decide) (by first | omega | decide) dX4_readsStatement_203
    · skip
      by_cases s_23 : tM el ra re pl = 108
      · refine n_eqi s_23 ?_
        refine lv_lookup (off := 134) (tgt := 150) (x := 108) hx hb dX4_readsStatement_16 (by decide) (by decide) (by decide) ?_
        refine lv_aload_n hx hb dX4_readsStatement_150 rfl (lv_at hl 1 rfl) ?_
        refine lv_iconst (v := 0) hx hb dX4_readsStatement_151 (by decide) ?_
        refine lv_iconst (v := 1) hx hb dX4_readsStatement_152 (by decide) ?_
        refine c_VW (wr := []) (rest := []) C (metX4_readsNumber l G h ad iv el ra re (pl + 1) nu 0 1 (by omega) (by omega) (by omega) (by omega)) 2 (lw_V q1156 q1158 qs26 q42 q1159) (by decide +kernel) ⟨rfl, rfl⟩ ⟨(Nat.le_of_ble_eq_true rfl), (Nat.le_of_ble_eq_true rfl)⟩ (KM_mv G) hK (va_recv hK hP (ci := 0) (q0 := 0) rfl rfl) hA hP hD hS [0, 1, 2] [] rfl rfl rfl rfl (by decide) hl rfl rfl (Nat.le_of_ble_eq_true rfl) ⟨(Nat.le_of_ble_eq_true rfl), (Nat.le_of_ble_eq_true rfl)⟩ dX4_readsStatement_153 (fun r_24 w1 H locs hq_25 hP hD hS => ?_)
        obtain ⟨rfl, rfl⟩ := hq_25
        have hP : PP G [(h, mO ad (upd (upd (upd iv 5 (nI ((rdN (tM el ra re) 1 (pl + 1) 0).2.1))) 6 (nI ra)) 7 (nI re))), (ad 8, iA G 4 (upd nu 0 (rdN (tM el ra re) 1 (pl + 1) 0).2.2)), (ad 18, iA G 800 el)] H := hP
        have hD : va_D A [(h, mO ad (upd (upd (upd iv 5 (nI ((rdN (tM el ra re) 1 (pl + 1) 0).2.1))) 6 (nI ra)) 7 (nI re))), (ad 8, iA G 4 (upd nu 0 (rdN (tM el ra re) 1 (pl + 1) 0).2.2)), (ad 18, iA G 800 el)] := hD
        have af_26 := rdN_le (tM el ra re) 1 (pl + 1) 0
        refine n_if_eqB (b := (rdN (tM el ra re) 1 (pl + 1) 0).1) (tgt := 172) hx hb dX4_readsStatement_156 (by decide) (fun c_27 => ?_) (fun c_27 => ?_)
        · refine lv_iconst (v := 0) hx hb dX4_readsStatement_172 (by decide) ?_
          refine lv_istore_n (lv' := [(2, .int 0), (1, .int (tM el ra re pl)), (0, .ref h)]) hx hb dX4_readsStatement_173 rfl hl (Nat.le_of_ble_eq_true rfl) rfl (fun ls hl => ?_)
          refine lv_goto (tgt := 189) hx hb dX4_readsStatement_174 (by decide) ?_
          refine lv_iload_n hx hb dX4_readsStatement_189 rfl (lv_at hl 0 rfl) ?_
          refine lv_if_eq (x := 0) (tgt := 202) hx hb dX4_readsStatement_190 (by decide) (fun c_28 => ?_) (fun c_28 => absurd c_28 (by decide))
          refine lv_iconst (v := 0) hx hb dX4_readsStatement_202 (by decide) ?_
          exact n_zretW (v := false) (w1 := [(h, mO ad (upd (upd (upd iv 5 (nI ((rdN (tM el ra re) 1 (pl + 1) 0).2.1))) 6 (nI ra)) 7 (nI re))), (ad 8, iA G 4 (upd nu 0 (rdN (tM el ra re) 1 (pl + 1) 0).2.2)), (ad 18, iA G 800 el)]) C (⟨by simp [stS, stN, rn, s_2, s_9, s_23, c_27, c_28], by simp [stS, stN, rn, s_2, s_9, s_23, c_27, c_28]⟩) hP hD hS (by first | omega | decide) (by first | omega | decide) dX4_readsStatement_203
        · refine lv_aload_n hx hb dX4_readsStatement_159 rfl (lv_at hl 1 rfl) ?_
          refine lv_iconst (v := 1) hx hb dX4_readsStatement_160 (by decide) ?_
          refine lv_iconst (v := 2) hx hb dX4_readsStatement_161 (by decide) ?_
          refine c_VW (wr := []) (rest := []) C (metX4_readsNumber l G h ad iv el ra re ((rdN (tM el ra re) 1 (pl + 1) 0).2.1) (upd nu 0 (rdN (tM el ra re) 1 (pl + 1) 0).2.2) 1 2 (by omega) (by omega) (by omega) (by omega)) 2 (lw_V q1156 q1158 qs26 q42 q1159) (by decide +kernel) ⟨rfl, rfl⟩ ⟨(Nat.le_of_ble_eq_true rfl), (Nat.le_of_ble_eq_true rfl)⟩ (KM_mv G) hK (va_recv hK hP (ci := 0) (q0 := 0) rfl rfl) hA hP hD hS [0, 1, 2] [] rfl rfl rfl rfl (by decide) hl rfl rfl (Nat.le_of_ble_eq_true rfl) ⟨(Nat.le_of_ble_eq_true rfl), (Nat.le_of_ble_eq_true rfl)⟩ dX4_readsStatement_162 (fun r_29 w1 H locs hq_30 hP hD hS => ?_)
          obtain ⟨rfl, rfl⟩ := hq_30
          have hP : PP G [(h, mO ad (upd (upd (upd iv 5 (nI ((rdN (tM el ra re) 2 ((rdN (tM el ra re) 1 (pl + 1) 0).2.1) 0).2.1))) 6 (nI ra)) 7 (nI re))), (ad 8, iA G 4 (upd (upd nu 0 (rdN (tM el ra re) 1 (pl + 1) 0).2.2) 1 (rdN (tM el ra re) 2 ((rdN (tM el ra re) 1 (pl + 1) 0).2.1) 0).2.2)), (ad 18, iA G 800 el)] H := hP
          have hD : va_D A [(h, mO ad (upd (upd (upd iv 5 (nI ((rdN (tM el ra re) 2 ((rdN (tM el ra re) 1 (pl + 1) 0).2.1) 0).2.1))) 6 (nI ra)) 7 (nI re))), (ad 8, iA G 4 (upd (upd nu 0 (rdN (tM el ra re) 1 (pl + 1) 0).2.2) 1 (rdN (tM el ra re) 2 ((rdN (tM el ra re) 1 (pl + 1) 0).2.1) 0).2.2)), (ad 18, iA G 800 el)] := hD
          have af_31 := rdN_le (tM el ra re) 2 ((rdN (tM el ra re) 1 (pl + 1) 0).2.1) 0
          refine n_if_eqB (b := (rdN (tM el ra re) 2 ((rdN (tM el ra re) 1 (pl + 1) 0).2.1) 0).1) (tgt := 172) hx hb dX4_readsStatement_165 (by decide) (fun c_32 => ?_) (fun c_32 => ?_)
          · refine lv_iconst (v := 0) hx hb dX4_readsStatement_172 (by decide) ?_
            refine lv_istore_n (lv' := [(2, .int 0), (1, .int (tM el ra re pl)), (0, .ref h)]) hx hb dX4_readsStatement_173 rfl hl (Nat.le_of_ble_eq_true rfl) rfl (fun ls hl => ?_)
            refine lv_goto (tgt := 189) hx hb dX4_readsStatement_174 (by decide) ?_
            refine lv_iload_n hx hb dX4_readsStatement_189 rfl (lv_at hl 0 rfl) ?_
            refine lv_if_eq (x := 0) (tgt := 202) hx hb dX4_readsStatement_190 (by decide) (fun c_33 => ?_) (fun c_33 => absurd c_33 (by decide))
            refine lv_iconst (v := 0) hx hb dX4_readsStatement_202 (by decide) ?_
            exact n_zretW (v := false) (w1 := [(h, mO ad (upd (upd (upd iv 5 (nI ((rdN (tM el ra re) 2 ((rdN (tM el ra re) 1 (pl + 1) 0).2.1) 0).2.1))) 6 (nI ra)) 7 (nI re))), (ad 8, iA G 4 (upd (upd nu 0 (rdN (tM el ra re) 1 (pl + 1) 0).2.2) 1 (rdN (tM el ra re) 2 ((rdN (tM el ra re) 1 (pl + 1) 0).2.1) 0).2.2)), (ad 18, iA G 800 el)]) C (⟨by simp [stS, stN, rn, s_2, s_9, s_23, c_27, c_32, c_33], by simp [stS, stN, rn, s_2, s_9, s_23, c_27, c_32, c_33]⟩) hP hD hS (by first | omega | decide) (by first | omega | decide) dX4_readsStatement_203
          · refine lv_iconst (v := 1) hx hb dX4_readsStatement_168 (by decide) ?_
            refine lv_goto (tgt := 173) hx hb dX4_readsStatement_169 (by decide) ?_
            refine lv_istore_n (lv' := [(2, .int 1), (1, .int (tM el ra re pl)), (0, .ref h)]) hx hb dX4_readsStatement_173 rfl hl (Nat.le_of_ble_eq_true rfl) rfl (fun ls hl => ?_)
            refine lv_goto (tgt := 189) hx hb dX4_readsStatement_174 (by decide) ?_
            refine lv_iload_n hx hb dX4_readsStatement_189 rfl (lv_at hl 0 rfl) ?_
            refine lv_if_eq (x := 1) (tgt := 202) hx hb dX4_readsStatement_190 (by decide) (fun c_34 => absurd c_34 (by decide)) (fun c_34 => ?_)
            refine lv_aload_n hx hb dX4_readsStatement_193 rfl (lv_at hl 2 rfl) ?_
            refine c_V (rest := []) C (metX4_here l G h ad iv el ra re ((rdN (tM el ra re) 2 ((rdN (tM el ra re) 1 (pl + 1) 0).2.1) 0).2.1) (by omega) (by omega)) 0 (lw_V q1152 q1154 qs25 q42 q1155) (by decide +kernel) ⟨rfl, rfl⟩ ⟨(Nat.le_of_ble_eq_true rfl), (Nat.le_of_ble_eq_true rfl)⟩ (KM_mv G) (va_recv hK hP (ci := 0) (q0 := 0) rfl rfl) (hP.sub (ws' := [(h, mO ad (upd (upd (upd iv 5 (nI ((rdN (tM el ra re) 2 ((rdN (tM el ra re) 1 (pl + 1) 0).2.1) 0).2.1))) 6 (nI ra)) 7 (nI re))), (ad 18, iA G 800 el)]) [0, 2] rfl) hK hl rfl rfl (Nat.le_of_ble_eq_true rfl) ⟨(Nat.le_of_ble_eq_true rfl), (Nat.le_of_ble_eq_true rfl)⟩ dX4_readsStatement_194 ?_
            refine lv_bipush (v := 59) hx hb dX4_readsStatement_197 (by decide) ?_
            refine lv_icmp_eq (x := tM el ra re ((rdN (tM el ra re) 2 ((rdN (tM el ra re) 1 (pl + 1) 0).2.1) 0).2.1)) (y := 59) (tgt := 204) hx hb dX4_readsStatement_199 (by decide) (fun c_35 => ?_) (fun c_35 => ?_)
            · refine lv_aload_n hx hb dX4_readsStatement_204 rfl (lv_at hl 2 rfl) ?_
              refine lv_dup hx hb dX4_readsStatement_205 rfl ?_
              refine va_get (D := gD G) (ci := 0) (v := .int (nI ((rdN (tM el ra re) 2 ((rdN (tM el ra re) 1 (pl + 1) 0).2.1) 0).2.1))) (C := RX4) (T := TX4) (N := 20) hx hb hts in_X4 hown hK hP 0 rfl rfl 5 (by decide) (hts _ q1078) (fun _ h9 => h9) rfl dX4_readsStatement_206 ?_
              refine lv_iconst (v := 1) hx hb dX4_readsStatement_209 (by decide) ?_
              refine n_iadd hx hb ((rdN (tM el ra re) 2 ((rdN (tM el ra re) 1 (pl + 1) 0).2.1) 0).2.1) 1 dX4_readsStatement_210 ?_
              refine lv_topi (fun yv_36 eyv_36 => ?_)
              refine va_put (D := gD G) (ci := 0) (v := .int yv_36) (ty := .int) (C := RX4) (T := TX4) (N := 20) hx hb hts in_X4 tyX4 tyX4_ok nmX4 hown hK hP hD hS 0 rfl rfl 5 (by decide) (hts _ q1078) (fun _ h9 => h9) rfl (by decide +kernel) rfl rfl (Nat.le_of_ble_eq_true rfl) dX4_readsStatement_211 (fun H locs hP hD hS => ?_)
              have hP : PP G [(h, mO ad (upd (upd (upd iv 5 yv_36) 6 (nI ra)) 7 (nI re))), (ad 8, iA G 4 (upd (upd nu 0 (rdN (tM el ra re) 1 (pl + 1) 0).2.2) 1 (rdN (tM el ra re) 2 ((rdN (tM el ra re) 1 (pl + 1) 0).2.1) 0).2.2)), (ad 18, iA G 800 el)] H := hP
              have hD : va_D A [(h, mO ad (upd (upd (upd iv 5 yv_36) 6 (nI ra)) 7 (nI re))), (ad 8, iA G 4 (upd (upd nu 0 (rdN (tM el ra re) 1 (pl + 1) 0).2.2) 1 (rdN (tM el ra re) 2 ((rdN (tM el ra re) 1 (pl + 1) 0).2.1) 0).2.2)), (ad 18, iA G 800 el)] := hD
              subst eyv_36
              refine lv_iconst (v := 1) hx hb dX4_readsStatement_214 (by decide) ?_
              exact n_zretW (v := true) (w1 := [(h, mO ad (upd (upd (upd iv 5 (nI (((rdN (tM el ra re) 2 ((rdN (tM el ra re) 1 (pl + 1) 0).2.1) 0).2.1) + 1))) 6 (nI ra)) 7 (nI re))), (ad 8, iA G 4 (upd (upd nu 0 (rdN (tM el ra re) 1 (pl + 1) 0).2.2) 1 (rdN (tM el ra re) 2 ((rdN (tM el ra re) 1 (pl + 1) 0).2.1) 0).2.2)), (ad 18, iA G 800 el)]) C (⟨by simp [stS, stN, rn, s_2, s_9, s_23, c_27, c_32, c_34, c_35], by simp [stS, stN, rn, s_2, s_9, s_23, c_27, c_32, c_34, c_35]⟩) hP hD hS (by first | omega | decide) (by first | omega | decide) dX4_readsStatement_215
            · refine lv_iconst (v := 0) hx hb dX4_readsStatement_202 (by decide) ?_
              exact n_zretW (v := false) (w1 := [(h, mO ad (upd (upd (upd iv 5 (nI ((rdN (tM el ra re) 2 ((rdN (tM el ra re) 1 (pl + 1) 0).2.1) 0).2.1))) 6 (nI ra)) 7 (nI re))), (ad 8, iA G 4 (upd (upd nu 0 (rdN (tM el ra re) 1 (pl + 1) 0).2.2) 1 (rdN (tM el ra re) 2 ((rdN (tM el ra re) 1 (pl + 1) 0).2.1) 0).2.2)), (ad 18, iA G 800 el)]) C (⟨by simp [stS, stN, rn, s_2, s_9, s_23, c_27, c_32, c_34, c_35], by simp [stS, stN, rn, s_2, s_9, s_23, c_27, c_32, c_34, c_35]⟩) hP hD hS (by first | omega | decide) (by first | omega | decide) dX4_readsStatement_203
      · skip
        by_cases s_37 : tM el ra re pl = 112
        · refine n_eqi s_37 ?_
          refine lv_lookup (off := 52) (tgt := 68) (x := 112) hx hb dX4_readsStatement_16 (by decide) (by decide) (by decide) ?_
          refine lv_aload_n hx hb dX4_readsStatement_68 rfl (lv_at hl 1 rfl) ?_
          refine lv_iconst (v := 0) hx hb dX4_readsStatement_69 (by decide) ?_
          refine lv_iconst (v := 1) hx hb dX4_readsStatement_70 (by decide) ?_
          refine c_VW (wr := []) (rest := []) C (metX4_readsNumber l G h ad iv el ra re (pl + 1) nu 0 1 (by omega) (by omega) (by omega) (by omega)) 2 (lw_V q1156 q1158 qs26 q42 q1159) (by decide +kernel) ⟨rfl, rfl⟩ ⟨(Nat.le_of_ble_eq_true rfl), (Nat.le_of_ble_eq_true rfl)⟩ (KM_mv G) hK (va_recv hK hP (ci := 0) (q0 := 0) rfl rfl) hA hP hD hS [0, 1, 2] [] rfl rfl rfl rfl (by decide) hl rfl rfl (Nat.le_of_ble_eq_true rfl) ⟨(Nat.le_of_ble_eq_true rfl), (Nat.le_of_ble_eq_true rfl)⟩ dX4_readsStatement_71 (fun r_38 w1 H locs hq_39 hP hD hS => ?_)
          obtain ⟨rfl, rfl⟩ := hq_39
          have hP : PP G [(h, mO ad (upd (upd (upd iv 5 (nI ((rdN (tM el ra re) 1 (pl + 1) 0).2.1))) 6 (nI ra)) 7 (nI re))), (ad 8, iA G 4 (upd nu 0 (rdN (tM el ra re) 1 (pl + 1) 0).2.2)), (ad 18, iA G 800 el)] H := hP
          have hD : va_D A [(h, mO ad (upd (upd (upd iv 5 (nI ((rdN (tM el ra re) 1 (pl + 1) 0).2.1))) 6 (nI ra)) 7 (nI re))), (ad 8, iA G 4 (upd nu 0 (rdN (tM el ra re) 1 (pl + 1) 0).2.2)), (ad 18, iA G 800 el)] := hD
          have af_40 := rdN_le (tM el ra re) 1 (pl + 1) 0
          refine n_if_eqB (b := (rdN (tM el ra re) 1 (pl + 1) 0).1) (tgt := 108) hx hb dX4_readsStatement_74 (by decide) (fun c_41 => ?_) (fun c_41 => ?_)
          · refine lv_iconst (v := 0) hx hb dX4_readsStatement_108 (by decide) ?_
            refine lv_istore_n (lv' := [(2, .int 0), (1, .int (tM el ra re pl)), (0, .ref h)]) hx hb dX4_readsStatement_109 rfl hl (Nat.le_of_ble_eq_true rfl) rfl (fun ls hl => ?_)
            refine lv_goto (tgt := 189) hx hb dX4_readsStatement_110 (by decide) ?_
            refine lv_iload_n hx hb dX4_readsStatement_189 rfl (lv_at hl 0 rfl) ?_
            refine lv_if_eq (x := 0) (tgt := 202) hx hb dX4_readsStatement_190 (by decide) (fun c_42 => ?_) (fun c_42 => absurd c_42 (by decide))
            refine lv_iconst (v := 0) hx hb dX4_readsStatement_202 (by decide) ?_
            exact n_zretW (v := false) (w1 := [(h, mO ad (upd (upd (upd iv 5 (nI ((rdN (tM el ra re) 1 (pl + 1) 0).2.1))) 6 (nI ra)) 7 (nI re))), (ad 8, iA G 4 (upd nu 0 (rdN (tM el ra re) 1 (pl + 1) 0).2.2)), (ad 18, iA G 800 el)]) C (⟨by simp [stS, stN, rn, s_2, s_9, s_23, s_37, c_41, c_42], by simp [stS, stN, rn, s_2, s_9, s_23, s_37, c_41, c_42]⟩) hP hD hS (by first | omega | decide) (by first | omega | decide) dX4_readsStatement_203
          · refine lv_aload_n hx hb dX4_readsStatement_77 rfl (lv_at hl 1 rfl) ?_
            refine lv_iconst (v := 1) hx hb dX4_readsStatement_78 (by decide) ?_
            refine lv_iconst (v := 1) hx hb dX4_readsStatement_79 (by decide) ?_
            refine c_VW (wr := []) (rest := []) C (metX4_readsNumber l G h ad iv el ra re ((rdN (tM el ra re) 1 (pl + 1) 0).2.1) (upd nu 0 (rdN (tM el ra re) 1 (pl + 1) 0).2.2) 1 1 (by omega) (by omega) (by omega) (by omega)) 2 (lw_V q1156 q1158 qs26 q42 q1159) (by decide +kernel) ⟨rfl, rfl⟩ ⟨(Nat.le_of_ble_eq_true rfl), (Nat.le_of_ble_eq_true rfl)⟩ (KM_mv G) hK (va_recv hK hP (ci := 0) (q0 := 0) rfl rfl) hA hP hD hS [0, 1, 2] [] rfl rfl rfl rfl (by decide) hl rfl rfl (Nat.le_of_ble_eq_true rfl) ⟨(Nat.le_of_ble_eq_true rfl), (Nat.le_of_ble_eq_true rfl)⟩ dX4_readsStatement_80 (fun r_43 w1 H locs hq_44 hP hD hS => ?_)
            obtain ⟨rfl, rfl⟩ := hq_44
            have hP : PP G [(h, mO ad (upd (upd (upd iv 5 (nI ((rdN (tM el ra re) 1 ((rdN (tM el ra re) 1 (pl + 1) 0).2.1) 0).2.1))) 6 (nI ra)) 7 (nI re))), (ad 8, iA G 4 (upd (upd nu 0 (rdN (tM el ra re) 1 (pl + 1) 0).2.2) 1 (rdN (tM el ra re) 1 ((rdN (tM el ra re) 1 (pl + 1) 0).2.1) 0).2.2)), (ad 18, iA G 800 el)] H := hP
            have hD : va_D A [(h, mO ad (upd (upd (upd iv 5 (nI ((rdN (tM el ra re) 1 ((rdN (tM el ra re) 1 (pl + 1) 0).2.1) 0).2.1))) 6 (nI ra)) 7 (nI re))), (ad 8, iA G 4 (upd (upd nu 0 (rdN (tM el ra re) 1 (pl + 1) 0).2.2) 1 (rdN (tM el ra re) 1 ((rdN (tM el ra re) 1 (pl + 1) 0).2.1) 0).2.2)), (ad 18, iA G 800 el)] := hD
            have af_45 := rdN_le (tM el ra re) 1 ((rdN (tM el ra re) 1 (pl + 1) 0).2.1) 0
            refine n_if_eqB (b := (rdN (tM el ra re) 1 ((rdN (tM el ra re) 1 (pl + 1) 0).2.1) 0).1) (tgt := 108) hx hb dX4_readsStatement_83 (by decide) (fun c_46 => ?_) (fun c_46 => ?_)
            · refine lv_iconst (v := 0) hx hb dX4_readsStatement_108 (by decide) ?_
              refine lv_istore_n (lv' := [(2, .int 0), (1, .int (tM el ra re pl)), (0, .ref h)]) hx hb dX4_readsStatement_109 rfl hl (Nat.le_of_ble_eq_true rfl) rfl (fun ls hl => ?_)
              refine lv_goto (tgt := 189) hx hb dX4_readsStatement_110 (by decide) ?_
              refine lv_iload_n hx hb dX4_readsStatement_189 rfl (lv_at hl 0 rfl) ?_
              refine lv_if_eq (x := 0) (tgt := 202) hx hb dX4_readsStatement_190 (by decide) (fun c_47 => ?_) (fun c_47 => absurd c_47 (by decide))
              refine lv_iconst (v := 0) hx hb dX4_readsStatement_202 (by decide) ?_
              exact n_zretW (v := false) (w1 := [(h, mO ad (upd (upd (upd iv 5 (nI ((rdN (tM el ra re) 1 ((rdN (tM el ra re) 1 (pl + 1) 0).2.1) 0).2.1))) 6 (nI ra)) 7 (nI re))), (ad 8, iA G 4 (upd (upd nu 0 (rdN (tM el ra re) 1 (pl + 1) 0).2.2) 1 (rdN (tM el ra re) 1 ((rdN (tM el ra re) 1 (pl + 1) 0).2.1) 0).2.2)), (ad 18, iA G 800 el)]) C (⟨by simp [stS, stN, rn, s_2, s_9, s_23, s_37, c_41, c_46, c_47], by simp [stS, stN, rn, s_2, s_9, s_23, s_37, c_41, c_46, c_47]⟩) hP hD hS (by first | omega | decide) (by first | omega | decide) dX4_readsStatement_203
            · refine lv_aload_n hx hb dX4_readsStatement_86 rfl (lv_at hl 1 rfl) ?_
              refine lv_iconst (v := 2) hx hb dX4_readsStatement_87 (by decide) ?_
              refine lv_iconst (v := 2) hx hb dX4_readsStatement_88 (by decide) ?_
              refine c_VW (wr := []) (rest := []) C (metX4_readsNumber l G h ad iv el ra re ((rdN (tM el ra re) 1 ((rdN (tM el ra re) 1 (pl + 1) 0).2.1) 0).2.1) (upd (upd nu 0 (rdN (tM el ra re) 1 (pl + 1) 0).2.2) 1 (rdN (tM el ra re) 1 ((rdN (tM el ra re) 1 (pl + 1) 0).2.1) 0).2.2) 2 2 (by omega) (by omega) (by omega) (by omega)) 2 (lw_V q1156 q1158 qs26 q42 q1159) (by decide +kernel) ⟨rfl, rfl⟩ ⟨(Nat.le_of_ble_eq_true rfl), (Nat.le_of_ble_eq_true rfl)⟩ (KM_mv G) hK (va_recv hK hP (ci := 0) (q0 := 0) rfl rfl) hA hP hD hS [0, 1, 2] [] rfl rfl rfl rfl (by decide) hl rfl rfl (Nat.le_of_ble_eq_true rfl) ⟨(Nat.le_of_ble_eq_true rfl), (Nat.le_of_ble_eq_true rfl)⟩ dX4_readsStatement_89 (fun r_48 w1 H locs hq_49 hP hD hS => ?_)
              obtain ⟨rfl, rfl⟩ := hq_49
              have hP : PP G [(h, mO ad (upd (upd (upd iv 5 (nI ((rdN (tM el ra re) 2 ((rdN (tM el ra re) 1 ((rdN (tM el ra re) 1 (pl + 1) 0).2.1) 0).2.1) 0).2.1))) 6 (nI ra)) 7 (nI re))), (ad 8, iA G 4 (upd (upd (upd nu 0 (rdN (tM el ra re) 1 (pl + 1) 0).2.2) 1 (rdN (tM el ra re) 1 ((rdN (tM el ra re) 1 (pl + 1) 0).2.1) 0).2.2) 2 (rdN (tM el ra re) 2 ((rdN (tM el ra re) 1 ((rdN (tM el ra re) 1 (pl + 1) 0).2.1) 0).2.1) 0).2.2)), (ad 18, iA G 800 el)] H := hP
              have hD : va_D A [(h, mO ad (upd (upd (upd iv 5 (nI ((rdN (tM el ra re) 2 ((rdN (tM el ra re) 1 ((rdN (tM el ra re) 1 (pl + 1) 0).2.1) 0).2.1) 0).2.1))) 6 (nI ra)) 7 (nI re))), (ad 8, iA G 4 (upd (upd (upd nu 0 (rdN (tM el ra re) 1 (pl + 1) 0).2.2) 1 (rdN (tM el ra re) 1 ((rdN (tM el ra re) 1 (pl + 1) 0).2.1) 0).2.2) 2 (rdN (tM el ra re) 2 ((rdN (tM el ra re) 1 ((rdN (tM el ra re) 1 (pl + 1) 0).2.1) 0).2.1) 0).2.2)), (ad 18, iA G 800 el)] := hD
              have af_50 := rdN_le (tM el ra re) 2 ((rdN (tM el ra re) 1 ((rdN (tM el ra re) 1 (pl + 1) 0).2.1) 0).2.1) 0
              refine n_if_eqB (b := (rdN (tM el ra re) 2 ((rdN (tM el ra re) 1 ((rdN (tM el ra re) 1 (pl + 1) 0).2.1) 0).2.1) 0).1) (tgt := 108) hx hb dX4_readsStatement_92 (by decide) (fun c_51 => ?_) (fun c_51 => ?_)
              · refine lv_iconst (v := 0) hx hb dX4_readsStatement_108 (by decide) ?_
                refine lv_istore_n (lv' := [(2, .int 0), (1, .int (tM el ra re pl)), (0, .ref h)]) hx hb dX4_readsStatement_109 rfl hl (Nat.le_of_ble_eq_true rfl) rfl (fun ls hl => ?_)
                refine lv_goto (tgt := 189) hx hb dX4_readsStatement_110 (by decide) ?_
                refine lv_iload_n hx hb dX4_readsStatement_189 rfl (lv_at hl 0 rfl) ?_
                refine lv_if_eq (x := 0) (tgt := 202) hx hb dX4_readsStatement_190 (by decide) (fun c_52 => ?_) (fun c_52 => absurd c_52 (by decide))
                refine lv_iconst (v := 0) hx hb dX4_readsStatement_202 (by decide) ?_
                exact n_zretW (v := false) (w1 := [(h, mO ad (upd (upd (upd iv 5 (nI ((rdN (tM el ra re) 2 ((rdN (tM el ra re) 1 ((rdN (tM el ra re) 1 (pl + 1) 0).2.1) 0).2.1) 0).2.1))) 6 (nI ra)) 7 (nI re))), (ad 8, iA G 4 (upd (upd (upd nu 0 (rdN (tM el ra re) 1 (pl + 1) 0).2.2) 1 (rdN (tM el ra re) 1 ((rdN (tM el ra re) 1 (pl + 1) 0).2.1) 0).2.2) 2 (rdN (tM el ra re) 2 ((rdN (tM el ra re) 1 ((rdN (tM el ra re) 1 (pl + 1) 0).2.1) 0).2.1) 0).2.2)), (ad 18, iA G 800 el)]) C (⟨by simp [stS, stN, rn, s_2, s_9, s_23, s_37, c_41, c_46, c_51, c_52], by simp [stS, stN, rn, s_2, s_9, s_23, s_37, c_41, c_46, c_51, c_52]⟩) hP hD hS (by first | omega | decide) (by first | omega | decide) dX4_readsStatement_203
              · refine lv_aload_n hx hb dX4_readsStatement_95 rfl (lv_at hl 1 rfl) ?_
                refine lv_iconst (v := 3) hx hb dX4_readsStatement_96 (by decide) ?_
                refine lv_iconst (v := 2) hx hb dX4_readsStatement_97 (by decide) ?_
                refine c_VW (wr := []) (rest := []) C (metX4_readsNumber l G h ad iv el ra re ((rdN (tM el ra re) 2 ((rdN (tM el ra re) 1 ((rdN (tM el ra re) 1 (pl + 1) 0).2.1) 0).2.1) 0).2.1) (upd (upd (upd nu 0 (rdN (tM el ra re) 1 (pl + 1) 0).2.2) 1 (rdN (tM el ra re) 1 ((rdN (tM el ra re) 1 (pl + 1) 0).2.1) 0).2.2) 2 (rdN (tM el ra re) 2 ((rdN (tM el ra re) 1 ((rdN (tM el ra re) 1 (pl + 1) 0).2.1) 0).2.1) 0).2.2) 3 2 (by omega) (by omega) (by omega) (by omega)) 2 (lw_V q1156 q1158 qs26 q42 q1159) (by decide +kernel) ⟨rfl, rfl⟩ ⟨(Nat.le_of_ble_eq_true rfl), (Nat.le_of_ble_eq_true rfl)⟩ (KM_mv G) hK (va_recv hK hP (ci := 0) (q0 := 0) rfl rfl) hA hP hD hS [0, 1, 2] [] rfl rfl rfl rfl (by decide) hl rfl rfl (Nat.le_of_ble_eq_true rfl) ⟨(Nat.le_of_ble_eq_true rfl), (Nat.le_of_ble_eq_true rfl)⟩ dX4_readsStatement_98 (fun r_53 w1 H locs hq_54 hP hD hS => ?_)
                obtain ⟨rfl, rfl⟩ := hq_54
                have hP : PP G [(h, mO ad (upd (upd (upd iv 5 (nI ((rdN (tM el ra re) 2 ((rdN (tM el ra re) 2 ((rdN (tM el ra re) 1 ((rdN (tM el ra re) 1 (pl + 1) 0).2.1) 0).2.1) 0).2.1) 0).2.1))) 6 (nI ra)) 7 (nI re))), (ad 8, iA G 4 (upd (upd (upd (upd nu 0 (rdN (tM el ra re) 1 (pl + 1) 0).2.2) 1 (rdN (tM el ra re) 1 ((rdN (tM el ra re) 1 (pl + 1) 0).2.1) 0).2.2) 2 (rdN (tM el ra re) 2 ((rdN (tM el ra re) 1 ((rdN (tM el ra re) 1 (pl + 1) 0).2.1) 0).2.1) 0).2.2) 3 (rdN (tM el ra re) 2 ((rdN (tM el ra re) 2 ((rdN (tM el ra re) 1 ((rdN (tM el ra re) 1 (pl + 1) 0).2.1) 0).2.1) 0).2.1) 0).2.2)), (ad 18, iA G 800 el)] H := hP
                have hD : va_D A [(h, mO ad (upd (upd (upd iv 5 (nI ((rdN (tM el ra re) 2 ((rdN (tM el ra re) 2 ((rdN (tM el ra re) 1 ((rdN (tM el ra re) 1 (pl + 1) 0).2.1) 0).2.1) 0).2.1) 0).2.1))) 6 (nI ra)) 7 (nI re))), (ad 8, iA G 4 (upd (upd (upd (upd nu 0 (rdN (tM el ra re) 1 (pl + 1) 0).2.2) 1 (rdN (tM el ra re) 1 ((rdN (tM el ra re) 1 (pl + 1) 0).2.1) 0).2.2) 2 (rdN (tM el ra re) 2 ((rdN (tM el ra re) 1 ((rdN (tM el ra re) 1 (pl + 1) 0).2.1) 0).2.1) 0).2.2) 3 (rdN (tM el ra re) 2 ((rdN (tM el ra re) 2 ((rdN (tM el ra re) 1 ((rdN (tM el ra re) 1 (pl + 1) 0).2.1) 0).2.1) 0).2.1) 0).2.2)), (ad 18, iA G 800 el)] := hD
                have af_55 := rdN_le (tM el ra re) 2 ((rdN (tM el ra re) 2 ((rdN (tM el ra re) 1 ((rdN (tM el ra re) 1 (pl + 1) 0).2.1) 0).2.1) 0).2.1) 0
                refine n_if_eqB (b := (rdN (tM el ra re) 2 ((rdN (tM el ra re) 2 ((rdN (tM el ra re) 1 ((rdN (tM el ra re) 1 (pl + 1) 0).2.1) 0).2.1) 0).2.1) 0).1) (tgt := 108) hx hb dX4_readsStatement_101 (by decide) (fun c_56 => ?_) (fun c_56 => ?_)
                · refine lv_iconst (v := 0) hx hb dX4_readsStatement_108 (by decide) ?_
                  refine lv_istore_n (lv' := [(2, .int 0), (1, .int (tM el ra re pl)), (0, .ref h)]) hx hb dX4_readsStatement_109 rfl hl (Nat.le_of_ble_eq_true rfl) rfl (fun ls hl => ?_)
                  refine lv_goto (tgt := 189) hx hb dX4_readsStatement_110 (by decide) ?_
                  refine lv_iload_n hx hb dX4_readsStatement_189 rfl (lv_at hl 0 rfl) ?_
                  refine lv_if_eq (x := 0) (tgt := 202) hx hb dX4_readsStatement_190 (by decide) (fun c_57 => ?_) (fun c_57 => absurd c_57 (by decide))
                  refine lv_iconst (v := 0) hx hb dX4_readsStatement_202 (by decide) ?_
                  exact n_zretW (v := false) (w1 := [(h, mO ad (upd (upd (upd iv 5 (nI ((rdN (tM el ra re) 2 ((rdN (tM el ra re) 2 ((rdN (tM el ra re) 1 ((rdN (tM el ra re) 1 (pl + 1) 0).2.1) 0).2.1) 0).2.1) 0).2.1))) 6 (nI ra)) 7 (nI re))), (ad 8, iA G 4 (upd (upd (upd (upd nu 0 (rdN (tM el ra re) 1 (pl + 1) 0).2.2) 1 (rdN (tM el ra re) 1 ((rdN (tM el ra re) 1 (pl + 1) 0).2.1) 0).2.2) 2 (rdN (tM el ra re) 2 ((rdN (tM el ra re) 1 ((rdN (tM el ra re) 1 (pl + 1) 0).2.1) 0).2.1) 0).2.2) 3 (rdN (tM el ra re) 2 ((rdN (tM el ra re) 2 ((rdN (tM el ra re) 1 ((rdN (tM el ra re) 1 (pl + 1) 0).2.1) 0).2.1) 0).2.1) 0).2.2)), (ad 18, iA G 800 el)]) C (⟨by simp [stS, stN, rn, s_2, s_9, s_23, s_37, c_41, c_46, c_51, c_56, c_57], by simp [stS, stN, rn, s_2, s_9, s_23, s_37, c_41, c_46, c_51, c_56, c_57]⟩) hP hD hS (by first | omega | decide) (by first | omega | decide) dX4_readsStatement_203
                · refine lv_iconst (v := 1) hx hb dX4_readsStatement_104 (by decide) ?_
                  refine lv_goto (tgt := 109) hx hb dX4_readsStatement_105 (by decide) ?_
                  refine lv_istore_n (lv' := [(2, .int 1), (1, .int (tM el ra re pl)), (0, .ref h)]) hx hb dX4_readsStatement_109 rfl hl (Nat.le_of_ble_eq_true rfl) rfl (fun ls hl => ?_)
                  refine lv_goto (tgt := 189) hx hb dX4_readsStatement_110 (by decide) ?_
                  refine lv_iload_n hx hb dX4_readsStatement_189 rfl (lv_at hl 0 rfl) ?_
                  refine lv_if_eq (x := 1) (tgt := 202) hx hb dX4_readsStatement_190 (by decide) (fun c_58 => absurd c_58 (by decide)) (fun c_58 => ?_)
                  refine lv_aload_n hx hb dX4_readsStatement_193 rfl (lv_at hl 2 rfl) ?_
                  refine c_V (rest := []) C (metX4_here l G h ad iv el ra re ((rdN (tM el ra re) 2 ((rdN (tM el ra re) 2 ((rdN (tM el ra re) 1 ((rdN (tM el ra re) 1 (pl + 1) 0).2.1) 0).2.1) 0).2.1) 0).2.1) (by omega) (by omega)) 0 (lw_V q1152 q1154 qs25 q42 q1155) (by decide +kernel) ⟨rfl, rfl⟩ ⟨(Nat.le_of_ble_eq_true rfl), (Nat.le_of_ble_eq_true rfl)⟩ (KM_mv G) (va_recv hK hP (ci := 0) (q0 := 0) rfl rfl) (hP.sub (ws' := [(h, mO ad (upd (upd (upd iv 5 (nI ((rdN (tM el ra re) 2 ((rdN (tM el ra re) 2 ((rdN (tM el ra re) 1 ((rdN (tM el ra re) 1 (pl + 1) 0).2.1) 0).2.1) 0).2.1) 0).2.1))) 6 (nI ra)) 7 (nI re))), (ad 18, iA G 800 el)]) [0, 2] rfl) hK hl rfl rfl (Nat.le_of_ble_eq_true rfl) ⟨(Nat.le_of_ble_eq_true rfl), (Nat.le_of_ble_eq_true rfl)⟩ dX4_readsStatement_194 ?_
                  refine lv_bipush (v := 59) hx hb dX4_readsStatement_197 (by decide) ?_
                  refine lv_icmp_eq (x := tM el ra re ((rdN (tM el ra re) 2 ((rdN (tM el ra re) 2 ((rdN (tM el ra re) 1 ((rdN (tM el ra re) 1 (pl + 1) 0).2.1) 0).2.1) 0).2.1) 0).2.1)) (y := 59) (tgt := 204) hx hb dX4_readsStatement_199 (by decide) (fun c_59 => ?_) (fun c_59 => ?_)
                  · refine lv_aload_n hx hb dX4_readsStatement_204 rfl (lv_at hl 2 rfl) ?_
                    refine lv_dup hx hb dX4_readsStatement_205 rfl ?_
                    refine va_get (D := gD G) (ci := 0) (v := .int (nI ((rdN (tM el ra re) 2 ((rdN (tM el ra re) 2 ((rdN (tM el ra re) 1 ((rdN (tM el ra re) 1 (pl + 1) 0).2.1) 0).2.1) 0).2.1) 0).2.1))) (C := RX4) (T := TX4) (N := 20) hx hb hts in_X4 hown hK hP 0 rfl rfl 5 (by decide) (hts _ q1078) (fun _ h9 => h9) rfl dX4_readsStatement_206 ?_
                    refine lv_iconst (v := 1) hx hb dX4_readsStatement_209 (by decide) ?_
                    refine n_iadd hx hb ((rdN (tM el ra re) 2 ((rdN (tM el ra re) 2 ((rdN (tM el ra re) 1 ((rdN (tM el ra re) 1 (pl + 1) 0).2.1) 0).2.1) 0).2.1) 0).2.1) 1 dX4_readsStatement_210 ?_
                    refine lv_topi (fun yv_60 eyv_60 => ?_)
                    refine va_put (D := gD G) (ci := 0) (v := .int yv_60) (ty := .int) (C := RX4) (T := TX4) (N := 20) hx hb hts in_X4 tyX4 tyX4_ok nmX4 hown hK hP hD hS 0 rfl rfl 5 (by decide) (hts _ q1078) (fun _ h9 => h9) rfl (by decide +kernel) rfl rfl (Nat.le_of_ble_eq_true rfl) dX4_readsStatement_211 (fun H locs hP hD hS => ?_)
                    have hP : PP G [(h, mO ad (upd (upd (upd iv 5 yv_60) 6 (nI ra)) 7 (nI re))), (ad 8, iA G 4 (upd (upd (upd (upd nu 0 (rdN (tM el ra re) 1 (pl + 1) 0).2.2) 1 (rdN (tM el ra re) 1 ((rdN (tM el ra re) 1 (pl + 1) 0).2.1) 0).2.2) 2 (rdN (tM el ra re) 2 ((rdN (tM el ra re) 1 ((rdN (tM el ra re) 1 (pl + 1) 0).2.1) 0).2.1) 0).2.2) 3 (rdN (tM el ra re) 2 ((rdN (tM el ra re) 2 ((rdN (tM el ra re) 1 ((rdN (tM el ra re) 1 (pl + 1) 0).2.1) 0).2.1) 0).2.1) 0).2.2)), (ad 18, iA G 800 el)] H := hP
                    have hD : va_D A [(h, mO ad (upd (upd (upd iv 5 yv_60) 6 (nI ra)) 7 (nI re))), (ad 8, iA G 4 (upd (upd (upd (upd nu 0 (rdN (tM el ra re) 1 (pl + 1) 0).2.2) 1 (rdN (tM el ra re) 1 ((rdN (tM el ra re) 1 (pl + 1) 0).2.1) 0).2.2) 2 (rdN (tM el ra re) 2 ((rdN (tM el ra re) 1 ((rdN (tM el ra re) 1 (pl + 1) 0).2.1) 0).2.1) 0).2.2) 3 (rdN (tM el ra re) 2 ((rdN (tM el ra re) 2 ((rdN (tM el ra re) 1 ((rdN (tM el ra re) 1 (pl + 1) 0).2.1) 0).2.1) 0).2.1) 0).2.2)), (ad 18, iA G 800 el)] := hD
                    subst eyv_60
                    refine lv_iconst (v := 1) hx hb dX4_readsStatement_214 (by decide) ?_
                    exact n_zretW (v := true) (w1 := [(h, mO ad (upd (upd (upd iv 5 (nI (((rdN (tM el ra re) 2 ((rdN (tM el ra re) 2 ((rdN (tM el ra re) 1 ((rdN (tM el ra re) 1 (pl + 1) 0).2.1) 0).2.1) 0).2.1) 0).2.1) + 1))) 6 (nI ra)) 7 (nI re))), (ad 8, iA G 4 (upd (upd (upd (upd nu 0 (rdN (tM el ra re) 1 (pl + 1) 0).2.2) 1 (rdN (tM el ra re) 1 ((rdN (tM el ra re) 1 (pl + 1) 0).2.1) 0).2.2) 2 (rdN (tM el ra re) 2 ((rdN (tM el ra re) 1 ((rdN (tM el ra re) 1 (pl + 1) 0).2.1) 0).2.1) 0).2.2) 3 (rdN (tM el ra re) 2 ((rdN (tM el ra re) 2 ((rdN (tM el ra re) 1 ((rdN (tM el ra re) 1 (pl + 1) 0).2.1) 0).2.1) 0).2.1) 0).2.2)), (ad 18, iA G 800 el)]) C (⟨by simp [stS, stN, rn, s_2, s_9, s_23, s_37, c_41, c_46, c_51, c_56, c_58, c_59], by simp [stS, stN, rn, s_2, s_9, s_23, s_37, c_41, c_46, c_51, c_56, c_58, c_59]⟩) hP hD hS (by first | omega | decide) (by first | omega | decide) dX4_readsStatement_215
                  · refine lv_iconst (v := 0) hx hb dX4_readsStatement_202 (by decide) ?_
                    exact n_zretW (v := false) (w1 := [(h, mO ad (upd (upd (upd iv 5 (nI ((rdN (tM el ra re) 2 ((rdN (tM el ra re) 2 ((rdN (tM el ra re) 1 ((rdN (tM el ra re) 1 (pl + 1) 0).2.1) 0).2.1) 0).2.1) 0).2.1))) 6 (nI ra)) 7 (nI re))), (ad 8, iA G 4 (upd (upd (upd (upd nu 0 (rdN (tM el ra re) 1 (pl + 1) 0).2.2) 1 (rdN (tM el ra re) 1 ((rdN (tM el ra re) 1 (pl + 1) 0).2.1) 0).2.2) 2 (rdN (tM el ra re) 2 ((rdN (tM el ra re) 1 ((rdN (tM el ra re) 1 (pl + 1) 0).2.1) 0).2.1) 0).2.2) 3 (rdN (tM el ra re) 2 ((rdN (tM el ra re) 2 ((rdN (tM el ra re) 1 ((rdN (tM el ra re) 1 (pl + 1) 0).2.1) 0).2.1) 0).2.1) 0).2.2)), (ad 18, iA G 800 el)]) C (⟨by simp [stS, stN, rn, s_2, s_9, s_23, s_37, c_41, c_46, c_51, c_56, c_58, c_59], by simp [stS, stN, rn, s_2, s_9, s_23, s_37, c_41, c_46, c_51, c_56, c_58, c_59]⟩) hP hD hS (by first | omega | decide) (by first | omega | decide) dX4_readsStatement_203
        · skip
          by_cases s_61 : tM el ra re pl = 116
          · refine n_eqi s_61 ?_
            refine lv_lookup (off := 107) (tgt := 123) (x := 116) hx hb dX4_readsStatement_16 (by decide) (by decide) (by decide) ?_
            refine lv_aload_n hx hb dX4_readsStatement_123 rfl (lv_at hl 1 rfl) ?_
            refine lv_iconst (v := 0) hx hb dX4_readsStatement_124 (by decide) ?_
            refine lv_iconst (v := 1) hx hb dX4_readsStatement_125 (by decide) ?_
            refine c_VW (wr := []) (rest := []) C (metX4_readsNumber l G h ad iv el ra re (pl + 1) nu 0 1 (by omega) (by omega) (by omega) (by omega)) 2 (lw_V q1156 q1158 qs26 q42 q1159) (by decide +kernel) ⟨rfl, rfl⟩ ⟨(Nat.le_of_ble_eq_true rfl), (Nat.le_of_ble_eq_true rfl)⟩ (KM_mv G) hK (va_recv hK hP (ci := 0) (q0 := 0) rfl rfl) hA hP hD hS [0, 1, 2] [] rfl rfl rfl rfl (by decide) hl rfl rfl (Nat.le_of_ble_eq_true rfl) ⟨(Nat.le_of_ble_eq_true rfl), (Nat.le_of_ble_eq_true rfl)⟩ dX4_readsStatement_126 (fun r_62 w1 H locs hq_63 hP hD hS => ?_)
            obtain ⟨rfl, rfl⟩ := hq_63
            have hP : PP G [(h, mO ad (upd (upd (upd iv 5 (nI ((rdN (tM el ra re) 1 (pl + 1) 0).2.1))) 6 (nI ra)) 7 (nI re))), (ad 8, iA G 4 (upd nu 0 (rdN (tM el ra re) 1 (pl + 1) 0).2.2)), (ad 18, iA G 800 el)] H := hP
            have hD : va_D A [(h, mO ad (upd (upd (upd iv 5 (nI ((rdN (tM el ra re) 1 (pl + 1) 0).2.1))) 6 (nI ra)) 7 (nI re))), (ad 8, iA G 4 (upd nu 0 (rdN (tM el ra re) 1 (pl + 1) 0).2.2)), (ad 18, iA G 800 el)] := hD
            have af_64 := rdN_le (tM el ra re) 1 (pl + 1) 0
            refine n_if_eqB (b := (rdN (tM el ra re) 1 (pl + 1) 0).1) (tgt := 145) hx hb dX4_readsStatement_129 (by decide) (fun c_65 => ?_) (fun c_65 => ?_)
            · refine lv_iconst (v := 0) hx hb dX4_readsStatement_145 (by decide) ?_
              refine lv_istore_n (lv' := [(2, .int 0), (1, .int (tM el ra re pl)), (0, .ref h)]) hx hb dX4_readsStatement_146 rfl hl (Nat.le_of_ble_eq_true rfl) rfl (fun ls hl => ?_)
              refine lv_goto (tgt := 189) hx hb dX4_readsStatement_147 (by decide) ?_
              refine lv_iload_n hx hb dX4_readsStatement_189 rfl (lv_at hl 0 rfl) ?_
              refine lv_if_eq (x := 0) (tgt := 202) hx hb dX4_readsStatement_190 (by decide) (fun c_66 => ?_) (fun c_66 => absurd c_66 (by decide))
              refine lv_iconst (v := 0) hx hb dX4_readsStatement_202 (by decide) ?_
              exact n_zretW (v := false) (w1 := [(h, mO ad (upd (upd (upd iv 5 (nI ((rdN (tM el ra re) 1 (pl + 1) 0).2.1))) 6 (nI ra)) 7 (nI re))), (ad 8, iA G 4 (upd nu 0 (rdN (tM el ra re) 1 (pl + 1) 0).2.2)), (ad 18, iA G 800 el)]) C (⟨by simp [stS, stN, rn, s_2, s_9, s_23, s_37, s_61, c_65, c_66], by simp [stS, stN, rn, s_2, s_9, s_23, s_37, s_61, c_65, c_66]⟩) hP hD hS (by first | omega | decide) (by first | omega | decide) dX4_readsStatement_203
            · refine lv_aload_n hx hb dX4_readsStatement_132 rfl (lv_at hl 1 rfl) ?_
              refine lv_iconst (v := 1) hx hb dX4_readsStatement_133 (by decide) ?_
              refine lv_iconst (v := 1) hx hb dX4_readsStatement_134 (by decide) ?_
              refine c_VW (wr := []) (rest := []) C (metX4_readsNumber l G h ad iv el ra re ((rdN (tM el ra re) 1 (pl + 1) 0).2.1) (upd nu 0 (rdN (tM el ra re) 1 (pl + 1) 0).2.2) 1 1 (by omega) (by omega) (by omega) (by omega)) 2 (lw_V q1156 q1158 qs26 q42 q1159) (by decide +kernel) ⟨rfl, rfl⟩ ⟨(Nat.le_of_ble_eq_true rfl), (Nat.le_of_ble_eq_true rfl)⟩ (KM_mv G) hK (va_recv hK hP (ci := 0) (q0 := 0) rfl rfl) hA hP hD hS [0, 1, 2] [] rfl rfl rfl rfl (by decide) hl rfl rfl (Nat.le_of_ble_eq_true rfl) ⟨(Nat.le_of_ble_eq_true rfl), (Nat.le_of_ble_eq_true rfl)⟩ dX4_readsStatement_135 (fun r_67 w1 H locs hq_68 hP hD hS => ?_)
              obtain ⟨rfl, rfl⟩ := hq_68
              have hP : PP G [(h, mO ad (upd (upd (upd iv 5 (nI ((rdN (tM el ra re) 1 ((rdN (tM el ra re) 1 (pl + 1) 0).2.1) 0).2.1))) 6 (nI ra)) 7 (nI re))), (ad 8, iA G 4 (upd (upd nu 0 (rdN (tM el ra re) 1 (pl + 1) 0).2.2) 1 (rdN (tM el ra re) 1 ((rdN (tM el ra re) 1 (pl + 1) 0).2.1) 0).2.2)), (ad 18, iA G 800 el)] H := hP
              have hD : va_D A [(h, mO ad (upd (upd (upd iv 5 (nI ((rdN (tM el ra re) 1 ((rdN (tM el ra re) 1 (pl + 1) 0).2.1) 0).2.1))) 6 (nI ra)) 7 (nI re))), (ad 8, iA G 4 (upd (upd nu 0 (rdN (tM el ra re) 1 (pl + 1) 0).2.2) 1 (rdN (tM el ra re) 1 ((rdN (tM el ra re) 1 (pl + 1) 0).2.1) 0).2.2)), (ad 18, iA G 800 el)] := hD
              have af_69 := rdN_le (tM el ra re) 1 ((rdN (tM el ra re) 1 (pl + 1) 0).2.1) 0
              refine n_if_eqB (b := (rdN (tM el ra re) 1 ((rdN (tM el ra re) 1 (pl + 1) 0).2.1) 0).1) (tgt := 145) hx hb dX4_readsStatement_138 (by decide) (fun c_70 => ?_) (fun c_70 => ?_)
              · refine lv_iconst (v := 0) hx hb dX4_readsStatement_145 (by decide) ?_
                refine lv_istore_n (lv' := [(2, .int 0), (1, .int (tM el ra re pl)), (0, .ref h)]) hx hb dX4_readsStatement_146 rfl hl (Nat.le_of_ble_eq_true rfl) rfl (fun ls hl => ?_)
                refine lv_goto (tgt := 189) hx hb dX4_readsStatement_147 (by decide) ?_
                refine lv_iload_n hx hb dX4_readsStatement_189 rfl (lv_at hl 0 rfl) ?_
                refine lv_if_eq (x := 0) (tgt := 202) hx hb dX4_readsStatement_190 (by decide) (fun c_71 => ?_) (fun c_71 => absurd c_71 (by decide))
                refine lv_iconst (v := 0) hx hb dX4_readsStatement_202 (by decide) ?_
                exact n_zretW (v := false) (w1 := [(h, mO ad (upd (upd (upd iv 5 (nI ((rdN (tM el ra re) 1 ((rdN (tM el ra re) 1 (pl + 1) 0).2.1) 0).2.1))) 6 (nI ra)) 7 (nI re))), (ad 8, iA G 4 (upd (upd nu 0 (rdN (tM el ra re) 1 (pl + 1) 0).2.2) 1 (rdN (tM el ra re) 1 ((rdN (tM el ra re) 1 (pl + 1) 0).2.1) 0).2.2)), (ad 18, iA G 800 el)]) C (⟨by simp [stS, stN, rn, s_2, s_9, s_23, s_37, s_61, c_65, c_70, c_71], by simp [stS, stN, rn, s_2, s_9, s_23, s_37, s_61, c_65, c_70, c_71]⟩) hP hD hS (by first | omega | decide) (by first | omega | decide) dX4_readsStatement_203
              · refine lv_iconst (v := 1) hx hb dX4_readsStatement_141 (by decide) ?_
                refine lv_goto (tgt := 146) hx hb dX4_readsStatement_142 (by decide) ?_
                refine lv_istore_n (lv' := [(2, .int 1), (1, .int (tM el ra re pl)), (0, .ref h)]) hx hb dX4_readsStatement_146 rfl hl (Nat.le_of_ble_eq_true rfl) rfl (fun ls hl => ?_)
                refine lv_goto (tgt := 189) hx hb dX4_readsStatement_147 (by decide) ?_
                refine lv_iload_n hx hb dX4_readsStatement_189 rfl (lv_at hl 0 rfl) ?_
                refine lv_if_eq (x := 1) (tgt := 202) hx hb dX4_readsStatement_190 (by decide) (fun c_72 => absurd c_72 (by decide)) (fun c_72 => ?_)
                refine lv_aload_n hx hb dX4_readsStatement_193 rfl (lv_at hl 2 rfl) ?_
                refine c_V (rest := []) C (metX4_here l G h ad iv el ra re ((rdN (tM el ra re) 1 ((rdN (tM el ra re) 1 (pl + 1) 0).2.1) 0).2.1) (by omega) (by omega)) 0 (lw_V q1152 q1154 qs25 q42 q1155) (by decide +kernel) ⟨rfl, rfl⟩ ⟨(Nat.le_of_ble_eq_true rfl), (Nat.le_of_ble_eq_true rfl)⟩ (KM_mv G) (va_recv hK hP (ci := 0) (q0 := 0) rfl rfl) (hP.sub (ws' := [(h, mO ad (upd (upd (upd iv 5 (nI ((rdN (tM el ra re) 1 ((rdN (tM el ra re) 1 (pl + 1) 0).2.1) 0).2.1))) 6 (nI ra)) 7 (nI re))), (ad 18, iA G 800 el)]) [0, 2] rfl) hK hl rfl rfl (Nat.le_of_ble_eq_true rfl) ⟨(Nat.le_of_ble_eq_true rfl), (Nat.le_of_ble_eq_true rfl)⟩ dX4_readsStatement_194 ?_
                refine lv_bipush (v := 59) hx hb dX4_readsStatement_197 (by decide) ?_
                refine lv_icmp_eq (x := tM el ra re ((rdN (tM el ra re) 1 ((rdN (tM el ra re) 1 (pl + 1) 0).2.1) 0).2.1)) (y := 59) (tgt := 204) hx hb dX4_readsStatement_199 (by decide) (fun c_73 => ?_) (fun c_73 => ?_)
                · refine lv_aload_n hx hb dX4_readsStatement_204 rfl (lv_at hl 2 rfl) ?_
                  refine lv_dup hx hb dX4_readsStatement_205 rfl ?_
                  refine va_get (D := gD G) (ci := 0) (v := .int (nI ((rdN (tM el ra re) 1 ((rdN (tM el ra re) 1 (pl + 1) 0).2.1) 0).2.1))) (C := RX4) (T := TX4) (N := 20) hx hb hts in_X4 hown hK hP 0 rfl rfl 5 (by decide) (hts _ q1078) (fun _ h9 => h9) rfl dX4_readsStatement_206 ?_
                  refine lv_iconst (v := 1) hx hb dX4_readsStatement_209 (by decide) ?_
                  refine n_iadd hx hb ((rdN (tM el ra re) 1 ((rdN (tM el ra re) 1 (pl + 1) 0).2.1) 0).2.1) 1 dX4_readsStatement_210 ?_
                  refine lv_topi (fun yv_74 eyv_74 => ?_)
                  refine va_put (D := gD G) (ci := 0) (v := .int yv_74) (ty := .int) (C := RX4) (T := TX4) (N := 20) hx hb hts in_X4 tyX4 tyX4_ok nmX4 hown hK hP hD hS 0 rfl rfl 5 (by decide) (hts _ q1078) (fun _ h9 => h9) rfl (by decide +kernel) rfl rfl (Nat.le_of_ble_eq_true rfl) dX4_readsStatement_211 (fun H locs hP hD hS => ?_)
                  have hP : PP G [(h, mO ad (upd (upd (upd iv 5 yv_74) 6 (nI ra)) 7 (nI re))), (ad 8, iA G 4 (upd (upd nu 0 (rdN (tM el ra re) 1 (pl + 1) 0).2.2) 1 (rdN (tM el ra re) 1 ((rdN (tM el ra re) 1 (pl + 1) 0).2.1) 0).2.2)), (ad 18, iA G 800 el)] H := hP
                  have hD : va_D A [(h, mO ad (upd (upd (upd iv 5 yv_74) 6 (nI ra)) 7 (nI re))), (ad 8, iA G 4 (upd (upd nu 0 (rdN (tM el ra re) 1 (pl + 1) 0).2.2) 1 (rdN (tM el ra re) 1 ((rdN (tM el ra re) 1 (pl + 1) 0).2.1) 0).2.2)), (ad 18, iA G 800 el)] := hD
                  subst eyv_74
                  refine lv_iconst (v := 1) hx hb dX4_readsStatement_214 (by decide) ?_
                  exact n_zretW (v := true) (w1 := [(h, mO ad (upd (upd (upd iv 5 (nI (((rdN (tM el ra re) 1 ((rdN (tM el ra re) 1 (pl + 1) 0).2.1) 0).2.1) + 1))) 6 (nI ra)) 7 (nI re))), (ad 8, iA G 4 (upd (upd nu 0 (rdN (tM el ra re) 1 (pl + 1) 0).2.2) 1 (rdN (tM el ra re) 1 ((rdN (tM el ra re) 1 (pl + 1) 0).2.1) 0).2.2)), (ad 18, iA G 800 el)]) C (⟨by simp [stS, stN, rn, s_2, s_9, s_23, s_37, s_61, c_65, c_70, c_72, c_73], by simp [stS, stN, rn, s_2, s_9, s_23, s_37, s_61, c_65, c_70, c_72, c_73]⟩) hP hD hS (by first | omega | decide) (by first | omega | decide) dX4_readsStatement_215
                · refine lv_iconst (v := 0) hx hb dX4_readsStatement_202 (by decide) ?_
                  exact n_zretW (v := false) (w1 := [(h, mO ad (upd (upd (upd iv 5 (nI ((rdN (tM el ra re) 1 ((rdN (tM el ra re) 1 (pl + 1) 0).2.1) 0).2.1))) 6 (nI ra)) 7 (nI re))), (ad 8, iA G 4 (upd (upd nu 0 (rdN (tM el ra re) 1 (pl + 1) 0).2.2) 1 (rdN (tM el ra re) 1 ((rdN (tM el ra re) 1 (pl + 1) 0).2.1) 0).2.2)), (ad 18, iA G 800 el)]) C (⟨by simp [stS, stN, rn, s_2, s_9, s_23, s_37, s_61, c_65, c_70, c_72, c_73], by simp [stS, stN, rn, s_2, s_9, s_23, s_37, s_61, c_65, c_70, c_72, c_73]⟩) hP hD hS (by first | omega | decide) (by first | omega | decide) dX4_readsStatement_203
          · skip
            refine lv_lookup (off := 161) (tgt := 177) (x := tM el ra re pl) hx hb dX4_readsStatement_16 (by decide) (by show Op.lookupswitch.offset [(99, 97), (104, 134), (108, 134), (112, 52), (116, 107)] 161 (tM el ra re pl).toInt = 161; rw [lv_osw (a := 99) s_2 rfl]; rw [lv_osw (a := 104) s_9 rfl]; rw [lv_osw (a := 108) s_23 rfl]; rw [lv_osw (a := 112) s_37 rfl]; rw [lv_osw (a := 116) s_61 rfl]; rfl) (by decide) ?_
            refine lv_aload_n hx hb dX4_readsStatement_177 rfl (lv_at hl 1 rfl) ?_
            refine lv_dup hx hb dX4_readsStatement_178 rfl ?_
            refine va_get (D := gD G) (ci := 0) (v := .int (nI (pl + 1))) (C := RX4) (T := TX4) (N := 20) hx hb hts in_X4 hown hK hP 0 rfl rfl 5 (by decide) (hts _ q1078) (fun _ h9 => h9) rfl dX4_readsStatement_179 ?_
            refine lv_iconst (v := 1) hx hb dX4_readsStatement_182 (by decide) ?_
            refine n_isub hx hb (pl + 1) 1 (by omega) dX4_readsStatement_183 ?_
            refine lv_topi (fun yv_75 eyv_75 => ?_)
            refine va_put (D := gD G) (ci := 0) (v := .int yv_75) (ty := .int) (C := RX4) (T := TX4) (N := 20) hx hb hts in_X4 tyX4 tyX4_ok nmX4 hown hK hP hD hS 0 rfl rfl 5 (by decide) (hts _ q1078) (fun _ h9 => h9) rfl (by decide +kernel) rfl rfl (Nat.le_of_ble_eq_true rfl) dX4_readsStatement_184 (fun H locs hP hD hS => ?_)
            have hP : PP G [(h, mO ad (upd (upd (upd iv 5 yv_75) 6 (nI ra)) 7 (nI re))), (ad 8, iA G 4 nu), (ad 18, iA G 800 el)] H := hP
            have hD : va_D A [(h, mO ad (upd (upd (upd iv 5 yv_75) 6 (nI ra)) 7 (nI re))), (ad 8, iA G 4 nu), (ad 18, iA G 800 el)] := hD
            subst eyv_75
            refine lv_iconst (v := 0) hx hb dX4_readsStatement_187 (by decide) ?_
            exact n_zretW (v := false) (w1 := [(h, mO ad (upd (upd (upd iv 5 (nI ((pl + 1) - 1))) 6 (nI ra)) 7 (nI re))), (ad 8, iA G 4 nu), (ad 18, iA G 800 el)]) C (⟨by simp [stS, stN, rn, s_2, s_9, s_23, s_37, s_61], by simp [stS, stN, rn, s_2, s_9, s_23, s_37, s_61]⟩) hP hD hS (by first | omega | decide) (by first | omega | decide) dX4_readsStatement_188

set_option maxHeartbeats 4000000 in
set_option maxRecDepth 100000 in
theorem metX4_isDone (l : Launch) (G : GG) (h : Nat) (ad : Nat → Nat) (iv : Nat → Int32) (r : Nat → Int32) (N : Nat) (nu : Nat → Int32) (k : Int32) (hN : N ≤ 8) (hr : r 0 = nI N) : MW l yX4_isDone cX4_isDone 5 (some .boolean) ({ frames := 5, cells := 0, slots := 0, locals := 109 }) [.ref h, .int k] [(h, mO ad iv), (ad 0, iA G 57 r), (ad 8, iA G 4 nu)] G (KM G) 0 0 (fun rv w1 => rv = bI (sDoB (sDo r N k nu)) ∧ w1 = [(h, mO ad iv), (ad 0, iA G 57 (sDoR (sDo r N k nu) r)), (ad 8, iA G 4 nu)]) := by
  -- rows printed by wip/tools/gen.py
  refine mw_mk RX4 (by decide) rfl (Nat.le_of_ble_eq_true rfl) ?_
  intro p0_ e0_ s m args below meth c A C hA hP hK hD ls hl
  have hx := C.1
  have hb := C.2.1
  have hml := C.2.2.2.2.1
  have hown := C.2.2.2.2.2.1
  have hts := C.2.2.2.2.2.2
  have hS : va_S A s.heap s.heap [] := va_S.rf
  have hl : lv_has ls 5 [(0, .ref h), (1, .int k)] := hl
  refine lv_aload_n hx hb dX4_isDone_0 rfl (lv_at hl 0 rfl) ?_
  refine va_get (D := gD G) (ci := 0) (v := .ref (ad 8)) (C := RX4) (T := TX4) (N := 20) hx hb hts in_X4 hown hK hP 0 rfl rfl 8 (by decide) (hts _ q1081) (fun _ h9 => h9) rfl dX4_isDone_1 ?_
  refine lv_iconst (v := 0) hx hb dX4_isDone_4 (by decide) ?_
  refine n_iald C hK hP 2 0 rfl (by omega) (by omega) dX4_isDone_5 ?_
  refine lv_istore_n (lv' := [(2, .int (nu 0)), (0, .ref h), (1, .int k)]) hx hb dX4_isDone_6 rfl hl (Nat.le_of_ble_eq_true rfl) rfl (fun ls hl => ?_)
  refine lv_aload_n hx hb dX4_isDone_7 rfl (lv_at hl 1 rfl) ?_
  refine va_get (D := gD G) (ci := 0) (v := .ref (ad 8)) (C := RX4) (T := TX4) (N := 20) hx hb hts in_X4 hown hK hP 0 rfl rfl 8 (by decide) (hts _ q1081) (fun _ h9 => h9) rfl dX4_isDone_8 ?_
  refine lv_iconst (v := 1) hx hb dX4_isDone_11 (by decide) ?_
  refine n_iald C hK hP 2 1 rfl (by omega) (by omega) dX4_isDone_12 ?_
  refine lv_istore_n (lv' := [(3, .int (nu 1)), (2, .int (nu 0)), (0, .ref h), (1, .int k)]) hx hb dX4_isDone_13 rfl hl (Nat.le_of_ble_eq_true rfl) rfl (fun ls hl => ?_)
  refine lv_iload_n hx hb dX4_isDone_14 rfl (lv_at hl 3 rfl) ?_
  by_cases s_1 : k = 99
  · refine n_eqi s_1 ?_
    refine lv_lookup (off := 97) (tgt := 112) (x := 99) hx hb dX4_isDone_15 (by decide) (by decide) (by decide) ?_
    refine lv_aload_n hx hb dX4_isDone_112 rfl (lv_at hl 2 rfl) ?_
    refine va_get (D := gD G) (ci := 0) (v := .ref (ad 0)) (C := RX4) (T := TX4) (N := 20) hx hb hts in_X4 hown hK hP 0 rfl rfl 0 (by decide) (hts _ q1073) (fun _ h9 => h9) rfl dX4_isDone_113 ?_
    refine lv_iconst (v := 1) hx hb dX4_isDone_116 (by decide) ?_
    refine lv_iload_n hx hb dX4_isDone_117 rfl (lv_at hl 1 rfl) ?_
    refine n_iast (x := nu 0) C hK hP hD hS 1 1 rfl (by omega) (by omega) dX4_isDone_118 (fun H locs hP hD hS => ?_)
    have hP : PP G [(h, mO ad iv), (ad 0, iA G 57 (upd r 1 (nu 0))), (ad 8, iA G 4 nu)] H := hP
    have hD : va_D A [(h, mO ad iv), (ad 0, iA G 57 (upd r 1 (nu 0))), (ad 8, iA G 4 nu)] := hD
    refine lv_iconst (v := 1) hx hb dX4_isDone_119 (by decide) ?_
    exact n_zretW (v := true) (w1 := [(h, mO ad iv), (ad 0, iA G 57 (upd r 1 (nu 0))), (ad 8, iA G 4 nu)]) C (⟨by simp [sDo, sDoB, s_1], by simp [sDo, sDoR, s_1]⟩) hP hD hS (by first | omega | decide) (by first | omega | decide) dX4_isDone_120
  · skip
    by_cases s_2 : k = 112
    · refine n_eqi s_2 ?_
      refine lv_lookup (off := 33) (tgt := 48) (x := 112) hx hb dX4_isDone_15 (by decide) (by decide) (by decide) ?_
      refine lv_iload_n hx hb dX4_isDone_48 rfl (lv_at hl 1 rfl) ?_
      refine lv_bipush (v := 8) hx hb dX4_isDone_49 (by decide) ?_
      refine lv_icmp_ge (x := nu 0) (y := 8) (tgt := 87) hx hb dX4_isDone_51 (by decide) (fun c_3 => ?_) (fun c_3 => ?_)
      · have zc_3 : ¬ (nu 0) < 8 := Int32.not_lt.mpr c_3
        refine lv_iconst (v := 0) hx hb dX4_isDone_87 (by decide) ?_
        exact n_zretW (v := false) (w1 := [(h, mO ad iv), (ad 0, iA G 57 r), (ad 8, iA G 4 nu)]) C (⟨by simp [sDo, sDoB, s_1, s_2, c_3, zc_3], by simp [sDo, sDoR, s_1, s_2, c_3, zc_3]⟩) hP hD hS (by first | omega | decide) (by first | omega | decide) dX4_isDone_88
      · have zc_3 : (nu 0) < 8 := Int32.not_le.mp c_3
        refine lv_aload_n hx hb dX4_isDone_54 rfl (lv_at hl 2 rfl) ?_
        refine va_get (D := gD G) (ci := 0) (v := .ref (ad 8)) (C := RX4) (T := TX4) (N := 20) hx hb hts in_X4 hown hK hP 0 rfl rfl 8 (by decide) (hts _ q1081) (fun _ h9 => h9) rfl dX4_isDone_55 ?_
        refine lv_iconst (v := 2) hx hb dX4_isDone_58 (by decide) ?_
        refine n_iald C hK hP 2 2 rfl (by omega) (by omega) dX4_isDone_59 ?_
        refine lv_bipush (v := 30) hx hb dX4_isDone_60 (by decide) ?_
        refine lv_icmp_gt (x := nu 2) (y := 30) (tgt := 87) hx hb dX4_isDone_62 (by decide) (fun c_4 => ?_) (fun c_4 => ?_)
        · have zc_4 : ¬ (nu 2) ≤ 30 := Int32.not_le.mpr c_4
          refine lv_iconst (v := 0) hx hb dX4_isDone_87 (by decide) ?_
          exact n_zretW (v := false) (w1 := [(h, mO ad iv), (ad 0, iA G 57 r), (ad 8, iA G 4 nu)]) C (⟨by simp [sDo, sDoB, s_1, s_2, c_3, zc_3, c_4, zc_4], by simp [sDo, sDoR, s_1, s_2, c_3, zc_3, c_4, zc_4]⟩) hP hD hS (by first | omega | decide) (by first | omega | decide) dX4_isDone_88
        · have zc_4 : (nu 2) ≤ 30 := Int32.not_lt.mp c_4
          refine lv_aload_n hx hb dX4_isDone_65 rfl (lv_at hl 2 rfl) ?_
          refine va_get (D := gD G) (ci := 0) (v := .ref (ad 8)) (C := RX4) (T := TX4) (N := 20) hx hb hts in_X4 hown hK hP 0 rfl rfl 8 (by decide) (hts _ q1081) (fun _ h9 => h9) rfl dX4_isDone_66 ?_
          refine lv_iconst (v := 3) hx hb dX4_isDone_69 (by decide) ?_
          refine n_iald C hK hP 2 3 rfl (by omega) (by omega) dX4_isDone_70 ?_
          refine lv_bipush (v := 30) hx hb dX4_isDone_71 (by decide) ?_
          refine lv_icmp_gt (x := nu 3) (y := 30) (tgt := 87) hx hb dX4_isDone_73 (by decide) (fun c_5 => ?_) (fun c_5 => ?_)
          · have zc_5 : ¬ (nu 3) ≤ 30 := Int32.not_le.mpr c_5
            refine lv_iconst (v := 0) hx hb dX4_isDone_87 (by decide) ?_
            exact n_zretW (v := false) (w1 := [(h, mO ad iv), (ad 0, iA G 57 r), (ad 8, iA G 4 nu)]) C (⟨by simp [sDo, sDoB, s_1, s_2, c_3, zc_3, c_4, zc_4, c_5, zc_5], by simp [sDo, sDoR, s_1, s_2, c_3, zc_3, c_4, zc_4, c_5, zc_5]⟩) hP hD hS (by first | omega | decide) (by first | omega | decide) dX4_isDone_88
          · have zc_5 : (nu 3) ≤ 30 := Int32.not_lt.mp c_5
            refine lv_aload_n hx hb dX4_isDone_76 rfl (lv_at hl 2 rfl) ?_
            refine va_get (D := gD G) (ci := 0) (v := .ref (ad 0)) (C := RX4) (T := TX4) (N := 20) hx hb hts in_X4 hown hK hP 0 rfl rfl 0 (by decide) (hts _ q1073) (fun _ h9 => h9) rfl dX4_isDone_77 ?_
            refine lv_iconst (v := 0) hx hb dX4_isDone_80 (by decide) ?_
            refine n_iald C hK hP 1 0 rfl (by omega) (by omega) dX4_isDone_81 ?_
            refine n_eqi (hr) ?_
            refine lv_bipush (v := 8) hx hb dX4_isDone_82 (by decide) ?_
            refine n_ic_ne (x := N) (y := 8) (tgt := 89) hx hb (by omega) (by omega) dX4_isDone_84 (by decide) (fun c_6 => ?_) (fun c_6 => ?_)
            · have zc_6 : ¬ nI N = 8 := fun q => c_6 ((nI_eq (by omega) (by omega)).mp q)
              refine lv_aload_n hx hb dX4_isDone_89 rfl (lv_at hl 2 rfl) ?_
              refine va_get (D := gD G) (ci := 0) (v := .ref (ad 0)) (C := RX4) (T := TX4) (N := 20) hx hb hts in_X4 hown hK hP 0 rfl rfl 0 (by decide) (hts _ q1073) (fun _ h9 => h9) rfl dX4_isDone_90 ?_
              refine lv_iload_n hx hb dX4_isDone_93 rfl (lv_at hl 1 rfl) ?_
              refine lv_iload_n hx hb dX4_isDone_94 rfl (lv_at hl 0 rfl) ?_
              refine lv_aload_n hx hb dX4_isDone_95 rfl (lv_at hl 2 rfl) ?_
              refine va_get (D := gD G) (ci := 0) (v := .ref (ad 8)) (C := RX4) (T := TX4) (N := 20) hx hb hts in_X4 hown hK hP 0 rfl rfl 8 (by decide) (hts _ q1081) (fun _ h9 => h9) rfl dX4_isDone_96 ?_
              refine lv_iconst (v := 2) hx hb dX4_isDone_99 (by decide) ?_
              refine n_iald C hK hP 2 2 rfl (by omega) (by omega) dX4_isDone_100 ?_
              refine lv_aload_n hx hb dX4_isDone_101 rfl (lv_at hl 2 rfl) ?_
              refine va_get (D := gD G) (ci := 0) (v := .ref (ad 8)) (C := RX4) (T := TX4) (N := 20) hx hb hts in_X4 hown hK hP 0 rfl rfl 8 (by decide) (hts _ q1081) (fun _ h9 => h9) rfl dX4_isDone_102 ?_
              refine lv_iconst (v := 3) hx hb dX4_isDone_105 (by decide) ?_
              refine n_iald C hK hP 2 3 rfl (by omega) (by omega) dX4_isDone_106 ?_
              refine c_SWv (wr := [(h, mO ad iv), (ad 8, iA G 4 nu)]) (rest := []) C (metX4_adds l G (ad 0) r N (nu 0) (nu 1) (nu 2) (nu 3) (by omega) (hr)) 5 (lw_S q1167 q1168 q42 q1169) (by decide +kernel) ⟨rfl, rfl⟩ ⟨(Nat.le_of_ble_eq_true rfl), (Nat.le_of_ble_eq_true rfl)⟩ (KM_mv G) hK hA hP hD hS [1] [0, 2] rfl rfl rfl rfl (by decide) hl rfl rfl (Nat.le_of_ble_eq_true rfl) ⟨(Nat.le_of_ble_eq_true rfl), (Nat.le_of_ble_eq_true rfl)⟩ dX4_isDone_107 (fun w1 H locs hq_8 hP hD hS => ?_)
              obtain rfl := hq_8
              have hP : PP G [(h, mO ad iv), (ad 8, iA G 4 nu), (ad 0, iA G 57 (sAdds r N (nu 0) (nu 1) (nu 2) (nu 3)))] H := hP
              have hD : va_D A [(h, mO ad iv), (ad 8, iA G 4 nu), (ad 0, iA G 57 (sAdds r N (nu 0) (nu 1) (nu 2) (nu 3)))] := hD
              refine lv_iconst (v := 1) hx hb dX4_isDone_110 (by decide) ?_
              exact n_zretW (v := true) (w1 := [(h, mO ad iv), (ad 0, iA G 57 (sAdds r N (nu 0) (nu 1) (nu 2) (nu 3))), (ad 8, iA G 4 nu)]) C (⟨by simp [sDo, sDoB, s_1, s_2, c_3, zc_3, c_4, zc_4, c_5, zc_5, c_6, zc_6], by simp [sDo, sDoR, s_1, s_2, c_3, zc_3, c_4, zc_4, c_5, zc_5, c_6, zc_6]⟩) (hP.sub (ws' := [(h, mO ad iv), (ad 0, iA G 57 (sAdds r N (nu 0) (nu 1) (nu 2) (nu 3))), (ad 8, iA G 4 nu)]) [0, 2, 1] rfl) (hD.sub (ws' := [(h, mO ad iv), (ad 0, iA G 57 (sAdds r N (nu 0) (nu 1) (nu 2) (nu 3))), (ad 8, iA G 4 nu)]) [0, 2, 1] (by decide) rfl) hS (by first | omega | decide) (by first | omega | decide) dX4_isDone_111
            · obtain rfl := c_6
              have zc_6 : (nI 8 = 8) = True := eq_true rfl
              refine lv_iconst (v := 0) hx hb dX4_isDone_87 (by decide) ?_
              exact n_zretW (v := false) (w1 := [(h, mO ad iv), (ad 0, iA G 57 r), (ad 8, iA G 4 nu)]) C (⟨by simp [sDo, sDoB, s_1, s_2, c_3, zc_3, c_4, zc_4, c_5, zc_5, zc_6], by simp [sDo, sDoR, s_1, s_2, c_3, zc_3, c_4, zc_4, c_5, zc_5, zc_6]⟩) hP hD hS (by first | omega | decide) (by first | omega | decide) dX4_isDone_88
    · skip
      by_cases s_9 : k = 116
      · refine n_eqi s_9 ?_
        refine lv_lookup (off := 106) (tgt := 121) (x := 116) hx hb dX4_isDone_15 (by decide) (by decide) (by decide) ?_
        refine lv_aload_n hx hb dX4_isDone_121 rfl (lv_at hl 2 rfl) ?_
        refine lv_iload_n hx hb dX4_isDone_122 rfl (lv_at hl 1 rfl) ?_
        refine c_V (rest := []) C (metX4_isPerson l G h ad iv r N (nu 0) (hr)) 1 (lw_V q1173 q1175 qs28 q42 q1176) (by decide +kernel) ⟨rfl, rfl⟩ ⟨(Nat.le_of_ble_eq_true rfl), (Nat.le_of_ble_eq_true rfl)⟩ (KM_mv G) (va_recv hK hP (ci := 0) (q0 := 0) rfl rfl) (hP.sub (ws' := [(h, mO ad iv), (ad 0, iA G 57 r)]) [0, 1] rfl) hK hl rfl rfl (Nat.le_of_ble_eq_true rfl) ⟨(Nat.le_of_ble_eq_true rfl), (Nat.le_of_ble_eq_true rfl)⟩ dX4_isDone_123 ?_
        refine n_if_eqB (b := (sPer N (nu 0))) (tgt := 161) hx hb dX4_isDone_126 (by decide) (fun c_10 => ?_) (fun c_10 => ?_)
        · refine lv_iconst (v := 0) hx hb dX4_isDone_161 (by decide) ?_
          exact n_zretW (v := false) (w1 := [(h, mO ad iv), (ad 0, iA G 57 r), (ad 8, iA G 4 nu)]) C (⟨by simp [sDo, sDoB, s_1, s_2, s_9, c_10], by simp [sDo, sDoR, s_1, s_2, s_9, c_10]⟩) hP hD hS (by first | omega | decide) (by first | omega | decide) dX4_isDone_162
        · obtain ⟨nu_0_11, hnu_0_11, qnu_0_11⟩ := sPer_t (by omega) c_10
          have unu_0_11 : sPer N (nI nu_0_11) = true := by rw [← qnu_0_11]; exact c_10
          have tnu_0_11 : tn (nI nu_0_11) = nu_0_11 := nI_clamp (by omega)
          refine lv_aload_n hx hb dX4_isDone_129 rfl (lv_at hl 2 rfl) ?_
          refine lv_iload_n hx hb dX4_isDone_130 rfl (lv_at hl 0 rfl) ?_
          refine c_V (rest := []) C (metX4_isPerson l G h ad iv r N (nu 1) (hr)) 1 (lw_V q1173 q1175 qs28 q42 q1176) (by decide +kernel) ⟨rfl, rfl⟩ ⟨(Nat.le_of_ble_eq_true rfl), (Nat.le_of_ble_eq_true rfl)⟩ (KM_mv G) (va_recv hK hP (ci := 0) (q0 := 0) rfl rfl) (hP.sub (ws' := [(h, mO ad iv), (ad 0, iA G 57 r)]) [0, 1] rfl) hK hl rfl rfl (Nat.le_of_ble_eq_true rfl) ⟨(Nat.le_of_ble_eq_true rfl), (Nat.le_of_ble_eq_true rfl)⟩ dX4_isDone_131 ?_
          refine n_if_eqB (b := (sPer N (nu 1))) (tgt := 161) hx hb dX4_isDone_134 (by decide) (fun c_12 => ?_) (fun c_12 => ?_)
          · refine lv_iconst (v := 0) hx hb dX4_isDone_161 (by decide) ?_
            exact n_zretW (v := false) (w1 := [(h, mO ad iv), (ad 0, iA G 57 r), (ad 8, iA G 4 nu)]) C (⟨by simp [sDo, sDoB, s_1, s_2, s_9, c_10, qnu_0_11, unu_0_11, tnu_0_11, c_12], by simp [sDo, sDoR, s_1, s_2, s_9, c_10, qnu_0_11, unu_0_11, tnu_0_11, c_12]⟩) hP hD hS (by first | omega | decide) (by first | omega | decide) dX4_isDone_162
          · obtain ⟨nu_1_13, hnu_1_13, qnu_1_13⟩ := sPer_t (by omega) c_12
            have unu_1_13 : sPer N (nI nu_1_13) = true := by rw [← qnu_1_13]; exact c_12
            have tnu_1_13 : tn (nI nu_1_13) = nu_1_13 := nI_clamp (by omega)
            refine lv_aload_n hx hb dX4_isDone_137 rfl (lv_at hl 2 rfl) ?_
            refine va_get (D := gD G) (ci := 0) (v := .ref (ad 0)) (C := RX4) (T := TX4) (N := 20) hx hb hts in_X4 hown hK hP 0 rfl rfl 0 (by decide) (hts _ q1073) (fun _ h9 => h9) rfl dX4_isDone_138 ?_
            refine lv_iload_n hx hb dX4_isDone_141 rfl (lv_at hl 1 rfl) ?_
            refine n_eqi (qnu_0_11) ?_
            refine lv_iload_n hx hb dX4_isDone_142 rfl (lv_at hl 0 rfl) ?_
            refine n_eqi (qnu_1_13) ?_
            refine c_S (rest := []) C (metX4_canEat l G (ad 0) r nu_0_11 nu_1_13 (by omega) (by omega)) 3 (lw_S q1177 q1178 q42 q1179) (by decide +kernel) ⟨rfl, rfl⟩ ⟨(Nat.le_of_ble_eq_true rfl), (Nat.le_of_ble_eq_true rfl)⟩ (KM_mv G) (hP.sub (ws' := [(ad 0, iA G 57 r)]) [1] rfl) hK hl rfl rfl (Nat.le_of_ble_eq_true rfl) ⟨(Nat.le_of_ble_eq_true rfl), (Nat.le_of_ble_eq_true rfl)⟩ dX4_isDone_143 ?_
            refine n_if_eqB (b := (sEat r nu_0_11 nu_1_13)) (tgt := 161) hx hb dX4_isDone_146 (by decide) (fun c_14 => ?_) (fun c_14 => ?_)
            · refine lv_iconst (v := 0) hx hb dX4_isDone_161 (by decide) ?_
              exact n_zretW (v := false) (w1 := [(h, mO ad iv), (ad 0, iA G 57 r), (ad 8, iA G 4 nu)]) C (⟨by simp [sDo, sDoB, s_1, s_2, s_9, c_10, qnu_0_11, unu_0_11, tnu_0_11, c_12, qnu_1_13, unu_1_13, tnu_1_13, c_14], by simp [sDo, sDoR, s_1, s_2, s_9, c_10, qnu_0_11, unu_0_11, tnu_0_11, c_12, qnu_1_13, unu_1_13, tnu_1_13, c_14]⟩) hP hD hS (by first | omega | decide) (by first | omega | decide) dX4_isDone_162
            · refine lv_aload_n hx hb dX4_isDone_149 rfl (lv_at hl 2 rfl) ?_
              refine va_get (D := gD G) (ci := 0) (v := .ref (ad 0)) (C := RX4) (T := TX4) (N := 20) hx hb hts in_X4 hown hK hP 0 rfl rfl 0 (by decide) (hts _ q1073) (fun _ h9 => h9) rfl dX4_isDone_150 ?_
              refine lv_iconst (v := 2) hx hb dX4_isDone_153 (by decide) ?_
              refine n_iald C hK hP 1 2 rfl (by omega) (by omega) dX4_isDone_154 ?_
              refine lv_sipush (v := 999) hx hb dX4_isDone_155 (by decide) ?_
              refine lv_icmp_ne (x := r 2) (y := 999) (tgt := 163) hx hb dX4_isDone_158 (by decide) (fun c_15 => ?_) (fun c_15 => ?_)
              · refine lv_aload_n hx hb dX4_isDone_163 rfl (lv_at hl 2 rfl) ?_
                refine va_get (D := gD G) (ci := 0) (v := .ref (ad 0)) (C := RX4) (T := TX4) (N := 20) hx hb hts in_X4 hown hK hP 0 rfl rfl 0 (by decide) (hts _ q1073) (fun _ h9 => h9) rfl dX4_isDone_164 ?_
                refine lv_iload_n hx hb dX4_isDone_167 rfl (lv_at hl 1 rfl) ?_
                refine n_eqi (qnu_0_11) ?_
                refine lv_iload_n hx hb dX4_isDone_168 rfl (lv_at hl 0 rfl) ?_
                refine n_eqi (qnu_1_13) ?_
                refine c_SW (wr := [(h, mO ad iv), (ad 8, iA G 4 nu)]) (rest := []) C (metX4_turn l G (ad 0) r nu_0_11 nu_1_13 (by omega) (by omega)) 3 (lw_S q1183 q1184 q42 q1185) (by decide +kernel) ⟨rfl, rfl⟩ ⟨(Nat.le_of_ble_eq_true rfl), (Nat.le_of_ble_eq_true rfl)⟩ (KM_mv G) hK hA hP hD hS [1] [0, 2] rfl rfl rfl rfl (by decide) hl rfl rfl (Nat.le_of_ble_eq_true rfl) ⟨(Nat.le_of_ble_eq_true rfl), (Nat.le_of_ble_eq_true rfl)⟩ dX4_isDone_169 (fun r_16 w1 H locs hq_17 hP hD hS => ?_)
                obtain ⟨rfl, rfl⟩ := hq_17
                have hP : PP G [(h, mO ad iv), (ad 8, iA G 4 nu), (ad 0, iA G 57 (sTurn r nu_0_11 nu_1_13))] H := hP
                have hD : va_D A [(h, mO ad iv), (ad 8, iA G 4 nu), (ad 0, iA G 57 (sTurn r nu_0_11 nu_1_13))] := hD
                refine lv_istore (lv' := [(4, .int (sJoy r nu_0_11 nu_1_13)), (3, .int (nu 1)), (2, .int (nu 0)), (0, .ref h), (1, .int k)]) hx hb dX4_isDone_172 hl (Nat.le_of_ble_eq_true rfl) rfl (fun ls hl => ?_)
                refine lv_iconst (v := 1) hx hb dX4_isDone_174 (by decide) ?_
                exact n_zretW (v := true) (w1 := [(h, mO ad iv), (ad 0, iA G 57 (sTurn r nu_0_11 nu_1_13)), (ad 8, iA G 4 nu)]) C (⟨by simp [sDo, sDoB, s_1, s_2, s_9, c_10, qnu_0_11, unu_0_11, tnu_0_11, c_12, qnu_1_13, unu_1_13, tnu_1_13, c_14, c_15], by simp [sDo, sDoR, s_1, s_2, s_9, c_10, qnu_0_11, unu_0_11, tnu_0_11, c_12, qnu_1_13, unu_1_13, tnu_1_13, c_14, c_15]⟩) (hP.sub (ws' := [(h, mO ad iv), (ad 0, iA G 57 (sTurn r nu_0_11 nu_1_13)), (ad 8, iA G 4 nu)]) [0, 2, 1] rfl) (hD.sub (ws' := [(h, mO ad iv), (ad 0, iA G 57 (sTurn r nu_0_11 nu_1_13)), (ad 8, iA G 4 nu)]) [0, 2, 1] (by decide) rfl) hS (by first | omega | decide) (by first | omega | decide) dX4_isDone_175
              · refine lv_iconst (v := 0) hx hb dX4_isDone_161 (by decide) ?_
                exact n_zretW (v := false) (w1 := [(h, mO ad iv), (ad 0, iA G 57 r), (ad 8, iA G 4 nu)]) C (⟨by simp [sDo, sDoB, s_1, s_2, s_9, c_10, qnu_0_11, unu_0_11, tnu_0_11, c_12, qnu_1_13, unu_1_13, tnu_1_13, c_14, c_15], by simp [sDo, sDoR, s_1, s_2, s_9, c_10, qnu_0_11, unu_0_11, tnu_0_11, c_12, qnu_1_13, unu_1_13, tnu_1_13, c_14, c_15]⟩) hP hD hS (by first | omega | decide) (by first | omega | decide) dX4_isDone_162
      · skip
        refine lv_lookup (off := 161) (tgt := 176) (x := k) hx hb dX4_isDone_15 (by decide) (by show Op.lookupswitch.offset [(99, 97), (112, 33), (116, 106)] 161 k.toInt = 161; rw [lv_osw (a := 99) s_1 rfl]; rw [lv_osw (a := 112) s_2 rfl]; rw [lv_osw (a := 116) s_9 rfl]; rfl) (by decide) ?_
        refine lv_aload_n hx hb dX4_isDone_176 rfl (lv_at hl 2 rfl) ?_
        refine lv_iload_n hx hb dX4_isDone_177 rfl (lv_at hl 1 rfl) ?_
        refine c_V (rest := []) C (metX4_isPerson l G h ad iv r N (nu 0) (hr)) 1 (lw_V q1173 q1175 qs28 q42 q1176) (by decide +kernel) ⟨rfl, rfl⟩ ⟨(Nat.le_of_ble_eq_true rfl), (Nat.le_of_ble_eq_true rfl)⟩ (KM_mv G) (va_recv hK hP (ci := 0) (q0 := 0) rfl rfl) (hP.sub (ws' := [(h, mO ad iv), (ad 0, iA G 57 r)]) [0, 1] rfl) hK hl rfl rfl (Nat.le_of_ble_eq_true rfl) ⟨(Nat.le_of_ble_eq_true rfl), (Nat.le_of_ble_eq_true rfl)⟩ dX4_isDone_178 ?_
        refine n_if_eqB (b := (sPer N (nu 0))) (tgt := 190) hx hb dX4_isDone_181 (by decide) (fun c_18 => ?_) (fun c_18 => ?_)
        · refine lv_iconst (v := 0) hx hb dX4_isDone_190 (by decide) ?_
          exact n_zretW (v := false) (w1 := [(h, mO ad iv), (ad 0, iA G 57 r), (ad 8, iA G 4 nu)]) C (⟨by simp [sDo, sDoB, s_1, s_2, s_9, c_18], by simp [sDo, sDoR, s_1, s_2, s_9, c_18]⟩) hP hD hS (by first | omega | decide) (by first | omega | decide) dX4_isDone_191
        · obtain ⟨nu_0_19, hnu_0_19, qnu_0_19⟩ := sPer_t (by omega) c_18
          have unu_0_19 : sPer N (nI nu_0_19) = true := by rw [← qnu_0_19]; exact c_18
          have tnu_0_19 : tn (nI nu_0_19) = nu_0_19 := nI_clamp (by omega)
          refine lv_iload_n hx hb dX4_isDone_184 rfl (lv_at hl 0 rfl) ?_
          refine lv_bipush (v := 30) hx hb dX4_isDone_185 (by decide) ?_
          refine lv_icmp_le (x := nu 1) (y := 30) (tgt := 192) hx hb dX4_isDone_187 (by decide) (fun c_20 => ?_) (fun c_20 => ?_)
          · have zc_20 : ¬ 30 < (nu 1) := Int32.not_lt.mpr c_20
            refine lv_aload_n hx hb dX4_isDone_192 rfl (lv_at hl 2 rfl) ?_
            refine va_get (D := gD G) (ci := 0) (v := .ref (ad 0)) (C := RX4) (T := TX4) (N := 20) hx hb hts in_X4 hown hK hP 0 rfl rfl 0 (by decide) (hts _ q1073) (fun _ h9 => h9) rfl dX4_isDone_193 ?_
            refine lv_iload_n hx hb dX4_isDone_196 rfl (lv_at hl 1 rfl) ?_
            refine n_eqi (qnu_0_19) ?_
            refine lv_iload_n hx hb dX4_isDone_197 rfl (lv_at hl 3 rfl) ?_
            refine lv_bipush (v := 104) hx hb dX4_isDone_198 (by decide) ?_
            refine lv_icmp_ne (x := k) (y := 104) (tgt := 207) hx hb dX4_isDone_200 (by decide) (fun c_21 => ?_) (fun c_21 => ?_)
            · refine lv_iconst (v := 3) hx hb dX4_isDone_207 (by decide) ?_
              refine c_S (rest := [.ref (ad 0)]) C (metX4_of l G nu_0_19 3) 2 (lw_S q1170 q1171 q42 q1172) (by decide +kernel) ⟨rfl, rfl⟩ ⟨(Nat.le_of_ble_eq_true rfl), (Nat.le_of_ble_eq_true rfl)⟩ (KM_mv G) (hP.sub (ws' := []) [] rfl) hK hl rfl rfl (Nat.le_of_ble_eq_true rfl) ⟨(Nat.le_of_ble_eq_true rfl), (Nat.le_of_ble_eq_true rfl)⟩ dX4_isDone_208 ?_
              refine lv_iload_n hx hb dX4_isDone_211 rfl (lv_at hl 0 rfl) ?_
              refine n_iast (x := nu 1) C hK hP hD hS 1 (3 + 6 * nu_0_19 + 3) rfl (by omega) (by omega) dX4_isDone_212 (fun H locs hP hD hS => ?_)
              have hP : PP G [(h, mO ad iv), (ad 0, iA G 57 (upd r (3 + 6 * nu_0_19 + 3) (nu 1))), (ad 8, iA G 4 nu)] H := hP
              have hD : va_D A [(h, mO ad iv), (ad 0, iA G 57 (upd r (3 + 6 * nu_0_19 + 3) (nu 1))), (ad 8, iA G 4 nu)] := hD
              refine lv_iconst (v := 1) hx hb dX4_isDone_213 (by decide) ?_
              exact n_zretW (v := true) (w1 := [(h, mO ad iv), (ad 0, iA G 57 (upd r (3 + 6 * nu_0_19 + 3) (nu 1))), (ad 8, iA G 4 nu)]) C (⟨by simp [sDo, sDoB, s_1, s_2, s_9, c_18, qnu_0_19, unu_0_19, tnu_0_19, c_20, zc_20, c_21], by simp [sDo, sDoR, s_1, s_2, s_9, c_18, qnu_0_19, unu_0_19, tnu_0_19, c_20, zc_20, c_21]⟩) hP hD hS (by first | omega | decide) (by first | omega | decide) dX4_isDone_214
            · refine lv_iconst (v := 2) hx hb dX4_isDone_203 (by decide) ?_
              refine lv_goto (tgt := 208) hx hb dX4_isDone_204 (by decide) ?_
              refine c_S (rest := [.ref (ad 0)]) C (metX4_of l G nu_0_19 2) 2 (lw_S q1170 q1171 q42 q1172) (by decide +kernel) ⟨rfl, rfl⟩ ⟨(Nat.le_of_ble_eq_true rfl), (Nat.le_of_ble_eq_true rfl)⟩ (KM_mv G) (hP.sub (ws' := []) [] rfl) hK hl rfl rfl (Nat.le_of_ble_eq_true rfl) ⟨(Nat.le_of_ble_eq_true rfl), (Nat.le_of_ble_eq_true rfl)⟩ dX4_isDone_208 ?_
              refine lv_iload_n hx hb dX4_isDone_211 rfl (lv_at hl 0 rfl) ?_
              refine n_iast (x := nu 1) C hK hP hD hS 1 (3 + 6 * nu_0_19 + 2) rfl (by omega) (by omega) dX4_isDone_212 (fun H locs hP hD hS => ?_)
              have hP : PP G [(h, mO ad iv), (ad 0, iA G 57 (upd r (3 + 6 * nu_0_19 + 2) (nu 1))), (ad 8, iA G 4 nu)] H := hP
              have hD : va_D A [(h, mO ad iv), (ad 0, iA G 57 (upd r (3 + 6 * nu_0_19 + 2) (nu 1))), (ad 8, iA G 4 nu)] := hD
              refine lv_iconst (v := 1) hx hb dX4_isDone_213 (by decide) ?_
              exact n_zretW (v := true) (w1 := [(h, mO ad iv), (ad 0, iA G 57 (upd r (3 + 6 * nu_0_19 + 2) (nu 1))), (ad 8, iA G 4 nu)]) C (⟨by simp [sDo, sDoB, s_1, s_2, s_9, c_18, qnu_0_19, unu_0_19, tnu_0_19, c_20, zc_20, c_21], by simp [sDo, sDoR, s_1, s_2, s_9, c_18, qnu_0_19, unu_0_19, tnu_0_19, c_20, zc_20, c_21]⟩) hP hD hS (by first | omega | decide) (by first | omega | decide) dX4_isDone_214
          · have zc_20 : 30 < (nu 1) := Int32.not_le.mp c_20
            refine lv_iconst (v := 0) hx hb dX4_isDone_190 (by decide) ?_
            exact n_zretW (v := false) (w1 := [(h, mO ad iv), (ad 0, iA G 57 r), (ad 8, iA G 4 nu)]) C (⟨by simp [sDo, sDoB, s_1, s_2, s_9, c_18, qnu_0_19, unu_0_19, tnu_0_19, c_20, zc_20], by simp [sDo, sDoR, s_1, s_2, s_9, c_18, qnu_0_19, unu_0_19, tnu_0_19, c_20, zc_20]⟩) hP hD hS (by first | omega | decide) (by first | omega | decide) dX4_isDone_191
