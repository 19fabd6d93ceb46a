theorem ft_post {G : GG} {h : Nat} {ad : Nat → Nat} {iv iv1 r r1 g n1 ke so el : Nat → Int32} {zz : Nat → Nat} {a b : Int32} (ha : a = b) (hr : r1 = r) (hi : ∀ j, j ≠ 5 → j ≠ 6 → j ≠ 7 → iv1 j = iv j) : a = b ∧ ∃ (iv2 : Nat → Int32) (g2 n2 : Nat → Int32), (∀ j, j ≠ 5 → j ≠ 6 → j ≠ 7 → iv2 j = iv j) ∧ [(h, mO ad iv1), (ad 0, iA G 57 r1), (ad 3, iA G 57 g), (ad 8, iA G 4 n1), (ad 13, iA G 8 ke), (ad 16, iA G 8 so), (ad 17, iA G 8 (nIf zz)), (ad 18, iA G 800 el)] = [(h, mO ad iv2), (ad 0, iA G 57 r), (ad 3, iA G 57 g2), (ad 8, iA G 4 n2), (ad 13, iA G 8 ke), (ad 16, iA G 8 so), (ad 17, iA G 8 (nIf zz)), (ad 18, iA G 800 el)] := ⟨ha, iv1, g, n1, hi, by rw [hr]⟩
set_option maxHeartbeats 4000000 in
set_option maxRecDepth 100000 in
theorem metX4_fete (l : Launch) (G : GG) (h : Nat) (ad : Nat → Nat) (iv : Nat → Int32) (r : Nat → Int32) (N : Nat) (rw nu ke so el : Nat → Int32) (zz : Nat → Nat) (d : Int32) (hN : N ≤ 8) (hr : r 0 = nI N) (hz : ∀ d, zz d ≤ 100) : MW l yX4_fete cX4_fete 8 (some .int) ({ frames := 6, cells := 0, slots := 0, locals := 133 }) [.ref h, .int d] [(h, mO ad iv), (ad 0, iA G 57 r), (ad 3, iA G 57 rw), (ad 8, iA G 4 nu), (ad 13, iA G 8 ke), (ad 16, iA G 8 so), (ad 17, iA G 8 (nIf zz)), (ad 18, iA G 800 el)] G (KM G) 0 0 (fun rv w1 => rv = sFA ke so zz el r N nu d ∧ ∃ (iv1 : Nat → Int32) (g n1 : Nat → Int32), (∀ j, j ≠ 5 → j ≠ 6 → j ≠ 7 → iv1 j = iv j) ∧ w1 = [(h, mO ad iv1), (ad 0, iA G 57 (sFS ke so zz el r N nu d)), (ad 3, iA G 57 g), (ad 8, iA G 4 n1), (ad 13, iA G 8 ke), (ad 16, iA G 8 so), (ad 17, iA G 8 (nIf zz)), (ad 18, iA G 800 el)]) := by
  -- rows printed by wip/tools/gen.py
  refine mw_mk RX4 (by decide) rfl (Nat.le_of_ble_eq_true rfl) ?_
  intro p0_ e0_ s m args below meth c A C hA hP hK hD ls hl
  have hx := C.1
  have hb := C.2.1
  have hml := C.2.2.2.2.1
  have hown := C.2.2.2.2.2.1
  have hts := C.2.2.2.2.2.2
  have hS : va_S A s.heap s.heap [] := va_S.rf
  have hl : lv_has ls 8 [(0, .ref h), (1, .int d)] := hl
  refine lv_aload_n hx hb dX4_fete_0 rfl (lv_at hl 0 rfl) ?_
  refine lv_iload_n hx hb dX4_fete_1 rfl (lv_at hl 1 rfl) ?_
  refine lv_iconst (v := 0) hx hb dX4_fete_2 (by decide) ?_
  refine c_V (rest := []) C (metX4_wrongRow l G h ad iv ke so d 0) 2 (lw_V q1138 q1140 qs23 q42 q1141) (by decide +kernel) ⟨rfl, rfl⟩ ⟨(Nat.le_of_ble_eq_true rfl), (Nat.le_of_ble_eq_true rfl)⟩ (KM_mv G) (va_recv hK hP (ci := 0) (q0 := 0) rfl rfl) (hP.sub (ws' := [(h, mO ad iv), (ad 13, iA G 8 ke), (ad 16, iA G 8 so)]) [0, 4, 5] rfl) hK hl rfl rfl (Nat.le_of_ble_eq_true rfl) ⟨(Nat.le_of_ble_eq_true rfl), (Nat.le_of_ble_eq_true rfl)⟩ dX4_fete_3 ?_
  refine lv_istore_n (lv' := [(2, .int (sWR ke so d 0)), (0, .ref h), (1, .int d)]) hx hb dX4_fete_6 rfl hl (Nat.le_of_ble_eq_true rfl) rfl (fun ls hl => ?_)
  refine lv_iload_n hx hb dX4_fete_7 rfl (lv_at hl 0 rfl) ?_
  refine lv_if_eq (x := sWR ke so d 0) (tgt := 13) hx hb dX4_fete_8 (by decide) (fun c_1 => ?_) (fun c_1 => ?_)
  · obtain ⟨dn, gd, k1, k2, rfl⟩ := sWR_0 c_1
    have t_dn : tn (nI dn) = dn := nI_clamp (by omega)
    refine lv_aload_n hx hb dX4_fete_13 rfl (lv_at hl 1 rfl) ?_
    refine lv_bipush (v := 100) hx hb dX4_fete_14 (by decide) ?_
    refine lv_iload_n hx hb dX4_fete_16 rfl (lv_at hl 2 rfl) ?_
    refine n_imul hx hb 100 dn dX4_fete_17 ?_
    refine lv_topi (fun yv_2 eyv_2 => ?_)
    refine va_put (D := gD G) (ci := 0) (v := .int yv_2) (ty := .int) (C := RX4) (T := TX4) (N := 20) hx hb hts in_X4 tyX4 tyX4_ok nmX4 hown hK hP hD hS 0 rfl rfl 6 (by decide) (hts _ q1079) (fun _ h9 => h9) rfl (by decide +kernel) rfl rfl (Nat.le_of_ble_eq_true rfl) dX4_fete_18 (fun H locs hP hD hS => ?_)
    have hP : PP G [(h, mO ad (upd iv 6 yv_2)), (ad 0, iA G 57 r), (ad 3, iA G 57 rw), (ad 8, iA G 4 nu), (ad 13, iA G 8 ke), (ad 16, iA G 8 so), (ad 17, iA G 8 (nIf zz)), (ad 18, iA G 800 el)] H := hP
    have hD : va_D A [(h, mO ad (upd iv 6 yv_2)), (ad 0, iA G 57 r), (ad 3, iA G 57 rw), (ad 8, iA G 4 nu), (ad 13, iA G 8 ke), (ad 16, iA G 8 so), (ad 17, iA G 8 (nIf zz)), (ad 18, iA G 800 el)] := hD
    subst eyv_2
    refine lv_aload_n hx hb dX4_fete_21 rfl (lv_at hl 1 rfl) ?_
    refine lv_aload_n hx hb dX4_fete_22 rfl (lv_at hl 1 rfl) ?_
    refine va_get (D := gD G) (ci := 0) (v := .ref (ad 17)) (C := RX4) (T := TX4) (N := 20) hx hb hts in_X4 hown hK hP 0 rfl rfl 17 (by decide) (hts _ q1090) (fun _ h9 => h9) rfl dX4_fete_23 ?_
    refine lv_iload_n hx hb dX4_fete_26 rfl (lv_at hl 2 rfl) ?_
    refine n_iald C hK hP 6 dn rfl (by omega) (by omega) dX4_fete_27 ?_
    have hz_3 := hz dn
    refine lv_topi (fun yv_4 eyv_4 => ?_)
    refine va_put (D := gD G) (ci := 0) (v := .int yv_4) (ty := .int) (C := RX4) (T := TX4) (N := 20) hx hb hts in_X4 tyX4 tyX4_ok nmX4 hown hK hP hD hS 0 rfl rfl 7 (by decide) (hts _ q1080) (fun _ h9 => h9) rfl (by decide +kernel) rfl rfl (Nat.le_of_ble_eq_true rfl) dX4_fete_28 (fun H locs hP hD hS => ?_)
    have hP : PP G [(h, mO ad (upd (upd iv 6 (nI (100 * dn))) 7 yv_4)), (ad 0, iA G 57 r), (ad 3, iA G 57 rw), (ad 8, iA G 4 nu), (ad 13, iA G 8 ke), (ad 16, iA G 8 so), (ad 17, iA G 8 (nIf zz)), (ad 18, iA G 800 el)] H := hP
    have hD : va_D A [(h, mO ad (upd (upd iv 6 (nI (100 * dn))) 7 yv_4)), (ad 0, iA G 57 r), (ad 3, iA G 57 rw), (ad 8, iA G 4 nu), (ad 13, iA G 8 ke), (ad 16, iA G 8 so), (ad 17, iA G 8 (nIf zz)), (ad 18, iA G 800 el)] := hD
    subst eyv_4
    refine lv_aload_n hx hb dX4_fete_31 rfl (lv_at hl 1 rfl) ?_
    refine lv_iconst (v := 0) hx hb dX4_fete_32 (by decide) ?_
    refine va_put (D := gD G) (ci := 0) (v := .int 0) (ty := .int) (C := RX4) (T := TX4) (N := 20) hx hb hts in_X4 tyX4 tyX4_ok nmX4 hown hK hP hD hS 0 rfl rfl 5 (by decide) (hts _ q1078) (fun _ h9 => h9) rfl (by decide +kernel) rfl rfl (Nat.le_of_ble_eq_true rfl) dX4_fete_33 (fun H locs hP hD hS => ?_)
    have hP : PP G [(h, mO ad (upd (upd (upd iv 5 0) 6 (nI (100 * dn))) 7 (nI (zz dn)))), (ad 0, iA G 57 r), (ad 3, iA G 57 rw), (ad 8, iA G 4 nu), (ad 13, iA G 8 ke), (ad 16, iA G 8 so), (ad 17, iA G 8 (nIf zz)), (ad 18, iA G 800 el)] H := hP
    have hD : va_D A [(h, mO ad (upd (upd (upd iv 5 0) 6 (nI (100 * dn))) 7 (nI (zz dn)))), (ad 0, iA G 57 r), (ad 3, iA G 57 rw), (ad 8, iA G 4 nu), (ad 13, iA G 8 ke), (ad 16, iA G 8 so), (ad 17, iA G 8 (nIf zz)), (ad 18, iA G 800 el)] := hD
    refine lv_iconst (v := 0) hx hb dX4_fete_36 (by decide) ?_
    refine lv_istore_n (lv' := [(3, .int 0), (2, .int (sWR ke so (nI dn) 0)), (0, .ref h), (1, .int (nI dn))]) hx hb dX4_fete_37 rfl hl (Nat.le_of_ble_eq_true rfl) rfl (fun ls hl => ?_)
    refine lv_iconst (v := 0) hx hb dX4_fete_38 (by decide) ?_
    refine lv_istore (lv' := [(4, .int 0), (3, .int 0), (2, .int (sWR ke so (nI dn) 0)), (0, .ref h), (1, .int (nI dn))]) hx hb dX4_fete_39 hl (Nat.le_of_ble_eq_true rfl) rfl (fun ls hl => ?_)
    suffices hlp_5 : ∀ (n : Nat) (pl k f : Nat) (nu1 : Nat → Int32), f < n → ∀ (H : Heap) (locs : List Loc), PP G [(h, mO ad (upd (upd (upd iv 5 (nI pl)) 6 (nI (100 * dn))) 7 (nI (zz dn)))), (ad 0, iA G 57 r), (ad 3, iA G 57 rw), (ad 8, iA G 4 nu1), (ad 13, iA G 8 ke), (ad 16, iA G 8 so), (ad 17, iA G 8 (nIf zz)), (ad 18, iA G 800 el)] H → va_D A [(h, mO ad (upd (upd (upd iv 5 (nI pl)) 6 (nI (100 * dn))) 7 (nI (zz dn)))), (ad 0, iA G 57 r), (ad 3, iA G 57 rw), (ad 8, iA G 4 nu1), (ad 13, iA G 8 ke), (ad 16, iA G 8 so), (ad 17, iA G 8 (nIf zz)), (ad 18, iA G 800 el)] → va_S A s.heap H locs → (ps1 (tM el (100 * dn) (zz dn)) (zz dn) (zz dn + 1) 0 0 nu = ps1 (tM el (100 * dn) (zz dn)) (zz dn) f pl k nu1) → (zz dn < f + pl) → (pl ≤ zz dn) → (k ≤ pl) → ∀ (ls : Array Slot), lv_has ls 8 [(4, .int 0), (3, .int (nI k)), (0, .ref h), (1, .int (nI dn))] → W p0_ l e0_ ({ frames := 6, cells := 0, slots := 0, locals := 133 } : Room) s m args below meth c H locs (0) (0) (MQ below (va_Qi (S := va_W) (fun rv w1 => rv = sFA ke so zz el r N nu (nI dn) ∧ ∃ (iv1 : Nat → Int32) (g n1 : Nat → Int32), (∀ j, j ≠ 5 → j ≠ 6 → j ≠ 7 → iv1 j = iv j) ∧ w1 = [(h, mO ad iv1), (ad 0, iA G 57 (sFS ke so zz el r N nu (nI dn))), (ad 3, iA G 57 g), (ad 8, iA G 4 n1), (ad 13, iA G 8 ke), (ad 16, iA G 8 so), (ad 17, iA G 8 (nIf zz)), (ad 18, iA G 800 el)]) (fun w1 t => PP G w1 t.heap ∧ va_D A w1) A) args s 0 0 A) (F0 m 41 ls []) by
      have hzd := hz dn
      exact hlp_5 (zz dn + 1 + 1) 0 0 (zz dn + 1) nu (Nat.lt_succ_self _) _ _ (hP.sub [0, 1, 2, 3, 4, 5, 6, 7] rfl) (hD.sub [0, 1, 2, 3, 4, 5, 6, 7] (by decide) rfl) hS (rfl) (by omega) (by omega) (by omega) ls (lv_sub hl [0, 1, 3, 4] rfl)
    intro n
    induction n with
    | zero => intro pl k f nu1 hmu_5 H locs hP hD hS hg hf hpr hkp ls hl; exact absurd hmu_5 (Nat.not_lt_zero _)
    | succ n ih_5 =>
      intro pl k f nu1 hmu_5 H locs hP hD hS hg hf hpr hkp ls hl
      have hzd := hz dn
      have e9 : f = (f - 1) + 1 := by omega
      refine lv_aload_n hx hb dX4_fete_41 rfl (lv_at hl 2 rfl) ?_
      refine c_VW (wr := [(ad 0, iA G 57 r), (ad 3, iA G 57 rw), (ad 13, iA G 8 ke), (ad 16, iA G 8 so), (ad 17, iA G 8 (nIf zz))]) (rest := []) C (metX4_readsStatement l G h ad iv el (100 * dn) (zz dn) pl nu1 (by omega) (by omega)) 0 (lw_V q1148 q1150 qs24 q42 q1151) (by decide +kernel) ⟨rfl, rfl⟩ ⟨(Nat.le_of_ble_eq_true rfl), (Nat.le_of_ble_eq_true rfl)⟩ (KM_mv G) hK (va_recv hK hP (ci := 0) (q0 := 0) rfl rfl) hA hP hD hS [0, 3, 7] [1, 2, 4, 5, 6] rfl rfl rfl rfl (by decide) hl rfl rfl (Nat.le_of_ble_eq_true rfl) ⟨(Nat.le_of_ble_eq_true rfl), (Nat.le_of_ble_eq_true rfl)⟩ dX4_fete_42 (fun r_6 w1 H locs hq_7 hP hD hS => ?_)
      obtain ⟨rfl, rfl⟩ := hq_7
      have hP : PP G [(ad 0, iA G 57 r), (ad 3, iA G 57 rw), (ad 13, iA G 8 ke), (ad 16, iA G 8 so), (ad 17, iA G 8 (nIf zz)), (h, mO ad (upd (upd (upd iv 5 (nI ((stS (tM el (100 * dn) (zz dn)) pl nu1).2.1))) 6 (nI (100 * dn))) 7 (nI (zz dn)))), (ad 8, iA G 4 ((stS (tM el (100 * dn) (zz dn)) pl nu1).2.2)), (ad 18, iA G 800 el)] H := hP
      have hD : va_D A [(ad 0, iA G 57 r), (ad 3, iA G 57 rw), (ad 13, iA G 8 ke), (ad 16, iA G 8 so), (ad 17, iA G 8 (nIf zz)), (h, mO ad (upd (upd (upd iv 5 (nI ((stS (tM el (100 * dn) (zz dn)) pl nu1).2.1))) 6 (nI (100 * dn))) 7 (nI (zz dn)))), (ad 8, iA G 4 ((stS (tM el (100 * dn) (zz dn)) pl nu1).2.2)), (ad 18, iA G 800 el)] := hD
      have af_8 := stS_le (tM el (100 * dn) (zz dn)) pl nu1
      refine n_if_neB (b := (stS (tM el (100 * dn) (zz dn)) pl nu1).1) (tgt := 58) hx hb dX4_fete_45 (by decide) (fun c_9 => ?_) (fun c_9 => ?_)
      · have hadv1 := (stS_le (tM el (100 * dn) (zz dn)) pl nu1).2.2 c_9
        refine n_iinc (k := 1) (lv' := [(3, .int (nI (k + 1))), (4, .int 0), (0, .ref h), (1, .int (nI dn))]) hx hb k 1 dX4_fete_58 hl rfl (Nat.le_of_ble_eq_true rfl) rfl (fun ls hl => ?_)
        refine lv_iload hx hb dX4_fete_61 (lv_at hl 1 rfl) ?_
        refine lv_if_ne (x := 0) (tgt := 77) hx hb dX4_fete_63 (by decide) (fun c_10 => absurd c_10 (by decide)) (fun c_10 => ?_)
        refine lv_aload_n hx hb dX4_fete_66 rfl (lv_at hl 2 rfl) ?_
        refine va_get (D := gD G) (ci := 0) (v := .int (nI ((stS (tM el (100 * dn) (zz dn)) pl nu1).2.1))) (C := RX4) (T := TX4) (N := 20) hx hb hts in_X4 hown hK hP 5 rfl rfl 5 (by decide) (hts _ q1078) (fun _ h9 => h9) rfl dX4_fete_67 ?_
        refine lv_aload_n hx hb dX4_fete_70 rfl (lv_at hl 2 rfl) ?_
        refine va_get (D := gD G) (ci := 0) (v := .int (nI (zz dn))) (C := RX4) (T := TX4) (N := 20) hx hb hts in_X4 hown hK hP 5 rfl rfl 7 (by decide) (hts _ q1080) (fun _ h9 => h9) rfl dX4_fete_71 ?_
        refine n_ic_lt (x := (stS (tM el (100 * dn) (zz dn)) pl nu1).2.1) (y := zz dn) (tgt := 41) hx hb (by omega) (by omega) dX4_fete_74 (by decide) (fun c_11 => ?_) (fun c_11 => ?_)
        · have zc_11 : ¬ zz dn ≤ (stS (tM el (100 * dn) (zz dn)) pl nu1).2.1 := Nat.not_le.mpr c_11
          exact ih_5 ((stS (tM el (100 * dn) (zz dn)) pl nu1).2.1) (k + 1) (f - 1) ((stS (tM el (100 * dn) (zz dn)) pl nu1).2.2) (by omega) _ _ (hP.sub [5, 0, 1, 6, 2, 3, 4, 7] rfl) (hD.sub [5, 0, 1, 6, 2, 3, 4, 7] (by decide) rfl) hS (by rw [hg, e9, ps1]; simp [c_9, c_10, c_11, zc_11]) (by omega) (by omega) (by omega) ls (lv_sub hl [1, 0, 2, 3] rfl)
        · have zc_11 : ¬ (stS (tM el (100 * dn) (zz dn)) pl nu1).2.1 < zz dn := Nat.not_lt.mpr c_11
          have hp1 : ps1 (tM el (100 * dn) (zz dn)) (zz dn) (zz dn + 1) 0 0 nu = (0, k + 1, (stS (tM el (100 * dn) (zz dn)) pl nu1).2.2) := by rw [hg, e9, ps1]; simp [c_1, t_dn, k1, k2, c_9, c_10, c_11, zc_11]
          have hok1 := ps1_ok (t := (tM el (100 * dn) (zz dn))) (re := zz dn) hzd (zz dn + 1) 0 0 nu (by omega) (by omega) (by rw [hp1])
          refine lv_aload_n hx hb dX4_fete_77 rfl (lv_at hl 2 rfl) ?_
          refine va_get (D := gD G) (ci := 0) (v := .ref (ad 0)) (C := RX4) (T := TX4) (N := 20) hx hb hts in_X4 hown hK hP 5 rfl rfl 0 (by decide) (hts _ q1073) (fun _ h9 => h9) rfl dX4_fete_78 ?_
          refine lv_aload_n hx hb dX4_fete_81 rfl (lv_at hl 2 rfl) ?_
          refine va_get (D := gD G) (ci := 0) (v := .ref (ad 3)) (C := RX4) (T := TX4) (N := 20) hx hb hts in_X4 hown hK hP 5 rfl rfl 3 (by decide) (hts _ q1076) (fun _ h9 => h9) rfl dX4_fete_82 ?_
          refine c_SWv (wr := [(ad 13, iA G 8 ke), (ad 16, iA G 8 so), (ad 17, iA G 8 (nIf zz)), (h, mO ad (upd (upd (upd iv 5 (nI ((stS (tM el (100 * dn) (zz dn)) pl nu1).2.1))) 6 (nI (100 * dn))) 7 (nI (zz dn)))), (ad 8, iA G 4 ((stS (tM el (100 * dn) (zz dn)) pl nu1).2.2)), (ad 18, iA G 800 el)]) (rest := []) C (metX4_copies l G (ad 0) (ad 3) r rw) 2 (lw_S q1160 q1161 q42 q1162) (by decide +kernel) ⟨rfl, rfl⟩ ⟨(Nat.le_of_ble_eq_true rfl), (Nat.le_of_ble_eq_true rfl)⟩ (KM_mv G) hK hA hP hD hS [0, 1] [2, 3, 4, 5, 6, 7] rfl rfl rfl rfl (by decide) hl rfl rfl (Nat.le_of_ble_eq_true rfl) ⟨(Nat.le_of_ble_eq_true rfl), (Nat.le_of_ble_eq_true rfl)⟩ dX4_fete_85 (fun w1 H locs hq_13 hP hD hS => ?_)
          obtain rfl := hq_13
          have hP : PP G [(ad 13, iA G 8 ke), (ad 16, iA G 8 so), (ad 17, iA G 8 (nIf zz)), (h, mO ad (upd (upd (upd iv 5 (nI ((stS (tM el (100 * dn) (zz dn)) pl nu1).2.1))) 6 (nI (100 * dn))) 7 (nI (zz dn)))), (ad 8, iA G 4 ((stS (tM el (100 * dn) (zz dn)) pl nu1).2.2)), (ad 18, iA G 800 el), (ad 0, iA G 57 r), (ad 3, iA G 57 r)] H := hP
          have hD : va_D A [(ad 13, iA G 8 ke), (ad 16, iA G 8 so), (ad 17, iA G 8 (nIf zz)), (h, mO ad (upd (upd (upd iv 5 (nI ((stS (tM el (100 * dn) (zz dn)) pl nu1).2.1))) 6 (nI (100 * dn))) 7 (nI (zz dn)))), (ad 8, iA G 4 ((stS (tM el (100 * dn) (zz dn)) pl nu1).2.2)), (ad 18, iA G 800 el), (ad 0, iA G 57 r), (ad 3, iA G 57 r)] := hD
          refine lv_aload_n hx hb dX4_fete_88 rfl (lv_at hl 2 rfl) ?_
          refine lv_iconst (v := 0) hx hb dX4_fete_89 (by decide) ?_
          refine va_put (D := gD G) (ci := 0) (v := .int 0) (ty := .int) (C := RX4) (T := TX4) (N := 20) hx hb hts in_X4 tyX4 tyX4_ok nmX4 hown hK hP hD hS 3 rfl rfl 5 (by decide) (hts _ q1078) (fun _ h9 => h9) rfl (by decide +kernel) rfl rfl (Nat.le_of_ble_eq_true rfl) dX4_fete_90 (fun H locs hP hD hS => ?_)
          have hP : PP G [(ad 13, iA G 8 ke), (ad 16, iA G 8 so), (ad 17, iA G 8 (nIf zz)), (h, mO ad (upd (upd (upd iv 5 0) 6 (nI (100 * dn))) 7 (nI (zz dn)))), (ad 8, iA G 4 ((stS (tM el (100 * dn) (zz dn)) pl nu1).2.2)), (ad 18, iA G 800 el), (ad 0, iA G 57 r), (ad 3, iA G 57 r)] H := hP
          have hD : va_D A [(ad 13, iA G 8 ke), (ad 16, iA G 8 so), (ad 17, iA G 8 (nIf zz)), (h, mO ad (upd (upd (upd iv 5 0) 6 (nI (100 * dn))) 7 (nI (zz dn)))), (ad 8, iA G 4 ((stS (tM el (100 * dn) (zz dn)) pl nu1).2.2)), (ad 18, iA G 800 el), (ad 0, iA G 57 r), (ad 3, iA G 57 r)] := hD
          suffices hlp_14 : ∀ (n : Nat) (p2 f2 N2 : Nat) (rr n2 : Nat → Int32), f2 < n → ∀ (H : Heap) (locs : List Loc), PP G [(ad 13, iA G 8 ke), (ad 16, iA G 8 so), (ad 17, iA G 8 (nIf zz)), (h, mO ad (upd (upd (upd iv 5 (nI p2)) 6 (nI (100 * dn))) 7 (nI (zz dn)))), (ad 8, iA G 4 n2), (ad 18, iA G 800 el), (ad 0, iA G 57 rr), (ad 3, iA G 57 r)] H → va_D A [(ad 13, iA G 8 ke), (ad 16, iA G 8 so), (ad 17, iA G 8 (nIf zz)), (h, mO ad (upd (upd (upd iv 5 (nI p2)) 6 (nI (100 * dn))) 7 (nI (zz dn)))), (ad 8, iA G 4 n2), (ad 18, iA G 800 el), (ad 0, iA G 57 rr), (ad 3, iA G 57 r)] → va_S A s.heap H locs → (ps2 (tM el (100 * dn) (zz dn)) (zz dn) r (zz dn) 0 r N (stS (tM el (100 * dn) (zz dn)) pl nu1).2.2 = ps2 (tM el (100 * dn) (zz dn)) (zz dn) r f2 p2 rr N2 n2) → (zz dn ≤ f2 + p2) → (zz dn ≤ p2 ∨ ∃ f9, okp (tM el (100 * dn) (zz dn)) (zz dn) f9 p2 = true) → (N2 ≤ 8) → (rr 0 = nI N2) → (p2 ≤ zz dn + 8) → ∀ (ls : Array Slot), lv_has ls 8 [(3, .int (nI (k + 1))), (4, .int 0), (0, .ref h), (1, .int (nI dn))] → W p0_ l e0_ ({ frames := 6, cells := 0, slots := 0, locals := 133 } : Room) s m args below meth c H locs (0) (0) (MQ below (va_Qi (S := va_W) (fun rv w1 => rv = sFA ke so zz el r N nu (nI dn) ∧ ∃ (iv1 : Nat → Int32) (g n1 : Nat → Int32), (∀ j, j ≠ 5 → j ≠ 6 → j ≠ 7 → iv1 j = iv j) ∧ w1 = [(h, mO ad iv1), (ad 0, iA G 57 (sFS ke so zz el r N nu (nI dn))), (ad 3, iA G 57 g), (ad 8, iA G 4 n1), (ad 13, iA G 8 ke), (ad 16, iA G 8 so), (ad 17, iA G 8 (nIf zz)), (ad 18, iA G 800 el)]) (fun w1 t => PP G w1 t.heap ∧ va_D A w1) A) args s 0 0 A) (F0 m 93 ls []) by
            exact hlp_14 (zz dn + 1) 0 (zz dn) N r ((stS (tM el (100 * dn) (zz dn)) pl nu1).2.2) (Nat.lt_succ_self _) _ _ (hP.sub [0, 1, 2, 3, 4, 5, 6, 7] rfl) (hD.sub [0, 1, 2, 3, 4, 5, 6, 7] (by decide) rfl) hS (rfl) (by omega) (Or.inr ⟨_, hok1⟩) (hN) (hr) (by omega) ls (lv_sub hl [0, 1, 2, 3] rfl)
          intro n
          induction n with
          | zero => intro p2 f2 N2 rr n2 hmu_14 H locs hP hD hS hg2 hf2 hok hN2 hr2 hp2 ls hl; exact absurd hmu_14 (Nat.not_lt_zero _)
          | succ n ih_14 =>
            intro p2 f2 N2 rr n2 hmu_14 H locs hP hD hS hg2 hf2 hok hN2 hr2 hp2 ls hl
            refine lv_iload hx hb dX4_fete_93 (lv_at hl 1 rfl) ?_
            refine lv_if_ne (x := 0) (tgt := 161) hx hb dX4_fete_95 (by decide) (fun c_15 => absurd c_15 (by decide)) (fun c_15 => ?_)
            refine lv_aload_n hx hb dX4_fete_98 rfl (lv_at hl 2 rfl) ?_
            refine va_get (D := gD G) (ci := 0) (v := .int (nI p2)) (C := RX4) (T := TX4) (N := 20) hx hb hts in_X4 hown hK hP 3 rfl rfl 5 (by decide) (hts _ q1078) (fun _ h9 => h9) rfl dX4_fete_99 ?_
            refine lv_aload_n hx hb dX4_fete_102 rfl (lv_at hl 2 rfl) ?_
            refine va_get (D := gD G) (ci := 0) (v := .int (nI (zz dn))) (C := RX4) (T := TX4) (N := 20) hx hb hts in_X4 hown hK hP 3 rfl rfl 7 (by decide) (hts _ q1080) (fun _ h9 => h9) rfl dX4_fete_103 ?_
            refine n_ic_ge (x := p2) (y := zz dn) (tgt := 161) hx hb (by omega) (by omega) dX4_fete_106 (by decide) (fun c_16 => ?_) (fun c_16 => ?_)
            · have zc_16 : ¬ p2 < zz dn := Nat.not_lt.mpr c_16
              have hq2 : ps2 (tM el (100 * dn) (zz dn)) (zz dn) r (zz dn) 0 r N (stS (tM el (100 * dn) (zz dn)) pl nu1).2.2 = (0, rr) := by rw [hg2]; cases f2 with | zero => rw [ps2] | succ f2 => rw [ps2, if_neg (by omega)]
              refine lv_iload hx hb dX4_fete_161 (lv_at hl 1 rfl) ?_
              refine lv_if_ne (x := 0) (tgt := 170) hx hb dX4_fete_163 (by decide) (fun c_17 => absurd c_17 (by decide)) (fun c_17 => ?_)
              refine lv_iload_n hx hb dX4_fete_166 rfl (lv_at hl 0 rfl) ?_
              refine lv_goto (tgt := 172) hx hb dX4_fete_167 (by decide) ?_
              exact n_iretW (v := nI (k + 1)) (w1 := [(h, mO ad (upd (upd (upd iv 5 (nI p2)) 6 (nI (100 * dn))) 7 (nI (zz dn)))), (ad 0, iA G 57 rr), (ad 3, iA G 57 r), (ad 8, iA G 4 n2), (ad 13, iA G 8 ke), (ad 16, iA G 8 so), (ad 17, iA G 8 (nIf zz)), (ad 18, iA G 800 el)]) C (ft_post (by first | (simp [sFA, sFS, sFeteA, sFeteS, c_1, t_dn, k1, k2, c_9, c_10, c_11, zc_11, hp1, c_15, c_16, zc_16, hq2, c_17]; done)) (by first | rfl | (simp [sFA, sFS, sFeteA, sFeteS, c_1, t_dn, k1, k2, c_9, c_10, c_11, zc_11, hp1, c_15, c_16, zc_16, hq2, c_17]; done)) (by intro j h5 h6 h7; first | rfl | (simp [upd, h5, h6, h7]; done))) (hP.sub (ws' := [(h, mO ad (upd (upd (upd iv 5 (nI p2)) 6 (nI (100 * dn))) 7 (nI (zz dn)))), (ad 0, iA G 57 rr), (ad 3, iA G 57 r), (ad 8, iA G 4 n2), (ad 13, iA G 8 ke), (ad 16, iA G 8 so), (ad 17, iA G 8 (nIf zz)), (ad 18, iA G 800 el)]) [3, 6, 7, 4, 0, 1, 2, 5] rfl) (hD.sub (ws' := [(h, mO ad (upd (upd (upd iv 5 (nI p2)) 6 (nI (100 * dn))) 7 (nI (zz dn)))), (ad 0, iA G 57 rr), (ad 3, iA G 57 r), (ad 8, iA G 4 n2), (ad 13, iA G 8 ke), (ad 16, iA G 8 so), (ad 17, iA G 8 (nIf zz)), (ad 18, iA G 800 el)]) [3, 6, 7, 4, 0, 1, 2, 5] (by decide) rfl) hS (by first | omega | decide) (by first | omega | decide) dX4_fete_172
            · have zc_16 : ¬ zz dn ≤ p2 := Nat.not_le.mpr c_16
              have c2lt : p2 < zz dn := c_16
              have e8 : f2 = (f2 - 1) + 1 := by omega
              have hok2 := okp_s n2 (hok.resolve_left (by omega))
              have hadv := (stS_le (tM el (100 * dn) (zz dn)) p2 n2).2.2 hok2.1
              refine lv_aload_n hx hb dX4_fete_109 rfl (lv_at hl 2 rfl) ?_
              refine va_get (D := gD G) (ci := 0) (v := .int (nI p2)) (C := RX4) (T := TX4) (N := 20) hx hb hts in_X4 hown hK hP 3 rfl rfl 5 (by decide) (hts _ q1078) (fun _ h9 => h9) rfl dX4_fete_110 ?_
              refine lv_istore (lv' := [(5, .int (nI p2)), (3, .int (nI (k + 1))), (4, .int 0), (0, .ref h), (1, .int (nI dn))]) hx hb dX4_fete_113 hl (Nat.le_of_ble_eq_true rfl) rfl (fun ls hl => ?_)
              refine lv_aload_n hx hb dX4_fete_115 rfl (lv_at hl 3 rfl) ?_
              refine c_V (rest := []) C (metX4_here l G h ad iv el (100 * dn) (zz dn) p2 (by omega) (by omega)) 0 (lw_V q1152 q1154 qs25 q42 q1155) (by decide +kernel) ⟨rfl, rfl⟩ ⟨(Nat.le_of_ble_eq_true rfl), (Nat.le_of_ble_eq_true rfl)⟩ (KM_mv G) (va_recv hK hP (ci := 0) (q0 := 3) rfl rfl) (hP.sub (ws' := [(h, mO ad (upd (upd (upd iv 5 (nI p2)) 6 (nI (100 * dn))) 7 (nI (zz dn)))), (ad 18, iA G 800 el)]) [3, 5] rfl) hK hl rfl rfl (Nat.le_of_ble_eq_true rfl) ⟨(Nat.le_of_ble_eq_true rfl), (Nat.le_of_ble_eq_true rfl)⟩ dX4_fete_116 ?_
              refine lv_istore (lv' := [(6, .int (tM el (100 * dn) (zz dn) p2)), (5, .int (nI p2)), (3, .int (nI (k + 1))), (4, .int 0), (0, .ref h), (1, .int (nI dn))]) hx hb dX4_fete_119 hl (Nat.le_of_ble_eq_true rfl) rfl (fun ls hl => ?_)
              refine lv_aload_n hx hb dX4_fete_121 rfl (lv_at hl 4 rfl) ?_
              refine c_VW (wr := [(ad 13, iA G 8 ke), (ad 16, iA G 8 so), (ad 17, iA G 8 (nIf zz)), (ad 0, iA G 57 rr), (ad 3, iA G 57 r)]) (rest := []) C (metX4_readsStatement l G h ad iv el (100 * dn) (zz dn) p2 n2 (by omega) (by omega)) 0 (lw_V q1148 q1150 qs24 q42 q1151) (by decide +kernel) ⟨rfl, rfl⟩ ⟨(Nat.le_of_ble_eq_true rfl), (Nat.le_of_ble_eq_true rfl)⟩ (KM_mv G) hK (va_recv hK hP (ci := 0) (q0 := 3) rfl rfl) hA hP hD hS [3, 4, 5] [0, 1, 2, 6, 7] rfl rfl rfl rfl (by decide) hl rfl rfl (Nat.le_of_ble_eq_true rfl) ⟨(Nat.le_of_ble_eq_true rfl), (Nat.le_of_ble_eq_true rfl)⟩ dX4_fete_122 (fun r_18 w1 H locs hq_19 hP hD hS => ?_)
              obtain ⟨rfl, rfl⟩ := hq_19
              have hP : PP G [(ad 13, iA G 8 ke), (ad 16, iA G 8 so), (ad 17, iA G 8 (nIf zz)), (ad 0, iA G 57 rr), (ad 3, iA G 57 r), (h, mO ad (upd (upd (upd iv 5 (nI ((stS (tM el (100 * dn) (zz dn)) p2 n2).2.1))) 6 (nI (100 * dn))) 7 (nI (zz dn)))), (ad 8, iA G 4 ((stS (tM el (100 * dn) (zz dn)) p2 n2).2.2)), (ad 18, iA G 800 el)] H := hP
              have hD : va_D A [(ad 13, iA G 8 ke), (ad 16, iA G 8 so), (ad 17, iA G 8 (nIf zz)), (ad 0, iA G 57 rr), (ad 3, iA G 57 r), (h, mO ad (upd (upd (upd iv 5 (nI ((stS (tM el (100 * dn) (zz dn)) p2 n2).2.1))) 6 (nI (100 * dn))) 7 (nI (zz dn)))), (ad 8, iA G 4 ((stS (tM el (100 * dn) (zz dn)) p2 n2).2.2)), (ad 18, iA G 800 el)] := hD
              have af_20 := stS_le (tM el (100 * dn) (zz dn)) p2 n2
              refine lv_istore (lv' := [(7, .int (bI ((stS (tM el (100 * dn) (zz dn)) p2 n2).1))), (6, .int (tM el (100 * dn) (zz dn) p2)), (5, .int (nI p2)), (3, .int (nI (k + 1))), (4, .int 0), (0, .ref h), (1, .int (nI dn))]) hx hb dX4_fete_125 hl (Nat.le_of_ble_eq_true rfl) rfl (fun ls hl => ?_)
              refine lv_aload_n hx hb dX4_fete_127 rfl (lv_at hl 5 rfl) ?_
              refine lv_iload hx hb dX4_fete_128 (lv_at hl 1 rfl) ?_
              refine c_VW (wr := [(ad 13, iA G 8 ke), (ad 16, iA G 8 so), (ad 17, iA G 8 (nIf zz)), (ad 3, iA G 57 r), (ad 18, iA G 800 el)]) (rest := []) C (metX4_isDone l G h ad (upd (upd (upd iv 5 (nI ((stS (tM el (100 * dn) (zz dn)) p2 n2).2.1))) 6 (nI (100 * dn))) 7 (nI (zz dn))) rr N2 ((stS (tM el (100 * dn) (zz dn)) p2 n2).2.2) (tM el (100 * dn) (zz dn) p2) (by omega) (hr2)) 1 (lw_V q1163 q1165 qs27 q42 q1166) (by decide +kernel) ⟨rfl, rfl⟩ ⟨(Nat.le_of_ble_eq_true rfl), (Nat.le_of_ble_eq_true rfl)⟩ (KM_mv G) hK (va_recv hK hP (ci := 0) (q0 := 5) rfl rfl) hA hP hD hS [5, 3, 6] [0, 1, 2, 4, 7] rfl rfl rfl rfl (by decide) hl rfl rfl (Nat.le_of_ble_eq_true rfl) ⟨(Nat.le_of_ble_eq_true rfl), (Nat.le_of_ble_eq_true rfl)⟩ dX4_fete_130 (fun r_21 w1 H locs hq_22 hP hD hS => ?_)
              obtain ⟨rfl, rfl⟩ := hq_22
              have hP : PP G [(ad 13, iA G 8 ke), (ad 16, iA G 8 so), (ad 17, iA G 8 (nIf zz)), (ad 3, iA G 57 r), (ad 18, iA G 800 el), (h, mO ad (upd (upd (upd iv 5 (nI ((stS (tM el (100 * dn) (zz dn)) p2 n2).2.1))) 6 (nI (100 * dn))) 7 (nI (zz dn)))), (ad 0, iA G 57 (sDoR (sDo rr N2 (tM el (100 * dn) (zz dn) p2) ((stS (tM el (100 * dn) (zz dn)) p2 n2).2.2)) rr)), (ad 8, iA G 4 ((stS (tM el (100 * dn) (zz dn)) p2 n2).2.2))] H := hP
              have hD : va_D A [(ad 13, iA G 8 ke), (ad 16, iA G 8 so), (ad 17, iA G 8 (nIf zz)), (ad 3, iA G 57 r), (ad 18, iA G 800 el), (h, mO ad (upd (upd (upd iv 5 (nI ((stS (tM el (100 * dn) (zz dn)) p2 n2).2.1))) 6 (nI (100 * dn))) 7 (nI (zz dn)))), (ad 0, iA G 57 (sDoR (sDo rr N2 (tM el (100 * dn) (zz dn) p2) ((stS (tM el (100 * dn) (zz dn)) p2 n2).2.2)) rr)), (ad 8, iA G 4 ((stS (tM el (100 * dn) (zz dn)) p2 n2).2.2))] := hD
              refine n_if_eqB (b := (sDoB (sDo rr N2 (tM el (100 * dn) (zz dn) p2) ((stS (tM el (100 * dn) (zz dn)) p2 n2).2.2)))) (tgt := 139) hx hb dX4_fete_133 (by decide) (fun c_23 => ?_) (fun c_23 => ?_)
              · have hq2 : ps2 (tM el (100 * dn) (zz dn)) (zz dn) r (zz dn) 0 r N (stS (tM el (100 * dn) (zz dn)) pl nu1).2.2 = (-2000 - nI p2, r) := by rw [hg2, e8, ps2, if_pos c2lt, sDoB_f c_23]
                refine lv_sipush (v := (-2000)) hx hb dX4_fete_139 (by decide) ?_
                refine lv_iload hx hb dX4_fete_142 (lv_at hl 2 rfl) ?_
                refine lv_isub (x := (-2000)) (y := nI p2) hx hb dX4_fete_144 ?_
                refine lv_istore (lv' := [(4, .int ((-2000) - (nI p2))), (7, .int (bI ((stS (tM el (100 * dn) (zz dn)) p2 n2).1))), (6, .int (tM el (100 * dn) (zz dn) p2)), (5, .int (nI p2)), (3, .int (nI (k + 1))), (0, .ref h), (1, .int (nI dn))]) hx hb dX4_fete_145 hl (Nat.le_of_ble_eq_true rfl) rfl (fun ls hl => ?_)
                refine lv_aload_n hx hb dX4_fete_147 rfl (lv_at hl 5 rfl) ?_
                refine va_get (D := gD G) (ci := 0) (v := .ref (ad 3)) (C := RX4) (T := TX4) (N := 20) hx hb hts in_X4 hown hK hP 5 rfl rfl 3 (by decide) (hts _ q1076) (fun _ h9 => h9) rfl dX4_fete_148 ?_
                refine lv_aload_n hx hb dX4_fete_151 rfl (lv_at hl 5 rfl) ?_
                refine va_get (D := gD G) (ci := 0) (v := .ref (ad 0)) (C := RX4) (T := TX4) (N := 20) hx hb hts in_X4 hown hK hP 5 rfl rfl 0 (by decide) (hts _ q1073) (fun _ h9 => h9) rfl dX4_fete_152 ?_
                refine c_SWv (wr := [(ad 13, iA G 8 ke), (ad 16, iA G 8 so), (ad 17, iA G 8 (nIf zz)), (ad 18, iA G 800 el), (h, mO ad (upd (upd (upd iv 5 (nI ((stS (tM el (100 * dn) (zz dn)) p2 n2).2.1))) 6 (nI (100 * dn))) 7 (nI (zz dn)))), (ad 8, iA G 4 ((stS (tM el (100 * dn) (zz dn)) p2 n2).2.2))]) (rest := []) C (metX4_copies l G (ad 3) (ad 0) r (sDoR (sDo rr N2 (tM el (100 * dn) (zz dn) p2) ((stS (tM el (100 * dn) (zz dn)) p2 n2).2.2)) rr)) 2 (lw_S q1160 q1161 q42 q1162) (by decide +kernel) ⟨rfl, rfl⟩ ⟨(Nat.le_of_ble_eq_true rfl), (Nat.le_of_ble_eq_true rfl)⟩ (KM_mv G) hK hA hP hD hS [3, 6] [0, 1, 2, 4, 5, 7] rfl rfl rfl rfl (by decide) hl rfl rfl (Nat.le_of_ble_eq_true rfl) ⟨(Nat.le_of_ble_eq_true rfl), (Nat.le_of_ble_eq_true rfl)⟩ dX4_fete_155 (fun w1 H locs hq_25 hP hD hS => ?_)
                obtain rfl := hq_25
                have hP : PP G [(ad 13, iA G 8 ke), (ad 16, iA G 8 so), (ad 17, iA G 8 (nIf zz)), (ad 18, iA G 800 el), (h, mO ad (upd (upd (upd iv 5 (nI ((stS (tM el (100 * dn) (zz dn)) p2 n2).2.1))) 6 (nI (100 * dn))) 7 (nI (zz dn)))), (ad 8, iA G 4 ((stS (tM el (100 * dn) (zz dn)) p2 n2).2.2)), (ad 3, iA G 57 r), (ad 0, iA G 57 r)] H := hP
                have hD : va_D A [(ad 13, iA G 8 ke), (ad 16, iA G 8 so), (ad 17, iA G 8 (nIf zz)), (ad 18, iA G 800 el), (h, mO ad (upd (upd (upd iv 5 (nI ((stS (tM el (100 * dn) (zz dn)) p2 n2).2.1))) 6 (nI (100 * dn))) 7 (nI (zz dn)))), (ad 8, iA G 4 ((stS (tM el (100 * dn) (zz dn)) p2 n2).2.2)), (ad 3, iA G 57 r), (ad 0, iA G 57 r)] := hD
                refine lv_goto (tgt := 93) hx hb dX4_fete_158 (by decide) ?_
                refine lv_iload hx hb dX4_fete_93 (lv_at hl 0 rfl) ?_
                refine lv_if_ne (x := (-2000) - (nI p2)) (tgt := 161) hx hb dX4_fete_95 (by decide) (fun c_26 => ?_) (fun c_26 => ?_)
                · refine lv_iload hx hb dX4_fete_161 (lv_at hl 0 rfl) ?_
                  refine lv_if_ne (x := (-2000) - (nI p2)) (tgt := 170) hx hb dX4_fete_163 (by decide) (fun c_27 => ?_) (fun c_27 => absurd c_27 (c_26))
                  refine lv_iload hx hb dX4_fete_170 (lv_at hl 0 rfl) ?_
                  exact n_iretW (v := (-2000) - (nI p2)) (w1 := [(h, mO ad (upd (upd (upd iv 5 (nI ((stS (tM el (100 * dn) (zz dn)) p2 n2).2.1))) 6 (nI (100 * dn))) 7 (nI (zz dn)))), (ad 0, iA G 57 r), (ad 3, iA G 57 r), (ad 8, iA G 4 ((stS (tM el (100 * dn) (zz dn)) p2 n2).2.2)), (ad 13, iA G 8 ke), (ad 16, iA G 8 so), (ad 17, iA G 8 (nIf zz)), (ad 18, iA G 800 el)]) C (ft_post (by first | (simp [sFA, sFS, sFeteA, sFeteS, c_1, t_dn, k1, k2, c_9, c_10, c_11, zc_11, hp1, c_15, c_16, zc_16, c_23, hq2, c_26, c_27]; done)) (by first | rfl | (simp [sFA, sFS, sFeteA, sFeteS, c_1, t_dn, k1, k2, c_9, c_10, c_11, zc_11, hp1, c_15, c_16, zc_16, c_23, hq2, c_26, c_27]; done)) (by intro j h5 h6 h7; first | rfl | (simp [upd, h5, h6, h7]; done))) (hP.sub (ws' := [(h, mO ad (upd (upd (upd iv 5 (nI ((stS (tM el (100 * dn) (zz dn)) p2 n2).2.1))) 6 (nI (100 * dn))) 7 (nI (zz dn)))), (ad 0, iA G 57 r), (ad 3, iA G 57 r), (ad 8, iA G 4 ((stS (tM el (100 * dn) (zz dn)) p2 n2).2.2)), (ad 13, iA G 8 ke), (ad 16, iA G 8 so), (ad 17, iA G 8 (nIf zz)), (ad 18, iA G 800 el)]) [4, 7, 6, 5, 0, 1, 2, 3] rfl) (hD.sub (ws' := [(h, mO ad (upd (upd (upd iv 5 (nI ((stS (tM el (100 * dn) (zz dn)) p2 n2).2.1))) 6 (nI (100 * dn))) 7 (nI (zz dn)))), (ad 0, iA G 57 r), (ad 3, iA G 57 r), (ad 8, iA G 4 ((stS (tM el (100 * dn) (zz dn)) p2 n2).2.2)), (ad 13, iA G 8 ke), (ad 16, iA G 8 so), (ad 17, iA G 8 (nIf zz)), (ad 18, iA G 800 el)]) [4, 7, 6, 5, 0, 1, 2, 3] (by decide) rfl) hS (by first | omega | decide) (by first | omega | decide) dX4_fete_172
                · exact absurd c_26 (fault2 (by omega))
              · obtain ⟨r1, hr1⟩ := sDoB_t c_23
                refine lv_goto (tgt := 93) hx hb dX4_fete_136 (by decide) ?_
                exact ih_14 ((stS (tM el (100 * dn) (zz dn)) p2 n2).2.1) (f2 - 1) (sDoN N2 ((tM el (100 * dn) (zz dn)) p2)) (sDoR (sDo rr N2 ((tM el (100 * dn) (zz dn)) p2) (stS (tM el (100 * dn) (zz dn)) p2 n2).2.2) rr) ((stS (tM el (100 * dn) (zz dn)) p2 n2).2.2) (by omega) _ _ (hP.sub [0, 1, 2, 5, 7, 4, 6, 3] rfl) (hD.sub [0, 1, 2, 5, 7, 4, 6, 3] (by decide) rfl) hS (by rw [hg2, e8, ps2, if_pos c2lt, hr1]; simp [sDoR]) (by have := hok2.1; omega) (hok2.2) ((sDo_0 hN2 hr2 hr1).2) (by simp only [sDoR, hr1, Option.getD_some]; exact (sDo_0 hN2 hr2 hr1).1) (by omega) ls (lv_sub hl [3, 4, 5, 6] rfl)
      · refine lv_sipush (v := (-1000)) hx hb dX4_fete_48 (by decide) ?_
        refine lv_aload_n hx hb dX4_fete_51 rfl (lv_at hl 2 rfl) ?_
        refine va_get (D := gD G) (ci := 0) (v := .int (nI ((stS (tM el (100 * dn) (zz dn)) pl nu1).2.1))) (C := RX4) (T := TX4) (N := 20) hx hb hts in_X4 hown hK hP 5 rfl rfl 5 (by decide) (hts _ q1078) (fun _ h9 => h9) rfl dX4_fete_52 ?_
        refine lv_isub (x := (-1000)) (y := nI ((stS (tM el (100 * dn) (zz dn)) pl nu1).2.1)) hx hb dX4_fete_55 ?_
        refine lv_istore (lv' := [(4, .int ((-1000) - (nI ((stS (tM el (100 * dn) (zz dn)) pl nu1).2.1)))), (3, .int (nI k)), (0, .ref h), (1, .int (nI dn))]) hx hb dX4_fete_56 hl (Nat.le_of_ble_eq_true rfl) rfl (fun ls hl => ?_)
        refine n_iinc (k := 1) (lv' := [(3, .int (nI (k + 1))), (4, .int ((-1000) - (nI ((stS (tM el (100 * dn) (zz dn)) pl nu1).2.1)))), (0, .ref h), (1, .int (nI dn))]) hx hb k 1 dX4_fete_58 hl rfl (Nat.le_of_ble_eq_true rfl) rfl (fun ls hl => ?_)
        refine lv_iload hx hb dX4_fete_61 (lv_at hl 1 rfl) ?_
        refine lv_if_ne (x := (-1000) - (nI ((stS (tM el (100 * dn) (zz dn)) pl nu1).2.1))) (tgt := 77) hx hb dX4_fete_63 (by decide) (fun c_28 => ?_) (fun c_28 => ?_)
        · have hp1 : ps1 (tM el (100 * dn) (zz dn)) (zz dn) (zz dn + 1) 0 0 nu = ((-1000) - (nI ((stS (tM el (100 * dn) (zz dn)) pl nu1).2.1)), k + 1, (stS (tM el (100 * dn) (zz dn)) pl nu1).2.2) := by rw [hg, e9, ps1]; simp [c_1, t_dn, k1, k2, c_9, c_28]
          refine lv_aload_n hx hb dX4_fete_77 rfl (lv_at hl 2 rfl) ?_
          refine va_get (D := gD G) (ci := 0) (v := .ref (ad 0)) (C := RX4) (T := TX4) (N := 20) hx hb hts in_X4 hown hK hP 5 rfl rfl 0 (by decide) (hts _ q1073) (fun _ h9 => h9) rfl dX4_fete_78 ?_
          refine lv_aload_n hx hb dX4_fete_81 rfl (lv_at hl 2 rfl) ?_
          refine va_get (D := gD G) (ci := 0) (v := .ref (ad 3)) (C := RX4) (T := TX4) (N := 20) hx hb hts in_X4 hown hK hP 5 rfl rfl 3 (by decide) (hts _ q1076) (fun _ h9 => h9) rfl dX4_fete_82 ?_
          refine c_SWv (wr := [(ad 13, iA G 8 ke), (ad 16, iA G 8 so), (ad 17, iA G 8 (nIf zz)), (h, mO ad (upd (upd (upd iv 5 (nI ((stS (tM el (100 * dn) (zz dn)) pl nu1).2.1))) 6 (nI (100 * dn))) 7 (nI (zz dn)))), (ad 8, iA G 4 ((stS (tM el (100 * dn) (zz dn)) pl nu1).2.2)), (ad 18, iA G 800 el)]) (rest := []) C (metX4_copies l G (ad 0) (ad 3) r rw) 2 (lw_S q1160 q1161 q42 q1162) (by decide +kernel) ⟨rfl, rfl⟩ ⟨(Nat.le_of_ble_eq_true rfl), (Nat.le_of_ble_eq_true rfl)⟩ (KM_mv G) hK hA hP hD hS [0, 1] [2, 3, 4, 5, 6, 7] rfl rfl rfl rfl (by decide) hl rfl rfl (Nat.le_of_ble_eq_true rfl) ⟨(Nat.le_of_ble_eq_true rfl), (Nat.le_of_ble_eq_true rfl)⟩ dX4_fete_85 (fun w1 H locs hq_30 hP hD hS => ?_)
          obtain rfl := hq_30
          have hP : PP G [(ad 13, iA G 8 ke), (ad 16, iA G 8 so), (ad 17, iA G 8 (nIf zz)), (h, mO ad (upd (upd (upd iv 5 (nI ((stS (tM el (100 * dn) (zz dn)) pl nu1).2.1))) 6 (nI (100 * dn))) 7 (nI (zz dn)))), (ad 8, iA G 4 ((stS (tM el (100 * dn) (zz dn)) pl nu1).2.2)), (ad 18, iA G 800 el), (ad 0, iA G 57 r), (ad 3, iA G 57 r)] H := hP
          have hD : va_D A [(ad 13, iA G 8 ke), (ad 16, iA G 8 so), (ad 17, iA G 8 (nIf zz)), (h, mO ad (upd (upd (upd iv 5 (nI ((stS (tM el (100 * dn) (zz dn)) pl nu1).2.1))) 6 (nI (100 * dn))) 7 (nI (zz dn)))), (ad 8, iA G 4 ((stS (tM el (100 * dn) (zz dn)) pl nu1).2.2)), (ad 18, iA G 800 el), (ad 0, iA G 57 r), (ad 3, iA G 57 r)] := hD
          refine lv_aload_n hx hb dX4_fete_88 rfl (lv_at hl 2 rfl) ?_
          refine lv_iconst (v := 0) hx hb dX4_fete_89 (by decide) ?_
          refine va_put (D := gD G) (ci := 0) (v := .int 0) (ty := .int) (C := RX4) (T := TX4) (N := 20) hx hb hts in_X4 tyX4 tyX4_ok nmX4 hown hK hP hD hS 3 rfl rfl 5 (by decide) (hts _ q1078) (fun _ h9 => h9) rfl (by decide +kernel) rfl rfl (Nat.le_of_ble_eq_true rfl) dX4_fete_90 (fun H locs hP hD hS => ?_)
          have hP : PP G [(ad 13, iA G 8 ke), (ad 16, iA G 8 so), (ad 17, iA G 8 (nIf zz)), (h, mO ad (upd (upd (upd iv 5 0) 6 (nI (100 * dn))) 7 (nI (zz dn)))), (ad 8, iA G 4 ((stS (tM el (100 * dn) (zz dn)) pl nu1).2.2)), (ad 18, iA G 800 el), (ad 0, iA G 57 r), (ad 3, iA G 57 r)] H := hP
          have hD : va_D A [(ad 13, iA G 8 ke), (ad 16, iA G 8 so), (ad 17, iA G 8 (nIf zz)), (h, mO ad (upd (upd (upd iv 5 0) 6 (nI (100 * dn))) 7 (nI (zz dn)))), (ad 8, iA G 4 ((stS (tM el (100 * dn) (zz dn)) pl nu1).2.2)), (ad 18, iA G 800 el), (ad 0, iA G 57 r), (ad 3, iA G 57 r)] := hD
          refine lv_iload hx hb dX4_fete_93 (lv_at hl 1 rfl) ?_
          refine lv_if_ne (x := (-1000) - (nI ((stS (tM el (100 * dn) (zz dn)) pl nu1).2.1))) (tgt := 161) hx hb dX4_fete_95 (by decide) (fun c_32 => ?_) (fun c_32 => absurd c_32 (c_28))
          refine lv_iload hx hb dX4_fete_161 (lv_at hl 1 rfl) ?_
          refine lv_if_ne (x := (-1000) - (nI ((stS (tM el (100 * dn) (zz dn)) pl nu1).2.1))) (tgt := 170) hx hb dX4_fete_163 (by decide) (fun c_33 => ?_) (fun c_33 => absurd c_33 (c_28))
          refine lv_iload hx hb dX4_fete_170 (lv_at hl 1 rfl) ?_
          exact n_iretW (v := (-1000) - (nI ((stS (tM el (100 * dn) (zz dn)) pl nu1).2.1))) (w1 := [(h, mO ad (upd (upd (upd iv 5 0) 6 (nI (100 * dn))) 7 (nI (zz dn)))), (ad 0, iA G 57 r), (ad 3, iA G 57 r), (ad 8, iA G 4 ((stS (tM el (100 * dn) (zz dn)) pl nu1).2.2)), (ad 13, iA G 8 ke), (ad 16, iA G 8 so), (ad 17, iA G 8 (nIf zz)), (ad 18, iA G 800 el)]) C (ft_post (by first | (simp [sFA, sFS, sFeteA, sFeteS, c_1, t_dn, k1, k2, c_9, c_28, hp1, c_32, c_33]; done)) (by first | rfl | (simp [sFA, sFS, sFeteA, sFeteS, c_1, t_dn, k1, k2, c_9, c_28, hp1, c_32, c_33]; done)) (by intro j h5 h6 h7; first | rfl | (simp [upd, h5, h6, h7]; done))) (hP.sub (ws' := [(h, mO ad (upd (upd (upd iv 5 0) 6 (nI (100 * dn))) 7 (nI (zz dn)))), (ad 0, iA G 57 r), (ad 3, iA G 57 r), (ad 8, iA G 4 ((stS (tM el (100 * dn) (zz dn)) pl nu1).2.2)), (ad 13, iA G 8 ke), (ad 16, iA G 8 so), (ad 17, iA G 8 (nIf zz)), (ad 18, iA G 800 el)]) [3, 6, 7, 4, 0, 1, 2, 5] rfl) (hD.sub (ws' := [(h, mO ad (upd (upd (upd iv 5 0) 6 (nI (100 * dn))) 7 (nI (zz dn)))), (ad 0, iA G 57 r), (ad 3, iA G 57 r), (ad 8, iA G 4 ((stS (tM el (100 * dn) (zz dn)) pl nu1).2.2)), (ad 13, iA G 8 ke), (ad 16, iA G 8 so), (ad 17, iA G 8 (nIf zz)), (ad 18, iA G 800 el)]) [3, 6, 7, 4, 0, 1, 2, 5] (by decide) rfl) hS (by first | omega | decide) (by first | omega | decide) dX4_fete_172
        · exact absurd c_28 (fault1 (by omega))
  · refine lv_iload_n hx hb dX4_fete_11 rfl (lv_at hl 0 rfl) ?_
    exact n_iretW (v := sWR ke so d 0) (w1 := [(h, mO ad iv), (ad 0, iA G 57 r), (ad 3, iA G 57 rw), (ad 8, iA G 4 nu), (ad 13, iA G 8 ke), (ad 16, iA G 8 so), (ad 17, iA G 8 (nIf zz)), (ad 18, iA G 800 el)]) C (ft_post (by first | (simp [sFA, sFS, sFeteA, sFeteS, c_1]; done)) (by first | rfl | (simp [sFA, sFS, sFeteA, sFeteS, c_1]; done)) (by intro j h5 h6 h7; first | rfl | (simp [upd, h5, h6, h7]; done))) hP hD hS (by first | omega | decide) (by first | omega | decide) dX4_fete_12
