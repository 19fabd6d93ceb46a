set_option maxHeartbeats 4000000 in
set_option maxRecDepth 100000 in
theorem metX4_row (l : Launch) (G : GG) (h : Nat) (ad : Nat → Nat) (iv : Nat → Int32) (ke so el : Nat → Int32) (zz : Nat → Nat) (d o u : Int32) : MW l yX4_row cX4_row 5 (some .int) ({ frames := 2, cells := 0, slots := 0, locals := 42 }) [.ref h, .int d, .int o, .int u] [(h, mO ad iv), (ad 13, iA G 8 ke), (ad 16, iA G 8 so), (ad 17, iA G 8 (nIf zz)), (ad 18, iA G 800 el)] G (KM G) 0 0 (fun rv w1 => rv = sRowA d o u ∧ w1 = [(h, mO ad iv), (ad 13, iA G 8 (sRowS d o u ke 2)), (ad 16, iA G 8 (sRowS d o u so o)), (ad 17, iA G 8 (nIf (sRowZ d o u zz))), (ad 18, iA G 800 (sRowE d o u el))]) := by
  -- rows printed by wip/tools/gen.py
  refine mw_mk RX4 (by decide) rfl (Nat.le_of_ble_eq_true rfl) ?_
  intro p0_ e0_ s m args below meth c A C hA hP hK hD ls hl
  have hx := C.1
  have hb := C.2.1
  have hml := C.2.2.2.2.1
  have hown := C.2.2.2.2.2.1
  have hts := C.2.2.2.2.2.2
  have hS : va_S A s.heap s.heap [] := va_S.rf
  have hl : lv_has ls 5 [(0, .ref h), (1, .int d), (2, .int o), (3, .int u)] := hl
  refine lv_iload_n hx hb dX4_row_0 rfl (lv_at hl 1 rfl) ?_
  refine c_S (rest := []) C (metX4_isShelf l G d) 1 (lw_S q1142 q1143 q42 q1144) (by decide +kernel) ⟨rfl, rfl⟩ ⟨(Nat.le_of_ble_eq_true rfl), (Nat.le_of_ble_eq_true rfl)⟩ (KM_mv G) (hP.sub (ws' := []) [] rfl) hK hl rfl rfl (Nat.le_of_ble_eq_true rfl) ⟨(Nat.le_of_ble_eq_true rfl), (Nat.le_of_ble_eq_true rfl)⟩ dX4_row_1 ?_
  refine n_if_eqB (b := (sIn d 0 7)) (tgt := 22) hx hb dX4_row_4 (by decide) (fun c_1 => ?_) (fun c_1 => ?_)
  · refine lv_iconst (v := (-1)) hx hb dX4_row_22 (by decide) ?_
    exact n_iretW (v := (-1)) (w1 := [(h, mO ad iv), (ad 13, iA G 8 ke), (ad 16, iA G 8 so), (ad 17, iA G 8 (nIf zz)), (ad 18, iA G 800 el)]) C (⟨by simp [sRowS, sRowZ, sRowE, sRowA, c_1], by simp [sRowS, sRowZ, sRowE, sRowA, c_1]⟩) hP hD hS (by first | omega | decide) (by first | omega | decide) dX4_row_23
  · obtain ⟨d_2, hd_2, gd_2, rfl⟩ := sIn_t (a := 0) (b := 7) (by omega) (by omega) c_1
    have td_2 : tn (nI d_2) = d_2 := nI_clamp (by omega)
    refine lv_iload_n hx hb dX4_row_7 rfl (lv_at hl 2 rfl) ?_
    refine lv_iconst (v := 0) hx hb dX4_row_8 (by decide) ?_
    refine lv_iconst (v := 2) hx hb dX4_row_9 (by decide) ?_
    refine c_S (rest := []) C (metX4_isIn l G o 0 2) 3 (lw_S q1145 q1146 q42 q1147) (by decide +kernel) ⟨rfl, rfl⟩ ⟨(Nat.le_of_ble_eq_true rfl), (Nat.le_of_ble_eq_true rfl)⟩ (KM_mv G) (hP.sub (ws' := []) [] rfl) hK hl rfl rfl (Nat.le_of_ble_eq_true rfl) ⟨(Nat.le_of_ble_eq_true rfl), (Nat.le_of_ble_eq_true rfl)⟩ dX4_row_10 ?_
    refine n_if_eqB (b := (sIn o 0 2)) (tgt := 22) hx hb dX4_row_13 (by decide) (fun c_3 => ?_) (fun c_3 => ?_)
    · refine lv_iconst (v := (-1)) hx hb dX4_row_22 (by decide) ?_
      exact n_iretW (v := (-1)) (w1 := [(h, mO ad iv), (ad 13, iA G 8 ke), (ad 16, iA G 8 so), (ad 17, iA G 8 (nIf zz)), (ad 18, iA G 800 el)]) C (⟨by simp [sRowS, sRowZ, sRowE, sRowA, c_1, td_2, c_3], by simp [sRowS, sRowZ, sRowE, sRowA, c_1, td_2, c_3]⟩) hP hD hS (by first | omega | decide) (by first | omega | decide) dX4_row_23
    · obtain ⟨o_4, ho_4, go_4, rfl⟩ := sIn_t (a := 0) (b := 2) (by omega) (by omega) c_3
      have to_4 : tn (nI o_4) = o_4 := nI_clamp (by omega)
      refine lv_iload_n hx hb dX4_row_16 rfl (lv_at hl 3 rfl) ?_
      refine lv_bipush (v := 100) hx hb dX4_row_17 (by decide) ?_
      refine lv_icmp_le (x := u) (y := 100) (tgt := 24) hx hb dX4_row_19 (by decide) (fun c_5 => ?_) (fun c_5 => ?_)
      · have zc_5 : ¬ 100 < u := Int32.not_lt.mpr c_5
        refine lv_iload_n hx hb dX4_row_24 rfl (lv_at hl 3 rfl) ?_
        refine lv_if_ge (x := u) (tgt := 31) hx hb dX4_row_25 (by decide) (fun c_6 => ?_) (fun c_6 => ?_)
        · have zc_6 : ¬ u < 0 := Int32.not_lt.mpr c_6
          obtain ⟨u_n, gu_n, rfl⟩ := nI_of2 (n := 100) (M := 100) rfl (Int32.not_lt.mpr c_6) c_5
          have tu_n : tn (nI u_n) = u_n := nI_clamp (by omega)
          refine lv_aload_n hx hb dX4_row_31 rfl (lv_at hl 0 rfl) ?_
          refine va_get (D := gD G) (ci := 0) (v := .ref (ad 13)) (C := RX4) (T := TX4) (N := 20) hx hb hts in_X4 hown hK hP 0 rfl rfl 13 (by decide) (hts _ q1086) (fun _ h9 => h9) rfl dX4_row_32 ?_
          refine lv_iload_n hx hb dX4_row_35 rfl (lv_at hl 1 rfl) ?_
          refine lv_iconst (v := 2) hx hb dX4_row_36 (by decide) ?_
          refine n_iast (x := 2) C hK hP hD hS 1 d_2 rfl (by omega) (by omega) dX4_row_37 (fun H locs hP hD hS => ?_)
          have hP : PP G [(h, mO ad iv), (ad 13, iA G 8 (upd ke d_2 2)), (ad 16, iA G 8 so), (ad 17, iA G 8 (nIf zz)), (ad 18, iA G 800 el)] H := hP
          have hD : va_D A [(h, mO ad iv), (ad 13, iA G 8 (upd ke d_2 2)), (ad 16, iA G 8 so), (ad 17, iA G 8 (nIf zz)), (ad 18, iA G 800 el)] := hD
          refine lv_aload_n hx hb dX4_row_38 rfl (lv_at hl 0 rfl) ?_
          refine va_get (D := gD G) (ci := 0) (v := .ref (ad 16)) (C := RX4) (T := TX4) (N := 20) hx hb hts in_X4 hown hK hP 0 rfl rfl 16 (by decide) (hts _ q1089) (fun _ h9 => h9) rfl dX4_row_39 ?_
          refine lv_iload_n hx hb dX4_row_42 rfl (lv_at hl 1 rfl) ?_
          refine lv_iload_n hx hb dX4_row_43 rfl (lv_at hl 2 rfl) ?_
          refine n_iast (x := nI o_4) C hK hP hD hS 2 d_2 rfl (by omega) (by omega) dX4_row_44 (fun H locs hP hD hS => ?_)
          have hP : PP G [(h, mO ad iv), (ad 13, iA G 8 (upd ke d_2 2)), (ad 16, iA G 8 (upd so d_2 (nI o_4))), (ad 17, iA G 8 (nIf zz)), (ad 18, iA G 800 el)] H := hP
          have hD : va_D A [(h, mO ad iv), (ad 13, iA G 8 (upd ke d_2 2)), (ad 16, iA G 8 (upd so d_2 (nI o_4))), (ad 17, iA G 8 (nIf zz)), (ad 18, iA G 800 el)] := hD
          refine lv_aload_n hx hb dX4_row_45 rfl (lv_at hl 0 rfl) ?_
          refine va_get (D := gD G) (ci := 0) (v := .ref (ad 17)) (C := RX4) (T := TX4) (N := 20) hx hb hts in_X4 hown hK hP 0 rfl rfl 17 (by decide) (hts _ q1090) (fun _ h9 => h9) rfl dX4_row_46 ?_
          refine lv_iload_n hx hb dX4_row_49 rfl (lv_at hl 1 rfl) ?_
          refine lv_iload_n hx hb dX4_row_50 rfl (lv_at hl 3 rfl) ?_
          refine n_iast (x := nI u_n) C hK hP hD hS 3 d_2 rfl (by omega) (by omega) dX4_row_51 (fun H locs hP hD hS => ?_)
          have hP : PP G [(h, mO ad iv), (ad 13, iA G 8 (upd ke d_2 2)), (ad 16, iA G 8 (upd so d_2 (nI o_4))), (ad 17, iA G 8 (upd (nIf zz) d_2 (nI u_n))), (ad 18, iA G 800 el)] H := hP
          have hD : va_D A [(h, mO ad iv), (ad 13, iA G 8 (upd ke d_2 2)), (ad 16, iA G 8 (upd so d_2 (nI o_4))), (ad 17, iA G 8 (upd (nIf zz) d_2 (nI u_n))), (ad 18, iA G 800 el)] := hD
          rw [nIf_upd] at hP hD
          have hP : PP G [(h, mO ad iv), (ad 13, iA G 8 (upd ke d_2 2)), (ad 16, iA G 8 (upd so d_2 (nI o_4))), (ad 17, iA G 8 (nIf (upN zz d_2 u_n))), (ad 18, iA G 800 el)] H := hP
          have hD : va_D A [(h, mO ad iv), (ad 13, iA G 8 (upd ke d_2 2)), (ad 16, iA G 8 (upd so d_2 (nI o_4))), (ad 17, iA G 8 (nIf (upN zz d_2 u_n))), (ad 18, iA G 800 el)] := hD
          refine lv_iconst (v := 0) hx hb dX4_row_52 (by decide) ?_
          refine lv_istore (lv' := [(4, .int 0), (0, .ref h), (1, .int (nI d_2)), (2, .int (nI o_4)), (3, .int (nI u_n))]) hx hb dX4_row_53 hl (Nat.le_of_ble_eq_true rfl) rfl (fun ls hl => ?_)
          suffices hlp_7 : (∀ (n k : Nat), k + n = 100 → ∀ (H : Heap) (locs : List Loc), PP G [(h, mO ad iv), (ad 13, iA G 8 (upd ke d_2 2)), (ad 16, iA G 8 (upd so d_2 (nI o_4))), (ad 17, iA G 8 (nIf (upN zz d_2 u_n))), (ad 18, iA G 800 (zer el d_2 k))] H → va_D A [(h, mO ad iv), (ad 13, iA G 8 (upd ke d_2 2)), (ad 16, iA G 8 (upd so d_2 (nI o_4))), (ad 17, iA G 8 (nIf (upN zz d_2 u_n))), (ad 18, iA G 800 (zer el d_2 k))] → va_S A s.heap H locs → ∀ (ls : Array Slot), lv_has ls 5 [(4, .int (nI k)), (0, .ref h), (1, .int (nI d_2)), (2, .int (nI o_4)), (3, .int (nI u_n))] → W p0_ l e0_ ({ frames := 2, cells := 0, slots := 0, locals := 42 } : Room) s m args below meth c H locs (0) (0) (MQ below (va_Qi (S := va_W) (fun rv w1 => rv = sRowA (nI d_2) (nI o_4) (nI u_n) ∧ w1 = [(h, mO ad iv), (ad 13, iA G 8 (sRowS (nI d_2) (nI o_4) (nI u_n) ke 2)), (ad 16, iA G 8 (sRowS (nI d_2) (nI o_4) (nI u_n) so (nI o_4))), (ad 17, iA G 8 (nIf (sRowZ (nI d_2) (nI o_4) (nI u_n) zz))), (ad 18, iA G 800 (sRowE (nI d_2) (nI o_4) (nI u_n) el))]) (fun w1 t => PP G w1 t.heap ∧ va_D A w1) A) args s 0 0 A) (F0 m 55 ls [])) by
            exact hlp_7 (100) 0 (by omega) _ _ (hP.sub [0, 1, 2, 3, 4] (by rw [zer_0]; rfl)) (hD.sub [0, 1, 2, 3, 4] (by decide) (by rw [zer_0]; rfl)) hS ls (lv_sub hl [0, 1, 2, 3, 4] rfl)
          have hend_7 : ∀ (H : Heap) (locs : List Loc), PP G [(h, mO ad iv), (ad 13, iA G 8 (upd ke d_2 2)), (ad 16, iA G 8 (upd so d_2 (nI o_4))), (ad 17, iA G 8 (nIf (upN zz d_2 u_n))), (ad 18, iA G 800 (zer el d_2 100))] H → va_D A [(h, mO ad iv), (ad 13, iA G 8 (upd ke d_2 2)), (ad 16, iA G 8 (upd so d_2 (nI o_4))), (ad 17, iA G 8 (nIf (upN zz d_2 u_n))), (ad 18, iA G 800 (zer el d_2 100))] → va_S A s.heap H locs → ∀ (ls : Array Slot), lv_has ls 5 [(4, .int (nI 100)), (0, .ref h), (1, .int (nI d_2)), (2, .int (nI o_4)), (3, .int (nI u_n))] → W p0_ l e0_ ({ frames := 2, cells := 0, slots := 0, locals := 42 } : Room) s m args below meth c H locs (0) (0) (MQ below (va_Qi (S := va_W) (fun rv w1 => rv = sRowA (nI d_2) (nI o_4) (nI u_n) ∧ w1 = [(h, mO ad iv), (ad 13, iA G 8 (sRowS (nI d_2) (nI o_4) (nI u_n) ke 2)), (ad 16, iA G 8 (sRowS (nI d_2) (nI o_4) (nI u_n) so (nI o_4))), (ad 17, iA G 8 (nIf (sRowZ (nI d_2) (nI o_4) (nI u_n) zz))), (ad 18, iA G 800 (sRowE (nI d_2) (nI o_4) (nI u_n) el))]) (fun w1 t => PP G w1 t.heap ∧ va_D A w1) A) args s 0 0 A) (F0 m 55 ls []) := by
            intro H locs hP hD hS ls hl
            refine lv_iload hx hb dX4_row_55 (lv_at hl 0 rfl) ?_
            refine lv_bipush (v := 100) hx hb dX4_row_57 (by decide) ?_
            refine n_ic_ge (x := 100) (y := 100) (tgt := 81) hx hb (by omega) (by omega) dX4_row_59 (by decide) (fun c_8 => ?_) (fun c_8 => absurd c_8 (by omega))
            refine lv_iconst (v := 0) hx hb dX4_row_81 (by decide) ?_
            exact n_iretW (v := 0) (w1 := [(h, mO ad iv), (ad 13, iA G 8 (upd ke d_2 2)), (ad 16, iA G 8 (upd so d_2 (nI o_4))), (ad 17, iA G 8 (nIf (upN zz d_2 u_n))), (ad 18, iA G 800 (zer el d_2 100))]) C (⟨by simp [sRowS, sRowZ, sRowE, sRowA, c_1, td_2, c_3, to_4, c_5, zc_5, c_6, zc_6, tu_n, c_8], by simp [sRowS, sRowZ, sRowE, sRowA, c_1, td_2, c_3, to_4, c_5, zc_5, c_6, zc_6, tu_n, c_8]⟩) hP hD hS (by first | omega | decide) (by first | omega | decide) dX4_row_82
          intro n
          induction n with
          | zero =>
            intro k hi_7 H locs hP hD hS ls hl
            obtain e_7 : k = 100 := by omega
            first | (subst e_7; exact hend_7 H locs hP hD hS ls hl) | (rw [e_7] at hl hP hD; exact hend_7 H locs hP hD hS ls hl)
          | succ n ih_7 =>
            intro k hi_7 H locs hP hD hS ls hl
            refine lv_iload hx hb dX4_row_55 (lv_at hl 0 rfl) ?_
            refine lv_bipush (v := 100) hx hb dX4_row_57 (by decide) ?_
            refine n_ic_ge (x := k) (y := 100) (tgt := 81) hx hb (by omega) (by omega) dX4_row_59 (by decide) (fun c_9 => absurd c_9 (by omega)) (fun c_9 => ?_)
            refine lv_aload_n hx hb dX4_row_62 rfl (lv_at hl 1 rfl) ?_
            refine va_get (D := gD G) (ci := 0) (v := .ref (ad 18)) (C := RX4) (T := TX4) (N := 20) hx hb hts in_X4 hown hK hP 0 rfl rfl 18 (by decide) (hts _ q1091) (fun _ h9 => h9) rfl dX4_row_63 ?_
            refine lv_bipush (v := 100) hx hb dX4_row_66 (by decide) ?_
            refine lv_iload_n hx hb dX4_row_68 rfl (lv_at hl 2 rfl) ?_
            refine n_imul hx hb 100 d_2 dX4_row_69 ?_
            refine lv_iload hx hb dX4_row_70 (lv_at hl 0 rfl) ?_
            refine n_iadd hx hb (100 * d_2) k dX4_row_72 ?_
            refine lv_iconst (v := 0) hx hb dX4_row_73 (by decide) ?_
            refine n_iast (x := 0) C hK hP hD hS 4 ((100 * d_2) + k) rfl (by omega) (by omega) dX4_row_74 (fun H locs hP hD hS => ?_)
            have hP : PP G [(h, mO ad iv), (ad 13, iA G 8 (upd ke d_2 2)), (ad 16, iA G 8 (upd so d_2 (nI o_4))), (ad 17, iA G 8 (nIf (upN zz d_2 u_n))), (ad 18, iA G 800 (upd (zer el d_2 k) ((100 * d_2) + k) 0))] H := hP
            have hD : va_D A [(h, mO ad iv), (ad 13, iA G 8 (upd ke d_2 2)), (ad 16, iA G 8 (upd so d_2 (nI o_4))), (ad 17, iA G 8 (nIf (upN zz d_2 u_n))), (ad 18, iA G 800 (upd (zer el d_2 k) ((100 * d_2) + k) 0))] := hD
            refine n_iinc (k := 0) (lv' := [(4, .int (nI (k + 1))), (0, .ref h), (1, .int (nI d_2)), (2, .int (nI o_4)), (3, .int (nI u_n))]) hx hb k 1 dX4_row_75 hl rfl (Nat.le_of_ble_eq_true rfl) rfl (fun ls hl => ?_)
            refine lv_goto (tgt := 55) hx hb dX4_row_78 (by decide) ?_
            have e_10 : (iA G 800 (zer el d_2 (k + 1)) : va_E) = iA G 800 (upd (zer el d_2 k) ((100 * d_2) + k) 0) := by rw [zer_s]
            exact ih_7 (k + 1) (by omega) _ _ (by rw [e_10]; exact hP.sub [0, 1, 2, 3, 4] rfl) (by rw [e_10]; exact hD.sub [0, 1, 2, 3, 4] (by decide) rfl) hS ls (lv_sub hl [0, 1, 2, 3, 4] rfl)
        · have zc_6 : u < 0 := Int32.not_le.mp c_6
          refine lv_bipush (v := (-14)) hx hb dX4_row_28 (by decide) ?_
          exact n_iretW (v := (-14)) (w1 := [(h, mO ad iv), (ad 13, iA G 8 ke), (ad 16, iA G 8 so), (ad 17, iA G 8 (nIf zz)), (ad 18, iA G 800 el)]) C (⟨by simp [sRowS, sRowZ, sRowE, sRowA, c_1, td_2, c_3, to_4, c_5, zc_5, c_6, zc_6], by simp [sRowS, sRowZ, sRowE, sRowA, c_1, td_2, c_3, to_4, c_5, zc_5, c_6, zc_6]⟩) hP hD hS (by first | omega | decide) (by first | omega | decide) dX4_row_30
      · have zc_5 : 100 < u := Int32.not_le.mp c_5
        refine lv_iconst (v := (-1)) hx hb dX4_row_22 (by decide) ?_
        exact n_iretW (v := (-1)) (w1 := [(h, mO ad iv), (ad 13, iA G 8 ke), (ad 16, iA G 8 so), (ad 17, iA G 8 (nIf zz)), (ad 18, iA G 800 el)]) C (⟨by simp [sRowS, sRowZ, sRowE, sRowA, c_1, td_2, c_3, to_4, c_5, zc_5], by simp [sRowS, sRowZ, sRowE, sRowA, c_1, td_2, c_3, to_4, c_5, zc_5]⟩) hP hD hS (by first | omega | decide) (by first | omega | decide) dX4_row_23

set_option maxHeartbeats 4000000 in
set_option maxRecDepth 100000 in
theorem metX4_crowd (l : Launch) (G : GG) (h : Nat) (ad : Nat → Nat) (iv : Nat → Int32) (u t k p : Int32) : MRl l yX4_crowd cX4_crowd 13 (some .long) ({ frames := 2, cells := 0, slots := 0, locals := 53 }) [.ref h, .int u, .int t, .int k, .int p] [(h, mO ad iv)] G (KM G) (sCrowdA u t k p) := by
  -- rows printed by wip/tools/gen.py
  refine mrl_mk RX4 (by decide) rfl (Nat.le_of_ble_eq_true rfl) ?_
  intro p0_ e0_ s m args below meth c C hP hK ls hl
  have hx := C.1
  have hb := C.2.1
  have hml := C.2.2.2.2.1
  have hown := C.2.2.2.2.2.1
  have hts := C.2.2.2.2.2.2
  have hl : lv_has ls 13 [(0, .ref h), (1, .int u), (2, .int t), (3, .int k), (4, .int p)] := hl
  refine lv_iload_n hx hb dX4_crowd_0 rfl (lv_at hl 1 rfl) ?_
  refine lv_iconst (v := 0) hx hb dX4_crowd_1 (by decide) ?_
  refine lv_bipush (v := 8) hx hb dX4_crowd_2 (by decide) ?_
  refine c_S (rest := []) C (metX4_isIn l G u 0 8) 3 (lw_S q1145 q1146 q42 q1147) (by decide +kernel) ⟨rfl, rfl⟩ ⟨(Nat.le_of_ble_eq_true rfl), (Nat.le_of_ble_eq_true rfl)⟩ (KM_mv G) (hP.sub (ws' := []) [] rfl) hK hl rfl rfl (Nat.le_of_ble_eq_true rfl) ⟨(Nat.le_of_ble_eq_true rfl), (Nat.le_of_ble_eq_true rfl)⟩ dX4_crowd_4 ?_
  refine n_if_eqB (b := (sIn u 0 8)) (tgt := 39) hx hb dX4_crowd_7 (by decide) (fun c_1 => ?_) (fun c_1 => ?_)
  · refine lv_ldc2 (own := RX4) (v := 1000000001) hx hb hown (hts _ q1346) dX4_crowd_39 ?_
    exact n_lret (v := 1000000001) C (by simp [sCrowdA, sCrowdOk, c_1]) dX4_crowd_42
  · obtain ⟨u_2, hu_2, gu_2, rfl⟩ := sIn_t (a := 0) (b := 8) (by omega) (by omega) c_1
    have tu_2 : tn (nI u_2) = u_2 := nI_clamp (by omega)
    refine lv_iload_n hx hb dX4_crowd_10 rfl (lv_at hl 2 rfl) ?_
    refine lv_iconst (v := 2) hx hb dX4_crowd_11 (by decide) ?_
    refine lv_bipush (v := 20) hx hb dX4_crowd_12 (by decide) ?_
    refine c_S (rest := []) C (metX4_isIn l G t 2 20) 3 (lw_S q1145 q1146 q42 q1147) (by decide +kernel) ⟨rfl, rfl⟩ ⟨(Nat.le_of_ble_eq_true rfl), (Nat.le_of_ble_eq_true rfl)⟩ (KM_mv G) (hP.sub (ws' := []) [] rfl) hK hl rfl rfl (Nat.le_of_ble_eq_true rfl) ⟨(Nat.le_of_ble_eq_true rfl), (Nat.le_of_ble_eq_true rfl)⟩ dX4_crowd_14 ?_
    refine n_if_eqB (b := (sIn t 2 20)) (tgt := 39) hx hb dX4_crowd_17 (by decide) (fun c_3 => ?_) (fun c_3 => ?_)
    · refine lv_ldc2 (own := RX4) (v := 1000000001) hx hb hown (hts _ q1346) dX4_crowd_39 ?_
      exact n_lret (v := 1000000001) C (by simp [sCrowdA, sCrowdOk, c_1, tu_2, c_3]) dX4_crowd_42
    · obtain ⟨t_4, ht_4, gt_4, rfl⟩ := sIn_t (a := 2) (b := 20) (by omega) (by omega) c_3
      have tt_4 : tn (nI t_4) = t_4 := nI_clamp (by omega)
      refine lv_iload_n hx hb dX4_crowd_20 rfl (lv_at hl 3 rfl) ?_
      refine lv_iconst (v := 0) hx hb dX4_crowd_21 (by decide) ?_
      refine lv_iconst (v := 4) hx hb dX4_crowd_22 (by decide) ?_
      refine c_S (rest := []) C (metX4_isIn l G k 0 4) 3 (lw_S q1145 q1146 q42 q1147) (by decide +kernel) ⟨rfl, rfl⟩ ⟨(Nat.le_of_ble_eq_true rfl), (Nat.le_of_ble_eq_true rfl)⟩ (KM_mv G) (hP.sub (ws' := []) [] rfl) hK hl rfl rfl (Nat.le_of_ble_eq_true rfl) ⟨(Nat.le_of_ble_eq_true rfl), (Nat.le_of_ble_eq_true rfl)⟩ dX4_crowd_23 ?_
      refine n_if_eqB (b := (sIn k 0 4)) (tgt := 39) hx hb dX4_crowd_26 (by decide) (fun c_5 => ?_) (fun c_5 => ?_)
      · refine lv_ldc2 (own := RX4) (v := 1000000001) hx hb hown (hts _ q1346) dX4_crowd_39 ?_
        exact n_lret (v := 1000000001) C (by simp [sCrowdA, sCrowdOk, c_1, tu_2, c_3, tt_4, c_5]) dX4_crowd_42
      · obtain ⟨k_6, hk_6, gk_6, rfl⟩ := sIn_t (a := 0) (b := 4) (by omega) (by omega) c_5
        have tk_6 : tn (nI k_6) = k_6 := nI_clamp (by omega)
        refine lv_iload hx hb dX4_crowd_29 (lv_at hl 4 rfl) ?_
        refine lv_iconst (v := 0) hx hb dX4_crowd_31 (by decide) ?_
        refine lv_iconst (v := 1) hx hb dX4_crowd_32 (by decide) ?_
        refine c_S (rest := []) C (metX4_isIn l G p 0 1) 3 (lw_S q1145 q1146 q42 q1147) (by decide +kernel) ⟨rfl, rfl⟩ ⟨(Nat.le_of_ble_eq_true rfl), (Nat.le_of_ble_eq_true rfl)⟩ (KM_mv G) (hP.sub (ws' := []) [] rfl) hK hl rfl rfl (Nat.le_of_ble_eq_true rfl) ⟨(Nat.le_of_ble_eq_true rfl), (Nat.le_of_ble_eq_true rfl)⟩ dX4_crowd_33 ?_
        refine n_if_neB (b := (sIn p 0 1)) (tgt := 43) hx hb dX4_crowd_36 (by decide) (fun c_7 => ?_) (fun c_7 => ?_)
        · obtain ⟨p_8, hp_8, gp_8, rfl⟩ := sIn_t (a := 0) (b := 1) (by omega) (by omega) c_7
          have tp_8 : tn (nI p_8) = p_8 := nI_clamp (by omega)
          refine lv_lconst (v := lN 0) hx hb dX4_crowd_43 (by decide) ?_
          refine lv_lstore (lv' := [(5, .long (lN 0)), (0, .ref h), (1, .int (nI u_2)), (2, .int (nI t_4)), (3, .int (nI k_6)), (4, .int (nI p_8))]) hx hb dX4_crowd_44 hl (Nat.le_of_ble_eq_true rfl) rfl (fun ls hl => ?_)
          refine lv_lconst (v := lN 1) hx hb dX4_crowd_46 (by decide) ?_
          refine lv_lstore (lv' := [(7, .long (lN 1)), (5, .long (lN 0)), (0, .ref h), (1, .int (nI u_2)), (2, .int (nI t_4)), (3, .int (nI k_6)), (4, .int (nI p_8))]) hx hb dX4_crowd_47 hl (Nat.le_of_ble_eq_true rfl) rfl (fun ls hl => ?_)
          refine lv_iconst (v := 0) hx hb dX4_crowd_49 (by decide) ?_
          refine lv_istore (lv' := [(9, .int 0), (7, .long (lN 1)), (5, .long (lN 0)), (0, .ref h), (1, .int (nI u_2)), (2, .int (nI t_4)), (3, .int (nI k_6)), (4, .int (nI p_8))]) hx hb dX4_crowd_50 hl (Nat.le_of_ble_eq_true rfl) rfl (fun ls hl => ?_)
          suffices hlp_9 : (∀ (n i : Nat), i + n = u_2 → ∀ (ls : Array Slot), lv_has ls 13 [(9, .int (nI i)), (7, .long (lN (t_4 ^ i))), (5, .long (lN 0)), (0, .ref h), (1, .int (nI u_2)), (2, .int (nI t_4)), (3, .int (nI k_6)), (4, .int (nI p_8))] → W p0_ l e0_ ({ frames := 2, cells := 0, slots := 0, locals := 53 } : Room) s m args below meth c s.heap [] (0) (0) (MQ below (vp_Sl (fun rr9 => rr9 = sCrowdA (nI u_2) (nI t_4) (nI k_6) (nI p_8))) args s 0 0 (fun _ => False)) (F0 m 52 ls [])) by
            exact hlp_9 (u_2) 0 (by omega) ls (lv_sub hl [0, 1, 2, 3, 4, 5, 6, 7] rfl)
          have hend_9 : ∀ (ls : Array Slot), lv_has ls 13 [(9, .int (nI u_2)), (7, .long (lN (t_4 ^ u_2))), (5, .long (lN 0)), (0, .ref h), (1, .int (nI u_2)), (2, .int (nI t_4)), (3, .int (nI k_6)), (4, .int (nI p_8))] → W p0_ l e0_ ({ frames := 2, cells := 0, slots := 0, locals := 53 } : Room) s m args below meth c s.heap [] (0) (0) (MQ below (vp_Sl (fun rr9 => rr9 = sCrowdA (nI u_2) (nI t_4) (nI k_6) (nI p_8))) args s 0 0 (fun _ => False)) (F0 m 52 ls []) := by
            intro ls hl
            refine lv_iload hx hb dX4_crowd_52 (lv_at hl 0 rfl) ?_
            refine lv_iload_n hx hb dX4_crowd_54 rfl (lv_at hl 4 rfl) ?_
            refine n_ic_ge (x := u_2) (y := u_2) (tgt := 71) hx hb (by omega) (by omega) dX4_crowd_55 (by decide) (fun c_10 => ?_) (fun c_10 => absurd c_10 (by omega))
            refine lv_iconst (v := 0) hx hb dX4_crowd_71 (by decide) ?_
            refine lv_istore (lv' := [(9, .int 0), (7, .long (lN (t_4 ^ u_2))), (5, .long (lN 0)), (0, .ref h), (1, .int (nI u_2)), (2, .int (nI t_4)), (3, .int (nI k_6)), (4, .int (nI p_8))]) hx hb dX4_crowd_72 hl (Nat.le_of_ble_eq_true rfl) rfl (fun ls hl => ?_)
            suffices hlp_11 : (∀ (n x : Nat), x + n = 2 ^ u_2 → ∀ (ls : Array Slot), lv_has ls 13 [(9, .int (nI x)), (7, .long (lN (t_4 ^ u_2))), (5, .long (lN (crS u_2 t_4 k_6 x))), (0, .ref h), (1, .int (nI u_2)), (2, .int (nI t_4)), (3, .int (nI k_6)), (4, .int (nI p_8))] → W p0_ l e0_ ({ frames := 2, cells := 0, slots := 0, locals := 53 } : Room) s m args below meth c s.heap [] (0) (0) (MQ below (vp_Sl (fun rr9 => rr9 = sCrowdA (nI u_2) (nI t_4) (nI k_6) (nI p_8))) args s 0 0 (fun _ => False)) (F0 m 74 ls [])) by
              have b5 := pow_le8 (u := u_2) (by omega)
              exact hlp_11 (2 ^ u_2) 0 (by omega) ls (lv_sub hl [0, 1, 2, 3, 4, 5, 6, 7] rfl)
            have hend_11 : ∀ (ls : Array Slot), lv_has ls 13 [(9, .int (nI (2 ^ u_2))), (7, .long (lN (t_4 ^ u_2))), (5, .long (lN (crS u_2 t_4 k_6 (2 ^ u_2)))), (0, .ref h), (1, .int (nI u_2)), (2, .int (nI t_4)), (3, .int (nI k_6)), (4, .int (nI p_8))] → W p0_ l e0_ ({ frames := 2, cells := 0, slots := 0, locals := 53 } : Room) s m args below meth c s.heap [] (0) (0) (MQ below (vp_Sl (fun rr9 => rr9 = sCrowdA (nI u_2) (nI t_4) (nI k_6) (nI p_8))) args s 0 0 (fun _ => False)) (F0 m 74 ls []) := by
              intro ls hl
              have b5 := pow_le8 (u := u_2) (by omega)
              have b1 := crS_le (u := u_2) (t := t_4) (k := k_6) (by omega) (by omega) (by omega) (2 ^ u_2)
              have b2 := pow_t (u := u_2) (t := t_4) (by omega) (by omega) (by omega)
              refine lv_iload hx hb dX4_crowd_74 (lv_at hl 0 rfl) ?_
              refine lv_iconst (v := 1) hx hb dX4_crowd_76 (by decide) ?_
              refine lv_iload_n hx hb dX4_crowd_77 rfl (lv_at hl 4 rfl) ?_
              refine lv_ishl (x := 1) (y := nI u_2) hx hb dX4_crowd_78 ?_
              refine n_eqi (shl1 u_2 (by omega)) ?_
              refine n_ic_ge (x := (2 ^ u_2)) (y := 2 ^ u_2) (tgt := 141) hx hb (by omega) (by omega) dX4_crowd_79 (by decide) (fun c_12 => ?_) (fun c_12 => absurd c_12 (by omega))
              refine lv_lload hx hb dX4_crowd_141 (lv_at hl 2 rfl) ?_
              refine lv_lload hx hb dX4_crowd_143 (lv_at hl 1 rfl) ?_
              refine lv_iload hx hb dX4_crowd_145 (lv_at hl 7 rfl) ?_
              refine c_Sl (rest := []) C (metX4_partOf l G (crS u_2 t_4 k_6 (2 ^ u_2)) (t_4 ^ u_2) p_8 (by omega) (by omega) (by omega) (by omega)) 3 (lw_S q1347 q1348 q42 q1349) (by decide +kernel) ⟨rfl, rfl⟩ ⟨(Nat.le_of_ble_eq_true rfl), (Nat.le_of_ble_eq_true rfl)⟩ (KM_mv G) (hP.sub (ws' := []) [] rfl) hK hl rfl rfl (Nat.le_of_ble_eq_true rfl) ⟨(Nat.le_of_ble_eq_true rfl), (Nat.le_of_ble_eq_true rfl)⟩ dX4_crowd_147 ?_
              exact n_lret (v := lN (sPOf (crS u_2 t_4 k_6 (2 ^ u_2)) (t_4 ^ u_2) p_8)) C (by simp [sCrowdA, sCrowdOk, c_1, tu_2, c_3, tt_4, c_5, tk_6, c_7, tp_8, c_10, c_12]) dX4_crowd_150
            intro n
            induction n with
            | zero =>
              intro x hi_11 ls hl
              obtain e_11 : x = 2 ^ u_2 := by omega
              first | (subst e_11; exact hend_11 ls hl) | (rw [e_11] at hl; exact hend_11 ls hl)
            | succ n ih_11 =>
              intro x hi_11 ls hl
              have b5 := pow_le8 (u := u_2) (by omega)
              have b6 := pcn_le2 u_2 (by omega) x (by omega)
              refine lv_iload hx hb dX4_crowd_74 (lv_at hl 0 rfl) ?_
              refine lv_iconst (v := 1) hx hb dX4_crowd_76 (by decide) ?_
              refine lv_iload_n hx hb dX4_crowd_77 rfl (lv_at hl 4 rfl) ?_
              refine lv_ishl (x := 1) (y := nI u_2) hx hb dX4_crowd_78 ?_
              refine n_eqi (shl1 u_2 (by omega)) ?_
              refine n_ic_ge (x := x) (y := 2 ^ u_2) (tgt := 141) hx hb (by omega) (by omega) dX4_crowd_79 (by decide) (fun c_13 => absurd c_13 (by omega)) (fun c_13 => ?_)
              refine lv_lconst (v := lN 1) hx hb dX4_crowd_82 (by decide) ?_
              refine lv_lstore (lv' := [(10, .long (lN 1)), (9, .int (nI x)), (7, .long (lN (t_4 ^ u_2))), (5, .long (lN (crS u_2 t_4 k_6 x))), (0, .ref h), (1, .int (nI u_2)), (2, .int (nI t_4)), (3, .int (nI k_6)), (4, .int (nI p_8))]) hx hb dX4_crowd_83 hl (Nat.le_of_ble_eq_true rfl) rfl (fun ls hl => ?_)
              refine lv_iload hx hb dX4_crowd_85 (lv_at hl 1 rfl) ?_
              refine c_S (rest := []) C (metX4_bits l G (nI x)) 1 (lw_S q1323 q1324 q42 q1325) (by decide +kernel) ⟨rfl, rfl⟩ ⟨(Nat.le_of_ble_eq_true rfl), (Nat.le_of_ble_eq_true rfl)⟩ (KM_mv G) (hP.sub (ws' := []) [] rfl) hK hl rfl rfl (Nat.le_of_ble_eq_true rfl) ⟨(Nat.le_of_ble_eq_true rfl), (Nat.le_of_ble_eq_true rfl)⟩ dX4_crowd_87 ?_
              refine n_eqi (sBits_n x (by omega)) ?_
              refine lv_istore (lv' := [(12, .int (nI (pcn x 10))), (10, .long (lN 1)), (9, .int (nI x)), (7, .long (lN (t_4 ^ u_2))), (5, .long (lN (crS u_2 t_4 k_6 x))), (0, .ref h), (1, .int (nI u_2)), (2, .int (nI t_4)), (3, .int (nI k_6)), (4, .int (nI p_8))]) hx hb dX4_crowd_90 hl (Nat.le_of_ble_eq_true rfl) rfl (fun ls hl => ?_)
              suffices hlp_14 : (∀ (n j : Nat), j + n = u_2 → pcn x 10 ≤ j → ∀ (ls : Array Slot), lv_has ls 13 [(12, .int (nI j)), (10, .long (lN ((t_4 - 1) ^ (j - pcn x 10)))), (9, .int (nI x)), (7, .long (lN (t_4 ^ u_2))), (5, .long (lN (crS u_2 t_4 k_6 x))), (0, .ref h), (1, .int (nI u_2)), (2, .int (nI t_4)), (3, .int (nI k_6)), (4, .int (nI p_8))] → W p0_ l e0_ ({ frames := 2, cells := 0, slots := 0, locals := 53 } : Room) s m args below meth c s.heap [] (0) (0) (MQ below (vp_Sl (fun rr9 => rr9 = sCrowdA (nI u_2) (nI t_4) (nI k_6) (nI p_8))) args s 0 0 (fun _ => False)) (F0 m 92 ls [])) by
                exact hlp_14 (u_2 - (pcn x 10)) (pcn x 10) (by omega) (Nat.le_refl _) ls (lv_sub hl [0, 1, 2, 3, 4, 5, 6, 7, 8, 9] (by rw [Nat.sub_self]; rfl))
              have hend_14 : ∀ (ls : Array Slot), lv_has ls 13 [(12, .int (nI u_2)), (10, .long (lN ((t_4 - 1) ^ (u_2 - pcn x 10)))), (9, .int (nI x)), (7, .long (lN (t_4 ^ u_2))), (5, .long (lN (crS u_2 t_4 k_6 x))), (0, .ref h), (1, .int (nI u_2)), (2, .int (nI t_4)), (3, .int (nI k_6)), (4, .int (nI p_8))] → W p0_ l e0_ ({ frames := 2, cells := 0, slots := 0, locals := 53 } : Room) s m args below meth c s.heap [] (0) (0) (MQ below (vp_Sl (fun rr9 => rr9 = sCrowdA (nI u_2) (nI t_4) (nI k_6) (nI p_8))) args s 0 0 (fun _ => False)) (F0 m 92 ls []) := by
                intro ls hl
                refine lv_iload hx hb dX4_crowd_92 (lv_at hl 0 rfl) ?_
                refine lv_iload_n hx hb dX4_crowd_94 rfl (lv_at hl 6 rfl) ?_
                refine n_ic_ge (x := u_2) (y := u_2) (tgt := 113) hx hb (by omega) (by omega) dX4_crowd_95 (by decide) (fun c_15 => ?_) (fun c_15 => absurd c_15 (by omega))
                refine lv_lload hx hb dX4_crowd_113 (lv_at hl 4 rfl) ?_
                refine lv_iload hx hb dX4_crowd_115 (lv_at hl 2 rfl) ?_
                refine c_S (rest := [.long (lN (crS u_2 t_4 k_6 x))]) C (metX4_bits l G (nI x)) 1 (lw_S q1323 q1324 q42 q1325) (by decide +kernel) ⟨rfl, rfl⟩ ⟨(Nat.le_of_ble_eq_true rfl), (Nat.le_of_ble_eq_true rfl)⟩ (KM_mv G) (hP.sub (ws' := []) [] rfl) hK hl rfl rfl (Nat.le_of_ble_eq_true rfl) ⟨(Nat.le_of_ble_eq_true rfl), (Nat.le_of_ble_eq_true rfl)⟩ dX4_crowd_117 ?_
                refine n_eqi (sBits_n x (by omega)) ?_
                refine lv_iconst (v := 2) hx hb dX4_crowd_120 (by decide) ?_
                refine n_idiv hx hb (pcn x 10) 2 (by omega) (by omega) (by omega) dX4_crowd_121 ?_
                refine lv_iload_n hx hb dX4_crowd_122 rfl (lv_at hl 8 rfl) ?_
                refine n_ic_lt (x := (pcn x 10) / 2) (y := k_6) (tgt := 131) hx hb (by omega) (by omega) dX4_crowd_123 (by decide) (fun c_16 => ?_) (fun c_16 => ?_)
                · have zc_16 : ¬ k_6 ≤ (pcn x 10) / 2 := Nat.not_le.mpr c_16
                  refine lv_lconst (v := lN 0) hx hb dX4_crowd_131 (by decide) ?_
                  refine n_ladd hx hb (crS u_2 t_4 k_6 x) 0 dX4_crowd_132 ?_
                  refine lv_lstore (lv' := [(5, .long (lN ((crS u_2 t_4 k_6 x) + 0))), (12, .int (nI u_2)), (10, .long (lN ((t_4 - 1) ^ (u_2 - pcn x 10)))), (9, .int (nI x)), (7, .long (lN (t_4 ^ u_2))), (0, .ref h), (1, .int (nI u_2)), (2, .int (nI t_4)), (3, .int (nI k_6)), (4, .int (nI p_8))]) hx hb dX4_crowd_133 hl (Nat.le_of_ble_eq_true rfl) rfl (fun ls hl => ?_)
                  refine n_iinc (k := 3) (lv' := [(9, .int (nI (x + 1))), (5, .long (lN ((crS u_2 t_4 k_6 x) + 0))), (12, .int (nI u_2)), (10, .long (lN ((t_4 - 1) ^ (u_2 - pcn x 10)))), (7, .long (lN (t_4 ^ u_2))), (0, .ref h), (1, .int (nI u_2)), (2, .int (nI t_4)), (3, .int (nI k_6)), (4, .int (nI p_8))]) hx hb x 1 dX4_crowd_135 hl rfl (Nat.le_of_ble_eq_true rfl) rfl (fun ls hl => ?_)
                  refine lv_goto (tgt := 74) hx hb dX4_crowd_138 (by decide) ?_
                  have e_17 : lN (crS u_2 t_4 k_6 (x + 1)) = lN ((crS u_2 t_4 k_6 x) + 0) := by first | (rw [crS, if_pos (by omega)]; done) | (rw [crS, if_neg (by omega)]; done)
                  exact ih_11 (x + 1) (by omega) ls (by rw [e_17]; exact lv_sub hl [0, 4, 1, 5, 6, 7, 8, 9] rfl)
                · have zc_16 : ¬ (pcn x 10) / 2 < k_6 := Nat.not_lt.mpr c_16
                  refine lv_lload hx hb dX4_crowd_126 (lv_at hl 1 rfl) ?_
                  refine lv_goto (tgt := 132) hx hb dX4_crowd_128 (by decide) ?_
                  refine n_ladd hx hb (crS u_2 t_4 k_6 x) ((t_4 - 1) ^ (u_2 - pcn x 10)) dX4_crowd_132 ?_
                  refine lv_lstore (lv' := [(5, .long (lN ((crS u_2 t_4 k_6 x) + ((t_4 - 1) ^ (u_2 - pcn x 10))))), (12, .int (nI u_2)), (10, .long (lN ((t_4 - 1) ^ (u_2 - pcn x 10)))), (9, .int (nI x)), (7, .long (lN (t_4 ^ u_2))), (0, .ref h), (1, .int (nI u_2)), (2, .int (nI t_4)), (3, .int (nI k_6)), (4, .int (nI p_8))]) hx hb dX4_crowd_133 hl (Nat.le_of_ble_eq_true rfl) rfl (fun ls hl => ?_)
                  refine n_iinc (k := 3) (lv' := [(9, .int (nI (x + 1))), (5, .long (lN ((crS u_2 t_4 k_6 x) + ((t_4 - 1) ^ (u_2 - pcn x 10))))), (12, .int (nI u_2)), (10, .long (lN ((t_4 - 1) ^ (u_2 - pcn x 10)))), (7, .long (lN (t_4 ^ u_2))), (0, .ref h), (1, .int (nI u_2)), (2, .int (nI t_4)), (3, .int (nI k_6)), (4, .int (nI p_8))]) hx hb x 1 dX4_crowd_135 hl rfl (Nat.le_of_ble_eq_true rfl) rfl (fun ls hl => ?_)
                  refine lv_goto (tgt := 74) hx hb dX4_crowd_138 (by decide) ?_
                  have e_18 : lN (crS u_2 t_4 k_6 (x + 1)) = lN ((crS u_2 t_4 k_6 x) + ((t_4 - 1) ^ (u_2 - pcn x 10))) := by first | (rw [crS, if_pos (by omega)]; done) | (rw [crS, if_neg (by omega)]; done)
                  exact ih_11 (x + 1) (by omega) ls (by rw [e_18]; exact lv_sub hl [0, 4, 1, 5, 6, 7, 8, 9] rfl)
              intro n
              induction n with
              | zero =>
                intro j hi_14 hs_14 ls hl
                obtain e_14 : j = u_2 := by omega
                first | (subst e_14; exact hend_14 ls hl) | (rw [e_14] at hl; exact hend_14 ls hl)
              | succ n ih_14 =>
                intro j hi_14 hs_14 ls hl
                refine lv_iload hx hb dX4_crowd_92 (lv_at hl 0 rfl) ?_
                refine lv_iload_n hx hb dX4_crowd_94 rfl (lv_at hl 6 rfl) ?_
                refine n_ic_ge (x := j) (y := u_2) (tgt := 113) hx hb (by omega) (by omega) dX4_crowd_95 (by decide) (fun c_19 => absurd c_19 (by omega)) (fun c_19 => ?_)
                refine lv_lload hx hb dX4_crowd_98 (lv_at hl 1 rfl) ?_
                refine lv_iload_n hx hb dX4_crowd_100 rfl (lv_at hl 7 rfl) ?_
                refine lv_iconst (v := 1) hx hb dX4_crowd_101 (by decide) ?_
                refine n_isub hx hb t_4 1 (by omega) dX4_crowd_102 ?_
                refine n_i2l hx hb (t_4 - 1) (by omega) dX4_crowd_103 ?_
                refine n_lmul hx hb ((t_4 - 1) ^ (j - pcn x 10)) (t_4 - 1) dX4_crowd_104 ?_
                refine lv_lstore (lv' := [(10, .long (lN (((t_4 - 1) ^ (j - pcn x 10)) * (t_4 - 1)))), (12, .int (nI j)), (9, .int (nI x)), (7, .long (lN (t_4 ^ u_2))), (5, .long (lN (crS u_2 t_4 k_6 x))), (0, .ref h), (1, .int (nI u_2)), (2, .int (nI t_4)), (3, .int (nI k_6)), (4, .int (nI p_8))]) hx hb dX4_crowd_105 hl (Nat.le_of_ble_eq_true rfl) rfl (fun ls hl => ?_)
                refine n_iinc (k := 1) (lv' := [(12, .int (nI (j + 1))), (10, .long (lN (((t_4 - 1) ^ (j - pcn x 10)) * (t_4 - 1)))), (9, .int (nI x)), (7, .long (lN (t_4 ^ u_2))), (5, .long (lN (crS u_2 t_4 k_6 x))), (0, .ref h), (1, .int (nI u_2)), (2, .int (nI t_4)), (3, .int (nI k_6)), (4, .int (nI p_8))]) hx hb j 1 dX4_crowd_107 hl rfl (Nat.le_of_ble_eq_true rfl) rfl (fun ls hl => ?_)
                refine lv_goto (tgt := 92) hx hb dX4_crowd_110 (by decide) ?_
                have e_20 : lN ((t_4 - 1) ^ ((j + 1) - pcn x 10)) = lN (((t_4 - 1) ^ (j - pcn x 10)) * (t_4 - 1)) := by rw [show j + 1 - pcn x 10 = (j - pcn x 10) + 1 by omega, Nat.pow_succ]
                exact ih_14 (j + 1) (by omega) (by omega) ls (by rw [e_20]; exact lv_sub hl [0, 1, 2, 3, 4, 5, 6, 7, 8, 9] rfl)
          intro n
          induction n with
          | zero =>
            intro i hi_9 ls hl
            obtain e_9 : i = u_2 := by omega
            first | (subst e_9; exact hend_9 ls hl) | (rw [e_9] at hl; exact hend_9 ls hl)
          | succ n ih_9 =>
            intro i hi_9 ls hl
            refine lv_iload hx hb dX4_crowd_52 (lv_at hl 0 rfl) ?_
            refine lv_iload_n hx hb dX4_crowd_54 rfl (lv_at hl 4 rfl) ?_
            refine n_ic_ge (x := i) (y := u_2) (tgt := 71) hx hb (by omega) (by omega) dX4_crowd_55 (by decide) (fun c_21 => absurd c_21 (by omega)) (fun c_21 => ?_)
            refine lv_lload hx hb dX4_crowd_58 (lv_at hl 1 rfl) ?_
            refine lv_iload_n hx hb dX4_crowd_60 rfl (lv_at hl 5 rfl) ?_
            refine n_i2l hx hb t_4 (by omega) dX4_crowd_61 ?_
            refine n_lmul hx hb (t_4 ^ i) t_4 dX4_crowd_62 ?_
            refine lv_lstore (lv' := [(7, .long (lN ((t_4 ^ i) * t_4))), (9, .int (nI i)), (5, .long (lN 0)), (0, .ref h), (1, .int (nI u_2)), (2, .int (nI t_4)), (3, .int (nI k_6)), (4, .int (nI p_8))]) hx hb dX4_crowd_63 hl (Nat.le_of_ble_eq_true rfl) rfl (fun ls hl => ?_)
            refine n_iinc (k := 1) (lv' := [(9, .int (nI (i + 1))), (7, .long (lN ((t_4 ^ i) * t_4))), (5, .long (lN 0)), (0, .ref h), (1, .int (nI u_2)), (2, .int (nI t_4)), (3, .int (nI k_6)), (4, .int (nI p_8))]) hx hb i 1 dX4_crowd_65 hl rfl (Nat.le_of_ble_eq_true rfl) rfl (fun ls hl => ?_)
            refine lv_goto (tgt := 52) hx hb dX4_crowd_68 (by decide) ?_
            have e_22 : lN (t_4 ^ (i + 1)) = lN ((t_4 ^ i) * t_4) := by rw [Nat.pow_succ]
            exact ih_9 (i + 1) (by omega) ls (by rw [e_22]; exact lv_sub hl [0, 1, 2, 3, 4, 5, 6, 7] rfl)
        · refine lv_ldc2 (own := RX4) (v := 1000000001) hx hb hown (hts _ q1346) dX4_crowd_39 ?_
          exact n_lret (v := 1000000001) C (by simp [sCrowdA, sCrowdOk, c_1, tu_2, c_3, tt_4, c_5, tk_6, c_7]) dX4_crowd_42

set_option maxHeartbeats 4000000 in
set_option maxRecDepth 100000 in
theorem metX4_copy (l : Launch) (G : GG) (h : Nat) (ad : Nat → Nat) (iv : Nat → Int32) (ke so el : Nat → Int32) (zz : Nat → Nat) (d i e j u : Int32) (hz : ∀ d, zz d ≤ 100) : MW l yX4_copy cX4_copy 8 (some .int) ({ frames := 2, cells := 0, slots := 0, locals := 42 }) [.ref h, .int d, .int i, .int e, .int j, .int u] [(h, mO ad iv), (ad 13, iA G 8 ke), (ad 16, iA G 8 so), (ad 17, iA G 8 (nIf zz)), (ad 18, iA G 800 el)] G (KM G) 0 0 (fun rv w1 => rv = sCopyA ke so zz d i e j u ∧ w1 = [(h, mO ad iv), (ad 13, iA G 8 ke), (ad 16, iA G 8 so), (ad 17, iA G 8 (nIf zz)), (ad 18, iA G 800 (sCopyS ke so zz el d i e j u))]) := by
  -- rows printed by wip/tools/gen.py
  refine mw_mk RX4 (by decide) rfl (Nat.le_of_ble_eq_true rfl) ?_
  intro p0_ e0_ s m args below meth c A C hA hP hK hD ls hl
  have hx := C.1
  have hb := C.2.1
  have hml := C.2.2.2.2.1
  have hown := C.2.2.2.2.2.1
  have hts := C.2.2.2.2.2.2
  have hS : va_S A s.heap s.heap [] := va_S.rf
  have hl : lv_has ls 8 [(0, .ref h), (1, .int d), (2, .int i), (3, .int e), (4, .int j), (5, .int u)] := hl
  refine lv_iload_n hx hb dX4_copy_0 rfl (lv_at hl 1 rfl) ?_
  refine c_S (rest := []) C (metX4_isShelf l G d) 1 (lw_S q1142 q1143 q42 q1144) (by decide +kernel) ⟨rfl, rfl⟩ ⟨(Nat.le_of_ble_eq_true rfl), (Nat.le_of_ble_eq_true rfl)⟩ (KM_mv G) (hP.sub (ws' := []) [] rfl) hK hl rfl rfl (Nat.le_of_ble_eq_true rfl) ⟨(Nat.le_of_ble_eq_true rfl), (Nat.le_of_ble_eq_true rfl)⟩ dX4_copy_1 ?_
  refine n_if_eqB (b := (sIn d 0 7)) (tgt := 14) hx hb dX4_copy_4 (by decide) (fun c_1 => ?_) (fun c_1 => ?_)
  · refine lv_iconst (v := (-1)) hx hb dX4_copy_14 (by decide) ?_
    exact n_iretW (v := (-1)) (w1 := [(h, mO ad iv), (ad 13, iA G 8 ke), (ad 16, iA G 8 so), (ad 17, iA G 8 (nIf zz)), (ad 18, iA G 800 el)]) C (⟨by simp [sCopyA, sCopyS, sCopyOk, c_1], by simp [sCopyA, sCopyS, sCopyOk, c_1]⟩) hP hD hS (by first | omega | decide) (by first | omega | decide) dX4_copy_15
  · obtain ⟨d_2, hd_2, gd_2, rfl⟩ := sIn_t (a := 0) (b := 7) (by omega) (by omega) c_1
    have td_2 : tn (nI d_2) = d_2 := nI_clamp (by omega)
    refine lv_iload_n hx hb dX4_copy_7 rfl (lv_at hl 3 rfl) ?_
    refine c_S (rest := []) C (metX4_isShelf l G e) 1 (lw_S q1142 q1143 q42 q1144) (by decide +kernel) ⟨rfl, rfl⟩ ⟨(Nat.le_of_ble_eq_true rfl), (Nat.le_of_ble_eq_true rfl)⟩ (KM_mv G) (hP.sub (ws' := []) [] rfl) hK hl rfl rfl (Nat.le_of_ble_eq_true rfl) ⟨(Nat.le_of_ble_eq_true rfl), (Nat.le_of_ble_eq_true rfl)⟩ dX4_copy_8 ?_
    refine n_if_neB (b := (sIn e 0 7)) (tgt := 16) hx hb dX4_copy_11 (by decide) (fun c_3 => ?_) (fun c_3 => ?_)
    · obtain ⟨e_4, he_4, ge_4, rfl⟩ := sIn_t (a := 0) (b := 7) (by omega) (by omega) c_3
      have te_4 : tn (nI e_4) = e_4 := nI_clamp (by omega)
      refine lv_aload_n hx hb dX4_copy_16 rfl (lv_at hl 0 rfl) ?_
      refine va_get (D := gD G) (ci := 0) (v := .ref (ad 13)) (C := RX4) (T := TX4) (N := 20) hx hb hts in_X4 hown hK hP 0 rfl rfl 13 (by decide) (hts _ q1086) (fun _ h9 => h9) rfl dX4_copy_17 ?_
      refine lv_iload_n hx hb dX4_copy_20 rfl (lv_at hl 1 rfl) ?_
      refine n_iald C hK hP 1 d_2 rfl (by omega) (by omega) dX4_copy_21 ?_
      refine lv_if_eq (x := ke d_2) (tgt := 34) hx hb dX4_copy_22 (by decide) (fun c_5 => ?_) (fun c_5 => ?_)
      · refine lv_bipush (v := (-11)) hx hb dX4_copy_34 (by decide) ?_
        exact n_iretW (v := (-11)) (w1 := [(h, mO ad iv), (ad 13, iA G 8 ke), (ad 16, iA G 8 so), (ad 17, iA G 8 (nIf zz)), (ad 18, iA G 800 el)]) C (⟨by simp [sCopyA, sCopyS, sCopyOk, c_1, td_2, c_3, te_4, c_5], by simp [sCopyA, sCopyS, sCopyOk, c_1, td_2, c_3, te_4, c_5]⟩) hP hD hS (by first | omega | decide) (by first | omega | decide) dX4_copy_36
      · refine lv_aload_n hx hb dX4_copy_25 rfl (lv_at hl 0 rfl) ?_
        refine va_get (D := gD G) (ci := 0) (v := .ref (ad 13)) (C := RX4) (T := TX4) (N := 20) hx hb hts in_X4 hown hK hP 0 rfl rfl 13 (by decide) (hts _ q1086) (fun _ h9 => h9) rfl dX4_copy_26 ?_
        refine lv_iload_n hx hb dX4_copy_29 rfl (lv_at hl 3 rfl) ?_
        refine n_iald C hK hP 1 e_4 rfl (by omega) (by omega) dX4_copy_30 ?_
        refine lv_if_ne (x := ke e_4) (tgt := 37) hx hb dX4_copy_31 (by decide) (fun c_6 => ?_) (fun c_6 => ?_)
        · refine lv_aload_n hx hb dX4_copy_37 rfl (lv_at hl 0 rfl) ?_
          refine va_get (D := gD G) (ci := 0) (v := .ref (ad 13)) (C := RX4) (T := TX4) (N := 20) hx hb hts in_X4 hown hK hP 0 rfl rfl 13 (by decide) (hts _ q1086) (fun _ h9 => h9) rfl dX4_copy_38 ?_
          refine lv_iload_n hx hb dX4_copy_41 rfl (lv_at hl 1 rfl) ?_
          refine n_iald C hK hP 1 d_2 rfl (by omega) (by omega) dX4_copy_42 ?_
          refine lv_iconst (v := 2) hx hb dX4_copy_43 (by decide) ?_
          refine lv_icmp_ne (x := ke d_2) (y := 2) (tgt := 72) hx hb dX4_copy_44 (by decide) (fun c_7 => ?_) (fun c_7 => ?_)
          · refine lv_bipush (v := (-12)) hx hb dX4_copy_72 (by decide) ?_
            exact n_iretW (v := (-12)) (w1 := [(h, mO ad iv), (ad 13, iA G 8 ke), (ad 16, iA G 8 so), (ad 17, iA G 8 (nIf zz)), (ad 18, iA G 800 el)]) C (⟨by simp [sCopyA, sCopyS, sCopyOk, c_1, td_2, c_3, te_4, c_5, c_6, c_7], by simp [sCopyA, sCopyS, sCopyOk, c_1, td_2, c_3, te_4, c_5, c_6, c_7]⟩) hP hD hS (by first | omega | decide) (by first | omega | decide) dX4_copy_74
          · refine lv_aload_n hx hb dX4_copy_47 rfl (lv_at hl 0 rfl) ?_
            refine va_get (D := gD G) (ci := 0) (v := .ref (ad 13)) (C := RX4) (T := TX4) (N := 20) hx hb hts in_X4 hown hK hP 0 rfl rfl 13 (by decide) (hts _ q1086) (fun _ h9 => h9) rfl dX4_copy_48 ?_
            refine lv_iload_n hx hb dX4_copy_51 rfl (lv_at hl 3 rfl) ?_
            refine n_iald C hK hP 1 e_4 rfl (by omega) (by omega) dX4_copy_52 ?_
            refine lv_iconst (v := 2) hx hb dX4_copy_53 (by decide) ?_
            refine lv_icmp_ne (x := ke e_4) (y := 2) (tgt := 72) hx hb dX4_copy_54 (by decide) (fun c_8 => ?_) (fun c_8 => ?_)
            · refine lv_bipush (v := (-12)) hx hb dX4_copy_72 (by decide) ?_
              exact n_iretW (v := (-12)) (w1 := [(h, mO ad iv), (ad 13, iA G 8 ke), (ad 16, iA G 8 so), (ad 17, iA G 8 (nIf zz)), (ad 18, iA G 800 el)]) C (⟨by simp [sCopyA, sCopyS, sCopyOk, c_1, td_2, c_3, te_4, c_5, c_6, c_7, c_8], by simp [sCopyA, sCopyS, sCopyOk, c_1, td_2, c_3, te_4, c_5, c_6, c_7, c_8]⟩) hP hD hS (by first | omega | decide) (by first | omega | decide) dX4_copy_74
            · refine lv_aload_n hx hb dX4_copy_57 rfl (lv_at hl 0 rfl) ?_
              refine va_get (D := gD G) (ci := 0) (v := .ref (ad 16)) (C := RX4) (T := TX4) (N := 20) hx hb hts in_X4 hown hK hP 0 rfl rfl 16 (by decide) (hts _ q1089) (fun _ h9 => h9) rfl dX4_copy_58 ?_
              refine lv_iload_n hx hb dX4_copy_61 rfl (lv_at hl 1 rfl) ?_
              refine n_iald C hK hP 2 d_2 rfl (by omega) (by omega) dX4_copy_62 ?_
              refine lv_aload_n hx hb dX4_copy_63 rfl (lv_at hl 0 rfl) ?_
              refine va_get (D := gD G) (ci := 0) (v := .ref (ad 16)) (C := RX4) (T := TX4) (N := 20) hx hb hts in_X4 hown hK hP 0 rfl rfl 16 (by decide) (hts _ q1089) (fun _ h9 => h9) rfl dX4_copy_64 ?_
              refine lv_iload_n hx hb dX4_copy_67 rfl (lv_at hl 3 rfl) ?_
              refine n_iald C hK hP 2 e_4 rfl (by omega) (by omega) dX4_copy_68 ?_
              refine lv_icmp_eq (x := so d_2) (y := so e_4) (tgt := 75) hx hb dX4_copy_69 (by decide) (fun c_9 => ?_) (fun c_9 => ?_)
              · refine lv_iload hx hb dX4_copy_75 (lv_at hl 5 rfl) ?_
                refine lv_if_lt (x := u) (tgt := 116) hx hb dX4_copy_77 (by decide) (fun c_10 => ?_) (fun c_10 => ?_)
                · have zc_10 : ¬ 0 ≤ u := Int32.not_le.mpr c_10
                  refine lv_bipush (v := (-13)) hx hb dX4_copy_116 (by decide) ?_
                  exact n_iretW (v := (-13)) (w1 := [(h, mO ad iv), (ad 13, iA G 8 ke), (ad 16, iA G 8 so), (ad 17, iA G 8 (nIf zz)), (ad 18, iA G 800 el)]) C (⟨by simp [sCopyA, sCopyS, sCopyOk, c_1, td_2, c_3, te_4, c_5, c_6, c_7, c_8, c_9, c_10, zc_10], by simp [sCopyA, sCopyS, sCopyOk, c_1, td_2, c_3, te_4, c_5, c_6, c_7, c_8, c_9, c_10, zc_10]⟩) hP hD hS (by first | omega | decide) (by first | omega | decide) dX4_copy_118
                · have zc_10 : 0 ≤ u := Int32.not_lt.mp c_10
                  obtain ⟨un, gun, rfl⟩ := nI_of c_10
                  have tun : tn (nI un) = un := nI_clamp (by omega)
                  refine lv_iload_n hx hb dX4_copy_80 rfl (lv_at hl 2 rfl) ?_
                  refine lv_if_lt (x := i) (tgt := 116) hx hb dX4_copy_81 (by decide) (fun c_11 => ?_) (fun c_11 => ?_)
                  · have zc_11 : ¬ 0 ≤ i := Int32.not_le.mpr c_11
                    refine lv_bipush (v := (-13)) hx hb dX4_copy_116 (by decide) ?_
                    exact n_iretW (v := (-13)) (w1 := [(h, mO ad iv), (ad 13, iA G 8 ke), (ad 16, iA G 8 so), (ad 17, iA G 8 (nIf zz)), (ad 18, iA G 800 el)]) C (⟨by simp [sCopyA, sCopyS, sCopyOk, c_1, td_2, c_3, te_4, c_5, c_6, c_7, c_8, c_9, c_10, zc_10, tun, c_11, zc_11], by simp [sCopyA, sCopyS, sCopyOk, c_1, td_2, c_3, te_4, c_5, c_6, c_7, c_8, c_9, c_10, zc_10, tun, c_11, zc_11]⟩) hP hD hS (by first | omega | decide) (by first | omega | decide) dX4_copy_118
                  · have zc_11 : 0 ≤ i := Int32.not_lt.mp c_11
                    obtain ⟨xi, gxi, rfl⟩ := nI_of c_11
                    have txi : tn (nI xi) = xi := nI_clamp (by omega)
                    refine lv_iload hx hb dX4_copy_84 (lv_at hl 4 rfl) ?_
                    refine lv_if_lt (x := j) (tgt := 116) hx hb dX4_copy_86 (by decide) (fun c_12 => ?_) (fun c_12 => ?_)
                    · have zc_12 : ¬ 0 ≤ j := Int32.not_le.mpr c_12
                      refine lv_bipush (v := (-13)) hx hb dX4_copy_116 (by decide) ?_
                      exact n_iretW (v := (-13)) (w1 := [(h, mO ad iv), (ad 13, iA G 8 ke), (ad 16, iA G 8 so), (ad 17, iA G 8 (nIf zz)), (ad 18, iA G 800 el)]) C (⟨by simp [sCopyA, sCopyS, sCopyOk, c_1, td_2, c_3, te_4, c_5, c_6, c_7, c_8, c_9, c_10, zc_10, tun, c_11, zc_11, txi, c_12, zc_12], by simp [sCopyA, sCopyS, sCopyOk, c_1, td_2, c_3, te_4, c_5, c_6, c_7, c_8, c_9, c_10, zc_10, tun, c_11, zc_11, txi, c_12, zc_12]⟩) hP hD hS (by first | omega | decide) (by first | omega | decide) dX4_copy_118
                    · have zc_12 : 0 ≤ j := Int32.not_lt.mp c_12
                      obtain ⟨xj, gxj, rfl⟩ := nI_of c_12
                      have txj : tn (nI xj) = xj := nI_clamp (by omega)
                      refine lv_iload hx hb dX4_copy_89 (lv_at hl 5 rfl) ?_
                      refine lv_aload_n hx hb dX4_copy_91 rfl (lv_at hl 0 rfl) ?_
                      refine va_get (D := gD G) (ci := 0) (v := .ref (ad 17)) (C := RX4) (T := TX4) (N := 20) hx hb hts in_X4 hown hK hP 0 rfl rfl 17 (by decide) (hts _ q1090) (fun _ h9 => h9) rfl dX4_copy_92 ?_
                      refine lv_iload_n hx hb dX4_copy_95 rfl (lv_at hl 1 rfl) ?_
                      refine n_iald C hK hP 3 d_2 rfl (by omega) (by omega) dX4_copy_96 ?_
                      have hz_13 := hz d_2
                      refine lv_iload_n hx hb dX4_copy_97 rfl (lv_at hl 2 rfl) ?_
                      refine lv_isub (x := nI (zz d_2)) (y := nI xi) hx hb dX4_copy_98 ?_
                      refine lv_icmp_gt (x := nI un) (y := (nI (zz d_2)) - (nI xi)) (tgt := 116) hx hb dX4_copy_99 (by decide) (fun c_14 => ?_) (fun c_14 => ?_)
                      · have zc_14 : ¬ (nI un) ≤ ((nI (zz d_2)) - (nI xi)) := Int32.not_le.mpr c_14
                        refine lv_bipush (v := (-13)) hx hb dX4_copy_116 (by decide) ?_
                        exact n_iretW (v := (-13)) (w1 := [(h, mO ad iv), (ad 13, iA G 8 ke), (ad 16, iA G 8 so), (ad 17, iA G 8 (nIf zz)), (ad 18, iA G 800 el)]) C (⟨by simp [sCopyA, sCopyS, sCopyOk, c_1, td_2, c_3, te_4, c_5, c_6, c_7, c_8, c_9, c_10, zc_10, tun, c_11, zc_11, txi, c_12, zc_12, txj, c_14, zc_14], by simp [sCopyA, sCopyS, sCopyOk, c_1, td_2, c_3, te_4, c_5, c_6, c_7, c_8, c_9, c_10, zc_10, tun, c_11, zc_11, txi, c_12, zc_12, txj, c_14, zc_14]⟩) hP hD hS (by first | omega | decide) (by first | omega | decide) dX4_copy_118
                      · have zc_14 : (nI un) ≤ ((nI (zz d_2)) - (nI xi)) := Int32.not_lt.mp c_14
                        have nc_14 : ¬ zz d_2 < un + xi := fun q => c_14 ((cmp_sub (by have := hz d_2; omega) (by omega) (by omega)).mpr q)
                        refine lv_iload hx hb dX4_copy_102 (lv_at hl 5 rfl) ?_
                        refine lv_aload_n hx hb dX4_copy_104 rfl (lv_at hl 0 rfl) ?_
                        refine va_get (D := gD G) (ci := 0) (v := .ref (ad 17)) (C := RX4) (T := TX4) (N := 20) hx hb hts in_X4 hown hK hP 0 rfl rfl 17 (by decide) (hts _ q1090) (fun _ h9 => h9) rfl dX4_copy_105 ?_
                        refine lv_iload_n hx hb dX4_copy_108 rfl (lv_at hl 3 rfl) ?_
                        refine n_iald C hK hP 3 e_4 rfl (by omega) (by omega) dX4_copy_109 ?_
                        have hz_15 := hz e_4
                        refine lv_iload hx hb dX4_copy_110 (lv_at hl 4 rfl) ?_
                        refine lv_isub (x := nI (zz e_4)) (y := nI xj) hx hb dX4_copy_112 ?_
                        refine lv_icmp_le (x := nI un) (y := (nI (zz e_4)) - (nI xj)) (tgt := 119) hx hb dX4_copy_113 (by decide) (fun c_16 => ?_) (fun c_16 => ?_)
                        · have zc_16 : ¬ ((nI (zz e_4)) - (nI xj)) < (nI un) := Int32.not_lt.mpr c_16
                          have nc_16 : ¬ zz e_4 < un + xj := fun q => zc_16 ((cmp_sub (by have := hz e_4; omega) (by omega) (by omega)).mpr q)
                          refine lv_iconst (v := 0) hx hb dX4_copy_119 (by decide) ?_
                          refine lv_istore (lv' := [(6, .int 0), (0, .ref h), (1, .int (nI d_2)), (2, .int (nI xi)), (3, .int (nI e_4)), (4, .int (nI xj)), (5, .int (nI un))]) hx hb dX4_copy_120 hl (Nat.le_of_ble_eq_true rfl) rfl (fun ls hl => ?_)
                          suffices hlp_17 : (∀ (n k : Nat), k + n = un → ∀ (H : Heap) (locs : List Loc), PP G [(h, mO ad iv), (ad 13, iA G 8 ke), (ad 16, iA G 8 so), (ad 17, iA G 8 (nIf zz)), (ad 18, iA G 800 (cpr el (100 * d_2 + xi) (100 * e_4 + xj) un k (decide (nI xj < nI xi))))] H → va_D A [(h, mO ad iv), (ad 13, iA G 8 ke), (ad 16, iA G 8 so), (ad 17, iA G 8 (nIf zz)), (ad 18, iA G 800 (cpr el (100 * d_2 + xi) (100 * e_4 + xj) un k (decide (nI xj < nI xi))))] → va_S A s.heap H locs → ∀ (ls : Array Slot), lv_has ls 8 [(6, .int (nI k)), (0, .ref h), (1, .int (nI d_2)), (2, .int (nI xi)), (3, .int (nI e_4)), (4, .int (nI xj)), (5, .int (nI un))] → W p0_ l e0_ ({ frames := 2, cells := 0, slots := 0, locals := 42 } : Room) s m args below meth c H locs (0) (0) (MQ below (va_Qi (S := va_W) (fun rv w1 => rv = sCopyA ke so zz (nI d_2) (nI xi) (nI e_4) (nI xj) (nI un) ∧ w1 = [(h, mO ad iv), (ad 13, iA G 8 ke), (ad 16, iA G 8 so), (ad 17, iA G 8 (nIf zz)), (ad 18, iA G 800 (sCopyS ke so zz el (nI d_2) (nI xi) (nI e_4) (nI xj) (nI un)))]) (fun w1 t => PP G w1 t.heap ∧ va_D A w1) A) args s 0 0 A) (F0 m 122 ls [])) by
                            exact hlp_17 (un) 0 (by omega) _ _ (hP.sub [0, 1, 2, 3, 4] (by rw [cpr_0]; rfl)) (hD.sub [0, 1, 2, 3, 4] (by decide) (by rw [cpr_0]; rfl)) hS ls (lv_sub hl [0, 1, 2, 3, 4, 5, 6] rfl)
                          have hend_17 : ∀ (H : Heap) (locs : List Loc), PP G [(h, mO ad iv), (ad 13, iA G 8 ke), (ad 16, iA G 8 so), (ad 17, iA G 8 (nIf zz)), (ad 18, iA G 800 (cpr el (100 * d_2 + xi) (100 * e_4 + xj) un un (decide (nI xj < nI xi))))] H → va_D A [(h, mO ad iv), (ad 13, iA G 8 ke), (ad 16, iA G 8 so), (ad 17, iA G 8 (nIf zz)), (ad 18, iA G 800 (cpr el (100 * d_2 + xi) (100 * e_4 + xj) un un (decide (nI xj < nI xi))))] → va_S A s.heap H locs → ∀ (ls : Array Slot), lv_has ls 8 [(6, .int (nI un)), (0, .ref h), (1, .int (nI d_2)), (2, .int (nI xi)), (3, .int (nI e_4)), (4, .int (nI xj)), (5, .int (nI un))] → W p0_ l e0_ ({ frames := 2, cells := 0, slots := 0, locals := 42 } : Room) s m args below meth c H locs (0) (0) (MQ below (va_Qi (S := va_W) (fun rv w1 => rv = sCopyA ke so zz (nI d_2) (nI xi) (nI e_4) (nI xj) (nI un) ∧ w1 = [(h, mO ad iv), (ad 13, iA G 8 ke), (ad 16, iA G 8 so), (ad 17, iA G 8 (nIf zz)), (ad 18, iA G 800 (sCopyS ke so zz el (nI d_2) (nI xi) (nI e_4) (nI xj) (nI un)))]) (fun w1 t => PP G w1 t.heap ∧ va_D A w1) A) args s 0 0 A) (F0 m 122 ls []) := by
                            intro H locs hP hD hS ls hl
                            refine lv_iload hx hb dX4_copy_122 (lv_at hl 0 rfl) ?_
                            refine lv_iload hx hb dX4_copy_124 (lv_at hl 6 rfl) ?_
                            refine n_ic_ge (x := un) (y := un) (tgt := 184) hx hb (by omega) (by omega) dX4_copy_126 (by decide) (fun c_18 => ?_) (fun c_18 => absurd c_18 (by omega))
                            refine lv_iload hx hb dX4_copy_184 (lv_at hl 6 rfl) ?_
                            exact n_iretW (v := nI un) (w1 := [(h, mO ad iv), (ad 13, iA G 8 ke), (ad 16, iA G 8 so), (ad 17, iA G 8 (nIf zz)), (ad 18, iA G 800 (cpr el (100 * d_2 + xi) (100 * e_4 + xj) un un (decide (nI xj < nI xi))))]) C (⟨by simp [sCopyA, sCopyS, sCopyOk, c_1, td_2, c_3, te_4, c_5, c_6, c_7, c_8, c_9, c_10, zc_10, tun, c_11, zc_11, txi, c_12, zc_12, txj, c_14, zc_14, c_16, zc_16, c_18], by simp [sCopyA, sCopyS, sCopyOk, c_1, td_2, c_3, te_4, c_5, c_6, c_7, c_8, c_9, c_10, zc_10, tun, c_11, zc_11, txi, c_12, zc_12, txj, c_14, zc_14, c_16, zc_16, c_18]⟩) hP hD hS (by first | omega | decide) (by first | omega | decide) dX4_copy_186
                          intro n
                          induction n with
                          | zero =>
                            intro k hi_17 H locs hP hD hS ls hl
                            obtain e_17 : k = un := by omega
                            first | (subst e_17; exact hend_17 H locs hP hD hS ls hl) | (rw [e_17] at hl hP hD; exact hend_17 H locs hP hD hS ls hl)
                          | succ n ih_17 =>
                            intro k hi_17 H locs hP hD hS ls hl
                            have hzD := hz d_2
                            have hzE := hz e_4
                            refine lv_iload hx hb dX4_copy_122 (lv_at hl 0 rfl) ?_
                            refine lv_iload hx hb dX4_copy_124 (lv_at hl 6 rfl) ?_
                            refine n_ic_ge (x := k) (y := un) (tgt := 184) hx hb (by omega) (by omega) dX4_copy_126 (by decide) (fun c_19 => absurd c_19 (by omega)) (fun c_19 => ?_)
                            refine lv_iload_n hx hb dX4_copy_129 rfl (lv_at hl 3 rfl) ?_
                            refine lv_iload hx hb dX4_copy_130 (lv_at hl 5 rfl) ?_
                            refine n_ic_le (x := xi) (y := xj) (tgt := 140) hx hb (by omega) (by omega) dX4_copy_132 (by decide) (fun c_20 => ?_) (fun c_20 => ?_)
                            · have zc_20 : ¬ xj < xi := Nat.not_lt.mpr c_20
                              have hup : decide (nI xj < nI xi) = false := decide_eq_false (nI_nlt c_20 (by omega))
                              rw [hup] at hP hD
                              refine lv_iload hx hb dX4_copy_140 (lv_at hl 6 rfl) ?_
                              refine lv_iconst (v := 1) hx hb dX4_copy_142 (by decide) ?_
                              refine n_isub hx hb un 1 (by omega) dX4_copy_143 ?_
                              refine lv_iload hx hb dX4_copy_144 (lv_at hl 0 rfl) ?_
                              refine n_isub hx hb (un - 1) k (by omega) dX4_copy_146 ?_
                              refine lv_istore (lv' := [(7, .int (nI ((un - 1) - k))), (6, .int (nI k)), (0, .ref h), (1, .int (nI d_2)), (2, .int (nI xi)), (3, .int (nI e_4)), (4, .int (nI xj)), (5, .int (nI un))]) hx hb dX4_copy_147 hl (Nat.le_of_ble_eq_true rfl) rfl (fun ls hl => ?_)
                              refine lv_aload_n hx hb dX4_copy_149 rfl (lv_at hl 2 rfl) ?_
                              refine va_get (D := gD G) (ci := 0) (v := .ref (ad 18)) (C := RX4) (T := TX4) (N := 20) hx hb hts in_X4 hown hK hP 0 rfl rfl 18 (by decide) (hts _ q1091) (fun _ h9 => h9) rfl dX4_copy_150 ?_
                              refine lv_bipush (v := 100) hx hb dX4_copy_153 (by decide) ?_
                              refine lv_iload_n hx hb dX4_copy_155 rfl (lv_at hl 5 rfl) ?_
                              refine n_imul hx hb 100 e_4 dX4_copy_156 ?_
                              refine lv_iload hx hb dX4_copy_157 (lv_at hl 6 rfl) ?_
                              refine n_iadd hx hb (100 * e_4) xj dX4_copy_159 ?_
                              refine lv_iload hx hb dX4_copy_160 (lv_at hl 0 rfl) ?_
                              refine n_iadd hx hb ((100 * e_4) + xj) ((un - 1) - k) dX4_copy_162 ?_
                              refine lv_aload_n hx hb dX4_copy_163 rfl (lv_at hl 2 rfl) ?_
                              refine va_get (D := gD G) (ci := 0) (v := .ref (ad 18)) (C := RX4) (T := TX4) (N := 20) hx hb hts in_X4 hown hK hP 0 rfl rfl 18 (by decide) (hts _ q1091) (fun _ h9 => h9) rfl dX4_copy_164 ?_
                              refine lv_bipush (v := 100) hx hb dX4_copy_167 (by decide) ?_
                              refine lv_iload_n hx hb dX4_copy_169 rfl (lv_at hl 3 rfl) ?_
                              refine n_imul hx hb 100 d_2 dX4_copy_170 ?_
                              refine lv_iload_n hx hb dX4_copy_171 rfl (lv_at hl 4 rfl) ?_
                              refine n_iadd hx hb (100 * d_2) xi dX4_copy_172 ?_
                              refine lv_iload hx hb dX4_copy_173 (lv_at hl 0 rfl) ?_
                              refine n_iadd hx hb ((100 * d_2) + xi) ((un - 1) - k) dX4_copy_175 ?_
                              refine n_iald C hK hP 4 (((100 * d_2) + xi) + ((un - 1) - k)) rfl (by omega) (by omega) dX4_copy_176 ?_
                              refine n_eqi (cpr_rd (by omega)) ?_
                              refine n_iast (x := el (((100 * d_2) + xi) + ((un - 1) - k))) C hK hP hD hS 4 (((100 * e_4) + xj) + ((un - 1) - k)) rfl (by omega) (by omega) dX4_copy_177 (fun H locs hP hD hS => ?_)
                              have hP : PP G [(h, mO ad iv), (ad 13, iA G 8 ke), (ad 16, iA G 8 so), (ad 17, iA G 8 (nIf zz)), (ad 18, iA G 800 (upd (cpr el (100 * d_2 + xi) (100 * e_4 + xj) un k false) (((100 * e_4) + xj) + ((un - 1) - k)) (el (((100 * d_2) + xi) + ((un - 1) - k)))))] H := hP
                              have hD : va_D A [(h, mO ad iv), (ad 13, iA G 8 ke), (ad 16, iA G 8 so), (ad 17, iA G 8 (nIf zz)), (ad 18, iA G 800 (upd (cpr el (100 * d_2 + xi) (100 * e_4 + xj) un k false) (((100 * e_4) + xj) + ((un - 1) - k)) (el (((100 * d_2) + xi) + ((un - 1) - k)))))] := hD
                              refine n_iinc (k := 1) (lv' := [(6, .int (nI (k + 1))), (7, .int (nI ((un - 1) - k))), (0, .ref h), (1, .int (nI d_2)), (2, .int (nI xi)), (3, .int (nI e_4)), (4, .int (nI xj)), (5, .int (nI un))]) hx hb k 1 dX4_copy_178 hl rfl (Nat.le_of_ble_eq_true rfl) rfl (fun ls hl => ?_)
                              refine lv_goto (tgt := 122) hx hb dX4_copy_181 (by decide) ?_
                              have e_21 : (iA G 800 (cpr el (100 * d_2 + xi) (100 * e_4 + xj) un (k + 1) (decide (nI xj < nI xi))) : va_E) = iA G 800 (upd (cpr el (100 * d_2 + xi) (100 * e_4 + xj) un k false) (((100 * e_4) + xj) + ((un - 1) - k)) (el (((100 * d_2) + xi) + ((un - 1) - k)))) := by rw [hup, cpr_dn (by omega)]
                              exact ih_17 (k + 1) (by omega) _ _ (by rw [e_21]; exact hP.sub [0, 1, 2, 3, 4] rfl) (by rw [e_21]; exact hD.sub [0, 1, 2, 3, 4] (by decide) rfl) hS ls (lv_sub hl [0, 2, 3, 4, 5, 6, 7] rfl)
                            · have zc_20 : ¬ xi ≤ xj := Nat.not_le.mpr c_20
                              have hup : decide (nI xj < nI xi) = true := decide_eq_true (nI_lt c_20 (by omega))
                              rw [hup] at hP hD
                              refine lv_iload hx hb dX4_copy_135 (lv_at hl 0 rfl) ?_
                              refine lv_goto (tgt := 147) hx hb dX4_copy_137 (by decide) ?_
                              refine lv_istore (lv' := [(7, .int (nI k)), (6, .int (nI k)), (0, .ref h), (1, .int (nI d_2)), (2, .int (nI xi)), (3, .int (nI e_4)), (4, .int (nI xj)), (5, .int (nI un))]) hx hb dX4_copy_147 hl (Nat.le_of_ble_eq_true rfl) rfl (fun ls hl => ?_)
                              refine lv_aload_n hx hb dX4_copy_149 rfl (lv_at hl 2 rfl) ?_
                              refine va_get (D := gD G) (ci := 0) (v := .ref (ad 18)) (C := RX4) (T := TX4) (N := 20) hx hb hts in_X4 hown hK hP 0 rfl rfl 18 (by decide) (hts _ q1091) (fun _ h9 => h9) rfl dX4_copy_150 ?_
                              refine lv_bipush (v := 100) hx hb dX4_copy_153 (by decide) ?_
                              refine lv_iload_n hx hb dX4_copy_155 rfl (lv_at hl 5 rfl) ?_
                              refine n_imul hx hb 100 e_4 dX4_copy_156 ?_
                              refine lv_iload hx hb dX4_copy_157 (lv_at hl 6 rfl) ?_
                              refine n_iadd hx hb (100 * e_4) xj dX4_copy_159 ?_
                              refine lv_iload hx hb dX4_copy_160 (lv_at hl 0 rfl) ?_
                              refine n_iadd hx hb ((100 * e_4) + xj) k dX4_copy_162 ?_
                              refine lv_aload_n hx hb dX4_copy_163 rfl (lv_at hl 2 rfl) ?_
                              refine va_get (D := gD G) (ci := 0) (v := .ref (ad 18)) (C := RX4) (T := TX4) (N := 20) hx hb hts in_X4 hown hK hP 0 rfl rfl 18 (by decide) (hts _ q1091) (fun _ h9 => h9) rfl dX4_copy_164 ?_
                              refine lv_bipush (v := 100) hx hb dX4_copy_167 (by decide) ?_
                              refine lv_iload_n hx hb dX4_copy_169 rfl (lv_at hl 3 rfl) ?_
                              refine n_imul hx hb 100 d_2 dX4_copy_170 ?_
                              refine lv_iload_n hx hb dX4_copy_171 rfl (lv_at hl 4 rfl) ?_
                              refine n_iadd hx hb (100 * d_2) xi dX4_copy_172 ?_
                              refine lv_iload hx hb dX4_copy_173 (lv_at hl 0 rfl) ?_
                              refine n_iadd hx hb ((100 * d_2) + xi) k dX4_copy_175 ?_
                              refine n_iald C hK hP 4 (((100 * d_2) + xi) + k) rfl (by omega) (by omega) dX4_copy_176 ?_
                              refine n_eqi (cpr_ru (by omega)) ?_
                              refine n_iast (x := el (((100 * d_2) + xi) + k)) C hK hP hD hS 4 (((100 * e_4) + xj) + k) rfl (by omega) (by omega) dX4_copy_177 (fun H locs hP hD hS => ?_)
                              have hP : PP G [(h, mO ad iv), (ad 13, iA G 8 ke), (ad 16, iA G 8 so), (ad 17, iA G 8 (nIf zz)), (ad 18, iA G 800 (upd (cpr el (100 * d_2 + xi) (100 * e_4 + xj) un k true) (((100 * e_4) + xj) + k) (el (((100 * d_2) + xi) + k))))] H := hP
                              have hD : va_D A [(h, mO ad iv), (ad 13, iA G 8 ke), (ad 16, iA G 8 so), (ad 17, iA G 8 (nIf zz)), (ad 18, iA G 800 (upd (cpr el (100 * d_2 + xi) (100 * e_4 + xj) un k true) (((100 * e_4) + xj) + k) (el (((100 * d_2) + xi) + k))))] := hD
                              refine n_iinc (k := 1) (lv' := [(6, .int (nI (k + 1))), (7, .int (nI k)), (0, .ref h), (1, .int (nI d_2)), (2, .int (nI xi)), (3, .int (nI e_4)), (4, .int (nI xj)), (5, .int (nI un))]) hx hb k 1 dX4_copy_178 hl rfl (Nat.le_of_ble_eq_true rfl) rfl (fun ls hl => ?_)
                              refine lv_goto (tgt := 122) hx hb dX4_copy_181 (by decide) ?_
                              have e_22 : (iA G 800 (cpr el (100 * d_2 + xi) (100 * e_4 + xj) un (k + 1) (decide (nI xj < nI xi))) : va_E) = iA G 800 (upd (cpr el (100 * d_2 + xi) (100 * e_4 + xj) un k true) (((100 * e_4) + xj) + k) (el (((100 * d_2) + xi) + k))) := by rw [hup, cpr_up (by omega)]
                              exact ih_17 (k + 1) (by omega) _ _ (by rw [e_22]; exact hP.sub [0, 1, 2, 3, 4] rfl) (by rw [e_22]; exact hD.sub [0, 1, 2, 3, 4] (by decide) rfl) hS ls (lv_sub hl [0, 2, 3, 4, 5, 6, 7] rfl)
                        · have zc_16 : ((nI (zz e_4)) - (nI xj)) < (nI un) := Int32.not_le.mp c_16
                          refine lv_bipush (v := (-13)) hx hb dX4_copy_116 (by decide) ?_
                          exact n_iretW (v := (-13)) (w1 := [(h, mO ad iv), (ad 13, iA G 8 ke), (ad 16, iA G 8 so), (ad 17, iA G 8 (nIf zz)), (ad 18, iA G 800 el)]) C (⟨by simp [sCopyA, sCopyS, sCopyOk, c_1, td_2, c_3, te_4, c_5, c_6, c_7, c_8, c_9, c_10, zc_10, tun, c_11, zc_11, txi, c_12, zc_12, txj, c_14, zc_14, c_16, zc_16], by simp [sCopyA, sCopyS, sCopyOk, c_1, td_2, c_3, te_4, c_5, c_6, c_7, c_8, c_9, c_10, zc_10, tun, c_11, zc_11, txi, c_12, zc_12, txj, c_14, zc_14, c_16, zc_16]⟩) hP hD hS (by first | omega | decide) (by first | omega | decide) dX4_copy_118
              · refine lv_bipush (v := (-12)) hx hb dX4_copy_72 (by decide) ?_
                exact n_iretW (v := (-12)) (w1 := [(h, mO ad iv), (ad 13, iA G 8 ke), (ad 16, iA G 8 so), (ad 17, iA G 8 (nIf zz)), (ad 18, iA G 800 el)]) C (⟨by simp [sCopyA, sCopyS, sCopyOk, c_1, td_2, c_3, te_4, c_5, c_6, c_7, c_8, c_9], by simp [sCopyA, sCopyS, sCopyOk, c_1, td_2, c_3, te_4, c_5, c_6, c_7, c_8, c_9]⟩) hP hD hS (by first | omega | decide) (by first | omega | decide) dX4_copy_74
        · refine lv_bipush (v := (-11)) hx hb dX4_copy_34 (by decide) ?_
          exact n_iretW (v := (-11)) (w1 := [(h, mO ad iv), (ad 13, iA G 8 ke), (ad 16, iA G 8 so), (ad 17, iA G 8 (nIf zz)), (ad 18, iA G 800 el)]) C (⟨by simp [sCopyA, sCopyS, sCopyOk, c_1, td_2, c_3, te_4, c_5, c_6], by simp [sCopyA, sCopyS, sCopyOk, c_1, td_2, c_3, te_4, c_5, c_6]⟩) hP hD hS (by first | omega | decide) (by first | omega | decide) dX4_copy_36
    · refine lv_iconst (v := (-1)) hx hb dX4_copy_14 (by decide) ?_
      exact n_iretW (v := (-1)) (w1 := [(h, mO ad iv), (ad 13, iA G 8 ke), (ad 16, iA G 8 so), (ad 17, iA G 8 (nIf zz)), (ad 18, iA G 800 el)]) C (⟨by simp [sCopyA, sCopyS, sCopyOk, c_1, td_2, c_3], by simp [sCopyA, sCopyS, sCopyOk, c_1, td_2, c_3]⟩) hP hD hS (by first | omega | decide) (by first | omega | decide) dX4_copy_15
