set_option maxHeartbeats 4000000 in
set_option maxRecDepth 100000 in
theorem metX4_twoTurns (l : Launch) (G : GG) (h : Nat) (ad : Nat → Nat) (iv : Nat → Int32) (r : Nat → Int32) (N : Nat) (rm : Nat → Int32) (what : Int32) (hN : N ≤ 9) (hr : r 0 = nI N) : MW l yX4_twoTurns cX4_twoTurns 7 (some .int) ({ frames := 6, cells := 0, slots := 0, locals := 131 }) [.ref h, .int what] [(h, mO ad iv), (ad 0, iA G 57 r), (ad 1, iA G 57 rm)] G (KM G) 0 0 (fun rv w1 => rv = sTTA r N what ∧ ∃ g : Nat → Int32, w1 = [(h, mO ad iv), (ad 0, iA G 57 r), (ad 1, iA G 57 g)]) := by
  -- rows printed by wip/tools/gen.py
  refine mw_mk RX4 (by decide) rfl (Nat.le_of_ble_eq_true rfl) ?_
  intro p0_ e0_ s m args below meth c A C hA hP hK hD ls hl
  have hx := C.1
  have hb := C.2.1
  have hml := C.2.2.2.2.1
  have hown := C.2.2.2.2.2.1
  have hts := C.2.2.2.2.2.2
  have hS : va_S A s.heap s.heap [] := va_S.rf
  have hl : lv_has ls 7 [(0, .ref h), (1, .int what)] := hl
  refine lv_iload_n hx hb dX4_twoTurns_0 rfl (lv_at hl 1 rfl) ?_
  refine lv_iconst (v := 0) hx hb dX4_twoTurns_1 (by decide) ?_
  refine lv_iconst (v := 1) hx hb dX4_twoTurns_2 (by decide) ?_
  refine c_S (rest := []) C (metX4_isIn l G what 0 1) 3 (lw_S q1145 q1146 q42 q1147) (by decide +kernel) ⟨rfl, rfl⟩ ⟨(Nat.le_of_ble_eq_true rfl), (Nat.le_of_ble_eq_true rfl)⟩ (KM_mv G) (hP.sub (ws' := []) [] rfl) hK hl rfl rfl (Nat.le_of_ble_eq_true rfl) ⟨(Nat.le_of_ble_eq_true rfl), (Nat.le_of_ble_eq_true rfl)⟩ dX4_twoTurns_3 ?_
  refine n_if_neB (b := (sIn what 0 1)) (tgt := 11) hx hb dX4_twoTurns_6 (by decide) (fun c_1 => ?_) (fun c_1 => ?_)
  · obtain ⟨what_2, hwhat_2, gwhat_2, rfl⟩ := sIn_t (a := 0) (b := 1) (by omega) (by omega) c_1
    have twhat_2 : tn (nI what_2) = what_2 := nI_clamp (by omega)
    refine lv_bipush (v := (-4)) hx hb dX4_twoTurns_11 (by decide) ?_
    refine lv_istore_n (lv' := [(2, .int (-4)), (0, .ref h), (1, .int (nI what_2))]) hx hb dX4_twoTurns_13 rfl hl (Nat.le_of_ble_eq_true rfl) rfl (fun ls hl => ?_)
    refine lv_iconst (v := (-1)) hx hb dX4_twoTurns_14 (by decide) ?_
    refine lv_istore_n (lv' := [(3, .int (-1)), (2, .int (-4)), (0, .ref h), (1, .int (nI what_2))]) hx hb dX4_twoTurns_15 rfl hl (Nat.le_of_ble_eq_true rfl) rfl (fun ls hl => ?_)
    refine lv_iconst (v := 0) hx hb dX4_twoTurns_16 (by decide) ?_
    refine lv_istore (lv' := [(4, .int 0), (3, .int (-1)), (2, .int (-4)), (0, .ref h), (1, .int (nI what_2))]) hx hb dX4_twoTurns_17 hl (Nat.le_of_ble_eq_true rfl) rfl (fun ls hl => ?_)
    suffices hlp_3 : (∀ (n i : Nat), i + n = N → ∀ (rm : Nat → Int32), ∀ (H : Heap) (locs : List Loc), PP G [(h, mO ad iv), (ad 0, iA G 57 r), (ad 1, iA G 57 rm)] H → va_D A [(h, mO ad iv), (ad 0, iA G 57 r), (ad 1, iA G 57 rm)] → va_S A s.heap H locs → ∀ (ls : Array Slot), lv_has ls 7 [(4, .int (nI i)), (3, .int (ttB r N (ttO r N i))), (2, .int (enc (ttO r N i))), (0, .ref h), (1, .int (nI what_2))] → W p0_ l e0_ ({ frames := 6, cells := 0, slots := 0, locals := 131 } : Room) s m args below meth c H locs (0) (0) (MQ below (va_Qi (S := va_W) (fun rv w1 => rv = sTTA r N (nI what_2) ∧ ∃ g : Nat → Int32, w1 = [(h, mO ad iv), (ad 0, iA G 57 r), (ad 1, iA G 57 g)]) (fun w1 t => PP G w1 t.heap ∧ va_D A w1) A) args s 0 0 A) (F0 m 19 ls [])) by
      exact hlp_3 (N) 0 (by omega) (rm) _ _ (hP.sub [0, 1, 2] rfl) (hD.sub [0, 1, 2] (by decide) rfl) hS ls (lv_sub hl [0, 1, 2, 3, 4] rfl)
    have hend_3 : ∀ (rm : Nat → Int32), ∀ (H : Heap) (locs : List Loc), PP G [(h, mO ad iv), (ad 0, iA G 57 r), (ad 1, iA G 57 rm)] H → va_D A [(h, mO ad iv), (ad 0, iA G 57 r), (ad 1, iA G 57 rm)] → va_S A s.heap H locs → ∀ (ls : Array Slot), lv_has ls 7 [(4, .int (nI N)), (3, .int (ttB r N (ttO r N N))), (2, .int (enc (ttO r N N))), (0, .ref h), (1, .int (nI what_2))] → W p0_ l e0_ ({ frames := 6, cells := 0, slots := 0, locals := 131 } : Room) s m args below meth c H locs (0) (0) (MQ below (va_Qi (S := va_W) (fun rv w1 => rv = sTTA r N (nI what_2) ∧ ∃ g : Nat → Int32, w1 = [(h, mO ad iv), (ad 0, iA G 57 r), (ad 1, iA G 57 g)]) (fun w1 t => PP G w1 t.heap ∧ va_D A w1) A) args s 0 0 A) (F0 m 19 ls []) := by
      intro rm H locs hP hD hS ls hl
      refine lv_iload hx hb dX4_twoTurns_19 (lv_at hl 0 rfl) ?_
      refine lv_aload_n hx hb dX4_twoTurns_21 rfl (lv_at hl 3 rfl) ?_
      refine va_get (D := gD G) (ci := 0) (v := .ref (ad 0)) (C := RX4) (T := TX4) (N := 20) hx hb hts in_X4 hown hK hP 0 rfl rfl 0 (by decide) (hts _ q1073) (fun _ h9 => h9) rfl dX4_twoTurns_22 ?_
      refine lv_iconst (v := 0) hx hb dX4_twoTurns_25 (by decide) ?_
      refine n_iald C hK hP 1 0 rfl (by omega) (by omega) dX4_twoTurns_26 ?_
      refine n_eqi (hr) ?_
      refine n_ic_ge (x := N) (y := N) (tgt := 130) hx hb (by omega) (by omega) dX4_twoTurns_27 (by decide) (fun c_4 => ?_) (fun c_4 => absurd c_4 (by omega))
      refine lv_iload_n hx hb dX4_twoTurns_130 rfl (lv_at hl 4 rfl) ?_
      refine lv_iconst (v := 1) hx hb dX4_twoTurns_131 (by decide) ?_
      refine n_ic_ne (x := what_2) (y := 1) (tgt := 139) hx hb (by omega) (by omega) dX4_twoTurns_132 (by decide) (fun c_5 => ?_) (fun c_5 => ?_)
      · have zc_5 : ¬ nI what_2 = 1 := fun q => c_5 ((nI_eq (by omega) (by omega)).mp q)
        refine lv_iconst (v := 0) hx hb dX4_twoTurns_139 (by decide) ?_
        refine lv_iload_n hx hb dX4_twoTurns_140 rfl (lv_at hl 1 rfl) ?_
        refine c_S (rest := []) C (metX4_most l G 0 (ttB r N (ttO r N N))) 2 (lw_S q1204 q1205 q42 q1206) (by decide +kernel) ⟨rfl, rfl⟩ ⟨(Nat.le_of_ble_eq_true rfl), (Nat.le_of_ble_eq_true rfl)⟩ (KM_mv G) (hP.sub (ws' := []) [] rfl) hK hl rfl rfl (Nat.le_of_ble_eq_true rfl) ⟨(Nat.le_of_ble_eq_true rfl), (Nat.le_of_ble_eq_true rfl)⟩ dX4_twoTurns_141 ?_
        exact n_iretW (v := mx 0 (ttB r N (ttO r N N))) (w1 := [(h, mO ad iv), (ad 0, iA G 57 r), (ad 1, iA G 57 rm)]) C (⟨by first | (simp [sTTA, c_1, twhat_2, c_4, c_5, zc_5]; done), _, rfl⟩) hP hD hS (by first | omega | decide) (by first | omega | decide) dX4_twoTurns_144
      · obtain rfl := c_5
        have zc_5 : (nI 1 = 1) = True := eq_true rfl
        refine lv_iload_n hx hb dX4_twoTurns_135 rfl (lv_at hl 2 rfl) ?_
        refine lv_goto (tgt := 144) hx hb dX4_twoTurns_136 (by decide) ?_
        exact n_iretW (v := enc (ttO r N N)) (w1 := [(h, mO ad iv), (ad 0, iA G 57 r), (ad 1, iA G 57 rm)]) C (⟨by first | (simp [sTTA, c_1, twhat_2, c_4, zc_5]; done), _, rfl⟩) hP hD hS (by first | omega | decide) (by first | omega | decide) dX4_twoTurns_144
    intro n
    induction n with
    | zero =>
      intro i hi_3 rm H locs hP hD hS ls hl
      obtain e_3 : i = N := by omega
      first | (subst e_3; exact hend_3 rm H locs hP hD hS ls hl) | (rw [e_3] at hl hP hD; exact hend_3 rm H locs hP hD hS ls hl)
    | succ n ih_3 =>
      intro i hi_3 rm H locs hP hD hS ls hl
      refine lv_iload hx hb dX4_twoTurns_19 (lv_at hl 0 rfl) ?_
      refine lv_aload_n hx hb dX4_twoTurns_21 rfl (lv_at hl 3 rfl) ?_
      refine va_get (D := gD G) (ci := 0) (v := .ref (ad 0)) (C := RX4) (T := TX4) (N := 20) hx hb hts in_X4 hown hK hP 0 rfl rfl 0 (by decide) (hts _ q1073) (fun _ h9 => h9) rfl dX4_twoTurns_22 ?_
      refine lv_iconst (v := 0) hx hb dX4_twoTurns_25 (by decide) ?_
      refine n_iald C hK hP 1 0 rfl (by omega) (by omega) dX4_twoTurns_26 ?_
      refine n_eqi (hr) ?_
      refine n_ic_ge (x := i) (y := N) (tgt := 130) hx hb (by omega) (by omega) dX4_twoTurns_27 (by decide) (fun c_6 => absurd c_6 (by omega)) (fun c_6 => ?_)
      refine lv_iconst (v := 0) hx hb dX4_twoTurns_30 (by decide) ?_
      refine lv_istore (lv' := [(5, .int 0), (4, .int (nI i)), (3, .int (ttB r N (ttO r N i))), (2, .int (enc (ttO r N i))), (0, .ref h), (1, .int (nI what_2))]) hx hb dX4_twoTurns_31 hl (Nat.le_of_ble_eq_true rfl) rfl (fun ls hl => ?_)
      suffices hlp_7 : (∀ (n j : Nat), j + n = N → ∀ (rm : Nat → Int32), ∀ (H : Heap) (locs : List Loc), PP G [(h, mO ad iv), (ad 0, iA G 57 r), (ad 1, iA G 57 rm)] H → va_D A [(h, mO ad iv), (ad 0, iA G 57 r), (ad 1, iA G 57 rm)] → va_S A s.heap H locs → ∀ (ls : Array Slot), lv_has ls 7 [(5, .int (nI j)), (4, .int (nI i)), (3, .int (ttB r N (ttI r N i (ttO r N i) j))), (2, .int (enc (ttI r N i (ttO r N i) j))), (0, .ref h), (1, .int (nI what_2))] → W p0_ l e0_ ({ frames := 6, cells := 0, slots := 0, locals := 131 } : Room) s m args below meth c H locs (0) (0) (MQ below (va_Qi (S := va_W) (fun rv w1 => rv = sTTA r N (nI what_2) ∧ ∃ g : Nat → Int32, w1 = [(h, mO ad iv), (ad 0, iA G 57 r), (ad 1, iA G 57 g)]) (fun w1 t => PP G w1 t.heap ∧ va_D A w1) A) args s 0 0 A) (F0 m 33 ls [])) by
        exact hlp_7 (N) 0 (by omega) (rm) _ _ (hP.sub [0, 1, 2] rfl) (hD.sub [0, 1, 2] (by decide) rfl) hS ls (lv_sub hl [0, 1, 2, 3, 4, 5] rfl)
      have hend_7 : ∀ (rm : Nat → Int32), ∀ (H : Heap) (locs : List Loc), PP G [(h, mO ad iv), (ad 0, iA G 57 r), (ad 1, iA G 57 rm)] H → va_D A [(h, mO ad iv), (ad 0, iA G 57 r), (ad 1, iA G 57 rm)] → va_S A s.heap H locs → ∀ (ls : Array Slot), lv_has ls 7 [(5, .int (nI N)), (4, .int (nI i)), (3, .int (ttB r N (ttI r N i (ttO r N i) N))), (2, .int (enc (ttI r N i (ttO r N i) N))), (0, .ref h), (1, .int (nI what_2))] → W p0_ l e0_ ({ frames := 6, cells := 0, slots := 0, locals := 131 } : Room) s m args below meth c H locs (0) (0) (MQ below (va_Qi (S := va_W) (fun rv w1 => rv = sTTA r N (nI what_2) ∧ ∃ g : Nat → Int32, w1 = [(h, mO ad iv), (ad 0, iA G 57 r), (ad 1, iA G 57 g)]) (fun w1 t => PP G w1 t.heap ∧ va_D A w1) A) args s 0 0 A) (F0 m 33 ls []) := by
        intro rm H locs hP hD hS ls hl
        refine lv_iload hx hb dX4_twoTurns_33 (lv_at hl 0 rfl) ?_
        refine lv_aload_n hx hb dX4_twoTurns_35 rfl (lv_at hl 4 rfl) ?_
        refine va_get (D := gD G) (ci := 0) (v := .ref (ad 0)) (C := RX4) (T := TX4) (N := 20) hx hb hts in_X4 hown hK hP 0 rfl rfl 0 (by decide) (hts _ q1073) (fun _ h9 => h9) rfl dX4_twoTurns_36 ?_
        refine lv_iconst (v := 0) hx hb dX4_twoTurns_39 (by decide) ?_
        refine n_iald C hK hP 1 0 rfl (by omega) (by omega) dX4_twoTurns_40 ?_
        refine n_eqi (hr) ?_
        refine n_ic_ge (x := N) (y := N) (tgt := 124) hx hb (by omega) (by omega) dX4_twoTurns_41 (by decide) (fun c_8 => ?_) (fun c_8 => absurd c_8 (by omega))
        refine n_iinc (k := 1) (lv' := [(4, .int (nI (i + 1))), (5, .int (nI N)), (3, .int (ttB r N (ttI r N i (ttO r N i) N))), (2, .int (enc (ttI r N i (ttO r N i) N))), (0, .ref h), (1, .int (nI what_2))]) hx hb i 1 dX4_twoTurns_124 hl rfl (Nat.le_of_ble_eq_true rfl) rfl (fun ls hl => ?_)
        refine lv_goto (tgt := 19) hx hb dX4_twoTurns_127 (by decide) ?_
        have e_9 : ttB r N (ttO r N (i + 1)) = ttB r N (ttI r N i (ttO r N i) N) := by rfl
        have e_10 : enc (ttO r N (i + 1)) = enc (ttI r N i (ttO r N i) N) := by rfl
        exact ih_3 (i + 1) (by omega) rm _ _ (by exact hP.sub [0, 1, 2] rfl) (by exact hD.sub [0, 1, 2] (by decide) rfl) hS ls (by rw [e_9, e_10]; exact lv_sub hl [0, 2, 3, 4, 5] rfl)
      intro n
      induction n with
      | zero =>
        intro j hi_7 rm H locs hP hD hS ls hl
        obtain e_7 : j = N := by omega
        first | (subst e_7; exact hend_7 rm H locs hP hD hS ls hl) | (rw [e_7] at hl hP hD; exact hend_7 rm H locs hP hD hS ls hl)
      | succ n ih_7 =>
        intro j hi_7 rm H locs hP hD hS ls hl
        refine lv_iload hx hb dX4_twoTurns_33 (lv_at hl 0 rfl) ?_
        refine lv_aload_n hx hb dX4_twoTurns_35 rfl (lv_at hl 4 rfl) ?_
        refine va_get (D := gD G) (ci := 0) (v := .ref (ad 0)) (C := RX4) (T := TX4) (N := 20) hx hb hts in_X4 hown hK hP 0 rfl rfl 0 (by decide) (hts _ q1073) (fun _ h9 => h9) rfl dX4_twoTurns_36 ?_
        refine lv_iconst (v := 0) hx hb dX4_twoTurns_39 (by decide) ?_
        refine n_iald C hK hP 1 0 rfl (by omega) (by omega) dX4_twoTurns_40 ?_
        refine n_eqi (hr) ?_
        refine n_ic_ge (x := j) (y := N) (tgt := 124) hx hb (by omega) (by omega) dX4_twoTurns_41 (by decide) (fun c_11 => absurd c_11 (by omega)) (fun c_11 => ?_)
        refine lv_aload_n hx hb dX4_twoTurns_44 rfl (lv_at hl 4 rfl) ?_
        refine va_get (D := gD G) (ci := 0) (v := .ref (ad 0)) (C := RX4) (T := TX4) (N := 20) hx hb hts in_X4 hown hK hP 0 rfl rfl 0 (by decide) (hts _ q1073) (fun _ h9 => h9) rfl dX4_twoTurns_45 ?_
        refine lv_iload hx hb dX4_twoTurns_48 (lv_at hl 1 rfl) ?_
        refine lv_iload hx hb dX4_twoTurns_50 (lv_at hl 0 rfl) ?_
        refine c_S (rest := []) C (metX4_canEat l G (ad 0) r i j (by omega) (by omega)) 3 (lw_S q1177 q1178 q42 q1179) (by decide +kernel) ⟨rfl, rfl⟩ ⟨(Nat.le_of_ble_eq_true rfl), (Nat.le_of_ble_eq_true rfl)⟩ (KM_mv G) (hP.sub (ws' := [(ad 0, iA G 57 r)]) [1] rfl) hK hl rfl rfl (Nat.le_of_ble_eq_true rfl) ⟨(Nat.le_of_ble_eq_true rfl), (Nat.le_of_ble_eq_true rfl)⟩ dX4_twoTurns_52 ?_
        refine n_if_neB (b := (sEat r i j)) (tgt := 61) hx hb dX4_twoTurns_55 (by decide) (fun c_12 => ?_) (fun c_12 => ?_)
        · refine lv_aload_n hx hb dX4_twoTurns_61 rfl (lv_at hl 4 rfl) ?_
          refine va_get (D := gD G) (ci := 0) (v := .ref (ad 0)) (C := RX4) (T := TX4) (N := 20) hx hb hts in_X4 hown hK hP 0 rfl rfl 0 (by decide) (hts _ q1073) (fun _ h9 => h9) rfl dX4_twoTurns_62 ?_
          refine lv_aload_n hx hb dX4_twoTurns_65 rfl (lv_at hl 4 rfl) ?_
          refine va_get (D := gD G) (ci := 0) (v := .ref (ad 1)) (C := RX4) (T := TX4) (N := 20) hx hb hts in_X4 hown hK hP 0 rfl rfl 1 (by decide) (hts _ q1074) (fun _ h9 => h9) rfl dX4_twoTurns_66 ?_
          refine c_SWv (wr := [(h, mO ad iv)]) (rest := []) C (metX4_copies l G (ad 0) (ad 1) r rm) 2 (lw_S q1160 q1161 q42 q1162) (by decide +kernel) ⟨rfl, rfl⟩ ⟨(Nat.le_of_ble_eq_true rfl), (Nat.le_of_ble_eq_true rfl)⟩ (KM_mv G) hK hA hP hD hS [1, 2] [0] rfl rfl rfl rfl (by decide) hl rfl rfl (Nat.le_of_ble_eq_true rfl) ⟨(Nat.le_of_ble_eq_true rfl), (Nat.le_of_ble_eq_true rfl)⟩ dX4_twoTurns_69 (fun w1 H locs hq_14 hP hD hS => ?_)
          obtain rfl := hq_14
          have hP : PP G [(h, mO ad iv), (ad 0, iA G 57 r), (ad 1, iA G 57 r)] H := hP
          have hD : va_D A [(h, mO ad iv), (ad 0, iA G 57 r), (ad 1, iA G 57 r)] := hD
          refine lv_aload_n hx hb dX4_twoTurns_72 rfl (lv_at hl 4 rfl) ?_
          refine va_get (D := gD G) (ci := 0) (v := .ref (ad 1)) (C := RX4) (T := TX4) (N := 20) hx hb hts in_X4 hown hK hP 0 rfl rfl 1 (by decide) (hts _ q1074) (fun _ h9 => h9) rfl dX4_twoTurns_73 ?_
          refine lv_iload hx hb dX4_twoTurns_76 (lv_at hl 1 rfl) ?_
          refine lv_iload hx hb dX4_twoTurns_78 (lv_at hl 0 rfl) ?_
          refine c_SW (wr := [(h, mO ad iv), (ad 0, iA G 57 r)]) (rest := []) C (metX4_turn l G (ad 1) r i j (by omega) (by omega)) 3 (lw_S q1183 q1184 q42 q1185) (by decide +kernel) ⟨rfl, rfl⟩ ⟨(Nat.le_of_ble_eq_true rfl), (Nat.le_of_ble_eq_true rfl)⟩ (KM_mv G) hK hA hP hD hS [2] [0, 1] rfl rfl rfl rfl (by decide) hl rfl rfl (Nat.le_of_ble_eq_true rfl) ⟨(Nat.le_of_ble_eq_true rfl), (Nat.le_of_ble_eq_true rfl)⟩ dX4_twoTurns_80 (fun r_15 w1 H locs hq_16 hP hD hS => ?_)
          obtain ⟨rfl, rfl⟩ := hq_16
          have hP : PP G [(h, mO ad iv), (ad 0, iA G 57 r), (ad 1, iA G 57 (sTurn r i j))] H := hP
          have hD : va_D A [(h, mO ad iv), (ad 0, iA G 57 r), (ad 1, iA G 57 (sTurn r i j))] := hD
          refine lv_istore (lv' := [(6, .int (sJoy r i j)), (5, .int (nI j)), (4, .int (nI i)), (3, .int (ttB r N (ttI r N i (ttO r N i) j))), (2, .int (enc (ttI r N i (ttO r N i) j))), (0, .ref h), (1, .int (nI what_2))]) hx hb dX4_twoTurns_83 hl (Nat.le_of_ble_eq_true rfl) rfl (fun ls hl => ?_)
          refine lv_iload hx hb dX4_twoTurns_85 (lv_at hl 0 rfl) ?_
          refine lv_aload_n hx hb dX4_twoTurns_87 rfl (lv_at hl 5 rfl) ?_
          refine va_get (D := gD G) (ci := 0) (v := .ref (ad 1)) (C := RX4) (T := TX4) (N := 20) hx hb hts in_X4 hown hK hP 0 rfl rfl 1 (by decide) (hts _ q1074) (fun _ h9 => h9) rfl dX4_twoTurns_88 ?_
          refine c_S (rest := [.int (sJoy r i j)]) C (metX4_bestJoys l G (ad 1) (sTurn r i j) N (by omega) ((sTurn_0 _ _ _).trans hr)) 1 (lw_S q1256 q1257 q42 q1258) (by decide +kernel) ⟨rfl, rfl⟩ ⟨(Nat.le_of_ble_eq_true rfl), (Nat.le_of_ble_eq_true rfl)⟩ (KM_mv G) (hP.sub (ws' := [(ad 1, iA G 57 (sTurn r i j))]) [2] rfl) hK hl rfl rfl (Nat.le_of_ble_eq_true rfl) ⟨(Nat.le_of_ble_eq_true rfl), (Nat.le_of_ble_eq_true rfl)⟩ dX4_twoTurns_91 ?_
          refine lv_iadd (x := sJoy r i j) (y := sBJ (sTurn r i j) N) hx hb dX4_twoTurns_94 ?_
          refine lv_istore (lv' := [(6, .int ((sJoy r i j) + (sBJ (sTurn r i j) N))), (5, .int (nI j)), (4, .int (nI i)), (3, .int (ttB r N (ttI r N i (ttO r N i) j))), (2, .int (enc (ttI r N i (ttO r N i) j))), (0, .ref h), (1, .int (nI what_2))]) hx hb dX4_twoTurns_95 hl (Nat.le_of_ble_eq_true rfl) rfl (fun ls hl => ?_)
          refine lv_iload hx hb dX4_twoTurns_97 (lv_at hl 0 rfl) ?_
          refine lv_iload_n hx hb dX4_twoTurns_99 rfl (lv_at hl 3 rfl) ?_
          refine lv_icmp_gt (x := (sJoy r i j) + (sBJ (sTurn r i j) N)) (y := ttB r N (ttI r N i (ttO r N i) j)) (tgt := 106) hx hb dX4_twoTurns_100 (by decide) (fun c_17 => ?_) (fun c_17 => ?_)
          · have zc_17 : ¬ ((sJoy r i j) + (sBJ (sTurn r i j) N)) ≤ (ttB r N (ttI r N i (ttO r N i) j)) := Int32.not_le.mpr c_17
            refine lv_bipush (v := 10) hx hb dX4_twoTurns_106 (by decide) ?_
            refine lv_iload hx hb dX4_twoTurns_108 (lv_at hl 2 rfl) ?_
            refine n_imul hx hb 10 i dX4_twoTurns_110 ?_
            refine lv_iload hx hb dX4_twoTurns_111 (lv_at hl 1 rfl) ?_
            refine n_iadd hx hb (10 * i) j dX4_twoTurns_113 ?_
            refine lv_istore_n (lv' := [(2, .int (nI ((10 * i) + j))), (6, .int ((sJoy r i j) + (sBJ (sTurn r i j) N))), (5, .int (nI j)), (4, .int (nI i)), (3, .int (ttB r N (ttI r N i (ttO r N i) j))), (0, .ref h), (1, .int (nI what_2))]) hx hb dX4_twoTurns_114 rfl hl (Nat.le_of_ble_eq_true rfl) rfl (fun ls hl => ?_)
            refine lv_iload hx hb dX4_twoTurns_115 (lv_at hl 1 rfl) ?_
            refine lv_istore_n (lv' := [(3, .int ((sJoy r i j) + (sBJ (sTurn r i j) N))), (2, .int (nI ((10 * i) + j))), (6, .int ((sJoy r i j) + (sBJ (sTurn r i j) N))), (5, .int (nI j)), (4, .int (nI i)), (0, .ref h), (1, .int (nI what_2))]) hx hb dX4_twoTurns_117 rfl hl (Nat.le_of_ble_eq_true rfl) rfl (fun ls hl => ?_)
            refine n_iinc (k := 3) (lv' := [(5, .int (nI (j + 1))), (3, .int ((sJoy r i j) + (sBJ (sTurn r i j) N))), (2, .int (nI ((10 * i) + j))), (6, .int ((sJoy r i j) + (sBJ (sTurn r i j) N))), (4, .int (nI i)), (0, .ref h), (1, .int (nI what_2))]) hx hb j 1 dX4_twoTurns_118 hl rfl (Nat.le_of_ble_eq_true rfl) rfl (fun ls hl => ?_)
            refine lv_goto (tgt := 33) hx hb dX4_twoTurns_121 (by decide) ?_
            have e_18 : ttB r N (ttI r N i (ttO r N i) (j + 1)) = (sJoy r i j) + (sBJ (sTurn r i j) N) := by simp [ttI, ttS, ttBS, ttV, encS, twhat_2, c_11, c_12, c_17, zc_17]
            have e_19 : enc (ttI r N i (ttO r N i) (j + 1)) = nI ((10 * i) + j) := by simp [ttI, ttS, ttBS, ttV, encS, twhat_2, c_11, c_12, c_17, zc_17]
            exact ih_7 (j + 1) (by omega) (sTurn r i j) _ _ (by exact hP.sub [0, 1, 2] rfl) (by exact hD.sub [0, 1, 2] (by decide) rfl) hS ls (by rw [e_18, e_19]; exact lv_sub hl [0, 4, 1, 2, 5, 6] rfl)
          · have zc_17 : ((sJoy r i j) + (sBJ (sTurn r i j) N)) ≤ (ttB r N (ttI r N i (ttO r N i) j)) := Int32.not_lt.mp c_17
            refine lv_goto (tgt := 118) hx hb dX4_twoTurns_103 (by decide) ?_
            refine n_iinc (k := 1) (lv' := [(5, .int (nI (j + 1))), (6, .int ((sJoy r i j) + (sBJ (sTurn r i j) N))), (4, .int (nI i)), (3, .int (ttB r N (ttI r N i (ttO r N i) j))), (2, .int (enc (ttI r N i (ttO r N i) j))), (0, .ref h), (1, .int (nI what_2))]) hx hb j 1 dX4_twoTurns_118 hl rfl (Nat.le_of_ble_eq_true rfl) rfl (fun ls hl => ?_)
            refine lv_goto (tgt := 33) hx hb dX4_twoTurns_121 (by decide) ?_
            have e_20 : ttB r N (ttI r N i (ttO r N i) (j + 1)) = ttB r N (ttI r N i (ttO r N i) j) := by simp [ttI, ttS, ttBS, ttV, encS, twhat_2, c_11, c_12, c_17, zc_17]
            have e_21 : enc (ttI r N i (ttO r N i) (j + 1)) = enc (ttI r N i (ttO r N i) j) := by simp [ttI, ttS, ttBS, ttV, encS, twhat_2, c_11, c_12, c_17, zc_17]
            exact ih_7 (j + 1) (by omega) (sTurn r i j) _ _ (by exact hP.sub [0, 1, 2] rfl) (by exact hD.sub [0, 1, 2] (by decide) rfl) hS ls (by rw [e_20, e_21]; exact lv_sub hl [0, 2, 3, 4, 5, 6] rfl)
        · refine lv_goto (tgt := 118) hx hb dX4_twoTurns_58 (by decide) ?_
          refine n_iinc (k := 0) (lv' := [(5, .int (nI (j + 1))), (4, .int (nI i)), (3, .int (ttB r N (ttI r N i (ttO r N i) j))), (2, .int (enc (ttI r N i (ttO r N i) j))), (0, .ref h), (1, .int (nI what_2))]) hx hb j 1 dX4_twoTurns_118 hl rfl (Nat.le_of_ble_eq_true rfl) rfl (fun ls hl => ?_)
          refine lv_goto (tgt := 33) hx hb dX4_twoTurns_121 (by decide) ?_
          have e_22 : ttB r N (ttI r N i (ttO r N i) (j + 1)) = ttB r N (ttI r N i (ttO r N i) j) := by simp [ttI, ttS, ttBS, ttV, encS, twhat_2, c_11, c_12]
          have e_23 : enc (ttI r N i (ttO r N i) (j + 1)) = enc (ttI r N i (ttO r N i) j) := by simp [ttI, ttS, ttBS, ttV, encS, twhat_2, c_11, c_12]
          exact ih_7 (j + 1) (by omega) rm _ _ (by exact hP.sub [0, 1, 2] rfl) (by exact hD.sub [0, 1, 2] (by decide) rfl) hS ls (by rw [e_22, e_23]; exact lv_sub hl [0, 1, 2, 3, 4, 5] rfl)
  · refine lv_iconst (v := (-1)) hx hb dX4_twoTurns_9 (by decide) ?_
    exact n_iretW (v := (-1)) (w1 := [(h, mO ad iv), (ad 0, iA G 57 r), (ad 1, iA G 57 rm)]) C (⟨by first | (simp [sTTA, c_1]; done), _, rfl⟩) hP hD hS (by first | omega | decide) (by first | omega | decide) dX4_twoTurns_10

set_option maxHeartbeats 4000000 in
set_option maxRecDepth 100000 in
theorem metX4_greedily (l : Launch) (G : GG) (h : Nat) (ad : Nat → Nat) (iv : Nat → Int32) (r : Nat → Int32) (N : Nat) (rm : Nat → Int32) (u what : Int32) (hN : N ≤ 9) (hr : r 0 = nI N) : MW l yX4_greedily cX4_greedily 6 (some .int) ({ frames := 5, cells := 0, slots := 0, locals := 110 }) [.ref h, .int u, .int what] [(h, mO ad iv), (ad 0, iA G 57 r), (ad 1, iA G 57 rm)] G (KM G) 0 0 (fun rv w1 => rv = sGreA r N u what ∧ ∃ g : Nat → Int32, w1 = [(h, mO ad iv), (ad 0, iA G 57 r), (ad 1, iA G 57 g)]) := by
  -- rows printed by wip/tools/gen.py
  refine mw_mk RX4 (by decide) rfl (Nat.le_of_ble_eq_true rfl) ?_
  intro p0_ e0_ s m args below meth c A C hA hP hK hD ls hl
  have hx := C.1
  have hb := C.2.1
  have hml := C.2.2.2.2.1
  have hown := C.2.2.2.2.2.1
  have hts := C.2.2.2.2.2.2
  have hS : va_S A s.heap s.heap [] := va_S.rf
  have hl : lv_has ls 6 [(0, .ref h), (1, .int u), (2, .int what)] := hl
  refine lv_iload_n hx hb dX4_greedily_0 rfl (lv_at hl 1 rfl) ?_
  refine lv_iconst (v := 0) hx hb dX4_greedily_1 (by decide) ?_
  refine lv_bipush (v := 30) hx hb dX4_greedily_2 (by decide) ?_
  refine c_S (rest := []) C (metX4_isIn l G u 0 30) 3 (lw_S q1145 q1146 q42 q1147) (by decide +kernel) ⟨rfl, rfl⟩ ⟨(Nat.le_of_ble_eq_true rfl), (Nat.le_of_ble_eq_true rfl)⟩ (KM_mv G) (hP.sub (ws' := []) [] rfl) hK hl rfl rfl (Nat.le_of_ble_eq_true rfl) ⟨(Nat.le_of_ble_eq_true rfl), (Nat.le_of_ble_eq_true rfl)⟩ dX4_greedily_4 ?_
  refine n_if_eqB (b := (sIn u 0 30)) (tgt := 19) hx hb dX4_greedily_7 (by decide) (fun c_1 => ?_) (fun c_1 => ?_)
  · refine lv_iconst (v := (-1)) hx hb dX4_greedily_19 (by decide) ?_
    exact n_iretW (v := (-1)) (w1 := [(h, mO ad iv), (ad 0, iA G 57 r), (ad 1, iA G 57 rm)]) C (⟨by first | (simp [sGreA, c_1]; done) | (simp [sGreA, c_1, hg, grd]; done) | (simp [sGreA, c_1, hg, e9, grd]; done), _, rfl⟩) hP hD hS (by first | omega | decide) (by first | omega | decide) dX4_greedily_20
  · obtain ⟨u_2, hu_2, gu_2, rfl⟩ := sIn_t (a := 0) (b := 30) (by omega) (by omega) c_1
    have tu_2 : tn (nI u_2) = u_2 := nI_clamp (by omega)
    refine lv_iload_n hx hb dX4_greedily_10 rfl (lv_at hl 2 rfl) ?_
    refine lv_iconst (v := 0) hx hb dX4_greedily_11 (by decide) ?_
    refine lv_iconst (v := 1) hx hb dX4_greedily_12 (by decide) ?_
    refine c_S (rest := []) C (metX4_isIn l G what 0 1) 3 (lw_S q1145 q1146 q42 q1147) (by decide +kernel) ⟨rfl, rfl⟩ ⟨(Nat.le_of_ble_eq_true rfl), (Nat.le_of_ble_eq_true rfl)⟩ (KM_mv G) (hP.sub (ws' := []) [] rfl) hK hl rfl rfl (Nat.le_of_ble_eq_true rfl) ⟨(Nat.le_of_ble_eq_true rfl), (Nat.le_of_ble_eq_true rfl)⟩ dX4_greedily_13 ?_
    refine n_if_neB (b := (sIn what 0 1)) (tgt := 21) hx hb dX4_greedily_16 (by decide) (fun c_3 => ?_) (fun c_3 => ?_)
    · obtain ⟨what_4, hwhat_4, gwhat_4, rfl⟩ := sIn_t (a := 0) (b := 1) (by omega) (by omega) c_3
      have twhat_4 : tn (nI what_4) = what_4 := nI_clamp (by omega)
      refine lv_aload_n hx hb dX4_greedily_21 rfl (lv_at hl 0 rfl) ?_
      refine va_get (D := gD G) (ci := 0) (v := .ref (ad 0)) (C := RX4) (T := TX4) (N := 20) hx hb hts in_X4 hown hK hP 0 rfl rfl 0 (by decide) (hts _ q1073) (fun _ h9 => h9) rfl dX4_greedily_22 ?_
      refine lv_aload_n hx hb dX4_greedily_25 rfl (lv_at hl 0 rfl) ?_
      refine va_get (D := gD G) (ci := 0) (v := .ref (ad 1)) (C := RX4) (T := TX4) (N := 20) hx hb hts in_X4 hown hK hP 0 rfl rfl 1 (by decide) (hts _ q1074) (fun _ h9 => h9) rfl dX4_greedily_26 ?_
      refine c_SWv (wr := [(h, mO ad iv)]) (rest := []) C (metX4_copies l G (ad 0) (ad 1) r rm) 2 (lw_S q1160 q1161 q42 q1162) (by decide +kernel) ⟨rfl, rfl⟩ ⟨(Nat.le_of_ble_eq_true rfl), (Nat.le_of_ble_eq_true rfl)⟩ (KM_mv G) hK hA hP hD hS [1, 2] [0] rfl rfl rfl rfl (by decide) hl rfl rfl (Nat.le_of_ble_eq_true rfl) ⟨(Nat.le_of_ble_eq_true rfl), (Nat.le_of_ble_eq_true rfl)⟩ dX4_greedily_29 (fun w1 H locs hq_6 hP hD hS => ?_)
      obtain rfl := hq_6
      have hP : PP G [(h, mO ad iv), (ad 0, iA G 57 r), (ad 1, iA G 57 r)] H := hP
      have hD : va_D A [(h, mO ad iv), (ad 0, iA G 57 r), (ad 1, iA G 57 r)] := hD
      refine lv_iconst (v := 0) hx hb dX4_greedily_32 (by decide) ?_
      refine lv_istore_n (lv' := [(3, .int 0), (0, .ref h), (1, .int (nI u_2)), (2, .int (nI what_4))]) hx hb dX4_greedily_33 rfl hl (Nat.le_of_ble_eq_true rfl) rfl (fun ls hl => ?_)
      refine lv_iconst (v := 0) hx hb dX4_greedily_34 (by decide) ?_
      refine lv_istore (lv' := [(4, .int 0), (3, .int 0), (0, .ref h), (1, .int (nI u_2)), (2, .int (nI what_4))]) hx hb dX4_greedily_35 hl (Nat.le_of_ble_eq_true rfl) rfl (fun ls hl => ?_)
      suffices hlp_7 : (∀ (n i : Nat), i + n = u_2 → ∀ (rm : Nat → Int32) (v : Int32), ∀ (H : Heap) (locs : List Loc), PP G [(h, mO ad iv), (ad 0, iA G 57 r), (ad 1, iA G 57 rm)] H → va_D A [(h, mO ad iv), (ad 0, iA G 57 r), (ad 1, iA G 57 rm)] → va_S A s.heap H locs → (grd N u_2 r 0 0 = grd N (u_2 - i) rm v i) → (rm 0 = nI N) → ∀ (ls : Array Slot), lv_has ls 6 [(4, .int (nI i)), (3, .int v), (0, .ref h), (1, .int (nI u_2)), (2, .int (nI what_4))] → W p0_ l e0_ ({ frames := 5, cells := 0, slots := 0, locals := 110 } : Room) s m args below meth c H locs (0) (0) (MQ below (va_Qi (S := va_W) (fun rv w1 => rv = sGreA r N (nI u_2) (nI what_4) ∧ ∃ g : Nat → Int32, w1 = [(h, mO ad iv), (ad 0, iA G 57 r), (ad 1, iA G 57 g)]) (fun w1 t => PP G w1 t.heap ∧ va_D A w1) A) args s 0 0 A) (F0 m 37 ls [])) by
        exact hlp_7 (u_2) 0 (by omega) (r) (0) _ _ (hP.sub [0, 1, 2] rfl) (hD.sub [0, 1, 2] (by decide) rfl) hS (rfl) (hr) ls (lv_sub hl [0, 1, 2, 3, 4] rfl)
      have hend_7 : ∀ (rm : Nat → Int32) (v : Int32), ∀ (H : Heap) (locs : List Loc), PP G [(h, mO ad iv), (ad 0, iA G 57 r), (ad 1, iA G 57 rm)] H → va_D A [(h, mO ad iv), (ad 0, iA G 57 r), (ad 1, iA G 57 rm)] → va_S A s.heap H locs → (grd N u_2 r 0 0 = grd N (u_2 - u_2) rm v u_2) → (rm 0 = nI N) → ∀ (ls : Array Slot), lv_has ls 6 [(4, .int (nI u_2)), (3, .int v), (0, .ref h), (1, .int (nI u_2)), (2, .int (nI what_4))] → W p0_ l e0_ ({ frames := 5, cells := 0, slots := 0, locals := 110 } : Room) s m args below meth c H locs (0) (0) (MQ below (va_Qi (S := va_W) (fun rv w1 => rv = sGreA r N (nI u_2) (nI what_4) ∧ ∃ g : Nat → Int32, w1 = [(h, mO ad iv), (ad 0, iA G 57 r), (ad 1, iA G 57 g)]) (fun w1 t => PP G w1 t.heap ∧ va_D A w1) A) args s 0 0 A) (F0 m 37 ls []) := by
        intro rm v H locs hP hD hS hg h0 ls hl
        refine lv_iload hx hb dX4_greedily_37 (lv_at hl 0 rfl) ?_
        refine lv_iload_n hx hb dX4_greedily_39 rfl (lv_at hl 3 rfl) ?_
        refine n_ic_ge (x := u_2) (y := u_2) (tgt := 88) hx hb (by omega) (by omega) dX4_greedily_40 (by decide) (fun c_8 => ?_) (fun c_8 => absurd c_8 (by omega))
        refine lv_iload_n hx hb dX4_greedily_88 rfl (lv_at hl 4 rfl) ?_
        refine n_if_ne (x := what_4) (tgt := 96) hx hb (by omega) dX4_greedily_89 (by decide) (fun c_9 => ?_) (fun c_9 => ?_)
        · have zc_9 : ¬ nI what_4 = 0 := nI_ne0 c_9 (by omega)
          have yc_9 : ¬ what_4 = 0 := Nat.ne_of_gt c_9
          refine lv_iload hx hb dX4_greedily_96 (lv_at hl 0 rfl) ?_
          exact n_iretW (v := nI u_2) (w1 := [(h, mO ad iv), (ad 0, iA G 57 r), (ad 1, iA G 57 rm)]) C (⟨by first | (simp [sGreA, c_1, tu_2, c_3, twhat_4, c_8, c_9, yc_9, zc_9]; done) | (simp [sGreA, c_1, tu_2, c_3, twhat_4, c_8, c_9, yc_9, zc_9, hg, grd]; done) | (simp [sGreA, c_1, tu_2, c_3, twhat_4, c_8, c_9, yc_9, zc_9, hg, e9, grd]; done), _, rfl⟩) hP hD hS (by first | omega | decide) (by first | omega | decide) dX4_greedily_98
        · obtain rfl := c_9
          have zc_9 : (nI 0 = 0) = True := eq_true rfl
          refine lv_iload_n hx hb dX4_greedily_92 rfl (lv_at hl 1 rfl) ?_
          refine lv_goto (tgt := 98) hx hb dX4_greedily_93 (by decide) ?_
          exact n_iretW (v := v) (w1 := [(h, mO ad iv), (ad 0, iA G 57 r), (ad 1, iA G 57 rm)]) C (⟨by first | (simp [sGreA, c_1, tu_2, c_3, twhat_4, c_8, zc_9]; done) | (simp [sGreA, c_1, tu_2, c_3, twhat_4, c_8, zc_9, hg, grd]; done) | (simp [sGreA, c_1, tu_2, c_3, twhat_4, c_8, zc_9, hg, e9, grd]; done), _, rfl⟩) hP hD hS (by first | omega | decide) (by first | omega | decide) dX4_greedily_98
      intro n
      induction n with
      | zero =>
        intro i hi_7 rm v H locs hP hD hS hg h0 ls hl
        obtain e_7 : i = u_2 := by omega
        first | (subst e_7; exact hend_7 rm v H locs hP hD hS hg h0 ls hl) | (rw [e_7] at hl hP hD; exact hend_7 rm v H locs hP hD hS hg h0 ls hl)
      | succ n ih_7 =>
        intro i hi_7 rm v H locs hP hD hS hg h0 ls hl
        have e9 : u_2 - i = (u_2 - (i + 1)) + 1 := by omega
        refine lv_iload hx hb dX4_greedily_37 (lv_at hl 0 rfl) ?_
        refine lv_iload_n hx hb dX4_greedily_39 rfl (lv_at hl 3 rfl) ?_
        refine n_ic_ge (x := i) (y := u_2) (tgt := 88) hx hb (by omega) (by omega) dX4_greedily_40 (by decide) (fun c_10 => absurd c_10 (by omega)) (fun c_10 => ?_)
        refine lv_aload_n hx hb dX4_greedily_43 rfl (lv_at hl 2 rfl) ?_
        refine va_get (D := gD G) (ci := 0) (v := .ref (ad 1)) (C := RX4) (T := TX4) (N := 20) hx hb hts in_X4 hown hK hP 0 rfl rfl 1 (by decide) (hts _ q1074) (fun _ h9 => h9) rfl dX4_greedily_44 ?_
        refine c_S (rest := []) C (metX4_bestIn l G (ad 1) rm N (by omega) (h0)) 1 (lw_S q1253 q1254 q42 q1255) (by decide +kernel) ⟨rfl, rfl⟩ ⟨(Nat.le_of_ble_eq_true rfl), (Nat.le_of_ble_eq_true rfl)⟩ (KM_mv G) (hP.sub (ws' := [(ad 1, iA G 57 rm)]) [2] rfl) hK hl rfl rfl (Nat.le_of_ble_eq_true rfl) ⟨(Nat.le_of_ble_eq_true rfl), (Nat.le_of_ble_eq_true rfl)⟩ dX4_greedily_47 ?_
        rcases ho_11 : sBestO rm N with _ | qo_11
        · have eo_11 : sBest rm N = -4 := by rw [sBest, ho_11]; rfl
          refine n_eqi eo_11 ?_
          refine lv_if_lt (x := (-4)) (tgt := 88) hx hb dX4_greedily_50 (by decide) (fun c_12 => ?_) (fun c_12 => absurd c_12 (by decide))
          refine lv_iload_n hx hb dX4_greedily_88 rfl (lv_at hl 4 rfl) ?_
          refine n_if_ne (x := what_4) (tgt := 96) hx hb (by omega) dX4_greedily_89 (by decide) (fun c_13 => ?_) (fun c_13 => ?_)
          · have zc_13 : ¬ nI what_4 = 0 := nI_ne0 c_13 (by omega)
            have yc_13 : ¬ what_4 = 0 := Nat.ne_of_gt c_13
            refine lv_iload hx hb dX4_greedily_96 (lv_at hl 0 rfl) ?_
            exact n_iretW (v := nI i) (w1 := [(h, mO ad iv), (ad 0, iA G 57 r), (ad 1, iA G 57 rm)]) C (⟨by first | (simp [sGreA, c_1, tu_2, c_3, twhat_4, c_10, ho_11, eo_11, c_12, c_13, yc_13, zc_13]; done) | (simp [sGreA, c_1, tu_2, c_3, twhat_4, c_10, ho_11, eo_11, c_12, c_13, yc_13, zc_13, hg, grd]; done) | (simp [sGreA, c_1, tu_2, c_3, twhat_4, c_10, ho_11, eo_11, c_12, c_13, yc_13, zc_13, hg, e9, grd]; done), _, rfl⟩) hP hD hS (by first | omega | decide) (by first | omega | decide) dX4_greedily_98
          · obtain rfl := c_13
            have zc_13 : (nI 0 = 0) = True := eq_true rfl
            refine lv_iload_n hx hb dX4_greedily_92 rfl (lv_at hl 1 rfl) ?_
            refine lv_goto (tgt := 98) hx hb dX4_greedily_93 (by decide) ?_
            exact n_iretW (v := v) (w1 := [(h, mO ad iv), (ad 0, iA G 57 r), (ad 1, iA G 57 rm)]) C (⟨by first | (simp [sGreA, c_1, tu_2, c_3, twhat_4, c_10, ho_11, eo_11, c_12, zc_13]; done) | (simp [sGreA, c_1, tu_2, c_3, twhat_4, c_10, ho_11, eo_11, c_12, zc_13, hg, grd]; done) | (simp [sGreA, c_1, tu_2, c_3, twhat_4, c_10, ho_11, eo_11, c_12, zc_13, hg, e9, grd]; done), _, rfl⟩) hP hD hS (by first | omega | decide) (by first | omega | decide) dX4_greedily_98
        · have eo_11 : sBest rm N = nI (10 * qo_11.1 + qo_11.2) := by rw [sBest, ho_11]; rfl
          have go_11 := sBestO_in ho_11
          have uo_11 : (10 * qo_11.1 + qo_11.2) / 10 = qo_11.1 := by omega
          have vo_11 : (10 * qo_11.1 + qo_11.2) % 10 = qo_11.2 := by omega
          refine n_eqi eo_11 ?_
          refine n_if_lt (x := 10 * qo_11.1 + qo_11.2) (tgt := 88) hx hb (by omega) dX4_greedily_50 (by decide) ?_
          refine lv_aload_n hx hb dX4_greedily_53 rfl (lv_at hl 2 rfl) ?_
          refine va_get (D := gD G) (ci := 0) (v := .ref (ad 1)) (C := RX4) (T := TX4) (N := 20) hx hb hts in_X4 hown hK hP 0 rfl rfl 1 (by decide) (hts _ q1074) (fun _ h9 => h9) rfl dX4_greedily_54 ?_
          refine c_S (rest := []) C (metX4_bestIn l G (ad 1) rm N (by omega) (h0)) 1 (lw_S q1253 q1254 q42 q1255) (by decide +kernel) ⟨rfl, rfl⟩ ⟨(Nat.le_of_ble_eq_true rfl), (Nat.le_of_ble_eq_true rfl)⟩ (KM_mv G) (hP.sub (ws' := [(ad 1, iA G 57 rm)]) [2] rfl) hK hl rfl rfl (Nat.le_of_ble_eq_true rfl) ⟨(Nat.le_of_ble_eq_true rfl), (Nat.le_of_ble_eq_true rfl)⟩ dX4_greedily_57 ?_
          refine n_eqi (eo_11) ?_
          refine lv_istore (lv' := [(5, .int (nI (10 * qo_11.1 + qo_11.2))), (4, .int (nI i)), (3, .int v), (0, .ref h), (1, .int (nI u_2)), (2, .int (nI what_4))]) hx hb dX4_greedily_60 hl (Nat.le_of_ble_eq_true rfl) rfl (fun ls hl => ?_)
          refine lv_iload_n hx hb dX4_greedily_62 rfl (lv_at hl 2 rfl) ?_
          refine lv_aload_n hx hb dX4_greedily_63 rfl (lv_at hl 3 rfl) ?_
          refine va_get (D := gD G) (ci := 0) (v := .ref (ad 1)) (C := RX4) (T := TX4) (N := 20) hx hb hts in_X4 hown hK hP 0 rfl rfl 1 (by decide) (hts _ q1074) (fun _ h9 => h9) rfl dX4_greedily_64 ?_
          refine lv_iload hx hb dX4_greedily_67 (lv_at hl 0 rfl) ?_
          refine lv_bipush (v := 10) hx hb dX4_greedily_69 (by decide) ?_
          refine n_idiv hx hb (10 * qo_11.1 + qo_11.2) 10 (by omega) (by omega) (by omega) dX4_greedily_71 ?_
          refine n_eqi (congrArg nI (show (10 * qo_11.1 + qo_11.2) / 10 = qo_11.1 from uo_11)) ?_
          refine lv_iload hx hb dX4_greedily_72 (lv_at hl 0 rfl) ?_
          refine lv_bipush (v := 10) hx hb dX4_greedily_74 (by decide) ?_
          refine n_irem hx hb (10 * qo_11.1 + qo_11.2) 10 (by omega) (by omega) (by omega) dX4_greedily_76 ?_
          refine n_eqi (congrArg nI (show (10 * qo_11.1 + qo_11.2) % 10 = qo_11.2 from vo_11)) ?_
          refine c_SW (wr := [(h, mO ad iv), (ad 0, iA G 57 r)]) (rest := [.int v]) C (metX4_turn l G (ad 1) rm qo_11.1 qo_11.2 (by omega) (by omega)) 3 (lw_S q1183 q1184 q42 q1185) (by decide +kernel) ⟨rfl, rfl⟩ ⟨(Nat.le_of_ble_eq_true rfl), (Nat.le_of_ble_eq_true rfl)⟩ (KM_mv G) hK hA hP hD hS [2] [0, 1] rfl rfl rfl rfl (by decide) hl rfl rfl (Nat.le_of_ble_eq_true rfl) ⟨(Nat.le_of_ble_eq_true rfl), (Nat.le_of_ble_eq_true rfl)⟩ dX4_greedily_77 (fun r_14 w1 H locs hq_15 hP hD hS => ?_)
          obtain ⟨rfl, rfl⟩ := hq_15
          have hP : PP G [(h, mO ad iv), (ad 0, iA G 57 r), (ad 1, iA G 57 (sTurn rm qo_11.1 qo_11.2))] H := hP
          have hD : va_D A [(h, mO ad iv), (ad 0, iA G 57 r), (ad 1, iA G 57 (sTurn rm qo_11.1 qo_11.2))] := hD
          refine lv_iadd (x := v) (y := sJoy rm qo_11.1 qo_11.2) hx hb dX4_greedily_80 ?_
          refine lv_istore_n (lv' := [(3, .int (v + (sJoy rm qo_11.1 qo_11.2))), (5, .int (nI (10 * qo_11.1 + qo_11.2))), (4, .int (nI i)), (0, .ref h), (1, .int (nI u_2)), (2, .int (nI what_4))]) hx hb dX4_greedily_81 rfl hl (Nat.le_of_ble_eq_true rfl) rfl (fun ls hl => ?_)
          refine n_iinc (k := 2) (lv' := [(4, .int (nI (i + 1))), (3, .int (v + (sJoy rm qo_11.1 qo_11.2))), (5, .int (nI (10 * qo_11.1 + qo_11.2))), (0, .ref h), (1, .int (nI u_2)), (2, .int (nI what_4))]) hx hb i 1 dX4_greedily_82 hl rfl (Nat.le_of_ble_eq_true rfl) rfl (fun ls hl => ?_)
          refine lv_goto (tgt := 37) hx hb dX4_greedily_85 (by decide) ?_
          exact ih_7 (i + 1) (by omega) (sTurn rm qo_11.1 qo_11.2) (v + (sJoy rm qo_11.1 qo_11.2)) _ _ (by exact hP.sub [0, 1, 2] rfl) (by exact hD.sub [0, 1, 2] (by decide) rfl) hS (by rw [hg, show u_2 - i = (u_2 - (i + 1)) + 1 by omega]; simp [grd, tu_2, twhat_4, c_10, ho_11, eo_11]) ((sTurn_0 _ _ _).trans h0) ls (lv_sub hl [0, 1, 3, 4, 5] rfl)
    · refine lv_iconst (v := (-1)) hx hb dX4_greedily_19 (by decide) ?_
      exact n_iretW (v := (-1)) (w1 := [(h, mO ad iv), (ad 0, iA G 57 r), (ad 1, iA G 57 rm)]) C (⟨by first | (simp [sGreA, c_1, tu_2, c_3]; done) | (simp [sGreA, c_1, tu_2, c_3, hg, grd]; done) | (simp [sGreA, c_1, tu_2, c_3, hg, e9, grd]; done), _, rfl⟩) hP hD hS (by first | omega | decide) (by first | omega | decide) dX4_greedily_20

set_option maxHeartbeats 4000000 in
set_option maxRecDepth 100000 in
theorem metX4_bring (l : Launch) (G : GG) (h : Nat) (ad : Nat → Nat) (iv : Nat → Int32) (r : Nat → Int32) (N : Nat) (rm : Nat → Int32) (f : Int32) (hN : N ≤ 8) (hr : r 0 = nI N) : MW l yX4_bring cX4_bring 6 (some .int) ({ frames := 6, cells := 0, slots := 0, locals := 131 }) [.ref h, .int f] [(h, mO ad iv), (ad 0, iA G 57 r), (ad 1, iA G 57 rm)] G (KM G) 0 0 (fun rv w1 => rv = sBringA r N f ∧ ∃ g : Nat → Int32, w1 = [(h, mO ad iv), (ad 0, iA G 57 r), (ad 1, iA G 57 g)]) := by
  -- rows printed by wip/tools/gen.py
  refine mw_mk RX4 (by decide) rfl (Nat.le_of_ble_eq_true rfl) ?_
  intro p0_ e0_ s m args below meth c A C hA hP hK hD ls hl
  have hx := C.1
  have hb := C.2.1
  have hml := C.2.2.2.2.1
  have hown := C.2.2.2.2.2.1
  have hts := C.2.2.2.2.2.2
  have hS : va_S A s.heap s.heap [] := va_S.rf
  have hl : lv_has ls 6 [(0, .ref h), (1, .int f)] := hl
  refine lv_iload_n hx hb dX4_bring_0 rfl (lv_at hl 1 rfl) ?_
  refine lv_iconst (v := 0) hx hb dX4_bring_1 (by decide) ?_
  refine lv_bipush (v := 9) hx hb dX4_bring_2 (by decide) ?_
  refine c_S (rest := []) C (metX4_isIn l G f 0 9) 3 (lw_S q1145 q1146 q42 q1147) (by decide +kernel) ⟨rfl, rfl⟩ ⟨(Nat.le_of_ble_eq_true rfl), (Nat.le_of_ble_eq_true rfl)⟩ (KM_mv G) (hP.sub (ws' := []) [] rfl) hK hl rfl rfl (Nat.le_of_ble_eq_true rfl) ⟨(Nat.le_of_ble_eq_true rfl), (Nat.le_of_ble_eq_true rfl)⟩ dX4_bring_4 ?_
  refine n_if_neB (b := (sIn f 0 9)) (tgt := 12) hx hb dX4_bring_7 (by decide) (fun c_1 => ?_) (fun c_1 => ?_)
  · obtain ⟨f_2, hf_2, gf_2, rfl⟩ := sIn_t (a := 0) (b := 9) (by omega) (by omega) c_1
    have tf_2 : tn (nI f_2) = f_2 := nI_clamp (by omega)
    refine lv_bipush (v := (-4)) hx hb dX4_bring_12 (by decide) ?_
    refine lv_istore_n (lv' := [(2, .int (-4)), (0, .ref h), (1, .int (nI f_2))]) hx hb dX4_bring_14 rfl hl (Nat.le_of_ble_eq_true rfl) rfl (fun ls hl => ?_)
    refine lv_aload_n hx hb dX4_bring_15 rfl (lv_at hl 1 rfl) ?_
    refine va_get (D := gD G) (ci := 0) (v := .ref (ad 0)) (C := RX4) (T := TX4) (N := 20) hx hb hts in_X4 hown hK hP 0 rfl rfl 0 (by decide) (hts _ q1073) (fun _ h9 => h9) rfl dX4_bring_16 ?_
    refine c_S (rest := []) C (metX4_bestJoys l G (ad 0) r N (by omega) (hr)) 1 (lw_S q1256 q1257 q42 q1258) (by decide +kernel) ⟨rfl, rfl⟩ ⟨(Nat.le_of_ble_eq_true rfl), (Nat.le_of_ble_eq_true rfl)⟩ (KM_mv G) (hP.sub (ws' := [(ad 0, iA G 57 r)]) [1] rfl) hK hl rfl rfl (Nat.le_of_ble_eq_true rfl) ⟨(Nat.le_of_ble_eq_true rfl), (Nat.le_of_ble_eq_true rfl)⟩ dX4_bring_19 ?_
    refine lv_istore_n (lv' := [(3, .int (sBJ r N)), (2, .int (-4)), (0, .ref h), (1, .int (nI f_2))]) hx hb dX4_bring_22 rfl hl (Nat.le_of_ble_eq_true rfl) rfl (fun ls hl => ?_)
    refine lv_iconst (v := 0) hx hb dX4_bring_23 (by decide) ?_
    refine lv_istore (lv' := [(4, .int 0), (3, .int (sBJ r N)), (2, .int (-4)), (0, .ref h), (1, .int (nI f_2))]) hx hb dX4_bring_24 hl (Nat.le_of_ble_eq_true rfl) rfl (fun ls hl => ?_)
    suffices hlp_3 : (∀ (n i : Nat), i + n = 8 → ∀ (rm : Nat → Int32), ∀ (H : Heap) (locs : List Loc), PP G [(h, mO ad iv), (ad 0, iA G 57 r), (ad 1, iA G 57 rm)] H → va_D A [(h, mO ad iv), (ad 0, iA G 57 r), (ad 1, iA G 57 rm)] → va_S A s.heap H locs → ∀ (ls : Array Slot), lv_has ls 6 [(4, .int (nI i)), (3, .int ((brP r N (nI f_2) i).2)), (2, .int (encL (brP r N (nI f_2) i).1)), (0, .ref h), (1, .int (nI f_2))] → W p0_ l e0_ ({ frames := 6, cells := 0, slots := 0, locals := 131 } : Room) s m args below meth c H locs (0) (0) (MQ below (va_Qi (S := va_W) (fun rv w1 => rv = sBringA r N (nI f_2) ∧ ∃ g : Nat → Int32, w1 = [(h, mO ad iv), (ad 0, iA G 57 r), (ad 1, iA G 57 g)]) (fun w1 t => PP G w1 t.heap ∧ va_D A w1) A) args s 0 0 A) (F0 m 26 ls [])) by
      exact hlp_3 (8) 0 (by omega) (rm) _ _ (hP.sub [0, 1, 2] rfl) (hD.sub [0, 1, 2] (by decide) rfl) hS ls (lv_sub hl [0, 1, 2, 3, 4] rfl)
    have hend_3 : ∀ (rm : Nat → Int32), ∀ (H : Heap) (locs : List Loc), PP G [(h, mO ad iv), (ad 0, iA G 57 r), (ad 1, iA G 57 rm)] H → va_D A [(h, mO ad iv), (ad 0, iA G 57 r), (ad 1, iA G 57 rm)] → va_S A s.heap H locs → ∀ (ls : Array Slot), lv_has ls 6 [(4, .int (nI 8)), (3, .int ((brP r N (nI f_2) 8).2)), (2, .int (encL (brP r N (nI f_2) 8).1)), (0, .ref h), (1, .int (nI f_2))] → W p0_ l e0_ ({ frames := 6, cells := 0, slots := 0, locals := 131 } : Room) s m args below meth c H locs (0) (0) (MQ below (va_Qi (S := va_W) (fun rv w1 => rv = sBringA r N (nI f_2) ∧ ∃ g : Nat → Int32, w1 = [(h, mO ad iv), (ad 0, iA G 57 r), (ad 1, iA G 57 g)]) (fun w1 t => PP G w1 t.heap ∧ va_D A w1) A) args s 0 0 A) (F0 m 26 ls []) := by
      intro rm H locs hP hD hS ls hl
      refine lv_iload hx hb dX4_bring_26 (lv_at hl 0 rfl) ?_
      refine lv_bipush (v := 8) hx hb dX4_bring_28 (by decide) ?_
      refine n_ic_ge (x := 8) (y := 8) (tgt := 87) hx hb (by omega) (by omega) dX4_bring_30 (by decide) (fun c_4 => ?_) (fun c_4 => absurd c_4 (by omega))
      refine lv_iload_n hx hb dX4_bring_87 rfl (lv_at hl 2 rfl) ?_
      exact n_iretW (v := encL (brP r N (nI f_2) 8).1) (w1 := [(h, mO ad iv), (ad 0, iA G 57 r), (ad 1, iA G 57 rm)]) C (⟨by first | (simp [sBringA, c_1, tf_2, c_4]; done), _, rfl⟩) hP hD hS (by first | omega | decide) (by first | omega | decide) dX4_bring_88
    intro n
    induction n with
    | zero =>
      intro i hi_3 rm H locs hP hD hS ls hl
      obtain e_3 : i = 8 := by omega
      first | (subst e_3; exact hend_3 rm H locs hP hD hS ls hl) | (rw [e_3] at hl hP hD; exact hend_3 rm H locs hP hD hS ls hl)
    | succ n ih_3 =>
      intro i hi_3 rm H locs hP hD hS ls hl
      refine lv_iload hx hb dX4_bring_26 (lv_at hl 0 rfl) ?_
      refine lv_bipush (v := 8) hx hb dX4_bring_28 (by decide) ?_
      refine n_ic_ge (x := i) (y := 8) (tgt := 87) hx hb (by omega) (by omega) dX4_bring_30 (by decide) (fun c_5 => absurd c_5 (by omega)) (fun c_5 => ?_)
      refine lv_aload_n hx hb dX4_bring_33 rfl (lv_at hl 3 rfl) ?_
      refine va_get (D := gD G) (ci := 0) (v := .ref (ad 0)) (C := RX4) (T := TX4) (N := 20) hx hb hts in_X4 hown hK hP 0 rfl rfl 0 (by decide) (hts _ q1073) (fun _ h9 => h9) rfl dX4_bring_34 ?_
      refine lv_aload_n hx hb dX4_bring_37 rfl (lv_at hl 3 rfl) ?_
      refine va_get (D := gD G) (ci := 0) (v := .ref (ad 1)) (C := RX4) (T := TX4) (N := 20) hx hb hts in_X4 hown hK hP 0 rfl rfl 1 (by decide) (hts _ q1074) (fun _ h9 => h9) rfl dX4_bring_38 ?_
      refine c_SWv (wr := [(h, mO ad iv)]) (rest := []) C (metX4_copies l G (ad 0) (ad 1) r rm) 2 (lw_S q1160 q1161 q42 q1162) (by decide +kernel) ⟨rfl, rfl⟩ ⟨(Nat.le_of_ble_eq_true rfl), (Nat.le_of_ble_eq_true rfl)⟩ (KM_mv G) hK hA hP hD hS [1, 2] [0] rfl rfl rfl rfl (by decide) hl rfl rfl (Nat.le_of_ble_eq_true rfl) ⟨(Nat.le_of_ble_eq_true rfl), (Nat.le_of_ble_eq_true rfl)⟩ dX4_bring_41 (fun w1 H locs hq_7 hP hD hS => ?_)
      obtain rfl := hq_7
      have hP : PP G [(h, mO ad iv), (ad 0, iA G 57 r), (ad 1, iA G 57 r)] H := hP
      have hD : va_D A [(h, mO ad iv), (ad 0, iA G 57 r), (ad 1, iA G 57 r)] := hD
      refine lv_aload_n hx hb dX4_bring_44 rfl (lv_at hl 3 rfl) ?_
      refine va_get (D := gD G) (ci := 0) (v := .ref (ad 1)) (C := RX4) (T := TX4) (N := 20) hx hb hts in_X4 hown hK hP 0 rfl rfl 1 (by decide) (hts _ q1074) (fun _ h9 => h9) rfl dX4_bring_45 ?_
      refine lv_iload hx hb dX4_bring_48 (lv_at hl 0 rfl) ?_
      refine lv_iload_n hx hb dX4_bring_50 rfl (lv_at hl 4 rfl) ?_
      refine lv_iconst (v := 0) hx hb dX4_bring_51 (by decide) ?_
      refine lv_bipush (v := 9) hx hb dX4_bring_52 (by decide) ?_
      refine c_SWv (wr := [(h, mO ad iv), (ad 0, iA G 57 r)]) (rest := []) C (metX4_adds l G (ad 1) r N (nI i) (nI f_2) 0 9 (by omega) (hr)) 5 (lw_S q1167 q1168 q42 q1169) (by decide +kernel) ⟨rfl, rfl⟩ ⟨(Nat.le_of_ble_eq_true rfl), (Nat.le_of_ble_eq_true rfl)⟩ (KM_mv G) hK hA hP hD hS [2] [0, 1] rfl rfl rfl rfl (by decide) hl rfl rfl (Nat.le_of_ble_eq_true rfl) ⟨(Nat.le_of_ble_eq_true rfl), (Nat.le_of_ble_eq_true rfl)⟩ dX4_bring_54 (fun w1 H locs hq_9 hP hD hS => ?_)
      obtain rfl := hq_9
      have hP : PP G [(h, mO ad iv), (ad 0, iA G 57 r), (ad 1, iA G 57 (sAdds r N (nI i) (nI f_2) 0 9))] H := hP
      have hD : va_D A [(h, mO ad iv), (ad 0, iA G 57 r), (ad 1, iA G 57 (sAdds r N (nI i) (nI f_2) 0 9))] := hD
      refine lv_aload_n hx hb dX4_bring_57 rfl (lv_at hl 3 rfl) ?_
      refine va_get (D := gD G) (ci := 0) (v := .ref (ad 1)) (C := RX4) (T := TX4) (N := 20) hx hb hts in_X4 hown hK hP 0 rfl rfl 1 (by decide) (hts _ q1074) (fun _ h9 => h9) rfl dX4_bring_58 ?_
      refine c_S (rest := []) C (metX4_bestJoys l G (ad 1) (sAdds r N (nI i) (nI f_2) 0 9) (N + 1) (by omega) (rfl)) 1 (lw_S q1256 q1257 q42 q1258) (by decide +kernel) ⟨rfl, rfl⟩ ⟨(Nat.le_of_ble_eq_true rfl), (Nat.le_of_ble_eq_true rfl)⟩ (KM_mv G) (hP.sub (ws' := [(ad 1, iA G 57 (sAdds r N (nI i) (nI f_2) 0 9))]) [2] rfl) hK hl rfl rfl (Nat.le_of_ble_eq_true rfl) ⟨(Nat.le_of_ble_eq_true rfl), (Nat.le_of_ble_eq_true rfl)⟩ dX4_bring_61 ?_
      refine lv_istore (lv' := [(5, .int (sBJ (sAdds r N (nI i) (nI f_2) 0 9) (N + 1))), (4, .int (nI i)), (3, .int ((brP r N (nI f_2) i).2)), (2, .int (encL (brP r N (nI f_2) i).1)), (0, .ref h), (1, .int (nI f_2))]) hx hb dX4_bring_64 hl (Nat.le_of_ble_eq_true rfl) rfl (fun ls hl => ?_)
      refine lv_iload hx hb dX4_bring_66 (lv_at hl 0 rfl) ?_
      refine lv_iload_n hx hb dX4_bring_68 rfl (lv_at hl 2 rfl) ?_
      refine lv_icmp_gt (x := sBJ (sAdds r N (nI i) (nI f_2) 0 9) (N + 1)) (y := (brP r N (nI f_2) i).2) (tgt := 75) hx hb dX4_bring_69 (by decide) (fun c_10 => ?_) (fun c_10 => ?_)
      · have zc_10 : ¬ (sBJ (sAdds r N (nI i) (nI f_2) 0 9) (N + 1)) ≤ ((brP r N (nI f_2) i).2) := Int32.not_le.mpr c_10
        refine lv_iload hx hb dX4_bring_75 (lv_at hl 1 rfl) ?_
        refine lv_istore_n (lv' := [(2, .int (nI i)), (5, .int (sBJ (sAdds r N (nI i) (nI f_2) 0 9) (N + 1))), (4, .int (nI i)), (3, .int ((brP r N (nI f_2) i).2)), (0, .ref h), (1, .int (nI f_2))]) hx hb dX4_bring_77 rfl hl (Nat.le_of_ble_eq_true rfl) rfl (fun ls hl => ?_)
        refine lv_iload hx hb dX4_bring_78 (lv_at hl 1 rfl) ?_
        refine lv_istore_n (lv' := [(3, .int (sBJ (sAdds r N (nI i) (nI f_2) 0 9) (N + 1))), (2, .int (nI i)), (5, .int (sBJ (sAdds r N (nI i) (nI f_2) 0 9) (N + 1))), (4, .int (nI i)), (0, .ref h), (1, .int (nI f_2))]) hx hb dX4_bring_80 rfl hl (Nat.le_of_ble_eq_true rfl) rfl (fun ls hl => ?_)
        refine n_iinc (k := 3) (lv' := [(4, .int (nI (i + 1))), (3, .int (sBJ (sAdds r N (nI i) (nI f_2) 0 9) (N + 1))), (2, .int (nI i)), (5, .int (sBJ (sAdds r N (nI i) (nI f_2) 0 9) (N + 1))), (0, .ref h), (1, .int (nI f_2))]) hx hb i 1 dX4_bring_81 hl rfl (Nat.le_of_ble_eq_true rfl) rfl (fun ls hl => ?_)
        refine lv_goto (tgt := 26) hx hb dX4_bring_84 (by decide) ?_
        have e_11 : (brP r N (nI f_2) (i + 1)).2 = sBJ (sAdds r N (nI i) (nI f_2) 0 9) (N + 1) := by simp [brP, brV, encLS, tf_2, c_5, c_10, zc_10]
        have e_12 : encL (brP r N (nI f_2) (i + 1)).1 = nI i := by simp [brP, brV, encLS, tf_2, c_5, c_10, zc_10]
        exact ih_3 (i + 1) (by omega) (sAdds r N (nI i) (nI f_2) 0 9) _ _ (by exact hP.sub [0, 1, 2] rfl) (by exact hD.sub [0, 1, 2] (by decide) rfl) hS ls (by rw [e_11, e_12]; exact lv_sub hl [0, 1, 2, 4, 5] rfl)
      · have zc_10 : (sBJ (sAdds r N (nI i) (nI f_2) 0 9) (N + 1)) ≤ ((brP r N (nI f_2) i).2) := Int32.not_lt.mp c_10
        refine lv_goto (tgt := 81) hx hb dX4_bring_72 (by decide) ?_
        refine n_iinc (k := 1) (lv' := [(4, .int (nI (i + 1))), (5, .int (sBJ (sAdds r N (nI i) (nI f_2) 0 9) (N + 1))), (3, .int ((brP r N (nI f_2) i).2)), (2, .int (encL (brP r N (nI f_2) i).1)), (0, .ref h), (1, .int (nI f_2))]) hx hb i 1 dX4_bring_81 hl rfl (Nat.le_of_ble_eq_true rfl) rfl (fun ls hl => ?_)
        refine lv_goto (tgt := 26) hx hb dX4_bring_84 (by decide) ?_
        have e_13 : (brP r N (nI f_2) (i + 1)).2 = (brP r N (nI f_2) i).2 := by simp [brP, brV, encLS, tf_2, c_5, c_10, zc_10]
        have e_14 : encL (brP r N (nI f_2) (i + 1)).1 = encL (brP r N (nI f_2) i).1 := by simp [brP, brV, encLS, tf_2, c_5, c_10, zc_10]
        exact ih_3 (i + 1) (by omega) (sAdds r N (nI i) (nI f_2) 0 9) _ _ (by exact hP.sub [0, 1, 2] rfl) (by exact hD.sub [0, 1, 2] (by decide) rfl) hS ls (by rw [e_13, e_14]; exact lv_sub hl [0, 2, 3, 4, 5] rfl)
  · refine lv_iconst (v := (-1)) hx hb dX4_bring_10 (by decide) ?_
    exact n_iretW (v := (-1)) (w1 := [(h, mO ad iv), (ad 0, iA G 57 r), (ad 1, iA G 57 rm)]) C (⟨by first | (simp [sBringA, c_1]; done), _, rfl⟩) hP hD hS (by first | omega | decide) (by first | omega | decide) dX4_bring_11

set_option maxHeartbeats 4000000 in
set_option maxRecDepth 100000 in
theorem metX4_forged (l : Launch) (G : GG) (h : Nat) (ad : Nat → Nat) (iv : Nat → Int32) (r : Nat → Int32) (N : Nat) (rm ke so el : Nat → Int32) (zz : Nat → Nat) (d : Int32) (hN : N ≤ 9) (hr : r 0 = nI N) (hz : ∀ d, zz d ≤ 100) : MW l yX4_forged cX4_forged 7 (some .int) ({ frames := 5, cells := 0, slots := 0, locals := 109 }) [.ref h, .int d] [(h, mO ad iv), (ad 0, iA G 57 r), (ad 13, iA G 8 ke), (ad 16, iA G 8 so), (ad 17, iA G 8 (nIf zz)), (ad 18, iA G 800 el), (ad 1, iA G 57 rm)] G (KM G) 0 0 (fun rv w1 => rv = sForgA r N ke so zz el d ∧ ∃ g : Nat → Int32, w1 = [(h, mO ad iv), (ad 0, iA G 57 r), (ad 13, iA G 8 ke), (ad 16, iA G 8 so), (ad 17, iA G 8 (nIf zz)), (ad 18, iA G 800 el), (ad 1, iA G 57 g)]) := by
  -- rows printed by wip/tools/gen.py
  refine mw_mk RX4 (by decide) rfl (Nat.le_of_ble_eq_true rfl) ?_
  intro p0_ e0_ s m args below meth c A C hA hP hK hD ls hl
  have hx := C.1
  have hb := C.2.1
  have hml := C.2.2.2.2.1
  have hown := C.2.2.2.2.2.1
  have hts := C.2.2.2.2.2.2
  have hS : va_S A s.heap s.heap [] := va_S.rf
  have hl : lv_has ls 7 [(0, .ref h), (1, .int d)] := hl
  refine lv_aload_n hx hb dX4_forged_0 rfl (lv_at hl 0 rfl) ?_
  refine lv_iload_n hx hb dX4_forged_1 rfl (lv_at hl 1 rfl) ?_
  refine lv_iconst (v := (-1)) hx hb dX4_forged_2 (by decide) ?_
  refine c_V (rest := []) C (metX4_wrongRow l G h ad iv ke so d (-1)) 2 (lw_V q1138 q1140 qs23 q42 q1141) (by decide +kernel) ⟨rfl, rfl⟩ ⟨(Nat.le_of_ble_eq_true rfl), (Nat.le_of_ble_eq_true rfl)⟩ (KM_mv G) (va_recv hK hP (ci := 0) (q0 := 0) rfl rfl) (hP.sub (ws' := [(h, mO ad iv), (ad 13, iA G 8 ke), (ad 16, iA G 8 so)]) [0, 2, 3] rfl) hK hl rfl rfl (Nat.le_of_ble_eq_true rfl) ⟨(Nat.le_of_ble_eq_true rfl), (Nat.le_of_ble_eq_true rfl)⟩ dX4_forged_3 ?_
  refine lv_istore_n (lv' := [(2, .int (sWR ke so d (-1))), (0, .ref h), (1, .int d)]) hx hb dX4_forged_6 rfl hl (Nat.le_of_ble_eq_true rfl) rfl (fun ls hl => ?_)
  refine lv_iload_n hx hb dX4_forged_7 rfl (lv_at hl 0 rfl) ?_
  refine lv_if_ne (x := sWR ke so d (-1)) (tgt := 26) hx hb dX4_forged_8 (by decide) (fun c_1 => ?_) (fun c_1 => ?_)
  · refine lv_iload_n hx hb dX4_forged_26 rfl (lv_at hl 0 rfl) ?_
    refine lv_if_eq (x := sWR ke so d (-1)) (tgt := 32) hx hb dX4_forged_27 (by decide) (fun c_2 => absurd c_2 (c_1)) (fun c_2 => ?_)
    refine lv_iload_n hx hb dX4_forged_30 rfl (lv_at hl 0 rfl) ?_
    exact n_iretW (v := sWR ke so d (-1)) (w1 := [(h, mO ad iv), (ad 0, iA G 57 r), (ad 13, iA G 8 ke), (ad 16, iA G 8 so), (ad 17, iA G 8 (nIf zz)), (ad 18, iA G 800 el), (ad 1, iA G 57 rm)]) C (⟨by first | (simp [sForgA, c_1, c_2]; done) | (simp [sForgA, c_1, c_2, hg, frg]; done) | (simp [sForgA, c_1, c_2, hg, e9, frg]; done), _, rfl⟩) hP hD hS (by first | omega | decide) (by first | omega | decide) dX4_forged_31
  · rw [c_1] at hl
    obtain ⟨dn, gd, k1, k2, rfl⟩ := sWR_0 c_1
    have t_dn : tn (nI dn) = dn := nI_clamp (by omega)
    refine lv_aload_n hx hb dX4_forged_11 rfl (lv_at hl 1 rfl) ?_
    refine va_get (D := gD G) (ci := 0) (v := .ref (ad 17)) (C := RX4) (T := TX4) (N := 20) hx hb hts in_X4 hown hK hP 0 rfl rfl 17 (by decide) (hts _ q1090) (fun _ h9 => h9) rfl dX4_forged_12 ?_
    refine lv_iload_n hx hb dX4_forged_15 rfl (lv_at hl 2 rfl) ?_
    refine n_iald C hK hP 4 dn rfl (by omega) (by omega) dX4_forged_16 ?_
    have hz_3 := hz dn
    refine lv_iconst (v := 2) hx hb dX4_forged_17 (by decide) ?_
    refine n_irem hx hb (zz dn) 2 (by omega) (by omega) (by omega) dX4_forged_18 ?_
    refine lv_iconst (v := 1) hx hb dX4_forged_19 (by decide) ?_
    refine n_ic_ne (x := (zz dn) % 2) (y := 1) (tgt := 26) hx hb (by omega) (by omega) dX4_forged_20 (by decide) (fun c_4 => ?_) (fun c_4 => ?_)
    · have zc_4 : ¬ nI ((zz dn) % 2) = 1 := fun q => c_4 ((nI_eq (by omega) (by omega)).mp q)
      refine lv_iload_n hx hb dX4_forged_26 rfl (lv_at hl 0 rfl) ?_
      refine lv_if_eq (x := 0) (tgt := 32) hx hb dX4_forged_27 (by decide) (fun c_5 => ?_) (fun c_5 => absurd c_5 (by decide))
      refine lv_aload_n hx hb dX4_forged_32 rfl (lv_at hl 1 rfl) ?_
      refine va_get (D := gD G) (ci := 0) (v := .ref (ad 0)) (C := RX4) (T := TX4) (N := 20) hx hb hts in_X4 hown hK hP 0 rfl rfl 0 (by decide) (hts _ q1073) (fun _ h9 => h9) rfl dX4_forged_33 ?_
      refine lv_aload_n hx hb dX4_forged_36 rfl (lv_at hl 1 rfl) ?_
      refine va_get (D := gD G) (ci := 0) (v := .ref (ad 1)) (C := RX4) (T := TX4) (N := 20) hx hb hts in_X4 hown hK hP 0 rfl rfl 1 (by decide) (hts _ q1074) (fun _ h9 => h9) rfl dX4_forged_37 ?_
      refine c_SWv (wr := [(h, mO ad iv), (ad 13, iA G 8 ke), (ad 16, iA G 8 so), (ad 17, iA G 8 (nIf zz)), (ad 18, iA G 800 el)]) (rest := []) C (metX4_copies l G (ad 0) (ad 1) r rm) 2 (lw_S q1160 q1161 q42 q1162) (by decide +kernel) ⟨rfl, rfl⟩ ⟨(Nat.le_of_ble_eq_true rfl), (Nat.le_of_ble_eq_true rfl)⟩ (KM_mv G) hK hA hP hD hS [1, 6] [0, 2, 3, 4, 5] rfl rfl rfl rfl (by decide) hl rfl rfl (Nat.le_of_ble_eq_true rfl) ⟨(Nat.le_of_ble_eq_true rfl), (Nat.le_of_ble_eq_true rfl)⟩ dX4_forged_40 (fun w1 H locs hq_7 hP hD hS => ?_)
      obtain rfl := hq_7
      have hP : PP G [(h, mO ad iv), (ad 13, iA G 8 ke), (ad 16, iA G 8 so), (ad 17, iA G 8 (nIf zz)), (ad 18, iA G 800 el), (ad 0, iA G 57 r), (ad 1, iA G 57 r)] H := hP
      have hD : va_D A [(h, mO ad iv), (ad 13, iA G 8 ke), (ad 16, iA G 8 so), (ad 17, iA G 8 (nIf zz)), (ad 18, iA G 800 el), (ad 0, iA G 57 r), (ad 1, iA G 57 r)] := hD
      refine lv_iconst (v := 0) hx hb dX4_forged_43 (by decide) ?_
      refine lv_istore_n (lv' := [(3, .int 0), (2, .int 0), (0, .ref h), (1, .int (nI dn))]) hx hb dX4_forged_44 rfl hl (Nat.le_of_ble_eq_true rfl) rfl (fun ls hl => ?_)
      suffices hlp_8 : (∀ (n i : Nat), i + n = zz dn / 2 → ∀ (rm : Nat → Int32), ∀ (H : Heap) (locs : List Loc), PP G [(h, mO ad iv), (ad 0, iA G 57 r), (ad 13, iA G 8 ke), (ad 16, iA G 8 so), (ad 17, iA G 8 (nIf zz)), (ad 18, iA G 800 el), (ad 1, iA G 57 rm)] H → va_D A [(h, mO ad iv), (ad 0, iA G 57 r), (ad 13, iA G 8 ke), (ad 16, iA G 8 so), (ad 17, iA G 8 (nIf zz)), (ad 18, iA G 800 el), (ad 1, iA G 57 rm)] → va_S A s.heap H locs → (frg N el (100 * dn) (zz dn / 2) r 0 = frg N el (100 * dn) (zz dn / 2 - i) rm i) → ∀ (ls : Array Slot), lv_has ls 7 [(3, .int (nI (2 * i))), (2, .int 0), (0, .ref h), (1, .int (nI dn))] → W p0_ l e0_ ({ frames := 5, cells := 0, slots := 0, locals := 109 } : Room) s m args below meth c H locs (0) (0) (MQ below (va_Qi (S := va_W) (fun rv w1 => rv = sForgA r N ke so zz el (nI dn) ∧ ∃ g : Nat → Int32, w1 = [(h, mO ad iv), (ad 0, iA G 57 r), (ad 13, iA G 8 ke), (ad 16, iA G 8 so), (ad 17, iA G 8 (nIf zz)), (ad 18, iA G 800 el), (ad 1, iA G 57 g)]) (fun w1 t => PP G w1 t.heap ∧ va_D A w1) A) args s 0 0 A) (F0 m 45 ls [])) by
        have e8 := hz dn
        exact hlp_8 (zz dn / 2) 0 (by omega) (r) _ _ (hP.sub [0, 5, 1, 2, 3, 4, 6] rfl) (hD.sub [0, 5, 1, 2, 3, 4, 6] (by decide) rfl) hS (rfl) ls (lv_sub hl [0, 1, 2, 3] rfl)
      have hend_8 : ∀ (rm : Nat → Int32), ∀ (H : Heap) (locs : List Loc), PP G [(h, mO ad iv), (ad 0, iA G 57 r), (ad 13, iA G 8 ke), (ad 16, iA G 8 so), (ad 17, iA G 8 (nIf zz)), (ad 18, iA G 800 el), (ad 1, iA G 57 rm)] H → va_D A [(h, mO ad iv), (ad 0, iA G 57 r), (ad 13, iA G 8 ke), (ad 16, iA G 8 so), (ad 17, iA G 8 (nIf zz)), (ad 18, iA G 800 el), (ad 1, iA G 57 rm)] → va_S A s.heap H locs → (frg N el (100 * dn) (zz dn / 2) r 0 = frg N el (100 * dn) (zz dn / 2 - (zz dn / 2)) rm (zz dn / 2)) → ∀ (ls : Array Slot), lv_has ls 7 [(3, .int (nI (2 * (zz dn / 2)))), (2, .int 0), (0, .ref h), (1, .int (nI dn))] → W p0_ l e0_ ({ frames := 5, cells := 0, slots := 0, locals := 109 } : Room) s m args below meth c H locs (0) (0) (MQ below (va_Qi (S := va_W) (fun rv w1 => rv = sForgA r N ke so zz el (nI dn) ∧ ∃ g : Nat → Int32, w1 = [(h, mO ad iv), (ad 0, iA G 57 r), (ad 13, iA G 8 ke), (ad 16, iA G 8 so), (ad 17, iA G 8 (nIf zz)), (ad 18, iA G 800 el), (ad 1, iA G 57 g)]) (fun w1 t => PP G w1 t.heap ∧ va_D A w1) A) args s 0 0 A) (F0 m 45 ls []) := by
        intro rm H locs hP hD hS hg ls hl
        have e8 := hz dn
        refine lv_iload_n hx hb dX4_forged_45 rfl (lv_at hl 0 rfl) ?_
        refine lv_aload_n hx hb dX4_forged_46 rfl (lv_at hl 2 rfl) ?_
        refine va_get (D := gD G) (ci := 0) (v := .ref (ad 17)) (C := RX4) (T := TX4) (N := 20) hx hb hts in_X4 hown hK hP 0 rfl rfl 17 (by decide) (hts _ q1090) (fun _ h9 => h9) rfl dX4_forged_47 ?_
        refine lv_iload_n hx hb dX4_forged_50 rfl (lv_at hl 3 rfl) ?_
        refine n_iald C hK hP 4 dn rfl (by omega) (by omega) dX4_forged_51 ?_
        have hz_9 := hz dn
        refine n_ic_ge (x := 2 * (zz dn / 2)) (y := zz dn) (tgt := 138) hx hb (by omega) (by omega) dX4_forged_52 (by decide) (fun c_10 => ?_) (fun c_10 => absurd c_10 (by omega))
        refine lv_bipush (v := (-4)) hx hb dX4_forged_138 (by decide) ?_
        exact n_iretW (v := (-4)) (w1 := [(h, mO ad iv), (ad 0, iA G 57 r), (ad 13, iA G 8 ke), (ad 16, iA G 8 so), (ad 17, iA G 8 (nIf zz)), (ad 18, iA G 800 el), (ad 1, iA G 57 rm)]) C (⟨by first | (simp [sForgA, c_1, t_dn, k1, k2, c_4, zc_4, c_5, c_10]; done) | (simp [sForgA, c_1, t_dn, k1, k2, c_4, zc_4, c_5, c_10, hg, frg]; done) | (simp [sForgA, c_1, t_dn, k1, k2, c_4, zc_4, c_5, c_10, hg, e9, frg]; done), _, rfl⟩) hP hD hS (by first | omega | decide) (by first | omega | decide) dX4_forged_140
      intro n
      induction n with
      | zero =>
        intro i hi_8 rm H locs hP hD hS hg ls hl
        obtain e_8 : i = zz dn / 2 := by omega
        first | (subst e_8; exact hend_8 rm H locs hP hD hS hg ls hl) | (rw [e_8] at hl hP hD; exact hend_8 rm H locs hP hD hS hg ls hl)
      | succ n ih_8 =>
        intro i hi_8 rm H locs hP hD hS hg ls hl
        have e9 : zz dn / 2 - i = (zz dn / 2 - (i + 1)) + 1 := by omega
        have e8 := hz dn
        refine lv_iload_n hx hb dX4_forged_45 rfl (lv_at hl 0 rfl) ?_
        refine lv_aload_n hx hb dX4_forged_46 rfl (lv_at hl 2 rfl) ?_
        refine va_get (D := gD G) (ci := 0) (v := .ref (ad 17)) (C := RX4) (T := TX4) (N := 20) hx hb hts in_X4 hown hK hP 0 rfl rfl 17 (by decide) (hts _ q1090) (fun _ h9 => h9) rfl dX4_forged_47 ?_
        refine lv_iload_n hx hb dX4_forged_50 rfl (lv_at hl 3 rfl) ?_
        refine n_iald C hK hP 4 dn rfl (by omega) (by omega) dX4_forged_51 ?_
        have hz_11 := hz dn
        refine n_ic_ge (x := 2 * i) (y := zz dn) (tgt := 138) hx hb (by omega) (by omega) dX4_forged_52 (by decide) (fun c_12 => absurd c_12 (by omega)) (fun c_12 => ?_)
        refine lv_aload_n hx hb dX4_forged_55 rfl (lv_at hl 2 rfl) ?_
        refine va_get (D := gD G) (ci := 0) (v := .ref (ad 18)) (C := RX4) (T := TX4) (N := 20) hx hb hts in_X4 hown hK hP 0 rfl rfl 18 (by decide) (hts _ q1091) (fun _ h9 => h9) rfl dX4_forged_56 ?_
        refine lv_bipush (v := 100) hx hb dX4_forged_59 (by decide) ?_
        refine lv_iload_n hx hb dX4_forged_61 rfl (lv_at hl 3 rfl) ?_
        refine n_imul hx hb 100 dn dX4_forged_62 ?_
        refine lv_iload_n hx hb dX4_forged_63 rfl (lv_at hl 0 rfl) ?_
        refine n_iadd hx hb (100 * dn) (2 * i) dX4_forged_64 ?_
        refine n_iald C hK hP 5 ((100 * dn) + (2 * i)) rfl (by omega) (by omega) dX4_forged_65 ?_
        refine lv_istore (lv' := [(4, .int (el ((100 * dn) + (2 * i)))), (3, .int (nI (2 * i))), (2, .int 0), (0, .ref h), (1, .int (nI dn))]) hx hb dX4_forged_66 hl (Nat.le_of_ble_eq_true rfl) rfl (fun ls hl => ?_)
        refine lv_aload_n hx hb dX4_forged_68 rfl (lv_at hl 3 rfl) ?_
        refine va_get (D := gD G) (ci := 0) (v := .ref (ad 18)) (C := RX4) (T := TX4) (N := 20) hx hb hts in_X4 hown hK hP 0 rfl rfl 18 (by decide) (hts _ q1091) (fun _ h9 => h9) rfl dX4_forged_69 ?_
        refine lv_bipush (v := 100) hx hb dX4_forged_72 (by decide) ?_
        refine lv_iload_n hx hb dX4_forged_74 rfl (lv_at hl 4 rfl) ?_
        refine n_imul hx hb 100 dn dX4_forged_75 ?_
        refine lv_iload_n hx hb dX4_forged_76 rfl (lv_at hl 1 rfl) ?_
        refine n_iadd hx hb (100 * dn) (2 * i) dX4_forged_77 ?_
        refine lv_iconst (v := 1) hx hb dX4_forged_78 (by decide) ?_
        refine n_iadd hx hb ((100 * dn) + (2 * i)) 1 dX4_forged_79 ?_
        refine n_iald C hK hP 5 (((100 * dn) + (2 * i)) + 1) rfl (by omega) (by omega) dX4_forged_80 ?_
        refine lv_istore (lv' := [(5, .int (el (((100 * dn) + (2 * i)) + 1))), (4, .int (el ((100 * dn) + (2 * i)))), (3, .int (nI (2 * i))), (2, .int 0), (0, .ref h), (1, .int (nI dn))]) hx hb dX4_forged_81 hl (Nat.le_of_ble_eq_true rfl) rfl (fun ls hl => ?_)
        refine lv_aload_n hx hb dX4_forged_83 rfl (lv_at hl 4 rfl) ?_
        refine lv_iload hx hb dX4_forged_84 (lv_at hl 1 rfl) ?_
        refine c_V (rest := []) C (metX4_isPerson l G h ad iv r N (el ((100 * dn) + (2 * i))) (hr)) 1 (lw_V q1173 q1175 qs28 q42 q1176) (by decide +kernel) ⟨rfl, rfl⟩ ⟨(Nat.le_of_ble_eq_true rfl), (Nat.le_of_ble_eq_true rfl)⟩ (KM_mv G) (va_recv hK hP (ci := 0) (q0 := 0) rfl rfl) (hP.sub (ws' := [(h, mO ad iv), (ad 0, iA G 57 r)]) [0, 1] rfl) hK hl rfl rfl (Nat.le_of_ble_eq_true rfl) ⟨(Nat.le_of_ble_eq_true rfl), (Nat.le_of_ble_eq_true rfl)⟩ dX4_forged_86 ?_
        refine n_if_eqB (b := (sPer N (el ((100 * dn) + (2 * i))))) (tgt := 115) hx hb dX4_forged_89 (by decide) (fun c_13 => ?_) (fun c_13 => ?_)
        · refine lv_iload_n hx hb dX4_forged_115 rfl (lv_at hl 2 rfl) ?_
          refine lv_iconst (v := 2) hx hb dX4_forged_116 (by decide) ?_
          refine n_idiv hx hb (2 * i) 2 (by omega) (by omega) (by omega) dX4_forged_117 ?_
          refine n_eqi (congrArg nI (show (2 * i) / 2 = i from by omega)) ?_
          exact n_iretW (v := nI i) (w1 := [(h, mO ad iv), (ad 0, iA G 57 r), (ad 13, iA G 8 ke), (ad 16, iA G 8 so), (ad 17, iA G 8 (nIf zz)), (ad 18, iA G 800 el), (ad 1, iA G 57 rm)]) C (⟨by first | (simp [sForgA, c_1, t_dn, k1, k2, c_4, zc_4, c_5, c_12, c_13]; done) | (simp [sForgA, c_1, t_dn, k1, k2, c_4, zc_4, c_5, c_12, c_13, hg, frg]; done) | (simp [sForgA, c_1, t_dn, k1, k2, c_4, zc_4, c_5, c_12, c_13, hg, e9, frg]; done), _, rfl⟩) hP hD hS (by first | omega | decide) (by first | omega | decide) dX4_forged_118
        · obtain ⟨el_100_d_14, hel_100_d_14, qel_100_d_14⟩ := sPer_t (by omega) c_13
          have uel_100_d_14 : sPer N (nI el_100_d_14) = true := by rw [← qel_100_d_14]; exact c_13
          have tel_100_d_14 : tn (nI el_100_d_14) = el_100_d_14 := nI_clamp (by omega)
          refine lv_aload_n hx hb dX4_forged_92 rfl (lv_at hl 4 rfl) ?_
          refine lv_iload hx hb dX4_forged_93 (lv_at hl 0 rfl) ?_
          refine c_V (rest := []) C (metX4_isPerson l G h ad iv r N (el (((100 * dn) + (2 * i)) + 1)) (hr)) 1 (lw_V q1173 q1175 qs28 q42 q1176) (by decide +kernel) ⟨rfl, rfl⟩ ⟨(Nat.le_of_ble_eq_true rfl), (Nat.le_of_ble_eq_true rfl)⟩ (KM_mv G) (va_recv hK hP (ci := 0) (q0 := 0) rfl rfl) (hP.sub (ws' := [(h, mO ad iv), (ad 0, iA G 57 r)]) [0, 1] rfl) hK hl rfl rfl (Nat.le_of_ble_eq_true rfl) ⟨(Nat.le_of_ble_eq_true rfl), (Nat.le_of_ble_eq_true rfl)⟩ dX4_forged_95 ?_
          refine n_if_eqB (b := (sPer N (el (((100 * dn) + (2 * i)) + 1)))) (tgt := 115) hx hb dX4_forged_98 (by decide) (fun c_15 => ?_) (fun c_15 => ?_)
          · refine lv_iload_n hx hb dX4_forged_115 rfl (lv_at hl 2 rfl) ?_
            refine lv_iconst (v := 2) hx hb dX4_forged_116 (by decide) ?_
            refine n_idiv hx hb (2 * i) 2 (by omega) (by omega) (by omega) dX4_forged_117 ?_
            refine n_eqi (congrArg nI (show (2 * i) / 2 = i from by omega)) ?_
            exact n_iretW (v := nI i) (w1 := [(h, mO ad iv), (ad 0, iA G 57 r), (ad 13, iA G 8 ke), (ad 16, iA G 8 so), (ad 17, iA G 8 (nIf zz)), (ad 18, iA G 800 el), (ad 1, iA G 57 rm)]) C (⟨by first | (simp [sForgA, c_1, t_dn, k1, k2, c_4, zc_4, c_5, c_12, c_13, qel_100_d_14, uel_100_d_14, tel_100_d_14, c_15]; done) | (simp [sForgA, c_1, t_dn, k1, k2, c_4, zc_4, c_5, c_12, c_13, qel_100_d_14, uel_100_d_14, tel_100_d_14, c_15, hg, frg]; done) | (simp [sForgA, c_1, t_dn, k1, k2, c_4, zc_4, c_5, c_12, c_13, qel_100_d_14, uel_100_d_14, tel_100_d_14, c_15, hg, e9, frg]; done), _, rfl⟩) hP hD hS (by first | omega | decide) (by first | omega | decide) dX4_forged_118
          · obtain ⟨el_100_d_16, hel_100_d_16, qel_100_d_16⟩ := sPer_t (by omega) c_15
            have uel_100_d_16 : sPer N (nI el_100_d_16) = true := by rw [← qel_100_d_16]; exact c_15
            have tel_100_d_16 : tn (nI el_100_d_16) = el_100_d_16 := nI_clamp (by omega)
            refine lv_aload_n hx hb dX4_forged_101 rfl (lv_at hl 4 rfl) ?_
            refine va_get (D := gD G) (ci := 0) (v := .ref (ad 1)) (C := RX4) (T := TX4) (N := 20) hx hb hts in_X4 hown hK hP 0 rfl rfl 1 (by decide) (hts _ q1074) (fun _ h9 => h9) rfl dX4_forged_102 ?_
            refine lv_iload hx hb dX4_forged_105 (lv_at hl 1 rfl) ?_
            refine n_eqi (qel_100_d_14) ?_
            refine lv_iload hx hb dX4_forged_107 (lv_at hl 0 rfl) ?_
            refine n_eqi (qel_100_d_16) ?_
            refine c_S (rest := []) C (metX4_canEat l G (ad 1) rm el_100_d_14 el_100_d_16 (by omega) (by omega)) 3 (lw_S q1177 q1178 q42 q1179) (by decide +kernel) ⟨rfl, rfl⟩ ⟨(Nat.le_of_ble_eq_true rfl), (Nat.le_of_ble_eq_true rfl)⟩ (KM_mv G) (hP.sub (ws' := [(ad 1, iA G 57 rm)]) [6] rfl) hK hl rfl rfl (Nat.le_of_ble_eq_true rfl) ⟨(Nat.le_of_ble_eq_true rfl), (Nat.le_of_ble_eq_true rfl)⟩ dX4_forged_109 ?_
            refine n_if_neB (b := (sEat rm el_100_d_14 el_100_d_16)) (tgt := 119) hx hb dX4_forged_112 (by decide) (fun c_17 => ?_) (fun c_17 => ?_)
            · refine lv_aload_n hx hb dX4_forged_119 rfl (lv_at hl 4 rfl) ?_
              refine va_get (D := gD G) (ci := 0) (v := .ref (ad 1)) (C := RX4) (T := TX4) (N := 20) hx hb hts in_X4 hown hK hP 0 rfl rfl 1 (by decide) (hts _ q1074) (fun _ h9 => h9) rfl dX4_forged_120 ?_
              refine lv_iload hx hb dX4_forged_123 (lv_at hl 1 rfl) ?_
              refine n_eqi (qel_100_d_14) ?_
              refine lv_iload hx hb dX4_forged_125 (lv_at hl 0 rfl) ?_
              refine n_eqi (qel_100_d_16) ?_
              refine c_SW (wr := [(h, mO ad iv), (ad 0, iA G 57 r), (ad 13, iA G 8 ke), (ad 16, iA G 8 so), (ad 17, iA G 8 (nIf zz)), (ad 18, iA G 800 el)]) (rest := []) C (metX4_turn l G (ad 1) rm el_100_d_14 el_100_d_16 (by omega) (by omega)) 3 (lw_S q1183 q1184 q42 q1185) (by decide +kernel) ⟨rfl, rfl⟩ ⟨(Nat.le_of_ble_eq_true rfl), (Nat.le_of_ble_eq_true rfl)⟩ (KM_mv G) hK hA hP hD hS [6] [0, 1, 2, 3, 4, 5] rfl rfl rfl rfl (by decide) hl rfl rfl (Nat.le_of_ble_eq_true rfl) ⟨(Nat.le_of_ble_eq_true rfl), (Nat.le_of_ble_eq_true rfl)⟩ dX4_forged_127 (fun r_18 w1 H locs hq_19 hP hD hS => ?_)
              obtain ⟨rfl, rfl⟩ := hq_19
              have hP : PP G [(h, mO ad iv), (ad 0, iA G 57 r), (ad 13, iA G 8 ke), (ad 16, iA G 8 so), (ad 17, iA G 8 (nIf zz)), (ad 18, iA G 800 el), (ad 1, iA G 57 (sTurn rm el_100_d_14 el_100_d_16))] H := hP
              have hD : va_D A [(h, mO ad iv), (ad 0, iA G 57 r), (ad 13, iA G 8 ke), (ad 16, iA G 8 so), (ad 17, iA G 8 (nIf zz)), (ad 18, iA G 800 el), (ad 1, iA G 57 (sTurn rm el_100_d_14 el_100_d_16))] := hD
              refine lv_istore (lv' := [(6, .int (sJoy rm el_100_d_14 el_100_d_16)), (5, .int (el (((100 * dn) + (2 * i)) + 1))), (4, .int (el ((100 * dn) + (2 * i)))), (3, .int (nI (2 * i))), (2, .int 0), (0, .ref h), (1, .int (nI dn))]) hx hb dX4_forged_130 hl (Nat.le_of_ble_eq_true rfl) rfl (fun ls hl => ?_)
              refine n_iinc (k := 3) (lv' := [(3, .int (nI (2 * i + 2))), (6, .int (sJoy rm el_100_d_14 el_100_d_16)), (5, .int (el (((100 * dn) + (2 * i)) + 1))), (4, .int (el ((100 * dn) + (2 * i)))), (2, .int 0), (0, .ref h), (1, .int (nI dn))]) hx hb (2 * i) 2 dX4_forged_132 hl rfl (Nat.le_of_ble_eq_true rfl) rfl (fun ls hl => ?_)
              refine lv_goto (tgt := 45) hx hb dX4_forged_135 (by decide) ?_
              have e_20 : 2 * (i + 1) = 2 * i + 2 := by omega
              exact ih_8 (i + 1) (by omega) (sTurn rm el_100_d_14 el_100_d_16) _ _ (by exact hP.sub [0, 1, 2, 3, 4, 5, 6] rfl) (by exact hD.sub [0, 1, 2, 3, 4, 5, 6] (by decide) rfl) hS (by rw [hg, e9]; simp [frg, t_dn, c_12, c_13, qel_100_d_14, uel_100_d_14, tel_100_d_14, c_15, qel_100_d_16, uel_100_d_16, tel_100_d_16, c_17]) ls (by rw [e_20]; exact lv_sub hl [0, 4, 5, 6] rfl)
            · refine lv_iload_n hx hb dX4_forged_115 rfl (lv_at hl 2 rfl) ?_
              refine lv_iconst (v := 2) hx hb dX4_forged_116 (by decide) ?_
              refine n_idiv hx hb (2 * i) 2 (by omega) (by omega) (by omega) dX4_forged_117 ?_
              refine n_eqi (congrArg nI (show (2 * i) / 2 = i from by omega)) ?_
              exact n_iretW (v := nI i) (w1 := [(h, mO ad iv), (ad 0, iA G 57 r), (ad 13, iA G 8 ke), (ad 16, iA G 8 so), (ad 17, iA G 8 (nIf zz)), (ad 18, iA G 800 el), (ad 1, iA G 57 rm)]) C (⟨by first | (simp [sForgA, c_1, t_dn, k1, k2, c_4, zc_4, c_5, c_12, c_13, qel_100_d_14, uel_100_d_14, tel_100_d_14, c_15, qel_100_d_16, uel_100_d_16, tel_100_d_16, c_17]; done) | (simp [sForgA, c_1, t_dn, k1, k2, c_4, zc_4, c_5, c_12, c_13, qel_100_d_14, uel_100_d_14, tel_100_d_14, c_15, qel_100_d_16, uel_100_d_16, tel_100_d_16, c_17, hg, frg]; done) | (simp [sForgA, c_1, t_dn, k1, k2, c_4, zc_4, c_5, c_12, c_13, qel_100_d_14, uel_100_d_14, tel_100_d_14, c_15, qel_100_d_16, uel_100_d_16, tel_100_d_16, c_17, hg, e9, frg]; done), _, rfl⟩) hP hD hS (by first | omega | decide) (by first | omega | decide) dX4_forged_118
    · have zc_4 : nI ((zz dn) % 2) = 1 := congrArg nI c_4
      refine lv_bipush (v := (-13)) hx hb dX4_forged_23 (by decide) ?_
      refine lv_istore_n (lv' := [(2, .int (-13)), (0, .ref h), (1, .int (nI dn))]) hx hb dX4_forged_25 rfl hl (Nat.le_of_ble_eq_true rfl) rfl (fun ls hl => ?_)
      refine lv_iload_n hx hb dX4_forged_26 rfl (lv_at hl 0 rfl) ?_
      refine lv_if_eq (x := (-13)) (tgt := 32) hx hb dX4_forged_27 (by decide) (fun c_21 => absurd c_21 (by decide)) (fun c_21 => ?_)
      refine lv_iload_n hx hb dX4_forged_30 rfl (lv_at hl 0 rfl) ?_
      exact n_iretW (v := (-13)) (w1 := [(h, mO ad iv), (ad 0, iA G 57 r), (ad 13, iA G 8 ke), (ad 16, iA G 8 so), (ad 17, iA G 8 (nIf zz)), (ad 18, iA G 800 el), (ad 1, iA G 57 rm)]) C (⟨by first | (simp [sForgA, c_1, t_dn, k1, k2, c_4, zc_4, c_21]; done) | (simp [sForgA, c_1, t_dn, k1, k2, c_4, zc_4, c_21, hg, frg]; done) | (simp [sForgA, c_1, t_dn, k1, k2, c_4, zc_4, c_21, hg, e9, frg]; done), _, rfl⟩) hP hD hS (by first | omega | decide) (by first | omega | decide) dX4_forged_31

set_option maxHeartbeats 4000000 in
set_option maxRecDepth 100000 in
theorem metX4_judge (l : Launch) (G : GG) (h : Nat) (ad : Nat → Nat) (iv : Nat → Int32) (r : Nat → Int32) (N : Nat) (rm ke so el : Nat → Int32) (zz : Nat → Nat) (d : Int32) (hN : N ≤ 9) (hr : r 0 = nI N) (hz : ∀ d, zz d ≤ 100) : MW l yX4_judge cX4_judge 7 (some .int) ({ frames := 5, cells := 0, slots := 0, locals := 110 }) [.ref h, .int d] [(h, mO ad iv), (ad 0, iA G 57 r), (ad 13, iA G 8 ke), (ad 16, iA G 8 so), (ad 17, iA G 8 (nIf zz)), (ad 18, iA G 800 el), (ad 1, iA G 57 rm)] G (KM G) 0 0 (fun rv w1 => rv = sJudgeA r N ke so zz el d ∧ ∃ g : Nat → Int32, w1 = [(h, mO ad iv), (ad 0, iA G 57 r), (ad 13, iA G 8 ke), (ad 16, iA G 8 so), (ad 17, iA G 8 (nIf zz)), (ad 18, iA G 800 el), (ad 1, iA G 57 g)]) := by
  -- rows printed by wip/tools/gen.py
  refine mw_mk RX4 (by decide) rfl (Nat.le_of_ble_eq_true rfl) ?_
  intro p0_ e0_ s m args below meth c A C hA hP hK hD ls hl
  have hx := C.1
  have hb := C.2.1
  have hml := C.2.2.2.2.1
  have hown := C.2.2.2.2.2.1
  have hts := C.2.2.2.2.2.2
  have hS : va_S A s.heap s.heap [] := va_S.rf
  have hl : lv_has ls 7 [(0, .ref h), (1, .int d)] := hl
  refine lv_aload_n hx hb dX4_judge_0 rfl (lv_at hl 0 rfl) ?_
  refine lv_iload_n hx hb dX4_judge_1 rfl (lv_at hl 1 rfl) ?_
  refine lv_iconst (v := (-1)) hx hb dX4_judge_2 (by decide) ?_
  refine c_V (rest := []) C (metX4_wrongRow l G h ad iv ke so d (-1)) 2 (lw_V q1138 q1140 qs23 q42 q1141) (by decide +kernel) ⟨rfl, rfl⟩ ⟨(Nat.le_of_ble_eq_true rfl), (Nat.le_of_ble_eq_true rfl)⟩ (KM_mv G) (va_recv hK hP (ci := 0) (q0 := 0) rfl rfl) (hP.sub (ws' := [(h, mO ad iv), (ad 13, iA G 8 ke), (ad 16, iA G 8 so)]) [0, 2, 3] rfl) hK hl rfl rfl (Nat.le_of_ble_eq_true rfl) ⟨(Nat.le_of_ble_eq_true rfl), (Nat.le_of_ble_eq_true rfl)⟩ dX4_judge_3 ?_
  refine lv_istore_n (lv' := [(2, .int (sWR ke so d (-1))), (0, .ref h), (1, .int d)]) hx hb dX4_judge_6 rfl hl (Nat.le_of_ble_eq_true rfl) rfl (fun ls hl => ?_)
  refine lv_iload_n hx hb dX4_judge_7 rfl (lv_at hl 0 rfl) ?_
  refine lv_if_eq (x := sWR ke so d (-1)) (tgt := 13) hx hb dX4_judge_8 (by decide) (fun c_1 => ?_) (fun c_1 => ?_)
  · obtain ⟨dn, gd, k1, k2, rfl⟩ := sWR_0 c_1
    have t_dn : tn (nI dn) = dn := nI_clamp (by omega)
    refine lv_aload_n hx hb dX4_judge_13 rfl (lv_at hl 1 rfl) ?_
    refine va_get (D := gD G) (ci := 0) (v := .ref (ad 0)) (C := RX4) (T := TX4) (N := 20) hx hb hts in_X4 hown hK hP 0 rfl rfl 0 (by decide) (hts _ q1073) (fun _ h9 => h9) rfl dX4_judge_14 ?_
    refine lv_aload_n hx hb dX4_judge_17 rfl (lv_at hl 1 rfl) ?_
    refine va_get (D := gD G) (ci := 0) (v := .ref (ad 1)) (C := RX4) (T := TX4) (N := 20) hx hb hts in_X4 hown hK hP 0 rfl rfl 1 (by decide) (hts _ q1074) (fun _ h9 => h9) rfl dX4_judge_18 ?_
    refine c_SWv (wr := [(h, mO ad iv), (ad 13, iA G 8 ke), (ad 16, iA G 8 so), (ad 17, iA G 8 (nIf zz)), (ad 18, iA G 800 el)]) (rest := []) C (metX4_copies l G (ad 0) (ad 1) r rm) 2 (lw_S q1160 q1161 q42 q1162) (by decide +kernel) ⟨rfl, rfl⟩ ⟨(Nat.le_of_ble_eq_true rfl), (Nat.le_of_ble_eq_true rfl)⟩ (KM_mv G) hK hA hP hD hS [1, 6] [0, 2, 3, 4, 5] rfl rfl rfl rfl (by decide) hl rfl rfl (Nat.le_of_ble_eq_true rfl) ⟨(Nat.le_of_ble_eq_true rfl), (Nat.le_of_ble_eq_true rfl)⟩ dX4_judge_21 (fun w1 H locs hq_3 hP hD hS => ?_)
    obtain rfl := hq_3
    have hP : PP G [(h, mO ad iv), (ad 13, iA G 8 ke), (ad 16, iA G 8 so), (ad 17, iA G 8 (nIf zz)), (ad 18, iA G 800 el), (ad 0, iA G 57 r), (ad 1, iA G 57 r)] H := hP
    have hD : va_D A [(h, mO ad iv), (ad 13, iA G 8 ke), (ad 16, iA G 8 so), (ad 17, iA G 8 (nIf zz)), (ad 18, iA G 800 el), (ad 0, iA G 57 r), (ad 1, iA G 57 r)] := hD
    refine lv_iconst (v := 0) hx hb dX4_judge_24 (by decide) ?_
    refine lv_istore_n (lv' := [(3, .int 0), (2, .int (sWR ke so (nI dn) (-1))), (0, .ref h), (1, .int (nI dn))]) hx hb dX4_judge_25 rfl hl (Nat.le_of_ble_eq_true rfl) rfl (fun ls hl => ?_)
    suffices hlp_4 : (∀ (n i : Nat), i + n = zz dn → ∀ (rm : Nat → Int32), ∀ (H : Heap) (locs : List Loc), PP G [(h, mO ad iv), (ad 0, iA G 57 r), (ad 13, iA G 8 ke), (ad 16, iA G 8 so), (ad 17, iA G 8 (nIf zz)), (ad 18, iA G 800 el), (ad 1, iA G 57 rm)] H → va_D A [(h, mO ad iv), (ad 0, iA G 57 r), (ad 13, iA G 8 ke), (ad 16, iA G 8 so), (ad 17, iA G 8 (nIf zz)), (ad 18, iA G 800 el), (ad 1, iA G 57 rm)] → va_S A s.heap H locs → (jdg N el (100 * dn) (sLeast (so dn)) (zz dn) r 0 = jdg N el (100 * dn) (sLeast (so dn)) (zz dn - i) rm i) → (rm 0 = nI N) → ∀ (ls : Array Slot), lv_has ls 7 [(3, .int (nI i)), (2, .int (sWR ke so (nI dn) (-1))), (0, .ref h), (1, .int (nI dn))] → W p0_ l e0_ ({ frames := 5, cells := 0, slots := 0, locals := 110 } : Room) s m args below meth c H locs (0) (0) (MQ below (va_Qi (S := va_W) (fun rv w1 => rv = sJudgeA r N ke so zz el (nI dn) ∧ ∃ g : Nat → Int32, w1 = [(h, mO ad iv), (ad 0, iA G 57 r), (ad 13, iA G 8 ke), (ad 16, iA G 8 so), (ad 17, iA G 8 (nIf zz)), (ad 18, iA G 800 el), (ad 1, iA G 57 g)]) (fun w1 t => PP G w1 t.heap ∧ va_D A w1) A) args s 0 0 A) (F0 m 26 ls [])) by
      have e8 := hz dn
      exact hlp_4 (zz dn) 0 (by omega) (r) _ _ (hP.sub [0, 5, 1, 2, 3, 4, 6] rfl) (hD.sub [0, 5, 1, 2, 3, 4, 6] (by decide) rfl) hS (rfl) (hr) ls (lv_sub hl [0, 1, 2, 3] rfl)
    have hend_4 : ∀ (rm : Nat → Int32), ∀ (H : Heap) (locs : List Loc), PP G [(h, mO ad iv), (ad 0, iA G 57 r), (ad 13, iA G 8 ke), (ad 16, iA G 8 so), (ad 17, iA G 8 (nIf zz)), (ad 18, iA G 800 el), (ad 1, iA G 57 rm)] H → va_D A [(h, mO ad iv), (ad 0, iA G 57 r), (ad 13, iA G 8 ke), (ad 16, iA G 8 so), (ad 17, iA G 8 (nIf zz)), (ad 18, iA G 800 el), (ad 1, iA G 57 rm)] → va_S A s.heap H locs → (jdg N el (100 * dn) (sLeast (so dn)) (zz dn) r 0 = jdg N el (100 * dn) (sLeast (so dn)) (zz dn - (zz dn)) rm (zz dn)) → (rm 0 = nI N) → ∀ (ls : Array Slot), lv_has ls 7 [(3, .int (nI (zz dn))), (2, .int (sWR ke so (nI dn) (-1))), (0, .ref h), (1, .int (nI dn))] → W p0_ l e0_ ({ frames := 5, cells := 0, slots := 0, locals := 110 } : Room) s m args below meth c H locs (0) (0) (MQ below (va_Qi (S := va_W) (fun rv w1 => rv = sJudgeA r N ke so zz el (nI dn) ∧ ∃ g : Nat → Int32, w1 = [(h, mO ad iv), (ad 0, iA G 57 r), (ad 13, iA G 8 ke), (ad 16, iA G 8 so), (ad 17, iA G 8 (nIf zz)), (ad 18, iA G 800 el), (ad 1, iA G 57 g)]) (fun w1 t => PP G w1 t.heap ∧ va_D A w1) A) args s 0 0 A) (F0 m 26 ls []) := by
      intro rm H locs hP hD hS hg h0 ls hl
      have e8 := hz dn
      refine lv_iload_n hx hb dX4_judge_26 rfl (lv_at hl 0 rfl) ?_
      refine lv_aload_n hx hb dX4_judge_27 rfl (lv_at hl 2 rfl) ?_
      refine va_get (D := gD G) (ci := 0) (v := .ref (ad 17)) (C := RX4) (T := TX4) (N := 20) hx hb hts in_X4 hown hK hP 0 rfl rfl 17 (by decide) (hts _ q1090) (fun _ h9 => h9) rfl dX4_judge_28 ?_
      refine lv_iload_n hx hb dX4_judge_31 rfl (lv_at hl 3 rfl) ?_
      refine n_iald C hK hP 4 dn rfl (by omega) (by omega) dX4_judge_32 ?_
      have hz_5 := hz dn
      refine n_ic_ge (x := (zz dn)) (y := zz dn) (tgt := 120) hx hb (by omega) (by omega) dX4_judge_33 (by decide) (fun c_6 => ?_) (fun c_6 => absurd c_6 (by omega))
      refine lv_bipush (v := (-4)) hx hb dX4_judge_120 (by decide) ?_
      exact n_iretW (v := (-4)) (w1 := [(h, mO ad iv), (ad 0, iA G 57 r), (ad 13, iA G 8 ke), (ad 16, iA G 8 so), (ad 17, iA G 8 (nIf zz)), (ad 18, iA G 800 el), (ad 1, iA G 57 rm)]) C (⟨by first | (simp [sJudgeA, c_1, t_dn, k1, k2, c_6]; done) | (simp [sJudgeA, c_1, t_dn, k1, k2, c_6, hg, jdg]; done) | (simp [sJudgeA, c_1, t_dn, k1, k2, c_6, hg, e9, jdg]; done), _, rfl⟩) hP hD hS (by first | omega | decide) (by first | omega | decide) dX4_judge_122
    intro n
    induction n with
    | zero =>
      intro i hi_4 rm H locs hP hD hS hg h0 ls hl
      obtain e_4 : i = zz dn := by omega
      first | (subst e_4; exact hend_4 rm H locs hP hD hS hg h0 ls hl) | (rw [e_4] at hl hP hD; exact hend_4 rm H locs hP hD hS hg h0 ls hl)
    | succ n ih_4 =>
      intro i hi_4 rm H locs hP hD hS hg h0 ls hl
      have e9 : zz dn - i = (zz dn - (i + 1)) + 1 := by omega
      have e8 := hz dn
      refine lv_iload_n hx hb dX4_judge_26 rfl (lv_at hl 0 rfl) ?_
      refine lv_aload_n hx hb dX4_judge_27 rfl (lv_at hl 2 rfl) ?_
      refine va_get (D := gD G) (ci := 0) (v := .ref (ad 17)) (C := RX4) (T := TX4) (N := 20) hx hb hts in_X4 hown hK hP 0 rfl rfl 17 (by decide) (hts _ q1090) (fun _ h9 => h9) rfl dX4_judge_28 ?_
      refine lv_iload_n hx hb dX4_judge_31 rfl (lv_at hl 3 rfl) ?_
      refine n_iald C hK hP 4 dn rfl (by omega) (by omega) dX4_judge_32 ?_
      have hz_7 := hz dn
      refine n_ic_ge (x := i) (y := zz dn) (tgt := 120) hx hb (by omega) (by omega) dX4_judge_33 (by decide) (fun c_8 => absurd c_8 (by omega)) (fun c_8 => ?_)
      refine lv_aload_n hx hb dX4_judge_36 rfl (lv_at hl 2 rfl) ?_
      refine va_get (D := gD G) (ci := 0) (v := .ref (ad 1)) (C := RX4) (T := TX4) (N := 20) hx hb hts in_X4 hown hK hP 0 rfl rfl 1 (by decide) (hts _ q1074) (fun _ h9 => h9) rfl dX4_judge_37 ?_
      refine c_S (rest := []) C (metX4_bestIn l G (ad 1) rm N (by omega) (h0)) 1 (lw_S q1253 q1254 q42 q1255) (by decide +kernel) ⟨rfl, rfl⟩ ⟨(Nat.le_of_ble_eq_true rfl), (Nat.le_of_ble_eq_true rfl)⟩ (KM_mv G) (hP.sub (ws' := [(ad 1, iA G 57 rm)]) [6] rfl) hK hl rfl rfl (Nat.le_of_ble_eq_true rfl) ⟨(Nat.le_of_ble_eq_true rfl), (Nat.le_of_ble_eq_true rfl)⟩ dX4_judge_40 ?_
      rcases ho_9 : sBestO rm N with _ | qo_9
      · have eo_9 : sBest rm N = -4 := by rw [sBest, ho_9]; rfl
        refine n_eqi eo_9 ?_
        refine lv_istore (lv' := [(4, .int (-4)), (3, .int (nI i)), (2, .int (sWR ke so (nI dn) (-1))), (0, .ref h), (1, .int (nI dn))]) hx hb dX4_judge_43 hl (Nat.le_of_ble_eq_true rfl) rfl (fun ls hl => ?_)
        refine lv_aload_n hx hb dX4_judge_45 rfl (lv_at hl 3 rfl) ?_
        refine va_get (D := gD G) (ci := 0) (v := .ref (ad 18)) (C := RX4) (T := TX4) (N := 20) hx hb hts in_X4 hown hK hP 0 rfl rfl 18 (by decide) (hts _ q1091) (fun _ h9 => h9) rfl dX4_judge_46 ?_
        refine lv_bipush (v := 100) hx hb dX4_judge_49 (by decide) ?_
        refine lv_iload_n hx hb dX4_judge_51 rfl (lv_at hl 4 rfl) ?_
        refine n_imul hx hb 100 dn dX4_judge_52 ?_
        refine lv_iload_n hx hb dX4_judge_53 rfl (lv_at hl 1 rfl) ?_
        refine n_iadd hx hb (100 * dn) i dX4_judge_54 ?_
        refine n_iald C hK hP 5 ((100 * dn) + i) rfl (by omega) (by omega) dX4_judge_55 ?_
        refine lv_istore (lv' := [(5, .int (el ((100 * dn) + i))), (4, .int (-4)), (3, .int (nI i)), (2, .int (sWR ke so (nI dn) (-1))), (0, .ref h), (1, .int (nI dn))]) hx hb dX4_judge_56 hl (Nat.le_of_ble_eq_true rfl) rfl (fun ls hl => ?_)
        refine lv_iload hx hb dX4_judge_58 (lv_at hl 1 rfl) ?_
        refine lv_if_ge (x := (-4)) (tgt := 67) hx hb dX4_judge_60 (by decide) (fun c_10 => absurd c_10 (by decide)) (fun c_10 => ?_)
        refine lv_iconst (v := 0) hx hb dX4_judge_63 (by decide) ?_
        refine lv_goto (tgt := 84) hx hb dX4_judge_64 (by decide) ?_
        refine lv_istore (lv' := [(6, .int 0), (5, .int (el ((100 * dn) + i))), (4, .int (-4)), (3, .int (nI i)), (2, .int (sWR ke so (nI dn) (-1))), (0, .ref h), (1, .int (nI dn))]) hx hb dX4_judge_84 hl (Nat.le_of_ble_eq_true rfl) rfl (fun ls hl => ?_)
        refine lv_iload hx hb dX4_judge_86 (lv_at hl 1 rfl) ?_
        refine lv_aload_n hx hb dX4_judge_88 rfl (lv_at hl 5 rfl) ?_
        refine va_get (D := gD G) (ci := 0) (v := .ref (ad 16)) (C := RX4) (T := TX4) (N := 20) hx hb hts in_X4 hown hK hP 0 rfl rfl 16 (by decide) (hts _ q1089) (fun _ h9 => h9) rfl dX4_judge_89 ?_
        refine lv_iload_n hx hb dX4_judge_92 rfl (lv_at hl 6 rfl) ?_
        refine n_iald C hK hP 3 dn rfl (by omega) (by omega) dX4_judge_93 ?_
        refine c_S (rest := [.int (el ((100 * dn) + i))]) C (metX4_leastOf l G (so dn)) 1 (lw_S q1373 q1374 q42 q1375) (by decide +kernel) ⟨rfl, rfl⟩ ⟨(Nat.le_of_ble_eq_true rfl), (Nat.le_of_ble_eq_true rfl)⟩ (KM_mv G) (hP.sub (ws' := []) [] rfl) hK hl rfl rfl (Nat.le_of_ble_eq_true rfl) ⟨(Nat.le_of_ble_eq_true rfl), (Nat.le_of_ble_eq_true rfl)⟩ dX4_judge_94 ?_
        refine lv_icmp_eq (x := el ((100 * dn) + i)) (y := sLeast (so dn)) (tgt := 114) hx hb dX4_judge_97 (by decide) (fun c_11 => ?_) (fun c_11 => ?_)
        · refine n_iinc (k := 3) (lv' := [(3, .int (nI (i + 1))), (6, .int 0), (5, .int (el ((100 * dn) + i))), (4, .int (-4)), (2, .int (sWR ke so (nI dn) (-1))), (0, .ref h), (1, .int (nI dn))]) hx hb i 1 dX4_judge_114 hl rfl (Nat.le_of_ble_eq_true rfl) rfl (fun ls hl => ?_)
          refine lv_goto (tgt := 26) hx hb dX4_judge_117 (by decide) ?_
          exact ih_4 (i + 1) (by omega) rm _ _ (by exact hP.sub [0, 1, 2, 3, 4, 5, 6] rfl) (by exact hD.sub [0, 1, 2, 3, 4, 5, 6] (by decide) rfl) hS (by rw [hg, e9]; simp [jdg, t_dn, c_8, ho_9, eo_9, c_10, c_11]) (by first | exact h0 | exact (sTurn_0 _ _ _).trans h0) ls (lv_sub hl [0, 4, 5, 6] rfl)
        · refine lv_iload hx hb dX4_judge_100 (lv_at hl 2 rfl) ?_
          refine lv_if_lt (x := (-4)) (tgt := 112) hx hb dX4_judge_102 (by decide) (fun c_12 => ?_) (fun c_12 => absurd c_12 (by decide))
          refine lv_iload_n hx hb dX4_judge_112 rfl (lv_at hl 3 rfl) ?_
          exact n_iretW (v := nI i) (w1 := [(h, mO ad iv), (ad 0, iA G 57 r), (ad 13, iA G 8 ke), (ad 16, iA G 8 so), (ad 17, iA G 8 (nIf zz)), (ad 18, iA G 800 el), (ad 1, iA G 57 rm)]) C (⟨by first | (simp [sJudgeA, c_1, t_dn, k1, k2, c_8, ho_9, eo_9, c_10, c_11, c_12]; done) | (simp [sJudgeA, c_1, t_dn, k1, k2, c_8, ho_9, eo_9, c_10, c_11, c_12, hg, jdg]; done) | (simp [sJudgeA, c_1, t_dn, k1, k2, c_8, ho_9, eo_9, c_10, c_11, c_12, hg, e9, jdg]; done), _, rfl⟩) hP hD hS (by first | omega | decide) (by first | omega | decide) dX4_judge_113
      · have eo_9 : sBest rm N = nI (10 * qo_9.1 + qo_9.2) := by rw [sBest, ho_9]; rfl
        have go_9 := sBestO_in ho_9
        have uo_9 : (10 * qo_9.1 + qo_9.2) / 10 = qo_9.1 := by omega
        have vo_9 : (10 * qo_9.1 + qo_9.2) % 10 = qo_9.2 := by omega
        refine n_eqi eo_9 ?_
        refine lv_istore (lv' := [(4, .int (nI (10 * qo_9.1 + qo_9.2))), (3, .int (nI i)), (2, .int (sWR ke so (nI dn) (-1))), (0, .ref h), (1, .int (nI dn))]) hx hb dX4_judge_43 hl (Nat.le_of_ble_eq_true rfl) rfl (fun ls hl => ?_)
        refine lv_aload_n hx hb dX4_judge_45 rfl (lv_at hl 3 rfl) ?_
        refine va_get (D := gD G) (ci := 0) (v := .ref (ad 18)) (C := RX4) (T := TX4) (N := 20) hx hb hts in_X4 hown hK hP 0 rfl rfl 18 (by decide) (hts _ q1091) (fun _ h9 => h9) rfl dX4_judge_46 ?_
        refine lv_bipush (v := 100) hx hb dX4_judge_49 (by decide) ?_
        refine lv_iload_n hx hb dX4_judge_51 rfl (lv_at hl 4 rfl) ?_
        refine n_imul hx hb 100 dn dX4_judge_52 ?_
        refine lv_iload_n hx hb dX4_judge_53 rfl (lv_at hl 1 rfl) ?_
        refine n_iadd hx hb (100 * dn) i dX4_judge_54 ?_
        refine n_iald C hK hP 5 ((100 * dn) + i) rfl (by omega) (by omega) dX4_judge_55 ?_
        refine lv_istore (lv' := [(5, .int (el ((100 * dn) + i))), (4, .int (nI (10 * qo_9.1 + qo_9.2))), (3, .int (nI i)), (2, .int (sWR ke so (nI dn) (-1))), (0, .ref h), (1, .int (nI dn))]) hx hb dX4_judge_56 hl (Nat.le_of_ble_eq_true rfl) rfl (fun ls hl => ?_)
        refine lv_iload hx hb dX4_judge_58 (lv_at hl 1 rfl) ?_
        refine n_if_ge (x := 10 * qo_9.1 + qo_9.2) (tgt := 67) hx hb (by omega) dX4_judge_60 (by decide) ?_
        refine lv_aload_n hx hb dX4_judge_67 rfl (lv_at hl 4 rfl) ?_
        refine va_get (D := gD G) (ci := 0) (v := .ref (ad 1)) (C := RX4) (T := TX4) (N := 20) hx hb hts in_X4 hown hK hP 0 rfl rfl 1 (by decide) (hts _ q1074) (fun _ h9 => h9) rfl dX4_judge_68 ?_
        refine lv_iload hx hb dX4_judge_71 (lv_at hl 1 rfl) ?_
        refine lv_bipush (v := 10) hx hb dX4_judge_73 (by decide) ?_
        refine n_idiv hx hb (10 * qo_9.1 + qo_9.2) 10 (by omega) (by omega) (by omega) dX4_judge_75 ?_
        refine n_eqi (congrArg nI (show (10 * qo_9.1 + qo_9.2) / 10 = qo_9.1 from uo_9)) ?_
        refine lv_iload hx hb dX4_judge_76 (lv_at hl 1 rfl) ?_
        refine lv_bipush (v := 10) hx hb dX4_judge_78 (by decide) ?_
        refine n_irem hx hb (10 * qo_9.1 + qo_9.2) 10 (by omega) (by omega) (by omega) dX4_judge_80 ?_
        refine n_eqi (congrArg nI (show (10 * qo_9.1 + qo_9.2) % 10 = qo_9.2 from vo_9)) ?_
        refine c_SW (wr := [(h, mO ad iv), (ad 0, iA G 57 r), (ad 13, iA G 8 ke), (ad 16, iA G 8 so), (ad 17, iA G 8 (nIf zz)), (ad 18, iA G 800 el)]) (rest := []) C (metX4_turn l G (ad 1) rm qo_9.1 qo_9.2 (by omega) (by omega)) 3 (lw_S q1183 q1184 q42 q1185) (by decide +kernel) ⟨rfl, rfl⟩ ⟨(Nat.le_of_ble_eq_true rfl), (Nat.le_of_ble_eq_true rfl)⟩ (KM_mv G) hK hA hP hD hS [6] [0, 1, 2, 3, 4, 5] rfl rfl rfl rfl (by decide) hl rfl rfl (Nat.le_of_ble_eq_true rfl) ⟨(Nat.le_of_ble_eq_true rfl), (Nat.le_of_ble_eq_true rfl)⟩ dX4_judge_81 (fun r_13 w1 H locs hq_14 hP hD hS => ?_)
        obtain ⟨rfl, rfl⟩ := hq_14
        have hP : PP G [(h, mO ad iv), (ad 0, iA G 57 r), (ad 13, iA G 8 ke), (ad 16, iA G 8 so), (ad 17, iA G 8 (nIf zz)), (ad 18, iA G 800 el), (ad 1, iA G 57 (sTurn rm qo_9.1 qo_9.2))] H := hP
        have hD : va_D A [(h, mO ad iv), (ad 0, iA G 57 r), (ad 13, iA G 8 ke), (ad 16, iA G 8 so), (ad 17, iA G 8 (nIf zz)), (ad 18, iA G 800 el), (ad 1, iA G 57 (sTurn rm qo_9.1 qo_9.2))] := hD
        refine lv_istore (lv' := [(6, .int (sJoy rm qo_9.1 qo_9.2)), (5, .int (el ((100 * dn) + i))), (4, .int (nI (10 * qo_9.1 + qo_9.2))), (3, .int (nI i)), (2, .int (sWR ke so (nI dn) (-1))), (0, .ref h), (1, .int (nI dn))]) hx hb dX4_judge_84 hl (Nat.le_of_ble_eq_true rfl) rfl (fun ls hl => ?_)
        refine lv_iload hx hb dX4_judge_86 (lv_at hl 1 rfl) ?_
        refine lv_aload_n hx hb dX4_judge_88 rfl (lv_at hl 5 rfl) ?_
        refine va_get (D := gD G) (ci := 0) (v := .ref (ad 16)) (C := RX4) (T := TX4) (N := 20) hx hb hts in_X4 hown hK hP 0 rfl rfl 16 (by decide) (hts _ q1089) (fun _ h9 => h9) rfl dX4_judge_89 ?_
        refine lv_iload_n hx hb dX4_judge_92 rfl (lv_at hl 6 rfl) ?_
        refine n_iald C hK hP 3 dn rfl (by omega) (by omega) dX4_judge_93 ?_
        refine c_S (rest := [.int (el ((100 * dn) + i))]) C (metX4_leastOf l G (so dn)) 1 (lw_S q1373 q1374 q42 q1375) (by decide +kernel) ⟨rfl, rfl⟩ ⟨(Nat.le_of_ble_eq_true rfl), (Nat.le_of_ble_eq_true rfl)⟩ (KM_mv G) (hP.sub (ws' := []) [] rfl) hK hl rfl rfl (Nat.le_of_ble_eq_true rfl) ⟨(Nat.le_of_ble_eq_true rfl), (Nat.le_of_ble_eq_true rfl)⟩ dX4_judge_94 ?_
        refine lv_icmp_eq (x := el ((100 * dn) + i)) (y := sLeast (so dn)) (tgt := 114) hx hb dX4_judge_97 (by decide) (fun c_15 => ?_) (fun c_15 => ?_)
        · refine n_iinc (k := 3) (lv' := [(3, .int (nI (i + 1))), (6, .int (sJoy rm qo_9.1 qo_9.2)), (5, .int (el ((100 * dn) + i))), (4, .int (nI (10 * qo_9.1 + qo_9.2))), (2, .int (sWR ke so (nI dn) (-1))), (0, .ref h), (1, .int (nI dn))]) hx hb i 1 dX4_judge_114 hl rfl (Nat.le_of_ble_eq_true rfl) rfl (fun ls hl => ?_)
          refine lv_goto (tgt := 26) hx hb dX4_judge_117 (by decide) ?_
          exact ih_4 (i + 1) (by omega) (sTurn rm qo_9.1 qo_9.2) _ _ (by exact hP.sub [0, 1, 2, 3, 4, 5, 6] rfl) (by exact hD.sub [0, 1, 2, 3, 4, 5, 6] (by decide) rfl) hS (by rw [hg, e9]; simp [jdg, t_dn, c_8, ho_9, eo_9, c_15]) (by first | exact h0 | exact (sTurn_0 _ _ _).trans h0) ls (lv_sub hl [0, 4, 5, 6] rfl)
        · refine lv_iload hx hb dX4_judge_100 (lv_at hl 2 rfl) ?_
          refine n_if_lt (x := 10 * qo_9.1 + qo_9.2) (tgt := 112) hx hb (by omega) dX4_judge_102 (by decide) ?_
          refine lv_iload hx hb dX4_judge_105 (lv_at hl 1 rfl) ?_
          refine lv_iload hx hb dX4_judge_107 (lv_at hl 0 rfl) ?_
          refine lv_icmp_eq (x := el ((100 * dn) + i)) (y := sJoy rm qo_9.1 qo_9.2) (tgt := 114) hx hb dX4_judge_109 (by decide) (fun c_16 => ?_) (fun c_16 => ?_)
          · refine n_iinc (k := 3) (lv' := [(3, .int (nI (i + 1))), (6, .int (sJoy rm qo_9.1 qo_9.2)), (5, .int (el ((100 * dn) + i))), (4, .int (nI (10 * qo_9.1 + qo_9.2))), (2, .int (sWR ke so (nI dn) (-1))), (0, .ref h), (1, .int (nI dn))]) hx hb i 1 dX4_judge_114 hl rfl (Nat.le_of_ble_eq_true rfl) rfl (fun ls hl => ?_)
            refine lv_goto (tgt := 26) hx hb dX4_judge_117 (by decide) ?_
            exact ih_4 (i + 1) (by omega) (sTurn rm qo_9.1 qo_9.2) _ _ (by exact hP.sub [0, 1, 2, 3, 4, 5, 6] rfl) (by exact hD.sub [0, 1, 2, 3, 4, 5, 6] (by decide) rfl) hS (by rw [hg, e9]; simp [jdg, t_dn, c_8, ho_9, eo_9, c_15, c_16]) (by first | exact h0 | exact (sTurn_0 _ _ _).trans h0) ls (lv_sub hl [0, 4, 5, 6] rfl)
          · refine lv_iload_n hx hb dX4_judge_112 rfl (lv_at hl 3 rfl) ?_
            exact n_iretW (v := nI i) (w1 := [(h, mO ad iv), (ad 0, iA G 57 r), (ad 13, iA G 8 ke), (ad 16, iA G 8 so), (ad 17, iA G 8 (nIf zz)), (ad 18, iA G 800 el), (ad 1, iA G 57 (sTurn rm qo_9.1 qo_9.2))]) C (⟨by first | (simp [sJudgeA, c_1, t_dn, k1, k2, c_8, ho_9, eo_9, c_15, c_16]; done) | (simp [sJudgeA, c_1, t_dn, k1, k2, c_8, ho_9, eo_9, c_15, c_16, hg, jdg]; done) | (simp [sJudgeA, c_1, t_dn, k1, k2, c_8, ho_9, eo_9, c_15, c_16, hg, e9, jdg]; done), _, rfl⟩) hP hD hS (by first | omega | decide) (by first | omega | decide) dX4_judge_113
  · refine lv_iload_n hx hb dX4_judge_11 rfl (lv_at hl 0 rfl) ?_
    exact n_iretW (v := sWR ke so d (-1)) (w1 := [(h, mO ad iv), (ad 0, iA G 57 r), (ad 13, iA G 8 ke), (ad 16, iA G 8 so), (ad 17, iA G 8 (nIf zz)), (ad 18, iA G 800 el), (ad 1, iA G 57 rm)]) C (⟨by first | (simp [sJudgeA, c_1]; done) | (simp [sJudgeA, c_1, hg, jdg]; done) | (simp [sJudgeA, c_1, hg, e9, jdg]; done), _, rfl⟩) hP hD hS (by first | omega | decide) (by first | omega | decide) dX4_judge_12

set_option maxHeartbeats 4000000 in
set_option maxRecDepth 100000 in
theorem metX4_fetes (l : Launch) (G : GG) (h : Nat) (ad : Nat → Nat) (iv : Nat → Int32) (r : Nat → Int32) (N : Nat) (rm : Nat → Int32) (z0 u z what : Int32) (hN : N ≤ 9) (hr : r 0 = nI N) : MW l yX4_fetes cX4_fetes 10 (some .int) ({ frames := 5, cells := 0, slots := 0, locals := 109 }) [.ref h, .int u, .int z, .int what] [(h, mO ad (upd iv 12 z0)), (ad 0, iA G 57 r), (ad 1, iA G 57 rm)] G (KM G) 0 0 (fun rv w1 => rv = sFetesA r N u z what ∧ ∃ (g : Nat → Int32) (z9 : Int32), w1 = [(h, mO ad (upd iv 12 z9)), (ad 0, iA G 57 r), (ad 1, iA G 57 g)]) := by
  -- rows printed by wip/tools/gen.py
  refine mw_mk RX4 (by decide) rfl (Nat.le_of_ble_eq_true rfl) ?_
  intro p0_ e0_ s m args below meth c A C hA hP hK hD ls hl
  have hx := C.1
  have hb := C.2.1
  have hml := C.2.2.2.2.1
  have hown := C.2.2.2.2.2.1
  have hts := C.2.2.2.2.2.2
  have hS : va_S A s.heap s.heap [] := va_S.rf
  have hl : lv_has ls 10 [(0, .ref h), (1, .int u), (2, .int z), (3, .int what)] := hl
  refine lv_iload_n hx hb dX4_fetes_0 rfl (lv_at hl 1 rfl) ?_
  refine lv_iconst (v := 1) hx hb dX4_fetes_1 (by decide) ?_
  refine lv_bipush (v := 20) hx hb dX4_fetes_2 (by decide) ?_
  refine c_S (rest := []) C (metX4_isIn l G u 1 20) 3 (lw_S q1145 q1146 q42 q1147) (by decide +kernel) ⟨rfl, rfl⟩ ⟨(Nat.le_of_ble_eq_true rfl), (Nat.le_of_ble_eq_true rfl)⟩ (KM_mv G) (hP.sub (ws' := []) [] rfl) hK hl rfl rfl (Nat.le_of_ble_eq_true rfl) ⟨(Nat.le_of_ble_eq_true rfl), (Nat.le_of_ble_eq_true rfl)⟩ dX4_fetes_4 ?_
  refine n_if_eqB (b := (sIn u 1 20)) (tgt := 19) hx hb dX4_fetes_7 (by decide) (fun c_1 => ?_) (fun c_1 => ?_)
  · refine lv_iconst (v := (-1)) hx hb dX4_fetes_19 (by decide) ?_
    exact n_iretW (v := (-1)) (w1 := [(h, mO ad (upd iv 12 z0)), (ad 0, iA G 57 r), (ad 1, iA G 57 rm)]) C (⟨by simp [sFetesA, c_1], _, _, rfl⟩) hP hD hS (by first | omega | decide) (by first | omega | decide) dX4_fetes_20
  · obtain ⟨u_2, hu_2, gu_2, rfl⟩ := sIn_t (a := 1) (b := 20) (by omega) (by omega) c_1
    have tu_2 : tn (nI u_2) = u_2 := nI_clamp (by omega)
    refine lv_iload_n hx hb dX4_fetes_10 rfl (lv_at hl 3 rfl) ?_
    refine lv_iconst (v := 0) hx hb dX4_fetes_11 (by decide) ?_
    refine lv_iconst (v := 1) hx hb dX4_fetes_12 (by decide) ?_
    refine c_S (rest := []) C (metX4_isIn l G what 0 1) 3 (lw_S q1145 q1146 q42 q1147) (by decide +kernel) ⟨rfl, rfl⟩ ⟨(Nat.le_of_ble_eq_true rfl), (Nat.le_of_ble_eq_true rfl)⟩ (KM_mv G) (hP.sub (ws' := []) [] rfl) hK hl rfl rfl (Nat.le_of_ble_eq_true rfl) ⟨(Nat.le_of_ble_eq_true rfl), (Nat.le_of_ble_eq_true rfl)⟩ dX4_fetes_13 ?_
    refine n_if_neB (b := (sIn what 0 1)) (tgt := 21) hx hb dX4_fetes_16 (by decide) (fun c_3 => ?_) (fun c_3 => ?_)
    · obtain ⟨what_4, hwhat_4, gwhat_4, rfl⟩ := sIn_t (a := 0) (b := 1) (by omega) (by omega) c_3
      have twhat_4 : tn (nI what_4) = what_4 := nI_clamp (by omega)
      refine lv_aload_n hx hb dX4_fetes_21 rfl (lv_at hl 0 rfl) ?_
      refine va_get (D := gD G) (ci := 0) (v := .ref (ad 0)) (C := RX4) (T := TX4) (N := 20) hx hb hts in_X4 hown hK hP 0 rfl rfl 0 (by decide) (hts _ q1073) (fun _ h9 => h9) rfl dX4_fetes_22 ?_
      refine lv_iconst (v := 0) hx hb dX4_fetes_25 (by decide) ?_
      refine n_iald C hK hP 1 0 rfl (by omega) (by omega) dX4_fetes_26 ?_
      refine n_eqi (hr) ?_
      refine n_if_ne (x := N) (tgt := 33) hx hb (by omega) dX4_fetes_27 (by decide) (fun c_5 => ?_) (fun c_5 => ?_)
      · have zc_5 : ¬ nI N = 0 := nI_ne0 c_5 (by omega)
        have yc_5 : ¬ N = 0 := Nat.ne_of_gt c_5
        refine lv_aload_n hx hb dX4_fetes_33 rfl (lv_at hl 0 rfl) ?_
        refine lv_iload_n hx hb dX4_fetes_34 rfl (lv_at hl 2 rfl) ?_
        refine va_put (D := gD G) (ci := 0) (v := .int z) (ty := .int) (C := RX4) (T := TX4) (N := 20) hx hb hts in_X4 tyX4 tyX4_ok nmX4 hown hK hP hD hS 0 rfl rfl 12 (by decide) (hts _ q1085) (fun _ h9 => h9) rfl (by decide +kernel) rfl rfl (Nat.le_of_ble_eq_true rfl) dX4_fetes_35 (fun H locs hP hD hS => ?_)
        have hP : PP G [(h, mO ad (upd iv 12 z)), (ad 0, iA G 57 r), (ad 1, iA G 57 rm)] H := hP
        have hD : va_D A [(h, mO ad (upd iv 12 z)), (ad 0, iA G 57 r), (ad 1, iA G 57 rm)] := hD
        refine lv_iconst (v := 0) hx hb dX4_fetes_38 (by decide) ?_
        refine lv_istore (lv' := [(4, .int 0), (0, .ref h), (1, .int (nI u_2)), (2, .int z), (3, .int (nI what_4))]) hx hb dX4_fetes_39 hl (Nat.le_of_ble_eq_true rfl) rfl (fun ls hl => ?_)
        refine lv_iconst (v := 0) hx hb dX4_fetes_41 (by decide) ?_
        refine lv_istore (lv' := [(5, .int 0), (4, .int 0), (0, .ref h), (1, .int (nI u_2)), (2, .int z), (3, .int (nI what_4))]) hx hb dX4_fetes_42 hl (Nat.le_of_ble_eq_true rfl) rfl (fun ls hl => ?_)
        refine lv_iconst (v := 0) hx hb dX4_fetes_44 (by decide) ?_
        refine lv_istore (lv' := [(6, .int 0), (5, .int 0), (4, .int 0), (0, .ref h), (1, .int (nI u_2)), (2, .int z), (3, .int (nI what_4))]) hx hb dX4_fetes_45 hl (Nat.le_of_ble_eq_true rfl) rfl (fun ls hl => ?_)
        suffices hlp_6 : (∀ (n i : Nat), i + n = u_2 → ∀ (rm : Nat → Int32), ∀ (H : Heap) (locs : List Loc), PP G [(h, mO ad (upd iv 12 ((ftO r N z i).1))), (ad 0, iA G 57 r), (ad 1, iA G 57 rm)] H → va_D A [(h, mO ad (upd iv 12 ((ftO r N z i).1))), (ad 0, iA G 57 r), (ad 1, iA G 57 rm)] → va_S A s.heap H locs → ∀ (ls : Array Slot), lv_has ls 10 [(6, .int (nI i)), (5, .int (nI ((ftO r N z i).2.2))), (4, .int ((ftO r N z i).2.1)), (0, .ref h), (1, .int (nI u_2)), (2, .int z), (3, .int (nI what_4))] → W p0_ l e0_ ({ frames := 5, cells := 0, slots := 0, locals := 109 } : Room) s m args below meth c H locs (0) (0) (MQ below (va_Qi (S := va_W) (fun rv w1 => rv = sFetesA r N (nI u_2) z (nI what_4) ∧ ∃ (g : Nat → Int32) (z9 : Int32), w1 = [(h, mO ad (upd iv 12 z9)), (ad 0, iA G 57 r), (ad 1, iA G 57 g)]) (fun w1 t => PP G w1 t.heap ∧ va_D A w1) A) args s 0 0 A) (F0 m 47 ls [])) by
          exact hlp_6 (u_2) 0 (by omega) (rm) _ _ (hP.sub [0, 1, 2] rfl) (hD.sub [0, 1, 2] (by decide) rfl) hS ls (lv_sub hl [0, 1, 2, 3, 4, 5, 6] rfl)
        have hend_6 : ∀ (rm : Nat → Int32), ∀ (H : Heap) (locs : List Loc), PP G [(h, mO ad (upd iv 12 ((ftO r N z u_2).1))), (ad 0, iA G 57 r), (ad 1, iA G 57 rm)] H → va_D A [(h, mO ad (upd iv 12 ((ftO r N z u_2).1))), (ad 0, iA G 57 r), (ad 1, iA G 57 rm)] → va_S A s.heap H locs → ∀ (ls : Array Slot), lv_has ls 10 [(6, .int (nI u_2)), (5, .int (nI ((ftO r N z u_2).2.2))), (4, .int ((ftO r N z u_2).2.1)), (0, .ref h), (1, .int (nI u_2)), (2, .int z), (3, .int (nI what_4))] → W p0_ l e0_ ({ frames := 5, cells := 0, slots := 0, locals := 109 } : Room) s m args below meth c H locs (0) (0) (MQ below (va_Qi (S := va_W) (fun rv w1 => rv = sFetesA r N (nI u_2) z (nI what_4) ∧ ∃ (g : Nat → Int32) (z9 : Int32), w1 = [(h, mO ad (upd iv 12 z9)), (ad 0, iA G 57 r), (ad 1, iA G 57 g)]) (fun w1 t => PP G w1 t.heap ∧ va_D A w1) A) args s 0 0 A) (F0 m 47 ls []) := by
          intro rm H locs hP hD hS ls hl
          have f1 := ftO_k r N z u_2
          refine lv_iload hx hb dX4_fetes_47 (lv_at hl 0 rfl) ?_
          refine lv_iload_n hx hb dX4_fetes_49 rfl (lv_at hl 4 rfl) ?_
          refine n_ic_ge (x := u_2) (y := u_2) (tgt := 146) hx hb (by omega) (by omega) dX4_fetes_50 (by decide) (fun c_7 => ?_) (fun c_7 => absurd c_7 (by omega))
          refine lv_iload_n hx hb dX4_fetes_146 rfl (lv_at hl 6 rfl) ?_
          refine n_if_ne (x := what_4) (tgt := 155) hx hb (by omega) dX4_fetes_147 (by decide) (fun c_8 => ?_) (fun c_8 => ?_)
          · have zc_8 : ¬ nI what_4 = 0 := nI_ne0 c_8 (by omega)
            have yc_8 : ¬ what_4 = 0 := Nat.ne_of_gt c_8
            refine lv_iload hx hb dX4_fetes_155 (lv_at hl 1 rfl) ?_
            exact n_iretW (v := nI ((ftO r N z u_2).2.2)) (w1 := [(h, mO ad (upd iv 12 ((ftO r N z u_2).1))), (ad 0, iA G 57 r), (ad 1, iA G 57 rm)]) C (⟨by simp [sFetesA, c_1, tu_2, c_3, twhat_4, c_5, yc_5, zc_5, c_7, c_8, yc_8, zc_8], _, _, rfl⟩) hP hD hS (by first | omega | decide) (by first | omega | decide) dX4_fetes_157
          · obtain rfl := c_8
            have zc_8 : (nI 0 = 0) = True := eq_true rfl
            refine lv_iload hx hb dX4_fetes_150 (lv_at hl 2 rfl) ?_
            refine lv_goto (tgt := 157) hx hb dX4_fetes_152 (by decide) ?_
            exact n_iretW (v := (ftO r N z u_2).2.1) (w1 := [(h, mO ad (upd iv 12 ((ftO r N z u_2).1))), (ad 0, iA G 57 r), (ad 1, iA G 57 rm)]) C (⟨by simp [sFetesA, c_1, tu_2, c_3, twhat_4, c_5, yc_5, zc_5, c_7, zc_8], _, _, rfl⟩) hP hD hS (by first | omega | decide) (by first | omega | decide) dX4_fetes_157
        intro n
        induction n with
        | zero =>
          intro i hi_6 rm H locs hP hD hS ls hl
          obtain e_6 : i = u_2 := by omega
          first | (subst e_6; exact hend_6 rm H locs hP hD hS ls hl) | (rw [e_6] at hl hP hD; exact hend_6 rm H locs hP hD hS ls hl)
        | succ n ih_6 =>
          intro i hi_6 rm H locs hP hD hS ls hl
          have f1 := ftO_k r N z i
          refine lv_iload hx hb dX4_fetes_47 (lv_at hl 0 rfl) ?_
          refine lv_iload_n hx hb dX4_fetes_49 rfl (lv_at hl 4 rfl) ?_
          refine n_ic_ge (x := i) (y := u_2) (tgt := 146) hx hb (by omega) (by omega) dX4_fetes_50 (by decide) (fun c_9 => absurd c_9 (by omega)) (fun c_9 => ?_)
          refine lv_aload_n hx hb dX4_fetes_53 rfl (lv_at hl 3 rfl) ?_
          refine va_get (D := gD G) (ci := 0) (v := .ref (ad 0)) (C := RX4) (T := TX4) (N := 20) hx hb hts in_X4 hown hK hP 0 rfl rfl 0 (by decide) (hts _ q1073) (fun _ h9 => h9) rfl dX4_fetes_54 ?_
          refine lv_aload_n hx hb dX4_fetes_57 rfl (lv_at hl 3 rfl) ?_
          refine va_get (D := gD G) (ci := 0) (v := .ref (ad 1)) (C := RX4) (T := TX4) (N := 20) hx hb hts in_X4 hown hK hP 0 rfl rfl 1 (by decide) (hts _ q1074) (fun _ h9 => h9) rfl dX4_fetes_58 ?_
          refine c_SWv (wr := [(h, mO ad (upd iv 12 ((ftO r N z i).1)))]) (rest := []) C (metX4_copies l G (ad 0) (ad 1) r rm) 2 (lw_S q1160 q1161 q42 q1162) (by decide +kernel) ⟨rfl, rfl⟩ ⟨(Nat.le_of_ble_eq_true rfl), (Nat.le_of_ble_eq_true rfl)⟩ (KM_mv G) hK hA hP hD hS [1, 2] [0] rfl rfl rfl rfl (by decide) hl rfl rfl (Nat.le_of_ble_eq_true rfl) ⟨(Nat.le_of_ble_eq_true rfl), (Nat.le_of_ble_eq_true rfl)⟩ dX4_fetes_61 (fun w1 H locs hq_11 hP hD hS => ?_)
          obtain rfl := hq_11
          have hP : PP G [(h, mO ad (upd iv 12 ((ftO r N z i).1))), (ad 0, iA G 57 r), (ad 1, iA G 57 r)] H := hP
          have hD : va_D A [(h, mO ad (upd iv 12 ((ftO r N z i).1))), (ad 0, iA G 57 r), (ad 1, iA G 57 r)] := hD
          refine lv_iconst (v := 0) hx hb dX4_fetes_64 (by decide) ?_
          refine lv_istore (lv' := [(7, .int 0), (6, .int (nI i)), (5, .int (nI ((ftO r N z i).2.2))), (4, .int ((ftO r N z i).2.1)), (0, .ref h), (1, .int (nI u_2)), (2, .int z), (3, .int (nI what_4))]) hx hb dX4_fetes_65 hl (Nat.le_of_ble_eq_true rfl) rfl (fun ls hl => ?_)
          suffices hlp_12 : (∀ (n j : Nat), j + n = 10 → ∀ (H : Heap) (locs : List Loc), PP G [(h, mO ad (upd iv 12 ((ftI N (r, ftO r N z i) j).2.1))), (ad 0, iA G 57 r), (ad 1, iA G 57 ((ftI N (r, ftO r N z i) j).1))] H → va_D A [(h, mO ad (upd iv 12 ((ftI N (r, ftO r N z i) j).2.1))), (ad 0, iA G 57 r), (ad 1, iA G 57 ((ftI N (r, ftO r N z i) j).1))] → va_S A s.heap H locs → ∀ (ls : Array Slot), lv_has ls 10 [(7, .int (nI j)), (6, .int (nI i)), (5, .int (nI ((ftI N (r, ftO r N z i) j).2.2.2))), (4, .int ((ftI N (r, ftO r N z i) j).2.2.1)), (0, .ref h), (1, .int (nI u_2)), (2, .int z), (3, .int (nI what_4))] → W p0_ l e0_ ({ frames := 5, cells := 0, slots := 0, locals := 109 } : Room) s m args below meth c H locs (0) (0) (MQ below (va_Qi (S := va_W) (fun rv w1 => rv = sFetesA r N (nI u_2) z (nI what_4) ∧ ∃ (g : Nat → Int32) (z9 : Int32), w1 = [(h, mO ad (upd iv 12 z9)), (ad 0, iA G 57 r), (ad 1, iA G 57 g)]) (fun w1 t => PP G w1 t.heap ∧ va_D A w1) A) args s 0 0 A) (F0 m 67 ls [])) by
            exact hlp_12 (10) 0 (by omega) _ _ (hP.sub [0, 1, 2] rfl) (hD.sub [0, 1, 2] (by decide) rfl) hS ls (lv_sub hl [0, 1, 2, 3, 4, 5, 6, 7] rfl)
          have hend_12 : ∀ (H : Heap) (locs : List Loc), PP G [(h, mO ad (upd iv 12 ((ftI N (r, ftO r N z i) 10).2.1))), (ad 0, iA G 57 r), (ad 1, iA G 57 ((ftI N (r, ftO r N z i) 10).1))] H → va_D A [(h, mO ad (upd iv 12 ((ftI N (r, ftO r N z i) 10).2.1))), (ad 0, iA G 57 r), (ad 1, iA G 57 ((ftI N (r, ftO r N z i) 10).1))] → va_S A s.heap H locs → ∀ (ls : Array Slot), lv_has ls 10 [(7, .int (nI 10)), (6, .int (nI i)), (5, .int (nI ((ftI N (r, ftO r N z i) 10).2.2.2))), (4, .int ((ftI N (r, ftO r N z i) 10).2.2.1)), (0, .ref h), (1, .int (nI u_2)), (2, .int z), (3, .int (nI what_4))] → W p0_ l e0_ ({ frames := 5, cells := 0, slots := 0, locals := 109 } : Room) s m args below meth c H locs (0) (0) (MQ below (va_Qi (S := va_W) (fun rv w1 => rv = sFetesA r N (nI u_2) z (nI what_4) ∧ ∃ (g : Nat → Int32) (z9 : Int32), w1 = [(h, mO ad (upd iv 12 z9)), (ad 0, iA G 57 r), (ad 1, iA G 57 g)]) (fun w1 t => PP G w1 t.heap ∧ va_D A w1) A) args s 0 0 A) (F0 m 67 ls []) := by
            intro H locs hP hD hS ls hl
            have f2 := ftI_k N (r, ftO r N z i) 10
            simp only at f2
            refine lv_iload hx hb dX4_fetes_67 (lv_at hl 0 rfl) ?_
            refine lv_bipush (v := 10) hx hb dX4_fetes_69 (by decide) ?_
            refine n_ic_ge (x := 10) (y := 10) (tgt := 140) hx hb (by omega) (by omega) dX4_fetes_71 (by decide) (fun c_13 => ?_) (fun c_13 => absurd c_13 (by omega))
            refine n_iinc (k := 1) (lv' := [(6, .int (nI (i + 1))), (7, .int (nI 10)), (5, .int (nI ((ftI N (r, ftO r N z i) 10).2.2.2))), (4, .int ((ftI N (r, ftO r N z i) 10).2.2.1)), (0, .ref h), (1, .int (nI u_2)), (2, .int z), (3, .int (nI what_4))]) hx hb i 1 dX4_fetes_140 hl rfl (Nat.le_of_ble_eq_true rfl) rfl (fun ls hl => ?_)
            refine lv_goto (tgt := 47) hx hb dX4_fetes_143 (by decide) ?_
            have e_14 : (ftO r N z (i + 1)).2.2 = (ftI N (r, ftO r N z i) 10).2.2.2 := by rw [ftO]
            have e_15 : (ftO r N z (i + 1)).2.1 = (ftI N (r, ftO r N z i) 10).2.2.1 := by rw [ftO]
            have e_16 : (mO ad (upd iv 12 ((ftO r N z (i + 1)).1)) : va_E) = mO ad (upd iv 12 ((ftI N (r, ftO r N z i) 10).2.1)) := by rw [ftO]
            exact ih_6 (i + 1) (by omega) ((ftI N (r, ftO r N z i) 10).1) _ _ (by rw [e_16]; exact hP.sub [0, 1, 2] rfl) (by rw [e_16]; exact hD.sub [0, 1, 2] (by decide) rfl) hS ls (by rw [e_14, e_15]; exact lv_sub hl [0, 2, 3, 4, 5, 6, 7] rfl)
          intro n
          induction n with
          | zero =>
            intro j hi_12 H locs hP hD hS ls hl
            obtain e_12 : j = 10 := by omega
            first | (subst e_12; exact hend_12 H locs hP hD hS ls hl) | (rw [e_12] at hl hP hD; exact hend_12 H locs hP hD hS ls hl)
          | succ n ih_12 =>
            intro j hi_12 H locs hP hD hS ls hl
            have f2 := ftI_k N (r, ftO r N z i) j
            simp only at f2
            have f3 : sRnd (ftI N (r, ftO r N z i) j).2.1 N < N := sRnd_lt _ (by omega)
            have f4 : sRnd (sDraw (ftI N (r, ftO r N z i) j).2.1) N < N := sRnd_lt _ (by omega)
            refine lv_iload hx hb dX4_fetes_67 (lv_at hl 0 rfl) ?_
            refine lv_bipush (v := 10) hx hb dX4_fetes_69 (by decide) ?_
            refine n_ic_ge (x := j) (y := 10) (tgt := 140) hx hb (by omega) (by omega) dX4_fetes_71 (by decide) (fun c_17 => absurd c_17 (by omega)) (fun c_17 => ?_)
            refine lv_aload_n hx hb dX4_fetes_74 rfl (lv_at hl 4 rfl) ?_
            refine lv_aload_n hx hb dX4_fetes_75 rfl (lv_at hl 4 rfl) ?_
            refine va_get (D := gD G) (ci := 0) (v := .ref (ad 0)) (C := RX4) (T := TX4) (N := 20) hx hb hts in_X4 hown hK hP 0 rfl rfl 0 (by decide) (hts _ q1073) (fun _ h9 => h9) rfl dX4_fetes_76 ?_
            refine lv_iconst (v := 0) hx hb dX4_fetes_79 (by decide) ?_
            refine n_iald C hK hP 1 0 rfl (by omega) (by omega) dX4_fetes_80 ?_
            refine n_eqi (hr) ?_
            refine c_VW (wr := [(ad 0, iA G 57 r), (ad 1, iA G 57 ((ftI N (r, ftO r N z i) j).1))]) (rest := []) C (metX4_drawn l G h ad iv ((ftI N (r, ftO r N z i) j).2.1) N (by omega)) 1 (lw_V q1381 q1383 qs37 q42 q1384) (by decide +kernel) ⟨rfl, rfl⟩ ⟨(Nat.le_of_ble_eq_true rfl), (Nat.le_of_ble_eq_true rfl)⟩ (KM_mv G) hK (va_recv hK hP (ci := 0) (q0 := 0) rfl rfl) hA hP hD hS [0] [1, 2] rfl rfl rfl rfl (by decide) hl rfl rfl (Nat.le_of_ble_eq_true rfl) ⟨(Nat.le_of_ble_eq_true rfl), (Nat.le_of_ble_eq_true rfl)⟩ dX4_fetes_81 (fun r_18 w1 H locs hq_19 hP hD hS => ?_)
            obtain ⟨rfl, rfl⟩ := hq_19
            have hP : PP G [(ad 0, iA G 57 r), (ad 1, iA G 57 ((ftI N (r, ftO r N z i) j).1)), (h, mO ad (upd iv 12 (sDraw ((ftI N (r, ftO r N z i) j).2.1))))] H := hP
            have hD : va_D A [(ad 0, iA G 57 r), (ad 1, iA G 57 ((ftI N (r, ftO r N z i) j).1)), (h, mO ad (upd iv 12 (sDraw ((ftI N (r, ftO r N z i) j).2.1))))] := hD
            refine lv_istore (lv' := [(8, .int (nI (sRnd ((ftI N (r, ftO r N z i) j).2.1) N))), (7, .int (nI j)), (6, .int (nI i)), (5, .int (nI ((ftI N (r, ftO r N z i) j).2.2.2))), (4, .int ((ftI N (r, ftO r N z i) j).2.2.1)), (0, .ref h), (1, .int (nI u_2)), (2, .int z), (3, .int (nI what_4))]) hx hb dX4_fetes_84 hl (Nat.le_of_ble_eq_true rfl) rfl (fun ls hl => ?_)
            refine lv_aload_n hx hb dX4_fetes_86 rfl (lv_at hl 5 rfl) ?_
            refine lv_aload_n hx hb dX4_fetes_87 rfl (lv_at hl 5 rfl) ?_
            refine va_get (D := gD G) (ci := 0) (v := .ref (ad 0)) (C := RX4) (T := TX4) (N := 20) hx hb hts in_X4 hown hK hP 2 rfl rfl 0 (by decide) (hts _ q1073) (fun _ h9 => h9) rfl dX4_fetes_88 ?_
            refine lv_iconst (v := 0) hx hb dX4_fetes_91 (by decide) ?_
            refine n_iald C hK hP 0 0 rfl (by omega) (by omega) dX4_fetes_92 ?_
            refine n_eqi (hr) ?_
            refine c_VW (wr := [(ad 0, iA G 57 r), (ad 1, iA G 57 ((ftI N (r, ftO r N z i) j).1))]) (rest := []) C (metX4_drawn l G h ad iv (sDraw ((ftI N (r, ftO r N z i) j).2.1)) N (by omega)) 1 (lw_V q1381 q1383 qs37 q42 q1384) (by decide +kernel) ⟨rfl, rfl⟩ ⟨(Nat.le_of_ble_eq_true rfl), (Nat.le_of_ble_eq_true rfl)⟩ (KM_mv G) hK (va_recv hK hP (ci := 0) (q0 := 2) rfl rfl) hA hP hD hS [2] [0, 1] rfl rfl rfl rfl (by decide) hl rfl rfl (Nat.le_of_ble_eq_true rfl) ⟨(Nat.le_of_ble_eq_true rfl), (Nat.le_of_ble_eq_true rfl)⟩ dX4_fetes_93 (fun r_20 w1 H locs hq_21 hP hD hS => ?_)
            obtain ⟨rfl, rfl⟩ := hq_21
            have hP : PP G [(ad 0, iA G 57 r), (ad 1, iA G 57 ((ftI N (r, ftO r N z i) j).1)), (h, mO ad (upd iv 12 (sDraw (sDraw ((ftI N (r, ftO r N z i) j).2.1)))))] H := hP
            have hD : va_D A [(ad 0, iA G 57 r), (ad 1, iA G 57 ((ftI N (r, ftO r N z i) j).1)), (h, mO ad (upd iv 12 (sDraw (sDraw ((ftI N (r, ftO r N z i) j).2.1)))))] := hD
            refine lv_istore (lv' := [(9, .int (nI (sRnd (sDraw ((ftI N (r, ftO r N z i) j).2.1)) N))), (8, .int (nI (sRnd ((ftI N (r, ftO r N z i) j).2.1) N))), (7, .int (nI j)), (6, .int (nI i)), (5, .int (nI ((ftI N (r, ftO r N z i) j).2.2.2))), (4, .int ((ftI N (r, ftO r N z i) j).2.2.1)), (0, .ref h), (1, .int (nI u_2)), (2, .int z), (3, .int (nI what_4))]) hx hb dX4_fetes_96 hl (Nat.le_of_ble_eq_true rfl) rfl (fun ls hl => ?_)
            refine lv_aload_n hx hb dX4_fetes_98 rfl (lv_at hl 6 rfl) ?_
            refine va_get (D := gD G) (ci := 0) (v := .ref (ad 1)) (C := RX4) (T := TX4) (N := 20) hx hb hts in_X4 hown hK hP 2 rfl rfl 1 (by decide) (hts _ q1074) (fun _ h9 => h9) rfl dX4_fetes_99 ?_
            refine lv_iload hx hb dX4_fetes_102 (lv_at hl 1 rfl) ?_
            refine lv_iload hx hb dX4_fetes_104 (lv_at hl 0 rfl) ?_
            refine c_S (rest := []) C (metX4_canEat l G (ad 1) ((ftI N (r, ftO r N z i) j).1) (sRnd ((ftI N (r, ftO r N z i) j).2.1) N) (sRnd (sDraw ((ftI N (r, ftO r N z i) j).2.1)) N) (by omega) (by omega)) 3 (lw_S q1177 q1178 q42 q1179) (by decide +kernel) ⟨rfl, rfl⟩ ⟨(Nat.le_of_ble_eq_true rfl), (Nat.le_of_ble_eq_true rfl)⟩ (KM_mv G) (hP.sub (ws' := [(ad 1, iA G 57 ((ftI N (r, ftO r N z i) j).1))]) [1] rfl) hK hl rfl rfl (Nat.le_of_ble_eq_true rfl) ⟨(Nat.le_of_ble_eq_true rfl), (Nat.le_of_ble_eq_true rfl)⟩ dX4_fetes_106 ?_
            refine n_if_neB (b := (sEat ((ftI N (r, ftO r N z i) j).1) (sRnd ((ftI N (r, ftO r N z i) j).2.1) N) (sRnd (sDraw ((ftI N (r, ftO r N z i) j).2.1)) N))) (tgt := 115) hx hb dX4_fetes_109 (by decide) (fun c_22 => ?_) (fun c_22 => ?_)
            · refine lv_iload hx hb dX4_fetes_115 (lv_at hl 5 rfl) ?_
              refine lv_aload_n hx hb dX4_fetes_117 rfl (lv_at hl 6 rfl) ?_
              refine va_get (D := gD G) (ci := 0) (v := .ref (ad 1)) (C := RX4) (T := TX4) (N := 20) hx hb hts in_X4 hown hK hP 2 rfl rfl 1 (by decide) (hts _ q1074) (fun _ h9 => h9) rfl dX4_fetes_118 ?_
              refine lv_iload hx hb dX4_fetes_121 (lv_at hl 1 rfl) ?_
              refine lv_iload hx hb dX4_fetes_123 (lv_at hl 0 rfl) ?_
              refine c_SW (wr := [(ad 0, iA G 57 r), (h, mO ad (upd iv 12 (sDraw (sDraw ((ftI N (r, ftO r N z i) j).2.1)))))]) (rest := [.int ((ftI N (r, ftO r N z i) j).2.2.1)]) C (metX4_turn l G (ad 1) ((ftI N (r, ftO r N z i) j).1) (sRnd ((ftI N (r, ftO r N z i) j).2.1) N) (sRnd (sDraw ((ftI N (r, ftO r N z i) j).2.1)) N) (by omega) (by omega)) 3 (lw_S q1183 q1184 q42 q1185) (by decide +kernel) ⟨rfl, rfl⟩ ⟨(Nat.le_of_ble_eq_true rfl), (Nat.le_of_ble_eq_true rfl)⟩ (KM_mv G) hK hA hP hD hS [1] [0, 2] rfl rfl rfl rfl (by decide) hl rfl rfl (Nat.le_of_ble_eq_true rfl) ⟨(Nat.le_of_ble_eq_true rfl), (Nat.le_of_ble_eq_true rfl)⟩ dX4_fetes_125 (fun r_23 w1 H locs hq_24 hP hD hS => ?_)
              obtain ⟨rfl, rfl⟩ := hq_24
              have hP : PP G [(ad 0, iA G 57 r), (h, mO ad (upd iv 12 (sDraw (sDraw ((ftI N (r, ftO r N z i) j).2.1))))), (ad 1, iA G 57 (sTurn ((ftI N (r, ftO r N z i) j).1) (sRnd ((ftI N (r, ftO r N z i) j).2.1) N) (sRnd (sDraw ((ftI N (r, ftO r N z i) j).2.1)) N)))] H := hP
              have hD : va_D A [(ad 0, iA G 57 r), (h, mO ad (upd iv 12 (sDraw (sDraw ((ftI N (r, ftO r N z i) j).2.1))))), (ad 1, iA G 57 (sTurn ((ftI N (r, ftO r N z i) j).1) (sRnd ((ftI N (r, ftO r N z i) j).2.1) N) (sRnd (sDraw ((ftI N (r, ftO r N z i) j).2.1)) N)))] := hD
              refine lv_iadd (x := (ftI N (r, ftO r N z i) j).2.2.1) (y := sJoy ((ftI N (r, ftO r N z i) j).1) (sRnd ((ftI N (r, ftO r N z i) j).2.1) N) (sRnd (sDraw ((ftI N (r, ftO r N z i) j).2.1)) N)) hx hb dX4_fetes_128 ?_
              refine lv_istore (lv' := [(4, .int (((ftI N (r, ftO r N z i) j).2.2.1) + (sJoy ((ftI N (r, ftO r N z i) j).1) (sRnd ((ftI N (r, ftO r N z i) j).2.1) N) (sRnd (sDraw ((ftI N (r, ftO r N z i) j).2.1)) N)))), (9, .int (nI (sRnd (sDraw ((ftI N (r, ftO r N z i) j).2.1)) N))), (8, .int (nI (sRnd ((ftI N (r, ftO r N z i) j).2.1) N))), (7, .int (nI j)), (6, .int (nI i)), (5, .int (nI ((ftI N (r, ftO r N z i) j).2.2.2))), (0, .ref h), (1, .int (nI u_2)), (2, .int z), (3, .int (nI what_4))]) hx hb dX4_fetes_129 hl (Nat.le_of_ble_eq_true rfl) rfl (fun ls hl => ?_)
              refine n_iinc (k := 5) (lv' := [(5, .int (nI ((ftI N (r, ftO r N z i) j).2.2.2 + 1))), (4, .int (((ftI N (r, ftO r N z i) j).2.2.1) + (sJoy ((ftI N (r, ftO r N z i) j).1) (sRnd ((ftI N (r, ftO r N z i) j).2.1) N) (sRnd (sDraw ((ftI N (r, ftO r N z i) j).2.1)) N)))), (9, .int (nI (sRnd (sDraw ((ftI N (r, ftO r N z i) j).2.1)) N))), (8, .int (nI (sRnd ((ftI N (r, ftO r N z i) j).2.1) N))), (7, .int (nI j)), (6, .int (nI i)), (0, .ref h), (1, .int (nI u_2)), (2, .int z), (3, .int (nI what_4))]) hx hb ((ftI N (r, ftO r N z i) j).2.2.2) 1 dX4_fetes_131 hl rfl (Nat.le_of_ble_eq_true rfl) rfl (fun ls hl => ?_)
              refine n_iinc (k := 4) (lv' := [(7, .int (nI (j + 1))), (5, .int (nI ((ftI N (r, ftO r N z i) j).2.2.2 + 1))), (4, .int (((ftI N (r, ftO r N z i) j).2.2.1) + (sJoy ((ftI N (r, ftO r N z i) j).1) (sRnd ((ftI N (r, ftO r N z i) j).2.1) N) (sRnd (sDraw ((ftI N (r, ftO r N z i) j).2.1)) N)))), (9, .int (nI (sRnd (sDraw ((ftI N (r, ftO r N z i) j).2.1)) N))), (8, .int (nI (sRnd ((ftI N (r, ftO r N z i) j).2.1) N))), (6, .int (nI i)), (0, .ref h), (1, .int (nI u_2)), (2, .int z), (3, .int (nI what_4))]) hx hb j 1 dX4_fetes_134 hl rfl (Nat.le_of_ble_eq_true rfl) rfl (fun ls hl => ?_)
              refine lv_goto (tgt := 67) hx hb dX4_fetes_137 (by decide) ?_
              have e_25 : (ftI N (r, ftO r N z i) (j + 1)).2.2.2 = (ftI N (r, ftO r N z i) j).2.2.2 + 1 := by simp only [ftI, ftS, tu_2, twhat_4, c_17, c_22, if_true, if_false, Bool.true_eq_false]
              have e_26 : (ftI N (r, ftO r N z i) (j + 1)).2.2.1 = ((ftI N (r, ftO r N z i) j).2.2.1) + (sJoy ((ftI N (r, ftO r N z i) j).1) (sRnd ((ftI N (r, ftO r N z i) j).2.1) N) (sRnd (sDraw ((ftI N (r, ftO r N z i) j).2.1)) N)) := by simp only [ftI, ftS, tu_2, twhat_4, c_17, c_22, if_true, if_false, Bool.true_eq_false]
              have e_27 : (mO ad (upd iv 12 ((ftI N (r, ftO r N z i) (j + 1)).2.1)) : va_E) = mO ad (upd iv 12 (sDraw (sDraw ((ftI N (r, ftO r N z i) j).2.1)))) := by simp only [ftI, ftS, tu_2, twhat_4, c_17, c_22, if_true, if_false, Bool.true_eq_false]
              have e_28 : (iA G 57 ((ftI N (r, ftO r N z i) (j + 1)).1) : va_E) = iA G 57 (sTurn ((ftI N (r, ftO r N z i) j).1) (sRnd ((ftI N (r, ftO r N z i) j).2.1) N) (sRnd (sDraw ((ftI N (r, ftO r N z i) j).2.1)) N)) := by simp only [ftI, ftS, tu_2, twhat_4, c_17, c_22, if_true, if_false, Bool.true_eq_false]
              exact ih_12 (j + 1) (by omega) _ _ (by rw [e_27, e_28]; exact hP.sub [1, 0, 2] rfl) (by rw [e_27, e_28]; exact hD.sub [1, 0, 2] (by decide) rfl) hS ls (by rw [e_25, e_26]; exact lv_sub hl [0, 5, 1, 2, 6, 7, 8, 9] rfl)
            · refine lv_goto (tgt := 134) hx hb dX4_fetes_112 (by decide) ?_
              refine n_iinc (k := 2) (lv' := [(7, .int (nI (j + 1))), (9, .int (nI (sRnd (sDraw ((ftI N (r, ftO r N z i) j).2.1)) N))), (8, .int (nI (sRnd ((ftI N (r, ftO r N z i) j).2.1) N))), (6, .int (nI i)), (5, .int (nI ((ftI N (r, ftO r N z i) j).2.2.2))), (4, .int ((ftI N (r, ftO r N z i) j).2.2.1)), (0, .ref h), (1, .int (nI u_2)), (2, .int z), (3, .int (nI what_4))]) hx hb j 1 dX4_fetes_134 hl rfl (Nat.le_of_ble_eq_true rfl) rfl (fun ls hl => ?_)
              refine lv_goto (tgt := 67) hx hb dX4_fetes_137 (by decide) ?_
              have e_29 : (ftI N (r, ftO r N z i) (j + 1)).2.2.2 = (ftI N (r, ftO r N z i) j).2.2.2 := by simp only [ftI, ftS, tu_2, twhat_4, c_17, c_22, if_true, if_false, Bool.true_eq_false]
              have e_30 : (ftI N (r, ftO r N z i) (j + 1)).2.2.1 = (ftI N (r, ftO r N z i) j).2.2.1 := by simp only [ftI, ftS, tu_2, twhat_4, c_17, c_22, if_true, if_false, Bool.true_eq_false]
              have e_31 : (mO ad (upd iv 12 ((ftI N (r, ftO r N z i) (j + 1)).2.1)) : va_E) = mO ad (upd iv 12 (sDraw (sDraw ((ftI N (r, ftO r N z i) j).2.1)))) := by simp only [ftI, ftS, tu_2, twhat_4, c_17, c_22, if_true, if_false, Bool.true_eq_false]
              have e_32 : (iA G 57 ((ftI N (r, ftO r N z i) (j + 1)).1) : va_E) = iA G 57 ((ftI N (r, ftO r N z i) j).1) := by simp only [ftI, ftS, tu_2, twhat_4, c_17, c_22, if_true, if_false, Bool.true_eq_false]
              exact ih_12 (j + 1) (by omega) _ _ (by rw [e_31, e_32]; exact hP.sub [2, 0, 1] rfl) (by rw [e_31, e_32]; exact hD.sub [2, 0, 1] (by decide) rfl) hS ls (by rw [e_29, e_30]; exact lv_sub hl [0, 3, 4, 5, 6, 7, 8, 9] rfl)
      · obtain rfl := c_5
        have zc_5 : (nI 0 = 0) = True := eq_true rfl
        refine lv_bipush (v := (-3)) hx hb dX4_fetes_30 (by decide) ?_
        exact n_iretW (v := (-3)) (w1 := [(h, mO ad (upd iv 12 z0)), (ad 0, iA G 57 r), (ad 1, iA G 57 rm)]) C (⟨by simp [sFetesA, c_1, tu_2, c_3, twhat_4, zc_5], _, _, rfl⟩) hP hD hS (by first | omega | decide) (by first | omega | decide) dX4_fetes_32
    · refine lv_iconst (v := (-1)) hx hb dX4_fetes_19 (by decide) ?_
      exact n_iretW (v := (-1)) (w1 := [(h, mO ad (upd iv 12 z0)), (ad 0, iA G 57 r), (ad 1, iA G 57 rm)]) C (⟨by simp [sFetesA, c_1, tu_2, c_3], _, _, rfl⟩) hP hD hS (by first | omega | decide) (by first | omega | decide) dX4_fetes_20
