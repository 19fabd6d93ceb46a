set_option maxHeartbeats 4000000 in
set_option maxRecDepth 100000 in
theorem metX4_pairs (l : Launch) (G : GG) (h : Nat) (ad : Nat → Nat) (iv : Nat → Int32) (r : Nat → Int32) (N : Nat) (bb wb : Nat → Int32) (i : Int32) (hN : N ≤ 8) (hr : r 0 = nI N) : MW l yX4_pairs cX4_pairs 3 (some .int) ({ frames := 29, cells := 0, slots := 0, locals := 660 }) [.ref h, .int i] [(h, mO ad iv), (ad 0, iA G 57 r), (ad 9, iA G 8 wb), (ad 10, iA G 8 bb)] G (KM G) 0 0 (fun rv w1 => rv = sPairsA r N bb wb i ∧ ∃ (b9 : Int32) (g1 g2 : Nat → Int32), w1 = [(h, mO ad (upd iv 11 b9)), (ad 0, iA G 57 r), (ad 9, iA G 8 g1), (ad 10, iA G 8 g2)]) := by
  -- rows printed by wip/tools/gen.py
  refine mw_mk RX4 (by decide) rfl (Nat.le_of_ble_eq_true rfl) ?_
  intro p0_ e0_ s m args below meth c A C hA hP hK hD ls hl
  have hx := C.1
  have hb := C.2.1
  have hml := C.2.2.2.2.1
  have hown := C.2.2.2.2.2.1
  have hts := C.2.2.2.2.2.2
  have hS : va_S A s.heap s.heap [] := va_S.rf
  have hl : lv_has ls 3 [(0, .ref h), (1, .int i)] := hl
  refine lv_iload_n hx hb dX4_pairs_0 rfl (lv_at hl 1 rfl) ?_
  refine lv_iconst (v := (-1)) hx hb dX4_pairs_1 (by decide) ?_
  refine lv_icmp_eq (x := i) (y := (-1)) (tgt := 15) hx hb dX4_pairs_2 (by decide) (fun c_1 => ?_) (fun c_1 => ?_)
  · obtain rfl := c_1
    refine lv_iconst (v := 0) hx hb dX4_pairs_15 (by decide) ?_
    refine lv_istore_n (lv' := [(2, .int 0), (0, .ref h), (1, .int (-1))]) hx hb dX4_pairs_16 rfl hl (Nat.le_of_ble_eq_true rfl) rfl (fun ls hl => ?_)
    suffices hlp_2 : (∀ (n k : Nat), k + n = 8 → ∀ (H : Heap) (locs : List Loc), PP G [(h, mO ad iv), (ad 0, iA G 57 r), (ad 9, iA G 8 (cpf st9 wb k)), (ad 10, iA G 8 bb)] H → va_D A [(h, mO ad iv), (ad 0, iA G 57 r), (ad 9, iA G 8 (cpf st9 wb k)), (ad 10, iA G 8 bb)] → va_S A s.heap H locs → ∀ (ls : Array Slot), lv_has ls 3 [(2, .int (nI k)), (0, .ref h), (1, .int (-1))] → W p0_ l e0_ ({ frames := 29, cells := 0, slots := 0, locals := 660 } : Room) s m args below meth c H locs (0) (0) (MQ below (va_Qi (S := va_W) (fun rv w1 => rv = sPairsA r N bb wb (-1) ∧ ∃ (b9 : Int32) (g1 g2 : Nat → Int32), w1 = [(h, mO ad (upd iv 11 b9)), (ad 0, iA G 57 r), (ad 9, iA G 8 g1), (ad 10, iA G 8 g2)]) (fun w1 t => PP G w1 t.heap ∧ va_D A w1) A) args s 0 0 A) (F0 m 17 ls [])) by
      exact hlp_2 (8) 0 (by omega) _ _ (hP.sub [0, 1, 2, 3] (by rw [cpf_0]; rfl)) (hD.sub [0, 1, 2, 3] (by decide) (by rw [cpf_0]; rfl)) hS ls (lv_sub hl [0, 1, 2] rfl)
    have hend_2 : ∀ (H : Heap) (locs : List Loc), PP G [(h, mO ad iv), (ad 0, iA G 57 r), (ad 9, iA G 8 (cpf st9 wb 8)), (ad 10, iA G 8 bb)] H → va_D A [(h, mO ad iv), (ad 0, iA G 57 r), (ad 9, iA G 8 (cpf st9 wb 8)), (ad 10, iA G 8 bb)] → va_S A s.heap H locs → ∀ (ls : Array Slot), lv_has ls 3 [(2, .int (nI 8)), (0, .ref h), (1, .int (-1))] → W p0_ l e0_ ({ frames := 29, cells := 0, slots := 0, locals := 660 } : Room) s m args below meth c H locs (0) (0) (MQ below (va_Qi (S := va_W) (fun rv w1 => rv = sPairsA r N bb wb (-1) ∧ ∃ (b9 : Int32) (g1 g2 : Nat → Int32), w1 = [(h, mO ad (upd iv 11 b9)), (ad 0, iA G 57 r), (ad 9, iA G 8 g1), (ad 10, iA G 8 g2)]) (fun w1 t => PP G w1 t.heap ∧ va_D A w1) A) args s 0 0 A) (F0 m 17 ls []) := by
      intro H locs hP hD hS ls hl
      refine lv_iload_n hx hb dX4_pairs_17 rfl (lv_at hl 0 rfl) ?_
      refine lv_bipush (v := 8) hx hb dX4_pairs_18 (by decide) ?_
      refine n_ic_ge (x := 8) (y := 8) (tgt := 37) hx hb (by omega) (by omega) dX4_pairs_20 (by decide) (fun c_3 => ?_) (fun c_3 => absurd c_3 (by omega))
      refine lv_aload_n hx hb dX4_pairs_37 rfl (lv_at hl 1 rfl) ?_
      refine lv_iconst (v := (-1)) hx hb dX4_pairs_38 (by decide) ?_
      refine va_put (D := gD G) (ci := 0) (v := .int (-1)) (ty := .int) (C := RX4) (T := TX4) (N := 20) hx hb hts in_X4 tyX4 tyX4_ok nmX4 hown hK hP hD hS 0 rfl rfl 11 (by decide) (hts _ q1084) (fun _ h9 => h9) rfl (by decide +kernel) rfl rfl (Nat.le_of_ble_eq_true rfl) dX4_pairs_39 (fun H locs hP hD hS => ?_)
      have hP : PP G [(h, mO ad (upd iv 11 (-1))), (ad 0, iA G 57 r), (ad 9, iA G 8 (cpf st9 wb 8)), (ad 10, iA G 8 bb)] H := hP
      have hD : va_D A [(h, mO ad (upd iv 11 (-1))), (ad 0, iA G 57 r), (ad 9, iA G 8 (cpf st9 wb 8)), (ad 10, iA G 8 bb)] := hD
      refine lv_aload_n hx hb dX4_pairs_42 rfl (lv_at hl 1 rfl) ?_
      refine lv_iconst (v := 0) hx hb dX4_pairs_43 (by decide) ?_
      refine lv_iconst (v := 0) hx hb dX4_pairs_44 (by decide) ?_
      refine lv_aload_n hx hb dX4_pairs_45 rfl (lv_at hl 1 rfl) ?_
      refine va_get (D := gD G) (ci := 0) (v := .ref (ad 0)) (C := RX4) (T := TX4) (N := 20) hx hb hts in_X4 hown hK hP 0 rfl rfl 0 (by decide) (hts _ q1073) (fun _ h9 => h9) rfl dX4_pairs_46 ?_
      refine lv_iconst (v := 1) hx hb dX4_pairs_49 (by decide) ?_
      refine n_iald C hK hP 1 1 rfl (by omega) (by omega) dX4_pairs_50 ?_
      refine lv_iconst (v := 0) hx hb dX4_pairs_51 (by decide) ?_
      refine c_VWv (wr := []) (rest := []) C (pfc N l G h ad iv r N 0 0 (r 1) 0 (-1) bb (cpf st9 wb 8) (by omega) (hr) (by omega)) 4 (lw_V q1271 q1273 qs31 q42 q1274) (by decide +kernel) ⟨rfl, rfl⟩ ⟨(by dsimp only; omega), (by dsimp only; omega)⟩ (KM_mv G) hK (va_recv hK hP (ci := 0) (q0 := 0) rfl rfl) hA hP hD hS [0, 1, 2, 3] [] rfl rfl rfl rfl (by decide) hl rfl rfl (Nat.le_of_ble_eq_true rfl) ⟨(Nat.le_of_ble_eq_true rfl), (Nat.le_of_ble_eq_true rfl)⟩ dX4_pairs_52 (fun w1 H locs hq_5 hP hD hS => ?_)
      obtain rfl := hq_5
      have hP : PP G [(h, mO ad (upd iv 11 ((pf r N N 0 0 (r 1) 0 ((-1), bb, (cpf st9 wb 8))).1))), (ad 0, iA G 57 r), (ad 9, iA G 8 ((pf r N N 0 0 (r 1) 0 ((-1), bb, (cpf st9 wb 8))).2.2)), (ad 10, iA G 8 ((pf r N N 0 0 (r 1) 0 ((-1), bb, (cpf st9 wb 8))).2.1))] H := hP
      have hD : va_D A [(h, mO ad (upd iv 11 ((pf r N N 0 0 (r 1) 0 ((-1), bb, (cpf st9 wb 8))).1))), (ad 0, iA G 57 r), (ad 9, iA G 8 ((pf r N N 0 0 (r 1) 0 ((-1), bb, (cpf st9 wb 8))).2.2)), (ad 10, iA G 8 ((pf r N N 0 0 (r 1) 0 ((-1), bb, (cpf st9 wb 8))).2.1))] := hD
      refine lv_iload_n hx hb dX4_pairs_55 rfl (lv_at hl 2 rfl) ?_
      refine lv_if_ge (x := (-1)) (tgt := 66) hx hb dX4_pairs_56 (by decide) (fun c_6 => absurd c_6 (by decide)) (fun c_6 => ?_)
      refine lv_aload_n hx hb dX4_pairs_59 rfl (lv_at hl 1 rfl) ?_
      refine va_get (D := gD G) (ci := 0) (v := .int ((pf r N N 0 0 (r 1) 0 ((-1), bb, (cpf st9 wb 8))).1)) (C := RX4) (T := TX4) (N := 20) hx hb hts in_X4 hown hK hP 0 rfl rfl 11 (by decide) (hts _ q1084) (fun _ h9 => h9) rfl dX4_pairs_60 ?_
      refine lv_goto (tgt := 72) hx hb dX4_pairs_63 (by decide) ?_
      exact n_iretW (v := (pf r N N 0 0 (r 1) 0 ((-1), bb, (cpf st9 wb 8))).1) (w1 := [(h, mO ad (upd iv 11 ((pf r N N 0 0 (r 1) 0 ((-1), bb, (cpf st9 wb 8))).1))), (ad 0, iA G 57 r), (ad 9, iA G 8 ((pf r N N 0 0 (r 1) 0 ((-1), bb, (cpf st9 wb 8))).2.2)), (ad 10, iA G 8 ((pf r N N 0 0 (r 1) 0 ((-1), bb, (cpf st9 wb 8))).2.1))]) C (⟨by simp [sPairsA, sPairsX, c_3, c_6], _, _, _, rfl⟩) hP hD hS (by first | omega | decide) (by first | omega | decide) dX4_pairs_72
    intro n
    induction n with
    | zero =>
      intro k hi_2 H locs hP hD hS ls hl
      obtain e_2 : k = 8 := by omega
      first | (subst e_2; exact hend_2 H locs hP hD hS ls hl) | (rw [e_2] at hl hP hD; exact hend_2 H locs hP hD hS ls hl)
    | succ n ih_2 =>
      intro k hi_2 H locs hP hD hS ls hl
      refine lv_iload_n hx hb dX4_pairs_17 rfl (lv_at hl 0 rfl) ?_
      refine lv_bipush (v := 8) hx hb dX4_pairs_18 (by decide) ?_
      refine n_ic_ge (x := k) (y := 8) (tgt := 37) hx hb (by omega) (by omega) dX4_pairs_20 (by decide) (fun c_7 => absurd c_7 (by omega)) (fun c_7 => ?_)
      refine lv_aload_n hx hb dX4_pairs_23 rfl (lv_at hl 1 rfl) ?_
      refine va_get (D := gD G) (ci := 0) (v := .ref (ad 9)) (C := RX4) (T := TX4) (N := 20) hx hb hts in_X4 hown hK hP 0 rfl rfl 9 (by decide) (hts _ q1082) (fun _ h9 => h9) rfl dX4_pairs_24 ?_
      refine lv_iload_n hx hb dX4_pairs_27 rfl (lv_at hl 0 rfl) ?_
      refine lv_bipush (v := 9) hx hb dX4_pairs_28 (by decide) ?_
      refine n_iast (x := 9) C hK hP hD hS 2 k rfl (by omega) (by omega) dX4_pairs_30 (fun H locs hP hD hS => ?_)
      have hP : PP G [(h, mO ad iv), (ad 0, iA G 57 r), (ad 9, iA G 8 (upd (cpf st9 wb k) k 9)), (ad 10, iA G 8 bb)] H := hP
      have hD : va_D A [(h, mO ad iv), (ad 0, iA G 57 r), (ad 9, iA G 8 (upd (cpf st9 wb k) k 9)), (ad 10, iA G 8 bb)] := hD
      refine n_iinc (k := 0) (lv' := [(2, .int (nI (k + 1))), (0, .ref h), (1, .int (-1))]) hx hb k 1 dX4_pairs_31 hl rfl (Nat.le_of_ble_eq_true rfl) rfl (fun ls hl => ?_)
      refine lv_goto (tgt := 17) hx hb dX4_pairs_34 (by decide) ?_
      have e_8 : (iA G 8 (cpf st9 wb (k + 1)) : va_E) = iA G 8 (upd (cpf st9 wb k) k 9) := by rw [cpf_s]; rfl
      exact ih_2 (k + 1) (by omega) _ _ (by rw [e_8]; exact hP.sub [0, 1, 2, 3] rfl) (by rw [e_8]; exact hD.sub [0, 1, 2, 3] (by decide) rfl) hS ls (lv_sub hl [0, 1, 2] rfl)
  · refine lv_aload_n hx hb dX4_pairs_5 rfl (lv_at hl 0 rfl) ?_
    refine lv_iload_n hx hb dX4_pairs_6 rfl (lv_at hl 1 rfl) ?_
    refine c_V (rest := []) C (metX4_isPerson l G h ad iv r N i (hr)) 1 (lw_V q1173 q1175 qs28 q42 q1176) (by decide +kernel) ⟨rfl, rfl⟩ ⟨(by dsimp only; omega), (by dsimp only; omega)⟩ (KM_mv G) (va_recv hK hP (ci := 0) (q0 := 0) rfl rfl) (hP.sub (ws' := [(h, mO ad iv), (ad 0, iA G 57 r)]) [0, 1] rfl) hK hl rfl rfl (Nat.le_of_ble_eq_true rfl) ⟨(Nat.le_of_ble_eq_true rfl), (Nat.le_of_ble_eq_true rfl)⟩ dX4_pairs_7 ?_
    refine n_if_neB (b := (sPer N i)) (tgt := 15) hx hb dX4_pairs_10 (by decide) (fun c_9 => ?_) (fun c_9 => ?_)
    · obtain ⟨i_10, hi_10, rfl⟩ := sPer_t (by omega) c_9
      have ti_10 : tn (nI i_10) = i_10 := nI_clamp (by omega)
      refine lv_iconst (v := 0) hx hb dX4_pairs_15 (by decide) ?_
      refine lv_istore_n (lv' := [(2, .int 0), (0, .ref h), (1, .int (nI i_10))]) hx hb dX4_pairs_16 rfl hl (Nat.le_of_ble_eq_true rfl) rfl (fun ls hl => ?_)
      suffices hlp_11 : (∀ (n k : Nat), k + n = 8 → ∀ (H : Heap) (locs : List Loc), PP G [(h, mO ad iv), (ad 0, iA G 57 r), (ad 9, iA G 8 (cpf st9 wb k)), (ad 10, iA G 8 bb)] H → va_D A [(h, mO ad iv), (ad 0, iA G 57 r), (ad 9, iA G 8 (cpf st9 wb k)), (ad 10, iA G 8 bb)] → va_S A s.heap H locs → ∀ (ls : Array Slot), lv_has ls 3 [(2, .int (nI k)), (0, .ref h), (1, .int (nI i_10))] → W p0_ l e0_ ({ frames := 29, cells := 0, slots := 0, locals := 660 } : Room) s m args below meth c H locs (0) (0) (MQ below (va_Qi (S := va_W) (fun rv w1 => rv = sPairsA r N bb wb (nI i_10) ∧ ∃ (b9 : Int32) (g1 g2 : Nat → Int32), w1 = [(h, mO ad (upd iv 11 b9)), (ad 0, iA G 57 r), (ad 9, iA G 8 g1), (ad 10, iA G 8 g2)]) (fun w1 t => PP G w1 t.heap ∧ va_D A w1) A) args s 0 0 A) (F0 m 17 ls [])) by
        exact hlp_11 (8) 0 (by omega) _ _ (hP.sub [0, 1, 2, 3] (by rw [cpf_0]; rfl)) (hD.sub [0, 1, 2, 3] (by decide) (by rw [cpf_0]; rfl)) hS ls (lv_sub hl [0, 1, 2] rfl)
      have hend_11 : ∀ (H : Heap) (locs : List Loc), PP G [(h, mO ad iv), (ad 0, iA G 57 r), (ad 9, iA G 8 (cpf st9 wb 8)), (ad 10, iA G 8 bb)] H → va_D A [(h, mO ad iv), (ad 0, iA G 57 r), (ad 9, iA G 8 (cpf st9 wb 8)), (ad 10, iA G 8 bb)] → va_S A s.heap H locs → ∀ (ls : Array Slot), lv_has ls 3 [(2, .int (nI 8)), (0, .ref h), (1, .int (nI i_10))] → W p0_ l e0_ ({ frames := 29, cells := 0, slots := 0, locals := 660 } : Room) s m args below meth c H locs (0) (0) (MQ below (va_Qi (S := va_W) (fun rv w1 => rv = sPairsA r N bb wb (nI i_10) ∧ ∃ (b9 : Int32) (g1 g2 : Nat → Int32), w1 = [(h, mO ad (upd iv 11 b9)), (ad 0, iA G 57 r), (ad 9, iA G 8 g1), (ad 10, iA G 8 g2)]) (fun w1 t => PP G w1 t.heap ∧ va_D A w1) A) args s 0 0 A) (F0 m 17 ls []) := by
        intro H locs hP hD hS ls hl
        refine lv_iload_n hx hb dX4_pairs_17 rfl (lv_at hl 0 rfl) ?_
        refine lv_bipush (v := 8) hx hb dX4_pairs_18 (by decide) ?_
        refine n_ic_ge (x := 8) (y := 8) (tgt := 37) hx hb (by omega) (by omega) dX4_pairs_20 (by decide) (fun c_12 => ?_) (fun c_12 => absurd c_12 (by omega))
        refine lv_aload_n hx hb dX4_pairs_37 rfl (lv_at hl 1 rfl) ?_
        refine lv_iconst (v := (-1)) hx hb dX4_pairs_38 (by decide) ?_
        refine va_put (D := gD G) (ci := 0) (v := .int (-1)) (ty := .int) (C := RX4) (T := TX4) (N := 20) hx hb hts in_X4 tyX4 tyX4_ok nmX4 hown hK hP hD hS 0 rfl rfl 11 (by decide) (hts _ q1084) (fun _ h9 => h9) rfl (by decide +kernel) rfl rfl (Nat.le_of_ble_eq_true rfl) dX4_pairs_39 (fun H locs hP hD hS => ?_)
        have hP : PP G [(h, mO ad (upd iv 11 (-1))), (ad 0, iA G 57 r), (ad 9, iA G 8 (cpf st9 wb 8)), (ad 10, iA G 8 bb)] H := hP
        have hD : va_D A [(h, mO ad (upd iv 11 (-1))), (ad 0, iA G 57 r), (ad 9, iA G 8 (cpf st9 wb 8)), (ad 10, iA G 8 bb)] := hD
        refine lv_aload_n hx hb dX4_pairs_42 rfl (lv_at hl 1 rfl) ?_
        refine lv_iconst (v := 0) hx hb dX4_pairs_43 (by decide) ?_
        refine lv_iconst (v := 0) hx hb dX4_pairs_44 (by decide) ?_
        refine lv_aload_n hx hb dX4_pairs_45 rfl (lv_at hl 1 rfl) ?_
        refine va_get (D := gD G) (ci := 0) (v := .ref (ad 0)) (C := RX4) (T := TX4) (N := 20) hx hb hts in_X4 hown hK hP 0 rfl rfl 0 (by decide) (hts _ q1073) (fun _ h9 => h9) rfl dX4_pairs_46 ?_
        refine lv_iconst (v := 1) hx hb dX4_pairs_49 (by decide) ?_
        refine n_iald C hK hP 1 1 rfl (by omega) (by omega) dX4_pairs_50 ?_
        refine lv_iconst (v := 0) hx hb dX4_pairs_51 (by decide) ?_
        refine c_VWv (wr := []) (rest := []) C (pfc N l G h ad iv r N 0 0 (r 1) 0 (-1) bb (cpf st9 wb 8) (by omega) (hr) (by omega)) 4 (lw_V q1271 q1273 qs31 q42 q1274) (by decide +kernel) ⟨rfl, rfl⟩ ⟨(by dsimp only; omega), (by dsimp only; omega)⟩ (KM_mv G) hK (va_recv hK hP (ci := 0) (q0 := 0) rfl rfl) hA hP hD hS [0, 1, 2, 3] [] rfl rfl rfl rfl (by decide) hl rfl rfl (Nat.le_of_ble_eq_true rfl) ⟨(Nat.le_of_ble_eq_true rfl), (Nat.le_of_ble_eq_true rfl)⟩ dX4_pairs_52 (fun w1 H locs hq_14 hP hD hS => ?_)
        obtain rfl := hq_14
        have hP : PP G [(h, mO ad (upd iv 11 ((pf r N N 0 0 (r 1) 0 ((-1), bb, (cpf st9 wb 8))).1))), (ad 0, iA G 57 r), (ad 9, iA G 8 ((pf r N N 0 0 (r 1) 0 ((-1), bb, (cpf st9 wb 8))).2.2)), (ad 10, iA G 8 ((pf r N N 0 0 (r 1) 0 ((-1), bb, (cpf st9 wb 8))).2.1))] H := hP
        have hD : va_D A [(h, mO ad (upd iv 11 ((pf r N N 0 0 (r 1) 0 ((-1), bb, (cpf st9 wb 8))).1))), (ad 0, iA G 57 r), (ad 9, iA G 8 ((pf r N N 0 0 (r 1) 0 ((-1), bb, (cpf st9 wb 8))).2.2)), (ad 10, iA G 8 ((pf r N N 0 0 (r 1) 0 ((-1), bb, (cpf st9 wb 8))).2.1))] := hD
        refine lv_iload_n hx hb dX4_pairs_55 rfl (lv_at hl 2 rfl) ?_
        refine n_if_ge (x := i_10) (tgt := 66) hx hb (by omega) dX4_pairs_56 (by decide) ?_
        refine lv_aload_n hx hb dX4_pairs_66 rfl (lv_at hl 1 rfl) ?_
        refine va_get (D := gD G) (ci := 0) (v := .ref (ad 10)) (C := RX4) (T := TX4) (N := 20) hx hb hts in_X4 hown hK hP 0 rfl rfl 10 (by decide) (hts _ q1083) (fun _ h9 => h9) rfl dX4_pairs_67 ?_
        refine lv_iload_n hx hb dX4_pairs_70 rfl (lv_at hl 2 rfl) ?_
        refine n_iald C hK hP 3 i_10 rfl (by omega) (by omega) dX4_pairs_71 ?_
        exact n_iretW (v := ((pf r N N 0 0 (r 1) 0 ((-1), bb, (cpf st9 wb 8))).2.1) i_10) (w1 := [(h, mO ad (upd iv 11 ((pf r N N 0 0 (r 1) 0 ((-1), bb, (cpf st9 wb 8))).1))), (ad 0, iA G 57 r), (ad 9, iA G 8 ((pf r N N 0 0 (r 1) 0 ((-1), bb, (cpf st9 wb 8))).2.2)), (ad 10, iA G 8 ((pf r N N 0 0 (r 1) 0 ((-1), bb, (cpf st9 wb 8))).2.1))]) C (⟨by simp [sPairsA, sPairsX, c_1, c_9, ti_10, c_12], _, _, _, rfl⟩) hP hD hS (by first | omega | decide) (by first | omega | decide) dX4_pairs_72
      intro n
      induction n with
      | zero =>
        intro k hi_11 H locs hP hD hS ls hl
        obtain e_11 : k = 8 := by omega
        first | (subst e_11; exact hend_11 H locs hP hD hS ls hl) | (rw [e_11] at hl hP hD; exact hend_11 H locs hP hD hS ls hl)
      | succ n ih_11 =>
        intro k hi_11 H locs hP hD hS ls hl
        refine lv_iload_n hx hb dX4_pairs_17 rfl (lv_at hl 0 rfl) ?_
        refine lv_bipush (v := 8) hx hb dX4_pairs_18 (by decide) ?_
        refine n_ic_ge (x := k) (y := 8) (tgt := 37) hx hb (by omega) (by omega) dX4_pairs_20 (by decide) (fun c_15 => absurd c_15 (by omega)) (fun c_15 => ?_)
        refine lv_aload_n hx hb dX4_pairs_23 rfl (lv_at hl 1 rfl) ?_
        refine va_get (D := gD G) (ci := 0) (v := .ref (ad 9)) (C := RX4) (T := TX4) (N := 20) hx hb hts in_X4 hown hK hP 0 rfl rfl 9 (by decide) (hts _ q1082) (fun _ h9 => h9) rfl dX4_pairs_24 ?_
        refine lv_iload_n hx hb dX4_pairs_27 rfl (lv_at hl 0 rfl) ?_
        refine lv_bipush (v := 9) hx hb dX4_pairs_28 (by decide) ?_
        refine n_iast (x := 9) C hK hP hD hS 2 k rfl (by omega) (by omega) dX4_pairs_30 (fun H locs hP hD hS => ?_)
        have hP : PP G [(h, mO ad iv), (ad 0, iA G 57 r), (ad 9, iA G 8 (upd (cpf st9 wb k) k 9)), (ad 10, iA G 8 bb)] H := hP
        have hD : va_D A [(h, mO ad iv), (ad 0, iA G 57 r), (ad 9, iA G 8 (upd (cpf st9 wb k) k 9)), (ad 10, iA G 8 bb)] := hD
        refine n_iinc (k := 0) (lv' := [(2, .int (nI (k + 1))), (0, .ref h), (1, .int (nI i_10))]) hx hb k 1 dX4_pairs_31 hl rfl (Nat.le_of_ble_eq_true rfl) rfl (fun ls hl => ?_)
        refine lv_goto (tgt := 17) hx hb dX4_pairs_34 (by decide) ?_
        have e_16 : (iA G 8 (cpf st9 wb (k + 1)) : va_E) = iA G 8 (upd (cpf st9 wb k) k 9) := by rw [cpf_s]; rfl
        exact ih_11 (k + 1) (by omega) _ _ (by rw [e_16]; exact hP.sub [0, 1, 2, 3] rfl) (by rw [e_16]; exact hD.sub [0, 1, 2, 3] (by decide) rfl) hS ls (lv_sub hl [0, 1, 2] rfl)
    · refine lv_iconst (v := (-1)) hx hb dX4_pairs_13 (by decide) ?_
      exact n_iretW (v := (-1)) (w1 := [(h, mO ad iv), (ad 0, iA G 57 r), (ad 9, iA G 8 wb), (ad 10, iA G 8 bb)]) C (⟨by simp [sPairsA, sPairsX, c_1, c_9], _, _, _, rfl⟩) hP hD hS (by first | omega | decide) (by first | omega | decide) dX4_pairs_14

set_option maxHeartbeats 4000000 in
set_option maxRecDepth 100000 in
theorem metX4_init (l : Launch) (G : GG) (h : Nat) : MWv l yX4_init cX4_init 1 none ({ frames := 1, cells := 13, slots := 1088, locals := 30 }) [.ref h] [(h, .inr (0, [.null, .null, .null, .null, .int 0, .int 0, .int 0, .int 0, .null, .null, .null, .int 0, .int 0, .null, .null, .null, .null, .null, .null, .int 0]))] G (KM G) 13 1088 (fun w1 => ∃ ad : Nat → Nat, w1 = [(h, mO ad (fun _ => 0)), (ad 0, iA G 57 (fun _ => 0)), (ad 1, iA G 57 (fun _ => 0)), (ad 2, iA G 57 (fun _ => 0)), (ad 3, iA G 57 (fun _ => 0)), (ad 8, iA G 4 (fun _ => 0)), (ad 9, iA G 8 (fun _ => 0)), (ad 10, iA G 8 (fun _ => 0)), (ad 13, iA G 8 (fun _ => 0)), (ad 14, iA G 8 (fun _ => 0)), (ad 15, iA G 8 (fun _ => 0)), (ad 16, iA G 8 (fun _ => 0)), (ad 17, iA G 8 (fun _ => 0)), (ad 18, iA G 800 (fun _ => 0))]) := by
  -- rows printed by wip/tools/gen.py
  refine mwv_mk RX4 (by decide) rfl (Nat.le_of_ble_eq_true rfl) ?_
  intro p0_ e0_ s m args below meth c A C hname hA hP hK hD ls hl
  have hx := C.1
  have hb := C.2.1
  have hml := C.2.2.2.2.1
  have hown := C.2.2.2.2.2.1
  have hts := C.2.2.2.2.2.2
  have hS : va_S A s.heap s.heap [] := va_S.rf
  have hl : lv_has ls 1 [(0, .ref h)] := hl
  refine lv_aload_n hx hb dX4_init_0 rfl (lv_at hl 0 rfl) ?_
  refine W.objInit hx hb hown (hts _ q1072) (hts _ q88) (hts _ q89) rfl (by rw [hml]; exact hl.1) rfl dX4_init_1 (Nat.le_of_ble_eq_true rfl) (Nat.le_of_ble_eq_true rfl) ?_
  refine W.eq (g2 := F0 m 4 ls []) rfl ?_
  refine lv_aload_n hx hb dX4_init_4 rfl (lv_at hl 0 rfl) ?_
  refine lv_bipush (v := 57) hx hb dX4_init_5 (by decide) ?_
  refine n_newi C hK hP hD hS hA 57 (by omega) (Nat.le_of_ble_eq_true rfl) (Nat.le_of_ble_eq_true rfl) dX4_init_7 (fun qa_1 H hP hD hS => ?_)
  have hP : PP G [(h, .inr (0, [.null, .null, .null, .null, .int 0, .int 0, .int 0, .int 0, .null, .null, .null, .int 0, .int 0, .null, .null, .null, .null, .null, .null, .int 0])), (qa_1, iA G 57 (fun _ => 0))] H := hP
  have hD : va_D A [(h, .inr (0, [.null, .null, .null, .null, .int 0, .int 0, .int 0, .int 0, .null, .null, .null, .int 0, .int 0, .null, .null, .null, .null, .null, .null, .int 0])), (qa_1, iA G 57 (fun _ => 0))] := hD
  refine va_putF (D := gD G) (ci := 0) (v := .ref qa_1) (ty := (.array .int)) (C := RX4) (T := TX4) (N := 20) hx hb hts in_X4 tyX4 tyX4_ok nmX4 hown hK hP hD hS 0 rfl rfl 0 (by decide) (hts _ q1073) (fun _ h9 => h9) rfl hname rfl (by decide +kernel) rfl rfl (Nat.le_of_ble_eq_true rfl) dX4_init_9 (fun H locs hP hD hS => ?_)
  have hP : PP G [(h, .inr (0, [.ref qa_1, .null, .null, .null, .int 0, .int 0, .int 0, .int 0, .null, .null, .null, .int 0, .int 0, .null, .null, .null, .null, .null, .null, .int 0])), (qa_1, iA G 57 (fun _ => 0))] H := hP
  have hD : va_D A [(h, .inr (0, [.ref qa_1, .null, .null, .null, .int 0, .int 0, .int 0, .int 0, .null, .null, .null, .int 0, .int 0, .null, .null, .null, .null, .null, .null, .int 0])), (qa_1, iA G 57 (fun _ => 0))] := hD
  refine lv_aload_n hx hb dX4_init_12 rfl (lv_at hl 0 rfl) ?_
  refine lv_bipush (v := 57) hx hb dX4_init_13 (by decide) ?_
  refine n_newi C hK hP hD hS hA 57 (by omega) (Nat.le_of_ble_eq_true rfl) (Nat.le_of_ble_eq_true rfl) dX4_init_15 (fun qa_2 H hP hD hS => ?_)
  have hP : PP G [(h, .inr (0, [.ref qa_1, .null, .null, .null, .int 0, .int 0, .int 0, .int 0, .null, .null, .null, .int 0, .int 0, .null, .null, .null, .null, .null, .null, .int 0])), (qa_1, iA G 57 (fun _ => 0)), (qa_2, iA G 57 (fun _ => 0))] H := hP
  have hD : va_D A [(h, .inr (0, [.ref qa_1, .null, .null, .null, .int 0, .int 0, .int 0, .int 0, .null, .null, .null, .int 0, .int 0, .null, .null, .null, .null, .null, .null, .int 0])), (qa_1, iA G 57 (fun _ => 0)), (qa_2, iA G 57 (fun _ => 0))] := hD
  refine va_putF (D := gD G) (ci := 0) (v := .ref qa_2) (ty := (.array .int)) (C := RX4) (T := TX4) (N := 20) hx hb hts in_X4 tyX4 tyX4_ok nmX4 hown hK hP hD hS 0 rfl rfl 1 (by decide) (hts _ q1074) (fun _ h9 => h9) rfl hname rfl (by decide +kernel) rfl rfl (Nat.le_of_ble_eq_true rfl) dX4_init_17 (fun H locs hP hD hS => ?_)
  have hP : PP G [(h, .inr (0, [.ref qa_1, .ref qa_2, .null, .null, .int 0, .int 0, .int 0, .int 0, .null, .null, .null, .int 0, .int 0, .null, .null, .null, .null, .null, .null, .int 0])), (qa_1, iA G 57 (fun _ => 0)), (qa_2, iA G 57 (fun _ => 0))] H := hP
  have hD : va_D A [(h, .inr (0, [.ref qa_1, .ref qa_2, .null, .null, .int 0, .int 0, .int 0, .int 0, .null, .null, .null, .int 0, .int 0, .null, .null, .null, .null, .null, .null, .int 0])), (qa_1, iA G 57 (fun _ => 0)), (qa_2, iA G 57 (fun _ => 0))] := hD
  refine lv_aload_n hx hb dX4_init_20 rfl (lv_at hl 0 rfl) ?_
  refine lv_bipush (v := 57) hx hb dX4_init_21 (by decide) ?_
  refine n_newi C hK hP hD hS hA 57 (by omega) (Nat.le_of_ble_eq_true rfl) (Nat.le_of_ble_eq_true rfl) dX4_init_23 (fun qa_3 H hP hD hS => ?_)
  have hP : PP G [(h, .inr (0, [.ref qa_1, .ref qa_2, .null, .null, .int 0, .int 0, .int 0, .int 0, .null, .null, .null, .int 0, .int 0, .null, .null, .null, .null, .null, .null, .int 0])), (qa_1, iA G 57 (fun _ => 0)), (qa_2, iA G 57 (fun _ => 0)), (qa_3, iA G 57 (fun _ => 0))] H := hP
  have hD : va_D A [(h, .inr (0, [.ref qa_1, .ref qa_2, .null, .null, .int 0, .int 0, .int 0, .int 0, .null, .null, .null, .int 0, .int 0, .null, .null, .null, .null, .null, .null, .int 0])), (qa_1, iA G 57 (fun _ => 0)), (qa_2, iA G 57 (fun _ => 0)), (qa_3, iA G 57 (fun _ => 0))] := hD
  refine va_putF (D := gD G) (ci := 0) (v := .ref qa_3) (ty := (.array .int)) (C := RX4) (T := TX4) (N := 20) hx hb hts in_X4 tyX4 tyX4_ok nmX4 hown hK hP hD hS 0 rfl rfl 2 (by decide) (hts _ q1075) (fun _ h9 => h9) rfl hname rfl (by decide +kernel) rfl rfl (Nat.le_of_ble_eq_true rfl) dX4_init_25 (fun H locs hP hD hS => ?_)
  have hP : PP G [(h, .inr (0, [.ref qa_1, .ref qa_2, .ref qa_3, .null, .int 0, .int 0, .int 0, .int 0, .null, .null, .null, .int 0, .int 0, .null, .null, .null, .null, .null, .null, .int 0])), (qa_1, iA G 57 (fun _ => 0)), (qa_2, iA G 57 (fun _ => 0)), (qa_3, iA G 57 (fun _ => 0))] H := hP
  have hD : va_D A [(h, .inr (0, [.ref qa_1, .ref qa_2, .ref qa_3, .null, .int 0, .int 0, .int 0, .int 0, .null, .null, .null, .int 0, .int 0, .null, .null, .null, .null, .null, .null, .int 0])), (qa_1, iA G 57 (fun _ => 0)), (qa_2, iA G 57 (fun _ => 0)), (qa_3, iA G 57 (fun _ => 0))] := hD
  refine lv_aload_n hx hb dX4_init_28 rfl (lv_at hl 0 rfl) ?_
  refine lv_bipush (v := 57) hx hb dX4_init_29 (by decide) ?_
  refine n_newi C hK hP hD hS hA 57 (by omega) (Nat.le_of_ble_eq_true rfl) (Nat.le_of_ble_eq_true rfl) dX4_init_31 (fun qa_4 H hP hD hS => ?_)
  have hP : PP G [(h, .inr (0, [.ref qa_1, .ref qa_2, .ref qa_3, .null, .int 0, .int 0, .int 0, .int 0, .null, .null, .null, .int 0, .int 0, .null, .null, .null, .null, .null, .null, .int 0])), (qa_1, iA G 57 (fun _ => 0)), (qa_2, iA G 57 (fun _ => 0)), (qa_3, iA G 57 (fun _ => 0)), (qa_4, iA G 57 (fun _ => 0))] H := hP
  have hD : va_D A [(h, .inr (0, [.ref qa_1, .ref qa_2, .ref qa_3, .null, .int 0, .int 0, .int 0, .int 0, .null, .null, .null, .int 0, .int 0, .null, .null, .null, .null, .null, .null, .int 0])), (qa_1, iA G 57 (fun _ => 0)), (qa_2, iA G 57 (fun _ => 0)), (qa_3, iA G 57 (fun _ => 0)), (qa_4, iA G 57 (fun _ => 0))] := hD
  refine va_putF (D := gD G) (ci := 0) (v := .ref qa_4) (ty := (.array .int)) (C := RX4) (T := TX4) (N := 20) hx hb hts in_X4 tyX4 tyX4_ok nmX4 hown hK hP hD hS 0 rfl rfl 3 (by decide) (hts _ q1076) (fun _ h9 => h9) rfl hname rfl (by decide +kernel) rfl rfl (Nat.le_of_ble_eq_true rfl) dX4_init_33 (fun H locs hP hD hS => ?_)
  have hP : PP G [(h, .inr (0, [.ref qa_1, .ref qa_2, .ref qa_3, .ref qa_4, .int 0, .int 0, .int 0, .int 0, .null, .null, .null, .int 0, .int 0, .null, .null, .null, .null, .null, .null, .int 0])), (qa_1, iA G 57 (fun _ => 0)), (qa_2, iA G 57 (fun _ => 0)), (qa_3, iA G 57 (fun _ => 0)), (qa_4, iA G 57 (fun _ => 0))] H := hP
  have hD : va_D A [(h, .inr (0, [.ref qa_1, .ref qa_2, .ref qa_3, .ref qa_4, .int 0, .int 0, .int 0, .int 0, .null, .null, .null, .int 0, .int 0, .null, .null, .null, .null, .null, .null, .int 0])), (qa_1, iA G 57 (fun _ => 0)), (qa_2, iA G 57 (fun _ => 0)), (qa_3, iA G 57 (fun _ => 0)), (qa_4, iA G 57 (fun _ => 0))] := hD
  refine lv_aload_n hx hb dX4_init_36 rfl (lv_at hl 0 rfl) ?_
  refine lv_iconst (v := 4) hx hb dX4_init_37 (by decide) ?_
  refine n_newi C hK hP hD hS hA 4 (by omega) (Nat.le_of_ble_eq_true rfl) (Nat.le_of_ble_eq_true rfl) dX4_init_38 (fun qa_5 H hP hD hS => ?_)
  have hP : PP G [(h, .inr (0, [.ref qa_1, .ref qa_2, .ref qa_3, .ref qa_4, .int 0, .int 0, .int 0, .int 0, .null, .null, .null, .int 0, .int 0, .null, .null, .null, .null, .null, .null, .int 0])), (qa_1, iA G 57 (fun _ => 0)), (qa_2, iA G 57 (fun _ => 0)), (qa_3, iA G 57 (fun _ => 0)), (qa_4, iA G 57 (fun _ => 0)), (qa_5, iA G 4 (fun _ => 0))] H := hP
  have hD : va_D A [(h, .inr (0, [.ref qa_1, .ref qa_2, .ref qa_3, .ref qa_4, .int 0, .int 0, .int 0, .int 0, .null, .null, .null, .int 0, .int 0, .null, .null, .null, .null, .null, .null, .int 0])), (qa_1, iA G 57 (fun _ => 0)), (qa_2, iA G 57 (fun _ => 0)), (qa_3, iA G 57 (fun _ => 0)), (qa_4, iA G 57 (fun _ => 0)), (qa_5, iA G 4 (fun _ => 0))] := hD
  refine va_putF (D := gD G) (ci := 0) (v := .ref qa_5) (ty := (.array .int)) (C := RX4) (T := TX4) (N := 20) hx hb hts in_X4 tyX4 tyX4_ok nmX4 hown hK hP hD hS 0 rfl rfl 8 (by decide) (hts _ q1081) (fun _ h9 => h9) rfl hname rfl (by decide +kernel) rfl rfl (Nat.le_of_ble_eq_true rfl) dX4_init_40 (fun H locs hP hD hS => ?_)
  have hP : PP G [(h, .inr (0, [.ref qa_1, .ref qa_2, .ref qa_3, .ref qa_4, .int 0, .int 0, .int 0, .int 0, .ref qa_5, .null, .null, .int 0, .int 0, .null, .null, .null, .null, .null, .null, .int 0])), (qa_1, iA G 57 (fun _ => 0)), (qa_2, iA G 57 (fun _ => 0)), (qa_3, iA G 57 (fun _ => 0)), (qa_4, iA G 57 (fun _ => 0)), (qa_5, iA G 4 (fun _ => 0))] H := hP
  have hD : va_D A [(h, .inr (0, [.ref qa_1, .ref qa_2, .ref qa_3, .ref qa_4, .int 0, .int 0, .int 0, .int 0, .ref qa_5, .null, .null, .int 0, .int 0, .null, .null, .null, .null, .null, .null, .int 0])), (qa_1, iA G 57 (fun _ => 0)), (qa_2, iA G 57 (fun _ => 0)), (qa_3, iA G 57 (fun _ => 0)), (qa_4, iA G 57 (fun _ => 0)), (qa_5, iA G 4 (fun _ => 0))] := hD
  refine lv_aload_n hx hb dX4_init_43 rfl (lv_at hl 0 rfl) ?_
  refine lv_bipush (v := 8) hx hb dX4_init_44 (by decide) ?_
  refine n_newi C hK hP hD hS hA 8 (by omega) (Nat.le_of_ble_eq_true rfl) (Nat.le_of_ble_eq_true rfl) dX4_init_46 (fun qa_6 H hP hD hS => ?_)
  have hP : PP G [(h, .inr (0, [.ref qa_1, .ref qa_2, .ref qa_3, .ref qa_4, .int 0, .int 0, .int 0, .int 0, .ref qa_5, .null, .null, .int 0, .int 0, .null, .null, .null, .null, .null, .null, .int 0])), (qa_1, iA G 57 (fun _ => 0)), (qa_2, iA G 57 (fun _ => 0)), (qa_3, iA G 57 (fun _ => 0)), (qa_4, iA G 57 (fun _ => 0)), (qa_5, iA G 4 (fun _ => 0)), (qa_6, iA G 8 (fun _ => 0))] H := hP
  have hD : va_D A [(h, .inr (0, [.ref qa_1, .ref qa_2, .ref qa_3, .ref qa_4, .int 0, .int 0, .int 0, .int 0, .ref qa_5, .null, .null, .int 0, .int 0, .null, .null, .null, .null, .null, .null, .int 0])), (qa_1, iA G 57 (fun _ => 0)), (qa_2, iA G 57 (fun _ => 0)), (qa_3, iA G 57 (fun _ => 0)), (qa_4, iA G 57 (fun _ => 0)), (qa_5, iA G 4 (fun _ => 0)), (qa_6, iA G 8 (fun _ => 0))] := hD
  refine va_putF (D := gD G) (ci := 0) (v := .ref qa_6) (ty := (.array .int)) (C := RX4) (T := TX4) (N := 20) hx hb hts in_X4 tyX4 tyX4_ok nmX4 hown hK hP hD hS 0 rfl rfl 9 (by decide) (hts _ q1082) (fun _ h9 => h9) rfl hname rfl (by decide +kernel) rfl rfl (Nat.le_of_ble_eq_true rfl) dX4_init_48 (fun H locs hP hD hS => ?_)
  have hP : PP G [(h, .inr (0, [.ref qa_1, .ref qa_2, .ref qa_3, .ref qa_4, .int 0, .int 0, .int 0, .int 0, .ref qa_5, .ref qa_6, .null, .int 0, .int 0, .null, .null, .null, .null, .null, .null, .int 0])), (qa_1, iA G 57 (fun _ => 0)), (qa_2, iA G 57 (fun _ => 0)), (qa_3, iA G 57 (fun _ => 0)), (qa_4, iA G 57 (fun _ => 0)), (qa_5, iA G 4 (fun _ => 0)), (qa_6, iA G 8 (fun _ => 0))] H := hP
  have hD : va_D A [(h, .inr (0, [.ref qa_1, .ref qa_2, .ref qa_3, .ref qa_4, .int 0, .int 0, .int 0, .int 0, .ref qa_5, .ref qa_6, .null, .int 0, .int 0, .null, .null, .null, .null, .null, .null, .int 0])), (qa_1, iA G 57 (fun _ => 0)), (qa_2, iA G 57 (fun _ => 0)), (qa_3, iA G 57 (fun _ => 0)), (qa_4, iA G 57 (fun _ => 0)), (qa_5, iA G 4 (fun _ => 0)), (qa_6, iA G 8 (fun _ => 0))] := hD
  refine lv_aload_n hx hb dX4_init_51 rfl (lv_at hl 0 rfl) ?_
  refine lv_bipush (v := 8) hx hb dX4_init_52 (by decide) ?_
  refine n_newi C hK hP hD hS hA 8 (by omega) (Nat.le_of_ble_eq_true rfl) (Nat.le_of_ble_eq_true rfl) dX4_init_54 (fun qa_7 H hP hD hS => ?_)
  have hP : PP G [(h, .inr (0, [.ref qa_1, .ref qa_2, .ref qa_3, .ref qa_4, .int 0, .int 0, .int 0, .int 0, .ref qa_5, .ref qa_6, .null, .int 0, .int 0, .null, .null, .null, .null, .null, .null, .int 0])), (qa_1, iA G 57 (fun _ => 0)), (qa_2, iA G 57 (fun _ => 0)), (qa_3, iA G 57 (fun _ => 0)), (qa_4, iA G 57 (fun _ => 0)), (qa_5, iA G 4 (fun _ => 0)), (qa_6, iA G 8 (fun _ => 0)), (qa_7, iA G 8 (fun _ => 0))] H := hP
  have hD : va_D A [(h, .inr (0, [.ref qa_1, .ref qa_2, .ref qa_3, .ref qa_4, .int 0, .int 0, .int 0, .int 0, .ref qa_5, .ref qa_6, .null, .int 0, .int 0, .null, .null, .null, .null, .null, .null, .int 0])), (qa_1, iA G 57 (fun _ => 0)), (qa_2, iA G 57 (fun _ => 0)), (qa_3, iA G 57 (fun _ => 0)), (qa_4, iA G 57 (fun _ => 0)), (qa_5, iA G 4 (fun _ => 0)), (qa_6, iA G 8 (fun _ => 0)), (qa_7, iA G 8 (fun _ => 0))] := hD
  refine va_putF (D := gD G) (ci := 0) (v := .ref qa_7) (ty := (.array .int)) (C := RX4) (T := TX4) (N := 20) hx hb hts in_X4 tyX4 tyX4_ok nmX4 hown hK hP hD hS 0 rfl rfl 10 (by decide) (hts _ q1083) (fun _ h9 => h9) rfl hname rfl (by decide +kernel) rfl rfl (Nat.le_of_ble_eq_true rfl) dX4_init_56 (fun H locs hP hD hS => ?_)
  have hP : PP G [(h, .inr (0, [.ref qa_1, .ref qa_2, .ref qa_3, .ref qa_4, .int 0, .int 0, .int 0, .int 0, .ref qa_5, .ref qa_6, .ref qa_7, .int 0, .int 0, .null, .null, .null, .null, .null, .null, .int 0])), (qa_1, iA G 57 (fun _ => 0)), (qa_2, iA G 57 (fun _ => 0)), (qa_3, iA G 57 (fun _ => 0)), (qa_4, iA G 57 (fun _ => 0)), (qa_5, iA G 4 (fun _ => 0)), (qa_6, iA G 8 (fun _ => 0)), (qa_7, iA G 8 (fun _ => 0))] H := hP
  have hD : va_D A [(h, .inr (0, [.ref qa_1, .ref qa_2, .ref qa_3, .ref qa_4, .int 0, .int 0, .int 0, .int 0, .ref qa_5, .ref qa_6, .ref qa_7, .int 0, .int 0, .null, .null, .null, .null, .null, .null, .int 0])), (qa_1, iA G 57 (fun _ => 0)), (qa_2, iA G 57 (fun _ => 0)), (qa_3, iA G 57 (fun _ => 0)), (qa_4, iA G 57 (fun _ => 0)), (qa_5, iA G 4 (fun _ => 0)), (qa_6, iA G 8 (fun _ => 0)), (qa_7, iA G 8 (fun _ => 0))] := hD
  refine lv_aload_n hx hb dX4_init_59 rfl (lv_at hl 0 rfl) ?_
  refine lv_bipush (v := 8) hx hb dX4_init_60 (by decide) ?_
  refine n_newi C hK hP hD hS hA 8 (by omega) (Nat.le_of_ble_eq_true rfl) (Nat.le_of_ble_eq_true rfl) dX4_init_62 (fun qa_8 H hP hD hS => ?_)
  have hP : PP G [(h, .inr (0, [.ref qa_1, .ref qa_2, .ref qa_3, .ref qa_4, .int 0, .int 0, .int 0, .int 0, .ref qa_5, .ref qa_6, .ref qa_7, .int 0, .int 0, .null, .null, .null, .null, .null, .null, .int 0])), (qa_1, iA G 57 (fun _ => 0)), (qa_2, iA G 57 (fun _ => 0)), (qa_3, iA G 57 (fun _ => 0)), (qa_4, iA G 57 (fun _ => 0)), (qa_5, iA G 4 (fun _ => 0)), (qa_6, iA G 8 (fun _ => 0)), (qa_7, iA G 8 (fun _ => 0)), (qa_8, iA G 8 (fun _ => 0))] H := hP
  have hD : va_D A [(h, .inr (0, [.ref qa_1, .ref qa_2, .ref qa_3, .ref qa_4, .int 0, .int 0, .int 0, .int 0, .ref qa_5, .ref qa_6, .ref qa_7, .int 0, .int 0, .null, .null, .null, .null, .null, .null, .int 0])), (qa_1, iA G 57 (fun _ => 0)), (qa_2, iA G 57 (fun _ => 0)), (qa_3, iA G 57 (fun _ => 0)), (qa_4, iA G 57 (fun _ => 0)), (qa_5, iA G 4 (fun _ => 0)), (qa_6, iA G 8 (fun _ => 0)), (qa_7, iA G 8 (fun _ => 0)), (qa_8, iA G 8 (fun _ => 0))] := hD
  refine va_putF (D := gD G) (ci := 0) (v := .ref qa_8) (ty := (.array .int)) (C := RX4) (T := TX4) (N := 20) hx hb hts in_X4 tyX4 tyX4_ok nmX4 hown hK hP hD hS 0 rfl rfl 13 (by decide) (hts _ q1086) (fun _ h9 => h9) rfl hname rfl (by decide +kernel) rfl rfl (Nat.le_of_ble_eq_true rfl) dX4_init_64 (fun H locs hP hD hS => ?_)
  have hP : PP G [(h, .inr (0, [.ref qa_1, .ref qa_2, .ref qa_3, .ref qa_4, .int 0, .int 0, .int 0, .int 0, .ref qa_5, .ref qa_6, .ref qa_7, .int 0, .int 0, .ref qa_8, .null, .null, .null, .null, .null, .int 0])), (qa_1, iA G 57 (fun _ => 0)), (qa_2, iA G 57 (fun _ => 0)), (qa_3, iA G 57 (fun _ => 0)), (qa_4, iA G 57 (fun _ => 0)), (qa_5, iA G 4 (fun _ => 0)), (qa_6, iA G 8 (fun _ => 0)), (qa_7, iA G 8 (fun _ => 0)), (qa_8, iA G 8 (fun _ => 0))] H := hP
  have hD : va_D A [(h, .inr (0, [.ref qa_1, .ref qa_2, .ref qa_3, .ref qa_4, .int 0, .int 0, .int 0, .int 0, .ref qa_5, .ref qa_6, .ref qa_7, .int 0, .int 0, .ref qa_8, .null, .null, .null, .null, .null, .int 0])), (qa_1, iA G 57 (fun _ => 0)), (qa_2, iA G 57 (fun _ => 0)), (qa_3, iA G 57 (fun _ => 0)), (qa_4, iA G 57 (fun _ => 0)), (qa_5, iA G 4 (fun _ => 0)), (qa_6, iA G 8 (fun _ => 0)), (qa_7, iA G 8 (fun _ => 0)), (qa_8, iA G 8 (fun _ => 0))] := hD
  refine lv_aload_n hx hb dX4_init_67 rfl (lv_at hl 0 rfl) ?_
  refine lv_bipush (v := 8) hx hb dX4_init_68 (by decide) ?_
  refine n_newi C hK hP hD hS hA 8 (by omega) (Nat.le_of_ble_eq_true rfl) (Nat.le_of_ble_eq_true rfl) dX4_init_70 (fun qa_9 H hP hD hS => ?_)
  have hP : PP G [(h, .inr (0, [.ref qa_1, .ref qa_2, .ref qa_3, .ref qa_4, .int 0, .int 0, .int 0, .int 0, .ref qa_5, .ref qa_6, .ref qa_7, .int 0, .int 0, .ref qa_8, .null, .null, .null, .null, .null, .int 0])), (qa_1, iA G 57 (fun _ => 0)), (qa_2, iA G 57 (fun _ => 0)), (qa_3, iA G 57 (fun _ => 0)), (qa_4, iA G 57 (fun _ => 0)), (qa_5, iA G 4 (fun _ => 0)), (qa_6, iA G 8 (fun _ => 0)), (qa_7, iA G 8 (fun _ => 0)), (qa_8, iA G 8 (fun _ => 0)), (qa_9, iA G 8 (fun _ => 0))] H := hP
  have hD : va_D A [(h, .inr (0, [.ref qa_1, .ref qa_2, .ref qa_3, .ref qa_4, .int 0, .int 0, .int 0, .int 0, .ref qa_5, .ref qa_6, .ref qa_7, .int 0, .int 0, .ref qa_8, .null, .null, .null, .null, .null, .int 0])), (qa_1, iA G 57 (fun _ => 0)), (qa_2, iA G 57 (fun _ => 0)), (qa_3, iA G 57 (fun _ => 0)), (qa_4, iA G 57 (fun _ => 0)), (qa_5, iA G 4 (fun _ => 0)), (qa_6, iA G 8 (fun _ => 0)), (qa_7, iA G 8 (fun _ => 0)), (qa_8, iA G 8 (fun _ => 0)), (qa_9, iA G 8 (fun _ => 0))] := hD
  refine va_putF (D := gD G) (ci := 0) (v := .ref qa_9) (ty := (.array .int)) (C := RX4) (T := TX4) (N := 20) hx hb hts in_X4 tyX4 tyX4_ok nmX4 hown hK hP hD hS 0 rfl rfl 14 (by decide) (hts _ q1087) (fun _ h9 => h9) rfl hname rfl (by decide +kernel) rfl rfl (Nat.le_of_ble_eq_true rfl) dX4_init_72 (fun H locs hP hD hS => ?_)
  have hP : PP G [(h, .inr (0, [.ref qa_1, .ref qa_2, .ref qa_3, .ref qa_4, .int 0, .int 0, .int 0, .int 0, .ref qa_5, .ref qa_6, .ref qa_7, .int 0, .int 0, .ref qa_8, .ref qa_9, .null, .null, .null, .null, .int 0])), (qa_1, iA G 57 (fun _ => 0)), (qa_2, iA G 57 (fun _ => 0)), (qa_3, iA G 57 (fun _ => 0)), (qa_4, iA G 57 (fun _ => 0)), (qa_5, iA G 4 (fun _ => 0)), (qa_6, iA G 8 (fun _ => 0)), (qa_7, iA G 8 (fun _ => 0)), (qa_8, iA G 8 (fun _ => 0)), (qa_9, iA G 8 (fun _ => 0))] H := hP
  have hD : va_D A [(h, .inr (0, [.ref qa_1, .ref qa_2, .ref qa_3, .ref qa_4, .int 0, .int 0, .int 0, .int 0, .ref qa_5, .ref qa_6, .ref qa_7, .int 0, .int 0, .ref qa_8, .ref qa_9, .null, .null, .null, .null, .int 0])), (qa_1, iA G 57 (fun _ => 0)), (qa_2, iA G 57 (fun _ => 0)), (qa_3, iA G 57 (fun _ => 0)), (qa_4, iA G 57 (fun _ => 0)), (qa_5, iA G 4 (fun _ => 0)), (qa_6, iA G 8 (fun _ => 0)), (qa_7, iA G 8 (fun _ => 0)), (qa_8, iA G 8 (fun _ => 0)), (qa_9, iA G 8 (fun _ => 0))] := hD
  refine lv_aload_n hx hb dX4_init_75 rfl (lv_at hl 0 rfl) ?_
  refine lv_bipush (v := 8) hx hb dX4_init_76 (by decide) ?_
  refine n_newi C hK hP hD hS hA 8 (by omega) (Nat.le_of_ble_eq_true rfl) (Nat.le_of_ble_eq_true rfl) dX4_init_78 (fun qa_10 H hP hD hS => ?_)
  have hP : PP G [(h, .inr (0, [.ref qa_1, .ref qa_2, .ref qa_3, .ref qa_4, .int 0, .int 0, .int 0, .int 0, .ref qa_5, .ref qa_6, .ref qa_7, .int 0, .int 0, .ref qa_8, .ref qa_9, .null, .null, .null, .null, .int 0])), (qa_1, iA G 57 (fun _ => 0)), (qa_2, iA G 57 (fun _ => 0)), (qa_3, iA G 57 (fun _ => 0)), (qa_4, iA G 57 (fun _ => 0)), (qa_5, iA G 4 (fun _ => 0)), (qa_6, iA G 8 (fun _ => 0)), (qa_7, iA G 8 (fun _ => 0)), (qa_8, iA G 8 (fun _ => 0)), (qa_9, iA G 8 (fun _ => 0)), (qa_10, iA G 8 (fun _ => 0))] H := hP
  have hD : va_D A [(h, .inr (0, [.ref qa_1, .ref qa_2, .ref qa_3, .ref qa_4, .int 0, .int 0, .int 0, .int 0, .ref qa_5, .ref qa_6, .ref qa_7, .int 0, .int 0, .ref qa_8, .ref qa_9, .null, .null, .null, .null, .int 0])), (qa_1, iA G 57 (fun _ => 0)), (qa_2, iA G 57 (fun _ => 0)), (qa_3, iA G 57 (fun _ => 0)), (qa_4, iA G 57 (fun _ => 0)), (qa_5, iA G 4 (fun _ => 0)), (qa_6, iA G 8 (fun _ => 0)), (qa_7, iA G 8 (fun _ => 0)), (qa_8, iA G 8 (fun _ => 0)), (qa_9, iA G 8 (fun _ => 0)), (qa_10, iA G 8 (fun _ => 0))] := hD
  refine va_putF (D := gD G) (ci := 0) (v := .ref qa_10) (ty := (.array .int)) (C := RX4) (T := TX4) (N := 20) hx hb hts in_X4 tyX4 tyX4_ok nmX4 hown hK hP hD hS 0 rfl rfl 15 (by decide) (hts _ q1088) (fun _ h9 => h9) rfl hname rfl (by decide +kernel) rfl rfl (Nat.le_of_ble_eq_true rfl) dX4_init_80 (fun H locs hP hD hS => ?_)
  have hP : PP G [(h, .inr (0, [.ref qa_1, .ref qa_2, .ref qa_3, .ref qa_4, .int 0, .int 0, .int 0, .int 0, .ref qa_5, .ref qa_6, .ref qa_7, .int 0, .int 0, .ref qa_8, .ref qa_9, .ref qa_10, .null, .null, .null, .int 0])), (qa_1, iA G 57 (fun _ => 0)), (qa_2, iA G 57 (fun _ => 0)), (qa_3, iA G 57 (fun _ => 0)), (qa_4, iA G 57 (fun _ => 0)), (qa_5, iA G 4 (fun _ => 0)), (qa_6, iA G 8 (fun _ => 0)), (qa_7, iA G 8 (fun _ => 0)), (qa_8, iA G 8 (fun _ => 0)), (qa_9, iA G 8 (fun _ => 0)), (qa_10, iA G 8 (fun _ => 0))] H := hP
  have hD : va_D A [(h, .inr (0, [.ref qa_1, .ref qa_2, .ref qa_3, .ref qa_4, .int 0, .int 0, .int 0, .int 0, .ref qa_5, .ref qa_6, .ref qa_7, .int 0, .int 0, .ref qa_8, .ref qa_9, .ref qa_10, .null, .null, .null, .int 0])), (qa_1, iA G 57 (fun _ => 0)), (qa_2, iA G 57 (fun _ => 0)), (qa_3, iA G 57 (fun _ => 0)), (qa_4, iA G 57 (fun _ => 0)), (qa_5, iA G 4 (fun _ => 0)), (qa_6, iA G 8 (fun _ => 0)), (qa_7, iA G 8 (fun _ => 0)), (qa_8, iA G 8 (fun _ => 0)), (qa_9, iA G 8 (fun _ => 0)), (qa_10, iA G 8 (fun _ => 0))] := hD
  refine lv_aload_n hx hb dX4_init_83 rfl (lv_at hl 0 rfl) ?_
  refine lv_bipush (v := 8) hx hb dX4_init_84 (by decide) ?_
  refine n_newi C hK hP hD hS hA 8 (by omega) (Nat.le_of_ble_eq_true rfl) (Nat.le_of_ble_eq_true rfl) dX4_init_86 (fun qa_11 H hP hD hS => ?_)
  have hP : PP G [(h, .inr (0, [.ref qa_1, .ref qa_2, .ref qa_3, .ref qa_4, .int 0, .int 0, .int 0, .int 0, .ref qa_5, .ref qa_6, .ref qa_7, .int 0, .int 0, .ref qa_8, .ref qa_9, .ref qa_10, .null, .null, .null, .int 0])), (qa_1, iA G 57 (fun _ => 0)), (qa_2, iA G 57 (fun _ => 0)), (qa_3, iA G 57 (fun _ => 0)), (qa_4, iA G 57 (fun _ => 0)), (qa_5, iA G 4 (fun _ => 0)), (qa_6, iA G 8 (fun _ => 0)), (qa_7, iA G 8 (fun _ => 0)), (qa_8, iA G 8 (fun _ => 0)), (qa_9, iA G 8 (fun _ => 0)), (qa_10, iA G 8 (fun _ => 0)), (qa_11, iA G 8 (fun _ => 0))] H := hP
  have hD : va_D A [(h, .inr (0, [.ref qa_1, .ref qa_2, .ref qa_3, .ref qa_4, .int 0, .int 0, .int 0, .int 0, .ref qa_5, .ref qa_6, .ref qa_7, .int 0, .int 0, .ref qa_8, .ref qa_9, .ref qa_10, .null, .null, .null, .int 0])), (qa_1, iA G 57 (fun _ => 0)), (qa_2, iA G 57 (fun _ => 0)), (qa_3, iA G 57 (fun _ => 0)), (qa_4, iA G 57 (fun _ => 0)), (qa_5, iA G 4 (fun _ => 0)), (qa_6, iA G 8 (fun _ => 0)), (qa_7, iA G 8 (fun _ => 0)), (qa_8, iA G 8 (fun _ => 0)), (qa_9, iA G 8 (fun _ => 0)), (qa_10, iA G 8 (fun _ => 0)), (qa_11, iA G 8 (fun _ => 0))] := hD
  refine va_putF (D := gD G) (ci := 0) (v := .ref qa_11) (ty := (.array .int)) (C := RX4) (T := TX4) (N := 20) hx hb hts in_X4 tyX4 tyX4_ok nmX4 hown hK hP hD hS 0 rfl rfl 16 (by decide) (hts _ q1089) (fun _ h9 => h9) rfl hname rfl (by decide +kernel) rfl rfl (Nat.le_of_ble_eq_true rfl) dX4_init_88 (fun H locs hP hD hS => ?_)
  have hP : PP G [(h, .inr (0, [.ref qa_1, .ref qa_2, .ref qa_3, .ref qa_4, .int 0, .int 0, .int 0, .int 0, .ref qa_5, .ref qa_6, .ref qa_7, .int 0, .int 0, .ref qa_8, .ref qa_9, .ref qa_10, .ref qa_11, .null, .null, .int 0])), (qa_1, iA G 57 (fun _ => 0)), (qa_2, iA G 57 (fun _ => 0)), (qa_3, iA G 57 (fun _ => 0)), (qa_4, iA G 57 (fun _ => 0)), (qa_5, iA G 4 (fun _ => 0)), (qa_6, iA G 8 (fun _ => 0)), (qa_7, iA G 8 (fun _ => 0)), (qa_8, iA G 8 (fun _ => 0)), (qa_9, iA G 8 (fun _ => 0)), (qa_10, iA G 8 (fun _ => 0)), (qa_11, iA G 8 (fun _ => 0))] H := hP
  have hD : va_D A [(h, .inr (0, [.ref qa_1, .ref qa_2, .ref qa_3, .ref qa_4, .int 0, .int 0, .int 0, .int 0, .ref qa_5, .ref qa_6, .ref qa_7, .int 0, .int 0, .ref qa_8, .ref qa_9, .ref qa_10, .ref qa_11, .null, .null, .int 0])), (qa_1, iA G 57 (fun _ => 0)), (qa_2, iA G 57 (fun _ => 0)), (qa_3, iA G 57 (fun _ => 0)), (qa_4, iA G 57 (fun _ => 0)), (qa_5, iA G 4 (fun _ => 0)), (qa_6, iA G 8 (fun _ => 0)), (qa_7, iA G 8 (fun _ => 0)), (qa_8, iA G 8 (fun _ => 0)), (qa_9, iA G 8 (fun _ => 0)), (qa_10, iA G 8 (fun _ => 0)), (qa_11, iA G 8 (fun _ => 0))] := hD
  refine lv_aload_n hx hb dX4_init_91 rfl (lv_at hl 0 rfl) ?_
  refine lv_bipush (v := 8) hx hb dX4_init_92 (by decide) ?_
  refine n_newi C hK hP hD hS hA 8 (by omega) (Nat.le_of_ble_eq_true rfl) (Nat.le_of_ble_eq_true rfl) dX4_init_94 (fun qa_12 H hP hD hS => ?_)
  have hP : PP G [(h, .inr (0, [.ref qa_1, .ref qa_2, .ref qa_3, .ref qa_4, .int 0, .int 0, .int 0, .int 0, .ref qa_5, .ref qa_6, .ref qa_7, .int 0, .int 0, .ref qa_8, .ref qa_9, .ref qa_10, .ref qa_11, .null, .null, .int 0])), (qa_1, iA G 57 (fun _ => 0)), (qa_2, iA G 57 (fun _ => 0)), (qa_3, iA G 57 (fun _ => 0)), (qa_4, iA G 57 (fun _ => 0)), (qa_5, iA G 4 (fun _ => 0)), (qa_6, iA G 8 (fun _ => 0)), (qa_7, iA G 8 (fun _ => 0)), (qa_8, iA G 8 (fun _ => 0)), (qa_9, iA G 8 (fun _ => 0)), (qa_10, iA G 8 (fun _ => 0)), (qa_11, iA G 8 (fun _ => 0)), (qa_12, iA G 8 (fun _ => 0))] H := hP
  have hD : va_D A [(h, .inr (0, [.ref qa_1, .ref qa_2, .ref qa_3, .ref qa_4, .int 0, .int 0, .int 0, .int 0, .ref qa_5, .ref qa_6, .ref qa_7, .int 0, .int 0, .ref qa_8, .ref qa_9, .ref qa_10, .ref qa_11, .null, .null, .int 0])), (qa_1, iA G 57 (fun _ => 0)), (qa_2, iA G 57 (fun _ => 0)), (qa_3, iA G 57 (fun _ => 0)), (qa_4, iA G 57 (fun _ => 0)), (qa_5, iA G 4 (fun _ => 0)), (qa_6, iA G 8 (fun _ => 0)), (qa_7, iA G 8 (fun _ => 0)), (qa_8, iA G 8 (fun _ => 0)), (qa_9, iA G 8 (fun _ => 0)), (qa_10, iA G 8 (fun _ => 0)), (qa_11, iA G 8 (fun _ => 0)), (qa_12, iA G 8 (fun _ => 0))] := hD
  refine va_putF (D := gD G) (ci := 0) (v := .ref qa_12) (ty := (.array .int)) (C := RX4) (T := TX4) (N := 20) hx hb hts in_X4 tyX4 tyX4_ok nmX4 hown hK hP hD hS 0 rfl rfl 17 (by decide) (hts _ q1090) (fun _ h9 => h9) rfl hname rfl (by decide +kernel) rfl rfl (Nat.le_of_ble_eq_true rfl) dX4_init_96 (fun H locs hP hD hS => ?_)
  have hP : PP G [(h, .inr (0, [.ref qa_1, .ref qa_2, .ref qa_3, .ref qa_4, .int 0, .int 0, .int 0, .int 0, .ref qa_5, .ref qa_6, .ref qa_7, .int 0, .int 0, .ref qa_8, .ref qa_9, .ref qa_10, .ref qa_11, .ref qa_12, .null, .int 0])), (qa_1, iA G 57 (fun _ => 0)), (qa_2, iA G 57 (fun _ => 0)), (qa_3, iA G 57 (fun _ => 0)), (qa_4, iA G 57 (fun _ => 0)), (qa_5, iA G 4 (fun _ => 0)), (qa_6, iA G 8 (fun _ => 0)), (qa_7, iA G 8 (fun _ => 0)), (qa_8, iA G 8 (fun _ => 0)), (qa_9, iA G 8 (fun _ => 0)), (qa_10, iA G 8 (fun _ => 0)), (qa_11, iA G 8 (fun _ => 0)), (qa_12, iA G 8 (fun _ => 0))] H := hP
  have hD : va_D A [(h, .inr (0, [.ref qa_1, .ref qa_2, .ref qa_3, .ref qa_4, .int 0, .int 0, .int 0, .int 0, .ref qa_5, .ref qa_6, .ref qa_7, .int 0, .int 0, .ref qa_8, .ref qa_9, .ref qa_10, .ref qa_11, .ref qa_12, .null, .int 0])), (qa_1, iA G 57 (fun _ => 0)), (qa_2, iA G 57 (fun _ => 0)), (qa_3, iA G 57 (fun _ => 0)), (qa_4, iA G 57 (fun _ => 0)), (qa_5, iA G 4 (fun _ => 0)), (qa_6, iA G 8 (fun _ => 0)), (qa_7, iA G 8 (fun _ => 0)), (qa_8, iA G 8 (fun _ => 0)), (qa_9, iA G 8 (fun _ => 0)), (qa_10, iA G 8 (fun _ => 0)), (qa_11, iA G 8 (fun _ => 0)), (qa_12, iA G 8 (fun _ => 0))] := hD
  refine lv_aload_n hx hb dX4_init_99 rfl (lv_at hl 0 rfl) ?_
  refine lv_sipush (v := 800) hx hb dX4_init_100 (by decide) ?_
  refine n_newi C hK hP hD hS hA 800 (by omega) (Nat.le_of_ble_eq_true rfl) (Nat.le_of_ble_eq_true rfl) dX4_init_103 (fun qa_13 H hP hD hS => ?_)
  have hP : PP G [(h, .inr (0, [.ref qa_1, .ref qa_2, .ref qa_3, .ref qa_4, .int 0, .int 0, .int 0, .int 0, .ref qa_5, .ref qa_6, .ref qa_7, .int 0, .int 0, .ref qa_8, .ref qa_9, .ref qa_10, .ref qa_11, .ref qa_12, .null, .int 0])), (qa_1, iA G 57 (fun _ => 0)), (qa_2, iA G 57 (fun _ => 0)), (qa_3, iA G 57 (fun _ => 0)), (qa_4, iA G 57 (fun _ => 0)), (qa_5, iA G 4 (fun _ => 0)), (qa_6, iA G 8 (fun _ => 0)), (qa_7, iA G 8 (fun _ => 0)), (qa_8, iA G 8 (fun _ => 0)), (qa_9, iA G 8 (fun _ => 0)), (qa_10, iA G 8 (fun _ => 0)), (qa_11, iA G 8 (fun _ => 0)), (qa_12, iA G 8 (fun _ => 0)), (qa_13, iA G 800 (fun _ => 0))] H := hP
  have hD : va_D A [(h, .inr (0, [.ref qa_1, .ref qa_2, .ref qa_3, .ref qa_4, .int 0, .int 0, .int 0, .int 0, .ref qa_5, .ref qa_6, .ref qa_7, .int 0, .int 0, .ref qa_8, .ref qa_9, .ref qa_10, .ref qa_11, .ref qa_12, .null, .int 0])), (qa_1, iA G 57 (fun _ => 0)), (qa_2, iA G 57 (fun _ => 0)), (qa_3, iA G 57 (fun _ => 0)), (qa_4, iA G 57 (fun _ => 0)), (qa_5, iA G 4 (fun _ => 0)), (qa_6, iA G 8 (fun _ => 0)), (qa_7, iA G 8 (fun _ => 0)), (qa_8, iA G 8 (fun _ => 0)), (qa_9, iA G 8 (fun _ => 0)), (qa_10, iA G 8 (fun _ => 0)), (qa_11, iA G 8 (fun _ => 0)), (qa_12, iA G 8 (fun _ => 0)), (qa_13, iA G 800 (fun _ => 0))] := hD
  refine va_putF (D := gD G) (ci := 0) (v := .ref qa_13) (ty := (.array .int)) (C := RX4) (T := TX4) (N := 20) hx hb hts in_X4 tyX4 tyX4_ok nmX4 hown hK hP hD hS 0 rfl rfl 18 (by decide) (hts _ q1091) (fun _ h9 => h9) rfl hname rfl (by decide +kernel) rfl rfl (Nat.le_of_ble_eq_true rfl) dX4_init_105 (fun H locs hP hD hS => ?_)
  have hP : PP G [(h, .inr (0, [.ref qa_1, .ref qa_2, .ref qa_3, .ref qa_4, .int 0, .int 0, .int 0, .int 0, .ref qa_5, .ref qa_6, .ref qa_7, .int 0, .int 0, .ref qa_8, .ref qa_9, .ref qa_10, .ref qa_11, .ref qa_12, .ref qa_13, .int 0])), (qa_1, iA G 57 (fun _ => 0)), (qa_2, iA G 57 (fun _ => 0)), (qa_3, iA G 57 (fun _ => 0)), (qa_4, iA G 57 (fun _ => 0)), (qa_5, iA G 4 (fun _ => 0)), (qa_6, iA G 8 (fun _ => 0)), (qa_7, iA G 8 (fun _ => 0)), (qa_8, iA G 8 (fun _ => 0)), (qa_9, iA G 8 (fun _ => 0)), (qa_10, iA G 8 (fun _ => 0)), (qa_11, iA G 8 (fun _ => 0)), (qa_12, iA G 8 (fun _ => 0)), (qa_13, iA G 800 (fun _ => 0))] H := hP
  have hD : va_D A [(h, .inr (0, [.ref qa_1, .ref qa_2, .ref qa_3, .ref qa_4, .int 0, .int 0, .int 0, .int 0, .ref qa_5, .ref qa_6, .ref qa_7, .int 0, .int 0, .ref qa_8, .ref qa_9, .ref qa_10, .ref qa_11, .ref qa_12, .ref qa_13, .int 0])), (qa_1, iA G 57 (fun _ => 0)), (qa_2, iA G 57 (fun _ => 0)), (qa_3, iA G 57 (fun _ => 0)), (qa_4, iA G 57 (fun _ => 0)), (qa_5, iA G 4 (fun _ => 0)), (qa_6, iA G 8 (fun _ => 0)), (qa_7, iA G 8 (fun _ => 0)), (qa_8, iA G 8 (fun _ => 0)), (qa_9, iA G 8 (fun _ => 0)), (qa_10, iA G 8 (fun _ => 0)), (qa_11, iA G 8 (fun _ => 0)), (qa_12, iA G 8 (fun _ => 0)), (qa_13, iA G 800 (fun _ => 0))] := hD
  exact n_vretW (w1 := [(h, .inr (0, [.ref qa_1, .ref qa_2, .ref qa_3, .ref qa_4, .int 0, .int 0, .int 0, .int 0, .ref qa_5, .ref qa_6, .ref qa_7, .int 0, .int 0, .ref qa_8, .ref qa_9, .ref qa_10, .ref qa_11, .ref qa_12, .ref qa_13, .int 0])), (qa_1, iA G 57 (fun _ => 0)), (qa_2, iA G 57 (fun _ => 0)), (qa_3, iA G 57 (fun _ => 0)), (qa_4, iA G 57 (fun _ => 0)), (qa_5, iA G 4 (fun _ => 0)), (qa_6, iA G 8 (fun _ => 0)), (qa_7, iA G 8 (fun _ => 0)), (qa_8, iA G 8 (fun _ => 0)), (qa_9, iA G 8 (fun _ => 0)), (qa_10, iA G 8 (fun _ => 0)), (qa_11, iA G 8 (fun _ => 0)), (qa_12, iA G 8 (fun _ => 0)), (qa_13, iA G 800 (fun _ => 0))]) C (⟨fun j => if j = 0 then qa_1 else if j = 1 then qa_2 else if j = 2 then qa_3 else if j = 3 then qa_4 else if j = 8 then qa_5 else if j = 9 then qa_6 else if j = 10 then qa_7 else if j = 13 then qa_8 else if j = 14 then qa_9 else if j = 15 then qa_10 else if j = 16 then qa_11 else if j = 17 then qa_12 else if j = 18 then qa_13 else 0, rfl⟩) hP hD hS (by first | omega | decide) (by first | omega | decide) dX4_init_108
