set_option maxHeartbeats 4000000 in
set_option maxRecDepth 100000 in
theorem metX4_hungerAll (l : Launch) (G : GG) (h : Nat) (ad : Nat → Nat) (iv : Nat → Int32) (r : Nat → Int32) (N : Nat)  (hN : N ≤ 9) (hr : r 0 = nI N) : MR l yX4_hungerAll cX4_hungerAll 3 (some .int) ({ frames := 1, cells := 0, slots := 0, locals := 21 }) [.ref h] [(h, mO ad iv), (ad 0, iA G 57 r)] G (KM G) (sHun r N) := by
  -- rows printed by wip/tools/gen.py
  refine mr_mk RX4 (by decide) rfl (Nat.le_of_ble_eq_true rfl) ?_
  intro p0_ e0_ s m args below meth c C hP hK ls hl
  have hx := C.1
  have hb := C.2.1
  have hml := C.2.2.2.2.1
  have hown := C.2.2.2.2.2.1
  have hts := C.2.2.2.2.2.2
  have hl : lv_has ls 3 [(0, .ref h)] := hl
  refine lv_iconst (v := 0) hx hb dX4_hungerAll_0 (by decide) ?_
  refine lv_istore_n (lv' := [(1, .int 0), (0, .ref h)]) hx hb dX4_hungerAll_1 rfl hl (Nat.le_of_ble_eq_true rfl) rfl (fun ls hl => ?_)
  refine lv_iconst (v := 0) hx hb dX4_hungerAll_2 (by decide) ?_
  refine lv_istore_n (lv' := [(2, .int 0), (1, .int 0), (0, .ref h)]) hx hb dX4_hungerAll_3 rfl hl (Nat.le_of_ble_eq_true rfl) rfl (fun ls hl => ?_)
  suffices hlp_1 : (∀ (n i : Nat), i + n = N → ∀ (ls : Array Slot), lv_has ls 3 [(2, .int (nI i)), (1, .int (sHun r i)), (0, .ref h)] → W p0_ l e0_ ({ frames := 1, cells := 0, slots := 0, locals := 21 } : Room) s m args below meth c s.heap [] (0) (0) (MQ below (vp_Si (fun rr9 => rr9 = sHun r N)) args s 0 0 (fun _ => False)) (F0 m 4 ls [])) by
    exact hlp_1 (N) 0 (by omega) ls (lv_sub hl [0, 1, 2] rfl)
  have hend_1 : ∀ (ls : Array Slot), lv_has ls 3 [(2, .int (nI N)), (1, .int (sHun r N)), (0, .ref h)] → W p0_ l e0_ ({ frames := 1, cells := 0, slots := 0, locals := 21 } : Room) s m args below meth c s.heap [] (0) (0) (MQ below (vp_Si (fun rr9 => rr9 = sHun r N)) args s 0 0 (fun _ => False)) (F0 m 4 ls []) := by
    intro ls hl
    refine lv_iload_n hx hb dX4_hungerAll_4 rfl (lv_at hl 0 rfl) ?_
    refine lv_aload_n hx hb dX4_hungerAll_5 rfl (lv_at hl 2 rfl) ?_
    refine va_get (D := gD G) (ci := 0) (v := .ref (ad 0)) (C := RX4) (T := TX4) (N := 20) hx hb hts in_X4 hown hK hP 0 rfl rfl 0 (by decide) (hts _ q1073) (fun _ h9 => h9) rfl dX4_hungerAll_6 ?_
    refine lv_iconst (v := 0) hx hb dX4_hungerAll_9 (by decide) ?_
    refine n_iald C hK hP 1 0 rfl (by omega) (by omega) dX4_hungerAll_10 ?_
    refine n_eqi (hr) ?_
    refine n_ic_ge (x := N) (y := N) (tgt := 33) hx hb (by omega) (by omega) dX4_hungerAll_11 (by decide) (fun c_2 => ?_) (fun c_2 => absurd c_2 (by omega))
    refine lv_iload_n hx hb dX4_hungerAll_33 rfl (lv_at hl 1 rfl) ?_
    exact n_iret (v := sHun r N) C (rfl) dX4_hungerAll_34
  intro n
  induction n with
  | zero =>
    intro i hi_1 ls hl
    obtain e_1 : i = N := by omega
    first | (subst e_1; exact hend_1 ls hl) | (rw [e_1] at hl; exact hend_1 ls hl)
  | succ n ih_1 =>
    intro i hi_1 ls hl
    refine lv_iload_n hx hb dX4_hungerAll_4 rfl (lv_at hl 0 rfl) ?_
    refine lv_aload_n hx hb dX4_hungerAll_5 rfl (lv_at hl 2 rfl) ?_
    refine va_get (D := gD G) (ci := 0) (v := .ref (ad 0)) (C := RX4) (T := TX4) (N := 20) hx hb hts in_X4 hown hK hP 0 rfl rfl 0 (by decide) (hts _ q1073) (fun _ h9 => h9) rfl dX4_hungerAll_6 ?_
    refine lv_iconst (v := 0) hx hb dX4_hungerAll_9 (by decide) ?_
    refine n_iald C hK hP 1 0 rfl (by omega) (by omega) dX4_hungerAll_10 ?_
    refine n_eqi (hr) ?_
    refine n_ic_ge (x := i) (y := N) (tgt := 33) hx hb (by omega) (by omega) dX4_hungerAll_11 (by decide) (fun c_3 => absurd c_3 (by omega)) (fun c_3 => ?_)
    refine lv_iload_n hx hb dX4_hungerAll_14 rfl (lv_at hl 1 rfl) ?_
    refine lv_aload_n hx hb dX4_hungerAll_15 rfl (lv_at hl 2 rfl) ?_
    refine va_get (D := gD G) (ci := 0) (v := .ref (ad 0)) (C := RX4) (T := TX4) (N := 20) hx hb hts in_X4 hown hK hP 0 rfl rfl 0 (by decide) (hts _ q1073) (fun _ h9 => h9) rfl dX4_hungerAll_16 ?_
    refine lv_iload_n hx hb dX4_hungerAll_19 rfl (lv_at hl 0 rfl) ?_
    refine lv_iconst (v := 2) hx hb dX4_hungerAll_20 (by decide) ?_
    refine c_S (rest := [.ref (ad 0), .int (sHun r i)]) C (metX4_of l G i 2) 2 (lw_S q1170 q1171 q42 q1172) (by decide +kernel) ⟨rfl, rfl⟩ ⟨(Nat.le_of_ble_eq_true rfl), (Nat.le_of_ble_eq_true rfl)⟩ (KM_mv G) (hP.sub (ws' := []) [] rfl) hK hl rfl rfl (Nat.le_of_ble_eq_true rfl) ⟨(Nat.le_of_ble_eq_true rfl), (Nat.le_of_ble_eq_true rfl)⟩ dX4_hungerAll_21 ?_
    refine n_iald C hK hP 1 (3 + 6 * i + 2) rfl (by omega) (by omega) dX4_hungerAll_24 ?_
    refine lv_iadd (x := sHun r i) (y := r (3 + 6 * i + 2)) hx hb dX4_hungerAll_25 ?_
    refine lv_istore_n (lv' := [(1, .int ((sHun r i) + (r (3 + 6 * i + 2)))), (2, .int (nI i)), (0, .ref h)]) hx hb dX4_hungerAll_26 rfl hl (Nat.le_of_ble_eq_true rfl) rfl (fun ls hl => ?_)
    refine n_iinc (k := 1) (lv' := [(2, .int (nI (i + 1))), (1, .int ((sHun r i) + (r (3 + 6 * i + 2)))), (0, .ref h)]) hx hb i 1 dX4_hungerAll_27 hl rfl (Nat.le_of_ble_eq_true rfl) rfl (fun ls hl => ?_)
    refine lv_goto (tgt := 4) hx hb dX4_hungerAll_30 (by decide) ?_
    have e_4 : sHun r (i + 1) = (sHun r i) + (r (3 + 6 * i + 2)) := by rfl
    exact ih_1 (i + 1) (by omega) ls (by rw [e_4]; exact lv_sub hl [0, 1, 2] rfl)

set_option maxHeartbeats 4000000 in
set_option maxRecDepth 100000 in
theorem metX4_partOfSlices (l : Launch) (G : GG) (h : Nat) (ad : Nat → Nat) (iv : Nat → Int32) (r : Nat → Int32) (N : Nat) (p : Nat) (hN : N ≤ 9) (hr : r 0 = nI N) (hp : p < 9) : MR l yX4_partOfSlices cX4_partOfSlices 2 (some .int) ({ frames := 2, cells := 0, slots := 0, locals := 43 }) [.ref h, .int (nI p)] [(h, mO ad iv), (ad 0, iA G 57 r)] G (KM G) (sPart r N p) := by
  -- rows printed by wip/tools/gen.py
  refine mr_mk RX4 (by decide) rfl (Nat.le_of_ble_eq_true rfl) ?_
  intro p0_ e0_ s m args below meth c C hP hK ls hl
  have hx := C.1
  have hb := C.2.1
  have hml := C.2.2.2.2.1
  have hown := C.2.2.2.2.2.1
  have hts := C.2.2.2.2.2.2
  have hl : lv_has ls 2 [(0, .ref h), (1, .int (nI p))] := hl
  refine lv_aload_n hx hb dX4_partOfSlices_0 rfl (lv_at hl 0 rfl) ?_
  refine c_V (rest := []) C (metX4_hungerAll l G h ad iv r N (by omega) (hr)) 0 (lw_V q1338 q1340 qs36 q42 q1341) (by decide +kernel) ⟨rfl, rfl⟩ ⟨(Nat.le_of_ble_eq_true rfl), (Nat.le_of_ble_eq_true rfl)⟩ (KM_mv G) (va_recv hK hP (ci := 0) (q0 := 0) rfl rfl) hP hK hl rfl rfl (Nat.le_of_ble_eq_true rfl) ⟨(Nat.le_of_ble_eq_true rfl), (Nat.le_of_ble_eq_true rfl)⟩ dX4_partOfSlices_1 ?_
  refine lv_if_ne (x := sHun r N) (tgt := 11) hx hb dX4_partOfSlices_4 (by decide) (fun c_1 => ?_) (fun c_1 => ?_)
  · refine lv_aload_n hx hb dX4_partOfSlices_11 rfl (lv_at hl 0 rfl) ?_
    refine va_get (D := gD G) (ci := 0) (v := .ref (ad 0)) (C := RX4) (T := TX4) (N := 20) hx hb hts in_X4 hown hK hP 0 rfl rfl 0 (by decide) (hts _ q1073) (fun _ h9 => h9) rfl dX4_partOfSlices_12 ?_
    refine lv_iconst (v := 1) hx hb dX4_partOfSlices_15 (by decide) ?_
    refine n_iald C hK hP 1 1 rfl (by omega) (by omega) dX4_partOfSlices_16 ?_
    refine lv_aload_n hx hb dX4_partOfSlices_17 rfl (lv_at hl 0 rfl) ?_
    refine va_get (D := gD G) (ci := 0) (v := .ref (ad 0)) (C := RX4) (T := TX4) (N := 20) hx hb hts in_X4 hown hK hP 0 rfl rfl 0 (by decide) (hts _ q1073) (fun _ h9 => h9) rfl dX4_partOfSlices_18 ?_
    refine lv_iload_n hx hb dX4_partOfSlices_21 rfl (lv_at hl 1 rfl) ?_
    refine lv_iconst (v := 2) hx hb dX4_partOfSlices_22 (by decide) ?_
    refine c_S (rest := [.ref (ad 0), .int (r 1)]) C (metX4_of l G p 2) 2 (lw_S q1170 q1171 q42 q1172) (by decide +kernel) ⟨rfl, rfl⟩ ⟨(Nat.le_of_ble_eq_true rfl), (Nat.le_of_ble_eq_true rfl)⟩ (KM_mv G) (hP.sub (ws' := []) [] rfl) hK hl rfl rfl (Nat.le_of_ble_eq_true rfl) ⟨(Nat.le_of_ble_eq_true rfl), (Nat.le_of_ble_eq_true rfl)⟩ dX4_partOfSlices_23 ?_
    refine n_iald C hK hP 1 (3 + 6 * p + 2) rfl (by omega) (by omega) dX4_partOfSlices_26 ?_
    refine lv_imul (x := r 1) (y := r (3 + 6 * p + 2)) hx hb dX4_partOfSlices_27 ?_
    refine lv_aload_n hx hb dX4_partOfSlices_28 rfl (lv_at hl 0 rfl) ?_
    refine c_V (rest := [.int ((r 1) * (r (3 + 6 * p + 2)))]) C (metX4_hungerAll l G h ad iv r N (by omega) (hr)) 0 (lw_V q1338 q1340 qs36 q42 q1341) (by decide +kernel) ⟨rfl, rfl⟩ ⟨(Nat.le_of_ble_eq_true rfl), (Nat.le_of_ble_eq_true rfl)⟩ (KM_mv G) (va_recv hK hP (ci := 0) (q0 := 0) rfl rfl) hP hK hl rfl rfl (Nat.le_of_ble_eq_true rfl) ⟨(Nat.le_of_ble_eq_true rfl), (Nat.le_of_ble_eq_true rfl)⟩ dX4_partOfSlices_29 ?_
    refine lv_idiv (x := (r 1) * (r (3 + 6 * p + 2))) (y := sHun r N) hx hb dX4_partOfSlices_32 (by assumption) ?_
    exact n_iret (v := ((r 1) * (r (3 + 6 * p + 2))) / (sHun r N)) C (by simp [sPart, c_1]) dX4_partOfSlices_33
  · refine lv_iconst (v := 0) hx hb dX4_partOfSlices_7 (by decide) ?_
    refine lv_goto (tgt := 33) hx hb dX4_partOfSlices_8 (by decide) ?_
    exact n_iret (v := 0) C (by simp [sPart, c_1]) dX4_partOfSlices_33

set_option maxHeartbeats 4000000 in
set_option maxRecDepth 100000 in
theorem metX4_shares (l : Launch) (G : GG) (h : Nat) (ad : Nat → Nat) (iv : Nat → Int32) (r : Nat → Int32) (N : Nat) (p : Int32) (hN : N ≤ 9) (hr : r 0 = nI N) : MR l yX4_shares cX4_shares 4 (some .int) ({ frames := 3, cells := 0, slots := 0, locals := 64 }) [.ref h, .int p] [(h, mO ad iv), (ad 0, iA G 57 r)] G (KM G) (sSharesA r N p) := by
  -- rows printed by wip/tools/gen.py
  refine mr_mk RX4 (by decide) rfl (Nat.le_of_ble_eq_true rfl) ?_
  intro p0_ e0_ s m args below meth c C hP hK ls hl
  have hx := C.1
  have hb := C.2.1
  have hml := C.2.2.2.2.1
  have hown := C.2.2.2.2.2.1
  have hts := C.2.2.2.2.2.2
  have hl : lv_has ls 4 [(0, .ref h), (1, .int p)] := hl
  refine lv_iload_n hx hb dX4_shares_0 rfl (lv_at hl 1 rfl) ?_
  refine lv_iconst (v := (-1)) hx hb dX4_shares_1 (by decide) ?_
  refine lv_icmp_eq (x := p) (y := (-1)) (tgt := 15) hx hb dX4_shares_2 (by decide) (fun c_1 => ?_) (fun c_1 => ?_)
  · obtain rfl := c_1
    refine lv_iload_n hx hb dX4_shares_15 rfl (lv_at hl 1 rfl) ?_
    refine lv_if_lt (x := (-1)) (tgt := 25) hx hb dX4_shares_16 (by decide) (fun c_2 => ?_) (fun c_2 => absurd c_2 (by decide))
    refine lv_aload_n hx hb dX4_shares_25 rfl (lv_at hl 0 rfl) ?_
    refine va_get (D := gD G) (ci := 0) (v := .ref (ad 0)) (C := RX4) (T := TX4) (N := 20) hx hb hts in_X4 hown hK hP 0 rfl rfl 0 (by decide) (hts _ q1073) (fun _ h9 => h9) rfl dX4_shares_26 ?_
    refine lv_iconst (v := 1) hx hb dX4_shares_29 (by decide) ?_
    refine n_iald C hK hP 1 1 rfl (by omega) (by omega) dX4_shares_30 ?_
    refine lv_istore_n (lv' := [(2, .int (r 1)), (0, .ref h), (1, .int (-1))]) hx hb dX4_shares_31 rfl hl (Nat.le_of_ble_eq_true rfl) rfl (fun ls hl => ?_)
    refine lv_iconst (v := 0) hx hb dX4_shares_32 (by decide) ?_
    refine lv_istore_n (lv' := [(3, .int 0), (2, .int (r 1)), (0, .ref h), (1, .int (-1))]) hx hb dX4_shares_33 rfl hl (Nat.le_of_ble_eq_true rfl) rfl (fun ls hl => ?_)
    suffices hlp_3 : (∀ (n i : Nat), i + n = N → ∀ (ls : Array Slot), lv_has ls 4 [(3, .int (nI i)), (2, .int (sShL r N i)), (0, .ref h), (1, .int (-1))] → W p0_ l e0_ ({ frames := 3, cells := 0, slots := 0, locals := 64 } : Room) s m args below meth c s.heap [] (0) (0) (MQ below (vp_Si (fun rr9 => rr9 = sSharesA r N (-1))) args s 0 0 (fun _ => False)) (F0 m 34 ls [])) by
      exact hlp_3 (N) 0 (by omega) ls (lv_sub hl [0, 1, 2, 3] rfl)
    have hend_3 : ∀ (ls : Array Slot), lv_has ls 4 [(3, .int (nI N)), (2, .int (sShL r N N)), (0, .ref h), (1, .int (-1))] → W p0_ l e0_ ({ frames := 3, cells := 0, slots := 0, locals := 64 } : Room) s m args below meth c s.heap [] (0) (0) (MQ below (vp_Si (fun rr9 => rr9 = sSharesA r N (-1))) args s 0 0 (fun _ => False)) (F0 m 34 ls []) := by
      intro ls hl
      refine lv_iload_n hx hb dX4_shares_34 rfl (lv_at hl 0 rfl) ?_
      refine lv_aload_n hx hb dX4_shares_35 rfl (lv_at hl 2 rfl) ?_
      refine va_get (D := gD G) (ci := 0) (v := .ref (ad 0)) (C := RX4) (T := TX4) (N := 20) hx hb hts in_X4 hown hK hP 0 rfl rfl 0 (by decide) (hts _ q1073) (fun _ h9 => h9) rfl dX4_shares_36 ?_
      refine lv_iconst (v := 0) hx hb dX4_shares_39 (by decide) ?_
      refine n_iald C hK hP 1 0 rfl (by omega) (by omega) dX4_shares_40 ?_
      refine n_eqi (hr) ?_
      refine n_ic_ge (x := N) (y := N) (tgt := 58) hx hb (by omega) (by omega) dX4_shares_41 (by decide) (fun c_4 => ?_) (fun c_4 => absurd c_4 (by omega))
      refine lv_iload_n hx hb dX4_shares_58 rfl (lv_at hl 1 rfl) ?_
      exact n_iret (v := sShL r N N) C (by simp [sSharesA, c_2, c_4]) dX4_shares_59
    intro n
    induction n with
    | zero =>
      intro i hi_3 ls hl
      obtain e_3 : i = N := by omega
      first | (subst e_3; exact hend_3 ls hl) | (rw [e_3] at hl; exact hend_3 ls hl)
    | succ n ih_3 =>
      intro i hi_3 ls hl
      refine lv_iload_n hx hb dX4_shares_34 rfl (lv_at hl 0 rfl) ?_
      refine lv_aload_n hx hb dX4_shares_35 rfl (lv_at hl 2 rfl) ?_
      refine va_get (D := gD G) (ci := 0) (v := .ref (ad 0)) (C := RX4) (T := TX4) (N := 20) hx hb hts in_X4 hown hK hP 0 rfl rfl 0 (by decide) (hts _ q1073) (fun _ h9 => h9) rfl dX4_shares_36 ?_
      refine lv_iconst (v := 0) hx hb dX4_shares_39 (by decide) ?_
      refine n_iald C hK hP 1 0 rfl (by omega) (by omega) dX4_shares_40 ?_
      refine n_eqi (hr) ?_
      refine n_ic_ge (x := i) (y := N) (tgt := 58) hx hb (by omega) (by omega) dX4_shares_41 (by decide) (fun c_5 => absurd c_5 (by omega)) (fun c_5 => ?_)
      refine lv_iload_n hx hb dX4_shares_44 rfl (lv_at hl 1 rfl) ?_
      refine lv_aload_n hx hb dX4_shares_45 rfl (lv_at hl 2 rfl) ?_
      refine lv_iload_n hx hb dX4_shares_46 rfl (lv_at hl 0 rfl) ?_
      refine c_V (rest := [.int (sShL r N i)]) C (metX4_partOfSlices l G h ad iv r N i (by omega) (hr) (by omega)) 1 (lw_V q1334 q1336 qs35 q42 q1337) (by decide +kernel) ⟨rfl, rfl⟩ ⟨(Nat.le_of_ble_eq_true rfl), (Nat.le_of_ble_eq_true rfl)⟩ (KM_mv G) (va_recv hK hP (ci := 0) (q0 := 0) rfl rfl) hP hK hl rfl rfl (Nat.le_of_ble_eq_true rfl) ⟨(Nat.le_of_ble_eq_true rfl), (Nat.le_of_ble_eq_true rfl)⟩ dX4_shares_47 ?_
      refine lv_isub (x := sShL r N i) (y := sPart r N i) hx hb dX4_shares_50 ?_
      refine lv_istore_n (lv' := [(2, .int ((sShL r N i) - (sPart r N i))), (3, .int (nI i)), (0, .ref h), (1, .int (-1))]) hx hb dX4_shares_51 rfl hl (Nat.le_of_ble_eq_true rfl) rfl (fun ls hl => ?_)
      refine n_iinc (k := 1) (lv' := [(3, .int (nI (i + 1))), (2, .int ((sShL r N i) - (sPart r N i))), (0, .ref h), (1, .int (-1))]) hx hb i 1 dX4_shares_52 hl rfl (Nat.le_of_ble_eq_true rfl) rfl (fun ls hl => ?_)
      refine lv_goto (tgt := 34) hx hb dX4_shares_55 (by decide) ?_
      have e_6 : sShL r N (i + 1) = (sShL r N i) - (sPart r N i) := by rfl
      exact ih_3 (i + 1) (by omega) ls (by rw [e_6]; exact lv_sub hl [0, 1, 2, 3] rfl)
  · refine lv_aload_n hx hb dX4_shares_5 rfl (lv_at hl 0 rfl) ?_
    refine lv_iload_n hx hb dX4_shares_6 rfl (lv_at hl 1 rfl) ?_
    refine c_V (rest := []) C (metX4_isPerson l G h ad iv r N p (hr)) 1 (lw_V q1173 q1175 qs28 q42 q1176) (by decide +kernel) ⟨rfl, rfl⟩ ⟨(Nat.le_of_ble_eq_true rfl), (Nat.le_of_ble_eq_true rfl)⟩ (KM_mv G) (va_recv hK hP (ci := 0) (q0 := 0) rfl rfl) hP hK hl rfl rfl (Nat.le_of_ble_eq_true rfl) ⟨(Nat.le_of_ble_eq_true rfl), (Nat.le_of_ble_eq_true rfl)⟩ dX4_shares_7 ?_
    refine n_if_neB (b := (sPer N p)) (tgt := 15) hx hb dX4_shares_10 (by decide) (fun c_7 => ?_) (fun c_7 => ?_)
    · obtain ⟨p_8, hp_8, rfl⟩ := sPer_t (by omega) c_7
      have tp_8 : tn (nI p_8) = p_8 := nI_clamp (by omega)
      refine lv_iload_n hx hb dX4_shares_15 rfl (lv_at hl 1 rfl) ?_
      refine n_if_lt (x := p_8) (tgt := 25) hx hb (by omega) dX4_shares_16 (by decide) ?_
      refine lv_aload_n hx hb dX4_shares_19 rfl (lv_at hl 0 rfl) ?_
      refine lv_iload_n hx hb dX4_shares_20 rfl (lv_at hl 1 rfl) ?_
      refine c_V (rest := []) C (metX4_partOfSlices l G h ad iv r N p_8 (by omega) (hr) (by omega)) 1 (lw_V q1334 q1336 qs35 q42 q1337) (by decide +kernel) ⟨rfl, rfl⟩ ⟨(Nat.le_of_ble_eq_true rfl), (Nat.le_of_ble_eq_true rfl)⟩ (KM_mv G) (va_recv hK hP (ci := 0) (q0 := 0) rfl rfl) hP hK hl rfl rfl (Nat.le_of_ble_eq_true rfl) ⟨(Nat.le_of_ble_eq_true rfl), (Nat.le_of_ble_eq_true rfl)⟩ dX4_shares_21 ?_
      exact n_iret (v := sPart r N p_8) C (by simp [sSharesA, c_1, c_7, tp_8]) dX4_shares_24
    · refine lv_iconst (v := (-1)) hx hb dX4_shares_13 (by decide) ?_
      exact n_iret (v := (-1)) C (by simp [sSharesA, c_1, c_7]) dX4_shares_14

set_option maxHeartbeats 4000000 in
set_option maxRecDepth 100000 in
theorem metX4_joyless (l : Launch) (G : GG) (h : Nat) (ad : Nat → Nat) (iv : Nat → Int32) (r : Nat → Int32) (N : Nat)  (hN : N ≤ 9) (hr : r 0 = nI N) : MR l yX4_joyless cX4_joyless 4 (some .int) ({ frames := 4, cells := 0, slots := 0, locals := 86 }) [.ref h] [(h, mO ad iv), (ad 0, iA G 57 r)] G (KM G) (jlO r N N) := by
  -- rows printed by wip/tools/gen.py
  refine mr_mk RX4 (by decide) rfl (Nat.le_of_ble_eq_true rfl) ?_
  intro p0_ e0_ s m args below meth c C hP hK ls hl
  have hx := C.1
  have hb := C.2.1
  have hml := C.2.2.2.2.1
  have hown := C.2.2.2.2.2.1
  have hts := C.2.2.2.2.2.2
  have hl : lv_has ls 4 [(0, .ref h)] := hl
  refine lv_iconst (v := 0) hx hb dX4_joyless_0 (by decide) ?_
  refine lv_istore_n (lv' := [(1, .int 0), (0, .ref h)]) hx hb dX4_joyless_1 rfl hl (Nat.le_of_ble_eq_true rfl) rfl (fun ls hl => ?_)
  refine lv_iconst (v := 0) hx hb dX4_joyless_2 (by decide) ?_
  refine lv_istore_n (lv' := [(2, .int 0), (1, .int 0), (0, .ref h)]) hx hb dX4_joyless_3 rfl hl (Nat.le_of_ble_eq_true rfl) rfl (fun ls hl => ?_)
  suffices hlp_1 : (∀ (n i : Nat), i + n = N → ∀ (ls : Array Slot), lv_has ls 4 [(2, .int (nI i)), (1, .int (jlO r N i)), (0, .ref h)] → W p0_ l e0_ ({ frames := 4, cells := 0, slots := 0, locals := 86 } : Room) s m args below meth c s.heap [] (0) (0) (MQ below (vp_Si (fun rr9 => rr9 = jlO r N N)) args s 0 0 (fun _ => False)) (F0 m 4 ls [])) by
    exact hlp_1 (N) 0 (by omega) ls (lv_sub hl [0, 1, 2] rfl)
  have hend_1 : ∀ (ls : Array Slot), lv_has ls 4 [(2, .int (nI N)), (1, .int (jlO r N N)), (0, .ref h)] → W p0_ l e0_ ({ frames := 4, cells := 0, slots := 0, locals := 86 } : Room) s m args below meth c s.heap [] (0) (0) (MQ below (vp_Si (fun rr9 => rr9 = jlO r N N)) args s 0 0 (fun _ => False)) (F0 m 4 ls []) := by
    intro ls hl
    refine lv_iload_n hx hb dX4_joyless_4 rfl (lv_at hl 0 rfl) ?_
    refine lv_aload_n hx hb dX4_joyless_5 rfl (lv_at hl 2 rfl) ?_
    refine va_get (D := gD G) (ci := 0) (v := .ref (ad 0)) (C := RX4) (T := TX4) (N := 20) hx hb hts in_X4 hown hK hP 0 rfl rfl 0 (by decide) (hts _ q1073) (fun _ h9 => h9) rfl dX4_joyless_6 ?_
    refine lv_iconst (v := 0) hx hb dX4_joyless_9 (by decide) ?_
    refine n_iald C hK hP 1 0 rfl (by omega) (by omega) dX4_joyless_10 ?_
    refine n_eqi (hr) ?_
    refine n_ic_ge (x := N) (y := N) (tgt := 70) hx hb (by omega) (by omega) dX4_joyless_11 (by decide) (fun c_2 => ?_) (fun c_2 => absurd c_2 (by omega))
    refine lv_iload_n hx hb dX4_joyless_70 rfl (lv_at hl 1 rfl) ?_
    exact n_iret (v := jlO r N N) C (rfl) dX4_joyless_71
  intro n
  induction n with
  | zero =>
    intro i hi_1 ls hl
    obtain e_1 : i = N := by omega
    first | (subst e_1; exact hend_1 ls hl) | (rw [e_1] at hl; exact hend_1 ls hl)
  | succ n ih_1 =>
    intro i hi_1 ls hl
    refine lv_iload_n hx hb dX4_joyless_4 rfl (lv_at hl 0 rfl) ?_
    refine lv_aload_n hx hb dX4_joyless_5 rfl (lv_at hl 2 rfl) ?_
    refine va_get (D := gD G) (ci := 0) (v := .ref (ad 0)) (C := RX4) (T := TX4) (N := 20) hx hb hts in_X4 hown hK hP 0 rfl rfl 0 (by decide) (hts _ q1073) (fun _ h9 => h9) rfl dX4_joyless_6 ?_
    refine lv_iconst (v := 0) hx hb dX4_joyless_9 (by decide) ?_
    refine n_iald C hK hP 1 0 rfl (by omega) (by omega) dX4_joyless_10 ?_
    refine n_eqi (hr) ?_
    refine n_ic_ge (x := i) (y := N) (tgt := 70) hx hb (by omega) (by omega) dX4_joyless_11 (by decide) (fun c_3 => absurd c_3 (by omega)) (fun c_3 => ?_)
    refine lv_iconst (v := 0) hx hb dX4_joyless_14 (by decide) ?_
    refine lv_istore_n (lv' := [(3, .int 0), (2, .int (nI i)), (1, .int (jlO r N i)), (0, .ref h)]) hx hb dX4_joyless_15 rfl hl (Nat.le_of_ble_eq_true rfl) rfl (fun ls hl => ?_)
    suffices hlp_4 : (∀ (n j : Nat), j + n = N → ∀ (ls : Array Slot), lv_has ls 4 [(3, .int (nI j)), (2, .int (nI i)), (1, .int (jlI r i (jlO r N i) j)), (0, .ref h)] → W p0_ l e0_ ({ frames := 4, cells := 0, slots := 0, locals := 86 } : Room) s m args below meth c s.heap [] (0) (0) (MQ below (vp_Si (fun rr9 => rr9 = jlO r N N)) args s 0 0 (fun _ => False)) (F0 m 16 ls [])) by
      exact hlp_4 (N) 0 (by omega) ls (lv_sub hl [0, 1, 2, 3] rfl)
    have hend_4 : ∀ (ls : Array Slot), lv_has ls 4 [(3, .int (nI N)), (2, .int (nI i)), (1, .int (jlI r i (jlO r N i) N)), (0, .ref h)] → W p0_ l e0_ ({ frames := 4, cells := 0, slots := 0, locals := 86 } : Room) s m args below meth c s.heap [] (0) (0) (MQ below (vp_Si (fun rr9 => rr9 = jlO r N N)) args s 0 0 (fun _ => False)) (F0 m 16 ls []) := by
      intro ls hl
      refine lv_iload_n hx hb dX4_joyless_16 rfl (lv_at hl 0 rfl) ?_
      refine lv_aload_n hx hb dX4_joyless_17 rfl (lv_at hl 3 rfl) ?_
      refine va_get (D := gD G) (ci := 0) (v := .ref (ad 0)) (C := RX4) (T := TX4) (N := 20) hx hb hts in_X4 hown hK hP 0 rfl rfl 0 (by decide) (hts _ q1073) (fun _ h9 => h9) rfl dX4_joyless_18 ?_
      refine lv_iconst (v := 0) hx hb dX4_joyless_21 (by decide) ?_
      refine n_iald C hK hP 1 0 rfl (by omega) (by omega) dX4_joyless_22 ?_
      refine n_eqi (hr) ?_
      refine n_ic_ge (x := N) (y := N) (tgt := 64) hx hb (by omega) (by omega) dX4_joyless_23 (by decide) (fun c_5 => ?_) (fun c_5 => absurd c_5 (by omega))
      refine n_iinc (k := 1) (lv' := [(2, .int (nI (i + 1))), (3, .int (nI N)), (1, .int (jlI r i (jlO r N i) N)), (0, .ref h)]) hx hb i 1 dX4_joyless_64 hl rfl (Nat.le_of_ble_eq_true rfl) rfl (fun ls hl => ?_)
      refine lv_goto (tgt := 4) hx hb dX4_joyless_67 (by decide) ?_
      have e_6 : jlO r N (i + 1) = jlI r i (jlO r N i) N := by rfl
      exact ih_1 (i + 1) (by omega) ls (by rw [e_6]; exact lv_sub hl [0, 2, 3] rfl)
    intro n
    induction n with
    | zero =>
      intro j hi_4 ls hl
      obtain e_4 : j = N := by omega
      first | (subst e_4; exact hend_4 ls hl) | (rw [e_4] at hl; exact hend_4 ls hl)
    | succ n ih_4 =>
      intro j hi_4 ls hl
      refine lv_iload_n hx hb dX4_joyless_16 rfl (lv_at hl 0 rfl) ?_
      refine lv_aload_n hx hb dX4_joyless_17 rfl (lv_at hl 3 rfl) ?_
      refine va_get (D := gD G) (ci := 0) (v := .ref (ad 0)) (C := RX4) (T := TX4) (N := 20) hx hb hts in_X4 hown hK hP 0 rfl rfl 0 (by decide) (hts _ q1073) (fun _ h9 => h9) rfl dX4_joyless_18 ?_
      refine lv_iconst (v := 0) hx hb dX4_joyless_21 (by decide) ?_
      refine n_iald C hK hP 1 0 rfl (by omega) (by omega) dX4_joyless_22 ?_
      refine n_eqi (hr) ?_
      refine n_ic_ge (x := j) (y := N) (tgt := 64) hx hb (by omega) (by omega) dX4_joyless_23 (by decide) (fun c_7 => absurd c_7 (by omega)) (fun c_7 => ?_)
      refine lv_iload_n hx hb dX4_joyless_26 rfl (lv_at hl 2 rfl) ?_
      refine lv_aload_n hx hb dX4_joyless_27 rfl (lv_at hl 3 rfl) ?_
      refine va_get (D := gD G) (ci := 0) (v := .ref (ad 0)) (C := RX4) (T := TX4) (N := 20) hx hb hts in_X4 hown hK hP 0 rfl rfl 0 (by decide) (hts _ q1073) (fun _ h9 => h9) rfl dX4_joyless_28 ?_
      refine lv_iload_n hx hb dX4_joyless_31 rfl (lv_at hl 1 rfl) ?_
      refine lv_iload_n hx hb dX4_joyless_32 rfl (lv_at hl 0 rfl) ?_
      refine c_S (rest := [.int (jlI r i (jlO r N i) j)]) C (metX4_canEat l G (ad 0) r i j (by omega) (by omega)) 3 (lw_S q1177 q1178 q42 q1179) (by decide +kernel) ⟨rfl, rfl⟩ ⟨(Nat.le_of_ble_eq_true rfl), (Nat.le_of_ble_eq_true rfl)⟩ (KM_mv G) (hP.sub (ws' := [(ad 0, iA G 57 r)]) [1] rfl) hK hl rfl rfl (Nat.le_of_ble_eq_true rfl) ⟨(Nat.le_of_ble_eq_true rfl), (Nat.le_of_ble_eq_true rfl)⟩ dX4_joyless_33 ?_
      refine n_if_eqB (b := (sEat r i j)) (tgt := 55) hx hb dX4_joyless_36 (by decide) (fun c_8 => ?_) (fun c_8 => ?_)
      · refine lv_iconst (v := 0) hx hb dX4_joyless_55 (by decide) ?_
        refine lv_iadd (x := jlI r i (jlO r N i) j) (y := 0) hx hb dX4_joyless_56 ?_
        refine lv_istore_n (lv' := [(1, .int ((jlI r i (jlO r N i) j) + 0)), (3, .int (nI j)), (2, .int (nI i)), (0, .ref h)]) hx hb dX4_joyless_57 rfl hl (Nat.le_of_ble_eq_true rfl) rfl (fun ls hl => ?_)
        refine n_iinc (k := 1) (lv' := [(3, .int (nI (j + 1))), (1, .int ((jlI r i (jlO r N i) j) + 0)), (2, .int (nI i)), (0, .ref h)]) hx hb j 1 dX4_joyless_58 hl rfl (Nat.le_of_ble_eq_true rfl) rfl (fun ls hl => ?_)
        refine lv_goto (tgt := 16) hx hb dX4_joyless_61 (by decide) ?_
        have e_9 : jlI r i (jlO r N i) (j + 1) = (jlI r i (jlO r N i) j) + 0 := by simp [jlI, c_7, c_8]
        exact ih_4 (j + 1) (by omega) ls (by rw [e_9]; exact lv_sub hl [0, 2, 1, 3] rfl)
      · refine lv_aload_n hx hb dX4_joyless_39 rfl (lv_at hl 3 rfl) ?_
        refine va_get (D := gD G) (ci := 0) (v := .ref (ad 0)) (C := RX4) (T := TX4) (N := 20) hx hb hts in_X4 hown hK hP 0 rfl rfl 0 (by decide) (hts _ q1073) (fun _ h9 => h9) rfl dX4_joyless_40 ?_
        refine lv_iload_n hx hb dX4_joyless_43 rfl (lv_at hl 1 rfl) ?_
        refine lv_iload_n hx hb dX4_joyless_44 rfl (lv_at hl 0 rfl) ?_
        refine c_S (rest := [.int (jlI r i (jlO r N i) j)]) C (metX4_joysOf l G (ad 0) r i j (by omega) (by omega)) 3 (lw_S q1186 q1187 q42 q1188) (by decide +kernel) ⟨rfl, rfl⟩ ⟨(Nat.le_of_ble_eq_true rfl), (Nat.le_of_ble_eq_true rfl)⟩ (KM_mv G) (hP.sub (ws' := [(ad 0, iA G 57 r)]) [1] rfl) hK hl rfl rfl (Nat.le_of_ble_eq_true rfl) ⟨(Nat.le_of_ble_eq_true rfl), (Nat.le_of_ble_eq_true rfl)⟩ dX4_joyless_45 ?_
        refine lv_if_ne (x := sJoy r i j) (tgt := 55) hx hb dX4_joyless_48 (by decide) (fun c_10 => ?_) (fun c_10 => ?_)
        · refine lv_iconst (v := 0) hx hb dX4_joyless_55 (by decide) ?_
          refine lv_iadd (x := jlI r i (jlO r N i) j) (y := 0) hx hb dX4_joyless_56 ?_
          refine lv_istore_n (lv' := [(1, .int ((jlI r i (jlO r N i) j) + 0)), (3, .int (nI j)), (2, .int (nI i)), (0, .ref h)]) hx hb dX4_joyless_57 rfl hl (Nat.le_of_ble_eq_true rfl) rfl (fun ls hl => ?_)
          refine n_iinc (k := 1) (lv' := [(3, .int (nI (j + 1))), (1, .int ((jlI r i (jlO r N i) j) + 0)), (2, .int (nI i)), (0, .ref h)]) hx hb j 1 dX4_joyless_58 hl rfl (Nat.le_of_ble_eq_true rfl) rfl (fun ls hl => ?_)
          refine lv_goto (tgt := 16) hx hb dX4_joyless_61 (by decide) ?_
          have e_11 : jlI r i (jlO r N i) (j + 1) = (jlI r i (jlO r N i) j) + 0 := by simp [jlI, c_7, c_8, c_10]
          exact ih_4 (j + 1) (by omega) ls (by rw [e_11]; exact lv_sub hl [0, 2, 1, 3] rfl)
        · refine lv_iconst (v := 1) hx hb dX4_joyless_51 (by decide) ?_
          refine lv_goto (tgt := 56) hx hb dX4_joyless_52 (by decide) ?_
          refine lv_iadd (x := jlI r i (jlO r N i) j) (y := 1) hx hb dX4_joyless_56 ?_
          refine lv_istore_n (lv' := [(1, .int ((jlI r i (jlO r N i) j) + 1)), (3, .int (nI j)), (2, .int (nI i)), (0, .ref h)]) hx hb dX4_joyless_57 rfl hl (Nat.le_of_ble_eq_true rfl) rfl (fun ls hl => ?_)
          refine n_iinc (k := 1) (lv' := [(3, .int (nI (j + 1))), (1, .int ((jlI r i (jlO r N i) j) + 1)), (2, .int (nI i)), (0, .ref h)]) hx hb j 1 dX4_joyless_58 hl rfl (Nat.le_of_ble_eq_true rfl) rfl (fun ls hl => ?_)
          refine lv_goto (tgt := 16) hx hb dX4_joyless_61 (by decide) ?_
          have e_12 : jlI r i (jlO r N i) (j + 1) = (jlI r i (jlO r N i) j) + 1 := by simp [jlI, c_7, c_8, c_10]
          exact ih_4 (j + 1) (by omega) ls (by rw [e_12]; exact lv_sub hl [0, 2, 1, 3] rfl)

set_option maxHeartbeats 4000000 in
set_option maxRecDepth 100000 in
theorem metX4_buyers (l : Launch) (G : GG) (h : Nat) (ad : Nat → Nat) (iv : Nat → Int32) (r : Nat → Int32) (N : Nat) (v : Int32) (hN : N ≤ 9) (hr : r 0 = nI N) : MR l yX4_buyers cX4_buyers 4 (some .int) ({ frames := 2, cells := 0, slots := 0, locals := 42 }) [.ref h, .int v] [(h, mO ad iv), (ad 0, iA G 57 r)] G (KM G) (sBuy r v N) := by
  -- rows printed by wip/tools/gen.py
  refine mr_mk RX4 (by decide) rfl (Nat.le_of_ble_eq_true rfl) ?_
  intro p0_ e0_ s m args below meth c C hP hK ls hl
  have hx := C.1
  have hb := C.2.1
  have hml := C.2.2.2.2.1
  have hown := C.2.2.2.2.2.1
  have hts := C.2.2.2.2.2.2
  have hl : lv_has ls 4 [(0, .ref h), (1, .int v)] := hl
  refine lv_iconst (v := 0) hx hb dX4_buyers_0 (by decide) ?_
  refine lv_istore_n (lv' := [(2, .int 0), (0, .ref h), (1, .int v)]) hx hb dX4_buyers_1 rfl hl (Nat.le_of_ble_eq_true rfl) rfl (fun ls hl => ?_)
  refine lv_iconst (v := 0) hx hb dX4_buyers_2 (by decide) ?_
  refine lv_istore_n (lv' := [(3, .int 0), (2, .int 0), (0, .ref h), (1, .int v)]) hx hb dX4_buyers_3 rfl hl (Nat.le_of_ble_eq_true rfl) rfl (fun ls hl => ?_)
  suffices hlp_1 : (∀ (n i : Nat), i + n = N → ∀ (ls : Array Slot), lv_has ls 4 [(3, .int (nI i)), (2, .int (sBuy r v i)), (0, .ref h), (1, .int v)] → W p0_ l e0_ ({ frames := 2, cells := 0, slots := 0, locals := 42 } : Room) s m args below meth c s.heap [] (0) (0) (MQ below (vp_Si (fun rr9 => rr9 = sBuy r v N)) args s 0 0 (fun _ => False)) (F0 m 4 ls [])) by
    exact hlp_1 (N) 0 (by omega) ls (lv_sub hl [0, 1, 2, 3] rfl)
  have hend_1 : ∀ (ls : Array Slot), lv_has ls 4 [(3, .int (nI N)), (2, .int (sBuy r v N)), (0, .ref h), (1, .int v)] → W p0_ l e0_ ({ frames := 2, cells := 0, slots := 0, locals := 42 } : Room) s m args below meth c s.heap [] (0) (0) (MQ below (vp_Si (fun rr9 => rr9 = sBuy r v N)) args s 0 0 (fun _ => False)) (F0 m 4 ls []) := by
    intro ls hl
    refine lv_iload_n hx hb dX4_buyers_4 rfl (lv_at hl 0 rfl) ?_
    refine lv_aload_n hx hb dX4_buyers_5 rfl (lv_at hl 2 rfl) ?_
    refine va_get (D := gD G) (ci := 0) (v := .ref (ad 0)) (C := RX4) (T := TX4) (N := 20) hx hb hts in_X4 hown hK hP 0 rfl rfl 0 (by decide) (hts _ q1073) (fun _ h9 => h9) rfl dX4_buyers_6 ?_
    refine lv_iconst (v := 0) hx hb dX4_buyers_9 (by decide) ?_
    refine n_iald C hK hP 1 0 rfl (by omega) (by omega) dX4_buyers_10 ?_
    refine n_eqi (hr) ?_
    refine n_ic_ge (x := N) (y := N) (tgt := 53) hx hb (by omega) (by omega) dX4_buyers_11 (by decide) (fun c_2 => ?_) (fun c_2 => absurd c_2 (by omega))
    refine lv_iload_n hx hb dX4_buyers_53 rfl (lv_at hl 1 rfl) ?_
    exact n_iret (v := sBuy r v N) C (rfl) dX4_buyers_54
  intro n
  induction n with
  | zero =>
    intro i hi_1 ls hl
    obtain e_1 : i = N := by omega
    first | (subst e_1; exact hend_1 ls hl) | (rw [e_1] at hl; exact hend_1 ls hl)
  | succ n ih_1 =>
    intro i hi_1 ls hl
    refine lv_iload_n hx hb dX4_buyers_4 rfl (lv_at hl 0 rfl) ?_
    refine lv_aload_n hx hb dX4_buyers_5 rfl (lv_at hl 2 rfl) ?_
    refine va_get (D := gD G) (ci := 0) (v := .ref (ad 0)) (C := RX4) (T := TX4) (N := 20) hx hb hts in_X4 hown hK hP 0 rfl rfl 0 (by decide) (hts _ q1073) (fun _ h9 => h9) rfl dX4_buyers_6 ?_
    refine lv_iconst (v := 0) hx hb dX4_buyers_9 (by decide) ?_
    refine n_iald C hK hP 1 0 rfl (by omega) (by omega) dX4_buyers_10 ?_
    refine n_eqi (hr) ?_
    refine n_ic_ge (x := i) (y := N) (tgt := 53) hx hb (by omega) (by omega) dX4_buyers_11 (by decide) (fun c_3 => absurd c_3 (by omega)) (fun c_3 => ?_)
    refine lv_iload_n hx hb dX4_buyers_14 rfl (lv_at hl 1 rfl) ?_
    refine lv_aload_n hx hb dX4_buyers_15 rfl (lv_at hl 2 rfl) ?_
    refine va_get (D := gD G) (ci := 0) (v := .ref (ad 0)) (C := RX4) (T := TX4) (N := 20) hx hb hts in_X4 hown hK hP 0 rfl rfl 0 (by decide) (hts _ q1073) (fun _ h9 => h9) rfl dX4_buyers_16 ?_
    refine lv_iload_n hx hb dX4_buyers_19 rfl (lv_at hl 0 rfl) ?_
    refine lv_iconst (v := 2) hx hb dX4_buyers_20 (by decide) ?_
    refine c_S (rest := [.ref (ad 0), .int (sBuy r v i)]) C (metX4_of l G i 2) 2 (lw_S q1170 q1171 q42 q1172) (by decide +kernel) ⟨rfl, rfl⟩ ⟨(Nat.le_of_ble_eq_true rfl), (Nat.le_of_ble_eq_true rfl)⟩ (KM_mv G) (hP.sub (ws' := []) [] rfl) hK hl rfl rfl (Nat.le_of_ble_eq_true rfl) ⟨(Nat.le_of_ble_eq_true rfl), (Nat.le_of_ble_eq_true rfl)⟩ dX4_buyers_21 ?_
    refine n_iald C hK hP 1 (3 + 6 * i + 2) rfl (by omega) (by omega) dX4_buyers_24 ?_
    refine lv_if_le (x := r (3 + 6 * i + 2)) (tgt := 44) hx hb dX4_buyers_25 (by decide) (fun c_4 => ?_) (fun c_4 => ?_)
    · have zc_4 : ¬ 0 < (r (3 + 6 * i + 2)) := Int32.not_lt.mpr c_4
      refine lv_iconst (v := 0) hx hb dX4_buyers_44 (by decide) ?_
      refine lv_iadd (x := sBuy r v i) (y := 0) hx hb dX4_buyers_45 ?_
      refine lv_istore_n (lv' := [(2, .int ((sBuy r v i) + 0)), (3, .int (nI i)), (0, .ref h), (1, .int v)]) hx hb dX4_buyers_46 rfl hl (Nat.le_of_ble_eq_true rfl) rfl (fun ls hl => ?_)
      refine n_iinc (k := 1) (lv' := [(3, .int (nI (i + 1))), (2, .int ((sBuy r v i) + 0)), (0, .ref h), (1, .int v)]) hx hb i 1 dX4_buyers_47 hl rfl (Nat.le_of_ble_eq_true rfl) rfl (fun ls hl => ?_)
      refine lv_goto (tgt := 4) hx hb dX4_buyers_50 (by decide) ?_
      have e_5 : sBuy r v (i + 1) = (sBuy r v i) + 0 := by simp [sBuy, c_3, c_4, zc_4]
      exact ih_1 (i + 1) (by omega) ls (by rw [e_5]; exact lv_sub hl [0, 1, 2, 3] rfl)
    · have zc_4 : 0 < (r (3 + 6 * i + 2)) := Int32.not_le.mp c_4
      refine lv_aload_n hx hb dX4_buyers_28 rfl (lv_at hl 2 rfl) ?_
      refine va_get (D := gD G) (ci := 0) (v := .ref (ad 0)) (C := RX4) (T := TX4) (N := 20) hx hb hts in_X4 hown hK hP 0 rfl rfl 0 (by decide) (hts _ q1073) (fun _ h9 => h9) rfl dX4_buyers_29 ?_
      refine lv_iload_n hx hb dX4_buyers_32 rfl (lv_at hl 0 rfl) ?_
      refine c_S (rest := [.int (sBuy r v i)]) C (metX4_bites l G (ad 0) r i (by omega)) 2 (lw_S q1192 q1193 q42 q1194) (by decide +kernel) ⟨rfl, rfl⟩ ⟨(Nat.le_of_ble_eq_true rfl), (Nat.le_of_ble_eq_true rfl)⟩ (KM_mv G) (hP.sub (ws' := [(ad 0, iA G 57 r)]) [1] rfl) hK hl rfl rfl (Nat.le_of_ble_eq_true rfl) ⟨(Nat.le_of_ble_eq_true rfl), (Nat.le_of_ble_eq_true rfl)⟩ dX4_buyers_33 ?_
      refine lv_iload_n hx hb dX4_buyers_36 rfl (lv_at hl 3 rfl) ?_
      refine lv_icmp_lt (x := sBites r i) (y := v) (tgt := 44) hx hb dX4_buyers_37 (by decide) (fun c_6 => ?_) (fun c_6 => ?_)
      · have zc_6 : ¬ v ≤ (sBites r i) := Int32.not_le.mpr c_6
        refine lv_iconst (v := 0) hx hb dX4_buyers_44 (by decide) ?_
        refine lv_iadd (x := sBuy r v i) (y := 0) hx hb dX4_buyers_45 ?_
        refine lv_istore_n (lv' := [(2, .int ((sBuy r v i) + 0)), (3, .int (nI i)), (0, .ref h), (1, .int v)]) hx hb dX4_buyers_46 rfl hl (Nat.le_of_ble_eq_true rfl) rfl (fun ls hl => ?_)
        refine n_iinc (k := 1) (lv' := [(3, .int (nI (i + 1))), (2, .int ((sBuy r v i) + 0)), (0, .ref h), (1, .int v)]) hx hb i 1 dX4_buyers_47 hl rfl (Nat.le_of_ble_eq_true rfl) rfl (fun ls hl => ?_)
        refine lv_goto (tgt := 4) hx hb dX4_buyers_50 (by decide) ?_
        have e_7 : sBuy r v (i + 1) = (sBuy r v i) + 0 := by simp [sBuy, c_3, c_4, zc_4, c_6, zc_6]
        exact ih_1 (i + 1) (by omega) ls (by rw [e_7]; exact lv_sub hl [0, 1, 2, 3] rfl)
      · have zc_6 : v ≤ (sBites r i) := Int32.not_lt.mp c_6
        refine lv_iconst (v := 1) hx hb dX4_buyers_40 (by decide) ?_
        refine lv_goto (tgt := 45) hx hb dX4_buyers_41 (by decide) ?_
        refine lv_iadd (x := sBuy r v i) (y := 1) hx hb dX4_buyers_45 ?_
        refine lv_istore_n (lv' := [(2, .int ((sBuy r v i) + 1)), (3, .int (nI i)), (0, .ref h), (1, .int v)]) hx hb dX4_buyers_46 rfl hl (Nat.le_of_ble_eq_true rfl) rfl (fun ls hl => ?_)
        refine n_iinc (k := 1) (lv' := [(3, .int (nI (i + 1))), (2, .int ((sBuy r v i) + 1)), (0, .ref h), (1, .int v)]) hx hb i 1 dX4_buyers_47 hl rfl (Nat.le_of_ble_eq_true rfl) rfl (fun ls hl => ?_)
        refine lv_goto (tgt := 4) hx hb dX4_buyers_50 (by decide) ?_
        have e_8 : sBuy r v (i + 1) = (sBuy r v i) + 1 := by simp [sBuy, c_3, c_4, zc_4, c_6, zc_6]
        exact ih_1 (i + 1) (by omega) ls (by rw [e_8]; exact lv_sub hl [0, 1, 2, 3] rfl)

set_option maxHeartbeats 4000000 in
set_option maxRecDepth 100000 in
theorem metX4_sellers (l : Launch) (G : GG) (h : Nat) (ad : Nat → Nat) (iv : Nat → Int32) (r : Nat → Int32) (N : Nat) (v : Int32) (hN : N ≤ 9) (hr : r 0 = nI N) : MR l yX4_sellers cX4_sellers 4 (some .int) ({ frames := 2, cells := 0, slots := 0, locals := 42 }) [.ref h, .int v] [(h, mO ad iv), (ad 0, iA G 57 r)] G (KM G) (sSel r v N) := by
  -- rows printed by wip/tools/gen.py
  refine mr_mk RX4 (by decide) rfl (Nat.le_of_ble_eq_true rfl) ?_
  intro p0_ e0_ s m args below meth c C hP hK ls hl
  have hx := C.1
  have hb := C.2.1
  have hml := C.2.2.2.2.1
  have hown := C.2.2.2.2.2.1
  have hts := C.2.2.2.2.2.2
  have hl : lv_has ls 4 [(0, .ref h), (1, .int v)] := hl
  refine lv_iconst (v := 0) hx hb dX4_sellers_0 (by decide) ?_
  refine lv_istore_n (lv' := [(2, .int 0), (0, .ref h), (1, .int v)]) hx hb dX4_sellers_1 rfl hl (Nat.le_of_ble_eq_true rfl) rfl (fun ls hl => ?_)
  refine lv_iconst (v := 0) hx hb dX4_sellers_2 (by decide) ?_
  refine lv_istore_n (lv' := [(3, .int 0), (2, .int 0), (0, .ref h), (1, .int v)]) hx hb dX4_sellers_3 rfl hl (Nat.le_of_ble_eq_true rfl) rfl (fun ls hl => ?_)
  suffices hlp_1 : (∀ (n i : Nat), i + n = N → ∀ (ls : Array Slot), lv_has ls 4 [(3, .int (nI i)), (2, .int (sSel r v i)), (0, .ref h), (1, .int v)] → W p0_ l e0_ ({ frames := 2, cells := 0, slots := 0, locals := 42 } : Room) s m args below meth c s.heap [] (0) (0) (MQ below (vp_Si (fun rr9 => rr9 = sSel r v N)) args s 0 0 (fun _ => False)) (F0 m 4 ls [])) by
    exact hlp_1 (N) 0 (by omega) ls (lv_sub hl [0, 1, 2, 3] rfl)
  have hend_1 : ∀ (ls : Array Slot), lv_has ls 4 [(3, .int (nI N)), (2, .int (sSel r v N)), (0, .ref h), (1, .int v)] → W p0_ l e0_ ({ frames := 2, cells := 0, slots := 0, locals := 42 } : Room) s m args below meth c s.heap [] (0) (0) (MQ below (vp_Si (fun rr9 => rr9 = sSel r v N)) args s 0 0 (fun _ => False)) (F0 m 4 ls []) := by
    intro ls hl
    refine lv_iload_n hx hb dX4_sellers_4 rfl (lv_at hl 0 rfl) ?_
    refine lv_aload_n hx hb dX4_sellers_5 rfl (lv_at hl 2 rfl) ?_
    refine va_get (D := gD G) (ci := 0) (v := .ref (ad 0)) (C := RX4) (T := TX4) (N := 20) hx hb hts in_X4 hown hK hP 0 rfl rfl 0 (by decide) (hts _ q1073) (fun _ h9 => h9) rfl dX4_sellers_6 ?_
    refine lv_iconst (v := 0) hx hb dX4_sellers_9 (by decide) ?_
    refine n_iald C hK hP 1 0 rfl (by omega) (by omega) dX4_sellers_10 ?_
    refine n_eqi (hr) ?_
    refine n_ic_ge (x := N) (y := N) (tgt := 51) hx hb (by omega) (by omega) dX4_sellers_11 (by decide) (fun c_2 => ?_) (fun c_2 => absurd c_2 (by omega))
    refine lv_iload_n hx hb dX4_sellers_51 rfl (lv_at hl 1 rfl) ?_
    exact n_iret (v := sSel r v N) C (rfl) dX4_sellers_52
  intro n
  induction n with
  | zero =>
    intro i hi_1 ls hl
    obtain e_1 : i = N := by omega
    first | (subst e_1; exact hend_1 ls hl) | (rw [e_1] at hl; exact hend_1 ls hl)
  | succ n ih_1 =>
    intro i hi_1 ls hl
    refine lv_iload_n hx hb dX4_sellers_4 rfl (lv_at hl 0 rfl) ?_
    refine lv_aload_n hx hb dX4_sellers_5 rfl (lv_at hl 2 rfl) ?_
    refine va_get (D := gD G) (ci := 0) (v := .ref (ad 0)) (C := RX4) (T := TX4) (N := 20) hx hb hts in_X4 hown hK hP 0 rfl rfl 0 (by decide) (hts _ q1073) (fun _ h9 => h9) rfl dX4_sellers_6 ?_
    refine lv_iconst (v := 0) hx hb dX4_sellers_9 (by decide) ?_
    refine n_iald C hK hP 1 0 rfl (by omega) (by omega) dX4_sellers_10 ?_
    refine n_eqi (hr) ?_
    refine n_ic_ge (x := i) (y := N) (tgt := 51) hx hb (by omega) (by omega) dX4_sellers_11 (by decide) (fun c_3 => absurd c_3 (by omega)) (fun c_3 => ?_)
    refine lv_iload_n hx hb dX4_sellers_14 rfl (lv_at hl 1 rfl) ?_
    refine lv_aload_n hx hb dX4_sellers_15 rfl (lv_at hl 2 rfl) ?_
    refine va_get (D := gD G) (ci := 0) (v := .ref (ad 0)) (C := RX4) (T := TX4) (N := 20) hx hb hts in_X4 hown hK hP 0 rfl rfl 0 (by decide) (hts _ q1073) (fun _ h9 => h9) rfl dX4_sellers_16 ?_
    refine lv_iload_n hx hb dX4_sellers_19 rfl (lv_at hl 0 rfl) ?_
    refine c_S (rest := [.int (sSel r v i)]) C (metX4_canLook l G (ad 0) r i (by omega)) 2 (lw_S q1180 q1181 q42 q1182) (by decide +kernel) ⟨rfl, rfl⟩ ⟨(Nat.le_of_ble_eq_true rfl), (Nat.le_of_ble_eq_true rfl)⟩ (KM_mv G) (hP.sub (ws' := [(ad 0, iA G 57 r)]) [1] rfl) hK hl rfl rfl (Nat.le_of_ble_eq_true rfl) ⟨(Nat.le_of_ble_eq_true rfl), (Nat.le_of_ble_eq_true rfl)⟩ dX4_sellers_20 ?_
    refine n_if_eqB (b := (sLook r i)) (tgt := 42) hx hb dX4_sellers_23 (by decide) (fun c_4 => ?_) (fun c_4 => ?_)
    · refine lv_iconst (v := 0) hx hb dX4_sellers_42 (by decide) ?_
      refine lv_iadd (x := sSel r v i) (y := 0) hx hb dX4_sellers_43 ?_
      refine lv_istore_n (lv' := [(2, .int ((sSel r v i) + 0)), (3, .int (nI i)), (0, .ref h), (1, .int v)]) hx hb dX4_sellers_44 rfl hl (Nat.le_of_ble_eq_true rfl) rfl (fun ls hl => ?_)
      refine n_iinc (k := 1) (lv' := [(3, .int (nI (i + 1))), (2, .int ((sSel r v i) + 0)), (0, .ref h), (1, .int v)]) hx hb i 1 dX4_sellers_45 hl rfl (Nat.le_of_ble_eq_true rfl) rfl (fun ls hl => ?_)
      refine lv_goto (tgt := 4) hx hb dX4_sellers_48 (by decide) ?_
      have e_5 : sSel r v (i + 1) = (sSel r v i) + 0 := by simp [sSel, c_3, c_4]
      exact ih_1 (i + 1) (by omega) ls (by rw [e_5]; exact lv_sub hl [0, 1, 2, 3] rfl)
    · refine lv_aload_n hx hb dX4_sellers_26 rfl (lv_at hl 2 rfl) ?_
      refine va_get (D := gD G) (ci := 0) (v := .ref (ad 0)) (C := RX4) (T := TX4) (N := 20) hx hb hts in_X4 hown hK hP 0 rfl rfl 0 (by decide) (hts _ q1073) (fun _ h9 => h9) rfl dX4_sellers_27 ?_
      refine lv_iload_n hx hb dX4_sellers_30 rfl (lv_at hl 0 rfl) ?_
      refine c_S (rest := [.int (sSel r v i)]) C (metX4_gazes l G (ad 0) r i (by omega)) 2 (lw_S q1207 q1208 q42 q1209) (by decide +kernel) ⟨rfl, rfl⟩ ⟨(Nat.le_of_ble_eq_true rfl), (Nat.le_of_ble_eq_true rfl)⟩ (KM_mv G) (hP.sub (ws' := [(ad 0, iA G 57 r)]) [1] rfl) hK hl rfl rfl (Nat.le_of_ble_eq_true rfl) ⟨(Nat.le_of_ble_eq_true rfl), (Nat.le_of_ble_eq_true rfl)⟩ dX4_sellers_31 ?_
      refine lv_iload_n hx hb dX4_sellers_34 rfl (lv_at hl 3 rfl) ?_
      refine lv_icmp_ge (x := sGazes r i) (y := v) (tgt := 42) hx hb dX4_sellers_35 (by decide) (fun c_6 => ?_) (fun c_6 => ?_)
      · have zc_6 : ¬ (sGazes r i) < v := Int32.not_lt.mpr c_6
        refine lv_iconst (v := 0) hx hb dX4_sellers_42 (by decide) ?_
        refine lv_iadd (x := sSel r v i) (y := 0) hx hb dX4_sellers_43 ?_
        refine lv_istore_n (lv' := [(2, .int ((sSel r v i) + 0)), (3, .int (nI i)), (0, .ref h), (1, .int v)]) hx hb dX4_sellers_44 rfl hl (Nat.le_of_ble_eq_true rfl) rfl (fun ls hl => ?_)
        refine n_iinc (k := 1) (lv' := [(3, .int (nI (i + 1))), (2, .int ((sSel r v i) + 0)), (0, .ref h), (1, .int v)]) hx hb i 1 dX4_sellers_45 hl rfl (Nat.le_of_ble_eq_true rfl) rfl (fun ls hl => ?_)
        refine lv_goto (tgt := 4) hx hb dX4_sellers_48 (by decide) ?_
        have e_7 : sSel r v (i + 1) = (sSel r v i) + 0 := by simp [sSel, c_3, c_4, c_6, zc_6]
        exact ih_1 (i + 1) (by omega) ls (by rw [e_7]; exact lv_sub hl [0, 1, 2, 3] rfl)
      · have zc_6 : (sGazes r i) < v := Int32.not_le.mp c_6
        refine lv_iconst (v := 1) hx hb dX4_sellers_38 (by decide) ?_
        refine lv_goto (tgt := 43) hx hb dX4_sellers_39 (by decide) ?_
        refine lv_iadd (x := sSel r v i) (y := 1) hx hb dX4_sellers_43 ?_
        refine lv_istore_n (lv' := [(2, .int ((sSel r v i) + 1)), (3, .int (nI i)), (0, .ref h), (1, .int v)]) hx hb dX4_sellers_44 rfl hl (Nat.le_of_ble_eq_true rfl) rfl (fun ls hl => ?_)
        refine n_iinc (k := 1) (lv' := [(3, .int (nI (i + 1))), (2, .int ((sSel r v i) + 1)), (0, .ref h), (1, .int v)]) hx hb i 1 dX4_sellers_45 hl rfl (Nat.le_of_ble_eq_true rfl) rfl (fun ls hl => ?_)
        refine lv_goto (tgt := 4) hx hb dX4_sellers_48 (by decide) ?_
        have e_8 : sSel r v (i + 1) = (sSel r v i) + 1 := by simp [sSel, c_3, c_4, c_6, zc_6]
        exact ih_1 (i + 1) (by omega) ls (by rw [e_8]; exact lv_sub hl [0, 1, 2, 3] rfl)

set_option maxHeartbeats 4000000 in
set_option maxRecDepth 100000 in
theorem metX4_prices (l : Launch) (G : GG) (h : Nat) (ad : Nat → Nat) (iv : Nat → Int32) (r : Nat → Int32) (N : Nat) (v what : Int32) (hN : N ≤ 9) (hr : r 0 = nI N) : MR l yX4_prices cX4_prices 3 (some .int) ({ frames := 3, cells := 0, slots := 0, locals := 65 }) [.ref h, .int v, .int what] [(h, mO ad iv), (ad 0, iA G 57 r)] G (KM G) (sPricesA r N v what) := by
  -- rows printed by wip/tools/gen.py
  refine mr_mk RX4 (by decide) rfl (Nat.le_of_ble_eq_true rfl) ?_
  intro p0_ e0_ s m args below meth c C hP hK ls hl
  have hx := C.1
  have hb := C.2.1
  have hml := C.2.2.2.2.1
  have hown := C.2.2.2.2.2.1
  have hts := C.2.2.2.2.2.2
  have hl : lv_has ls 3 [(0, .ref h), (1, .int v), (2, .int what)] := hl
  refine lv_iload_n hx hb dX4_prices_0 rfl (lv_at hl 1 rfl) ?_
  refine lv_iconst (v := 0) hx hb dX4_prices_1 (by decide) ?_
  refine lv_bipush (v := 31) hx hb dX4_prices_2 (by decide) ?_
  refine c_S (rest := []) C (metX4_isIn l G v 0 31) 3 (lw_S q1145 q1146 q42 q1147) (by decide +kernel) ⟨rfl, rfl⟩ ⟨(Nat.le_of_ble_eq_true rfl), (Nat.le_of_ble_eq_true rfl)⟩ (KM_mv G) (hP.sub (ws' := []) [] rfl) hK hl rfl rfl (Nat.le_of_ble_eq_true rfl) ⟨(Nat.le_of_ble_eq_true rfl), (Nat.le_of_ble_eq_true rfl)⟩ dX4_prices_4 ?_
  refine n_if_eqB (b := (sIn v 0 31)) (tgt := 19) hx hb dX4_prices_7 (by decide) (fun c_1 => ?_) (fun c_1 => ?_)
  · refine lv_iconst (v := (-1)) hx hb dX4_prices_19 (by decide) ?_
    exact n_iret (v := (-1)) C (by simp [sPricesA, c_1]) dX4_prices_20
  · obtain ⟨v_2, hv_2, gv_2, rfl⟩ := sIn_t (a := 0) (b := 31) (by omega) (by omega) c_1
    have tv_2 : tn (nI v_2) = v_2 := nI_clamp (by omega)
    refine lv_iload_n hx hb dX4_prices_10 rfl (lv_at hl 2 rfl) ?_
    refine lv_iconst (v := 0) hx hb dX4_prices_11 (by decide) ?_
    refine lv_iconst (v := 1) hx hb dX4_prices_12 (by decide) ?_
    refine c_S (rest := []) C (metX4_isIn l G what 0 1) 3 (lw_S q1145 q1146 q42 q1147) (by decide +kernel) ⟨rfl, rfl⟩ ⟨(Nat.le_of_ble_eq_true rfl), (Nat.le_of_ble_eq_true rfl)⟩ (KM_mv G) (hP.sub (ws' := []) [] rfl) hK hl rfl rfl (Nat.le_of_ble_eq_true rfl) ⟨(Nat.le_of_ble_eq_true rfl), (Nat.le_of_ble_eq_true rfl)⟩ dX4_prices_13 ?_
    refine n_if_neB (b := (sIn what 0 1)) (tgt := 21) hx hb dX4_prices_16 (by decide) (fun c_3 => ?_) (fun c_3 => ?_)
    · obtain ⟨what_4, hwhat_4, gwhat_4, rfl⟩ := sIn_t (a := 0) (b := 1) (by omega) (by omega) c_3
      have twhat_4 : tn (nI what_4) = what_4 := nI_clamp (by omega)
      refine lv_iload_n hx hb dX4_prices_21 rfl (lv_at hl 2 rfl) ?_
      refine n_if_ne (x := what_4) (tgt := 33) hx hb (by omega) dX4_prices_22 (by decide) (fun c_5 => ?_) (fun c_5 => ?_)
      · have zc_5 : ¬ nI what_4 = 0 := nI_ne0 c_5 (by omega)
        have yc_5 : ¬ what_4 = 0 := Nat.ne_of_gt c_5
        refine lv_aload_n hx hb dX4_prices_33 rfl (lv_at hl 0 rfl) ?_
        refine lv_iload_n hx hb dX4_prices_34 rfl (lv_at hl 1 rfl) ?_
        refine c_V (rest := []) C (metX4_sellers l G h ad iv r N (nI v_2) (by omega) (hr)) 1 (lw_V q1303 q1305 qs33 q42 q1306) (by decide +kernel) ⟨rfl, rfl⟩ ⟨(Nat.le_of_ble_eq_true rfl), (Nat.le_of_ble_eq_true rfl)⟩ (KM_mv G) (va_recv hK hP (ci := 0) (q0 := 0) rfl rfl) hP hK hl rfl rfl (Nat.le_of_ble_eq_true rfl) ⟨(Nat.le_of_ble_eq_true rfl), (Nat.le_of_ble_eq_true rfl)⟩ dX4_prices_35 ?_
        exact n_iret (v := sSel r (nI v_2) N) C (by simp [sPricesA, c_1, tv_2, c_3, twhat_4, c_5, yc_5, zc_5]) dX4_prices_38
      · obtain rfl := c_5
        have zc_5 : (nI 0 = 0) = True := eq_true rfl
        refine lv_aload_n hx hb dX4_prices_25 rfl (lv_at hl 0 rfl) ?_
        refine lv_iload_n hx hb dX4_prices_26 rfl (lv_at hl 1 rfl) ?_
        refine c_V (rest := []) C (metX4_buyers l G h ad iv r N (nI v_2) (by omega) (hr)) 1 (lw_V q1299 q1301 qs32 q42 q1302) (by decide +kernel) ⟨rfl, rfl⟩ ⟨(Nat.le_of_ble_eq_true rfl), (Nat.le_of_ble_eq_true rfl)⟩ (KM_mv G) (va_recv hK hP (ci := 0) (q0 := 0) rfl rfl) hP hK hl rfl rfl (Nat.le_of_ble_eq_true rfl) ⟨(Nat.le_of_ble_eq_true rfl), (Nat.le_of_ble_eq_true rfl)⟩ dX4_prices_27 ?_
        refine lv_goto (tgt := 38) hx hb dX4_prices_30 (by decide) ?_
        exact n_iret (v := sBuy r (nI v_2) N) C (by simp [sPricesA, c_1, tv_2, c_3, twhat_4, zc_5]) dX4_prices_38
    · refine lv_iconst (v := (-1)) hx hb dX4_prices_19 (by decide) ?_
      exact n_iret (v := (-1)) C (by simp [sPricesA, c_1, tv_2, c_3]) dX4_prices_20

set_option maxHeartbeats 4000000 in
set_option maxRecDepth 100000 in
theorem metX4_clears (l : Launch) (G : GG) (h : Nat) (ad : Nat → Nat) (iv : Nat → Int32) (r : Nat → Int32) (N : Nat) (g : Int32) (hN : N ≤ 9) (hr : r 0 = nI N) : MR l yX4_clears cX4_clears 3 (some .int) ({ frames := 3, cells := 0, slots := 0, locals := 65 }) [.ref h, .int g] [(h, mO ad iv), (ad 0, iA G 57 r)] G (KM G) (sClearsA r N g) := by
  -- rows printed by wip/tools/gen.py
  refine mr_mk RX4 (by decide) rfl (Nat.le_of_ble_eq_true rfl) ?_
  intro p0_ e0_ s m args below meth c C hP hK ls hl
  have hx := C.1
  have hb := C.2.1
  have hml := C.2.2.2.2.1
  have hown := C.2.2.2.2.2.1
  have hts := C.2.2.2.2.2.2
  have hl : lv_has ls 3 [(0, .ref h), (1, .int g)] := hl
  refine lv_iload_n hx hb dX4_clears_0 rfl (lv_at hl 1 rfl) ?_
  refine lv_iconst (v := 0) hx hb dX4_clears_1 (by decide) ?_
  refine lv_bipush (v := 31) hx hb dX4_clears_2 (by decide) ?_
  refine c_S (rest := []) C (metX4_isIn l G g 0 31) 3 (lw_S q1145 q1146 q42 q1147) (by decide +kernel) ⟨rfl, rfl⟩ ⟨(Nat.le_of_ble_eq_true rfl), (Nat.le_of_ble_eq_true rfl)⟩ (KM_mv G) (hP.sub (ws' := []) [] rfl) hK hl rfl rfl (Nat.le_of_ble_eq_true rfl) ⟨(Nat.le_of_ble_eq_true rfl), (Nat.le_of_ble_eq_true rfl)⟩ dX4_clears_4 ?_
  refine n_if_neB (b := (sIn g 0 31)) (tgt := 12) hx hb dX4_clears_7 (by decide) (fun c_1 => ?_) (fun c_1 => ?_)
  · obtain ⟨g_2, hg_2, gg_2, rfl⟩ := sIn_t (a := 0) (b := 31) (by omega) (by omega) c_1
    have tg_2 : tn (nI g_2) = g_2 := nI_clamp (by omega)
    refine lv_iconst (v := 0) hx hb dX4_clears_12 (by decide) ?_
    refine lv_istore_n (lv' := [(2, .int 0), (0, .ref h), (1, .int (nI g_2))]) hx hb dX4_clears_13 rfl hl (Nat.le_of_ble_eq_true rfl) rfl (fun ls hl => ?_)
    suffices hlp_3 : (∀ (n i : Nat), i + n = 32 → (clr (clP r N (nI g_2)) 32 0 = clr (clP r N (nI g_2)) (32 - i) i) → ∀ (ls : Array Slot), lv_has ls 3 [(2, .int (nI i)), (0, .ref h), (1, .int (nI g_2))] → W p0_ l e0_ ({ frames := 3, cells := 0, slots := 0, locals := 65 } : Room) s m args below meth c s.heap [] (0) (0) (MQ below (vp_Si (fun rr9 => rr9 = sClearsA r N (nI g_2))) args s 0 0 (fun _ => False)) (F0 m 14 ls [])) by
      exact hlp_3 (32) 0 (by omega) (rfl) ls (lv_sub hl [0, 1, 2] rfl)
    have hend_3 : (clr (clP r N (nI g_2)) 32 0 = clr (clP r N (nI g_2)) (32 - 32) 32) → ∀ (ls : Array Slot), lv_has ls 3 [(2, .int (nI 32)), (0, .ref h), (1, .int (nI g_2))] → W p0_ l e0_ ({ frames := 3, cells := 0, slots := 0, locals := 65 } : Room) s m args below meth c s.heap [] (0) (0) (MQ below (vp_Si (fun rr9 => rr9 = sClearsA r N (nI g_2))) args s 0 0 (fun _ => False)) (F0 m 14 ls []) := by
      intro hcl ls hl
      refine lv_iload_n hx hb dX4_clears_14 rfl (lv_at hl 0 rfl) ?_
      refine lv_bipush (v := 31) hx hb dX4_clears_15 (by decide) ?_
      refine n_ic_gt (x := 32) (y := 31) (tgt := 55) hx hb (by omega) (by omega) dX4_clears_17 (by decide) (fun c_4 => ?_) (fun c_4 => absurd c_4 (by omega))
      refine lv_bipush (v := (-4)) hx hb dX4_clears_55 (by decide) ?_
      exact n_iret (v := (-4)) C (by first | (simp [sClearsA, c_1, tg_2, c_4]; done) | (rw [sClearsA]; simp [c_1, tg_2, c_4]; rw [hcl]; simp [clr, clP, c_1, tg_2, c_4]) | (rw [sClearsA]; simp [c_1, tg_2, c_4]; rw [hcl]; rw [show 32 - i = (32 - (i + 1)) + 1 by omega]; simp [clr, clP, c_1, tg_2, c_4])) dX4_clears_57
    intro n
    induction n with
    | zero =>
      intro i hi_3 hcl ls hl
      obtain e_3 : i = 32 := by omega
      first | (subst e_3; exact hend_3 hcl ls hl) | (rw [e_3] at hl; exact hend_3 hcl ls hl)
    | succ n ih_3 =>
      intro i hi_3 hcl ls hl
      refine lv_iload_n hx hb dX4_clears_14 rfl (lv_at hl 0 rfl) ?_
      refine lv_bipush (v := 31) hx hb dX4_clears_15 (by decide) ?_
      refine n_ic_gt (x := i) (y := 31) (tgt := 55) hx hb (by omega) (by omega) dX4_clears_17 (by decide) (fun c_5 => absurd c_5 (by omega)) (fun c_5 => ?_)
      refine lv_aload_n hx hb dX4_clears_20 rfl (lv_at hl 1 rfl) ?_
      refine lv_iload_n hx hb dX4_clears_21 rfl (lv_at hl 0 rfl) ?_
      refine c_V (rest := []) C (metX4_buyers l G h ad iv r N (nI i) (by omega) (hr)) 1 (lw_V q1299 q1301 qs32 q42 q1302) (by decide +kernel) ⟨rfl, rfl⟩ ⟨(Nat.le_of_ble_eq_true rfl), (Nat.le_of_ble_eq_true rfl)⟩ (KM_mv G) (va_recv hK hP (ci := 0) (q0 := 0) rfl rfl) hP hK hl rfl rfl (Nat.le_of_ble_eq_true rfl) ⟨(Nat.le_of_ble_eq_true rfl), (Nat.le_of_ble_eq_true rfl)⟩ dX4_clears_22 ?_
      refine lv_aload_n hx hb dX4_clears_25 rfl (lv_at hl 1 rfl) ?_
      refine va_get (D := gD G) (ci := 0) (v := .ref (ad 0)) (C := RX4) (T := TX4) (N := 20) hx hb hts in_X4 hown hK hP 0 rfl rfl 0 (by decide) (hts _ q1073) (fun _ h9 => h9) rfl dX4_clears_26 ?_
      refine lv_iconst (v := 1) hx hb dX4_clears_29 (by decide) ?_
      refine n_iald C hK hP 1 1 rfl (by omega) (by omega) dX4_clears_30 ?_
      refine lv_icmp_gt (x := sBuy r (nI i) N) (y := r 1) (tgt := 49) hx hb dX4_clears_31 (by decide) (fun c_6 => ?_) (fun c_6 => ?_)
      · have zc_6 : ¬ (sBuy r (nI i) N) ≤ (r 1) := Int32.not_le.mpr c_6
        refine n_iinc (k := 0) (lv' := [(2, .int (nI (i + 1))), (0, .ref h), (1, .int (nI g_2))]) hx hb i 1 dX4_clears_49 hl rfl (Nat.le_of_ble_eq_true rfl) rfl (fun ls hl => ?_)
        refine lv_goto (tgt := 14) hx hb dX4_clears_52 (by decide) ?_
        exact ih_3 (i + 1) (by omega) (by rw [hcl, show 32 - i = (32 - (i + 1)) + 1 by omega]; simp [clr, clP, tg_2, c_5, c_6, zc_6]) ls (lv_sub hl [0, 1, 2] rfl)
      · have zc_6 : (sBuy r (nI i) N) ≤ (r 1) := Int32.not_lt.mp c_6
        refine lv_aload_n hx hb dX4_clears_34 rfl (lv_at hl 1 rfl) ?_
        refine lv_iload_n hx hb dX4_clears_35 rfl (lv_at hl 0 rfl) ?_
        refine c_V (rest := []) C (metX4_buyers l G h ad iv r N (nI i) (by omega) (hr)) 1 (lw_V q1299 q1301 qs32 q42 q1302) (by decide +kernel) ⟨rfl, rfl⟩ ⟨(Nat.le_of_ble_eq_true rfl), (Nat.le_of_ble_eq_true rfl)⟩ (KM_mv G) (va_recv hK hP (ci := 0) (q0 := 0) rfl rfl) hP hK hl rfl rfl (Nat.le_of_ble_eq_true rfl) ⟨(Nat.le_of_ble_eq_true rfl), (Nat.le_of_ble_eq_true rfl)⟩ dX4_clears_36 ?_
        refine lv_aload_n hx hb dX4_clears_39 rfl (lv_at hl 1 rfl) ?_
        refine lv_iload_n hx hb dX4_clears_40 rfl (lv_at hl 2 rfl) ?_
        refine c_V (rest := [.int (sBuy r (nI i) N)]) C (metX4_sellers l G h ad iv r N (nI g_2) (by omega) (hr)) 1 (lw_V q1303 q1305 qs33 q42 q1306) (by decide +kernel) ⟨rfl, rfl⟩ ⟨(Nat.le_of_ble_eq_true rfl), (Nat.le_of_ble_eq_true rfl)⟩ (KM_mv G) (va_recv hK hP (ci := 0) (q0 := 0) rfl rfl) hP hK hl rfl rfl (Nat.le_of_ble_eq_true rfl) ⟨(Nat.le_of_ble_eq_true rfl), (Nat.le_of_ble_eq_true rfl)⟩ dX4_clears_41 ?_
        refine lv_icmp_gt (x := sBuy r (nI i) N) (y := sSel r (nI g_2) N) (tgt := 49) hx hb dX4_clears_44 (by decide) (fun c_7 => ?_) (fun c_7 => ?_)
        · have zc_7 : ¬ (sBuy r (nI i) N) ≤ (sSel r (nI g_2) N) := Int32.not_le.mpr c_7
          refine n_iinc (k := 0) (lv' := [(2, .int (nI (i + 1))), (0, .ref h), (1, .int (nI g_2))]) hx hb i 1 dX4_clears_49 hl rfl (Nat.le_of_ble_eq_true rfl) rfl (fun ls hl => ?_)
          refine lv_goto (tgt := 14) hx hb dX4_clears_52 (by decide) ?_
          exact ih_3 (i + 1) (by omega) (by rw [hcl, show 32 - i = (32 - (i + 1)) + 1 by omega]; simp [clr, clP, tg_2, c_5, c_6, zc_6, c_7, zc_7]) ls (lv_sub hl [0, 1, 2] rfl)
        · have zc_7 : (sBuy r (nI i) N) ≤ (sSel r (nI g_2) N) := Int32.not_lt.mp c_7
          refine lv_iload_n hx hb dX4_clears_47 rfl (lv_at hl 0 rfl) ?_
          exact n_iret (v := nI i) C (by first | (simp [sClearsA, c_1, tg_2, c_5, c_6, zc_6, c_7, zc_7]; done) | (rw [sClearsA]; simp [c_1, tg_2, c_5, c_6, zc_6, c_7, zc_7]; rw [hcl]; simp [clr, clP, c_1, tg_2, c_5, c_6, zc_6, c_7, zc_7]) | (rw [sClearsA]; simp [c_1, tg_2, c_5, c_6, zc_6, c_7, zc_7]; rw [hcl]; rw [show 32 - i = (32 - (i + 1)) + 1 by omega]; simp [clr, clP, c_1, tg_2, c_5, c_6, zc_6, c_7, zc_7])) dX4_clears_48
  · refine lv_iconst (v := (-1)) hx hb dX4_clears_10 (by decide) ?_
    exact n_iret (v := (-1)) C (by first | (simp [sClearsA, c_1]; done) | (rw [sClearsA]; simp [c_1]; rw [hcl]; simp [clr, clP, c_1]) | (rw [sClearsA]; simp [c_1]; rw [hcl]; rw [show 32 - i = (32 - (i + 1)) + 1 by omega]; simp [clr, clP, c_1])) dX4_clears_11

set_option maxHeartbeats 4000000 in
set_option maxRecDepth 100000 in
theorem metX4_stuck (l : Launch) (G : GG) (h : Nat) (ad : Nat → Nat) (iv : Nat → Int32) (r : Nat → Int32) (N : Nat)  (hN : N ≤ 9) (hr : r 0 = nI N) : MR l yX4_stuck cX4_stuck 3 (some .int) ({ frames := 5, cells := 0, slots := 0, locals := 110 }) [.ref h] [(h, mO ad iv), (ad 0, iA G 57 r)] G (KM G) (sStuckA r N) := by
  -- rows printed by wip/tools/gen.py
  refine mr_mk RX4 (by decide) rfl (Nat.le_of_ble_eq_true rfl) ?_
  intro p0_ e0_ s m args below meth c C hP hK ls hl
  have hx := C.1
  have hb := C.2.1
  have hml := C.2.2.2.2.1
  have hown := C.2.2.2.2.2.1
  have hts := C.2.2.2.2.2.2
  have hl : lv_has ls 3 [(0, .ref h)] := hl
  refine lv_iconst (v := 0) hx hb dX4_stuck_0 (by decide) ?_
  refine lv_istore_n (lv' := [(1, .int 0), (0, .ref h)]) hx hb dX4_stuck_1 rfl hl (Nat.le_of_ble_eq_true rfl) rfl (fun ls hl => ?_)
  refine lv_iconst (v := 0) hx hb dX4_stuck_2 (by decide) ?_
  refine lv_istore_n (lv' := [(2, .int 0), (1, .int 0), (0, .ref h)]) hx hb dX4_stuck_3 rfl hl (Nat.le_of_ble_eq_true rfl) rfl (fun ls hl => ?_)
  suffices hlp_1 : (∀ (n i : Nat), i + n = N → ∀ (ls : Array Slot), lv_has ls 3 [(2, .int (nI i)), (1, .int (sHun r i)), (0, .ref h)] → W p0_ l e0_ ({ frames := 5, cells := 0, slots := 0, locals := 110 } : Room) s m args below meth c s.heap [] (0) (0) (MQ below (vp_Si (fun rr9 => rr9 = sStuckA r N)) args s 0 0 (fun _ => False)) (F0 m 4 ls [])) by
    exact hlp_1 (N) 0 (by omega) ls (lv_sub hl [0, 1, 2] rfl)
  have hend_1 : ∀ (ls : Array Slot), lv_has ls 3 [(2, .int (nI N)), (1, .int (sHun r N)), (0, .ref h)] → W p0_ l e0_ ({ frames := 5, cells := 0, slots := 0, locals := 110 } : Room) s m args below meth c s.heap [] (0) (0) (MQ below (vp_Si (fun rr9 => rr9 = sStuckA r N)) args s 0 0 (fun _ => False)) (F0 m 4 ls []) := by
    intro ls hl
    refine lv_iload_n hx hb dX4_stuck_4 rfl (lv_at hl 0 rfl) ?_
    refine lv_aload_n hx hb dX4_stuck_5 rfl (lv_at hl 2 rfl) ?_
    refine va_get (D := gD G) (ci := 0) (v := .ref (ad 0)) (C := RX4) (T := TX4) (N := 20) hx hb hts in_X4 hown hK hP 0 rfl rfl 0 (by decide) (hts _ q1073) (fun _ h9 => h9) rfl dX4_stuck_6 ?_
    refine lv_iconst (v := 0) hx hb dX4_stuck_9 (by decide) ?_
    refine n_iald C hK hP 1 0 rfl (by omega) (by omega) dX4_stuck_10 ?_
    refine n_eqi (hr) ?_
    refine n_ic_ge (x := N) (y := N) (tgt := 33) hx hb (by omega) (by omega) dX4_stuck_11 (by decide) (fun c_2 => ?_) (fun c_2 => absurd c_2 (by omega))
    refine lv_aload_n hx hb dX4_stuck_33 rfl (lv_at hl 2 rfl) ?_
    refine va_get (D := gD G) (ci := 0) (v := .ref (ad 0)) (C := RX4) (T := TX4) (N := 20) hx hb hts in_X4 hown hK hP 0 rfl rfl 0 (by decide) (hts _ q1073) (fun _ h9 => h9) rfl dX4_stuck_34 ?_
    refine lv_iconst (v := 1) hx hb dX4_stuck_37 (by decide) ?_
    refine n_iald C hK hP 1 1 rfl (by omega) (by omega) dX4_stuck_38 ?_
    refine lv_if_le (x := r 1) (tgt := 60) hx hb dX4_stuck_39 (by decide) (fun c_3 => ?_) (fun c_3 => ?_)
    · have zc_3 : ¬ 0 < (r 1) := Int32.not_lt.mpr c_3
      refine lv_iconst (v := 0) hx hb dX4_stuck_60 (by decide) ?_
      exact n_iret (v := 0) C (by simp [sStuckA, c_2, c_3, zc_3]) dX4_stuck_61
    · have zc_3 : 0 < (r 1) := Int32.not_le.mp c_3
      refine lv_iload_n hx hb dX4_stuck_42 rfl (lv_at hl 1 rfl) ?_
      refine lv_if_le (x := sHun r N) (tgt := 60) hx hb dX4_stuck_43 (by decide) (fun c_4 => ?_) (fun c_4 => ?_)
      · have zc_4 : ¬ 0 < (sHun r N) := Int32.not_lt.mpr c_4
        refine lv_iconst (v := 0) hx hb dX4_stuck_60 (by decide) ?_
        exact n_iret (v := 0) C (by simp [sStuckA, c_2, c_3, zc_3, c_4, zc_4]) dX4_stuck_61
      · have zc_4 : 0 < (sHun r N) := Int32.not_le.mp c_4
        refine lv_aload_n hx hb dX4_stuck_46 rfl (lv_at hl 2 rfl) ?_
        refine va_get (D := gD G) (ci := 0) (v := .ref (ad 0)) (C := RX4) (T := TX4) (N := 20) hx hb hts in_X4 hown hK hP 0 rfl rfl 0 (by decide) (hts _ q1073) (fun _ h9 => h9) rfl dX4_stuck_47 ?_
        refine c_S (rest := []) C (metX4_bestIn l G (ad 0) r N (by omega) (hr)) 1 (lw_S q1253 q1254 q42 q1255) (by decide +kernel) ⟨rfl, rfl⟩ ⟨(Nat.le_of_ble_eq_true rfl), (Nat.le_of_ble_eq_true rfl)⟩ (KM_mv G) (hP.sub (ws' := [(ad 0, iA G 57 r)]) [1] rfl) hK hl rfl rfl (Nat.le_of_ble_eq_true rfl) ⟨(Nat.le_of_ble_eq_true rfl), (Nat.le_of_ble_eq_true rfl)⟩ dX4_stuck_50 ?_
        rcases ho_5 : sBestO r N with _ | qo_5
        · have eo_5 : sBest r N = -4 := by rw [sBest, ho_5]; rfl
          refine n_eqi eo_5 ?_
          refine lv_if_ge (x := (-4)) (tgt := 60) hx hb dX4_stuck_53 (by decide) (fun c_6 => absurd c_6 (by decide)) (fun c_6 => ?_)
          refine lv_iconst (v := 1) hx hb dX4_stuck_56 (by decide) ?_
          refine lv_goto (tgt := 61) hx hb dX4_stuck_57 (by decide) ?_
          exact n_iret (v := 1) C (by simp [sStuckA, c_2, c_3, zc_3, c_4, zc_4, ho_5, eo_5, c_6]) dX4_stuck_61
        · have eo_5 : sBest r N = nI (10 * qo_5.1 + qo_5.2) := by rw [sBest, ho_5]; rfl
          have go_5 := sBestO_in ho_5
          have uo_5 : (10 * qo_5.1 + qo_5.2) / 10 = qo_5.1 := by omega
          have vo_5 : (10 * qo_5.1 + qo_5.2) % 10 = qo_5.2 := by omega
          refine n_eqi eo_5 ?_
          refine n_if_ge (x := 10 * qo_5.1 + qo_5.2) (tgt := 60) hx hb (by omega) dX4_stuck_53 (by decide) ?_
          refine lv_iconst (v := 0) hx hb dX4_stuck_60 (by decide) ?_
          exact n_iret (v := 0) C (by simp [sStuckA, c_2, c_3, zc_3, c_4, zc_4, ho_5, eo_5]) dX4_stuck_61
  intro n
  induction n with
  | zero =>
    intro i hi_1 ls hl
    obtain e_1 : i = N := by omega
    first | (subst e_1; exact hend_1 ls hl) | (rw [e_1] at hl; exact hend_1 ls hl)
  | succ n ih_1 =>
    intro i hi_1 ls hl
    refine lv_iload_n hx hb dX4_stuck_4 rfl (lv_at hl 0 rfl) ?_
    refine lv_aload_n hx hb dX4_stuck_5 rfl (lv_at hl 2 rfl) ?_
    refine va_get (D := gD G) (ci := 0) (v := .ref (ad 0)) (C := RX4) (T := TX4) (N := 20) hx hb hts in_X4 hown hK hP 0 rfl rfl 0 (by decide) (hts _ q1073) (fun _ h9 => h9) rfl dX4_stuck_6 ?_
    refine lv_iconst (v := 0) hx hb dX4_stuck_9 (by decide) ?_
    refine n_iald C hK hP 1 0 rfl (by omega) (by omega) dX4_stuck_10 ?_
    refine n_eqi (hr) ?_
    refine n_ic_ge (x := i) (y := N) (tgt := 33) hx hb (by omega) (by omega) dX4_stuck_11 (by decide) (fun c_7 => absurd c_7 (by omega)) (fun c_7 => ?_)
    refine lv_iload_n hx hb dX4_stuck_14 rfl (lv_at hl 1 rfl) ?_
    refine lv_aload_n hx hb dX4_stuck_15 rfl (lv_at hl 2 rfl) ?_
    refine va_get (D := gD G) (ci := 0) (v := .ref (ad 0)) (C := RX4) (T := TX4) (N := 20) hx hb hts in_X4 hown hK hP 0 rfl rfl 0 (by decide) (hts _ q1073) (fun _ h9 => h9) rfl dX4_stuck_16 ?_
    refine lv_iload_n hx hb dX4_stuck_19 rfl (lv_at hl 0 rfl) ?_
    refine lv_iconst (v := 2) hx hb dX4_stuck_20 (by decide) ?_
    refine c_S (rest := [.ref (ad 0), .int (sHun r i)]) C (metX4_of l G i 2) 2 (lw_S q1170 q1171 q42 q1172) (by decide +kernel) ⟨rfl, rfl⟩ ⟨(Nat.le_of_ble_eq_true rfl), (Nat.le_of_ble_eq_true rfl)⟩ (KM_mv G) (hP.sub (ws' := []) [] rfl) hK hl rfl rfl (Nat.le_of_ble_eq_true rfl) ⟨(Nat.le_of_ble_eq_true rfl), (Nat.le_of_ble_eq_true rfl)⟩ dX4_stuck_21 ?_
    refine n_iald C hK hP 1 (3 + 6 * i + 2) rfl (by omega) (by omega) dX4_stuck_24 ?_
    refine lv_iadd (x := sHun r i) (y := r (3 + 6 * i + 2)) hx hb dX4_stuck_25 ?_
    refine lv_istore_n (lv' := [(1, .int ((sHun r i) + (r (3 + 6 * i + 2)))), (2, .int (nI i)), (0, .ref h)]) hx hb dX4_stuck_26 rfl hl (Nat.le_of_ble_eq_true rfl) rfl (fun ls hl => ?_)
    refine n_iinc (k := 1) (lv' := [(2, .int (nI (i + 1))), (1, .int ((sHun r i) + (r (3 + 6 * i + 2)))), (0, .ref h)]) hx hb i 1 dX4_stuck_27 hl rfl (Nat.le_of_ble_eq_true rfl) rfl (fun ls hl => ?_)
    refine lv_goto (tgt := 4) hx hb dX4_stuck_30 (by decide) ?_
    have e_8 : sHun r (i + 1) = (sHun r i) + (r (3 + 6 * i + 2)) := by rfl
    exact ih_1 (i + 1) (by omega) ls (by rw [e_8]; exact lv_sub hl [0, 1, 2] rfl)

set_option maxHeartbeats 4000000 in
set_option maxRecDepth 100000 in
theorem metX4_feeds (l : Launch) (G : GG) (h : Nat) (ad : Nat → Nat) (iv : Nat → Int32) (r : Nat → Int32) (N : Nat) (p : Int32) (hN : N ≤ 9) (hr : r 0 = nI N) (hB : ∀ p, p < N → ¬ sBite (r (3 + 6 * p)) (r (3 + 6 * p + 1)) = 0) : MR l yX4_feeds cX4_feeds 3 (some .int) ({ frames := 2, cells := 0, slots := 0, locals := 43 }) [.ref h, .int p] [(h, mO ad iv), (ad 0, iA G 57 r)] G (KM G) (sFeedsA r N p) := by
  -- rows printed by wip/tools/gen.py
  refine mr_mk RX4 (by decide) rfl (Nat.le_of_ble_eq_true rfl) ?_
  intro p0_ e0_ s m args below meth c C hP hK ls hl
  have hx := C.1
  have hb := C.2.1
  have hml := C.2.2.2.2.1
  have hown := C.2.2.2.2.2.1
  have hts := C.2.2.2.2.2.2
  have hl : lv_has ls 3 [(0, .ref h), (1, .int p)] := hl
  refine lv_aload_n hx hb dX4_feeds_0 rfl (lv_at hl 0 rfl) ?_
  refine lv_iload_n hx hb dX4_feeds_1 rfl (lv_at hl 1 rfl) ?_
  refine c_V (rest := []) C (metX4_isPerson l G h ad iv r N p (hr)) 1 (lw_V q1173 q1175 qs28 q42 q1176) (by decide +kernel) ⟨rfl, rfl⟩ ⟨(Nat.le_of_ble_eq_true rfl), (Nat.le_of_ble_eq_true rfl)⟩ (KM_mv G) (va_recv hK hP (ci := 0) (q0 := 0) rfl rfl) hP hK hl rfl rfl (Nat.le_of_ble_eq_true rfl) ⟨(Nat.le_of_ble_eq_true rfl), (Nat.le_of_ble_eq_true rfl)⟩ dX4_feeds_2 ?_
  refine n_if_neB (b := (sPer N p)) (tgt := 10) hx hb dX4_feeds_5 (by decide) (fun c_1 => ?_) (fun c_1 => ?_)
  · obtain ⟨p_2, hp_2, rfl⟩ := sPer_t (by omega) c_1
    have tp_2 : tn (nI p_2) = p_2 := nI_clamp (by omega)
    refine lv_aload_n hx hb dX4_feeds_10 rfl (lv_at hl 0 rfl) ?_
    refine va_get (D := gD G) (ci := 0) (v := .ref (ad 0)) (C := RX4) (T := TX4) (N := 20) hx hb hts in_X4 hown hK hP 0 rfl rfl 0 (by decide) (hts _ q1073) (fun _ h9 => h9) rfl dX4_feeds_11 ?_
    refine lv_iload_n hx hb dX4_feeds_14 rfl (lv_at hl 1 rfl) ?_
    refine lv_iconst (v := 0) hx hb dX4_feeds_15 (by decide) ?_
    refine c_S (rest := [.ref (ad 0)]) C (metX4_of l G p_2 0) 2 (lw_S q1170 q1171 q42 q1172) (by decide +kernel) ⟨rfl, rfl⟩ ⟨(Nat.le_of_ble_eq_true rfl), (Nat.le_of_ble_eq_true rfl)⟩ (KM_mv G) (hP.sub (ws' := []) [] rfl) hK hl rfl rfl (Nat.le_of_ble_eq_true rfl) ⟨(Nat.le_of_ble_eq_true rfl), (Nat.le_of_ble_eq_true rfl)⟩ dX4_feeds_16 ?_
    refine n_iald C hK hP 1 (3 + 6 * p_2) rfl (by omega) (by omega) dX4_feeds_19 ?_
    refine lv_aload_n hx hb dX4_feeds_20 rfl (lv_at hl 0 rfl) ?_
    refine va_get (D := gD G) (ci := 0) (v := .ref (ad 0)) (C := RX4) (T := TX4) (N := 20) hx hb hts in_X4 hown hK hP 0 rfl rfl 0 (by decide) (hts _ q1073) (fun _ h9 => h9) rfl dX4_feeds_21 ?_
    refine lv_iload_n hx hb dX4_feeds_24 rfl (lv_at hl 1 rfl) ?_
    refine lv_iconst (v := 1) hx hb dX4_feeds_25 (by decide) ?_
    refine c_S (rest := [.ref (ad 0), .int (r (3 + 6 * p_2))]) C (metX4_of l G p_2 1) 2 (lw_S q1170 q1171 q42 q1172) (by decide +kernel) ⟨rfl, rfl⟩ ⟨(Nat.le_of_ble_eq_true rfl), (Nat.le_of_ble_eq_true rfl)⟩ (KM_mv G) (hP.sub (ws' := []) [] rfl) hK hl rfl rfl (Nat.le_of_ble_eq_true rfl) ⟨(Nat.le_of_ble_eq_true rfl), (Nat.le_of_ble_eq_true rfl)⟩ dX4_feeds_26 ?_
    refine n_iald C hK hP 1 (3 + 6 * p_2 + 1) rfl (by omega) (by omega) dX4_feeds_29 ?_
    refine c_S (rest := []) C (metX4_bite l G (r (3 + 6 * p_2)) (r (3 + 6 * p_2 + 1))) 2 (lw_S q1195 q1196 q42 q1197) (by decide +kernel) ⟨rfl, rfl⟩ ⟨(Nat.le_of_ble_eq_true rfl), (Nat.le_of_ble_eq_true rfl)⟩ (KM_mv G) (hP.sub (ws' := []) [] rfl) hK hl rfl rfl (Nat.le_of_ble_eq_true rfl) ⟨(Nat.le_of_ble_eq_true rfl), (Nat.le_of_ble_eq_true rfl)⟩ dX4_feeds_30 ?_
    refine lv_istore_n (lv' := [(2, .int (sBite (r (3 + 6 * p_2)) (r (3 + 6 * p_2 + 1)))), (0, .ref h), (1, .int (nI p_2))]) hx hb dX4_feeds_33 rfl hl (Nat.le_of_ble_eq_true rfl) rfl (fun ls hl => ?_)
    refine lv_aload_n hx hb dX4_feeds_34 rfl (lv_at hl 1 rfl) ?_
    refine va_get (D := gD G) (ci := 0) (v := .ref (ad 0)) (C := RX4) (T := TX4) (N := 20) hx hb hts in_X4 hown hK hP 0 rfl rfl 0 (by decide) (hts _ q1073) (fun _ h9 => h9) rfl dX4_feeds_35 ?_
    refine lv_iload_n hx hb dX4_feeds_38 rfl (lv_at hl 2 rfl) ?_
    refine lv_iconst (v := 2) hx hb dX4_feeds_39 (by decide) ?_
    refine c_S (rest := [.ref (ad 0)]) C (metX4_of l G p_2 2) 2 (lw_S q1170 q1171 q42 q1172) (by decide +kernel) ⟨rfl, rfl⟩ ⟨(Nat.le_of_ble_eq_true rfl), (Nat.le_of_ble_eq_true rfl)⟩ (KM_mv G) (hP.sub (ws' := []) [] rfl) hK hl rfl rfl (Nat.le_of_ble_eq_true rfl) ⟨(Nat.le_of_ble_eq_true rfl), (Nat.le_of_ble_eq_true rfl)⟩ dX4_feeds_40 ?_
    refine n_iald C hK hP 1 (3 + 6 * p_2 + 2) rfl (by omega) (by omega) dX4_feeds_43 ?_
    refine lv_iload_n hx hb dX4_feeds_44 rfl (lv_at hl 0 rfl) ?_
    refine lv_iadd (x := r (3 + 6 * p_2 + 2)) (y := sBite (r (3 + 6 * p_2)) (r (3 + 6 * p_2 + 1))) hx hb dX4_feeds_45 ?_
    refine lv_iconst (v := 1) hx hb dX4_feeds_46 (by decide) ?_
    refine lv_isub (x := (r (3 + 6 * p_2 + 2)) + (sBite (r (3 + 6 * p_2)) (r (3 + 6 * p_2 + 1)))) (y := 1) hx hb dX4_feeds_47 ?_
    refine lv_iload_n hx hb dX4_feeds_48 rfl (lv_at hl 0 rfl) ?_
    refine lv_idiv (x := ((r (3 + 6 * p_2 + 2)) + (sBite (r (3 + 6 * p_2)) (r (3 + 6 * p_2 + 1)))) - 1) (y := sBite (r (3 + 6 * p_2)) (r (3 + 6 * p_2 + 1))) hx hb dX4_feeds_49 (hB _ (by assumption)) ?_
    exact n_iret (v := (((r (3 + 6 * p_2 + 2)) + (sBite (r (3 + 6 * p_2)) (r (3 + 6 * p_2 + 1)))) - 1) / (sBite (r (3 + 6 * p_2)) (r (3 + 6 * p_2 + 1)))) C (by simp [sFeedsA, c_1, tp_2]) dX4_feeds_50
  · refine lv_iconst (v := (-1)) hx hb dX4_feeds_8 (by decide) ?_
    exact n_iret (v := (-1)) C (by simp [sFeedsA, c_1]) dX4_feeds_9

set_option maxHeartbeats 4000000 in
set_option maxRecDepth 100000 in
theorem metX4_seen (l : Launch) (G : GG) (h : Nat) (ad : Nat → Nat) (iv : Nat → Int32) (r : Nat → Int32) (N : Nat) (x : Int32) (hN : N ≤ 9) (hr : r 0 = nI N) : MR l yX4_seen cX4_seen 4 (some .int) ({ frames := 2, cells := 0, slots := 0, locals := 42 }) [.ref h, .int x] [(h, mO ad iv), (ad 0, iA G 57 r)] G (KM G) (sSeenA r N x) := by
  -- rows printed by wip/tools/gen.py
  refine mr_mk RX4 (by decide) rfl (Nat.le_of_ble_eq_true rfl) ?_
  intro p0_ e0_ s m args below meth c C hP hK ls hl
  have hx := C.1
  have hb := C.2.1
  have hml := C.2.2.2.2.1
  have hown := C.2.2.2.2.2.1
  have hts := C.2.2.2.2.2.2
  have hl : lv_has ls 4 [(0, .ref h), (1, .int x)] := hl
  have h2N := pow_le9 hN
  refine lv_iload_n hx hb dX4_seen_0 rfl (lv_at hl 1 rfl) ?_
  refine lv_iconst (v := 0) hx hb dX4_seen_1 (by decide) ?_
  refine lv_iconst (v := 1) hx hb dX4_seen_2 (by decide) ?_
  refine lv_aload_n hx hb dX4_seen_3 rfl (lv_at hl 0 rfl) ?_
  refine va_get (D := gD G) (ci := 0) (v := .ref (ad 0)) (C := RX4) (T := TX4) (N := 20) hx hb hts in_X4 hown hK hP 0 rfl rfl 0 (by decide) (hts _ q1073) (fun _ h9 => h9) rfl dX4_seen_4 ?_
  refine lv_iconst (v := 0) hx hb dX4_seen_7 (by decide) ?_
  refine n_iald C hK hP 1 0 rfl (by omega) (by omega) dX4_seen_8 ?_
  refine n_eqi (hr) ?_
  refine lv_ishl (x := 1) (y := nI N) hx hb dX4_seen_9 ?_
  refine n_eqi (shl1 N (by omega)) ?_
  refine lv_iconst (v := 1) hx hb dX4_seen_10 (by decide) ?_
  refine n_isub hx hb (2 ^ N) 1 (by omega) dX4_seen_11 ?_
  refine c_S (rest := []) C (metX4_isIn l G x 0 (nI ((2 ^ N) - 1))) 3 (lw_S q1145 q1146 q42 q1147) (by decide +kernel) ⟨rfl, rfl⟩ ⟨(Nat.le_of_ble_eq_true rfl), (Nat.le_of_ble_eq_true rfl)⟩ (KM_mv G) (hP.sub (ws' := []) [] rfl) hK hl rfl rfl (Nat.le_of_ble_eq_true rfl) ⟨(Nat.le_of_ble_eq_true rfl), (Nat.le_of_ble_eq_true rfl)⟩ dX4_seen_12 ?_
  refine n_if_neB (b := (sIn x 0 (nI ((2 ^ N) - 1)))) (tgt := 20) hx hb dX4_seen_15 (by decide) (fun c_1 => ?_) (fun c_1 => ?_)
  · obtain ⟨x_2, hx_2, gx_2, rfl⟩ := sIn_t (a := 0) (b := ((2 ^ N) - 1)) (by omega) (by omega) c_1
    have tx_2 : tn (nI x_2) = x_2 := nI_clamp (by omega)
    refine lv_iconst (v := 0) hx hb dX4_seen_20 (by decide) ?_
    refine lv_istore_n (lv' := [(2, .int 0), (0, .ref h), (1, .int (nI x_2))]) hx hb dX4_seen_21 rfl hl (Nat.le_of_ble_eq_true rfl) rfl (fun ls hl => ?_)
    refine lv_iconst (v := 0) hx hb dX4_seen_22 (by decide) ?_
    refine lv_istore_n (lv' := [(3, .int 0), (2, .int 0), (0, .ref h), (1, .int (nI x_2))]) hx hb dX4_seen_23 rfl hl (Nat.le_of_ble_eq_true rfl) rfl (fun ls hl => ?_)
    suffices hlp_3 : (∀ (n i : Nat), i + n = N → ∀ (ls : Array Slot), lv_has ls 4 [(3, .int (nI i)), (2, .int (seN r (nI x_2) i)), (0, .ref h), (1, .int (nI x_2))] → W p0_ l e0_ ({ frames := 2, cells := 0, slots := 0, locals := 42 } : Room) s m args below meth c s.heap [] (0) (0) (MQ below (vp_Si (fun rr9 => rr9 = sSeenA r N (nI x_2))) args s 0 0 (fun _ => False)) (F0 m 24 ls [])) by
      exact hlp_3 (N) 0 (by omega) ls (lv_sub hl [0, 1, 2, 3] rfl)
    have hend_3 : ∀ (ls : Array Slot), lv_has ls 4 [(3, .int (nI N)), (2, .int (seN r (nI x_2) N)), (0, .ref h), (1, .int (nI x_2))] → W p0_ l e0_ ({ frames := 2, cells := 0, slots := 0, locals := 42 } : Room) s m args below meth c s.heap [] (0) (0) (MQ below (vp_Si (fun rr9 => rr9 = sSeenA r N (nI x_2))) args s 0 0 (fun _ => False)) (F0 m 24 ls []) := by
      intro ls hl
      refine lv_iload_n hx hb dX4_seen_24 rfl (lv_at hl 0 rfl) ?_
      refine lv_aload_n hx hb dX4_seen_25 rfl (lv_at hl 2 rfl) ?_
      refine va_get (D := gD G) (ci := 0) (v := .ref (ad 0)) (C := RX4) (T := TX4) (N := 20) hx hb hts in_X4 hown hK hP 0 rfl rfl 0 (by decide) (hts _ q1073) (fun _ h9 => h9) rfl dX4_seen_26 ?_
      refine lv_iconst (v := 0) hx hb dX4_seen_29 (by decide) ?_
      refine n_iald C hK hP 1 0 rfl (by omega) (by omega) dX4_seen_30 ?_
      refine n_eqi (hr) ?_
      refine n_ic_ge (x := N) (y := N) (tgt := 67) hx hb (by omega) (by omega) dX4_seen_31 (by decide) (fun c_4 => ?_) (fun c_4 => absurd c_4 (by omega))
      refine lv_iconst (v := 0) hx hb dX4_seen_67 (by decide) ?_
      refine lv_istore_n (lv' := [(3, .int 0), (2, .int (seN r (nI x_2) N)), (0, .ref h), (1, .int (nI x_2))]) hx hb dX4_seen_68 rfl hl (Nat.le_of_ble_eq_true rfl) rfl (fun ls hl => ?_)
      suffices hlp_5 : (∀ (n i : Nat), i + n = N → ∀ (ls : Array Slot), lv_has ls 4 [(3, .int (nI i)), (2, .int (seV (seB r (nI x_2) i) (seN r (nI x_2) N))), (0, .ref h), (1, .int (nI x_2))] → W p0_ l e0_ ({ frames := 2, cells := 0, slots := 0, locals := 42 } : Room) s m args below meth c s.heap [] (0) (0) (MQ below (vp_Si (fun rr9 => rr9 = sSeenA r N (nI x_2))) args s 0 0 (fun _ => False)) (F0 m 69 ls [])) by
        exact hlp_5 (N) 0 (by omega) ls (lv_sub hl [0, 1, 2, 3] rfl)
      have hend_5 : ∀ (ls : Array Slot), lv_has ls 4 [(3, .int (nI N)), (2, .int (seV (seB r (nI x_2) N) (seN r (nI x_2) N))), (0, .ref h), (1, .int (nI x_2))] → W p0_ l e0_ ({ frames := 2, cells := 0, slots := 0, locals := 42 } : Room) s m args below meth c s.heap [] (0) (0) (MQ below (vp_Si (fun rr9 => rr9 = sSeenA r N (nI x_2))) args s 0 0 (fun _ => False)) (F0 m 69 ls []) := by
        intro ls hl
        refine lv_iload_n hx hb dX4_seen_69 rfl (lv_at hl 0 rfl) ?_
        refine lv_aload_n hx hb dX4_seen_70 rfl (lv_at hl 2 rfl) ?_
        refine va_get (D := gD G) (ci := 0) (v := .ref (ad 0)) (C := RX4) (T := TX4) (N := 20) hx hb hts in_X4 hown hK hP 0 rfl rfl 0 (by decide) (hts _ q1073) (fun _ h9 => h9) rfl dX4_seen_71 ?_
        refine lv_iconst (v := 0) hx hb dX4_seen_74 (by decide) ?_
        refine n_iald C hK hP 1 0 rfl (by omega) (by omega) dX4_seen_75 ?_
        refine n_eqi (hr) ?_
        refine n_ic_ge (x := N) (y := N) (tgt := 118) hx hb (by omega) (by omega) dX4_seen_76 (by decide) (fun c_6 => ?_) (fun c_6 => absurd c_6 (by omega))
        refine lv_iload_n hx hb dX4_seen_118 rfl (lv_at hl 1 rfl) ?_
        exact n_iret (v := seV (seB r (nI x_2) N) (seN r (nI x_2) N)) C (by simp [sSeenA, c_1, tx_2, c_4, c_6]) dX4_seen_119
      intro n
      induction n with
      | zero =>
        intro i hi_5 ls hl
        obtain e_5 : i = N := by omega
        first | (subst e_5; exact hend_5 ls hl) | (rw [e_5] at hl; exact hend_5 ls hl)
      | succ n ih_5 =>
        intro i hi_5 ls hl
        refine lv_iload_n hx hb dX4_seen_69 rfl (lv_at hl 0 rfl) ?_
        refine lv_aload_n hx hb dX4_seen_70 rfl (lv_at hl 2 rfl) ?_
        refine va_get (D := gD G) (ci := 0) (v := .ref (ad 0)) (C := RX4) (T := TX4) (N := 20) hx hb hts in_X4 hown hK hP 0 rfl rfl 0 (by decide) (hts _ q1073) (fun _ h9 => h9) rfl dX4_seen_71 ?_
        refine lv_iconst (v := 0) hx hb dX4_seen_74 (by decide) ?_
        refine n_iald C hK hP 1 0 rfl (by omega) (by omega) dX4_seen_75 ?_
        refine n_eqi (hr) ?_
        refine n_ic_ge (x := i) (y := N) (tgt := 118) hx hb (by omega) (by omega) dX4_seen_76 (by decide) (fun c_7 => absurd c_7 (by omega)) (fun c_7 => ?_)
        refine lv_iload_n hx hb dX4_seen_79 rfl (lv_at hl 3 rfl) ?_
        refine lv_iload_n hx hb dX4_seen_80 rfl (lv_at hl 0 rfl) ?_
        refine lv_ishr (x := nI x_2) (y := nI i) hx hb dX4_seen_81 ?_
        refine lv_iconst (v := 1) hx hb dX4_seen_82 (by decide) ?_
        refine lv_iand (x := (nI x_2) >>> ((nI i) &&& 31)) (y := 1) hx hb dX4_seen_83 ?_
        refine lv_iconst (v := 1) hx hb dX4_seen_84 (by decide) ?_
        refine lv_icmp_ne (x := ((nI x_2) >>> ((nI i) &&& 31)) &&& 1) (y := 1) (tgt := 112) hx hb dX4_seen_85 (by decide) (fun c_8 => ?_) (fun c_8 => ?_)
        · refine n_iinc (k := 0) (lv' := [(3, .int (nI (i + 1))), (2, .int (seV (seB r (nI x_2) i) (seN r (nI x_2) N))), (0, .ref h), (1, .int (nI x_2))]) hx hb i 1 dX4_seen_112 hl rfl (Nat.le_of_ble_eq_true rfl) rfl (fun ls hl => ?_)
          refine lv_goto (tgt := 69) hx hb dX4_seen_115 (by decide) ?_
          have e_9 : seV (seB r (nI x_2) (i + 1)) (seN r (nI x_2) N) = seV (seB r (nI x_2) i) (seN r (nI x_2) N) := by simp [seV, seB, bitI, tx_2, c_7, c_8]
          exact ih_5 (i + 1) (by omega) ls (by rw [e_9]; exact lv_sub hl [0, 1, 2, 3] rfl)
        · refine lv_aload_n hx hb dX4_seen_88 rfl (lv_at hl 2 rfl) ?_
          refine va_get (D := gD G) (ci := 0) (v := .ref (ad 0)) (C := RX4) (T := TX4) (N := 20) hx hb hts in_X4 hown hK hP 0 rfl rfl 0 (by decide) (hts _ q1073) (fun _ h9 => h9) rfl dX4_seen_89 ?_
          refine lv_iconst (v := 1) hx hb dX4_seen_92 (by decide) ?_
          refine n_iald C hK hP 1 1 rfl (by omega) (by omega) dX4_seen_93 ?_
          refine lv_if_eq (x := r 1) (tgt := 110) hx hb dX4_seen_94 (by decide) (fun c_10 => ?_) (fun c_10 => ?_)
          · refine lv_iconst (v := 0) hx hb dX4_seen_110 (by decide) ?_
            refine lv_istore_n (lv' := [(2, .int 0), (3, .int (nI i)), (0, .ref h), (1, .int (nI x_2))]) hx hb dX4_seen_111 rfl hl (Nat.le_of_ble_eq_true rfl) rfl (fun ls hl => ?_)
            refine n_iinc (k := 1) (lv' := [(3, .int (nI (i + 1))), (2, .int 0), (0, .ref h), (1, .int (nI x_2))]) hx hb i 1 dX4_seen_112 hl rfl (Nat.le_of_ble_eq_true rfl) rfl (fun ls hl => ?_)
            refine lv_goto (tgt := 69) hx hb dX4_seen_115 (by decide) ?_
            have e_11 : seV (seB r (nI x_2) (i + 1)) (seN r (nI x_2) N) = 0 := by simp [seV, seB, bitI, tx_2, c_7, c_8, c_10]
            exact ih_5 (i + 1) (by omega) ls (by rw [e_11]; exact lv_sub hl [0, 1, 2, 3] rfl)
          · refine lv_aload_n hx hb dX4_seen_97 rfl (lv_at hl 2 rfl) ?_
            refine va_get (D := gD G) (ci := 0) (v := .ref (ad 0)) (C := RX4) (T := TX4) (N := 20) hx hb hts in_X4 hown hK hP 0 rfl rfl 0 (by decide) (hts _ q1073) (fun _ h9 => h9) rfl dX4_seen_98 ?_
            refine lv_iload_n hx hb dX4_seen_101 rfl (lv_at hl 0 rfl) ?_
            refine lv_iconst (v := 2) hx hb dX4_seen_102 (by decide) ?_
            refine c_S (rest := [.ref (ad 0)]) C (metX4_of l G i 2) 2 (lw_S q1170 q1171 q42 q1172) (by decide +kernel) ⟨rfl, rfl⟩ ⟨(Nat.le_of_ble_eq_true rfl), (Nat.le_of_ble_eq_true rfl)⟩ (KM_mv G) (hP.sub (ws' := []) [] rfl) hK hl rfl rfl (Nat.le_of_ble_eq_true rfl) ⟨(Nat.le_of_ble_eq_true rfl), (Nat.le_of_ble_eq_true rfl)⟩ dX4_seen_103 ?_
            refine n_iald C hK hP 1 (3 + 6 * i + 2) rfl (by omega) (by omega) dX4_seen_106 ?_
            refine lv_if_ne (x := r (3 + 6 * i + 2)) (tgt := 112) hx hb dX4_seen_107 (by decide) (fun c_12 => ?_) (fun c_12 => ?_)
            · refine n_iinc (k := 0) (lv' := [(3, .int (nI (i + 1))), (2, .int (seV (seB r (nI x_2) i) (seN r (nI x_2) N))), (0, .ref h), (1, .int (nI x_2))]) hx hb i 1 dX4_seen_112 hl rfl (Nat.le_of_ble_eq_true rfl) rfl (fun ls hl => ?_)
              refine lv_goto (tgt := 69) hx hb dX4_seen_115 (by decide) ?_
              have e_13 : seV (seB r (nI x_2) (i + 1)) (seN r (nI x_2) N) = seV (seB r (nI x_2) i) (seN r (nI x_2) N) := by simp [seV, seB, bitI, tx_2, c_7, c_8, c_10, c_12]
              exact ih_5 (i + 1) (by omega) ls (by rw [e_13]; exact lv_sub hl [0, 1, 2, 3] rfl)
            · refine lv_iconst (v := 0) hx hb dX4_seen_110 (by decide) ?_
              refine lv_istore_n (lv' := [(2, .int 0), (3, .int (nI i)), (0, .ref h), (1, .int (nI x_2))]) hx hb dX4_seen_111 rfl hl (Nat.le_of_ble_eq_true rfl) rfl (fun ls hl => ?_)
              refine n_iinc (k := 1) (lv' := [(3, .int (nI (i + 1))), (2, .int 0), (0, .ref h), (1, .int (nI x_2))]) hx hb i 1 dX4_seen_112 hl rfl (Nat.le_of_ble_eq_true rfl) rfl (fun ls hl => ?_)
              refine lv_goto (tgt := 69) hx hb dX4_seen_115 (by decide) ?_
              have e_14 : seV (seB r (nI x_2) (i + 1)) (seN r (nI x_2) N) = 0 := by simp [seV, seB, bitI, tx_2, c_7, c_8, c_10, c_12]
              exact ih_5 (i + 1) (by omega) ls (by rw [e_14]; exact lv_sub hl [0, 1, 2, 3] rfl)
    intro n
    induction n with
    | zero =>
      intro i hi_3 ls hl
      obtain e_3 : i = N := by omega
      first | (subst e_3; exact hend_3 ls hl) | (rw [e_3] at hl; exact hend_3 ls hl)
    | succ n ih_3 =>
      intro i hi_3 ls hl
      refine lv_iload_n hx hb dX4_seen_24 rfl (lv_at hl 0 rfl) ?_
      refine lv_aload_n hx hb dX4_seen_25 rfl (lv_at hl 2 rfl) ?_
      refine va_get (D := gD G) (ci := 0) (v := .ref (ad 0)) (C := RX4) (T := TX4) (N := 20) hx hb hts in_X4 hown hK hP 0 rfl rfl 0 (by decide) (hts _ q1073) (fun _ h9 => h9) rfl dX4_seen_26 ?_
      refine lv_iconst (v := 0) hx hb dX4_seen_29 (by decide) ?_
      refine n_iald C hK hP 1 0 rfl (by omega) (by omega) dX4_seen_30 ?_
      refine n_eqi (hr) ?_
      refine n_ic_ge (x := i) (y := N) (tgt := 67) hx hb (by omega) (by omega) dX4_seen_31 (by decide) (fun c_15 => absurd c_15 (by omega)) (fun c_15 => ?_)
      refine lv_iload_n hx hb dX4_seen_34 rfl (lv_at hl 1 rfl) ?_
      refine lv_iload_n hx hb dX4_seen_35 rfl (lv_at hl 3 rfl) ?_
      refine lv_iload_n hx hb dX4_seen_36 rfl (lv_at hl 0 rfl) ?_
      refine lv_ishr (x := nI x_2) (y := nI i) hx hb dX4_seen_37 ?_
      refine lv_iconst (v := 1) hx hb dX4_seen_38 (by decide) ?_
      refine lv_iand (x := (nI x_2) >>> ((nI i) &&& 31)) (y := 1) hx hb dX4_seen_39 ?_
      refine lv_if_ne (x := ((nI x_2) >>> ((nI i) &&& 31)) &&& 1) (tgt := 58) hx hb dX4_seen_40 (by decide) (fun c_16 => ?_) (fun c_16 => ?_)
      · refine lv_iconst (v := 0) hx hb dX4_seen_58 (by decide) ?_
        refine lv_iadd (x := seN r (nI x_2) i) (y := 0) hx hb dX4_seen_59 ?_
        refine lv_istore_n (lv' := [(2, .int ((seN r (nI x_2) i) + 0)), (3, .int (nI i)), (0, .ref h), (1, .int (nI x_2))]) hx hb dX4_seen_60 rfl hl (Nat.le_of_ble_eq_true rfl) rfl (fun ls hl => ?_)
        refine n_iinc (k := 1) (lv' := [(3, .int (nI (i + 1))), (2, .int ((seN r (nI x_2) i) + 0)), (0, .ref h), (1, .int (nI x_2))]) hx hb i 1 dX4_seen_61 hl rfl (Nat.le_of_ble_eq_true rfl) rfl (fun ls hl => ?_)
        refine lv_goto (tgt := 24) hx hb dX4_seen_64 (by decide) ?_
        have e_17 : seN r (nI x_2) (i + 1) = (seN r (nI x_2) i) + 0 := by simp [seN, bitI, tx_2, c_15, c_16]
        exact ih_3 (i + 1) (by omega) ls (by rw [e_17]; exact lv_sub hl [0, 1, 2, 3] rfl)
      · refine lv_aload_n hx hb dX4_seen_43 rfl (lv_at hl 2 rfl) ?_
        refine va_get (D := gD G) (ci := 0) (v := .ref (ad 0)) (C := RX4) (T := TX4) (N := 20) hx hb hts in_X4 hown hK hP 0 rfl rfl 0 (by decide) (hts _ q1073) (fun _ h9 => h9) rfl dX4_seen_44 ?_
        refine lv_iload_n hx hb dX4_seen_47 rfl (lv_at hl 0 rfl) ?_
        refine c_S (rest := [.int (seN r (nI x_2) i)]) C (metX4_canLook l G (ad 0) r i (by omega)) 2 (lw_S q1180 q1181 q42 q1182) (by decide +kernel) ⟨rfl, rfl⟩ ⟨(Nat.le_of_ble_eq_true rfl), (Nat.le_of_ble_eq_true rfl)⟩ (KM_mv G) (hP.sub (ws' := [(ad 0, iA G 57 r)]) [1] rfl) hK hl rfl rfl (Nat.le_of_ble_eq_true rfl) ⟨(Nat.le_of_ble_eq_true rfl), (Nat.le_of_ble_eq_true rfl)⟩ dX4_seen_48 ?_
        refine n_if_eqB (b := (sLook r i)) (tgt := 58) hx hb dX4_seen_51 (by decide) (fun c_18 => ?_) (fun c_18 => ?_)
        · refine lv_iconst (v := 0) hx hb dX4_seen_58 (by decide) ?_
          refine lv_iadd (x := seN r (nI x_2) i) (y := 0) hx hb dX4_seen_59 ?_
          refine lv_istore_n (lv' := [(2, .int ((seN r (nI x_2) i) + 0)), (3, .int (nI i)), (0, .ref h), (1, .int (nI x_2))]) hx hb dX4_seen_60 rfl hl (Nat.le_of_ble_eq_true rfl) rfl (fun ls hl => ?_)
          refine n_iinc (k := 1) (lv' := [(3, .int (nI (i + 1))), (2, .int ((seN r (nI x_2) i) + 0)), (0, .ref h), (1, .int (nI x_2))]) hx hb i 1 dX4_seen_61 hl rfl (Nat.le_of_ble_eq_true rfl) rfl (fun ls hl => ?_)
          refine lv_goto (tgt := 24) hx hb dX4_seen_64 (by decide) ?_
          have e_19 : seN r (nI x_2) (i + 1) = (seN r (nI x_2) i) + 0 := by simp [seN, bitI, tx_2, c_15, c_16, c_18]
          exact ih_3 (i + 1) (by omega) ls (by rw [e_19]; exact lv_sub hl [0, 1, 2, 3] rfl)
        · refine lv_iconst (v := 1) hx hb dX4_seen_54 (by decide) ?_
          refine lv_goto (tgt := 59) hx hb dX4_seen_55 (by decide) ?_
          refine lv_iadd (x := seN r (nI x_2) i) (y := 1) hx hb dX4_seen_59 ?_
          refine lv_istore_n (lv' := [(2, .int ((seN r (nI x_2) i) + 1)), (3, .int (nI i)), (0, .ref h), (1, .int (nI x_2))]) hx hb dX4_seen_60 rfl hl (Nat.le_of_ble_eq_true rfl) rfl (fun ls hl => ?_)
          refine n_iinc (k := 1) (lv' := [(3, .int (nI (i + 1))), (2, .int ((seN r (nI x_2) i) + 1)), (0, .ref h), (1, .int (nI x_2))]) hx hb i 1 dX4_seen_61 hl rfl (Nat.le_of_ble_eq_true rfl) rfl (fun ls hl => ?_)
          refine lv_goto (tgt := 24) hx hb dX4_seen_64 (by decide) ?_
          have e_20 : seN r (nI x_2) (i + 1) = (seN r (nI x_2) i) + 1 := by simp [seN, bitI, tx_2, c_15, c_16, c_18]
          exact ih_3 (i + 1) (by omega) ls (by rw [e_20]; exact lv_sub hl [0, 1, 2, 3] rfl)
  · refine lv_iconst (v := (-1)) hx hb dX4_seen_18 (by decide) ?_
    exact n_iret (v := (-1)) C (by simp [sSeenA, c_1]) dX4_seen_19

set_option maxHeartbeats 4000000 in
set_option maxRecDepth 100000 in
theorem metX4_atAll (l : Launch) (G : GG) (h : Nat) (ad : Nat → Nat) (iv : Nat → Int32) (r : Nat → Int32) (N : Nat) (what : Int32) (hN : N ≤ 9) (hr : r 0 = nI N) : MR l yX4_atAll cX4_atAll 8 (some .int) ({ frames := 2, cells := 0, slots := 0, locals := 42 }) [.ref h, .int what] [(h, mO ad iv), (ad 0, iA G 57 r)] G (KM G) (sAtAllA r N what) := by
  -- rows printed by wip/tools/gen.py
  refine mr_mk RX4 (by decide) rfl (Nat.le_of_ble_eq_true rfl) ?_
  intro p0_ e0_ s m args below meth c C hP hK ls hl
  have hx := C.1
  have hb := C.2.1
  have hml := C.2.2.2.2.1
  have hown := C.2.2.2.2.2.1
  have hts := C.2.2.2.2.2.2
  have hl : lv_has ls 8 [(0, .ref h), (1, .int what)] := hl
  refine lv_iload_n hx hb dX4_atAll_0 rfl (lv_at hl 1 rfl) ?_
  refine lv_iconst (v := 0) hx hb dX4_atAll_1 (by decide) ?_
  refine lv_iconst (v := 1) hx hb dX4_atAll_2 (by decide) ?_
  refine c_S (rest := []) C (metX4_isIn l G what 0 1) 3 (lw_S q1145 q1146 q42 q1147) (by decide +kernel) ⟨rfl, rfl⟩ ⟨(Nat.le_of_ble_eq_true rfl), (Nat.le_of_ble_eq_true rfl)⟩ (KM_mv G) (hP.sub (ws' := []) [] rfl) hK hl rfl rfl (Nat.le_of_ble_eq_true rfl) ⟨(Nat.le_of_ble_eq_true rfl), (Nat.le_of_ble_eq_true rfl)⟩ dX4_atAll_3 ?_
  refine n_if_neB (b := (sIn what 0 1)) (tgt := 11) hx hb dX4_atAll_6 (by decide) (fun c_1 => ?_) (fun c_1 => ?_)
  · obtain ⟨what_2, hwhat_2, gwhat_2, rfl⟩ := sIn_t (a := 0) (b := 1) (by omega) (by omega) c_1
    have twhat_2 : tn (nI what_2) = what_2 := nI_clamp (by omega)
    refine lv_bipush (v := (-4)) hx hb dX4_atAll_11 (by decide) ?_
    refine lv_istore_n (lv' := [(2, .int (-4)), (0, .ref h), (1, .int (nI what_2))]) hx hb dX4_atAll_13 rfl hl (Nat.le_of_ble_eq_true rfl) rfl (fun ls hl => ?_)
    refine lv_iconst (v := 0) hx hb dX4_atAll_14 (by decide) ?_
    refine lv_istore_n (lv' := [(3, .int 0), (2, .int (-4)), (0, .ref h), (1, .int (nI what_2))]) hx hb dX4_atAll_15 rfl hl (Nat.le_of_ble_eq_true rfl) rfl (fun ls hl => ?_)
    refine lv_iconst (v := 0) hx hb dX4_atAll_16 (by decide) ?_
    refine lv_istore (lv' := [(4, .int 0), (3, .int 0), (2, .int (-4)), (0, .ref h), (1, .int (nI what_2))]) hx hb dX4_atAll_17 hl (Nat.le_of_ble_eq_true rfl) rfl (fun ls hl => ?_)
    refine lv_iconst (v := 0) hx hb dX4_atAll_19 (by decide) ?_
    refine lv_istore (lv' := [(5, .int 0), (4, .int 0), (3, .int 0), (2, .int (-4)), (0, .ref h), (1, .int (nI what_2))]) hx hb dX4_atAll_20 hl (Nat.le_of_ble_eq_true rfl) rfl (fun ls hl => ?_)
    refine lv_iconst (v := 0) hx hb dX4_atAll_22 (by decide) ?_
    refine lv_istore (lv' := [(6, .int 0), (5, .int 0), (4, .int 0), (3, .int 0), (2, .int (-4)), (0, .ref h), (1, .int (nI what_2))]) hx hb dX4_atAll_23 hl (Nat.le_of_ble_eq_true rfl) rfl (fun ls hl => ?_)
    suffices hlp_3 : (∀ (n i : Nat), i + n = N → ∀ (ls : Array Slot), lv_has ls 8 [(6, .int (nI i)), (5, .int (nI (aO r i))), (4, .int (nI (aS r i))), (3, .int (nI (aH r i))), (2, .int (encL (aF r i))), (0, .ref h), (1, .int (nI what_2))] → W p0_ l e0_ ({ frames := 2, cells := 0, slots := 0, locals := 42 } : Room) s m args below meth c s.heap [] (0) (0) (MQ below (vp_Si (fun rr9 => rr9 = sAtAllA r N (nI what_2))) args s 0 0 (fun _ => False)) (F0 m 25 ls [])) by
      exact hlp_3 (N) 0 (by omega) ls (lv_sub hl [0, 1, 2, 3, 4, 5, 6] rfl)
    have hend_3 : ∀ (ls : Array Slot), lv_has ls 8 [(6, .int (nI N)), (5, .int (nI (aO r N))), (4, .int (nI (aS r N))), (3, .int (nI (aH r N))), (2, .int (encL (aF r N))), (0, .ref h), (1, .int (nI what_2))] → W p0_ l e0_ ({ frames := 2, cells := 0, slots := 0, locals := 42 } : Room) s m args below meth c s.heap [] (0) (0) (MQ below (vp_Si (fun rr9 => rr9 = sAtAllA r N (nI what_2))) args s 0 0 (fun _ => False)) (F0 m 25 ls []) := by
      intro ls hl
      have l1 := aH_le r N
      have l2 := aS_le r N
      have l3 := aO_le r N
      refine lv_iload hx hb dX4_atAll_25 (lv_at hl 0 rfl) ?_
      refine lv_aload_n hx hb dX4_atAll_27 rfl (lv_at hl 5 rfl) ?_
      refine va_get (D := gD G) (ci := 0) (v := .ref (ad 0)) (C := RX4) (T := TX4) (N := 20) hx hb hts in_X4 hown hK hP 0 rfl rfl 0 (by decide) (hts _ q1073) (fun _ h9 => h9) rfl dX4_atAll_28 ?_
      refine lv_iconst (v := 0) hx hb dX4_atAll_31 (by decide) ?_
      refine n_iald C hK hP 1 0 rfl (by omega) (by omega) dX4_atAll_32 ?_
      refine n_eqi (hr) ?_
      refine n_ic_ge (x := N) (y := N) (tgt := 166) hx hb (by omega) (by omega) dX4_atAll_33 (by decide) (fun c_4 => ?_) (fun c_4 => absurd c_4 (by omega))
      refine lv_iload_n hx hb dX4_atAll_166 rfl (lv_at hl 6 rfl) ?_
      refine lv_iconst (v := 1) hx hb dX4_atAll_167 (by decide) ?_
      refine n_ic_ne (x := what_2) (y := 1) (tgt := 173) hx hb (by omega) (by omega) dX4_atAll_168 (by decide) (fun c_5 => ?_) (fun c_5 => ?_)
      · have zc_5 : ¬ nI what_2 = 1 := fun q => c_5 ((nI_eq (by omega) (by omega)).mp q)
        refine lv_aload_n hx hb dX4_atAll_173 rfl (lv_at hl 5 rfl) ?_
        refine va_get (D := gD G) (ci := 0) (v := .ref (ad 0)) (C := RX4) (T := TX4) (N := 20) hx hb hts in_X4 hown hK hP 0 rfl rfl 0 (by decide) (hts _ q1073) (fun _ h9 => h9) rfl dX4_atAll_174 ?_
        refine lv_iconst (v := 1) hx hb dX4_atAll_177 (by decide) ?_
        refine n_iald C hK hP 1 1 rfl (by omega) (by omega) dX4_atAll_178 ?_
        refine lv_iload hx hb dX4_atAll_179 (lv_at hl 1 rfl) ?_
        refine n_if_le (x := aO r N) (tgt := 188) hx hb (by omega) dX4_atAll_181 (by decide) (fun c_6 => ?_) (fun c_6 => ?_)
        · have zc_6 : nI (aO r N) = 0 := congrArg nI c_6
          refine lv_iload hx hb dX4_atAll_188 (lv_at hl 2 rfl) ?_
          refine n_if_le (x := aS r N) (tgt := 199) hx hb (by omega) dX4_atAll_190 (by decide) (fun c_7 => ?_) (fun c_7 => ?_)
          · have zc_7 : nI (aS r N) = 0 := congrArg nI c_7
            refine lv_iconst (v := 0) hx hb dX4_atAll_199 (by decide) ?_
            refine c_S (rest := []) C (metX4_least l G (r 1) 0) 2 (lw_S q1198 q1199 q42 q1200) (by decide +kernel) ⟨rfl, rfl⟩ ⟨(Nat.le_of_ble_eq_true rfl), (Nat.le_of_ble_eq_true rfl)⟩ (KM_mv G) (hP.sub (ws' := []) [] rfl) hK hl rfl rfl (Nat.le_of_ble_eq_true rfl) ⟨(Nat.le_of_ble_eq_true rfl), (Nat.le_of_ble_eq_true rfl)⟩ dX4_atAll_200 ?_
            exact n_iret (v := mn (r 1) 0) C (by simp [sAtAllA, c_1, twhat_2, c_4, c_5, zc_5, c_6, zc_6, c_7, zc_7]) dX4_atAll_203
          · have zc_7 : ¬ nI (aS r N) = 0 := nI_ne0 c_7 (by omega)
            have yc_7 : ¬ aS r N = 0 := Nat.ne_of_gt c_7
            refine lv_iload_n hx hb dX4_atAll_193 rfl (lv_at hl 3 rfl) ?_
            refine lv_iconst (v := 1) hx hb dX4_atAll_194 (by decide) ?_
            refine lv_isub (x := nI (aH r N)) (y := 1) hx hb dX4_atAll_195 ?_
            refine lv_goto (tgt := 200) hx hb dX4_atAll_196 (by decide) ?_
            refine c_S (rest := []) C (metX4_least l G (r 1) ((nI (aH r N)) - 1)) 2 (lw_S q1198 q1199 q42 q1200) (by decide +kernel) ⟨rfl, rfl⟩ ⟨(Nat.le_of_ble_eq_true rfl), (Nat.le_of_ble_eq_true rfl)⟩ (KM_mv G) (hP.sub (ws' := []) [] rfl) hK hl rfl rfl (Nat.le_of_ble_eq_true rfl) ⟨(Nat.le_of_ble_eq_true rfl), (Nat.le_of_ble_eq_true rfl)⟩ dX4_atAll_200 ?_
            exact n_iret (v := mn (r 1) ((nI (aH r N)) - 1)) C (by simp [sAtAllA, c_1, twhat_2, c_4, c_5, zc_5, c_6, zc_6, c_7, yc_7, zc_7]) dX4_atAll_203
        · have zc_6 : ¬ nI (aO r N) = 0 := nI_ne0 c_6 (by omega)
          have yc_6 : ¬ aO r N = 0 := Nat.ne_of_gt c_6
          refine lv_iload_n hx hb dX4_atAll_184 rfl (lv_at hl 3 rfl) ?_
          refine lv_goto (tgt := 200) hx hb dX4_atAll_185 (by decide) ?_
          refine c_S (rest := []) C (metX4_least l G (r 1) (nI (aH r N))) 2 (lw_S q1198 q1199 q42 q1200) (by decide +kernel) ⟨rfl, rfl⟩ ⟨(Nat.le_of_ble_eq_true rfl), (Nat.le_of_ble_eq_true rfl)⟩ (KM_mv G) (hP.sub (ws' := []) [] rfl) hK hl rfl rfl (Nat.le_of_ble_eq_true rfl) ⟨(Nat.le_of_ble_eq_true rfl), (Nat.le_of_ble_eq_true rfl)⟩ dX4_atAll_200 ?_
          exact n_iret (v := mn (r 1) (nI (aH r N))) C (by simp [sAtAllA, c_1, twhat_2, c_4, c_5, zc_5, c_6, yc_6, zc_6]) dX4_atAll_203
      · obtain rfl := c_5
        have zc_5 : (nI 1 = 1) = True := eq_true rfl
        refine lv_iload_n hx hb dX4_atAll_171 rfl (lv_at hl 4 rfl) ?_
        exact n_iret (v := encL (aF r N)) C (by simp [sAtAllA, c_1, twhat_2, c_4, zc_5]) dX4_atAll_172
    intro n
    induction n with
    | zero =>
      intro i hi_3 ls hl
      obtain e_3 : i = N := by omega
      first | (subst e_3; exact hend_3 ls hl) | (rw [e_3] at hl; exact hend_3 ls hl)
    | succ n ih_3 =>
      intro i hi_3 ls hl
      have l1 := aH_le r i
      have l2 := aS_le r i
      have l3 := aO_le r i
      refine lv_iload hx hb dX4_atAll_25 (lv_at hl 0 rfl) ?_
      refine lv_aload_n hx hb dX4_atAll_27 rfl (lv_at hl 5 rfl) ?_
      refine va_get (D := gD G) (ci := 0) (v := .ref (ad 0)) (C := RX4) (T := TX4) (N := 20) hx hb hts in_X4 hown hK hP 0 rfl rfl 0 (by decide) (hts _ q1073) (fun _ h9 => h9) rfl dX4_atAll_28 ?_
      refine lv_iconst (v := 0) hx hb dX4_atAll_31 (by decide) ?_
      refine n_iald C hK hP 1 0 rfl (by omega) (by omega) dX4_atAll_32 ?_
      refine n_eqi (hr) ?_
      refine n_ic_ge (x := i) (y := N) (tgt := 166) hx hb (by omega) (by omega) dX4_atAll_33 (by decide) (fun c_8 => absurd c_8 (by omega)) (fun c_8 => ?_)
      refine lv_aload_n hx hb dX4_atAll_36 rfl (lv_at hl 5 rfl) ?_
      refine va_get (D := gD G) (ci := 0) (v := .ref (ad 0)) (C := RX4) (T := TX4) (N := 20) hx hb hts in_X4 hown hK hP 0 rfl rfl 0 (by decide) (hts _ q1073) (fun _ h9 => h9) rfl dX4_atAll_37 ?_
      refine lv_iload hx hb dX4_atAll_40 (lv_at hl 0 rfl) ?_
      refine lv_iconst (v := 2) hx hb dX4_atAll_42 (by decide) ?_
      refine c_S (rest := [.ref (ad 0)]) C (metX4_of l G i 2) 2 (lw_S q1170 q1171 q42 q1172) (by decide +kernel) ⟨rfl, rfl⟩ ⟨(Nat.le_of_ble_eq_true rfl), (Nat.le_of_ble_eq_true rfl)⟩ (KM_mv G) (hP.sub (ws' := []) [] rfl) hK hl rfl rfl (Nat.le_of_ble_eq_true rfl) ⟨(Nat.le_of_ble_eq_true rfl), (Nat.le_of_ble_eq_true rfl)⟩ dX4_atAll_43 ?_
      refine n_iald C hK hP 1 (3 + 6 * i + 2) rfl (by omega) (by omega) dX4_atAll_46 ?_
      refine lv_if_le (x := r (3 + 6 * i + 2)) (tgt := 68) hx hb dX4_atAll_47 (by decide) (fun c_9 => ?_) (fun c_9 => ?_)
      · have zc_9 : ¬ 0 < (r (3 + 6 * i + 2)) := Int32.not_lt.mpr c_9
        refine lv_iconst (v := 0) hx hb dX4_atAll_68 (by decide) ?_
        refine lv_istore (lv' := [(7, .int 0), (6, .int (nI i)), (5, .int (nI (aO r i))), (4, .int (nI (aS r i))), (3, .int (nI (aH r i))), (2, .int (encL (aF r i))), (0, .ref h), (1, .int (nI what_2))]) hx hb dX4_atAll_69 hl (Nat.le_of_ble_eq_true rfl) rfl (fun ls hl => ?_)
        refine lv_iload_n hx hb dX4_atAll_71 rfl (lv_at hl 4 rfl) ?_
        refine lv_iload hx hb dX4_atAll_72 (lv_at hl 0 rfl) ?_
        refine lv_if_eq (x := 0) (tgt := 81) hx hb dX4_atAll_74 (by decide) (fun c_10 => ?_) (fun c_10 => absurd c_10 (by decide))
        refine lv_iconst (v := 0) hx hb dX4_atAll_81 (by decide) ?_
        refine n_iadd hx hb (aH r i) 0 dX4_atAll_82 ?_
        refine lv_istore_n (lv' := [(3, .int (nI ((aH r i) + 0))), (7, .int 0), (6, .int (nI i)), (5, .int (nI (aO r i))), (4, .int (nI (aS r i))), (2, .int (encL (aF r i))), (0, .ref h), (1, .int (nI what_2))]) hx hb dX4_atAll_83 rfl hl (Nat.le_of_ble_eq_true rfl) rfl (fun ls hl => ?_)
        refine lv_aload_n hx hb dX4_atAll_84 rfl (lv_at hl 6 rfl) ?_
        refine va_get (D := gD G) (ci := 0) (v := .ref (ad 0)) (C := RX4) (T := TX4) (N := 20) hx hb hts in_X4 hown hK hP 0 rfl rfl 0 (by decide) (hts _ q1073) (fun _ h9 => h9) rfl dX4_atAll_85 ?_
        refine lv_iload hx hb dX4_atAll_88 (lv_at hl 2 rfl) ?_
        refine c_S (rest := []) C (metX4_canLook l G (ad 0) r i (by omega)) 2 (lw_S q1180 q1181 q42 q1182) (by decide +kernel) ⟨rfl, rfl⟩ ⟨(Nat.le_of_ble_eq_true rfl), (Nat.le_of_ble_eq_true rfl)⟩ (KM_mv G) (hP.sub (ws' := [(ad 0, iA G 57 r)]) [1] rfl) hK hl rfl rfl (Nat.le_of_ble_eq_true rfl) ⟨(Nat.le_of_ble_eq_true rfl), (Nat.le_of_ble_eq_true rfl)⟩ dX4_atAll_90 ?_
        refine n_if_neB (b := (sLook r i)) (tgt := 99) hx hb dX4_atAll_93 (by decide) (fun c_11 => ?_) (fun c_11 => ?_)
        · refine lv_iload hx hb dX4_atAll_99 (lv_at hl 4 rfl) ?_
          refine lv_iload hx hb dX4_atAll_101 (lv_at hl 1 rfl) ?_
          refine lv_if_eq (x := 0) (tgt := 110) hx hb dX4_atAll_103 (by decide) (fun c_12 => ?_) (fun c_12 => absurd c_12 (by decide))
          refine lv_iconst (v := 0) hx hb dX4_atAll_110 (by decide) ?_
          refine n_iadd hx hb (aS r i) 0 dX4_atAll_111 ?_
          refine lv_istore (lv' := [(4, .int (nI ((aS r i) + 0))), (3, .int (nI ((aH r i) + 0))), (7, .int 0), (6, .int (nI i)), (5, .int (nI (aO r i))), (2, .int (encL (aF r i))), (0, .ref h), (1, .int (nI what_2))]) hx hb dX4_atAll_112 hl (Nat.le_of_ble_eq_true rfl) rfl (fun ls hl => ?_)
          refine lv_iload hx hb dX4_atAll_114 (lv_at hl 4 rfl) ?_
          refine lv_iload hx hb dX4_atAll_116 (lv_at hl 2 rfl) ?_
          refine lv_if_eq (x := 0) (tgt := 125) hx hb dX4_atAll_118 (by decide) (fun c_13 => ?_) (fun c_13 => absurd c_13 (by decide))
          refine lv_iconst (v := 1) hx hb dX4_atAll_125 (by decide) ?_
          refine n_iadd hx hb (aO r i) 1 dX4_atAll_126 ?_
          refine lv_istore (lv' := [(5, .int (nI ((aO r i) + 1))), (4, .int (nI ((aS r i) + 0))), (3, .int (nI ((aH r i) + 0))), (7, .int 0), (6, .int (nI i)), (2, .int (encL (aF r i))), (0, .ref h), (1, .int (nI what_2))]) hx hb dX4_atAll_127 hl (Nat.le_of_ble_eq_true rfl) rfl (fun ls hl => ?_)
          rcases ho_14 : aF r i with _ | bo_14
          · rw [ho_14] at hl
            have hl : lv_has ls 8 [(5, .int (nI ((aO r i) + 1))), (4, .int (nI ((aS r i) + 0))), (3, .int (nI ((aH r i) + 0))), (7, .int 0), (6, .int (nI i)), (2, .int (-4)), (0, .ref h), (1, .int (nI what_2))] := hl
            refine lv_iload_n hx hb dX4_atAll_129 rfl (lv_at hl 5 rfl) ?_
            refine lv_if_lt (x := (-4)) (tgt := 157) hx hb dX4_atAll_130 (by decide) (fun c_15 => ?_) (fun c_15 => absurd c_15 (by decide))
            refine lv_iload hx hb dX4_atAll_157 (lv_at hl 4 rfl) ?_
            refine lv_istore_n (lv' := [(2, .int (nI i)), (5, .int (nI ((aO r i) + 1))), (4, .int (nI ((aS r i) + 0))), (3, .int (nI ((aH r i) + 0))), (7, .int 0), (6, .int (nI i)), (0, .ref h), (1, .int (nI what_2))]) hx hb dX4_atAll_159 rfl hl (Nat.le_of_ble_eq_true rfl) rfl (fun ls hl => ?_)
            refine n_iinc (k := 5) (lv' := [(6, .int (nI (i + 1))), (2, .int (nI i)), (5, .int (nI ((aO r i) + 1))), (4, .int (nI ((aS r i) + 0))), (3, .int (nI ((aH r i) + 0))), (7, .int 0), (0, .ref h), (1, .int (nI what_2))]) hx hb i 1 dX4_atAll_160 hl rfl (Nat.le_of_ble_eq_true rfl) rfl (fun ls hl => ?_)
            refine lv_goto (tgt := 25) hx hb dX4_atAll_163 (by decide) ?_
            have e_16 : aO r (i + 1) = (aO r i) + 1 := by simp [aH, aS, aO, isOne, twhat_2, c_8, c_9, zc_9, c_10, c_11, c_12, c_13, ho_14, c_15]
            have e_17 : aS r (i + 1) = (aS r i) + 0 := by simp [aH, aS, aO, isOne, twhat_2, c_8, c_9, zc_9, c_10, c_11, c_12, c_13, ho_14, c_15]
            have e_18 : aH r (i + 1) = (aH r i) + 0 := by simp [aH, aS, aO, isOne, twhat_2, c_8, c_9, zc_9, c_10, c_11, c_12, c_13, ho_14, c_15]
            have e_19 : encL (aF r (i + 1)) = nI i := by simp [aF, encLS, encLN, aH, aS, aO, isOne, twhat_2, c_8, c_9, zc_9, c_10, c_11, c_12, c_13, ho_14, c_15]
            exact ih_3 (i + 1) (by omega) ls (by rw [e_16, e_17, e_18, e_19]; exact lv_sub hl [0, 2, 3, 4, 1, 6, 7] rfl)
          · rw [ho_14] at hl
            have hl : lv_has ls 8 [(5, .int (nI ((aO r i) + 1))), (4, .int (nI ((aS r i) + 0))), (3, .int (nI ((aH r i) + 0))), (7, .int 0), (6, .int (nI i)), (2, .int (nI bo_14)), (0, .ref h), (1, .int (nI what_2))] := hl
            have go_14 := aF_in _ _ ho_14
            refine lv_iload_n hx hb dX4_atAll_129 rfl (lv_at hl 5 rfl) ?_
            refine n_if_lt (x := bo_14) (tgt := 157) hx hb (by omega) dX4_atAll_130 (by decide) ?_
            refine lv_aload_n hx hb dX4_atAll_133 rfl (lv_at hl 6 rfl) ?_
            refine va_get (D := gD G) (ci := 0) (v := .ref (ad 0)) (C := RX4) (T := TX4) (N := 20) hx hb hts in_X4 hown hK hP 0 rfl rfl 0 (by decide) (hts _ q1073) (fun _ h9 => h9) rfl dX4_atAll_134 ?_
            refine lv_iload hx hb dX4_atAll_137 (lv_at hl 4 rfl) ?_
            refine lv_iconst (v := 2) hx hb dX4_atAll_139 (by decide) ?_
            refine c_S (rest := [.ref (ad 0)]) C (metX4_of l G i 2) 2 (lw_S q1170 q1171 q42 q1172) (by decide +kernel) ⟨rfl, rfl⟩ ⟨(Nat.le_of_ble_eq_true rfl), (Nat.le_of_ble_eq_true rfl)⟩ (KM_mv G) (hP.sub (ws' := []) [] rfl) hK hl rfl rfl (Nat.le_of_ble_eq_true rfl) ⟨(Nat.le_of_ble_eq_true rfl), (Nat.le_of_ble_eq_true rfl)⟩ dX4_atAll_140 ?_
            refine n_iald C hK hP 1 (3 + 6 * i + 2) rfl (by omega) (by omega) dX4_atAll_143 ?_
            refine lv_aload_n hx hb dX4_atAll_144 rfl (lv_at hl 6 rfl) ?_
            refine va_get (D := gD G) (ci := 0) (v := .ref (ad 0)) (C := RX4) (T := TX4) (N := 20) hx hb hts in_X4 hown hK hP 0 rfl rfl 0 (by decide) (hts _ q1073) (fun _ h9 => h9) rfl dX4_atAll_145 ?_
            refine lv_iload_n hx hb dX4_atAll_148 rfl (lv_at hl 5 rfl) ?_
            refine lv_iconst (v := 2) hx hb dX4_atAll_149 (by decide) ?_
            refine c_S (rest := [.ref (ad 0), .int (r (3 + 6 * i + 2))]) C (metX4_of l G bo_14 2) 2 (lw_S q1170 q1171 q42 q1172) (by decide +kernel) ⟨rfl, rfl⟩ ⟨(Nat.le_of_ble_eq_true rfl), (Nat.le_of_ble_eq_true rfl)⟩ (KM_mv G) (hP.sub (ws' := []) [] rfl) hK hl rfl rfl (Nat.le_of_ble_eq_true rfl) ⟨(Nat.le_of_ble_eq_true rfl), (Nat.le_of_ble_eq_true rfl)⟩ dX4_atAll_150 ?_
            refine n_iald C hK hP 1 (3 + 6 * bo_14 + 2) rfl (by omega) (by omega) dX4_atAll_153 ?_
            refine lv_icmp_ge (x := r (3 + 6 * i + 2)) (y := r (3 + 6 * bo_14 + 2)) (tgt := 160) hx hb dX4_atAll_154 (by decide) (fun c_20 => ?_) (fun c_20 => ?_)
            · have zc_20 : ¬ (r (3 + 6 * i + 2)) < (r (3 + 6 * bo_14 + 2)) := Int32.not_lt.mpr c_20
              refine n_iinc (k := 4) (lv' := [(6, .int (nI (i + 1))), (5, .int (nI ((aO r i) + 1))), (4, .int (nI ((aS r i) + 0))), (3, .int (nI ((aH r i) + 0))), (7, .int 0), (2, .int (nI bo_14)), (0, .ref h), (1, .int (nI what_2))]) hx hb i 1 dX4_atAll_160 hl rfl (Nat.le_of_ble_eq_true rfl) rfl (fun ls hl => ?_)
              refine lv_goto (tgt := 25) hx hb dX4_atAll_163 (by decide) ?_
              have e_21 : aO r (i + 1) = (aO r i) + 1 := by simp [aH, aS, aO, isOne, twhat_2, c_8, c_9, zc_9, c_10, c_11, c_12, c_13, ho_14, c_20, zc_20]
              have e_22 : aS r (i + 1) = (aS r i) + 0 := by simp [aH, aS, aO, isOne, twhat_2, c_8, c_9, zc_9, c_10, c_11, c_12, c_13, ho_14, c_20, zc_20]
              have e_23 : aH r (i + 1) = (aH r i) + 0 := by simp [aH, aS, aO, isOne, twhat_2, c_8, c_9, zc_9, c_10, c_11, c_12, c_13, ho_14, c_20, zc_20]
              have e_24 : encL (aF r (i + 1)) = nI bo_14 := by simp [aF, encLS, encLN, aH, aS, aO, isOne, twhat_2, c_8, c_9, zc_9, c_10, c_11, c_12, c_13, ho_14, c_20, zc_20]
              exact ih_3 (i + 1) (by omega) ls (by rw [e_21, e_22, e_23, e_24]; exact lv_sub hl [0, 1, 2, 3, 5, 6, 7] rfl)
            · have zc_20 : (r (3 + 6 * i + 2)) < (r (3 + 6 * bo_14 + 2)) := Int32.not_le.mp c_20
              refine lv_iload hx hb dX4_atAll_157 (lv_at hl 4 rfl) ?_
              refine lv_istore_n (lv' := [(2, .int (nI i)), (5, .int (nI ((aO r i) + 1))), (4, .int (nI ((aS r i) + 0))), (3, .int (nI ((aH r i) + 0))), (7, .int 0), (6, .int (nI i)), (0, .ref h), (1, .int (nI what_2))]) hx hb dX4_atAll_159 rfl hl (Nat.le_of_ble_eq_true rfl) rfl (fun ls hl => ?_)
              refine n_iinc (k := 5) (lv' := [(6, .int (nI (i + 1))), (2, .int (nI i)), (5, .int (nI ((aO r i) + 1))), (4, .int (nI ((aS r i) + 0))), (3, .int (nI ((aH r i) + 0))), (7, .int 0), (0, .ref h), (1, .int (nI what_2))]) hx hb i 1 dX4_atAll_160 hl rfl (Nat.le_of_ble_eq_true rfl) rfl (fun ls hl => ?_)
              refine lv_goto (tgt := 25) hx hb dX4_atAll_163 (by decide) ?_
              have e_25 : aO r (i + 1) = (aO r i) + 1 := by simp [aH, aS, aO, isOne, twhat_2, c_8, c_9, zc_9, c_10, c_11, c_12, c_13, ho_14, c_20, zc_20]
              have e_26 : aS r (i + 1) = (aS r i) + 0 := by simp [aH, aS, aO, isOne, twhat_2, c_8, c_9, zc_9, c_10, c_11, c_12, c_13, ho_14, c_20, zc_20]
              have e_27 : aH r (i + 1) = (aH r i) + 0 := by simp [aH, aS, aO, isOne, twhat_2, c_8, c_9, zc_9, c_10, c_11, c_12, c_13, ho_14, c_20, zc_20]
              have e_28 : encL (aF r (i + 1)) = nI i := by simp [aF, encLS, encLN, aH, aS, aO, isOne, twhat_2, c_8, c_9, zc_9, c_10, c_11, c_12, c_13, ho_14, c_20, zc_20]
              exact ih_3 (i + 1) (by omega) ls (by rw [e_25, e_26, e_27, e_28]; exact lv_sub hl [0, 2, 3, 4, 1, 6, 7] rfl)
        · refine lv_goto (tgt := 160) hx hb dX4_atAll_96 (by decide) ?_
          refine n_iinc (k := 2) (lv' := [(6, .int (nI (i + 1))), (3, .int (nI ((aH r i) + 0))), (7, .int 0), (5, .int (nI (aO r i))), (4, .int (nI (aS r i))), (2, .int (encL (aF r i))), (0, .ref h), (1, .int (nI what_2))]) hx hb i 1 dX4_atAll_160 hl rfl (Nat.le_of_ble_eq_true rfl) rfl (fun ls hl => ?_)
          refine lv_goto (tgt := 25) hx hb dX4_atAll_163 (by decide) ?_
          have e_29 : aO r (i + 1) = aO r i := by simp [aH, aS, aO, isOne, twhat_2, c_8, c_9, zc_9, c_10, c_11]
          have e_30 : aS r (i + 1) = aS r i := by simp [aH, aS, aO, isOne, twhat_2, c_8, c_9, zc_9, c_10, c_11]
          have e_31 : aH r (i + 1) = (aH r i) + 0 := by simp [aH, aS, aO, isOne, twhat_2, c_8, c_9, zc_9, c_10, c_11]
          have e_32 : encL (aF r (i + 1)) = encL (aF r i) := by simp [aF, encLS, encLN, aH, aS, aO, isOne, twhat_2, c_8, c_9, zc_9, c_10, c_11]
          exact ih_3 (i + 1) (by omega) ls (by rw [e_29, e_30, e_31, e_32]; exact lv_sub hl [0, 3, 4, 1, 5, 6, 7] rfl)
      · have zc_9 : 0 < (r (3 + 6 * i + 2)) := Int32.not_le.mp c_9
        refine lv_aload_n hx hb dX4_atAll_50 rfl (lv_at hl 5 rfl) ?_
        refine va_get (D := gD G) (ci := 0) (v := .ref (ad 0)) (C := RX4) (T := TX4) (N := 20) hx hb hts in_X4 hown hK hP 0 rfl rfl 0 (by decide) (hts _ q1073) (fun _ h9 => h9) rfl dX4_atAll_51 ?_
        refine lv_iload hx hb dX4_atAll_54 (lv_at hl 0 rfl) ?_
        refine lv_iconst (v := 4) hx hb dX4_atAll_56 (by decide) ?_
        refine c_S (rest := [.ref (ad 0)]) C (metX4_of l G i 4) 2 (lw_S q1170 q1171 q42 q1172) (by decide +kernel) ⟨rfl, rfl⟩ ⟨(Nat.le_of_ble_eq_true rfl), (Nat.le_of_ble_eq_true rfl)⟩ (KM_mv G) (hP.sub (ws' := []) [] rfl) hK hl rfl rfl (Nat.le_of_ble_eq_true rfl) ⟨(Nat.le_of_ble_eq_true rfl), (Nat.le_of_ble_eq_true rfl)⟩ dX4_atAll_57 ?_
        refine n_iald C hK hP 1 (3 + 6 * i + 4) rfl (by omega) (by omega) dX4_atAll_60 ?_
        refine lv_if_ne (x := r (3 + 6 * i + 4)) (tgt := 68) hx hb dX4_atAll_61 (by decide) (fun c_33 => ?_) (fun c_33 => ?_)
        · refine lv_iconst (v := 0) hx hb dX4_atAll_68 (by decide) ?_
          refine lv_istore (lv' := [(7, .int 0), (6, .int (nI i)), (5, .int (nI (aO r i))), (4, .int (nI (aS r i))), (3, .int (nI (aH r i))), (2, .int (encL (aF r i))), (0, .ref h), (1, .int (nI what_2))]) hx hb dX4_atAll_69 hl (Nat.le_of_ble_eq_true rfl) rfl (fun ls hl => ?_)
          refine lv_iload_n hx hb dX4_atAll_71 rfl (lv_at hl 4 rfl) ?_
          refine lv_iload hx hb dX4_atAll_72 (lv_at hl 0 rfl) ?_
          refine lv_if_eq (x := 0) (tgt := 81) hx hb dX4_atAll_74 (by decide) (fun c_34 => ?_) (fun c_34 => absurd c_34 (by decide))
          refine lv_iconst (v := 0) hx hb dX4_atAll_81 (by decide) ?_
          refine n_iadd hx hb (aH r i) 0 dX4_atAll_82 ?_
          refine lv_istore_n (lv' := [(3, .int (nI ((aH r i) + 0))), (7, .int 0), (6, .int (nI i)), (5, .int (nI (aO r i))), (4, .int (nI (aS r i))), (2, .int (encL (aF r i))), (0, .ref h), (1, .int (nI what_2))]) hx hb dX4_atAll_83 rfl hl (Nat.le_of_ble_eq_true rfl) rfl (fun ls hl => ?_)
          refine lv_aload_n hx hb dX4_atAll_84 rfl (lv_at hl 6 rfl) ?_
          refine va_get (D := gD G) (ci := 0) (v := .ref (ad 0)) (C := RX4) (T := TX4) (N := 20) hx hb hts in_X4 hown hK hP 0 rfl rfl 0 (by decide) (hts _ q1073) (fun _ h9 => h9) rfl dX4_atAll_85 ?_
          refine lv_iload hx hb dX4_atAll_88 (lv_at hl 2 rfl) ?_
          refine c_S (rest := []) C (metX4_canLook l G (ad 0) r i (by omega)) 2 (lw_S q1180 q1181 q42 q1182) (by decide +kernel) ⟨rfl, rfl⟩ ⟨(Nat.le_of_ble_eq_true rfl), (Nat.le_of_ble_eq_true rfl)⟩ (KM_mv G) (hP.sub (ws' := [(ad 0, iA G 57 r)]) [1] rfl) hK hl rfl rfl (Nat.le_of_ble_eq_true rfl) ⟨(Nat.le_of_ble_eq_true rfl), (Nat.le_of_ble_eq_true rfl)⟩ dX4_atAll_90 ?_
          refine n_if_neB (b := (sLook r i)) (tgt := 99) hx hb dX4_atAll_93 (by decide) (fun c_35 => ?_) (fun c_35 => ?_)
          · refine lv_iload hx hb dX4_atAll_99 (lv_at hl 4 rfl) ?_
            refine lv_iload hx hb dX4_atAll_101 (lv_at hl 1 rfl) ?_
            refine lv_if_eq (x := 0) (tgt := 110) hx hb dX4_atAll_103 (by decide) (fun c_36 => ?_) (fun c_36 => absurd c_36 (by decide))
            refine lv_iconst (v := 0) hx hb dX4_atAll_110 (by decide) ?_
            refine n_iadd hx hb (aS r i) 0 dX4_atAll_111 ?_
            refine lv_istore (lv' := [(4, .int (nI ((aS r i) + 0))), (3, .int (nI ((aH r i) + 0))), (7, .int 0), (6, .int (nI i)), (5, .int (nI (aO r i))), (2, .int (encL (aF r i))), (0, .ref h), (1, .int (nI what_2))]) hx hb dX4_atAll_112 hl (Nat.le_of_ble_eq_true rfl) rfl (fun ls hl => ?_)
            refine lv_iload hx hb dX4_atAll_114 (lv_at hl 4 rfl) ?_
            refine lv_iload hx hb dX4_atAll_116 (lv_at hl 2 rfl) ?_
            refine lv_if_eq (x := 0) (tgt := 125) hx hb dX4_atAll_118 (by decide) (fun c_37 => ?_) (fun c_37 => absurd c_37 (by decide))
            refine lv_iconst (v := 1) hx hb dX4_atAll_125 (by decide) ?_
            refine n_iadd hx hb (aO r i) 1 dX4_atAll_126 ?_
            refine lv_istore (lv' := [(5, .int (nI ((aO r i) + 1))), (4, .int (nI ((aS r i) + 0))), (3, .int (nI ((aH r i) + 0))), (7, .int 0), (6, .int (nI i)), (2, .int (encL (aF r i))), (0, .ref h), (1, .int (nI what_2))]) hx hb dX4_atAll_127 hl (Nat.le_of_ble_eq_true rfl) rfl (fun ls hl => ?_)
            rcases ho_38 : aF r i with _ | bo_38
            · rw [ho_38] at hl
              have hl : lv_has ls 8 [(5, .int (nI ((aO r i) + 1))), (4, .int (nI ((aS r i) + 0))), (3, .int (nI ((aH r i) + 0))), (7, .int 0), (6, .int (nI i)), (2, .int (-4)), (0, .ref h), (1, .int (nI what_2))] := hl
              refine lv_iload_n hx hb dX4_atAll_129 rfl (lv_at hl 5 rfl) ?_
              refine lv_if_lt (x := (-4)) (tgt := 157) hx hb dX4_atAll_130 (by decide) (fun c_39 => ?_) (fun c_39 => absurd c_39 (by decide))
              refine lv_iload hx hb dX4_atAll_157 (lv_at hl 4 rfl) ?_
              refine lv_istore_n (lv' := [(2, .int (nI i)), (5, .int (nI ((aO r i) + 1))), (4, .int (nI ((aS r i) + 0))), (3, .int (nI ((aH r i) + 0))), (7, .int 0), (6, .int (nI i)), (0, .ref h), (1, .int (nI what_2))]) hx hb dX4_atAll_159 rfl hl (Nat.le_of_ble_eq_true rfl) rfl (fun ls hl => ?_)
              refine n_iinc (k := 5) (lv' := [(6, .int (nI (i + 1))), (2, .int (nI i)), (5, .int (nI ((aO r i) + 1))), (4, .int (nI ((aS r i) + 0))), (3, .int (nI ((aH r i) + 0))), (7, .int 0), (0, .ref h), (1, .int (nI what_2))]) hx hb i 1 dX4_atAll_160 hl rfl (Nat.le_of_ble_eq_true rfl) rfl (fun ls hl => ?_)
              refine lv_goto (tgt := 25) hx hb dX4_atAll_163 (by decide) ?_
              have e_40 : aO r (i + 1) = (aO r i) + 1 := by simp [aH, aS, aO, isOne, twhat_2, c_8, c_9, zc_9, c_33, c_34, c_35, c_36, c_37, ho_38, c_39]
              have e_41 : aS r (i + 1) = (aS r i) + 0 := by simp [aH, aS, aO, isOne, twhat_2, c_8, c_9, zc_9, c_33, c_34, c_35, c_36, c_37, ho_38, c_39]
              have e_42 : aH r (i + 1) = (aH r i) + 0 := by simp [aH, aS, aO, isOne, twhat_2, c_8, c_9, zc_9, c_33, c_34, c_35, c_36, c_37, ho_38, c_39]
              have e_43 : encL (aF r (i + 1)) = nI i := by simp [aF, encLS, encLN, aH, aS, aO, isOne, twhat_2, c_8, c_9, zc_9, c_33, c_34, c_35, c_36, c_37, ho_38, c_39]
              exact ih_3 (i + 1) (by omega) ls (by rw [e_40, e_41, e_42, e_43]; exact lv_sub hl [0, 2, 3, 4, 1, 6, 7] rfl)
            · rw [ho_38] at hl
              have hl : lv_has ls 8 [(5, .int (nI ((aO r i) + 1))), (4, .int (nI ((aS r i) + 0))), (3, .int (nI ((aH r i) + 0))), (7, .int 0), (6, .int (nI i)), (2, .int (nI bo_38)), (0, .ref h), (1, .int (nI what_2))] := hl
              have go_38 := aF_in _ _ ho_38
              refine lv_iload_n hx hb dX4_atAll_129 rfl (lv_at hl 5 rfl) ?_
              refine n_if_lt (x := bo_38) (tgt := 157) hx hb (by omega) dX4_atAll_130 (by decide) ?_
              refine lv_aload_n hx hb dX4_atAll_133 rfl (lv_at hl 6 rfl) ?_
              refine va_get (D := gD G) (ci := 0) (v := .ref (ad 0)) (C := RX4) (T := TX4) (N := 20) hx hb hts in_X4 hown hK hP 0 rfl rfl 0 (by decide) (hts _ q1073) (fun _ h9 => h9) rfl dX4_atAll_134 ?_
              refine lv_iload hx hb dX4_atAll_137 (lv_at hl 4 rfl) ?_
              refine lv_iconst (v := 2) hx hb dX4_atAll_139 (by decide) ?_
              refine c_S (rest := [.ref (ad 0)]) C (metX4_of l G i 2) 2 (lw_S q1170 q1171 q42 q1172) (by decide +kernel) ⟨rfl, rfl⟩ ⟨(Nat.le_of_ble_eq_true rfl), (Nat.le_of_ble_eq_true rfl)⟩ (KM_mv G) (hP.sub (ws' := []) [] rfl) hK hl rfl rfl (Nat.le_of_ble_eq_true rfl) ⟨(Nat.le_of_ble_eq_true rfl), (Nat.le_of_ble_eq_true rfl)⟩ dX4_atAll_140 ?_
              refine n_iald C hK hP 1 (3 + 6 * i + 2) rfl (by omega) (by omega) dX4_atAll_143 ?_
              refine lv_aload_n hx hb dX4_atAll_144 rfl (lv_at hl 6 rfl) ?_
              refine va_get (D := gD G) (ci := 0) (v := .ref (ad 0)) (C := RX4) (T := TX4) (N := 20) hx hb hts in_X4 hown hK hP 0 rfl rfl 0 (by decide) (hts _ q1073) (fun _ h9 => h9) rfl dX4_atAll_145 ?_
              refine lv_iload_n hx hb dX4_atAll_148 rfl (lv_at hl 5 rfl) ?_
              refine lv_iconst (v := 2) hx hb dX4_atAll_149 (by decide) ?_
              refine c_S (rest := [.ref (ad 0), .int (r (3 + 6 * i + 2))]) C (metX4_of l G bo_38 2) 2 (lw_S q1170 q1171 q42 q1172) (by decide +kernel) ⟨rfl, rfl⟩ ⟨(Nat.le_of_ble_eq_true rfl), (Nat.le_of_ble_eq_true rfl)⟩ (KM_mv G) (hP.sub (ws' := []) [] rfl) hK hl rfl rfl (Nat.le_of_ble_eq_true rfl) ⟨(Nat.le_of_ble_eq_true rfl), (Nat.le_of_ble_eq_true rfl)⟩ dX4_atAll_150 ?_
              refine n_iald C hK hP 1 (3 + 6 * bo_38 + 2) rfl (by omega) (by omega) dX4_atAll_153 ?_
              refine lv_icmp_ge (x := r (3 + 6 * i + 2)) (y := r (3 + 6 * bo_38 + 2)) (tgt := 160) hx hb dX4_atAll_154 (by decide) (fun c_44 => ?_) (fun c_44 => ?_)
              · have zc_44 : ¬ (r (3 + 6 * i + 2)) < (r (3 + 6 * bo_38 + 2)) := Int32.not_lt.mpr c_44
                refine n_iinc (k := 4) (lv' := [(6, .int (nI (i + 1))), (5, .int (nI ((aO r i) + 1))), (4, .int (nI ((aS r i) + 0))), (3, .int (nI ((aH r i) + 0))), (7, .int 0), (2, .int (nI bo_38)), (0, .ref h), (1, .int (nI what_2))]) hx hb i 1 dX4_atAll_160 hl rfl (Nat.le_of_ble_eq_true rfl) rfl (fun ls hl => ?_)
                refine lv_goto (tgt := 25) hx hb dX4_atAll_163 (by decide) ?_
                have e_45 : aO r (i + 1) = (aO r i) + 1 := by simp [aH, aS, aO, isOne, twhat_2, c_8, c_9, zc_9, c_33, c_34, c_35, c_36, c_37, ho_38, c_44, zc_44]
                have e_46 : aS r (i + 1) = (aS r i) + 0 := by simp [aH, aS, aO, isOne, twhat_2, c_8, c_9, zc_9, c_33, c_34, c_35, c_36, c_37, ho_38, c_44, zc_44]
                have e_47 : aH r (i + 1) = (aH r i) + 0 := by simp [aH, aS, aO, isOne, twhat_2, c_8, c_9, zc_9, c_33, c_34, c_35, c_36, c_37, ho_38, c_44, zc_44]
                have e_48 : encL (aF r (i + 1)) = nI bo_38 := by simp [aF, encLS, encLN, aH, aS, aO, isOne, twhat_2, c_8, c_9, zc_9, c_33, c_34, c_35, c_36, c_37, ho_38, c_44, zc_44]
                exact ih_3 (i + 1) (by omega) ls (by rw [e_45, e_46, e_47, e_48]; exact lv_sub hl [0, 1, 2, 3, 5, 6, 7] rfl)
              · have zc_44 : (r (3 + 6 * i + 2)) < (r (3 + 6 * bo_38 + 2)) := Int32.not_le.mp c_44
                refine lv_iload hx hb dX4_atAll_157 (lv_at hl 4 rfl) ?_
                refine lv_istore_n (lv' := [(2, .int (nI i)), (5, .int (nI ((aO r i) + 1))), (4, .int (nI ((aS r i) + 0))), (3, .int (nI ((aH r i) + 0))), (7, .int 0), (6, .int (nI i)), (0, .ref h), (1, .int (nI what_2))]) hx hb dX4_atAll_159 rfl hl (Nat.le_of_ble_eq_true rfl) rfl (fun ls hl => ?_)
                refine n_iinc (k := 5) (lv' := [(6, .int (nI (i + 1))), (2, .int (nI i)), (5, .int (nI ((aO r i) + 1))), (4, .int (nI ((aS r i) + 0))), (3, .int (nI ((aH r i) + 0))), (7, .int 0), (0, .ref h), (1, .int (nI what_2))]) hx hb i 1 dX4_atAll_160 hl rfl (Nat.le_of_ble_eq_true rfl) rfl (fun ls hl => ?_)
                refine lv_goto (tgt := 25) hx hb dX4_atAll_163 (by decide) ?_
                have e_49 : aO r (i + 1) = (aO r i) + 1 := by simp [aH, aS, aO, isOne, twhat_2, c_8, c_9, zc_9, c_33, c_34, c_35, c_36, c_37, ho_38, c_44, zc_44]
                have e_50 : aS r (i + 1) = (aS r i) + 0 := by simp [aH, aS, aO, isOne, twhat_2, c_8, c_9, zc_9, c_33, c_34, c_35, c_36, c_37, ho_38, c_44, zc_44]
                have e_51 : aH r (i + 1) = (aH r i) + 0 := by simp [aH, aS, aO, isOne, twhat_2, c_8, c_9, zc_9, c_33, c_34, c_35, c_36, c_37, ho_38, c_44, zc_44]
                have e_52 : encL (aF r (i + 1)) = nI i := by simp [aF, encLS, encLN, aH, aS, aO, isOne, twhat_2, c_8, c_9, zc_9, c_33, c_34, c_35, c_36, c_37, ho_38, c_44, zc_44]
                exact ih_3 (i + 1) (by omega) ls (by rw [e_49, e_50, e_51, e_52]; exact lv_sub hl [0, 2, 3, 4, 1, 6, 7] rfl)
          · refine lv_goto (tgt := 160) hx hb dX4_atAll_96 (by decide) ?_
            refine n_iinc (k := 2) (lv' := [(6, .int (nI (i + 1))), (3, .int (nI ((aH r i) + 0))), (7, .int 0), (5, .int (nI (aO r i))), (4, .int (nI (aS r i))), (2, .int (encL (aF r i))), (0, .ref h), (1, .int (nI what_2))]) hx hb i 1 dX4_atAll_160 hl rfl (Nat.le_of_ble_eq_true rfl) rfl (fun ls hl => ?_)
            refine lv_goto (tgt := 25) hx hb dX4_atAll_163 (by decide) ?_
            have e_53 : aO r (i + 1) = aO r i := by simp [aH, aS, aO, isOne, twhat_2, c_8, c_9, zc_9, c_33, c_34, c_35]
            have e_54 : aS r (i + 1) = aS r i := by simp [aH, aS, aO, isOne, twhat_2, c_8, c_9, zc_9, c_33, c_34, c_35]
            have e_55 : aH r (i + 1) = (aH r i) + 0 := by simp [aH, aS, aO, isOne, twhat_2, c_8, c_9, zc_9, c_33, c_34, c_35]
            have e_56 : encL (aF r (i + 1)) = encL (aF r i) := by simp [aF, encLS, encLN, aH, aS, aO, isOne, twhat_2, c_8, c_9, zc_9, c_33, c_34, c_35]
            exact ih_3 (i + 1) (by omega) ls (by rw [e_53, e_54, e_55, e_56]; exact lv_sub hl [0, 3, 4, 1, 5, 6, 7] rfl)
        · refine lv_iconst (v := 1) hx hb dX4_atAll_64 (by decide) ?_
          refine lv_goto (tgt := 69) hx hb dX4_atAll_65 (by decide) ?_
          refine lv_istore (lv' := [(7, .int 1), (6, .int (nI i)), (5, .int (nI (aO r i))), (4, .int (nI (aS r i))), (3, .int (nI (aH r i))), (2, .int (encL (aF r i))), (0, .ref h), (1, .int (nI what_2))]) hx hb dX4_atAll_69 hl (Nat.le_of_ble_eq_true rfl) rfl (fun ls hl => ?_)
          refine lv_iload_n hx hb dX4_atAll_71 rfl (lv_at hl 4 rfl) ?_
          refine lv_iload hx hb dX4_atAll_72 (lv_at hl 0 rfl) ?_
          refine lv_if_eq (x := 1) (tgt := 81) hx hb dX4_atAll_74 (by decide) (fun c_57 => absurd c_57 (by decide)) (fun c_57 => ?_)
          refine lv_iconst (v := 1) hx hb dX4_atAll_77 (by decide) ?_
          refine lv_goto (tgt := 82) hx hb dX4_atAll_78 (by decide) ?_
          refine n_iadd hx hb (aH r i) 1 dX4_atAll_82 ?_
          refine lv_istore_n (lv' := [(3, .int (nI ((aH r i) + 1))), (7, .int 1), (6, .int (nI i)), (5, .int (nI (aO r i))), (4, .int (nI (aS r i))), (2, .int (encL (aF r i))), (0, .ref h), (1, .int (nI what_2))]) hx hb dX4_atAll_83 rfl hl (Nat.le_of_ble_eq_true rfl) rfl (fun ls hl => ?_)
          refine lv_aload_n hx hb dX4_atAll_84 rfl (lv_at hl 6 rfl) ?_
          refine va_get (D := gD G) (ci := 0) (v := .ref (ad 0)) (C := RX4) (T := TX4) (N := 20) hx hb hts in_X4 hown hK hP 0 rfl rfl 0 (by decide) (hts _ q1073) (fun _ h9 => h9) rfl dX4_atAll_85 ?_
          refine lv_iload hx hb dX4_atAll_88 (lv_at hl 2 rfl) ?_
          refine c_S (rest := []) C (metX4_canLook l G (ad 0) r i (by omega)) 2 (lw_S q1180 q1181 q42 q1182) (by decide +kernel) ⟨rfl, rfl⟩ ⟨(Nat.le_of_ble_eq_true rfl), (Nat.le_of_ble_eq_true rfl)⟩ (KM_mv G) (hP.sub (ws' := [(ad 0, iA G 57 r)]) [1] rfl) hK hl rfl rfl (Nat.le_of_ble_eq_true rfl) ⟨(Nat.le_of_ble_eq_true rfl), (Nat.le_of_ble_eq_true rfl)⟩ dX4_atAll_90 ?_
          refine n_if_neB (b := (sLook r i)) (tgt := 99) hx hb dX4_atAll_93 (by decide) (fun c_58 => ?_) (fun c_58 => ?_)
          · refine lv_iload hx hb dX4_atAll_99 (lv_at hl 4 rfl) ?_
            refine lv_iload hx hb dX4_atAll_101 (lv_at hl 1 rfl) ?_
            refine lv_if_eq (x := 1) (tgt := 110) hx hb dX4_atAll_103 (by decide) (fun c_59 => absurd c_59 (by decide)) (fun c_59 => ?_)
            refine lv_iconst (v := 1) hx hb dX4_atAll_106 (by decide) ?_
            refine lv_goto (tgt := 111) hx hb dX4_atAll_107 (by decide) ?_
            refine n_iadd hx hb (aS r i) 1 dX4_atAll_111 ?_
            refine lv_istore (lv' := [(4, .int (nI ((aS r i) + 1))), (3, .int (nI ((aH r i) + 1))), (7, .int 1), (6, .int (nI i)), (5, .int (nI (aO r i))), (2, .int (encL (aF r i))), (0, .ref h), (1, .int (nI what_2))]) hx hb dX4_atAll_112 hl (Nat.le_of_ble_eq_true rfl) rfl (fun ls hl => ?_)
            refine lv_iload hx hb dX4_atAll_114 (lv_at hl 4 rfl) ?_
            refine lv_iload hx hb dX4_atAll_116 (lv_at hl 2 rfl) ?_
            refine lv_if_eq (x := 1) (tgt := 125) hx hb dX4_atAll_118 (by decide) (fun c_60 => absurd c_60 (by decide)) (fun c_60 => ?_)
            refine lv_iconst (v := 0) hx hb dX4_atAll_121 (by decide) ?_
            refine lv_goto (tgt := 126) hx hb dX4_atAll_122 (by decide) ?_
            refine n_iadd hx hb (aO r i) 0 dX4_atAll_126 ?_
            refine lv_istore (lv' := [(5, .int (nI ((aO r i) + 0))), (4, .int (nI ((aS r i) + 1))), (3, .int (nI ((aH r i) + 1))), (7, .int 1), (6, .int (nI i)), (2, .int (encL (aF r i))), (0, .ref h), (1, .int (nI what_2))]) hx hb dX4_atAll_127 hl (Nat.le_of_ble_eq_true rfl) rfl (fun ls hl => ?_)
            rcases ho_61 : aF r i with _ | bo_61
            · rw [ho_61] at hl
              have hl : lv_has ls 8 [(5, .int (nI ((aO r i) + 0))), (4, .int (nI ((aS r i) + 1))), (3, .int (nI ((aH r i) + 1))), (7, .int 1), (6, .int (nI i)), (2, .int (-4)), (0, .ref h), (1, .int (nI what_2))] := hl
              refine lv_iload_n hx hb dX4_atAll_129 rfl (lv_at hl 5 rfl) ?_
              refine lv_if_lt (x := (-4)) (tgt := 157) hx hb dX4_atAll_130 (by decide) (fun c_62 => ?_) (fun c_62 => absurd c_62 (by decide))
              refine lv_iload hx hb dX4_atAll_157 (lv_at hl 4 rfl) ?_
              refine lv_istore_n (lv' := [(2, .int (nI i)), (5, .int (nI ((aO r i) + 0))), (4, .int (nI ((aS r i) + 1))), (3, .int (nI ((aH r i) + 1))), (7, .int 1), (6, .int (nI i)), (0, .ref h), (1, .int (nI what_2))]) hx hb dX4_atAll_159 rfl hl (Nat.le_of_ble_eq_true rfl) rfl (fun ls hl => ?_)
              refine n_iinc (k := 5) (lv' := [(6, .int (nI (i + 1))), (2, .int (nI i)), (5, .int (nI ((aO r i) + 0))), (4, .int (nI ((aS r i) + 1))), (3, .int (nI ((aH r i) + 1))), (7, .int 1), (0, .ref h), (1, .int (nI what_2))]) hx hb i 1 dX4_atAll_160 hl rfl (Nat.le_of_ble_eq_true rfl) rfl (fun ls hl => ?_)
              refine lv_goto (tgt := 25) hx hb dX4_atAll_163 (by decide) ?_
              have e_63 : aO r (i + 1) = (aO r i) + 0 := by simp [aH, aS, aO, isOne, twhat_2, c_8, c_9, zc_9, c_33, c_57, c_58, c_59, c_60, ho_61, c_62]
              have e_64 : aS r (i + 1) = (aS r i) + 1 := by simp [aH, aS, aO, isOne, twhat_2, c_8, c_9, zc_9, c_33, c_57, c_58, c_59, c_60, ho_61, c_62]
              have e_65 : aH r (i + 1) = (aH r i) + 1 := by simp [aH, aS, aO, isOne, twhat_2, c_8, c_9, zc_9, c_33, c_57, c_58, c_59, c_60, ho_61, c_62]
              have e_66 : encL (aF r (i + 1)) = nI i := by simp [aF, encLS, encLN, aH, aS, aO, isOne, twhat_2, c_8, c_9, zc_9, c_33, c_57, c_58, c_59, c_60, ho_61, c_62]
              exact ih_3 (i + 1) (by omega) ls (by rw [e_63, e_64, e_65, e_66]; exact lv_sub hl [0, 2, 3, 4, 1, 6, 7] rfl)
            · rw [ho_61] at hl
              have hl : lv_has ls 8 [(5, .int (nI ((aO r i) + 0))), (4, .int (nI ((aS r i) + 1))), (3, .int (nI ((aH r i) + 1))), (7, .int 1), (6, .int (nI i)), (2, .int (nI bo_61)), (0, .ref h), (1, .int (nI what_2))] := hl
              have go_61 := aF_in _ _ ho_61
              refine lv_iload_n hx hb dX4_atAll_129 rfl (lv_at hl 5 rfl) ?_
              refine n_if_lt (x := bo_61) (tgt := 157) hx hb (by omega) dX4_atAll_130 (by decide) ?_
              refine lv_aload_n hx hb dX4_atAll_133 rfl (lv_at hl 6 rfl) ?_
              refine va_get (D := gD G) (ci := 0) (v := .ref (ad 0)) (C := RX4) (T := TX4) (N := 20) hx hb hts in_X4 hown hK hP 0 rfl rfl 0 (by decide) (hts _ q1073) (fun _ h9 => h9) rfl dX4_atAll_134 ?_
              refine lv_iload hx hb dX4_atAll_137 (lv_at hl 4 rfl) ?_
              refine lv_iconst (v := 2) hx hb dX4_atAll_139 (by decide) ?_
              refine c_S (rest := [.ref (ad 0)]) C (metX4_of l G i 2) 2 (lw_S q1170 q1171 q42 q1172) (by decide +kernel) ⟨rfl, rfl⟩ ⟨(Nat.le_of_ble_eq_true rfl), (Nat.le_of_ble_eq_true rfl)⟩ (KM_mv G) (hP.sub (ws' := []) [] rfl) hK hl rfl rfl (Nat.le_of_ble_eq_true rfl) ⟨(Nat.le_of_ble_eq_true rfl), (Nat.le_of_ble_eq_true rfl)⟩ dX4_atAll_140 ?_
              refine n_iald C hK hP 1 (3 + 6 * i + 2) rfl (by omega) (by omega) dX4_atAll_143 ?_
              refine lv_aload_n hx hb dX4_atAll_144 rfl (lv_at hl 6 rfl) ?_
              refine va_get (D := gD G) (ci := 0) (v := .ref (ad 0)) (C := RX4) (T := TX4) (N := 20) hx hb hts in_X4 hown hK hP 0 rfl rfl 0 (by decide) (hts _ q1073) (fun _ h9 => h9) rfl dX4_atAll_145 ?_
              refine lv_iload_n hx hb dX4_atAll_148 rfl (lv_at hl 5 rfl) ?_
              refine lv_iconst (v := 2) hx hb dX4_atAll_149 (by decide) ?_
              refine c_S (rest := [.ref (ad 0), .int (r (3 + 6 * i + 2))]) C (metX4_of l G bo_61 2) 2 (lw_S q1170 q1171 q42 q1172) (by decide +kernel) ⟨rfl, rfl⟩ ⟨(Nat.le_of_ble_eq_true rfl), (Nat.le_of_ble_eq_true rfl)⟩ (KM_mv G) (hP.sub (ws' := []) [] rfl) hK hl rfl rfl (Nat.le_of_ble_eq_true rfl) ⟨(Nat.le_of_ble_eq_true rfl), (Nat.le_of_ble_eq_true rfl)⟩ dX4_atAll_150 ?_
              refine n_iald C hK hP 1 (3 + 6 * bo_61 + 2) rfl (by omega) (by omega) dX4_atAll_153 ?_
              refine lv_icmp_ge (x := r (3 + 6 * i + 2)) (y := r (3 + 6 * bo_61 + 2)) (tgt := 160) hx hb dX4_atAll_154 (by decide) (fun c_67 => ?_) (fun c_67 => ?_)
              · have zc_67 : ¬ (r (3 + 6 * i + 2)) < (r (3 + 6 * bo_61 + 2)) := Int32.not_lt.mpr c_67
                refine n_iinc (k := 4) (lv' := [(6, .int (nI (i + 1))), (5, .int (nI ((aO r i) + 0))), (4, .int (nI ((aS r i) + 1))), (3, .int (nI ((aH r i) + 1))), (7, .int 1), (2, .int (nI bo_61)), (0, .ref h), (1, .int (nI what_2))]) hx hb i 1 dX4_atAll_160 hl rfl (Nat.le_of_ble_eq_true rfl) rfl (fun ls hl => ?_)
                refine lv_goto (tgt := 25) hx hb dX4_atAll_163 (by decide) ?_
                have e_68 : aO r (i + 1) = (aO r i) + 0 := by simp [aH, aS, aO, isOne, twhat_2, c_8, c_9, zc_9, c_33, c_57, c_58, c_59, c_60, ho_61, c_67, zc_67]
                have e_69 : aS r (i + 1) = (aS r i) + 1 := by simp [aH, aS, aO, isOne, twhat_2, c_8, c_9, zc_9, c_33, c_57, c_58, c_59, c_60, ho_61, c_67, zc_67]
                have e_70 : aH r (i + 1) = (aH r i) + 1 := by simp [aH, aS, aO, isOne, twhat_2, c_8, c_9, zc_9, c_33, c_57, c_58, c_59, c_60, ho_61, c_67, zc_67]
                have e_71 : encL (aF r (i + 1)) = nI bo_61 := by simp [aF, encLS, encLN, aH, aS, aO, isOne, twhat_2, c_8, c_9, zc_9, c_33, c_57, c_58, c_59, c_60, ho_61, c_67, zc_67]
                exact ih_3 (i + 1) (by omega) ls (by rw [e_68, e_69, e_70, e_71]; exact lv_sub hl [0, 1, 2, 3, 5, 6, 7] rfl)
              · have zc_67 : (r (3 + 6 * i + 2)) < (r (3 + 6 * bo_61 + 2)) := Int32.not_le.mp c_67
                refine lv_iload hx hb dX4_atAll_157 (lv_at hl 4 rfl) ?_
                refine lv_istore_n (lv' := [(2, .int (nI i)), (5, .int (nI ((aO r i) + 0))), (4, .int (nI ((aS r i) + 1))), (3, .int (nI ((aH r i) + 1))), (7, .int 1), (6, .int (nI i)), (0, .ref h), (1, .int (nI what_2))]) hx hb dX4_atAll_159 rfl hl (Nat.le_of_ble_eq_true rfl) rfl (fun ls hl => ?_)
                refine n_iinc (k := 5) (lv' := [(6, .int (nI (i + 1))), (2, .int (nI i)), (5, .int (nI ((aO r i) + 0))), (4, .int (nI ((aS r i) + 1))), (3, .int (nI ((aH r i) + 1))), (7, .int 1), (0, .ref h), (1, .int (nI what_2))]) hx hb i 1 dX4_atAll_160 hl rfl (Nat.le_of_ble_eq_true rfl) rfl (fun ls hl => ?_)
                refine lv_goto (tgt := 25) hx hb dX4_atAll_163 (by decide) ?_
                have e_72 : aO r (i + 1) = (aO r i) + 0 := by simp [aH, aS, aO, isOne, twhat_2, c_8, c_9, zc_9, c_33, c_57, c_58, c_59, c_60, ho_61, c_67, zc_67]
                have e_73 : aS r (i + 1) = (aS r i) + 1 := by simp [aH, aS, aO, isOne, twhat_2, c_8, c_9, zc_9, c_33, c_57, c_58, c_59, c_60, ho_61, c_67, zc_67]
                have e_74 : aH r (i + 1) = (aH r i) + 1 := by simp [aH, aS, aO, isOne, twhat_2, c_8, c_9, zc_9, c_33, c_57, c_58, c_59, c_60, ho_61, c_67, zc_67]
                have e_75 : encL (aF r (i + 1)) = nI i := by simp [aF, encLS, encLN, aH, aS, aO, isOne, twhat_2, c_8, c_9, zc_9, c_33, c_57, c_58, c_59, c_60, ho_61, c_67, zc_67]
                exact ih_3 (i + 1) (by omega) ls (by rw [e_72, e_73, e_74, e_75]; exact lv_sub hl [0, 2, 3, 4, 1, 6, 7] rfl)
          · refine lv_goto (tgt := 160) hx hb dX4_atAll_96 (by decide) ?_
            refine n_iinc (k := 2) (lv' := [(6, .int (nI (i + 1))), (3, .int (nI ((aH r i) + 1))), (7, .int 1), (5, .int (nI (aO r i))), (4, .int (nI (aS r i))), (2, .int (encL (aF r i))), (0, .ref h), (1, .int (nI what_2))]) hx hb i 1 dX4_atAll_160 hl rfl (Nat.le_of_ble_eq_true rfl) rfl (fun ls hl => ?_)
            refine lv_goto (tgt := 25) hx hb dX4_atAll_163 (by decide) ?_
            have e_76 : aO r (i + 1) = aO r i := by simp [aH, aS, aO, isOne, twhat_2, c_8, c_9, zc_9, c_33, c_57, c_58]
            have e_77 : aS r (i + 1) = aS r i := by simp [aH, aS, aO, isOne, twhat_2, c_8, c_9, zc_9, c_33, c_57, c_58]
            have e_78 : aH r (i + 1) = (aH r i) + 1 := by simp [aH, aS, aO, isOne, twhat_2, c_8, c_9, zc_9, c_33, c_57, c_58]
            have e_79 : encL (aF r (i + 1)) = encL (aF r i) := by simp [aF, encLS, encLN, aH, aS, aO, isOne, twhat_2, c_8, c_9, zc_9, c_33, c_57, c_58]
            exact ih_3 (i + 1) (by omega) ls (by rw [e_76, e_77, e_78, e_79]; exact lv_sub hl [0, 3, 4, 1, 5, 6, 7] rfl)
  · refine lv_iconst (v := (-1)) hx hb dX4_atAll_9 (by decide) ?_
    exact n_iret (v := (-1)) C (by simp [sAtAllA, c_1]) dX4_atAll_10

set_option maxHeartbeats 4000000 in
set_option maxRecDepth 100000 in
theorem metX4_drawn (l : Launch) (G : GG) (h : Nat) (ad : Nat → Nat) (iv : Nat → Int32) (z : Int32) (N : Nat) (hN : 0 < N ∧ N ≤ 9) : MW l yX4_drawn cX4_drawn 2 (some .int) ({ frames := 0, cells := 0, slots := 0, locals := 0 }) [.ref h, .int (nI N)] [(h, mO ad (upd iv 12 z))] G (KM G) 0 0 (fun rv w1 => rv = nI (sRnd z N) ∧ w1 = [(h, mO ad (upd iv 12 (sDraw z)))]) := by
  -- rows printed by wip/tools/gen.py
  refine mw_mk RX4 (by decide) rfl (Nat.le_of_ble_eq_true rfl) ?_
  intro p0_ e0_ s m args below meth c A C hA hP hK hD ls hl
  have hx := C.1
  have hb := C.2.1
  have hml := C.2.2.2.2.1
  have hown := C.2.2.2.2.2.1
  have hts := C.2.2.2.2.2.2
  have hS : va_S A s.heap s.heap [] := va_S.rf
  have hl : lv_has ls 2 [(0, .ref h), (1, .int (nI N))] := hl
  refine lv_aload_n hx hb dX4_drawn_0 rfl (lv_at hl 0 rfl) ?_
  refine lv_aload_n hx hb dX4_drawn_1 rfl (lv_at hl 0 rfl) ?_
  refine va_get (D := gD G) (ci := 0) (v := .int z) (C := RX4) (T := TX4) (N := 20) hx hb hts in_X4 hown hK hP 0 rfl rfl 12 (by decide) (hts _ q1085) (fun _ h9 => h9) rfl dX4_drawn_2 ?_
  refine lv_ldc (own := RX4) (v := 1103515245) hx hb hown (hts _ q1385) dX4_drawn_5 ?_
  refine lv_imul (x := z) (y := 1103515245) hx hb dX4_drawn_7 ?_
  refine lv_sipush (v := 12345) hx hb dX4_drawn_8 (by decide) ?_
  refine lv_iadd (x := z * 1103515245) (y := 12345) hx hb dX4_drawn_11 ?_
  refine n_eqi ((sDraw_eq z).symm) ?_
  refine lv_topi (fun yv_1 eyv_1 => ?_)
  refine va_put (D := gD G) (ci := 0) (v := .int yv_1) (ty := .int) (C := RX4) (T := TX4) (N := 20) hx hb hts in_X4 tyX4 tyX4_ok nmX4 hown hK hP hD hS 0 rfl rfl 12 (by decide) (hts _ q1085) (fun _ h9 => h9) rfl (by decide +kernel) rfl rfl (Nat.le_of_ble_eq_true rfl) dX4_drawn_12 (fun H locs hP hD hS => ?_)
  have hP : PP G [(h, mO ad (upd iv 12 yv_1))] H := hP
  have hD : va_D A [(h, mO ad (upd iv 12 yv_1))] := hD
  subst eyv_1
  refine lv_aload_n hx hb dX4_drawn_15 rfl (lv_at hl 0 rfl) ?_
  refine va_get (D := gD G) (ci := 0) (v := .int (sDraw z)) (C := RX4) (T := TX4) (N := 20) hx hb hts in_X4 hown hK hP 0 rfl rfl 12 (by decide) (hts _ q1085) (fun _ h9 => h9) rfl dX4_drawn_16 ?_
  refine lv_ldc (own := RX4) (v := 2147483647) hx hb hown (hts _ q1386) dX4_drawn_19 ?_
  refine lv_iand (x := sDraw z) (y := 2147483647) hx hb dX4_drawn_21 ?_
  refine lv_ldc (own := RX4) (v := 65536) hx hb hown (hts _ q1387) dX4_drawn_22 ?_
  refine lv_idiv (x := (sDraw z) &&& 2147483647) (y := 65536) hx hb dX4_drawn_24 (by decide) ?_
  refine lv_iload_n hx hb dX4_drawn_25 rfl (lv_at hl 1 rfl) ?_
  refine lv_irem (x := ((sDraw z) &&& 2147483647) / 65536) (y := nI N) hx hb dX4_drawn_26 (nI_ne0 hN.1 (by omega)) ?_
  exact n_iretW (v := (((sDraw z) &&& 2147483647) / 65536) - (((sDraw z) &&& 2147483647) / 65536) / (nI N) * (nI N)) (w1 := [(h, mO ad (upd iv 12 (sDraw z)))]) C (⟨drw z hN.1 hN.2, rfl⟩) hP hD hS (by first | omega | decide) (by first | omega | decide) dX4_drawn_27

set_option maxHeartbeats 4000000 in
set_option maxRecDepth 100000 in
theorem metX4_leastOf (l : Launch) (G : GG) (k : Int32) : MR l yX4_leastOf cX4_leastOf 1 (some .int) ({ frames := 0, cells := 0, slots := 0, locals := 0 }) [.int k] [] G (KM G) (sLeast k) := by
  -- rows printed by wip/tools/gen.py
  refine mr_mk RX4 (by decide) rfl (Nat.le_of_ble_eq_true rfl) ?_
  intro p0_ e0_ s m args below meth c C hP hK ls hl
  have hx := C.1
  have hb := C.2.1
  have hml := C.2.2.2.2.1
  have hown := C.2.2.2.2.2.1
  have hts := C.2.2.2.2.2.2
  have hl : lv_has ls 1 [(0, .int k)] := hl
  refine lv_iload_n hx hb dX4_leastOf_0 rfl (lv_at hl 0 rfl) ?_
  refine lv_if_ne (x := k) (tgt := 9) hx hb dX4_leastOf_1 (by decide) (fun c_1 => ?_) (fun c_1 => ?_)
  · refine lv_iload_n hx hb dX4_leastOf_9 rfl (lv_at hl 0 rfl) ?_
    refine lv_iconst (v := 1) hx hb dX4_leastOf_10 (by decide) ?_
    refine lv_icmp_ne (x := k) (y := 1) (tgt := 20) hx hb dX4_leastOf_11 (by decide) (fun c_2 => ?_) (fun c_2 => ?_)
    · refine lv_ldc (own := RX4) (v := -2147483648) hx hb hown (hts _ q1376) dX4_leastOf_20 ?_
      exact n_iret (v := (-2147483648)) C (by simp [sLeast, c_1, c_2]) dX4_leastOf_22
    · refine lv_sipush (v := (-32768)) hx hb dX4_leastOf_14 (by decide) ?_
      refine lv_goto (tgt := 22) hx hb dX4_leastOf_17 (by decide) ?_
      exact n_iret (v := (-32768)) C (by simp [sLeast, c_1, c_2]) dX4_leastOf_22
  · refine lv_bipush (v := (-128)) hx hb dX4_leastOf_4 (by decide) ?_
    refine lv_goto (tgt := 22) hx hb dX4_leastOf_6 (by decide) ?_
    exact n_iret (v := (-128)) C (by simp [sLeast, c_1]) dX4_leastOf_22

set_option maxHeartbeats 4000000 in
set_option maxRecDepth 100000 in
theorem metX4_lastOnes (l : Launch) (G : GG) (h : Nat) (ad : Nat → Nat) (iv : Nat → Int32) (u k what : Int32) : MR l yX4_lastOnes cX4_lastOnes 5 (some .int) ({ frames := 1, cells := 0, slots := 0, locals := 22 }) [.ref h, .int u, .int k, .int what] [(h, mO ad iv)] G (KM G) (sLastA u k what) := by
  -- rows printed by wip/tools/gen.py
  refine mr_mk RX4 (by decide) rfl (Nat.le_of_ble_eq_true rfl) ?_
  intro p0_ e0_ s m args below meth c C hP hK ls hl
  have hx := C.1
  have hb := C.2.1
  have hml := C.2.2.2.2.1
  have hown := C.2.2.2.2.2.1
  have hts := C.2.2.2.2.2.2
  have hl : lv_has ls 5 [(0, .ref h), (1, .int u), (2, .int k), (3, .int what)] := hl
  refine lv_iload_n hx hb dX4_lastOnes_0 rfl (lv_at hl 1 rfl) ?_
  refine lv_iconst (v := 0) hx hb dX4_lastOnes_1 (by decide) ?_
  refine lv_bipush (v := 99) hx hb dX4_lastOnes_2 (by decide) ?_
  refine c_S (rest := []) C (metX4_isIn l G u 0 99) 3 (lw_S q1145 q1146 q42 q1147) (by decide +kernel) ⟨rfl, rfl⟩ ⟨(Nat.le_of_ble_eq_true rfl), (Nat.le_of_ble_eq_true rfl)⟩ (KM_mv G) (hP.sub (ws' := []) [] rfl) hK hl rfl rfl (Nat.le_of_ble_eq_true rfl) ⟨(Nat.le_of_ble_eq_true rfl), (Nat.le_of_ble_eq_true rfl)⟩ dX4_lastOnes_4 ?_
  refine n_if_eqB (b := (sIn u 0 99)) (tgt := 29) hx hb dX4_lastOnes_7 (by decide) (fun c_1 => ?_) (fun c_1 => ?_)
  · refine lv_iconst (v := (-1)) hx hb dX4_lastOnes_29 (by decide) ?_
    exact n_iret (v := (-1)) C (by simp [sLastA, c_1]) dX4_lastOnes_30
  · obtain ⟨u_2, hu_2, gu_2, rfl⟩ := sIn_t (a := 0) (b := 99) (by omega) (by omega) c_1
    have tu_2 : tn (nI u_2) = u_2 := nI_clamp (by omega)
    refine lv_iload_n hx hb dX4_lastOnes_10 rfl (lv_at hl 2 rfl) ?_
    refine lv_iconst (v := 1) hx hb dX4_lastOnes_11 (by decide) ?_
    refine lv_bipush (v := 9) hx hb dX4_lastOnes_12 (by decide) ?_
    refine c_S (rest := []) C (metX4_isIn l G k 1 9) 3 (lw_S q1145 q1146 q42 q1147) (by decide +kernel) ⟨rfl, rfl⟩ ⟨(Nat.le_of_ble_eq_true rfl), (Nat.le_of_ble_eq_true rfl)⟩ (KM_mv G) (hP.sub (ws' := []) [] rfl) hK hl rfl rfl (Nat.le_of_ble_eq_true rfl) ⟨(Nat.le_of_ble_eq_true rfl), (Nat.le_of_ble_eq_true rfl)⟩ dX4_lastOnes_14 ?_
    refine n_if_eqB (b := (sIn k 1 9)) (tgt := 29) hx hb dX4_lastOnes_17 (by decide) (fun c_3 => ?_) (fun c_3 => ?_)
    · refine lv_iconst (v := (-1)) hx hb dX4_lastOnes_29 (by decide) ?_
      exact n_iret (v := (-1)) C (by simp [sLastA, c_1, tu_2, c_3]) dX4_lastOnes_30
    · obtain ⟨k_4, hk_4, gk_4, rfl⟩ := sIn_t (a := 1) (b := 9) (by omega) (by omega) c_3
      have tk_4 : tn (nI k_4) = k_4 := nI_clamp (by omega)
      refine lv_iload_n hx hb dX4_lastOnes_20 rfl (lv_at hl 3 rfl) ?_
      refine lv_iconst (v := 0) hx hb dX4_lastOnes_21 (by decide) ?_
      refine lv_iconst (v := 1) hx hb dX4_lastOnes_22 (by decide) ?_
      refine c_S (rest := []) C (metX4_isIn l G what 0 1) 3 (lw_S q1145 q1146 q42 q1147) (by decide +kernel) ⟨rfl, rfl⟩ ⟨(Nat.le_of_ble_eq_true rfl), (Nat.le_of_ble_eq_true rfl)⟩ (KM_mv G) (hP.sub (ws' := []) [] rfl) hK hl rfl rfl (Nat.le_of_ble_eq_true rfl) ⟨(Nat.le_of_ble_eq_true rfl), (Nat.le_of_ble_eq_true rfl)⟩ dX4_lastOnes_23 ?_
      refine n_if_neB (b := (sIn what 0 1)) (tgt := 31) hx hb dX4_lastOnes_26 (by decide) (fun c_5 => ?_) (fun c_5 => ?_)
      · obtain ⟨what_6, hwhat_6, gwhat_6, rfl⟩ := sIn_t (a := 0) (b := 1) (by omega) (by omega) c_5
        have twhat_6 : tn (nI what_6) = what_6 := nI_clamp (by omega)
        refine lv_iload_n hx hb dX4_lastOnes_31 rfl (lv_at hl 1 rfl) ?_
        refine lv_iload_n hx hb dX4_lastOnes_32 rfl (lv_at hl 2 rfl) ?_
        refine lv_iconst (v := 1) hx hb dX4_lastOnes_33 (by decide) ?_
        refine n_iadd hx hb k_4 1 dX4_lastOnes_34 ?_
        refine n_irem hx hb u_2 (k_4 + 1) (by omega) (by omega) (by omega) dX4_lastOnes_35 ?_
        have hm_7 : u_2 % (k_4 + 1) < (k_4 + 1) := Nat.mod_lt _ (by omega)
        refine lv_istore (lv' := [(4, .int (nI (u_2 % (k_4 + 1)))), (0, .ref h), (1, .int (nI u_2)), (2, .int (nI k_4)), (3, .int (nI what_6))]) hx hb dX4_lastOnes_36 hl (Nat.le_of_ble_eq_true rfl) rfl (fun ls hl => ?_)
        refine lv_iload_n hx hb dX4_lastOnes_38 rfl (lv_at hl 4 rfl) ?_
        refine lv_iconst (v := 1) hx hb dX4_lastOnes_39 (by decide) ?_
        refine n_ic_ne (x := what_6) (y := 1) (tgt := 48) hx hb (by omega) (by omega) dX4_lastOnes_40 (by decide) (fun c_8 => ?_) (fun c_8 => ?_)
        · have zc_8 : ¬ nI what_6 = 1 := fun q => c_8 ((nI_eq (by omega) (by omega)).mp q)
          refine lv_iload hx hb dX4_lastOnes_48 (lv_at hl 0 rfl) ?_
          refine n_if_le (x := u_2 % (k_4 + 1)) (tgt := 57) hx hb (by omega) dX4_lastOnes_50 (by decide) (fun c_9 => ?_) (fun c_9 => ?_)
          · have zc_9 : nI (u_2 % (k_4 + 1)) = 0 := congrArg nI c_9
            refine lv_iconst (v := 0) hx hb dX4_lastOnes_57 (by decide) ?_
            exact n_iret (v := 0) C (by simp [sLastA, c_1, tu_2, c_3, tk_4, c_5, twhat_6, c_8, zc_8, c_9, zc_9]) dX4_lastOnes_58
          · have zc_9 : ¬ nI (u_2 % (k_4 + 1)) = 0 := nI_ne0 c_9 (by omega)
            have yc_9 : ¬ u_2 % (k_4 + 1) = 0 := Nat.ne_of_gt c_9
            refine lv_iconst (v := 1) hx hb dX4_lastOnes_53 (by decide) ?_
            refine lv_goto (tgt := 58) hx hb dX4_lastOnes_54 (by decide) ?_
            exact n_iret (v := 1) C (by simp [sLastA, c_1, tu_2, c_3, tk_4, c_5, twhat_6, c_8, zc_8, c_9, yc_9, zc_9]) dX4_lastOnes_58
        · obtain rfl := c_8
          have zc_8 : (nI 1 = 1) = True := eq_true rfl
          refine lv_iload hx hb dX4_lastOnes_43 (lv_at hl 0 rfl) ?_
          refine lv_goto (tgt := 58) hx hb dX4_lastOnes_45 (by decide) ?_
          exact n_iret (v := nI (u_2 % (k_4 + 1))) C (by simp [sLastA, c_1, tu_2, c_3, tk_4, c_5, twhat_6, zc_8]) dX4_lastOnes_58
      · refine lv_iconst (v := (-1)) hx hb dX4_lastOnes_29 (by decide) ?_
        exact n_iret (v := (-1)) C (by simp [sLastA, c_1, tu_2, c_3, tk_4, c_5]) dX4_lastOnes_30

set_option maxHeartbeats 4000000 in
set_option maxRecDepth 100000 in
theorem metX4_costBy (l : Launch) (G : GG) (k f : Int32) : MR l yX4_costBy cX4_costBy 2 (some .int) ({ frames := 0, cells := 0, slots := 0, locals := 0 }) [.int k, .int f] [] G (KM G) (sCost k f) := by
  -- rows printed by wip/tools/gen.py
  refine mr_mk RX4 (by decide) rfl (Nat.le_of_ble_eq_true rfl) ?_
  intro p0_ e0_ s m args below meth c C hP hK ls hl
  have hx := C.1
  have hb := C.2.1
  have hml := C.2.2.2.2.1
  have hown := C.2.2.2.2.2.1
  have hts := C.2.2.2.2.2.2
  have hl : lv_has ls 2 [(0, .int k), (1, .int f)] := hl
  refine lv_iload_n hx hb dX4_costBy_0 rfl (lv_at hl 0 rfl) ?_
  by_cases s_1 : k = 1
  · refine n_eqi s_1 ?_
    refine lv_tableIn (tgt := 44) (x := 1) hx hb dX4_costBy_1 (by decide) (by decide) rfl (by decide) ?_
    refine lv_iconst (v := 3) hx hb dX4_costBy_44 (by decide) ?_
    exact n_iret (v := 3) C (by simp [sCost, s_1]) dX4_costBy_45
  · skip
    by_cases s_2 : k = 2
    · refine n_eqi s_2 ?_
      refine lv_tableIn (tgt := 46) (x := 2) hx hb dX4_costBy_1 (by decide) (by decide) rfl (by decide) ?_
      refine lv_iconst (v := 4) hx hb dX4_costBy_46 (by decide) ?_
      refine lv_iload_n hx hb dX4_costBy_47 rfl (lv_at hl 1 rfl) ?_
      refine lv_iadd (x := 4) (y := f) hx hb dX4_costBy_48 ?_
      exact n_iret (v := 4 + f) C (by simp [sCost, s_1, s_2]) dX4_costBy_49
    · skip
      by_cases s_3 : k = 3
      · refine n_eqi s_3 ?_
        refine lv_tableIn (tgt := 50) (x := 3) hx hb dX4_costBy_1 (by decide) (by decide) rfl (by decide) ?_
        refine lv_bipush (v := 10) hx hb dX4_costBy_50 (by decide) ?_
        exact n_iret (v := 10) C (by simp [sCost, s_1, s_2, s_3]) dX4_costBy_52
      · skip
        by_cases s_4 : k = 4
        · refine n_eqi s_4 ?_
          refine lv_tableIn (tgt := 53) (x := 4) hx hb dX4_costBy_1 (by decide) (by decide) rfl (by decide) ?_
          refine lv_iconst (v := 2) hx hb dX4_costBy_53 (by decide) ?_
          exact n_iret (v := 2) C (by simp [sCost, s_1, s_2, s_3, s_4]) dX4_costBy_54
        · skip
          by_cases s_5 : k = 5
          · refine n_eqi s_5 ?_
            refine lv_tableIn (tgt := 55) (x := 5) hx hb dX4_costBy_1 (by decide) (by decide) rfl (by decide) ?_
            refine lv_bipush (v := 10) hx hb dX4_costBy_55 (by decide) ?_
            refine lv_iload_n hx hb dX4_costBy_57 rfl (lv_at hl 1 rfl) ?_
            refine lv_iadd (x := 10) (y := f) hx hb dX4_costBy_58 ?_
            exact n_iret (v := 10 + f) C (by simp [sCost, s_1, s_2, s_3, s_4, s_5]) dX4_costBy_59
          · skip
            by_cases s_6 : k = 6
            · refine n_eqi s_6 ?_
              refine lv_tableIn (tgt := 60) (x := 6) hx hb dX4_costBy_1 (by decide) (by decide) rfl (by decide) ?_
              refine lv_bipush (v := 6) hx hb dX4_costBy_60 (by decide) ?_
              exact n_iret (v := 6) C (by simp [sCost, s_1, s_2, s_3, s_4, s_5, s_6]) dX4_costBy_62
            · skip
              by_cases s_7 : k = 7
              · refine n_eqi s_7 ?_
                refine lv_tableIn (tgt := 63) (x := 7) hx hb dX4_costBy_1 (by decide) (by decide) rfl (by decide) ?_
                refine lv_iconst (v := 1) hx hb dX4_costBy_63 (by decide) ?_
                exact n_iret (v := 1) C (by simp [sCost, s_1, s_2, s_3, s_4, s_5, s_6, s_7]) dX4_costBy_64
              · skip
                have ts_1 := lv_neT (a := 1) s_1 rfl
                have ts_2 := lv_neT (a := 2) s_2 rfl
                have ts_3 := lv_neT (a := 3) s_3 rfl
                have ts_4 := lv_neT (a := 4) s_4 rfl
                have ts_5 := lv_neT (a := 5) s_5 rfl
                have ts_6 := lv_neT (a := 6) s_6 rfl
                have ts_7 := lv_neT (a := 7) s_7 rfl
                refine lv_tableOut (tgt := 65) (x := k) hx hb dX4_costBy_1 (by omega) (by decide) ?_
                refine lv_iconst (v := 4) hx hb dX4_costBy_65 (by decide) ?_
                exact n_iret (v := 4) C (by simp [sCost, s_1, s_2, s_3, s_4, s_5, s_6, s_7]) dX4_costBy_66

set_option maxHeartbeats 4000000 in
set_option maxRecDepth 100000 in
theorem metX4_cost (l : Launch) (G : GG) (h : Nat) (ad : Nat → Nat) (iv : Nat → Int32) (ke kk kf : Nat → Int32) (d : Int32) : MR l yX4_cost cX4_cost 3 (some .int) ({ frames := 3, cells := 0, slots := 0, locals := 63 }) [.ref h, .int d] [(h, mO ad iv), (ad 13, iA G 8 ke), (ad 14, iA G 8 kk), (ad 15, iA G 8 kf)] G (KM G) (sCostA ke kk kf d) := by
  -- rows printed by wip/tools/gen.py
  refine mr_mk RX4 (by decide) rfl (Nat.le_of_ble_eq_true rfl) ?_
  intro p0_ e0_ s m args below meth c C hP hK ls hl
  have hx := C.1
  have hb := C.2.1
  have hml := C.2.2.2.2.1
  have hown := C.2.2.2.2.2.1
  have hts := C.2.2.2.2.2.2
  have hl : lv_has ls 3 [(0, .ref h), (1, .int d)] := hl
  refine lv_aload_n hx hb dX4_cost_0 rfl (lv_at hl 0 rfl) ?_
  refine lv_iload_n hx hb dX4_cost_1 rfl (lv_at hl 1 rfl) ?_
  refine c_V (rest := []) C (metX4_wrongKept l G h ad iv ke d) 1 (lw_V q1221 q1223 qs29 q42 q1224) (by decide +kernel) ⟨rfl, rfl⟩ ⟨(Nat.le_of_ble_eq_true rfl), (Nat.le_of_ble_eq_true rfl)⟩ (KM_mv G) (va_recv hK hP (ci := 0) (q0 := 0) rfl rfl) (hP.sub (ws' := [(h, mO ad iv), (ad 13, iA G 8 ke)]) [0, 1] rfl) hK hl rfl rfl (Nat.le_of_ble_eq_true rfl) ⟨(Nat.le_of_ble_eq_true rfl), (Nat.le_of_ble_eq_true rfl)⟩ dX4_cost_2 ?_
  refine lv_istore_n (lv' := [(2, .int (sWK ke d)), (0, .ref h), (1, .int d)]) hx hb dX4_cost_5 rfl hl (Nat.le_of_ble_eq_true rfl) rfl (fun ls hl => ?_)
  refine lv_iload_n hx hb dX4_cost_6 rfl (lv_at hl 0 rfl) ?_
  refine lv_if_eq (x := sWK ke d) (tgt := 14) hx hb dX4_cost_7 (by decide) (fun c_1 => ?_) (fun c_1 => ?_)
  · obtain ⟨dn, gd, k1, k2, rfl⟩ := sWK_0 c_1
    have t_dn : tn (nI dn) = dn := nI_clamp (by omega)
    refine lv_aload_n hx hb dX4_cost_14 rfl (lv_at hl 1 rfl) ?_
    refine va_get (D := gD G) (ci := 0) (v := .ref (ad 14)) (C := RX4) (T := TX4) (N := 20) hx hb hts in_X4 hown hK hP 0 rfl rfl 14 (by decide) (hts _ q1087) (fun _ h9 => h9) rfl dX4_cost_15 ?_
    refine lv_iload_n hx hb dX4_cost_18 rfl (lv_at hl 2 rfl) ?_
    refine n_iald C hK hP 2 dn rfl (by omega) (by omega) dX4_cost_19 ?_
    refine lv_aload_n hx hb dX4_cost_20 rfl (lv_at hl 1 rfl) ?_
    refine va_get (D := gD G) (ci := 0) (v := .ref (ad 15)) (C := RX4) (T := TX4) (N := 20) hx hb hts in_X4 hown hK hP 0 rfl rfl 15 (by decide) (hts _ q1088) (fun _ h9 => h9) rfl dX4_cost_21 ?_
    refine lv_iload_n hx hb dX4_cost_24 rfl (lv_at hl 2 rfl) ?_
    refine n_iald C hK hP 3 dn rfl (by omega) (by omega) dX4_cost_25 ?_
    refine c_S (rest := []) C (metX4_costBy l G (kk dn) (kf dn)) 2 (lw_S q1428 q1429 q42 q1430) (by decide +kernel) ⟨rfl, rfl⟩ ⟨(Nat.le_of_ble_eq_true rfl), (Nat.le_of_ble_eq_true rfl)⟩ (KM_mv G) (hP.sub (ws' := []) [] rfl) hK hl rfl rfl (Nat.le_of_ble_eq_true rfl) ⟨(Nat.le_of_ble_eq_true rfl), (Nat.le_of_ble_eq_true rfl)⟩ dX4_cost_26 ?_
    exact n_iret (v := sCost (kk dn) (kf dn)) C (by simp [sCostA, c_1, t_dn, k1, k2]) dX4_cost_29
  · refine lv_iload_n hx hb dX4_cost_10 rfl (lv_at hl 0 rfl) ?_
    refine lv_goto (tgt := 29) hx hb dX4_cost_11 (by decide) ?_
    exact n_iret (v := sWK ke d) C (by simp [sCostA, c_1]) dX4_cost_29

set_option maxHeartbeats 4000000 in
set_option maxRecDepth 100000 in
theorem metX4_toss (l : Launch) (G : GG) (h : Nat) (ad : Nat → Nat) (iv : Nat → Int32) (ke kk kf : Nat → Int32) (d : Int32) : MR l yX4_toss cX4_toss 5 (some .int) ({ frames := 3, cells := 0, slots := 0, locals := 63 }) [.ref h, .int d] [(h, mO ad iv), (ad 13, iA G 8 ke), (ad 14, iA G 8 kk), (ad 15, iA G 8 kf)] G (KM G) (sTossA ke kk kf d) := by
  -- rows printed by wip/tools/gen.py
  refine mr_mk RX4 (by decide) rfl (Nat.le_of_ble_eq_true rfl) ?_
  intro p0_ e0_ s m args below meth c C hP hK ls hl
  have hx := C.1
  have hb := C.2.1
  have hml := C.2.2.2.2.1
  have hown := C.2.2.2.2.2.1
  have hts := C.2.2.2.2.2.2
  have hl : lv_has ls 5 [(0, .ref h), (1, .int d)] := hl
  refine lv_aload_n hx hb dX4_toss_0 rfl (lv_at hl 0 rfl) ?_
  refine lv_iload_n hx hb dX4_toss_1 rfl (lv_at hl 1 rfl) ?_
  refine c_V (rest := []) C (metX4_wrongKept l G h ad iv ke d) 1 (lw_V q1221 q1223 qs29 q42 q1224) (by decide +kernel) ⟨rfl, rfl⟩ ⟨(Nat.le_of_ble_eq_true rfl), (Nat.le_of_ble_eq_true rfl)⟩ (KM_mv G) (va_recv hK hP (ci := 0) (q0 := 0) rfl rfl) (hP.sub (ws' := [(h, mO ad iv), (ad 13, iA G 8 ke)]) [0, 1] rfl) hK hl rfl rfl (Nat.le_of_ble_eq_true rfl) ⟨(Nat.le_of_ble_eq_true rfl), (Nat.le_of_ble_eq_true rfl)⟩ dX4_toss_2 ?_
  refine lv_istore_n (lv' := [(2, .int (sWK ke d)), (0, .ref h), (1, .int d)]) hx hb dX4_toss_5 rfl hl (Nat.le_of_ble_eq_true rfl) rfl (fun ls hl => ?_)
  refine lv_iload_n hx hb dX4_toss_6 rfl (lv_at hl 0 rfl) ?_
  refine lv_if_eq (x := sWK ke d) (tgt := 12) hx hb dX4_toss_7 (by decide) (fun c_1 => ?_) (fun c_1 => ?_)
  · obtain ⟨dn, gd, k1, k2, rfl⟩ := sWK_0 c_1
    have t_dn : tn (nI dn) = dn := nI_clamp (by omega)
    refine lv_aload_n hx hb dX4_toss_12 rfl (lv_at hl 1 rfl) ?_
    refine va_get (D := gD G) (ci := 0) (v := .ref (ad 14)) (C := RX4) (T := TX4) (N := 20) hx hb hts in_X4 hown hK hP 0 rfl rfl 14 (by decide) (hts _ q1087) (fun _ h9 => h9) rfl dX4_toss_13 ?_
    refine lv_iload_n hx hb dX4_toss_16 rfl (lv_at hl 2 rfl) ?_
    refine n_iald C hK hP 2 dn rfl (by omega) (by omega) dX4_toss_17 ?_
    refine lv_istore_n (lv' := [(3, .int (kk dn)), (2, .int (sWK ke (nI dn))), (0, .ref h), (1, .int (nI dn))]) hx hb dX4_toss_18 rfl hl (Nat.le_of_ble_eq_true rfl) rfl (fun ls hl => ?_)
    refine lv_aload_n hx hb dX4_toss_19 rfl (lv_at hl 2 rfl) ?_
    refine va_get (D := gD G) (ci := 0) (v := .ref (ad 15)) (C := RX4) (T := TX4) (N := 20) hx hb hts in_X4 hown hK hP 0 rfl rfl 15 (by decide) (hts _ q1088) (fun _ h9 => h9) rfl dX4_toss_20 ?_
    refine lv_iload_n hx hb dX4_toss_23 rfl (lv_at hl 3 rfl) ?_
    refine n_iald C hK hP 3 dn rfl (by omega) (by omega) dX4_toss_24 ?_
    refine lv_istore (lv' := [(4, .int (kf dn)), (3, .int (kk dn)), (2, .int (sWK ke (nI dn))), (0, .ref h), (1, .int (nI dn))]) hx hb dX4_toss_25 hl (Nat.le_of_ble_eq_true rfl) rfl (fun ls hl => ?_)
    refine lv_iload_n hx hb dX4_toss_27 rfl (lv_at hl 1 rfl) ?_
    refine lv_iconst (v := 4) hx hb dX4_toss_28 (by decide) ?_
    refine lv_icmp_eq (x := kk dn) (y := 4) (tgt := 43) hx hb dX4_toss_29 (by decide) (fun c_2 => ?_) (fun c_2 => ?_)
    · refine lv_bipush (v := (-15)) hx hb dX4_toss_43 (by decide) ?_
      exact n_iret (v := (-15)) C (by simp [sTossA, sToss, c_1, t_dn, k1, k2, c_2]) dX4_toss_45
    · refine lv_iload_n hx hb dX4_toss_32 rfl (lv_at hl 1 rfl) ?_
      refine lv_bipush (v := 7) hx hb dX4_toss_33 (by decide) ?_
      refine lv_icmp_eq (x := kk dn) (y := 7) (tgt := 43) hx hb dX4_toss_35 (by decide) (fun c_3 => ?_) (fun c_3 => ?_)
      · refine lv_bipush (v := (-15)) hx hb dX4_toss_43 (by decide) ?_
        exact n_iret (v := (-15)) C (by simp [sTossA, sToss, c_1, t_dn, k1, k2, c_2, c_3]) dX4_toss_45
      · refine lv_iload hx hb dX4_toss_38 (lv_at hl 0 rfl) ?_
        refine lv_if_ne (x := kf dn) (tgt := 46) hx hb dX4_toss_40 (by decide) (fun c_4 => ?_) (fun c_4 => ?_)
        · refine lv_iload_n hx hb dX4_toss_46 rfl (lv_at hl 1 rfl) ?_
          refine lv_iconst (v := 5) hx hb dX4_toss_47 (by decide) ?_
          refine lv_icmp_ne (x := kk dn) (y := 5) (tgt := 64) hx hb dX4_toss_48 (by decide) (fun c_5 => ?_) (fun c_5 => ?_)
          · refine lv_iload_n hx hb dX4_toss_64 rfl (lv_at hl 1 rfl) ?_
            refine lv_iconst (v := 3) hx hb dX4_toss_65 (by decide) ?_
            refine lv_icmp_ne (x := kk dn) (y := 3) (tgt := 77) hx hb dX4_toss_66 (by decide) (fun c_6 => ?_) (fun c_6 => ?_)
            · refine lv_iload hx hb dX4_toss_77 (lv_at hl 0 rfl) ?_
              exact n_iret (v := kf dn) C (by simp [sTossA, sToss, c_1, t_dn, k1, k2, c_2, c_3, c_4, c_5, c_6]) dX4_toss_79
            · refine lv_bipush (v := 100) hx hb dX4_toss_69 (by decide) ?_
              refine lv_iload hx hb dX4_toss_71 (lv_at hl 0 rfl) ?_
              refine lv_iadd (x := 100) (y := kf dn) hx hb dX4_toss_73 ?_
              refine lv_goto (tgt := 79) hx hb dX4_toss_74 (by decide) ?_
              exact n_iret (v := 100 + (kf dn)) C (by simp [sTossA, sToss, c_1, t_dn, k1, k2, c_2, c_3, c_4, c_5, c_6]) dX4_toss_79
          · refine lv_sipush (v := 200) hx hb dX4_toss_51 (by decide) ?_
            refine lv_iload_n hx hb dX4_toss_54 rfl (lv_at hl 1 rfl) ?_
            refine lv_iload hx hb dX4_toss_55 (lv_at hl 0 rfl) ?_
            refine c_S (rest := [.int 200]) C (metX4_costBy l G (kk dn) (kf dn)) 2 (lw_S q1428 q1429 q42 q1430) (by decide +kernel) ⟨rfl, rfl⟩ ⟨(Nat.le_of_ble_eq_true rfl), (Nat.le_of_ble_eq_true rfl)⟩ (KM_mv G) (hP.sub (ws' := []) [] rfl) hK hl rfl rfl (Nat.le_of_ble_eq_true rfl) ⟨(Nat.le_of_ble_eq_true rfl), (Nat.le_of_ble_eq_true rfl)⟩ dX4_toss_57 ?_
            refine lv_iadd (x := 200) (y := sCost (kk dn) (kf dn)) hx hb dX4_toss_60 ?_
            refine lv_goto (tgt := 79) hx hb dX4_toss_61 (by decide) ?_
            exact n_iret (v := 200 + (sCost (kk dn) (kf dn))) C (by simp [sTossA, sToss, c_1, t_dn, k1, k2, c_2, c_3, c_4, c_5]) dX4_toss_79
        · refine lv_bipush (v := (-15)) hx hb dX4_toss_43 (by decide) ?_
          exact n_iret (v := (-15)) C (by simp [sTossA, sToss, c_1, t_dn, k1, k2, c_2, c_3, c_4]) dX4_toss_45
  · refine lv_iload_n hx hb dX4_toss_10 rfl (lv_at hl 0 rfl) ?_
    exact n_iret (v := sWK ke d) C (by simp [sTossA, sToss, c_1]) dX4_toss_11

set_option maxHeartbeats 4000000 in
set_option maxRecDepth 100000 in
theorem metX4_keep (l : Launch) (G : GG) (h : Nat) (ad : Nat → Nat) (iv : Nat → Int32) (ke kk kf : Nat → Int32) (d what k f : Int32) : MW l yX4_keep cX4_keep 5 (some .int) ({ frames := 2, cells := 0, slots := 0, locals := 42 }) [.ref h, .int d, .int what, .int k, .int f] [(h, mO ad iv), (ad 13, iA G 8 ke), (ad 14, iA G 8 kk), (ad 15, iA G 8 kf)] G (KM G) 0 0 (fun rv w1 => rv = sKeepA d what k f ∧ w1 = [(h, mO ad iv), (ad 13, iA G 8 (sKeepS d what k f ke what)), (ad 14, iA G 8 (sKeepS d what k f kk k)), (ad 15, iA G 8 (sKeepS d what k f kf f))]) := by
  -- rows printed by wip/tools/gen.py
  refine mw_mk RX4 (by decide) rfl (Nat.le_of_ble_eq_true rfl) ?_
  intro p0_ e0_ s m args below meth c A C hA hP hK hD ls hl
  have hx := C.1
  have hb := C.2.1
  have hml := C.2.2.2.2.1
  have hown := C.2.2.2.2.2.1
  have hts := C.2.2.2.2.2.2
  have hS : va_S A s.heap s.heap [] := va_S.rf
  have hl : lv_has ls 5 [(0, .ref h), (1, .int d), (2, .int what), (3, .int k), (4, .int f)] := hl
  refine lv_iload_n hx hb dX4_keep_0 rfl (lv_at hl 1 rfl) ?_
  refine c_S (rest := []) C (metX4_isShelf l G d) 1 (lw_S q1142 q1143 q42 q1144) (by decide +kernel) ⟨rfl, rfl⟩ ⟨(Nat.le_of_ble_eq_true rfl), (Nat.le_of_ble_eq_true rfl)⟩ (KM_mv G) (hP.sub (ws' := []) [] rfl) hK hl rfl rfl (Nat.le_of_ble_eq_true rfl) ⟨(Nat.le_of_ble_eq_true rfl), (Nat.le_of_ble_eq_true rfl)⟩ dX4_keep_1 ?_
  refine n_if_eqB (b := (sIn d 0 7)) (tgt := 42) hx hb dX4_keep_4 (by decide) (fun c_1 => ?_) (fun c_1 => ?_)
  · refine lv_iconst (v := (-1)) hx hb dX4_keep_42 (by decide) ?_
    exact n_iretW (v := (-1)) (w1 := [(h, mO ad iv), (ad 13, iA G 8 ke), (ad 14, iA G 8 kk), (ad 15, iA G 8 kf)]) C (⟨by simp [sKeepA, sKeepS, sKeepOk, c_1], by simp [sKeepA, sKeepS, sKeepOk, c_1]⟩) hP hD hS (by first | omega | decide) (by first | omega | decide) dX4_keep_43
  · obtain ⟨d_2, hd_2, gd_2, rfl⟩ := sIn_t (a := 0) (b := 7) (by omega) (by omega) c_1
    have td_2 : tn (nI d_2) = d_2 := nI_clamp (by omega)
    refine lv_iload_n hx hb dX4_keep_7 rfl (lv_at hl 2 rfl) ?_
    refine lv_iconst (v := 0) hx hb dX4_keep_8 (by decide) ?_
    refine lv_iconst (v := 1) hx hb dX4_keep_9 (by decide) ?_
    refine c_S (rest := []) C (metX4_isIn l G what 0 1) 3 (lw_S q1145 q1146 q42 q1147) (by decide +kernel) ⟨rfl, rfl⟩ ⟨(Nat.le_of_ble_eq_true rfl), (Nat.le_of_ble_eq_true rfl)⟩ (KM_mv G) (hP.sub (ws' := []) [] rfl) hK hl rfl rfl (Nat.le_of_ble_eq_true rfl) ⟨(Nat.le_of_ble_eq_true rfl), (Nat.le_of_ble_eq_true rfl)⟩ dX4_keep_10 ?_
    refine n_if_eqB (b := (sIn what 0 1)) (tgt := 42) hx hb dX4_keep_13 (by decide) (fun c_3 => ?_) (fun c_3 => ?_)
    · refine lv_iconst (v := (-1)) hx hb dX4_keep_42 (by decide) ?_
      exact n_iretW (v := (-1)) (w1 := [(h, mO ad iv), (ad 13, iA G 8 ke), (ad 14, iA G 8 kk), (ad 15, iA G 8 kf)]) C (⟨by simp [sKeepA, sKeepS, sKeepOk, c_1, td_2, c_3], by simp [sKeepA, sKeepS, sKeepOk, c_1, td_2, c_3]⟩) hP hD hS (by first | omega | decide) (by first | omega | decide) dX4_keep_43
    · obtain ⟨what_4, hwhat_4, gwhat_4, rfl⟩ := sIn_t (a := 0) (b := 1) (by omega) (by omega) c_3
      have twhat_4 : tn (nI what_4) = what_4 := nI_clamp (by omega)
      refine lv_iload_n hx hb dX4_keep_16 rfl (lv_at hl 2 rfl) ?_
      refine lv_iconst (v := 1) hx hb dX4_keep_17 (by decide) ?_
      refine n_ic_ne (x := what_4) (y := 1) (tgt := 44) hx hb (by omega) (by omega) dX4_keep_18 (by decide) (fun c_5 => ?_) (fun c_5 => ?_)
      · have zc_5 : ¬ nI what_4 = 1 := fun q => c_5 ((nI_eq (by omega) (by omega)).mp q)
        refine lv_aload_n hx hb dX4_keep_44 rfl (lv_at hl 0 rfl) ?_
        refine va_get (D := gD G) (ci := 0) (v := .ref (ad 13)) (C := RX4) (T := TX4) (N := 20) hx hb hts in_X4 hown hK hP 0 rfl rfl 13 (by decide) (hts _ q1086) (fun _ h9 => h9) rfl dX4_keep_45 ?_
        refine lv_iload_n hx hb dX4_keep_48 rfl (lv_at hl 1 rfl) ?_
        refine lv_iload_n hx hb dX4_keep_49 rfl (lv_at hl 2 rfl) ?_
        refine n_iast (x := nI what_4) C hK hP hD hS 1 d_2 rfl (by omega) (by omega) dX4_keep_50 (fun H locs hP hD hS => ?_)
        have hP : PP G [(h, mO ad iv), (ad 13, iA G 8 (upd ke d_2 (nI what_4))), (ad 14, iA G 8 kk), (ad 15, iA G 8 kf)] H := hP
        have hD : va_D A [(h, mO ad iv), (ad 13, iA G 8 (upd ke d_2 (nI what_4))), (ad 14, iA G 8 kk), (ad 15, iA G 8 kf)] := hD
        refine lv_aload_n hx hb dX4_keep_51 rfl (lv_at hl 0 rfl) ?_
        refine va_get (D := gD G) (ci := 0) (v := .ref (ad 14)) (C := RX4) (T := TX4) (N := 20) hx hb hts in_X4 hown hK hP 0 rfl rfl 14 (by decide) (hts _ q1087) (fun _ h9 => h9) rfl dX4_keep_52 ?_
        refine lv_iload_n hx hb dX4_keep_55 rfl (lv_at hl 1 rfl) ?_
        refine lv_iload_n hx hb dX4_keep_56 rfl (lv_at hl 3 rfl) ?_
        refine n_iast (x := k) C hK hP hD hS 2 d_2 rfl (by omega) (by omega) dX4_keep_57 (fun H locs hP hD hS => ?_)
        have hP : PP G [(h, mO ad iv), (ad 13, iA G 8 (upd ke d_2 (nI what_4))), (ad 14, iA G 8 (upd kk d_2 k)), (ad 15, iA G 8 kf)] H := hP
        have hD : va_D A [(h, mO ad iv), (ad 13, iA G 8 (upd ke d_2 (nI what_4))), (ad 14, iA G 8 (upd kk d_2 k)), (ad 15, iA G 8 kf)] := hD
        refine lv_aload_n hx hb dX4_keep_58 rfl (lv_at hl 0 rfl) ?_
        refine va_get (D := gD G) (ci := 0) (v := .ref (ad 15)) (C := RX4) (T := TX4) (N := 20) hx hb hts in_X4 hown hK hP 0 rfl rfl 15 (by decide) (hts _ q1088) (fun _ h9 => h9) rfl dX4_keep_59 ?_
        refine lv_iload_n hx hb dX4_keep_62 rfl (lv_at hl 1 rfl) ?_
        refine lv_iload hx hb dX4_keep_63 (lv_at hl 4 rfl) ?_
        refine n_iast (x := f) C hK hP hD hS 3 d_2 rfl (by omega) (by omega) dX4_keep_65 (fun H locs hP hD hS => ?_)
        have hP : PP G [(h, mO ad iv), (ad 13, iA G 8 (upd ke d_2 (nI what_4))), (ad 14, iA G 8 (upd kk d_2 k)), (ad 15, iA G 8 (upd kf d_2 f))] H := hP
        have hD : va_D A [(h, mO ad iv), (ad 13, iA G 8 (upd ke d_2 (nI what_4))), (ad 14, iA G 8 (upd kk d_2 k)), (ad 15, iA G 8 (upd kf d_2 f))] := hD
        refine lv_iconst (v := 0) hx hb dX4_keep_66 (by decide) ?_
        exact n_iretW (v := 0) (w1 := [(h, mO ad iv), (ad 13, iA G 8 (upd ke d_2 (nI what_4))), (ad 14, iA G 8 (upd kk d_2 k)), (ad 15, iA G 8 (upd kf d_2 f))]) C (⟨by simp [sKeepA, sKeepS, sKeepOk, c_1, td_2, c_3, twhat_4, c_5, zc_5], by simp [sKeepA, sKeepS, sKeepOk, c_1, td_2, c_3, twhat_4, c_5, zc_5]⟩) hP hD hS (by first | omega | decide) (by first | omega | decide) dX4_keep_67
      · obtain rfl := c_5
        have zc_5 : (nI 1 = 1) = True := eq_true rfl
        refine lv_iload_n hx hb dX4_keep_21 rfl (lv_at hl 3 rfl) ?_
        refine lv_iconst (v := 0) hx hb dX4_keep_22 (by decide) ?_
        refine lv_bipush (v := 7) hx hb dX4_keep_23 (by decide) ?_
        refine c_S (rest := []) C (metX4_isIn l G k 0 7) 3 (lw_S q1145 q1146 q42 q1147) (by decide +kernel) ⟨rfl, rfl⟩ ⟨(Nat.le_of_ble_eq_true rfl), (Nat.le_of_ble_eq_true rfl)⟩ (KM_mv G) (hP.sub (ws' := []) [] rfl) hK hl rfl rfl (Nat.le_of_ble_eq_true rfl) ⟨(Nat.le_of_ble_eq_true rfl), (Nat.le_of_ble_eq_true rfl)⟩ dX4_keep_25 ?_
        refine n_if_eqB (b := (sIn k 0 7)) (tgt := 42) hx hb dX4_keep_28 (by decide) (fun c_6 => ?_) (fun c_6 => ?_)
        · refine lv_iconst (v := (-1)) hx hb dX4_keep_42 (by decide) ?_
          exact n_iretW (v := (-1)) (w1 := [(h, mO ad iv), (ad 13, iA G 8 ke), (ad 14, iA G 8 kk), (ad 15, iA G 8 kf)]) C (⟨by simp [sKeepA, sKeepS, sKeepOk, c_1, td_2, c_3, twhat_4, zc_5, c_6], by simp [sKeepA, sKeepS, sKeepOk, c_1, td_2, c_3, twhat_4, zc_5, c_6]⟩) hP hD hS (by first | omega | decide) (by first | omega | decide) dX4_keep_43
        · obtain ⟨k_7, hk_7, gk_7, rfl⟩ := sIn_t (a := 0) (b := 7) (by omega) (by omega) c_6
          have tk_7 : tn (nI k_7) = k_7 := nI_clamp (by omega)
          refine lv_iload hx hb dX4_keep_31 (lv_at hl 4 rfl) ?_
          refine lv_iconst (v := 0) hx hb dX4_keep_33 (by decide) ?_
          refine lv_bipush (v := 9) hx hb dX4_keep_34 (by decide) ?_
          refine c_S (rest := []) C (metX4_isIn l G f 0 9) 3 (lw_S q1145 q1146 q42 q1147) (by decide +kernel) ⟨rfl, rfl⟩ ⟨(Nat.le_of_ble_eq_true rfl), (Nat.le_of_ble_eq_true rfl)⟩ (KM_mv G) (hP.sub (ws' := []) [] rfl) hK hl rfl rfl (Nat.le_of_ble_eq_true rfl) ⟨(Nat.le_of_ble_eq_true rfl), (Nat.le_of_ble_eq_true rfl)⟩ dX4_keep_36 ?_
          refine n_if_neB (b := (sIn f 0 9)) (tgt := 44) hx hb dX4_keep_39 (by decide) (fun c_8 => ?_) (fun c_8 => ?_)
          · obtain ⟨f_9, hf_9, gf_9, rfl⟩ := sIn_t (a := 0) (b := 9) (by omega) (by omega) c_8
            have tf_9 : tn (nI f_9) = f_9 := nI_clamp (by omega)
            refine lv_aload_n hx hb dX4_keep_44 rfl (lv_at hl 0 rfl) ?_
            refine va_get (D := gD G) (ci := 0) (v := .ref (ad 13)) (C := RX4) (T := TX4) (N := 20) hx hb hts in_X4 hown hK hP 0 rfl rfl 13 (by decide) (hts _ q1086) (fun _ h9 => h9) rfl dX4_keep_45 ?_
            refine lv_iload_n hx hb dX4_keep_48 rfl (lv_at hl 1 rfl) ?_
            refine lv_iload_n hx hb dX4_keep_49 rfl (lv_at hl 2 rfl) ?_
            refine n_iast (x := nI 1) C hK hP hD hS 1 d_2 rfl (by omega) (by omega) dX4_keep_50 (fun H locs hP hD hS => ?_)
            have hP : PP G [(h, mO ad iv), (ad 13, iA G 8 (upd ke d_2 (nI 1))), (ad 14, iA G 8 kk), (ad 15, iA G 8 kf)] H := hP
            have hD : va_D A [(h, mO ad iv), (ad 13, iA G 8 (upd ke d_2 (nI 1))), (ad 14, iA G 8 kk), (ad 15, iA G 8 kf)] := hD
            refine lv_aload_n hx hb dX4_keep_51 rfl (lv_at hl 0 rfl) ?_
            refine va_get (D := gD G) (ci := 0) (v := .ref (ad 14)) (C := RX4) (T := TX4) (N := 20) hx hb hts in_X4 hown hK hP 0 rfl rfl 14 (by decide) (hts _ q1087) (fun _ h9 => h9) rfl dX4_keep_52 ?_
            refine lv_iload_n hx hb dX4_keep_55 rfl (lv_at hl 1 rfl) ?_
            refine lv_iload_n hx hb dX4_keep_56 rfl (lv_at hl 3 rfl) ?_
            refine n_iast (x := nI k_7) C hK hP hD hS 2 d_2 rfl (by omega) (by omega) dX4_keep_57 (fun H locs hP hD hS => ?_)
            have hP : PP G [(h, mO ad iv), (ad 13, iA G 8 (upd ke d_2 (nI 1))), (ad 14, iA G 8 (upd kk d_2 (nI k_7))), (ad 15, iA G 8 kf)] H := hP
            have hD : va_D A [(h, mO ad iv), (ad 13, iA G 8 (upd ke d_2 (nI 1))), (ad 14, iA G 8 (upd kk d_2 (nI k_7))), (ad 15, iA G 8 kf)] := hD
            refine lv_aload_n hx hb dX4_keep_58 rfl (lv_at hl 0 rfl) ?_
            refine va_get (D := gD G) (ci := 0) (v := .ref (ad 15)) (C := RX4) (T := TX4) (N := 20) hx hb hts in_X4 hown hK hP 0 rfl rfl 15 (by decide) (hts _ q1088) (fun _ h9 => h9) rfl dX4_keep_59 ?_
            refine lv_iload_n hx hb dX4_keep_62 rfl (lv_at hl 1 rfl) ?_
            refine lv_iload hx hb dX4_keep_63 (lv_at hl 4 rfl) ?_
            refine n_iast (x := nI f_9) C hK hP hD hS 3 d_2 rfl (by omega) (by omega) dX4_keep_65 (fun H locs hP hD hS => ?_)
            have hP : PP G [(h, mO ad iv), (ad 13, iA G 8 (upd ke d_2 (nI 1))), (ad 14, iA G 8 (upd kk d_2 (nI k_7))), (ad 15, iA G 8 (upd kf d_2 (nI f_9)))] H := hP
            have hD : va_D A [(h, mO ad iv), (ad 13, iA G 8 (upd ke d_2 (nI 1))), (ad 14, iA G 8 (upd kk d_2 (nI k_7))), (ad 15, iA G 8 (upd kf d_2 (nI f_9)))] := hD
            refine lv_iconst (v := 0) hx hb dX4_keep_66 (by decide) ?_
            exact n_iretW (v := 0) (w1 := [(h, mO ad iv), (ad 13, iA G 8 (upd ke d_2 (nI 1))), (ad 14, iA G 8 (upd kk d_2 (nI k_7))), (ad 15, iA G 8 (upd kf d_2 (nI f_9)))]) C (⟨by simp [sKeepA, sKeepS, sKeepOk, c_1, td_2, c_3, twhat_4, zc_5, c_6, tk_7, c_8, tf_9], by simp [sKeepA, sKeepS, sKeepOk, c_1, td_2, c_3, twhat_4, zc_5, c_6, tk_7, c_8, tf_9]⟩) hP hD hS (by first | omega | decide) (by first | omega | decide) dX4_keep_67
          · refine lv_iconst (v := (-1)) hx hb dX4_keep_42 (by decide) ?_
            exact n_iretW (v := (-1)) (w1 := [(h, mO ad iv), (ad 13, iA G 8 ke), (ad 14, iA G 8 kk), (ad 15, iA G 8 kf)]) C (⟨by simp [sKeepA, sKeepS, sKeepOk, c_1, td_2, c_3, twhat_4, zc_5, c_6, tk_7, c_8], by simp [sKeepA, sKeepS, sKeepOk, c_1, td_2, c_3, twhat_4, zc_5, c_6, tk_7, c_8]⟩) hP hD hS (by first | omega | decide) (by first | omega | decide) dX4_keep_43

set_option maxHeartbeats 4000000 in
set_option maxRecDepth 100000 in
theorem metX4_put (l : Launch) (G : GG) (h : Nat) (ad : Nat → Nat) (iv : Nat → Int32) (ke so el : Nat → Int32) (zz : Nat → Nat) (d i v : Int32) (hz : ∀ d, zz d ≤ 100) : MW l yX4_put cX4_put 5 (some .int) ({ frames := 3, cells := 0, slots := 0, locals := 64 }) [.ref h, .int d, .int i, .int v] [(h, mO ad iv), (ad 13, iA G 8 ke), (ad 16, iA G 8 so), (ad 17, iA G 8 (nIf zz)), (ad 18, iA G 800 el)] G (KM G) 0 0 (fun rv w1 => rv = sPutA ke so zz d i ∧ w1 = [(h, mO ad iv), (ad 13, iA G 8 ke), (ad 16, iA G 8 so), (ad 17, iA G 8 (nIf zz)), (ad 18, iA G 800 (sPutS ke so zz el d i v))]) := by
  -- rows printed by wip/tools/gen.py
  refine mw_mk RX4 (by decide) rfl (Nat.le_of_ble_eq_true rfl) ?_
  intro p0_ e0_ s m args below meth c A C hA hP hK hD ls hl
  have hx := C.1
  have hb := C.2.1
  have hml := C.2.2.2.2.1
  have hown := C.2.2.2.2.2.1
  have hts := C.2.2.2.2.2.2
  have hS : va_S A s.heap s.heap [] := va_S.rf
  have hl : lv_has ls 5 [(0, .ref h), (1, .int d), (2, .int i), (3, .int v)] := hl
  have hz0 := hz
  refine lv_aload_n hx hb dX4_put_0 rfl (lv_at hl 0 rfl) ?_
  refine lv_iload_n hx hb dX4_put_1 rfl (lv_at hl 1 rfl) ?_
  refine lv_iconst (v := (-1)) hx hb dX4_put_2 (by decide) ?_
  refine c_V (rest := []) C (metX4_wrongRow l G h ad iv ke so d (-1)) 2 (lw_V q1138 q1140 qs23 q42 q1141) (by decide +kernel) ⟨rfl, rfl⟩ ⟨(Nat.le_of_ble_eq_true rfl), (Nat.le_of_ble_eq_true rfl)⟩ (KM_mv G) (va_recv hK hP (ci := 0) (q0 := 0) rfl rfl) (hP.sub (ws' := [(h, mO ad iv), (ad 13, iA G 8 ke), (ad 16, iA G 8 so)]) [0, 1, 2] rfl) hK hl rfl rfl (Nat.le_of_ble_eq_true rfl) ⟨(Nat.le_of_ble_eq_true rfl), (Nat.le_of_ble_eq_true rfl)⟩ dX4_put_3 ?_
  refine lv_istore (lv' := [(4, .int (sWR ke so d (-1))), (0, .ref h), (1, .int d), (2, .int i), (3, .int v)]) hx hb dX4_put_6 hl (Nat.le_of_ble_eq_true rfl) rfl (fun ls hl => ?_)
  refine lv_iload hx hb dX4_put_8 (lv_at hl 0 rfl) ?_
  refine lv_if_eq (x := sWR ke so d (-1)) (tgt := 16) hx hb dX4_put_10 (by decide) (fun c_1 => ?_) (fun c_1 => ?_)
  · obtain ⟨dn, gd, k1, k2, rfl⟩ := sWR_0 c_1
    have t_dn : tn (nI dn) = dn := nI_clamp (by omega)
    refine lv_iload_n hx hb dX4_put_16 rfl (lv_at hl 3 rfl) ?_
    refine lv_iconst (v := 0) hx hb dX4_put_17 (by decide) ?_
    refine lv_aload_n hx hb dX4_put_18 rfl (lv_at hl 1 rfl) ?_
    refine va_get (D := gD G) (ci := 0) (v := .ref (ad 17)) (C := RX4) (T := TX4) (N := 20) hx hb hts in_X4 hown hK hP 0 rfl rfl 17 (by decide) (hts _ q1090) (fun _ h9 => h9) rfl dX4_put_19 ?_
    refine lv_iload_n hx hb dX4_put_22 rfl (lv_at hl 2 rfl) ?_
    refine n_iald C hK hP 3 dn rfl (by omega) (by omega) dX4_put_23 ?_
    have hz_2 := hz dn
    refine lv_iconst (v := 1) hx hb dX4_put_24 (by decide) ?_
    refine lv_isub (x := nI (zz dn)) (y := 1) hx hb dX4_put_25 ?_
    refine c_S (rest := []) C (metX4_isIn l G i 0 ((nI (zz dn)) - 1)) 3 (lw_S q1145 q1146 q42 q1147) (by decide +kernel) ⟨rfl, rfl⟩ ⟨(Nat.le_of_ble_eq_true rfl), (Nat.le_of_ble_eq_true rfl)⟩ (KM_mv G) (hP.sub (ws' := []) [] rfl) hK hl rfl rfl (Nat.le_of_ble_eq_true rfl) ⟨(Nat.le_of_ble_eq_true rfl), (Nat.le_of_ble_eq_true rfl)⟩ dX4_put_26 ?_
    refine n_if_neB (b := (sIn i 0 ((nI (zz dn)) - 1))) (tgt := 35) hx hb dX4_put_29 (by decide) (fun c_3 => ?_) (fun c_3 => ?_)
    · obtain ⟨i_4, hi_4, rfl⟩ := sPer_t (by omega) c_3
      have ti_4 : tn (nI i_4) = i_4 := nI_clamp (by omega)
      have yc_3 : sPer (zz dn) (nI i_4) = true := c_3
      refine lv_aload_n hx hb dX4_put_35 rfl (lv_at hl 1 rfl) ?_
      refine va_get (D := gD G) (ci := 0) (v := .ref (ad 18)) (C := RX4) (T := TX4) (N := 20) hx hb hts in_X4 hown hK hP 0 rfl rfl 18 (by decide) (hts _ q1091) (fun _ h9 => h9) rfl dX4_put_36 ?_
      refine lv_bipush (v := 100) hx hb dX4_put_39 (by decide) ?_
      refine lv_iload_n hx hb dX4_put_41 rfl (lv_at hl 2 rfl) ?_
      refine n_imul hx hb 100 dn dX4_put_42 ?_
      refine lv_iload_n hx hb dX4_put_43 rfl (lv_at hl 3 rfl) ?_
      refine n_iadd hx hb (100 * dn) i_4 dX4_put_44 ?_
      refine lv_aload_n hx hb dX4_put_45 rfl (lv_at hl 1 rfl) ?_
      refine va_get (D := gD G) (ci := 0) (v := .ref (ad 16)) (C := RX4) (T := TX4) (N := 20) hx hb hts in_X4 hown hK hP 0 rfl rfl 16 (by decide) (hts _ q1089) (fun _ h9 => h9) rfl dX4_put_46 ?_
      refine lv_iload_n hx hb dX4_put_49 rfl (lv_at hl 2 rfl) ?_
      refine n_iald C hK hP 2 dn rfl (by omega) (by omega) dX4_put_50 ?_
      refine lv_if_ne (x := so dn) (tgt := 59) hx hb dX4_put_51 (by decide) (fun c_5 => ?_) (fun c_5 => ?_)
      · refine lv_aload_n hx hb dX4_put_59 rfl (lv_at hl 1 rfl) ?_
        refine va_get (D := gD G) (ci := 0) (v := .ref (ad 16)) (C := RX4) (T := TX4) (N := 20) hx hb hts in_X4 hown hK hP 0 rfl rfl 16 (by decide) (hts _ q1089) (fun _ h9 => h9) rfl dX4_put_60 ?_
        refine lv_iload_n hx hb dX4_put_63 rfl (lv_at hl 2 rfl) ?_
        refine n_iald C hK hP 2 dn rfl (by omega) (by omega) dX4_put_64 ?_
        refine lv_iconst (v := 1) hx hb dX4_put_65 (by decide) ?_
        refine lv_icmp_ne (x := so dn) (y := 1) (tgt := 74) hx hb dX4_put_66 (by decide) (fun c_6 => ?_) (fun c_6 => ?_)
        · refine lv_iload_n hx hb dX4_put_74 rfl (lv_at hl 4 rfl) ?_
          refine n_iast (x := v) C hK hP hD hS 4 ((100 * dn) + i_4) rfl (by omega) (by omega) dX4_put_75 (fun H locs hP hD hS => ?_)
          have hP : PP G [(h, mO ad iv), (ad 13, iA G 8 ke), (ad 16, iA G 8 so), (ad 17, iA G 8 (nIf zz)), (ad 18, iA G 800 (upd el ((100 * dn) + i_4) v))] H := hP
          have hD : va_D A [(h, mO ad iv), (ad 13, iA G 8 ke), (ad 16, iA G 8 so), (ad 17, iA G 8 (nIf zz)), (ad 18, iA G 800 (upd el ((100 * dn) + i_4) v))] := hD
          refine lv_iconst (v := 0) hx hb dX4_put_76 (by decide) ?_
          exact n_iretW (v := 0) (w1 := [(h, mO ad iv), (ad 13, iA G 8 ke), (ad 16, iA G 8 so), (ad 17, iA G 8 (nIf zz)), (ad 18, iA G 800 (upd el ((100 * dn) + i_4) v))]) C (⟨by simp [sPutA, sPutS, sNar, c_1, t_dn, k1, k2, c_3, ti_4, yc_3, c_5, c_6], by simp [sPutA, sPutS, sNar, c_1, t_dn, k1, k2, c_3, ti_4, yc_3, c_5, c_6]⟩) hP hD hS (by first | omega | decide) (by first | omega | decide) dX4_put_77
        · refine lv_iload_n hx hb dX4_put_69 rfl (lv_at hl 4 rfl) ?_
          refine lv_i2s (x := v) (v := v.toInt16.toInt32) hx hb dX4_put_70 rfl ?_
          refine lv_goto (tgt := 75) hx hb dX4_put_71 (by decide) ?_
          refine n_iast (x := v.toInt16.toInt32) C hK hP hD hS 4 ((100 * dn) + i_4) rfl (by omega) (by omega) dX4_put_75 (fun H locs hP hD hS => ?_)
          have hP : PP G [(h, mO ad iv), (ad 13, iA G 8 ke), (ad 16, iA G 8 so), (ad 17, iA G 8 (nIf zz)), (ad 18, iA G 800 (upd el ((100 * dn) + i_4) v.toInt16.toInt32))] H := hP
          have hD : va_D A [(h, mO ad iv), (ad 13, iA G 8 ke), (ad 16, iA G 8 so), (ad 17, iA G 8 (nIf zz)), (ad 18, iA G 800 (upd el ((100 * dn) + i_4) v.toInt16.toInt32))] := hD
          refine lv_iconst (v := 0) hx hb dX4_put_76 (by decide) ?_
          exact n_iretW (v := 0) (w1 := [(h, mO ad iv), (ad 13, iA G 8 ke), (ad 16, iA G 8 so), (ad 17, iA G 8 (nIf zz)), (ad 18, iA G 800 (upd el ((100 * dn) + i_4) v.toInt16.toInt32))]) C (⟨by simp [sPutA, sPutS, sNar, c_1, t_dn, k1, k2, c_3, ti_4, yc_3, c_5, c_6], by simp [sPutA, sPutS, sNar, c_1, t_dn, k1, k2, c_3, ti_4, yc_3, c_5, c_6]⟩) hP hD hS (by first | omega | decide) (by first | omega | decide) dX4_put_77
      · refine lv_iload_n hx hb dX4_put_54 rfl (lv_at hl 4 rfl) ?_
        refine lv_i2b (x := v) (v := v.toInt8.toInt32) hx hb dX4_put_55 rfl ?_
        refine lv_goto (tgt := 75) hx hb dX4_put_56 (by decide) ?_
        refine n_iast (x := v.toInt8.toInt32) C hK hP hD hS 4 ((100 * dn) + i_4) rfl (by omega) (by omega) dX4_put_75 (fun H locs hP hD hS => ?_)
        have hP : PP G [(h, mO ad iv), (ad 13, iA G 8 ke), (ad 16, iA G 8 so), (ad 17, iA G 8 (nIf zz)), (ad 18, iA G 800 (upd el ((100 * dn) + i_4) v.toInt8.toInt32))] H := hP
        have hD : va_D A [(h, mO ad iv), (ad 13, iA G 8 ke), (ad 16, iA G 8 so), (ad 17, iA G 8 (nIf zz)), (ad 18, iA G 800 (upd el ((100 * dn) + i_4) v.toInt8.toInt32))] := hD
        refine lv_iconst (v := 0) hx hb dX4_put_76 (by decide) ?_
        exact n_iretW (v := 0) (w1 := [(h, mO ad iv), (ad 13, iA G 8 ke), (ad 16, iA G 8 so), (ad 17, iA G 8 (nIf zz)), (ad 18, iA G 800 (upd el ((100 * dn) + i_4) v.toInt8.toInt32))]) C (⟨by simp [sPutA, sPutS, sNar, c_1, t_dn, k1, k2, c_3, ti_4, yc_3, c_5], by simp [sPutA, sPutS, sNar, c_1, t_dn, k1, k2, c_3, ti_4, yc_3, c_5]⟩) hP hD hS (by first | omega | decide) (by first | omega | decide) dX4_put_77
    · have yc_3 : sPer (zz dn) i = false := c_3
      refine lv_bipush (v := (-13)) hx hb dX4_put_32 (by decide) ?_
      exact n_iretW (v := (-13)) (w1 := [(h, mO ad iv), (ad 13, iA G 8 ke), (ad 16, iA G 8 so), (ad 17, iA G 8 (nIf zz)), (ad 18, iA G 800 el)]) C (⟨by simp [sPutA, sPutS, sNar, c_1, t_dn, k1, k2, c_3, yc_3], by simp [sPutA, sPutS, sNar, c_1, t_dn, k1, k2, c_3, yc_3]⟩) hP hD hS (by first | omega | decide) (by first | omega | decide) dX4_put_34
  · refine lv_iload hx hb dX4_put_13 (lv_at hl 0 rfl) ?_
    exact n_iretW (v := sWR ke so d (-1)) (w1 := [(h, mO ad iv), (ad 13, iA G 8 ke), (ad 16, iA G 8 so), (ad 17, iA G 8 (nIf zz)), (ad 18, iA G 800 el)]) C (⟨by simp [sPutA, sPutS, sNar, c_1], by simp [sPutA, sPutS, sNar, c_1]⟩) hP hD hS (by first | omega | decide) (by first | omega | decide) dX4_put_15

set_option maxHeartbeats 4000000 in
set_option maxRecDepth 100000 in
theorem metX4_element (l : Launch) (G : GG) (h : Nat) (ad : Nat → Nat) (iv : Nat → Int32) (ke el : Nat → Int32) (zz : Nat → Nat) (d i : Int32) (hz : ∀ d, zz d ≤ 100) : MWl l yX4_element cX4_element 3 (some .long) ({ frames := 2, cells := 0, slots := 0, locals := 42 }) [.ref h, .int d, .int i] [(h, mO ad iv), (ad 13, iA G 8 ke), (ad 17, iA G 8 (nIf zz)), (ad 18, iA G 800 el)] G (KM G) 0 0 (fun rv w1 => rv = sElemA ke zz el d i ∧ w1 = [(h, mO ad (upd iv 19 (sThr ke zz d i))), (ad 13, iA G 8 ke), (ad 17, iA G 8 (nIf zz)), (ad 18, iA G 800 el)]) := by
  -- rows printed by wip/tools/gen.py
  refine mwl_mk RX4 (by decide) rfl (Nat.le_of_ble_eq_true rfl) ?_
  intro p0_ e0_ s m args below meth c A C hA hP hK hD ls hl
  have hx := C.1
  have hb := C.2.1
  have hml := C.2.2.2.2.1
  have hown := C.2.2.2.2.2.1
  have hts := C.2.2.2.2.2.2
  have hS : va_S A s.heap s.heap [] := va_S.rf
  have hl : lv_has ls 3 [(0, .ref h), (1, .int d), (2, .int i)] := hl
  refine lv_aload_n hx hb dX4_element_0 rfl (lv_at hl 0 rfl) ?_
  refine lv_iload_n hx hb dX4_element_1 rfl (lv_at hl 1 rfl) ?_
  refine c_S (rest := [.ref h]) C (metX4_isShelf l G d) 1 (lw_S q1142 q1143 q42 q1144) (by decide +kernel) ⟨rfl, rfl⟩ ⟨(Nat.le_of_ble_eq_true rfl), (Nat.le_of_ble_eq_true rfl)⟩ (KM_mv G) (hP.sub (ws' := []) [] rfl) hK hl rfl rfl (Nat.le_of_ble_eq_true rfl) ⟨(Nat.le_of_ble_eq_true rfl), (Nat.le_of_ble_eq_true rfl)⟩ dX4_element_2 ?_
  refine n_if_neB (b := (sIn d 0 7)) (tgt := 12) hx hb dX4_element_5 (by decide) (fun c_1 => ?_) (fun c_1 => ?_)
  · obtain ⟨d_2, hd_2, gd_2, rfl⟩ := sIn_t (a := 0) (b := 7) (by omega) (by omega) c_1
    have td_2 : tn (nI d_2) = d_2 := nI_clamp (by omega)
    refine lv_aload_n hx hb dX4_element_12 rfl (lv_at hl 0 rfl) ?_
    refine va_get (D := gD G) (ci := 0) (v := .ref (ad 13)) (C := RX4) (T := TX4) (N := 20) hx hb hts in_X4 hown hK hP 0 rfl rfl 13 (by decide) (hts _ q1086) (fun _ h9 => h9) rfl dX4_element_13 ?_
    refine lv_iload_n hx hb dX4_element_16 rfl (lv_at hl 1 rfl) ?_
    refine n_iald C hK hP 1 d_2 rfl (by omega) (by omega) dX4_element_17 ?_
    refine lv_iconst (v := 2) hx hb dX4_element_18 (by decide) ?_
    refine lv_icmp_ne (x := ke d_2) (y := 2) (tgt := 38) hx hb dX4_element_19 (by decide) (fun c_3 => ?_) (fun c_3 => ?_)
    · refine lv_iconst (v := 2) hx hb dX4_element_38 (by decide) ?_
      refine lv_goto (tgt := 43) hx hb dX4_element_39 (by decide) ?_
      refine va_put (D := gD G) (ci := 0) (v := .int 2) (ty := .int) (C := RX4) (T := TX4) (N := 20) hx hb hts in_X4 tyX4 tyX4_ok nmX4 hown hK hP hD hS 0 rfl rfl 19 (by decide) (hts _ q1092) (fun _ h9 => h9) rfl (by decide +kernel) rfl rfl (Nat.le_of_ble_eq_true rfl) dX4_element_43 (fun H locs hP hD hS => ?_)
      have hP : PP G [(h, mO ad (upd iv 19 2)), (ad 13, iA G 8 ke), (ad 17, iA G 8 (nIf zz)), (ad 18, iA G 800 el)] H := hP
      have hD : va_D A [(h, mO ad (upd iv 19 2)), (ad 13, iA G 8 ke), (ad 17, iA G 8 (nIf zz)), (ad 18, iA G 800 el)] := hD
      refine lv_aload_n hx hb dX4_element_46 rfl (lv_at hl 0 rfl) ?_
      refine va_get (D := gD G) (ci := 0) (v := .int 2) (C := RX4) (T := TX4) (N := 20) hx hb hts in_X4 hown hK hP 0 rfl rfl 19 (by decide) (hts _ q1092) (fun _ h9 => h9) rfl dX4_element_47 ?_
      refine lv_if_ne (x := 2) (tgt := 68) hx hb dX4_element_50 (by decide) (fun c_4 => ?_) (fun c_4 => absurd c_4 (by decide))
      refine lv_lconst (v := 0) hx hb dX4_element_68 (by decide) ?_
      exact n_lretW (v := 0) (w1 := [(h, mO ad (upd iv 19 2)), (ad 13, iA G 8 ke), (ad 17, iA G 8 (nIf zz)), (ad 18, iA G 800 el)]) C (⟨by simp [sElemA, sThr, c_1, td_2, c_3, c_4], by simp [sElemA, sThr, c_1, td_2, c_3, c_4]⟩) hP hD hS (by first | omega | decide) (by first | omega | decide) dX4_element_69
    · refine lv_iload_n hx hb dX4_element_22 rfl (lv_at hl 2 rfl) ?_
      refine lv_iconst (v := 0) hx hb dX4_element_23 (by decide) ?_
      refine lv_aload_n hx hb dX4_element_24 rfl (lv_at hl 0 rfl) ?_
      refine va_get (D := gD G) (ci := 0) (v := .ref (ad 17)) (C := RX4) (T := TX4) (N := 20) hx hb hts in_X4 hown hK hP 0 rfl rfl 17 (by decide) (hts _ q1090) (fun _ h9 => h9) rfl dX4_element_25 ?_
      refine lv_iload_n hx hb dX4_element_28 rfl (lv_at hl 1 rfl) ?_
      refine n_iald C hK hP 2 d_2 rfl (by omega) (by omega) dX4_element_29 ?_
      have hz_5 := hz d_2
      refine lv_iconst (v := 1) hx hb dX4_element_30 (by decide) ?_
      refine lv_isub (x := nI (zz d_2)) (y := 1) hx hb dX4_element_31 ?_
      refine c_S (rest := [.ref h]) C (metX4_isIn l G i 0 ((nI (zz d_2)) - 1)) 3 (lw_S q1145 q1146 q42 q1147) (by decide +kernel) ⟨rfl, rfl⟩ ⟨(Nat.le_of_ble_eq_true rfl), (Nat.le_of_ble_eq_true rfl)⟩ (KM_mv G) (hP.sub (ws' := []) [] rfl) hK hl rfl rfl (Nat.le_of_ble_eq_true rfl) ⟨(Nat.le_of_ble_eq_true rfl), (Nat.le_of_ble_eq_true rfl)⟩ dX4_element_32 ?_
      refine n_if_neB (b := (sIn i 0 ((nI (zz d_2)) - 1))) (tgt := 42) hx hb dX4_element_35 (by decide) (fun c_6 => ?_) (fun c_6 => ?_)
      · obtain ⟨i_7, hi_7, rfl⟩ := sPer_t (by omega) c_6
        have ti_7 : tn (nI i_7) = i_7 := nI_clamp (by omega)
        have yc_6 : sPer (zz d_2) (nI i_7) = true := c_6
        refine lv_iconst (v := 0) hx hb dX4_element_42 (by decide) ?_
        refine va_put (D := gD G) (ci := 0) (v := .int 0) (ty := .int) (C := RX4) (T := TX4) (N := 20) hx hb hts in_X4 tyX4 tyX4_ok nmX4 hown hK hP hD hS 0 rfl rfl 19 (by decide) (hts _ q1092) (fun _ h9 => h9) rfl (by decide +kernel) rfl rfl (Nat.le_of_ble_eq_true rfl) dX4_element_43 (fun H locs hP hD hS => ?_)
        have hP : PP G [(h, mO ad (upd iv 19 0)), (ad 13, iA G 8 ke), (ad 17, iA G 8 (nIf zz)), (ad 18, iA G 800 el)] H := hP
        have hD : va_D A [(h, mO ad (upd iv 19 0)), (ad 13, iA G 8 ke), (ad 17, iA G 8 (nIf zz)), (ad 18, iA G 800 el)] := hD
        refine lv_aload_n hx hb dX4_element_46 rfl (lv_at hl 0 rfl) ?_
        refine va_get (D := gD G) (ci := 0) (v := .int 0) (C := RX4) (T := TX4) (N := 20) hx hb hts in_X4 hown hK hP 0 rfl rfl 19 (by decide) (hts _ q1092) (fun _ h9 => h9) rfl dX4_element_47 ?_
        refine lv_if_ne (x := 0) (tgt := 68) hx hb dX4_element_50 (by decide) (fun c_8 => absurd c_8 (by decide)) (fun c_8 => ?_)
        refine lv_aload_n hx hb dX4_element_53 rfl (lv_at hl 0 rfl) ?_
        refine va_get (D := gD G) (ci := 0) (v := .ref (ad 18)) (C := RX4) (T := TX4) (N := 20) hx hb hts in_X4 hown hK hP 0 rfl rfl 18 (by decide) (hts _ q1091) (fun _ h9 => h9) rfl dX4_element_54 ?_
        refine lv_bipush (v := 100) hx hb dX4_element_57 (by decide) ?_
        refine lv_iload_n hx hb dX4_element_59 rfl (lv_at hl 1 rfl) ?_
        refine n_imul hx hb 100 d_2 dX4_element_60 ?_
        refine lv_iload_n hx hb dX4_element_61 rfl (lv_at hl 2 rfl) ?_
        refine n_iadd hx hb (100 * d_2) i_7 dX4_element_62 ?_
        refine n_iald C hK hP 3 ((100 * d_2) + i_7) rfl (by omega) (by omega) dX4_element_63 ?_
        refine lv_i2l (x := el ((100 * d_2) + i_7)) (v := (el ((100 * d_2) + i_7)).toInt64) hx hb dX4_element_64 rfl ?_
        refine lv_goto (tgt := 69) hx hb dX4_element_65 (by decide) ?_
        exact n_lretW (v := (el ((100 * d_2) + i_7)).toInt64) (w1 := [(h, mO ad (upd iv 19 0)), (ad 13, iA G 8 ke), (ad 17, iA G 8 (nIf zz)), (ad 18, iA G 800 el)]) C (⟨by simp [sElemA, sThr, c_1, td_2, c_3, c_6, ti_7, yc_6, c_8], by simp [sElemA, sThr, c_1, td_2, c_3, c_6, ti_7, yc_6, c_8]⟩) hP hD hS (by first | omega | decide) (by first | omega | decide) dX4_element_69
      · have yc_6 : sPer (zz d_2) i = false := c_6
        refine lv_iconst (v := 2) hx hb dX4_element_38 (by decide) ?_
        refine lv_goto (tgt := 43) hx hb dX4_element_39 (by decide) ?_
        refine va_put (D := gD G) (ci := 0) (v := .int 2) (ty := .int) (C := RX4) (T := TX4) (N := 20) hx hb hts in_X4 tyX4 tyX4_ok nmX4 hown hK hP hD hS 0 rfl rfl 19 (by decide) (hts _ q1092) (fun _ h9 => h9) rfl (by decide +kernel) rfl rfl (Nat.le_of_ble_eq_true rfl) dX4_element_43 (fun H locs hP hD hS => ?_)
        have hP : PP G [(h, mO ad (upd iv 19 2)), (ad 13, iA G 8 ke), (ad 17, iA G 8 (nIf zz)), (ad 18, iA G 800 el)] H := hP
        have hD : va_D A [(h, mO ad (upd iv 19 2)), (ad 13, iA G 8 ke), (ad 17, iA G 8 (nIf zz)), (ad 18, iA G 800 el)] := hD
        refine lv_aload_n hx hb dX4_element_46 rfl (lv_at hl 0 rfl) ?_
        refine va_get (D := gD G) (ci := 0) (v := .int 2) (C := RX4) (T := TX4) (N := 20) hx hb hts in_X4 hown hK hP 0 rfl rfl 19 (by decide) (hts _ q1092) (fun _ h9 => h9) rfl dX4_element_47 ?_
        refine lv_if_ne (x := 2) (tgt := 68) hx hb dX4_element_50 (by decide) (fun c_9 => ?_) (fun c_9 => absurd c_9 (by decide))
        refine lv_lconst (v := 0) hx hb dX4_element_68 (by decide) ?_
        exact n_lretW (v := 0) (w1 := [(h, mO ad (upd iv 19 2)), (ad 13, iA G 8 ke), (ad 17, iA G 8 (nIf zz)), (ad 18, iA G 800 el)]) C (⟨by simp [sElemA, sThr, c_1, td_2, c_3, c_6, yc_6, c_9], by simp [sElemA, sThr, c_1, td_2, c_3, c_6, yc_6, c_9]⟩) hP hD hS (by first | omega | decide) (by first | omega | decide) dX4_element_69
  · refine lv_iconst (v := 1) hx hb dX4_element_8 (by decide) ?_
    refine lv_goto (tgt := 43) hx hb dX4_element_9 (by decide) ?_
    refine va_put (D := gD G) (ci := 0) (v := .int 1) (ty := .int) (C := RX4) (T := TX4) (N := 20) hx hb hts in_X4 tyX4 tyX4_ok nmX4 hown hK hP hD hS 0 rfl rfl 19 (by decide) (hts _ q1092) (fun _ h9 => h9) rfl (by decide +kernel) rfl rfl (Nat.le_of_ble_eq_true rfl) dX4_element_43 (fun H locs hP hD hS => ?_)
    have hP : PP G [(h, mO ad (upd iv 19 1)), (ad 13, iA G 8 ke), (ad 17, iA G 8 (nIf zz)), (ad 18, iA G 800 el)] H := hP
    have hD : va_D A [(h, mO ad (upd iv 19 1)), (ad 13, iA G 8 ke), (ad 17, iA G 8 (nIf zz)), (ad 18, iA G 800 el)] := hD
    refine lv_aload_n hx hb dX4_element_46 rfl (lv_at hl 0 rfl) ?_
    refine va_get (D := gD G) (ci := 0) (v := .int 1) (C := RX4) (T := TX4) (N := 20) hx hb hts in_X4 hown hK hP 0 rfl rfl 19 (by decide) (hts _ q1092) (fun _ h9 => h9) rfl dX4_element_47 ?_
    refine lv_if_ne (x := 1) (tgt := 68) hx hb dX4_element_50 (by decide) (fun c_10 => ?_) (fun c_10 => absurd c_10 (by decide))
    refine lv_lconst (v := 0) hx hb dX4_element_68 (by decide) ?_
    exact n_lretW (v := 0) (w1 := [(h, mO ad (upd iv 19 1)), (ad 13, iA G 8 ke), (ad 17, iA G 8 (nIf zz)), (ad 18, iA G 800 el)]) C (⟨by simp [sElemA, sThr, c_1, c_10], by simp [sElemA, sThr, c_1, c_10]⟩) hP hD hS (by first | omega | decide) (by first | omega | decide) dX4_element_69

set_option maxHeartbeats 4000000 in
set_option maxRecDepth 100000 in
theorem metX4_thrown (l : Launch) (G : GG) (h : Nat) (ad : Nat → Nat) (iv : Nat → Int32)  : MR l yX4_thrown cX4_thrown 1 (some .int) ({ frames := 0, cells := 0, slots := 0, locals := 0 }) [.ref h] [(h, mO ad iv)] G (KM G) (iv 19) := by
  -- rows printed by wip/tools/gen.py
  refine mr_mk RX4 (by decide) rfl (Nat.le_of_ble_eq_true rfl) ?_
  intro p0_ e0_ s m args below meth c C hP hK ls hl
  have hx := C.1
  have hb := C.2.1
  have hml := C.2.2.2.2.1
  have hown := C.2.2.2.2.2.1
  have hts := C.2.2.2.2.2.2
  have hl : lv_has ls 1 [(0, .ref h)] := hl
  refine lv_aload_n hx hb dX4_thrown_0 rfl (lv_at hl 0 rfl) ?_
  refine va_get (D := gD G) (ci := 0) (v := .int (iv 19)) (C := RX4) (T := TX4) (N := 20) hx hb hts in_X4 hown hK hP 0 rfl rfl 19 (by decide) (hts _ q1092) (fun _ h9 => h9) rfl dX4_thrown_1 ?_
  exact n_iret (v := iv 19) C (rfl) dX4_thrown_4

set_option maxHeartbeats 4000000 in
set_option maxRecDepth 100000 in
theorem metX4_image (l : Launch) (G : GG) (h : Nat) (ad : Nat → Nat) (iv : Nat → Int32) (r ri : Nat → Int32) : MW l yX4_image cX4_image 1 (some .int) ({ frames := 1, cells := 0, slots := 0, locals := 22 }) [.ref h] [(h, mO ad iv), (ad 0, iA G 57 r), (ad 2, iA G 57 ri)] G (KM G) 0 0 (fun rv w1 => rv = r 2 ∧ w1 = [(h, mO ad (upd iv 4 1)), (ad 0, iA G 57 r), (ad 2, iA G 57 r)]) := by
  -- rows printed by wip/tools/gen.py
  refine mw_mk RX4 (by decide) rfl (Nat.le_of_ble_eq_true rfl) ?_
  intro p0_ e0_ s m args below meth c A C hA hP hK hD ls hl
  have hx := C.1
  have hb := C.2.1
  have hml := C.2.2.2.2.1
  have hown := C.2.2.2.2.2.1
  have hts := C.2.2.2.2.2.2
  have hS : va_S A s.heap s.heap [] := va_S.rf
  have hl : lv_has ls 1 [(0, .ref h)] := hl
  refine lv_aload_n hx hb dX4_image_0 rfl (lv_at hl 0 rfl) ?_
  refine va_get (D := gD G) (ci := 0) (v := .ref (ad 0)) (C := RX4) (T := TX4) (N := 20) hx hb hts in_X4 hown hK hP 0 rfl rfl 0 (by decide) (hts _ q1073) (fun _ h9 => h9) rfl dX4_image_1 ?_
  refine lv_aload_n hx hb dX4_image_4 rfl (lv_at hl 0 rfl) ?_
  refine va_get (D := gD G) (ci := 0) (v := .ref (ad 2)) (C := RX4) (T := TX4) (N := 20) hx hb hts in_X4 hown hK hP 0 rfl rfl 2 (by decide) (hts _ q1075) (fun _ h9 => h9) rfl dX4_image_5 ?_
  refine c_SWv (wr := [(h, mO ad iv)]) (rest := []) C (metX4_copies l G (ad 0) (ad 2) r ri) 2 (lw_S q1160 q1161 q42 q1162) (by decide +kernel) ⟨rfl, rfl⟩ ⟨(Nat.le_of_ble_eq_true rfl), (Nat.le_of_ble_eq_true rfl)⟩ (KM_mv G) hK hA hP hD hS [1, 2] [0] rfl rfl rfl rfl (by decide) hl rfl rfl (Nat.le_of_ble_eq_true rfl) ⟨(Nat.le_of_ble_eq_true rfl), (Nat.le_of_ble_eq_true rfl)⟩ dX4_image_8 (fun w1 H locs hq_2 hP hD hS => ?_)
  obtain rfl := hq_2
  have hP : PP G [(h, mO ad iv), (ad 0, iA G 57 r), (ad 2, iA G 57 r)] H := hP
  have hD : va_D A [(h, mO ad iv), (ad 0, iA G 57 r), (ad 2, iA G 57 r)] := hD
  refine lv_aload_n hx hb dX4_image_11 rfl (lv_at hl 0 rfl) ?_
  refine lv_iconst (v := 1) hx hb dX4_image_12 (by decide) ?_
  refine va_put (D := gD G) (ci := 0) (v := .int 1) (ty := .boolean) (C := RX4) (T := TX4) (N := 20) hx hb hts in_X4 tyX4 tyX4_ok nmX4 hown hK hP hD hS 0 rfl rfl 4 (by decide) (hts _ q1077) (fun _ h9 => h9) rfl (by decide +kernel) rfl rfl (Nat.le_of_ble_eq_true rfl) dX4_image_13 (fun H locs hP hD hS => ?_)
  have hP : PP G [(h, mO ad (upd iv 4 1)), (ad 0, iA G 57 r), (ad 2, iA G 57 r)] H := hP
  have hD : va_D A [(h, mO ad (upd iv 4 1)), (ad 0, iA G 57 r), (ad 2, iA G 57 r)] := hD
  refine lv_aload_n hx hb dX4_image_16 rfl (lv_at hl 0 rfl) ?_
  refine va_get (D := gD G) (ci := 0) (v := .ref (ad 0)) (C := RX4) (T := TX4) (N := 20) hx hb hts in_X4 hown hK hP 0 rfl rfl 0 (by decide) (hts _ q1073) (fun _ h9 => h9) rfl dX4_image_17 ?_
  refine lv_iconst (v := 2) hx hb dX4_image_20 (by decide) ?_
  refine n_iald C hK hP 1 2 rfl (by omega) (by omega) dX4_image_21 ?_
  exact n_iretW (v := r 2) (w1 := [(h, mO ad (upd iv 4 1)), (ad 0, iA G 57 r), (ad 2, iA G 57 r)]) C (⟨rfl, rfl⟩) hP hD hS (by first | omega | decide) (by first | omega | decide) dX4_image_22

set_option maxHeartbeats 4000000 in
set_option maxRecDepth 100000 in
theorem metX4_restore (l : Launch) (G : GG) (h : Nat) (ad : Nat → Nat) (iv : Nat → Int32) (r ri : Nat → Int32) : MW l yX4_restore cX4_restore 1 (some .int) ({ frames := 1, cells := 0, slots := 0, locals := 22 }) [.ref h] [(h, mO ad iv), (ad 0, iA G 57 r), (ad 2, iA G 57 ri)] G (KM G) 0 0 (fun rv w1 => rv = (if iv 4 = 0 then -3 else ri 2) ∧ w1 = [(h, mO ad iv), (ad 0, iA G 57 (if iv 4 = 0 then r else ri)), (ad 2, iA G 57 ri)]) := by
  -- rows printed by wip/tools/gen.py
  refine mw_mk RX4 (by decide) rfl (Nat.le_of_ble_eq_true rfl) ?_
  intro p0_ e0_ s m args below meth c A C hA hP hK hD ls hl
  have hx := C.1
  have hb := C.2.1
  have hml := C.2.2.2.2.1
  have hown := C.2.2.2.2.2.1
  have hts := C.2.2.2.2.2.2
  have hS : va_S A s.heap s.heap [] := va_S.rf
  have hl : lv_has ls 1 [(0, .ref h)] := hl
  refine lv_aload_n hx hb dX4_restore_0 rfl (lv_at hl 0 rfl) ?_
  refine va_get (D := gD G) (ci := 0) (v := .int (iv 4)) (C := RX4) (T := TX4) (N := 20) hx hb hts in_X4 hown hK hP 0 rfl rfl 4 (by decide) (hts _ q1077) (fun _ h9 => h9) rfl dX4_restore_1 ?_
  refine lv_if_ne (x := iv 4) (tgt := 10) hx hb dX4_restore_4 (by decide) (fun c_1 => ?_) (fun c_1 => ?_)
  · refine lv_aload_n hx hb dX4_restore_10 rfl (lv_at hl 0 rfl) ?_
    refine va_get (D := gD G) (ci := 0) (v := .ref (ad 2)) (C := RX4) (T := TX4) (N := 20) hx hb hts in_X4 hown hK hP 0 rfl rfl 2 (by decide) (hts _ q1075) (fun _ h9 => h9) rfl dX4_restore_11 ?_
    refine lv_aload_n hx hb dX4_restore_14 rfl (lv_at hl 0 rfl) ?_
    refine va_get (D := gD G) (ci := 0) (v := .ref (ad 0)) (C := RX4) (T := TX4) (N := 20) hx hb hts in_X4 hown hK hP 0 rfl rfl 0 (by decide) (hts _ q1073) (fun _ h9 => h9) rfl dX4_restore_15 ?_
    refine c_SWv (wr := [(h, mO ad iv)]) (rest := []) C (metX4_copies l G (ad 2) (ad 0) ri r) 2 (lw_S q1160 q1161 q42 q1162) (by decide +kernel) ⟨rfl, rfl⟩ ⟨(Nat.le_of_ble_eq_true rfl), (Nat.le_of_ble_eq_true rfl)⟩ (KM_mv G) hK hA hP hD hS [2, 1] [0] rfl rfl rfl rfl (by decide) hl rfl rfl (Nat.le_of_ble_eq_true rfl) ⟨(Nat.le_of_ble_eq_true rfl), (Nat.le_of_ble_eq_true rfl)⟩ dX4_restore_18 (fun w1 H locs hq_3 hP hD hS => ?_)
    obtain rfl := hq_3
    have hP : PP G [(h, mO ad iv), (ad 2, iA G 57 ri), (ad 0, iA G 57 ri)] H := hP
    have hD : va_D A [(h, mO ad iv), (ad 2, iA G 57 ri), (ad 0, iA G 57 ri)] := hD
    refine lv_aload_n hx hb dX4_restore_21 rfl (lv_at hl 0 rfl) ?_
    refine va_get (D := gD G) (ci := 0) (v := .ref (ad 0)) (C := RX4) (T := TX4) (N := 20) hx hb hts in_X4 hown hK hP 0 rfl rfl 0 (by decide) (hts _ q1073) (fun _ h9 => h9) rfl dX4_restore_22 ?_
    refine lv_iconst (v := 2) hx hb dX4_restore_25 (by decide) ?_
    refine n_iald C hK hP 2 2 rfl (by omega) (by omega) dX4_restore_26 ?_
    exact n_iretW (v := ri 2) (w1 := [(h, mO ad iv), (ad 0, iA G 57 ri), (ad 2, iA G 57 ri)]) C (⟨by simp [bI, c_1], by simp [bI, c_1]⟩) (hP.sub (ws' := [(h, mO ad iv), (ad 0, iA G 57 ri), (ad 2, iA G 57 ri)]) [0, 2, 1] rfl) (hD.sub (ws' := [(h, mO ad iv), (ad 0, iA G 57 ri), (ad 2, iA G 57 ri)]) [0, 2, 1] (by decide) rfl) hS (by first | omega | decide) (by first | omega | decide) dX4_restore_27
  · refine lv_bipush (v := (-3)) hx hb dX4_restore_7 (by decide) ?_
    exact n_iretW (v := (-3)) (w1 := [(h, mO ad iv), (ad 0, iA G 57 r), (ad 2, iA G 57 ri)]) C (⟨by simp [bI, c_1], by simp [bI, c_1]⟩) hP hD hS (by first | omega | decide) (by first | omega | decide) dX4_restore_9

set_option maxHeartbeats 4000000 in
set_option maxRecDepth 100000 in
theorem metX4_count (l : Launch) (G : GG) (h : Nat) (ad : Nat → Nat) (iv : Nat → Int32) (r : Nat → Int32) (N : Nat) (what : Int32) (hN : N ≤ 9) (hr : r 0 = nI N) : MR l yX4_count cX4_count 4 (some .int) ({ frames := 1, cells := 0, slots := 0, locals := 22 }) [.ref h, .int what] [(h, mO ad iv), (ad 0, iA G 57 r)] G (KM G) (sCountA r N what) := by
  -- rows printed by wip/tools/gen.py
  refine mr_mk RX4 (by decide) rfl (Nat.le_of_ble_eq_true rfl) ?_
  intro p0_ e0_ s m args below meth c C hP hK ls hl
  have hx := C.1
  have hb := C.2.1
  have hml := C.2.2.2.2.1
  have hown := C.2.2.2.2.2.1
  have hts := C.2.2.2.2.2.2
  have hl : lv_has ls 4 [(0, .ref h), (1, .int what)] := hl
  refine lv_iload_n hx hb dX4_count_0 rfl (lv_at hl 1 rfl) ?_
  refine lv_iconst (v := 0) hx hb dX4_count_1 (by decide) ?_
  refine lv_iconst (v := 2) hx hb dX4_count_2 (by decide) ?_
  refine c_S (rest := []) C (metX4_isIn l G what 0 2) 3 (lw_S q1145 q1146 q42 q1147) (by decide +kernel) ⟨rfl, rfl⟩ ⟨(Nat.le_of_ble_eq_true rfl), (Nat.le_of_ble_eq_true rfl)⟩ (KM_mv G) (hP.sub (ws' := []) [] rfl) hK hl rfl rfl (Nat.le_of_ble_eq_true rfl) ⟨(Nat.le_of_ble_eq_true rfl), (Nat.le_of_ble_eq_true rfl)⟩ dX4_count_3 ?_
  refine n_if_eqB (b := (sIn what 0 2)) (tgt := 16) hx hb dX4_count_6 (by decide) (fun c_1 => ?_) (fun c_1 => ?_)
  · refine lv_iload_n hx hb dX4_count_16 rfl (lv_at hl 1 rfl) ?_
    refine lv_iconst (v := 3) hx hb dX4_count_17 (by decide) ?_
    refine lv_bipush (v := 6) hx hb dX4_count_18 (by decide) ?_
    refine c_S (rest := []) C (metX4_isIn l G what 3 6) 3 (lw_S q1145 q1146 q42 q1147) (by decide +kernel) ⟨rfl, rfl⟩ ⟨(Nat.le_of_ble_eq_true rfl), (Nat.le_of_ble_eq_true rfl)⟩ (KM_mv G) (hP.sub (ws' := []) [] rfl) hK hl rfl rfl (Nat.le_of_ble_eq_true rfl) ⟨(Nat.le_of_ble_eq_true rfl), (Nat.le_of_ble_eq_true rfl)⟩ dX4_count_20 ?_
    refine n_if_neB (b := (sIn what 3 6)) (tgt := 28) hx hb dX4_count_23 (by decide) (fun c_2 => ?_) (fun c_2 => ?_)
    · obtain ⟨what_3, hwhat_3, gwhat_3, rfl⟩ := sIn_t (a := 3) (b := 6) (by omega) (by omega) c_2
      have twhat_3 : tn (nI what_3) = what_3 := nI_clamp (by omega)
      refine lv_iconst (v := 0) hx hb dX4_count_28 (by decide) ?_
      refine lv_istore_n (lv' := [(2, .int 0), (0, .ref h), (1, .int (nI what_3))]) hx hb dX4_count_29 rfl hl (Nat.le_of_ble_eq_true rfl) rfl (fun ls hl => ?_)
      refine lv_iconst (v := 0) hx hb dX4_count_30 (by decide) ?_
      refine lv_istore_n (lv' := [(3, .int 0), (2, .int 0), (0, .ref h), (1, .int (nI what_3))]) hx hb dX4_count_31 rfl hl (Nat.le_of_ble_eq_true rfl) rfl (fun ls hl => ?_)
      suffices hlp_4 : (∀ (n i : Nat), i + n = N → ∀ (ls : Array Slot), lv_has ls 4 [(3, .int (nI i)), (2, .int (cntS r (nI what_3) i)), (0, .ref h), (1, .int (nI what_3))] → W p0_ l e0_ ({ frames := 1, cells := 0, slots := 0, locals := 22 } : Room) s m args below meth c s.heap [] (0) (0) (MQ below (vp_Si (fun rr9 => rr9 = sCountA r N (nI what_3))) args s 0 0 (fun _ => False)) (F0 m 32 ls [])) by
        exact hlp_4 (N) 0 (by omega) ls (lv_sub hl [0, 1, 2, 3] rfl)
      have hend_4 : ∀ (ls : Array Slot), lv_has ls 4 [(3, .int (nI N)), (2, .int (cntS r (nI what_3) N)), (0, .ref h), (1, .int (nI what_3))] → W p0_ l e0_ ({ frames := 1, cells := 0, slots := 0, locals := 22 } : Room) s m args below meth c s.heap [] (0) (0) (MQ below (vp_Si (fun rr9 => rr9 = sCountA r N (nI what_3))) args s 0 0 (fun _ => False)) (F0 m 32 ls []) := by
        intro ls hl
        refine lv_iload_n hx hb dX4_count_32 rfl (lv_at hl 0 rfl) ?_
        refine lv_aload_n hx hb dX4_count_33 rfl (lv_at hl 2 rfl) ?_
        refine va_get (D := gD G) (ci := 0) (v := .ref (ad 0)) (C := RX4) (T := TX4) (N := 20) hx hb hts in_X4 hown hK hP 0 rfl rfl 0 (by decide) (hts _ q1073) (fun _ h9 => h9) rfl dX4_count_34 ?_
        refine lv_iconst (v := 0) hx hb dX4_count_37 (by decide) ?_
        refine n_iald C hK hP 1 0 rfl (by omega) (by omega) dX4_count_38 ?_
        refine n_eqi (hr) ?_
        refine n_ic_ge (x := N) (y := N) (tgt := 125) hx hb (by omega) (by omega) dX4_count_39 (by decide) (fun c_5 => ?_) (fun c_5 => absurd c_5 (by omega))
        refine lv_iload_n hx hb dX4_count_125 rfl (lv_at hl 1 rfl) ?_
        exact n_iret (v := cntS r (nI what_3) N) C (by simp [sCountA, c_1, c_2, twhat_3, c_5]) dX4_count_126
      intro n
      induction n with
      | zero =>
        intro i hi_4 ls hl
        obtain e_4 : i = N := by omega
        first | (subst e_4; exact hend_4 ls hl) | (rw [e_4] at hl; exact hend_4 ls hl)
      | succ n ih_4 =>
        intro i hi_4 ls hl
        refine lv_iload_n hx hb dX4_count_32 rfl (lv_at hl 0 rfl) ?_
        refine lv_aload_n hx hb dX4_count_33 rfl (lv_at hl 2 rfl) ?_
        refine va_get (D := gD G) (ci := 0) (v := .ref (ad 0)) (C := RX4) (T := TX4) (N := 20) hx hb hts in_X4 hown hK hP 0 rfl rfl 0 (by decide) (hts _ q1073) (fun _ h9 => h9) rfl dX4_count_34 ?_
        refine lv_iconst (v := 0) hx hb dX4_count_37 (by decide) ?_
        refine n_iald C hK hP 1 0 rfl (by omega) (by omega) dX4_count_38 ?_
        refine n_eqi (hr) ?_
        refine n_ic_ge (x := i) (y := N) (tgt := 125) hx hb (by omega) (by omega) dX4_count_39 (by decide) (fun c_6 => absurd c_6 (by omega)) (fun c_6 => ?_)
        refine lv_iload_n hx hb dX4_count_42 rfl (lv_at hl 1 rfl) ?_
        refine lv_iload_n hx hb dX4_count_43 rfl (lv_at hl 3 rfl) ?_
        refine lv_iconst (v := 3) hx hb dX4_count_44 (by decide) ?_
        refine n_ic_ne (x := what_3) (y := 3) (tgt := 61) hx hb (by omega) (by omega) dX4_count_45 (by decide) (fun c_7 => ?_) (fun c_7 => ?_)
        · have zc_7 : ¬ nI what_3 = 3 := fun q => c_7 ((nI_eq (by omega) (by omega)).mp q)
          refine lv_iload_n hx hb dX4_count_61 rfl (lv_at hl 3 rfl) ?_
          refine lv_iconst (v := 4) hx hb dX4_count_62 (by decide) ?_
          refine n_ic_ne (x := what_3) (y := 4) (tgt := 79) hx hb (by omega) (by omega) dX4_count_63 (by decide) (fun c_8 => ?_) (fun c_8 => ?_)
          · have zc_8 : ¬ nI what_3 = 4 := fun q => c_8 ((nI_eq (by omega) (by omega)).mp q)
            refine lv_iload_n hx hb dX4_count_79 rfl (lv_at hl 3 rfl) ?_
            refine lv_iconst (v := 5) hx hb dX4_count_80 (by decide) ?_
            refine n_ic_ne (x := what_3) (y := 5) (tgt := 97) hx hb (by omega) (by omega) dX4_count_81 (by decide) (fun c_9 => ?_) (fun c_9 => ?_)
            · have zc_9 : ¬ nI what_3 = 5 := fun q => c_9 ((nI_eq (by omega) (by omega)).mp q)
              refine lv_aload_n hx hb dX4_count_97 rfl (lv_at hl 2 rfl) ?_
              refine va_get (D := gD G) (ci := 0) (v := .ref (ad 0)) (C := RX4) (T := TX4) (N := 20) hx hb hts in_X4 hown hK hP 0 rfl rfl 0 (by decide) (hts _ q1073) (fun _ h9 => h9) rfl dX4_count_98 ?_
              refine lv_iload_n hx hb dX4_count_101 rfl (lv_at hl 0 rfl) ?_
              refine lv_iconst (v := 4) hx hb dX4_count_102 (by decide) ?_
              refine c_S (rest := [.ref (ad 0), .int (cntS r (nI what_3) i)]) C (metX4_of l G i 4) 2 (lw_S q1170 q1171 q42 q1172) (by decide +kernel) ⟨rfl, rfl⟩ ⟨(Nat.le_of_ble_eq_true rfl), (Nat.le_of_ble_eq_true rfl)⟩ (KM_mv G) (hP.sub (ws' := []) [] rfl) hK hl rfl rfl (Nat.le_of_ble_eq_true rfl) ⟨(Nat.le_of_ble_eq_true rfl), (Nat.le_of_ble_eq_true rfl)⟩ dX4_count_103 ?_
              refine n_iald C hK hP 1 (3 + 6 * i + 4) rfl (by omega) (by omega) dX4_count_106 ?_
              refine lv_if_ne (x := r (3 + 6 * i + 4)) (tgt := 116) hx hb dX4_count_107 (by decide) (fun c_10 => ?_) (fun c_10 => ?_)
              · refine lv_iconst (v := 0) hx hb dX4_count_116 (by decide) ?_
                refine lv_iadd (x := cntS r (nI what_3) i) (y := 0) hx hb dX4_count_117 ?_
                refine lv_istore_n (lv' := [(2, .int ((cntS r (nI what_3) i) + 0)), (3, .int (nI i)), (0, .ref h), (1, .int (nI what_3))]) hx hb dX4_count_118 rfl hl (Nat.le_of_ble_eq_true rfl) rfl (fun ls hl => ?_)
                refine n_iinc (k := 1) (lv' := [(3, .int (nI (i + 1))), (2, .int ((cntS r (nI what_3) i) + 0)), (0, .ref h), (1, .int (nI what_3))]) hx hb i 1 dX4_count_119 hl rfl (Nat.le_of_ble_eq_true rfl) rfl (fun ls hl => ?_)
                refine lv_goto (tgt := 32) hx hb dX4_count_122 (by decide) ?_
                have e_11 : cntS r (nI what_3) (i + 1) = (cntS r (nI what_3) i) + 0 := by simp [cntS, twhat_3, c_6, c_7, zc_7, c_8, zc_8, c_9, zc_9, c_10]
                exact ih_4 (i + 1) (by omega) ls (by rw [e_11]; exact lv_sub hl [0, 1, 2, 3] rfl)
              · refine lv_iconst (v := 1) hx hb dX4_count_110 (by decide) ?_
                refine lv_iload_n hx hb dX4_count_111 rfl (lv_at hl 0 rfl) ?_
                refine lv_ishl (x := 1) (y := nI i) hx hb dX4_count_112 ?_
                refine lv_goto (tgt := 117) hx hb dX4_count_113 (by decide) ?_
                refine lv_iadd (x := cntS r (nI what_3) i) (y := 1 <<< ((nI i) &&& 31)) hx hb dX4_count_117 ?_
                refine lv_istore_n (lv' := [(2, .int ((cntS r (nI what_3) i) + (1 <<< ((nI i) &&& 31)))), (3, .int (nI i)), (0, .ref h), (1, .int (nI what_3))]) hx hb dX4_count_118 rfl hl (Nat.le_of_ble_eq_true rfl) rfl (fun ls hl => ?_)
                refine n_iinc (k := 1) (lv' := [(3, .int (nI (i + 1))), (2, .int ((cntS r (nI what_3) i) + (1 <<< ((nI i) &&& 31)))), (0, .ref h), (1, .int (nI what_3))]) hx hb i 1 dX4_count_119 hl rfl (Nat.le_of_ble_eq_true rfl) rfl (fun ls hl => ?_)
                refine lv_goto (tgt := 32) hx hb dX4_count_122 (by decide) ?_
                have e_12 : cntS r (nI what_3) (i + 1) = (cntS r (nI what_3) i) + (1 <<< ((nI i) &&& 31)) := by simp [cntS, twhat_3, c_6, c_7, zc_7, c_8, zc_8, c_9, zc_9, c_10]
                exact ih_4 (i + 1) (by omega) ls (by rw [e_12]; exact lv_sub hl [0, 1, 2, 3] rfl)
            · obtain rfl := c_9
              have zc_9 : (nI 5 = 5) = True := eq_true rfl
              refine lv_aload_n hx hb dX4_count_84 rfl (lv_at hl 2 rfl) ?_
              refine va_get (D := gD G) (ci := 0) (v := .ref (ad 0)) (C := RX4) (T := TX4) (N := 20) hx hb hts in_X4 hown hK hP 0 rfl rfl 0 (by decide) (hts _ q1073) (fun _ h9 => h9) rfl dX4_count_85 ?_
              refine lv_iload_n hx hb dX4_count_88 rfl (lv_at hl 0 rfl) ?_
              refine lv_iconst (v := 4) hx hb dX4_count_89 (by decide) ?_
              refine c_S (rest := [.ref (ad 0), .int (cntS r (nI 5) i)]) C (metX4_of l G i 4) 2 (lw_S q1170 q1171 q42 q1172) (by decide +kernel) ⟨rfl, rfl⟩ ⟨(Nat.le_of_ble_eq_true rfl), (Nat.le_of_ble_eq_true rfl)⟩ (KM_mv G) (hP.sub (ws' := []) [] rfl) hK hl rfl rfl (Nat.le_of_ble_eq_true rfl) ⟨(Nat.le_of_ble_eq_true rfl), (Nat.le_of_ble_eq_true rfl)⟩ dX4_count_90 ?_
              refine n_iald C hK hP 1 (3 + 6 * i + 4) rfl (by omega) (by omega) dX4_count_93 ?_
              refine lv_goto (tgt := 117) hx hb dX4_count_94 (by decide) ?_
              refine lv_iadd (x := cntS r (nI 5) i) (y := r (3 + 6 * i + 4)) hx hb dX4_count_117 ?_
              refine lv_istore_n (lv' := [(2, .int ((cntS r (nI 5) i) + (r (3 + 6 * i + 4)))), (3, .int (nI i)), (0, .ref h), (1, .int (nI 5))]) hx hb dX4_count_118 rfl hl (Nat.le_of_ble_eq_true rfl) rfl (fun ls hl => ?_)
              refine n_iinc (k := 1) (lv' := [(3, .int (nI (i + 1))), (2, .int ((cntS r (nI 5) i) + (r (3 + 6 * i + 4)))), (0, .ref h), (1, .int (nI 5))]) hx hb i 1 dX4_count_119 hl rfl (Nat.le_of_ble_eq_true rfl) rfl (fun ls hl => ?_)
              refine lv_goto (tgt := 32) hx hb dX4_count_122 (by decide) ?_
              have e_13 : cntS r (nI 5) (i + 1) = (cntS r (nI 5) i) + (r (3 + 6 * i + 4)) := by simp [cntS, twhat_3, c_6, c_7, zc_7, c_8, zc_8, zc_9]
              exact ih_4 (i + 1) (by omega) ls (by rw [e_13]; exact lv_sub hl [0, 1, 2, 3] rfl)
          · obtain rfl := c_8
            have zc_8 : (nI 4 = 4) = True := eq_true rfl
            refine lv_aload_n hx hb dX4_count_66 rfl (lv_at hl 2 rfl) ?_
            refine va_get (D := gD G) (ci := 0) (v := .ref (ad 0)) (C := RX4) (T := TX4) (N := 20) hx hb hts in_X4 hown hK hP 0 rfl rfl 0 (by decide) (hts _ q1073) (fun _ h9 => h9) rfl dX4_count_67 ?_
            refine lv_iload_n hx hb dX4_count_70 rfl (lv_at hl 0 rfl) ?_
            refine lv_iconst (v := 3) hx hb dX4_count_71 (by decide) ?_
            refine c_S (rest := [.ref (ad 0), .int (cntS r (nI 4) i)]) C (metX4_of l G i 3) 2 (lw_S q1170 q1171 q42 q1172) (by decide +kernel) ⟨rfl, rfl⟩ ⟨(Nat.le_of_ble_eq_true rfl), (Nat.le_of_ble_eq_true rfl)⟩ (KM_mv G) (hP.sub (ws' := []) [] rfl) hK hl rfl rfl (Nat.le_of_ble_eq_true rfl) ⟨(Nat.le_of_ble_eq_true rfl), (Nat.le_of_ble_eq_true rfl)⟩ dX4_count_72 ?_
            refine n_iald C hK hP 1 (3 + 6 * i + 3) rfl (by omega) (by omega) dX4_count_75 ?_
            refine lv_goto (tgt := 117) hx hb dX4_count_76 (by decide) ?_
            refine lv_iadd (x := cntS r (nI 4) i) (y := r (3 + 6 * i + 3)) hx hb dX4_count_117 ?_
            refine lv_istore_n (lv' := [(2, .int ((cntS r (nI 4) i) + (r (3 + 6 * i + 3)))), (3, .int (nI i)), (0, .ref h), (1, .int (nI 4))]) hx hb dX4_count_118 rfl hl (Nat.le_of_ble_eq_true rfl) rfl (fun ls hl => ?_)
            refine n_iinc (k := 1) (lv' := [(3, .int (nI (i + 1))), (2, .int ((cntS r (nI 4) i) + (r (3 + 6 * i + 3)))), (0, .ref h), (1, .int (nI 4))]) hx hb i 1 dX4_count_119 hl rfl (Nat.le_of_ble_eq_true rfl) rfl (fun ls hl => ?_)
            refine lv_goto (tgt := 32) hx hb dX4_count_122 (by decide) ?_
            have e_14 : cntS r (nI 4) (i + 1) = (cntS r (nI 4) i) + (r (3 + 6 * i + 3)) := by simp [cntS, twhat_3, c_6, c_7, zc_7, zc_8]
            exact ih_4 (i + 1) (by omega) ls (by rw [e_14]; exact lv_sub hl [0, 1, 2, 3] rfl)
        · obtain rfl := c_7
          have zc_7 : (nI 3 = 3) = True := eq_true rfl
          refine lv_aload_n hx hb dX4_count_48 rfl (lv_at hl 2 rfl) ?_
          refine va_get (D := gD G) (ci := 0) (v := .ref (ad 0)) (C := RX4) (T := TX4) (N := 20) hx hb hts in_X4 hown hK hP 0 rfl rfl 0 (by decide) (hts _ q1073) (fun _ h9 => h9) rfl dX4_count_49 ?_
          refine lv_iload_n hx hb dX4_count_52 rfl (lv_at hl 0 rfl) ?_
          refine lv_iconst (v := 2) hx hb dX4_count_53 (by decide) ?_
          refine c_S (rest := [.ref (ad 0), .int (cntS r (nI 3) i)]) C (metX4_of l G i 2) 2 (lw_S q1170 q1171 q42 q1172) (by decide +kernel) ⟨rfl, rfl⟩ ⟨(Nat.le_of_ble_eq_true rfl), (Nat.le_of_ble_eq_true rfl)⟩ (KM_mv G) (hP.sub (ws' := []) [] rfl) hK hl rfl rfl (Nat.le_of_ble_eq_true rfl) ⟨(Nat.le_of_ble_eq_true rfl), (Nat.le_of_ble_eq_true rfl)⟩ dX4_count_54 ?_
          refine n_iald C hK hP 1 (3 + 6 * i + 2) rfl (by omega) (by omega) dX4_count_57 ?_
          refine lv_goto (tgt := 117) hx hb dX4_count_58 (by decide) ?_
          refine lv_iadd (x := cntS r (nI 3) i) (y := r (3 + 6 * i + 2)) hx hb dX4_count_117 ?_
          refine lv_istore_n (lv' := [(2, .int ((cntS r (nI 3) i) + (r (3 + 6 * i + 2)))), (3, .int (nI i)), (0, .ref h), (1, .int (nI 3))]) hx hb dX4_count_118 rfl hl (Nat.le_of_ble_eq_true rfl) rfl (fun ls hl => ?_)
          refine n_iinc (k := 1) (lv' := [(3, .int (nI (i + 1))), (2, .int ((cntS r (nI 3) i) + (r (3 + 6 * i + 2)))), (0, .ref h), (1, .int (nI 3))]) hx hb i 1 dX4_count_119 hl rfl (Nat.le_of_ble_eq_true rfl) rfl (fun ls hl => ?_)
          refine lv_goto (tgt := 32) hx hb dX4_count_122 (by decide) ?_
          have e_15 : cntS r (nI 3) (i + 1) = (cntS r (nI 3) i) + (r (3 + 6 * i + 2)) := by simp [cntS, twhat_3, c_6, zc_7]
          exact ih_4 (i + 1) (by omega) ls (by rw [e_15]; exact lv_sub hl [0, 1, 2, 3] rfl)
    · refine lv_iconst (v := (-1)) hx hb dX4_count_26 (by decide) ?_
      exact n_iret (v := (-1)) C (by simp [sCountA, c_1, c_2]) dX4_count_27
  · obtain ⟨what_16, hwhat_16, gwhat_16, rfl⟩ := sIn_t (a := 0) (b := 2) (by omega) (by omega) c_1
    have twhat_16 : tn (nI what_16) = what_16 := nI_clamp (by omega)
    refine lv_aload_n hx hb dX4_count_9 rfl (lv_at hl 0 rfl) ?_
    refine va_get (D := gD G) (ci := 0) (v := .ref (ad 0)) (C := RX4) (T := TX4) (N := 20) hx hb hts in_X4 hown hK hP 0 rfl rfl 0 (by decide) (hts _ q1073) (fun _ h9 => h9) rfl dX4_count_10 ?_
    refine lv_iload_n hx hb dX4_count_13 rfl (lv_at hl 1 rfl) ?_
    refine n_iald C hK hP 1 what_16 rfl (by omega) (by omega) dX4_count_14 ?_
    exact n_iret (v := r what_16) C (by simp [sCountA, c_1, twhat_16]) dX4_count_15
