set_option maxHeartbeats 4000000 in
set_option maxRecDepth 100000 in
theorem metX4_gcd (l : Launch) (G : GG) (u v : Nat) (hu : u < 2 ^ 62) (hv : v < 2 ^ 62) : MRl l yX4_gcd cX4_gcd 10 (some .long) ({ frames := 0, cells := 0, slots := 0, locals := 0 }) [.long (lN u), .long (lN v)] [] G (KM G) (lN (Nat.gcd u v)) := by
  -- rows printed by wip/tools/gen.py
  refine mrl_mk RX4 (by decide) rfl (Nat.le_of_ble_eq_true rfl) ?_
  intro p0_ e0_ s m args below meth c C hP hK ls hl
  have hx := C.1
  have hb := C.2.1
  have hml := C.2.2.2.2.1
  have hown := C.2.2.2.2.2.1
  have hts := C.2.2.2.2.2.2
  have hl : lv_has ls 10 [(0, .long (lN u)), (2, .long (lN v))] := hl
  refine lv_lload_n hx hb dX4_gcd_0 rfl (lv_at hl 0 rfl) ?_
  refine lv_lstore (lv' := [(4, .long (lN u)), (0, .long (lN u)), (2, .long (lN v))]) hx hb dX4_gcd_1 hl (Nat.le_of_ble_eq_true rfl) rfl (fun ls hl => ?_)
  refine lv_lload_n hx hb dX4_gcd_3 rfl (lv_at hl 2 rfl) ?_
  refine lv_lstore (lv' := [(6, .long (lN v)), (4, .long (lN u)), (0, .long (lN u)), (2, .long (lN v))]) hx hb dX4_gcd_4 hl (Nat.le_of_ble_eq_true rfl) rfl (fun ls hl => ?_)
  suffices hlp_1 : ∀ (n : Nat) (a b : Nat), b < n → (Nat.gcd u v = Nat.gcd a b) → (a < 2 ^ 62) → (b < 2 ^ 62) → ∀ (ls : Array Slot), lv_has ls 10 [(6, .long (lN b)), (4, .long (lN a)), (0, .long (lN u)), (2, .long (lN v))] → W p0_ l e0_ ({ frames := 0, cells := 0, slots := 0, locals := 0 } : Room) s m args below meth c s.heap [] (0) (0) (MQ below (vp_Sl (fun rr9 => rr9 = lN (Nat.gcd u v))) args s 0 0 (fun _ => False)) (F0 m 6 ls []) by
    exact hlp_1 (v + 1) u v (Nat.lt_succ_self _) (rfl) (hu) (hv) ls (lv_sub hl [0, 1, 2, 3] rfl)
  intro n
  induction n with
  | zero => intro a b hmu_1 hgc ha9 hb9 ls hl; exact absurd hmu_1 (Nat.not_lt_zero _)
  | succ n ih_1 =>
    intro a b hmu_1 hgc ha9 hb9 ls hl
    refine lv_lload hx hb dX4_gcd_6 (lv_at hl 0 rfl) ?_
    refine lv_lconst (v := lN 0) hx hb dX4_gcd_8 (by decide) ?_
    refine W.lcmp (x := lN b) (y := lN 0) hx hb dX4_gcd_9 ?_
    refine n_lg_eq (x := b) (y := 0) (tgt := 31) hx hb (by omega) (by omega) dX4_gcd_10 (by decide) (fun c_2 => ?_) (fun c_2 => ?_)
    · refine lv_lload hx hb dX4_gcd_31 (lv_at hl 1 rfl) ?_
      exact n_lret (v := lN a) C (by rw [hgc]; congr 1; simp [c_2]) dX4_gcd_33
    · refine lv_lload hx hb dX4_gcd_13 (lv_at hl 1 rfl) ?_
      refine lv_lload hx hb dX4_gcd_15 (lv_at hl 0 rfl) ?_
      refine n_lrem hx hb a b (by omega) (by omega) (by omega) dX4_gcd_17 ?_
      refine lv_lstore (lv' := [(8, .long (lN (a % b))), (6, .long (lN b)), (4, .long (lN a)), (0, .long (lN u)), (2, .long (lN v))]) hx hb dX4_gcd_18 hl (Nat.le_of_ble_eq_true rfl) rfl (fun ls hl => ?_)
      refine lv_lload hx hb dX4_gcd_20 (lv_at hl 1 rfl) ?_
      refine lv_lstore (lv' := [(4, .long (lN b)), (8, .long (lN (a % b))), (6, .long (lN b)), (0, .long (lN u)), (2, .long (lN v))]) hx hb dX4_gcd_22 hl (Nat.le_of_ble_eq_true rfl) rfl (fun ls hl => ?_)
      refine lv_lload hx hb dX4_gcd_24 (lv_at hl 1 rfl) ?_
      refine lv_lstore (lv' := [(6, .long (lN (a % b))), (4, .long (lN b)), (8, .long (lN (a % b))), (0, .long (lN u)), (2, .long (lN v))]) hx hb dX4_gcd_26 hl (Nat.le_of_ble_eq_true rfl) rfl (fun ls hl => ?_)
      refine lv_goto (tgt := 6) hx hb dX4_gcd_28 (by decide) ?_
      exact ih_1 b (a % b) (by have := Nat.mod_lt a (show b > 0 by omega); omega) (by rw [hgc, Nat.gcd_comm a b, Nat.gcd_rec b a, Nat.gcd_comm]) (by omega) (by have := Nat.mod_lt a (show b > 0 by omega); omega) ls (lv_sub hl [0, 1, 3, 4] rfl)

set_option maxHeartbeats 4000000 in
set_option maxRecDepth 100000 in
theorem metX4_partOf (l : Launch) (G : GG) (u v p : Nat) (hu : u < 2 ^ 62) (hv : v < 2 ^ 62) (hp1 : p < 2 ^ 31) (huv : u = 0 ∨ 0 < v) : MRl l yX4_partOf cX4_partOf 5 (some .long) ({ frames := 1, cells := 0, slots := 0, locals := 29 }) [.long (lN u), .long (lN v), .int (nI p)] [] G (KM G) (lN (sPOf u v p)) := by
  -- rows printed by wip/tools/gen.py
  refine mrl_mk RX4 (by decide) rfl (Nat.le_of_ble_eq_true rfl) ?_
  intro p0_ e0_ s m args below meth c C hP hK ls hl
  have hx := C.1
  have hb := C.2.1
  have hml := C.2.2.2.2.1
  have hown := C.2.2.2.2.2.1
  have hts := C.2.2.2.2.2.2
  have hl : lv_has ls 5 [(0, .long (lN u)), (2, .long (lN v)), (4, .int (nI p))] := hl
  refine lv_lload_n hx hb dX4_partOf_0 rfl (lv_at hl 0 rfl) ?_
  refine lv_lconst (v := lN 0) hx hb dX4_partOf_1 (by decide) ?_
  refine W.lcmp (x := lN u) (y := lN 0) hx hb dX4_partOf_2 ?_
  refine n_lg_ne (x := u) (y := 0) (tgt := 10) hx hb (by omega) (by omega) dX4_partOf_3 (by decide) (fun c_1 => ?_) (fun c_1 => ?_)
  · have g9 : 0 < Nat.gcd u v := Nat.gcd_pos_of_pos_left v (by omega)
    have g8 : Nat.gcd u v ≤ u := Nat.gcd_le_left v (by omega)
    refine lv_iload hx hb dX4_partOf_10 (lv_at hl 2 rfl) ?_
    refine n_if_ne (x := p) (tgt := 19) hx hb (by omega) dX4_partOf_12 (by decide) (fun c_2 => ?_) (fun c_2 => ?_)
    · have zc_2 : ¬ nI p = 0 := nI_ne0 c_2 (by omega)
      have yc_2 : ¬ p = 0 := Nat.ne_of_gt c_2
      refine lv_lload_n hx hb dX4_partOf_19 rfl (lv_at hl 1 rfl) ?_
      refine lv_lload_n hx hb dX4_partOf_20 rfl (lv_at hl 0 rfl) ?_
      refine lv_lload_n hx hb dX4_partOf_21 rfl (lv_at hl 1 rfl) ?_
      refine c_Sl (rest := [.long (lN v)]) C (metX4_gcd l G u v (by omega) (by omega)) 2 (lw_S q1350 q1351 q42 q1352) (by decide +kernel) ⟨rfl, rfl⟩ ⟨(Nat.le_of_ble_eq_true rfl), (Nat.le_of_ble_eq_true rfl)⟩ (KM_mv G) hP hK hl rfl rfl (Nat.le_of_ble_eq_true rfl) ⟨(Nat.le_of_ble_eq_true rfl), (Nat.le_of_ble_eq_true rfl)⟩ dX4_partOf_22 ?_
      refine n_ldiv hx hb v (Nat.gcd u v) (by omega) (by omega) (by omega) dX4_partOf_25 ?_
      exact n_lret (v := lN (v / (Nat.gcd u v))) C (by simp [sPOf, c_1, c_2, yc_2, zc_2]) dX4_partOf_26
    · obtain rfl := c_2
      have zc_2 : (nI 0 = 0) = True := eq_true rfl
      refine lv_lload_n hx hb dX4_partOf_15 rfl (lv_at hl 0 rfl) ?_
      refine lv_goto (tgt := 20) hx hb dX4_partOf_16 (by decide) ?_
      refine lv_lload_n hx hb dX4_partOf_20 rfl (lv_at hl 0 rfl) ?_
      refine lv_lload_n hx hb dX4_partOf_21 rfl (lv_at hl 1 rfl) ?_
      refine c_Sl (rest := [.long (lN u)]) C (metX4_gcd l G u v (by omega) (by omega)) 2 (lw_S q1350 q1351 q42 q1352) (by decide +kernel) ⟨rfl, rfl⟩ ⟨(Nat.le_of_ble_eq_true rfl), (Nat.le_of_ble_eq_true rfl)⟩ (KM_mv G) hP hK hl rfl rfl (Nat.le_of_ble_eq_true rfl) ⟨(Nat.le_of_ble_eq_true rfl), (Nat.le_of_ble_eq_true rfl)⟩ dX4_partOf_22 ?_
      refine n_ldiv hx hb u (Nat.gcd u v) (by omega) (by omega) (by omega) dX4_partOf_25 ?_
      exact n_lret (v := lN (u / (Nat.gcd u v))) C (by simp [sPOf, c_1, zc_2]) dX4_partOf_26
  · refine lv_iload hx hb dX4_partOf_6 (lv_at hl 2 rfl) ?_
    refine n_i2l hx hb p (by omega) dX4_partOf_8 ?_
    exact n_lret (v := lN p) C (by simp [sPOf, c_1]) dX4_partOf_9

set_option maxHeartbeats 4000000 in
set_option maxRecDepth 100000 in
theorem metX4_mean (l : Launch) (G : GG) (h : Nat) (ad : Nat → Nat) (iv : Nat → Int32) (r : Nat → Int32) (N : Nat) (hs : Nat) (p : Int32) (hN : N ≤ 9) (hr : r 0 = nI N) (hs1 : sHun r N = nI hs) (hs2 : hs < 2 ^ 20) (hs3 : hs = 0 ∨ 0 < N) : MRl l yX4_mean cX4_mean 2 (some .long) ({ frames := 2, cells := 0, slots := 0, locals := 53 }) [.ref h, .int p] [(h, mO ad iv), (ad 0, iA G 57 r)] G (KM G) (sMeanA hs N p) := by
  -- rows printed by wip/tools/gen.py
  refine mrl_mk RX4 (by decide) rfl (Nat.le_of_ble_eq_true rfl) ?_
  intro p0_ e0_ s m args below meth c C hP hK ls hl
  have hx := C.1
  have hb := C.2.1
  have hml := C.2.2.2.2.1
  have hown := C.2.2.2.2.2.1
  have hts := C.2.2.2.2.2.2
  have hl : lv_has ls 2 [(0, .ref h), (1, .int p)] := hl
  refine lv_iload_n hx hb dX4_mean_0 rfl (lv_at hl 1 rfl) ?_
  refine lv_iconst (v := 0) hx hb dX4_mean_1 (by decide) ?_
  refine lv_iconst (v := 1) hx hb dX4_mean_2 (by decide) ?_
  refine c_S (rest := []) C (metX4_isIn l G p 0 1) 3 (lw_S q1145 q1146 q42 q1147) (by decide +kernel) ⟨rfl, rfl⟩ ⟨(Nat.le_of_ble_eq_true rfl), (Nat.le_of_ble_eq_true rfl)⟩ (KM_mv G) (hP.sub (ws' := []) [] rfl) hK hl rfl rfl (Nat.le_of_ble_eq_true rfl) ⟨(Nat.le_of_ble_eq_true rfl), (Nat.le_of_ble_eq_true rfl)⟩ dX4_mean_3 ?_
  refine n_if_eqB (b := (sIn p 0 1)) (tgt := 28) hx hb dX4_mean_6 (by decide) (fun c_1 => ?_) (fun c_1 => ?_)
  · refine lv_ldc2 (own := RX4) (v := 1000000001) hx hb hown (hts _ q1346) dX4_mean_28 ?_
    exact n_lret (v := 1000000001) C (by simp [sMeanA, c_1]) dX4_mean_31
  · obtain ⟨p_2, hp_2, gp_2, rfl⟩ := sIn_t (a := 0) (b := 1) (by omega) (by omega) c_1
    have tp_2 : tn (nI p_2) = p_2 := nI_clamp (by omega)
    refine lv_aload_n hx hb dX4_mean_9 rfl (lv_at hl 0 rfl) ?_
    refine c_V (rest := []) C (metX4_hungerAll l G h ad iv r N (by omega) (hr)) 0 (lw_V q1338 q1340 qs36 q42 q1341) (by decide +kernel) ⟨rfl, rfl⟩ ⟨(Nat.le_of_ble_eq_true rfl), (Nat.le_of_ble_eq_true rfl)⟩ (KM_mv G) (va_recv hK hP (ci := 0) (q0 := 0) rfl rfl) hP hK hl rfl rfl (Nat.le_of_ble_eq_true rfl) ⟨(Nat.le_of_ble_eq_true rfl), (Nat.le_of_ble_eq_true rfl)⟩ dX4_mean_10 ?_
    refine n_eqi (hs1) ?_
    refine n_i2l hx hb hs (by omega) dX4_mean_13 ?_
    refine lv_aload_n hx hb dX4_mean_14 rfl (lv_at hl 0 rfl) ?_
    refine va_get (D := gD G) (ci := 0) (v := .ref (ad 0)) (C := RX4) (T := TX4) (N := 20) hx hb hts in_X4 hown hK hP 0 rfl rfl 0 (by decide) (hts _ q1073) (fun _ h9 => h9) rfl dX4_mean_15 ?_
    refine lv_iconst (v := 0) hx hb dX4_mean_18 (by decide) ?_
    refine n_iald C hK hP 1 0 rfl (by omega) (by omega) dX4_mean_19 ?_
    refine n_eqi (hr) ?_
    refine n_i2l hx hb N (by omega) dX4_mean_20 ?_
    refine lv_iload_n hx hb dX4_mean_21 rfl (lv_at hl 1 rfl) ?_
    refine c_Sl (rest := []) C (metX4_partOf l G hs N p_2 (by omega) (by omega) (by omega) (by omega)) 3 (lw_S q1347 q1348 q42 q1349) (by decide +kernel) ⟨rfl, rfl⟩ ⟨(Nat.le_of_ble_eq_true rfl), (Nat.le_of_ble_eq_true rfl)⟩ (KM_mv G) (hP.sub (ws' := []) [] rfl) hK hl rfl rfl (Nat.le_of_ble_eq_true rfl) ⟨(Nat.le_of_ble_eq_true rfl), (Nat.le_of_ble_eq_true rfl)⟩ dX4_mean_22 ?_
    refine lv_goto (tgt := 31) hx hb dX4_mean_25 (by decide) ?_
    exact n_lret (v := lN (sPOf hs N p_2)) C (by simp [sMeanA, c_1, tp_2]) dX4_mean_31

set_option maxHeartbeats 4000000 in
set_option maxRecDepth 100000 in
theorem metX4_wrongPairs (l : Launch) (G : GG) (h : Nat) (ad : Nat → Nat) (iv : Nat → Int32) (r : Nat → Int32) (N : Nat) (ke so el : Nat → Int32) (zz : Nat → Nat) (d : Int32) (hN : N ≤ 9) (hr : r 0 = nI N) (hz : ∀ d, zz d ≤ 100) : MR l yX4_wrongPairs cX4_wrongPairs 7 (some .int) ({ frames := 3, cells := 0, slots := 0, locals := 64 }) [.ref h, .int d] [(h, mO ad iv), (ad 0, iA G 57 r), (ad 13, iA G 8 ke), (ad 16, iA G 8 so), (ad 17, iA G 8 (nIf zz)), (ad 18, iA G 800 el)] G (KM G) (sWPA r N ke so zz el d) := by
  -- rows printed by wip/tools/gen.py
  refine mr_mk RX4 (by decide) rfl (Nat.le_of_ble_eq_true rfl) ?_
  intro p0_ e0_ s m args below meth c C hP hK ls hl
  have hx := C.1
  have hb := C.2.1
  have hml := C.2.2.2.2.1
  have hown := C.2.2.2.2.2.1
  have hts := C.2.2.2.2.2.2
  have hl : lv_has ls 7 [(0, .ref h), (1, .int d)] := hl
  refine lv_aload_n hx hb dX4_wrongPairs_0 rfl (lv_at hl 0 rfl) ?_
  refine lv_iload_n hx hb dX4_wrongPairs_1 rfl (lv_at hl 1 rfl) ?_
  refine lv_iconst (v := (-1)) hx hb dX4_wrongPairs_2 (by decide) ?_
  refine c_V (rest := []) C (metX4_wrongRow l G h ad iv ke so d (-1)) 2 (lw_V q1138 q1140 qs23 q42 q1141) (by decide +kernel) ⟨rfl, rfl⟩ ⟨(Nat.le_of_ble_eq_true rfl), (Nat.le_of_ble_eq_true rfl)⟩ (KM_mv G) (va_recv hK hP (ci := 0) (q0 := 0) rfl rfl) (hP.sub (ws' := [(h, mO ad iv), (ad 13, iA G 8 ke), (ad 16, iA G 8 so)]) [0, 2, 3] rfl) hK hl rfl rfl (Nat.le_of_ble_eq_true rfl) ⟨(Nat.le_of_ble_eq_true rfl), (Nat.le_of_ble_eq_true rfl)⟩ dX4_wrongPairs_3 ?_
  refine lv_istore_n (lv' := [(2, .int (sWR ke so d (-1))), (0, .ref h), (1, .int d)]) hx hb dX4_wrongPairs_6 rfl hl (Nat.le_of_ble_eq_true rfl) rfl (fun ls hl => ?_)
  refine lv_iload_n hx hb dX4_wrongPairs_7 rfl (lv_at hl 0 rfl) ?_
  refine lv_if_eq (x := sWR ke so d (-1)) (tgt := 13) hx hb dX4_wrongPairs_8 (by decide) (fun c_1 => ?_) (fun c_1 => ?_)
  · obtain ⟨dn, gd, k1, k2, rfl⟩ := sWR_0 c_1
    have t_dn : tn (nI dn) = dn := nI_clamp (by omega)
    refine lv_aload_n hx hb dX4_wrongPairs_13 rfl (lv_at hl 1 rfl) ?_
    refine va_get (D := gD G) (ci := 0) (v := .ref (ad 17)) (C := RX4) (T := TX4) (N := 20) hx hb hts in_X4 hown hK hP 0 rfl rfl 17 (by decide) (hts _ q1090) (fun _ h9 => h9) rfl dX4_wrongPairs_14 ?_
    refine lv_iload_n hx hb dX4_wrongPairs_17 rfl (lv_at hl 2 rfl) ?_
    refine n_iald C hK hP 4 dn rfl (by omega) (by omega) dX4_wrongPairs_18 ?_
    have hz_2 := hz dn
    refine lv_istore_n (lv' := [(3, .int (nI (zz dn))), (2, .int (sWR ke so (nI dn) (-1))), (0, .ref h), (1, .int (nI dn))]) hx hb dX4_wrongPairs_19 rfl hl (Nat.le_of_ble_eq_true rfl) rfl (fun ls hl => ?_)
    refine lv_iload_n hx hb dX4_wrongPairs_20 rfl (lv_at hl 0 rfl) ?_
    refine lv_iconst (v := 2) hx hb dX4_wrongPairs_21 (by decide) ?_
    refine n_irem hx hb (zz dn) 2 (by omega) (by omega) (by omega) dX4_wrongPairs_22 ?_
    refine lv_iconst (v := 1) hx hb dX4_wrongPairs_23 (by decide) ?_
    refine n_ic_eq (x := (zz dn) % 2) (y := 1) (tgt := 33) hx hb (by omega) (by omega) dX4_wrongPairs_24 (by decide) (fun c_3 => ?_) (fun c_3 => ?_)
    · have zc_3 : nI ((zz dn) % 2) = 1 := congrArg nI c_3
      refine lv_bipush (v := (-13)) hx hb dX4_wrongPairs_33 (by decide) ?_
      exact n_iret (v := (-13)) C (by first | (simp [sWPA, c_1, t_dn, k1, k2, c_3, zc_3]; done) | (have hno : wpA N el (100 * dn) (zz dn) = false := wpA_no (j := i + 1) e7 (by simp [wpA, ha, bitX, c_1, t_dn, k1, k2, c_3, zc_3]); simp [sWPA, c_1, t_dn, k1, k2, c_3, zc_3, hno]; done) | (have hno : wpB r el (100 * dn) (zz dn / 2) = false := wpB_no (j := i + 1) e7 (by simp [wpB, hbb, c_1, t_dn, k1, k2, c_3, zc_3, qx1, qx2, tx1, tx2]); simp [sWPA, c_1, t_dn, k1, k2, c_3, zc_3, ha, hno]; done) | (simp [sWPA, c_1, t_dn, k1, k2, c_3, zc_3, ha, hbb]; done)) dX4_wrongPairs_35
    · have zc_3 : ¬ nI ((zz dn) % 2) = 1 := fun q => c_3 ((nI_eq (by omega) (by omega)).mp q)
      refine lv_iload_n hx hb dX4_wrongPairs_27 rfl (lv_at hl 0 rfl) ?_
      refine lv_bipush (v := 8) hx hb dX4_wrongPairs_28 (by decide) ?_
      refine n_ic_le (x := zz dn) (y := 8) (tgt := 36) hx hb (by omega) (by omega) dX4_wrongPairs_30 (by decide) (fun c_4 => ?_) (fun c_4 => ?_)
      · have zc_4 : ¬ 8 < zz dn := Nat.not_lt.mpr c_4
        refine lv_iconst (v := 0) hx hb dX4_wrongPairs_36 (by decide) ?_
        refine lv_istore (lv' := [(4, .int 0), (3, .int (nI (zz dn))), (2, .int (sWR ke so (nI dn) (-1))), (0, .ref h), (1, .int (nI dn))]) hx hb dX4_wrongPairs_37 hl (Nat.le_of_ble_eq_true rfl) rfl (fun ls hl => ?_)
        refine lv_iconst (v := 0) hx hb dX4_wrongPairs_39 (by decide) ?_
        refine lv_istore (lv' := [(5, .int 0), (4, .int 0), (3, .int (nI (zz dn))), (2, .int (sWR ke so (nI dn) (-1))), (0, .ref h), (1, .int (nI dn))]) hx hb dX4_wrongPairs_40 hl (Nat.le_of_ble_eq_true rfl) rfl (fun ls hl => ?_)
        suffices hlp_5 : (∀ (n i : Nat), i + n = zz dn → (wpA N el (100 * dn) i = true) → ∀ (ls : Array Slot), lv_has ls 7 [(5, .int (nI i)), (4, .int (wpSeen el (100 * dn) i)), (3, .int (nI (zz dn))), (2, .int (sWR ke so (nI dn) (-1))), (0, .ref h), (1, .int (nI dn))] → W p0_ l e0_ ({ frames := 3, cells := 0, slots := 0, locals := 64 } : Room) s m args below meth c s.heap [] (0) (0) (MQ below (vp_Si (fun rr9 => rr9 = sWPA r N ke so zz el (nI dn))) args s 0 0 (fun _ => False)) (F0 m 42 ls [])) by
          exact hlp_5 (zz dn) 0 (by omega) (rfl) ls (lv_sub hl [0, 1, 2, 3, 4, 5] rfl)
        have hend_5 : (wpA N el (100 * dn) (zz dn) = true) → ∀ (ls : Array Slot), lv_has ls 7 [(5, .int (nI (zz dn))), (4, .int (wpSeen el (100 * dn) (zz dn))), (3, .int (nI (zz dn))), (2, .int (sWR ke so (nI dn) (-1))), (0, .ref h), (1, .int (nI dn))] → W p0_ l e0_ ({ frames := 3, cells := 0, slots := 0, locals := 64 } : Room) s m args below meth c s.heap [] (0) (0) (MQ below (vp_Si (fun rr9 => rr9 = sWPA r N ke so zz el (nI dn))) args s 0 0 (fun _ => False)) (F0 m 42 ls []) := by
          intro ha ls hl
          refine lv_iload hx hb dX4_wrongPairs_42 (lv_at hl 0 rfl) ?_
          refine lv_iload_n hx hb dX4_wrongPairs_44 rfl (lv_at hl 2 rfl) ?_
          refine n_ic_ge (x := (zz dn)) (y := zz dn) (tgt := 100) hx hb (by omega) (by omega) dX4_wrongPairs_45 (by decide) (fun c_6 => ?_) (fun c_6 => absurd c_6 (by omega))
          refine lv_iconst (v := 0) hx hb dX4_wrongPairs_100 (by decide) ?_
          refine lv_istore (lv' := [(5, .int 0), (4, .int (wpSeen el (100 * dn) (zz dn))), (3, .int (nI (zz dn))), (2, .int (sWR ke so (nI dn) (-1))), (0, .ref h), (1, .int (nI dn))]) hx hb dX4_wrongPairs_101 hl (Nat.le_of_ble_eq_true rfl) rfl (fun ls hl => ?_)
          suffices hlp_7 : (∀ (n i : Nat), i + n = zz dn / 2 → (wpB r el (100 * dn) i = true) → ∀ (ls : Array Slot), lv_has ls 7 [(5, .int (nI (2 * i))), (4, .int (wpSeen el (100 * dn) (zz dn))), (3, .int (nI (zz dn))), (2, .int (sWR ke so (nI dn) (-1))), (0, .ref h), (1, .int (nI dn))] → W p0_ l e0_ ({ frames := 3, cells := 0, slots := 0, locals := 64 } : Room) s m args below meth c s.heap [] (0) (0) (MQ below (vp_Si (fun rr9 => rr9 = sWPA r N ke so zz el (nI dn))) args s 0 0 (fun _ => False)) (F0 m 103 ls [])) by
            exact hlp_7 (zz dn / 2) 0 (by omega) (rfl) ls (lv_sub hl [0, 1, 2, 3, 4, 5] rfl)
          have hend_7 : (wpB r el (100 * dn) (zz dn / 2) = true) → ∀ (ls : Array Slot), lv_has ls 7 [(5, .int (nI (2 * (zz dn / 2)))), (4, .int (wpSeen el (100 * dn) (zz dn))), (3, .int (nI (zz dn))), (2, .int (sWR ke so (nI dn) (-1))), (0, .ref h), (1, .int (nI dn))] → W p0_ l e0_ ({ frames := 3, cells := 0, slots := 0, locals := 64 } : Room) s m args below meth c s.heap [] (0) (0) (MQ below (vp_Si (fun rr9 => rr9 = sWPA r N ke so zz el (nI dn))) args s 0 0 (fun _ => False)) (F0 m 103 ls []) := by
            intro hbb ls hl
            refine lv_iload hx hb dX4_wrongPairs_103 (lv_at hl 0 rfl) ?_
            refine lv_iload_n hx hb dX4_wrongPairs_105 rfl (lv_at hl 2 rfl) ?_
            refine n_ic_ge (x := 2 * (zz dn / 2)) (y := zz dn) (tgt := 154) hx hb (by omega) (by omega) dX4_wrongPairs_106 (by decide) (fun c_8 => ?_) (fun c_8 => absurd c_8 (by omega))
            refine lv_iconst (v := 0) hx hb dX4_wrongPairs_154 (by decide) ?_
            exact n_iret (v := 0) C (by first | (simp [sWPA, c_1, t_dn, k1, k2, c_3, zc_3, c_4, zc_4, c_6, c_8]; done) | (have hno : wpA N el (100 * dn) (zz dn) = false := wpA_no (j := i + 1) e7 (by simp [wpA, ha, bitX, c_1, t_dn, k1, k2, c_3, zc_3, c_4, zc_4, c_6, c_8]); simp [sWPA, c_1, t_dn, k1, k2, c_3, zc_3, c_4, zc_4, c_6, c_8, hno]; done) | (have hno : wpB r el (100 * dn) (zz dn / 2) = false := wpB_no (j := i + 1) e7 (by simp [wpB, hbb, c_1, t_dn, k1, k2, c_3, zc_3, c_4, zc_4, c_6, c_8, qx1, qx2, tx1, tx2]); simp [sWPA, c_1, t_dn, k1, k2, c_3, zc_3, c_4, zc_4, c_6, c_8, ha, hno]; done) | (simp [sWPA, c_1, t_dn, k1, k2, c_3, zc_3, c_4, zc_4, c_6, c_8, ha, hbb]; done)) dX4_wrongPairs_155
          intro n
          induction n with
          | zero =>
            intro i hi_7 hbb ls hl
            obtain e_7 : i = zz dn / 2 := by omega
            first | (subst e_7; exact hend_7 hbb ls hl) | (rw [e_7] at hl; exact hend_7 hbb ls hl)
          | succ n ih_7 =>
            intro i hi_7 hbb ls hl
            have e7 : i + 1 ≤ zz dn / 2 := by omega
            obtain ⟨x1, hx1, qx1⟩ := wpA_at (j := 2 * i) (by omega) (by omega) ha
            obtain ⟨x2, hx2, qx2⟩ := wpA_at (j := 2 * i + 1) (by omega) (by omega) ha
            rw [← Nat.add_assoc] at qx2
            have tx1 : tn (nI x1) = x1 := nI_clamp (by omega)
            have tx2 : tn (nI x2) = x2 := nI_clamp (by omega)
            refine lv_iload hx hb dX4_wrongPairs_103 (lv_at hl 0 rfl) ?_
            refine lv_iload_n hx hb dX4_wrongPairs_105 rfl (lv_at hl 2 rfl) ?_
            refine n_ic_ge (x := 2 * i) (y := zz dn) (tgt := 154) hx hb (by omega) (by omega) dX4_wrongPairs_106 (by decide) (fun c_9 => absurd c_9 (by omega)) (fun c_9 => ?_)
            refine lv_aload_n hx hb dX4_wrongPairs_109 rfl (lv_at hl 4 rfl) ?_
            refine va_get (D := gD G) (ci := 0) (v := .ref (ad 0)) (C := RX4) (T := TX4) (N := 20) hx hb hts in_X4 hown hK hP 0 rfl rfl 0 (by decide) (hts _ q1073) (fun _ h9 => h9) rfl dX4_wrongPairs_110 ?_
            refine lv_aload_n hx hb dX4_wrongPairs_113 rfl (lv_at hl 4 rfl) ?_
            refine va_get (D := gD G) (ci := 0) (v := .ref (ad 18)) (C := RX4) (T := TX4) (N := 20) hx hb hts in_X4 hown hK hP 0 rfl rfl 18 (by decide) (hts _ q1091) (fun _ h9 => h9) rfl dX4_wrongPairs_114 ?_
            refine lv_bipush (v := 100) hx hb dX4_wrongPairs_117 (by decide) ?_
            refine lv_iload_n hx hb dX4_wrongPairs_119 rfl (lv_at hl 5 rfl) ?_
            refine n_imul hx hb 100 dn dX4_wrongPairs_120 ?_
            refine lv_iload hx hb dX4_wrongPairs_121 (lv_at hl 0 rfl) ?_
            refine n_iadd hx hb (100 * dn) (2 * i) dX4_wrongPairs_123 ?_
            refine n_iald C hK hP 5 ((100 * dn) + (2 * i)) rfl (by omega) (by omega) dX4_wrongPairs_124 ?_
            refine n_eqi (qx1) ?_
            refine lv_aload_n hx hb dX4_wrongPairs_125 rfl (lv_at hl 4 rfl) ?_
            refine va_get (D := gD G) (ci := 0) (v := .ref (ad 18)) (C := RX4) (T := TX4) (N := 20) hx hb hts in_X4 hown hK hP 0 rfl rfl 18 (by decide) (hts _ q1091) (fun _ h9 => h9) rfl dX4_wrongPairs_126 ?_
            refine lv_bipush (v := 100) hx hb dX4_wrongPairs_129 (by decide) ?_
            refine lv_iload_n hx hb dX4_wrongPairs_131 rfl (lv_at hl 5 rfl) ?_
            refine n_imul hx hb 100 dn dX4_wrongPairs_132 ?_
            refine lv_iload hx hb dX4_wrongPairs_133 (lv_at hl 0 rfl) ?_
            refine n_iadd hx hb (100 * dn) (2 * i) dX4_wrongPairs_135 ?_
            refine lv_iconst (v := 1) hx hb dX4_wrongPairs_136 (by decide) ?_
            refine n_iadd hx hb ((100 * dn) + (2 * i)) 1 dX4_wrongPairs_137 ?_
            refine n_iald C hK hP 5 (((100 * dn) + (2 * i)) + 1) rfl (by omega) (by omega) dX4_wrongPairs_138 ?_
            refine n_eqi (qx2) ?_
            refine c_S (rest := []) C (metX4_canEat l G (ad 0) r x1 x2 (by omega) (by omega)) 3 (lw_S q1177 q1178 q42 q1179) (by decide +kernel) ⟨rfl, rfl⟩ ⟨(Nat.le_of_ble_eq_true rfl), (Nat.le_of_ble_eq_true rfl)⟩ (KM_mv G) (hP.sub (ws' := [(ad 0, iA G 57 r)]) [1] rfl) hK hl rfl rfl (Nat.le_of_ble_eq_true rfl) ⟨(Nat.le_of_ble_eq_true rfl), (Nat.le_of_ble_eq_true rfl)⟩ dX4_wrongPairs_139 ?_
            refine n_if_neB (b := (sEat r x1 x2)) (tgt := 148) hx hb dX4_wrongPairs_142 (by decide) (fun c_10 => ?_) (fun c_10 => ?_)
            · refine n_iinc (k := 0) (lv' := [(5, .int (nI (2 * i + 2))), (4, .int (wpSeen el (100 * dn) (zz dn))), (3, .int (nI (zz dn))), (2, .int (sWR ke so (nI dn) (-1))), (0, .ref h), (1, .int (nI dn))]) hx hb (2 * i) 2 dX4_wrongPairs_148 hl rfl (Nat.le_of_ble_eq_true rfl) rfl (fun ls hl => ?_)
              refine lv_goto (tgt := 103) hx hb dX4_wrongPairs_151 (by decide) ?_
              have e_11 : 2 * (i + 1) = 2 * i + 2 := by omega
              exact ih_7 (i + 1) (by omega) (by simp [wpB, hbb, qx1, qx2, tx1, tx2, t_dn, c_9, c_10]) ls (by rw [e_11]; exact lv_sub hl [0, 1, 2, 3, 4, 5] rfl)
            · refine lv_bipush (v := (-13)) hx hb dX4_wrongPairs_145 (by decide) ?_
              exact n_iret (v := (-13)) C (by first | (simp [sWPA, c_1, t_dn, k1, k2, c_3, zc_3, c_4, zc_4, c_6, c_9, c_10]; done) | (have hno : wpA N el (100 * dn) (zz dn) = false := wpA_no (j := i + 1) e7 (by simp [wpA, ha, bitX, c_1, t_dn, k1, k2, c_3, zc_3, c_4, zc_4, c_6, c_9, c_10]); simp [sWPA, c_1, t_dn, k1, k2, c_3, zc_3, c_4, zc_4, c_6, c_9, c_10, hno]; done) | (have hno : wpB r el (100 * dn) (zz dn / 2) = false := wpB_no (j := i + 1) e7 (by simp [wpB, hbb, c_1, t_dn, k1, k2, c_3, zc_3, c_4, zc_4, c_6, c_9, c_10, qx1, qx2, tx1, tx2]); simp [sWPA, c_1, t_dn, k1, k2, c_3, zc_3, c_4, zc_4, c_6, c_9, c_10, ha, hno]; done) | (simp [sWPA, c_1, t_dn, k1, k2, c_3, zc_3, c_4, zc_4, c_6, c_9, c_10, ha, hbb]; done)) dX4_wrongPairs_147
        intro n
        induction n with
        | zero =>
          intro i hi_5 ha ls hl
          obtain e_5 : i = zz dn := by omega
          first | (subst e_5; exact hend_5 ha ls hl) | (rw [e_5] at hl; exact hend_5 ha ls hl)
        | succ n ih_5 =>
          intro i hi_5 ha ls hl
          have e7 : i + 1 ≤ zz dn := by omega
          refine lv_iload hx hb dX4_wrongPairs_42 (lv_at hl 0 rfl) ?_
          refine lv_iload_n hx hb dX4_wrongPairs_44 rfl (lv_at hl 2 rfl) ?_
          refine n_ic_ge (x := i) (y := zz dn) (tgt := 100) hx hb (by omega) (by omega) dX4_wrongPairs_45 (by decide) (fun c_12 => absurd c_12 (by omega)) (fun c_12 => ?_)
          refine lv_aload_n hx hb dX4_wrongPairs_48 rfl (lv_at hl 4 rfl) ?_
          refine va_get (D := gD G) (ci := 0) (v := .ref (ad 18)) (C := RX4) (T := TX4) (N := 20) hx hb hts in_X4 hown hK hP 0 rfl rfl 18 (by decide) (hts _ q1091) (fun _ h9 => h9) rfl dX4_wrongPairs_49 ?_
          refine lv_bipush (v := 100) hx hb dX4_wrongPairs_52 (by decide) ?_
          refine lv_iload_n hx hb dX4_wrongPairs_54 rfl (lv_at hl 5 rfl) ?_
          refine n_imul hx hb 100 dn dX4_wrongPairs_55 ?_
          refine lv_iload hx hb dX4_wrongPairs_56 (lv_at hl 0 rfl) ?_
          refine n_iadd hx hb (100 * dn) i dX4_wrongPairs_58 ?_
          refine n_iald C hK hP 5 ((100 * dn) + i) rfl (by omega) (by omega) dX4_wrongPairs_59 ?_
          refine lv_istore (lv' := [(6, .int (el ((100 * dn) + i))), (5, .int (nI i)), (4, .int (wpSeen el (100 * dn) i)), (3, .int (nI (zz dn))), (2, .int (sWR ke so (nI dn) (-1))), (0, .ref h), (1, .int (nI dn))]) hx hb dX4_wrongPairs_60 hl (Nat.le_of_ble_eq_true rfl) rfl (fun ls hl => ?_)
          refine lv_aload_n hx hb dX4_wrongPairs_62 rfl (lv_at hl 5 rfl) ?_
          refine lv_iload hx hb dX4_wrongPairs_63 (lv_at hl 0 rfl) ?_
          refine c_V (rest := []) C (metX4_isPerson l G h ad iv r N (el ((100 * dn) + i)) (hr)) 1 (lw_V q1173 q1175 qs28 q42 q1176) (by decide +kernel) ⟨rfl, rfl⟩ ⟨(Nat.le_of_ble_eq_true rfl), (Nat.le_of_ble_eq_true rfl)⟩ (KM_mv G) (va_recv hK hP (ci := 0) (q0 := 0) rfl rfl) (hP.sub (ws' := [(h, mO ad iv), (ad 0, iA G 57 r)]) [0, 1] rfl) hK hl rfl rfl (Nat.le_of_ble_eq_true rfl) ⟨(Nat.le_of_ble_eq_true rfl), (Nat.le_of_ble_eq_true rfl)⟩ dX4_wrongPairs_65 ?_
          refine n_if_eqB (b := (sPer N (el ((100 * dn) + i)))) (tgt := 82) hx hb dX4_wrongPairs_68 (by decide) (fun c_13 => ?_) (fun c_13 => ?_)
          · refine lv_bipush (v := (-13)) hx hb dX4_wrongPairs_82 (by decide) ?_
            exact n_iret (v := (-13)) C (by first | (simp [sWPA, c_1, t_dn, k1, k2, c_3, zc_3, c_4, zc_4, c_12, c_13]; done) | (have hno : wpA N el (100 * dn) (zz dn) = false := wpA_no (j := i + 1) e7 (by simp [wpA, ha, bitX, c_1, t_dn, k1, k2, c_3, zc_3, c_4, zc_4, c_12, c_13]); simp [sWPA, c_1, t_dn, k1, k2, c_3, zc_3, c_4, zc_4, c_12, c_13, hno]; done) | (have hno : wpB r el (100 * dn) (zz dn / 2) = false := wpB_no (j := i + 1) e7 (by simp [wpB, hbb, c_1, t_dn, k1, k2, c_3, zc_3, c_4, zc_4, c_12, c_13, qx1, qx2, tx1, tx2]); simp [sWPA, c_1, t_dn, k1, k2, c_3, zc_3, c_4, zc_4, c_12, c_13, ha, hno]; done) | (simp [sWPA, c_1, t_dn, k1, k2, c_3, zc_3, c_4, zc_4, c_12, c_13, ha, hbb]; done)) dX4_wrongPairs_84
          · obtain ⟨el_100_d_14, hel_100_d_14, qel_100_d_14⟩ := sPer_t (by omega) c_13
            have uel_100_d_14 : sPer N (nI el_100_d_14) = true := by rw [← qel_100_d_14]; exact c_13
            have tel_100_d_14 : tn (nI el_100_d_14) = el_100_d_14 := nI_clamp (by omega)
            refine lv_iload hx hb dX4_wrongPairs_71 (lv_at hl 2 rfl) ?_
            refine lv_iload hx hb dX4_wrongPairs_73 (lv_at hl 0 rfl) ?_
            refine n_eqi (qel_100_d_14) ?_
            refine lv_ishr (x := wpSeen el (100 * dn) i) (y := nI el_100_d_14) hx hb dX4_wrongPairs_75 ?_
            refine lv_iconst (v := 1) hx hb dX4_wrongPairs_76 (by decide) ?_
            refine lv_iand (x := (wpSeen el (100 * dn) i) >>> ((nI el_100_d_14) &&& 31)) (y := 1) hx hb dX4_wrongPairs_77 ?_
            refine lv_iconst (v := 1) hx hb dX4_wrongPairs_78 (by decide) ?_
            refine lv_icmp_ne (x := ((wpSeen el (100 * dn) i) >>> ((nI el_100_d_14) &&& 31)) &&& 1) (y := 1) (tgt := 85) hx hb dX4_wrongPairs_79 (by decide) (fun c_15 => ?_) (fun c_15 => ?_)
            · refine lv_iload hx hb dX4_wrongPairs_85 (lv_at hl 2 rfl) ?_
              refine lv_iconst (v := 1) hx hb dX4_wrongPairs_87 (by decide) ?_
              refine lv_iload hx hb dX4_wrongPairs_88 (lv_at hl 0 rfl) ?_
              refine n_eqi (qel_100_d_14) ?_
              refine lv_ishl (x := 1) (y := nI el_100_d_14) hx hb dX4_wrongPairs_90 ?_
              refine lv_ior (x := wpSeen el (100 * dn) i) (y := 1 <<< ((nI el_100_d_14) &&& 31)) hx hb dX4_wrongPairs_91 ?_
              refine lv_istore (lv' := [(4, .int ((wpSeen el (100 * dn) i) ||| (1 <<< ((nI el_100_d_14) &&& 31)))), (6, .int (el ((100 * dn) + i))), (5, .int (nI i)), (3, .int (nI (zz dn))), (2, .int (sWR ke so (nI dn) (-1))), (0, .ref h), (1, .int (nI dn))]) hx hb dX4_wrongPairs_92 hl (Nat.le_of_ble_eq_true rfl) rfl (fun ls hl => ?_)
              refine n_iinc (k := 2) (lv' := [(5, .int (nI (i + 1))), (4, .int ((wpSeen el (100 * dn) i) ||| (1 <<< ((nI el_100_d_14) &&& 31)))), (6, .int (el ((100 * dn) + i))), (3, .int (nI (zz dn))), (2, .int (sWR ke so (nI dn) (-1))), (0, .ref h), (1, .int (nI dn))]) hx hb i 1 dX4_wrongPairs_94 hl rfl (Nat.le_of_ble_eq_true rfl) rfl (fun ls hl => ?_)
              refine lv_goto (tgt := 42) hx hb dX4_wrongPairs_97 (by decide) ?_
              have e_16 : wpSeen el (100 * dn) (i + 1) = (wpSeen el (100 * dn) i) ||| (1 <<< ((nI el_100_d_14) &&& 31)) := by rw [wpSeen]; simp [t_dn, c_12, c_13, qel_100_d_14, uel_100_d_14, tel_100_d_14, c_15]
              exact ih_5 (i + 1) (by omega) (by simp [wpA, ha, bitX, t_dn, c_12, c_13, qel_100_d_14, uel_100_d_14, tel_100_d_14, c_15]) ls (by rw [e_16]; exact lv_sub hl [0, 1, 3, 4, 5, 6] rfl)
            · refine lv_bipush (v := (-13)) hx hb dX4_wrongPairs_82 (by decide) ?_
              exact n_iret (v := (-13)) C (by first | (simp [sWPA, c_1, t_dn, k1, k2, c_3, zc_3, c_4, zc_4, c_12, c_13, qel_100_d_14, uel_100_d_14, tel_100_d_14, c_15]; done) | (have hno : wpA N el (100 * dn) (zz dn) = false := wpA_no (j := i + 1) e7 (by simp [wpA, ha, bitX, c_1, t_dn, k1, k2, c_3, zc_3, c_4, zc_4, c_12, c_13, qel_100_d_14, uel_100_d_14, tel_100_d_14, c_15]); simp [sWPA, c_1, t_dn, k1, k2, c_3, zc_3, c_4, zc_4, c_12, c_13, qel_100_d_14, uel_100_d_14, tel_100_d_14, c_15, hno]; done) | (have hno : wpB r el (100 * dn) (zz dn / 2) = false := wpB_no (j := i + 1) e7 (by simp [wpB, hbb, c_1, t_dn, k1, k2, c_3, zc_3, c_4, zc_4, c_12, c_13, qel_100_d_14, uel_100_d_14, tel_100_d_14, c_15, qx1, qx2, tx1, tx2]); simp [sWPA, c_1, t_dn, k1, k2, c_3, zc_3, c_4, zc_4, c_12, c_13, qel_100_d_14, uel_100_d_14, tel_100_d_14, c_15, ha, hno]; done) | (simp [sWPA, c_1, t_dn, k1, k2, c_3, zc_3, c_4, zc_4, c_12, c_13, qel_100_d_14, uel_100_d_14, tel_100_d_14, c_15, ha, hbb]; done)) dX4_wrongPairs_84
      · have zc_4 : ¬ zz dn ≤ 8 := Nat.not_le.mpr c_4
        refine lv_bipush (v := (-13)) hx hb dX4_wrongPairs_33 (by decide) ?_
        exact n_iret (v := (-13)) C (by first | (simp [sWPA, c_1, t_dn, k1, k2, c_3, zc_3, c_4, zc_4]; done) | (have hno : wpA N el (100 * dn) (zz dn) = false := wpA_no (j := i + 1) e7 (by simp [wpA, ha, bitX, c_1, t_dn, k1, k2, c_3, zc_3, c_4, zc_4]); simp [sWPA, c_1, t_dn, k1, k2, c_3, zc_3, c_4, zc_4, hno]; done) | (have hno : wpB r el (100 * dn) (zz dn / 2) = false := wpB_no (j := i + 1) e7 (by simp [wpB, hbb, c_1, t_dn, k1, k2, c_3, zc_3, c_4, zc_4, qx1, qx2, tx1, tx2]); simp [sWPA, c_1, t_dn, k1, k2, c_3, zc_3, c_4, zc_4, ha, hno]; done) | (simp [sWPA, c_1, t_dn, k1, k2, c_3, zc_3, c_4, zc_4, ha, hbb]; done)) dX4_wrongPairs_35
  · refine lv_iload_n hx hb dX4_wrongPairs_11 rfl (lv_at hl 0 rfl) ?_
    exact n_iret (v := sWR ke so d (-1)) C (by first | (simp [sWPA, c_1]; done) | (have hno : wpA N el (100 * 0) (zz 0) = false := wpA_no (j := i + 1) e7 (by simp [wpA, ha, bitX, c_1]); simp [sWPA, c_1, hno]; done) | (have hno : wpB r el (100 * 0) (zz 0 / 2) = false := wpB_no (j := i + 1) e7 (by simp [wpB, hbb, c_1, qx1, qx2, tx1, tx2]); simp [sWPA, c_1, ha, hno]; done) | (simp [sWPA, c_1, ha, hbb]; done)) dX4_wrongPairs_12

set_option maxHeartbeats 4000000 in
set_option maxRecDepth 100000 in
theorem metX4_swap (l : Launch) (G : GG) (h : Nat) (ad : Nat → Nat) (iv : Nat → Int32) (r : Nat → Int32) (N : Nat) (ke so el : Nat → Int32) (zz : Nat → Nat) (d : Int32) (hN : N ≤ 9) (hr : r 0 = nI N) (hz : ∀ d, zz d ≤ 100) : MR l yX4_swap cX4_swap 14 (some .int) ({ frames := 4, cells := 0, slots := 0, locals := 90 }) [.ref h, .int d] [(h, mO ad iv), (ad 0, iA G 57 r), (ad 13, iA G 8 ke), (ad 16, iA G 8 so), (ad 17, iA G 8 (nIf zz)), (ad 18, iA G 800 el)] G (KM G) (sSwapA r N ke so zz el d) := by
  -- rows printed by wip/tools/gen.py
  refine mr_mk RX4 (by decide) rfl (Nat.le_of_ble_eq_true rfl) ?_
  intro p0_ e0_ s m args below meth c C hP hK ls hl
  have hx := C.1
  have hb := C.2.1
  have hml := C.2.2.2.2.1
  have hown := C.2.2.2.2.2.1
  have hts := C.2.2.2.2.2.2
  have hl : lv_has ls 14 [(0, .ref h), (1, .int d)] := hl
  refine lv_aload_n hx hb dX4_swap_0 rfl (lv_at hl 0 rfl) ?_
  refine lv_iload_n hx hb dX4_swap_1 rfl (lv_at hl 1 rfl) ?_
  refine c_V (rest := []) C (metX4_wrongPairs l G h ad iv r N ke so el zz d (by omega) (hr) (hz)) 1 (lw_V q1315 q1317 qs34 q42 q1318) (by decide +kernel) ⟨rfl, rfl⟩ ⟨(Nat.le_of_ble_eq_true rfl), (Nat.le_of_ble_eq_true rfl)⟩ (KM_mv G) (va_recv hK hP (ci := 0) (q0 := 0) rfl rfl) hP hK hl rfl rfl (Nat.le_of_ble_eq_true rfl) ⟨(Nat.le_of_ble_eq_true rfl), (Nat.le_of_ble_eq_true rfl)⟩ dX4_swap_2 ?_
  refine lv_istore_n (lv' := [(2, .int (sWPA r N ke so zz el d)), (0, .ref h), (1, .int d)]) hx hb dX4_swap_5 rfl hl (Nat.le_of_ble_eq_true rfl) rfl (fun ls hl => ?_)
  refine lv_iload_n hx hb dX4_swap_6 rfl (lv_at hl 0 rfl) ?_
  refine lv_if_eq (x := sWPA r N ke so zz el d) (tgt := 12) hx hb dX4_swap_7 (by decide) (fun c_1 => ?_) (fun c_1 => ?_)
  · obtain ⟨dn, gd, k1, k2, k3, k4, rfl⟩ := sWPA_0 c_1
    have t_dn : tn (nI dn) = dn := nI_clamp (by omega)
    refine lv_bipush (v := (-4)) hx hb dX4_swap_12 (by decide) ?_
    refine lv_istore_n (lv' := [(3, .int (-4)), (2, .int (sWPA r N ke so zz el (nI dn))), (0, .ref h), (1, .int (nI dn))]) hx hb dX4_swap_14 rfl hl (Nat.le_of_ble_eq_true rfl) rfl (fun ls hl => ?_)
    refine lv_iconst (v := 0) hx hb dX4_swap_15 (by decide) ?_
    refine lv_istore (lv' := [(4, .int 0), (3, .int (-4)), (2, .int (sWPA r N ke so zz el (nI dn))), (0, .ref h), (1, .int (nI dn))]) hx hb dX4_swap_16 hl (Nat.le_of_ble_eq_true rfl) rfl (fun ls hl => ?_)
    refine lv_aload_n hx hb dX4_swap_18 rfl (lv_at hl 3 rfl) ?_
    refine va_get (D := gD G) (ci := 0) (v := .ref (ad 17)) (C := RX4) (T := TX4) (N := 20) hx hb hts in_X4 hown hK hP 0 rfl rfl 17 (by decide) (hts _ q1090) (fun _ h9 => h9) rfl dX4_swap_19 ?_
    refine lv_iload_n hx hb dX4_swap_22 rfl (lv_at hl 4 rfl) ?_
    refine n_iald C hK hP 4 dn rfl (by omega) (by omega) dX4_swap_23 ?_
    have hz_2 := hz dn
    refine lv_iconst (v := 2) hx hb dX4_swap_24 (by decide) ?_
    refine n_idiv hx hb (zz dn) 2 (by omega) (by omega) (by omega) dX4_swap_25 ?_
    refine lv_istore (lv' := [(5, .int (nI ((zz dn) / 2))), (4, .int 0), (3, .int (-4)), (2, .int (sWPA r N ke so zz el (nI dn))), (0, .ref h), (1, .int (nI dn))]) hx hb dX4_swap_26 hl (Nat.le_of_ble_eq_true rfl) rfl (fun ls hl => ?_)
    refine lv_bipush (v := 100) hx hb dX4_swap_28 (by decide) ?_
    refine lv_iload_n hx hb dX4_swap_30 rfl (lv_at hl 5 rfl) ?_
    refine n_imul hx hb 100 dn dX4_swap_31 ?_
    refine lv_istore (lv' := [(6, .int (nI (100 * dn))), (5, .int (nI ((zz dn) / 2))), (4, .int 0), (3, .int (-4)), (2, .int (sWPA r N ke so zz el (nI dn))), (0, .ref h), (1, .int (nI dn))]) hx hb dX4_swap_32 hl (Nat.le_of_ble_eq_true rfl) rfl (fun ls hl => ?_)
    refine lv_iconst (v := 0) hx hb dX4_swap_34 (by decide) ?_
    refine lv_istore (lv' := [(7, .int 0), (6, .int (nI (100 * dn))), (5, .int (nI ((zz dn) / 2))), (4, .int 0), (3, .int (-4)), (2, .int (sWPA r N ke so zz el (nI dn))), (0, .ref h), (1, .int (nI dn))]) hx hb dX4_swap_35 hl (Nat.le_of_ble_eq_true rfl) rfl (fun ls hl => ?_)
    suffices hlp_3 : (∀ (n i : Nat), i + n = zz dn / 2 → ∀ (ls : Array Slot), lv_has ls 14 [(7, .int (nI i)), (6, .int (nI (100 * dn))), (5, .int (nI ((zz dn) / 2))), (4, .int (swB r el (100 * dn) (swO r el (100 * dn) (zz dn / 2) i))), (3, .int (enc (swO r el (100 * dn) (zz dn / 2) i))), (2, .int (sWPA r N ke so zz el (nI dn))), (0, .ref h), (1, .int (nI dn))] → W p0_ l e0_ ({ frames := 4, cells := 0, slots := 0, locals := 90 } : Room) s m args below meth c s.heap [] (0) (0) (MQ below (vp_Si (fun rr9 => rr9 = sSwapA r N ke so zz el (nI dn))) args s 0 0 (fun _ => False)) (F0 m 37 ls [])) by
      exact hlp_3 (zz dn / 2) 0 (by omega) ls (lv_sub hl [0, 1, 2, 3, 4, 5, 6, 7] rfl)
    have hend_3 : ∀ (ls : Array Slot), lv_has ls 14 [(7, .int (nI (zz dn / 2))), (6, .int (nI (100 * dn))), (5, .int (nI ((zz dn) / 2))), (4, .int (swB r el (100 * dn) (swO r el (100 * dn) (zz dn / 2) (zz dn / 2)))), (3, .int (enc (swO r el (100 * dn) (zz dn / 2) (zz dn / 2)))), (2, .int (sWPA r N ke so zz el (nI dn))), (0, .ref h), (1, .int (nI dn))] → W p0_ l e0_ ({ frames := 4, cells := 0, slots := 0, locals := 90 } : Room) s m args below meth c s.heap [] (0) (0) (MQ below (vp_Si (fun rr9 => rr9 = sSwapA r N ke so zz el (nI dn))) args s 0 0 (fun _ => False)) (F0 m 37 ls []) := by
      intro ls hl
      refine lv_iload hx hb dX4_swap_37 (lv_at hl 0 rfl) ?_
      refine lv_iload hx hb dX4_swap_39 (lv_at hl 2 rfl) ?_
      refine n_ic_ge (x := (zz dn / 2)) (y := (zz dn) / 2) (tgt := 201) hx hb (by omega) (by omega) dX4_swap_41 (by decide) (fun c_4 => ?_) (fun c_4 => absurd c_4 (by omega))
      refine lv_iload_n hx hb dX4_swap_201 rfl (lv_at hl 4 rfl) ?_
      exact n_iret (v := enc (swO r el (100 * dn) (zz dn / 2) (zz dn / 2))) C (by simp [sSwapA, c_1, t_dn, k1, k2, k3, k4, c_4]) dX4_swap_202
    intro n
    induction n with
    | zero =>
      intro i hi_3 ls hl
      obtain e_3 : i = zz dn / 2 := by omega
      first | (subst e_3; exact hend_3 ls hl) | (rw [e_3] at hl; exact hend_3 ls hl)
    | succ n ih_3 =>
      intro i hi_3 ls hl
      refine lv_iload hx hb dX4_swap_37 (lv_at hl 0 rfl) ?_
      refine lv_iload hx hb dX4_swap_39 (lv_at hl 2 rfl) ?_
      refine n_ic_ge (x := i) (y := (zz dn) / 2) (tgt := 201) hx hb (by omega) (by omega) dX4_swap_41 (by decide) (fun c_5 => absurd c_5 (by omega)) (fun c_5 => ?_)
      refine lv_iload hx hb dX4_swap_44 (lv_at hl 0 rfl) ?_
      refine lv_iconst (v := 1) hx hb dX4_swap_46 (by decide) ?_
      refine n_iadd hx hb i 1 dX4_swap_47 ?_
      refine lv_istore (lv' := [(8, .int (nI (i + 1))), (7, .int (nI i)), (6, .int (nI (100 * dn))), (5, .int (nI ((zz dn) / 2))), (4, .int (swB r el (100 * dn) (swO r el (100 * dn) (zz dn / 2) i))), (3, .int (enc (swO r el (100 * dn) (zz dn / 2) i))), (2, .int (sWPA r N ke so zz el (nI dn))), (0, .ref h), (1, .int (nI dn))]) hx hb dX4_swap_48 hl (Nat.le_of_ble_eq_true rfl) rfl (fun ls hl => ?_)
      suffices hlp_6 : (∀ (n j : Nat), j + n = zz dn / 2 → i + 1 ≤ j → ∀ (ls : Array Slot), lv_has ls 14 [(8, .int (nI j)), (7, .int (nI i)), (6, .int (nI (100 * dn))), (5, .int (nI ((zz dn) / 2))), (4, .int (swB r el (100 * dn) (swI r el (100 * dn) i (swO r el (100 * dn) (zz dn / 2) i) j))), (3, .int (enc (swI r el (100 * dn) i (swO r el (100 * dn) (zz dn / 2) i) j))), (2, .int (sWPA r N ke so zz el (nI dn))), (0, .ref h), (1, .int (nI dn))] → W p0_ l e0_ ({ frames := 4, cells := 0, slots := 0, locals := 90 } : Room) s m args below meth c s.heap [] (0) (0) (MQ below (vp_Si (fun rr9 => rr9 = sSwapA r N ke so zz el (nI dn))) args s 0 0 (fun _ => False)) (F0 m 50 ls [])) by
        exact hlp_6 ((zz dn / 2) - (i + 1)) (i + 1) (by omega) (Nat.le_refl _) ls (lv_sub hl [0, 1, 2, 3, 4, 5, 6, 7, 8] (by rw [swI_0 _ _ _ _ _ _ (Nat.le_refl _)]; rfl))
      have hend_6 : ∀ (ls : Array Slot), lv_has ls 14 [(8, .int (nI (zz dn / 2))), (7, .int (nI i)), (6, .int (nI (100 * dn))), (5, .int (nI ((zz dn) / 2))), (4, .int (swB r el (100 * dn) (swI r el (100 * dn) i (swO r el (100 * dn) (zz dn / 2) i) (zz dn / 2)))), (3, .int (enc (swI r el (100 * dn) i (swO r el (100 * dn) (zz dn / 2) i) (zz dn / 2)))), (2, .int (sWPA r N ke so zz el (nI dn))), (0, .ref h), (1, .int (nI dn))] → W p0_ l e0_ ({ frames := 4, cells := 0, slots := 0, locals := 90 } : Room) s m args below meth c s.heap [] (0) (0) (MQ below (vp_Si (fun rr9 => rr9 = sSwapA r N ke so zz el (nI dn))) args s 0 0 (fun _ => False)) (F0 m 50 ls []) := by
        intro ls hl
        refine lv_iload hx hb dX4_swap_50 (lv_at hl 0 rfl) ?_
        refine lv_iload hx hb dX4_swap_52 (lv_at hl 3 rfl) ?_
        refine n_ic_ge (x := (zz dn / 2)) (y := (zz dn) / 2) (tgt := 195) hx hb (by omega) (by omega) dX4_swap_54 (by decide) (fun c_7 => ?_) (fun c_7 => absurd c_7 (by omega))
        refine n_iinc (k := 1) (lv' := [(7, .int (nI (i + 1))), (8, .int (nI (zz dn / 2))), (6, .int (nI (100 * dn))), (5, .int (nI ((zz dn) / 2))), (4, .int (swB r el (100 * dn) (swI r el (100 * dn) i (swO r el (100 * dn) (zz dn / 2) i) (zz dn / 2)))), (3, .int (enc (swI r el (100 * dn) i (swO r el (100 * dn) (zz dn / 2) i) (zz dn / 2)))), (2, .int (sWPA r N ke so zz el (nI dn))), (0, .ref h), (1, .int (nI dn))]) hx hb i 1 dX4_swap_195 hl rfl (Nat.le_of_ble_eq_true rfl) rfl (fun ls hl => ?_)
        refine lv_goto (tgt := 37) hx hb dX4_swap_198 (by decide) ?_
        have e_8 : swB r el (100 * dn) (swO r el (100 * dn) (zz dn / 2) (i + 1)) = swB r el (100 * dn) (swI r el (100 * dn) i (swO r el (100 * dn) (zz dn / 2) i) (zz dn / 2)) := by rw [swO, if_pos (by omega)]
        have e_9 : enc (swO r el (100 * dn) (zz dn / 2) (i + 1)) = enc (swI r el (100 * dn) i (swO r el (100 * dn) (zz dn / 2) i) (zz dn / 2)) := by rw [swO, if_pos (by omega)]
        exact ih_3 (i + 1) (by omega) ls (by rw [e_8, e_9]; exact lv_sub hl [0, 2, 3, 4, 5, 6, 7, 8] rfl)
      intro n
      induction n with
      | zero =>
        intro j hi_6 hs_6 ls hl
        obtain e_6 : j = zz dn / 2 := by omega
        first | (subst e_6; exact hend_6 ls hl) | (rw [e_6] at hl; exact hend_6 ls hl)
      | succ n ih_6 =>
        intro j hi_6 hs_6 ls hl
        obtain ⟨x1, hx1, qx1⟩ := wpA_at (j := 2 * i) (by omega) (by omega) k4
        obtain ⟨x2, hx2, qx2⟩ := wpA_at (j := 2 * i + 1) (by omega) (by omega) k4
        obtain ⟨x3, hx3, qx3⟩ := wpA_at (j := 2 * j) (by omega) (by omega) k4
        obtain ⟨x4, hx4, qx4⟩ := wpA_at (j := 2 * j + 1) (by omega) (by omega) k4
        have y1 : tn (el (100 * dn + 2 * i)) = x1 := by rw [qx1]; exact nI_clamp (by omega)
        have y2 : tn (el (100 * dn + 2 * i + 1)) = x2 := by rw [(show el (100 * dn + 2 * i + 1) = nI x2 from qx2)]; exact nI_clamp (by omega)
        have y3 : tn (el (100 * dn + 2 * j)) = x3 := by rw [qx3]; exact nI_clamp (by omega)
        have y4 : tn (el (100 * dn + 2 * j + 1)) = x4 := by rw [(show el (100 * dn + 2 * j + 1) = nI x4 from qx4)]; exact nI_clamp (by omega)
        refine lv_iload hx hb dX4_swap_50 (lv_at hl 0 rfl) ?_
        refine lv_iload hx hb dX4_swap_52 (lv_at hl 3 rfl) ?_
        refine n_ic_ge (x := j) (y := (zz dn) / 2) (tgt := 195) hx hb (by omega) (by omega) dX4_swap_54 (by decide) (fun c_10 => absurd c_10 (by omega)) (fun c_10 => ?_)
        refine lv_aload_n hx hb dX4_swap_57 rfl (lv_at hl 7 rfl) ?_
        refine va_get (D := gD G) (ci := 0) (v := .ref (ad 18)) (C := RX4) (T := TX4) (N := 20) hx hb hts in_X4 hown hK hP 0 rfl rfl 18 (by decide) (hts _ q1091) (fun _ h9 => h9) rfl dX4_swap_58 ?_
        refine lv_iload hx hb dX4_swap_61 (lv_at hl 2 rfl) ?_
        refine lv_iconst (v := 2) hx hb dX4_swap_63 (by decide) ?_
        refine lv_iload hx hb dX4_swap_64 (lv_at hl 1 rfl) ?_
        refine n_imul hx hb 2 i dX4_swap_66 ?_
        refine n_iadd hx hb (100 * dn) (2 * i) dX4_swap_67 ?_
        refine n_iald C hK hP 5 ((100 * dn) + (2 * i)) rfl (by omega) (by omega) dX4_swap_68 ?_
        refine n_eqi (qx1) ?_
        refine lv_istore (lv' := [(9, .int (nI x1)), (8, .int (nI j)), (7, .int (nI i)), (6, .int (nI (100 * dn))), (5, .int (nI ((zz dn) / 2))), (4, .int (swB r el (100 * dn) (swI r el (100 * dn) i (swO r el (100 * dn) (zz dn / 2) i) j))), (3, .int (enc (swI r el (100 * dn) i (swO r el (100 * dn) (zz dn / 2) i) j))), (2, .int (sWPA r N ke so zz el (nI dn))), (0, .ref h), (1, .int (nI dn))]) hx hb dX4_swap_69 hl (Nat.le_of_ble_eq_true rfl) rfl (fun ls hl => ?_)
        refine lv_aload_n hx hb dX4_swap_71 rfl (lv_at hl 8 rfl) ?_
        refine va_get (D := gD G) (ci := 0) (v := .ref (ad 18)) (C := RX4) (T := TX4) (N := 20) hx hb hts in_X4 hown hK hP 0 rfl rfl 18 (by decide) (hts _ q1091) (fun _ h9 => h9) rfl dX4_swap_72 ?_
        refine lv_iload hx hb dX4_swap_75 (lv_at hl 3 rfl) ?_
        refine lv_iconst (v := 2) hx hb dX4_swap_77 (by decide) ?_
        refine lv_iload hx hb dX4_swap_78 (lv_at hl 2 rfl) ?_
        refine n_imul hx hb 2 i dX4_swap_80 ?_
        refine n_iadd hx hb (100 * dn) (2 * i) dX4_swap_81 ?_
        refine lv_iconst (v := 1) hx hb dX4_swap_82 (by decide) ?_
        refine n_iadd hx hb ((100 * dn) + (2 * i)) 1 dX4_swap_83 ?_
        refine n_iald C hK hP 5 (((100 * dn) + (2 * i)) + 1) rfl (by omega) (by omega) dX4_swap_84 ?_
        refine n_eqi (qx2) ?_
        refine lv_istore (lv' := [(10, .int (nI x2)), (9, .int (nI x1)), (8, .int (nI j)), (7, .int (nI i)), (6, .int (nI (100 * dn))), (5, .int (nI ((zz dn) / 2))), (4, .int (swB r el (100 * dn) (swI r el (100 * dn) i (swO r el (100 * dn) (zz dn / 2) i) j))), (3, .int (enc (swI r el (100 * dn) i (swO r el (100 * dn) (zz dn / 2) i) j))), (2, .int (sWPA r N ke so zz el (nI dn))), (0, .ref h), (1, .int (nI dn))]) hx hb dX4_swap_85 hl (Nat.le_of_ble_eq_true rfl) rfl (fun ls hl => ?_)
        refine lv_aload_n hx hb dX4_swap_87 rfl (lv_at hl 9 rfl) ?_
        refine va_get (D := gD G) (ci := 0) (v := .ref (ad 18)) (C := RX4) (T := TX4) (N := 20) hx hb hts in_X4 hown hK hP 0 rfl rfl 18 (by decide) (hts _ q1091) (fun _ h9 => h9) rfl dX4_swap_88 ?_
        refine lv_iload hx hb dX4_swap_91 (lv_at hl 4 rfl) ?_
        refine lv_iconst (v := 2) hx hb dX4_swap_93 (by decide) ?_
        refine lv_iload hx hb dX4_swap_94 (lv_at hl 2 rfl) ?_
        refine n_imul hx hb 2 j dX4_swap_96 ?_
        refine n_iadd hx hb (100 * dn) (2 * j) dX4_swap_97 ?_
        refine n_iald C hK hP 5 ((100 * dn) + (2 * j)) rfl (by omega) (by omega) dX4_swap_98 ?_
        refine n_eqi (qx3) ?_
        refine lv_istore (lv' := [(11, .int (nI x3)), (10, .int (nI x2)), (9, .int (nI x1)), (8, .int (nI j)), (7, .int (nI i)), (6, .int (nI (100 * dn))), (5, .int (nI ((zz dn) / 2))), (4, .int (swB r el (100 * dn) (swI r el (100 * dn) i (swO r el (100 * dn) (zz dn / 2) i) j))), (3, .int (enc (swI r el (100 * dn) i (swO r el (100 * dn) (zz dn / 2) i) j))), (2, .int (sWPA r N ke so zz el (nI dn))), (0, .ref h), (1, .int (nI dn))]) hx hb dX4_swap_99 hl (Nat.le_of_ble_eq_true rfl) rfl (fun ls hl => ?_)
        refine lv_aload_n hx hb dX4_swap_101 rfl (lv_at hl 10 rfl) ?_
        refine va_get (D := gD G) (ci := 0) (v := .ref (ad 18)) (C := RX4) (T := TX4) (N := 20) hx hb hts in_X4 hown hK hP 0 rfl rfl 18 (by decide) (hts _ q1091) (fun _ h9 => h9) rfl dX4_swap_102 ?_
        refine lv_iload hx hb dX4_swap_105 (lv_at hl 5 rfl) ?_
        refine lv_iconst (v := 2) hx hb dX4_swap_107 (by decide) ?_
        refine lv_iload hx hb dX4_swap_108 (lv_at hl 3 rfl) ?_
        refine n_imul hx hb 2 j dX4_swap_110 ?_
        refine n_iadd hx hb (100 * dn) (2 * j) dX4_swap_111 ?_
        refine lv_iconst (v := 1) hx hb dX4_swap_112 (by decide) ?_
        refine n_iadd hx hb ((100 * dn) + (2 * j)) 1 dX4_swap_113 ?_
        refine n_iald C hK hP 5 (((100 * dn) + (2 * j)) + 1) rfl (by omega) (by omega) dX4_swap_114 ?_
        refine n_eqi (qx4) ?_
        refine lv_istore (lv' := [(12, .int (nI x4)), (11, .int (nI x3)), (10, .int (nI x2)), (9, .int (nI x1)), (8, .int (nI j)), (7, .int (nI i)), (6, .int (nI (100 * dn))), (5, .int (nI ((zz dn) / 2))), (4, .int (swB r el (100 * dn) (swI r el (100 * dn) i (swO r el (100 * dn) (zz dn / 2) i) j))), (3, .int (enc (swI r el (100 * dn) i (swO r el (100 * dn) (zz dn / 2) i) j))), (2, .int (sWPA r N ke so zz el (nI dn))), (0, .ref h), (1, .int (nI dn))]) hx hb dX4_swap_115 hl (Nat.le_of_ble_eq_true rfl) rfl (fun ls hl => ?_)
        refine lv_aload_n hx hb dX4_swap_117 rfl (lv_at hl 11 rfl) ?_
        refine va_get (D := gD G) (ci := 0) (v := .ref (ad 0)) (C := RX4) (T := TX4) (N := 20) hx hb hts in_X4 hown hK hP 0 rfl rfl 0 (by decide) (hts _ q1073) (fun _ h9 => h9) rfl dX4_swap_118 ?_
        refine lv_iload hx hb dX4_swap_121 (lv_at hl 3 rfl) ?_
        refine lv_iload hx hb dX4_swap_123 (lv_at hl 0 rfl) ?_
        refine c_S (rest := []) C (metX4_joysOf l G (ad 0) r x1 x4 (by omega) (by omega)) 3 (lw_S q1186 q1187 q42 q1188) (by decide +kernel) ⟨rfl, rfl⟩ ⟨(Nat.le_of_ble_eq_true rfl), (Nat.le_of_ble_eq_true rfl)⟩ (KM_mv G) (hP.sub (ws' := [(ad 0, iA G 57 r)]) [1] rfl) hK hl rfl rfl (Nat.le_of_ble_eq_true rfl) ⟨(Nat.le_of_ble_eq_true rfl), (Nat.le_of_ble_eq_true rfl)⟩ dX4_swap_125 ?_
        refine lv_aload_n hx hb dX4_swap_128 rfl (lv_at hl 11 rfl) ?_
        refine va_get (D := gD G) (ci := 0) (v := .ref (ad 0)) (C := RX4) (T := TX4) (N := 20) hx hb hts in_X4 hown hK hP 0 rfl rfl 0 (by decide) (hts _ q1073) (fun _ h9 => h9) rfl dX4_swap_129 ?_
        refine lv_iload hx hb dX4_swap_132 (lv_at hl 1 rfl) ?_
        refine lv_iload hx hb dX4_swap_134 (lv_at hl 2 rfl) ?_
        refine c_S (rest := [.int (sJoy r x1 x4)]) C (metX4_joysOf l G (ad 0) r x3 x2 (by omega) (by omega)) 3 (lw_S q1186 q1187 q42 q1188) (by decide +kernel) ⟨rfl, rfl⟩ ⟨(Nat.le_of_ble_eq_true rfl), (Nat.le_of_ble_eq_true rfl)⟩ (KM_mv G) (hP.sub (ws' := [(ad 0, iA G 57 r)]) [1] rfl) hK hl rfl rfl (Nat.le_of_ble_eq_true rfl) ⟨(Nat.le_of_ble_eq_true rfl), (Nat.le_of_ble_eq_true rfl)⟩ dX4_swap_136 ?_
        refine lv_iadd (x := sJoy r x1 x4) (y := sJoy r x3 x2) hx hb dX4_swap_139 ?_
        refine lv_aload_n hx hb dX4_swap_140 rfl (lv_at hl 11 rfl) ?_
        refine va_get (D := gD G) (ci := 0) (v := .ref (ad 0)) (C := RX4) (T := TX4) (N := 20) hx hb hts in_X4 hown hK hP 0 rfl rfl 0 (by decide) (hts _ q1073) (fun _ h9 => h9) rfl dX4_swap_141 ?_
        refine lv_iload hx hb dX4_swap_144 (lv_at hl 3 rfl) ?_
        refine lv_iload hx hb dX4_swap_146 (lv_at hl 2 rfl) ?_
        refine c_S (rest := [.int ((sJoy r x1 x4) + (sJoy r x3 x2))]) C (metX4_joysOf l G (ad 0) r x1 x2 (by omega) (by omega)) 3 (lw_S q1186 q1187 q42 q1188) (by decide +kernel) ⟨rfl, rfl⟩ ⟨(Nat.le_of_ble_eq_true rfl), (Nat.le_of_ble_eq_true rfl)⟩ (KM_mv G) (hP.sub (ws' := [(ad 0, iA G 57 r)]) [1] rfl) hK hl rfl rfl (Nat.le_of_ble_eq_true rfl) ⟨(Nat.le_of_ble_eq_true rfl), (Nat.le_of_ble_eq_true rfl)⟩ dX4_swap_148 ?_
        refine lv_isub (x := (sJoy r x1 x4) + (sJoy r x3 x2)) (y := sJoy r x1 x2) hx hb dX4_swap_151 ?_
        refine lv_aload_n hx hb dX4_swap_152 rfl (lv_at hl 11 rfl) ?_
        refine va_get (D := gD G) (ci := 0) (v := .ref (ad 0)) (C := RX4) (T := TX4) (N := 20) hx hb hts in_X4 hown hK hP 0 rfl rfl 0 (by decide) (hts _ q1073) (fun _ h9 => h9) rfl dX4_swap_153 ?_
        refine lv_iload hx hb dX4_swap_156 (lv_at hl 1 rfl) ?_
        refine lv_iload hx hb dX4_swap_158 (lv_at hl 0 rfl) ?_
        refine c_S (rest := [.int (((sJoy r x1 x4) + (sJoy r x3 x2)) - (sJoy r x1 x2))]) C (metX4_joysOf l G (ad 0) r x3 x4 (by omega) (by omega)) 3 (lw_S q1186 q1187 q42 q1188) (by decide +kernel) ⟨rfl, rfl⟩ ⟨(Nat.le_of_ble_eq_true rfl), (Nat.le_of_ble_eq_true rfl)⟩ (KM_mv G) (hP.sub (ws' := [(ad 0, iA G 57 r)]) [1] rfl) hK hl rfl rfl (Nat.le_of_ble_eq_true rfl) ⟨(Nat.le_of_ble_eq_true rfl), (Nat.le_of_ble_eq_true rfl)⟩ dX4_swap_160 ?_
        refine lv_isub (x := ((sJoy r x1 x4) + (sJoy r x3 x2)) - (sJoy r x1 x2)) (y := sJoy r x3 x4) hx hb dX4_swap_163 ?_
        refine lv_istore (lv' := [(13, .int ((((sJoy r x1 x4) + (sJoy r x3 x2)) - (sJoy r x1 x2)) - (sJoy r x3 x4))), (12, .int (nI x4)), (11, .int (nI x3)), (10, .int (nI x2)), (9, .int (nI x1)), (8, .int (nI j)), (7, .int (nI i)), (6, .int (nI (100 * dn))), (5, .int (nI ((zz dn) / 2))), (4, .int (swB r el (100 * dn) (swI r el (100 * dn) i (swO r el (100 * dn) (zz dn / 2) i) j))), (3, .int (enc (swI r el (100 * dn) i (swO r el (100 * dn) (zz dn / 2) i) j))), (2, .int (sWPA r N ke so zz el (nI dn))), (0, .ref h), (1, .int (nI dn))]) hx hb dX4_swap_164 hl (Nat.le_of_ble_eq_true rfl) rfl (fun ls hl => ?_)
        refine lv_iload hx hb dX4_swap_166 (lv_at hl 0 rfl) ?_
        refine lv_iload hx hb dX4_swap_168 (lv_at hl 9 rfl) ?_
        refine lv_icmp_gt (x := (((sJoy r x1 x4) + (sJoy r x3 x2)) - (sJoy r x1 x2)) - (sJoy r x3 x4)) (y := swB r el (100 * dn) (swI r el (100 * dn) i (swO r el (100 * dn) (zz dn / 2) i) j)) (tgt := 176) hx hb dX4_swap_170 (by decide) (fun c_11 => ?_) (fun c_11 => ?_)
        · have zc_11 : ¬ ((((sJoy r x1 x4) + (sJoy r x3 x2)) - (sJoy r x1 x2)) - (sJoy r x3 x4)) ≤ (swB r el (100 * dn) (swI r el (100 * dn) i (swO r el (100 * dn) (zz dn / 2) i) j)) := Int32.not_le.mpr c_11
          refine lv_bipush (v := 10) hx hb dX4_swap_176 (by decide) ?_
          refine lv_iload hx hb dX4_swap_178 (lv_at hl 6 rfl) ?_
          refine n_imul hx hb 10 i dX4_swap_180 ?_
          refine lv_iload hx hb dX4_swap_181 (lv_at hl 5 rfl) ?_
          refine n_iadd hx hb (10 * i) j dX4_swap_183 ?_
          refine lv_istore_n (lv' := [(3, .int (nI ((10 * i) + j))), (13, .int ((((sJoy r x1 x4) + (sJoy r x3 x2)) - (sJoy r x1 x2)) - (sJoy r x3 x4))), (12, .int (nI x4)), (11, .int (nI x3)), (10, .int (nI x2)), (9, .int (nI x1)), (8, .int (nI j)), (7, .int (nI i)), (6, .int (nI (100 * dn))), (5, .int (nI ((zz dn) / 2))), (4, .int (swB r el (100 * dn) (swI r el (100 * dn) i (swO r el (100 * dn) (zz dn / 2) i) j))), (2, .int (sWPA r N ke so zz el (nI dn))), (0, .ref h), (1, .int (nI dn))]) hx hb dX4_swap_184 rfl hl (Nat.le_of_ble_eq_true rfl) rfl (fun ls hl => ?_)
          refine lv_iload hx hb dX4_swap_185 (lv_at hl 1 rfl) ?_
          refine lv_istore (lv' := [(4, .int ((((sJoy r x1 x4) + (sJoy r x3 x2)) - (sJoy r x1 x2)) - (sJoy r x3 x4))), (3, .int (nI ((10 * i) + j))), (13, .int ((((sJoy r x1 x4) + (sJoy r x3 x2)) - (sJoy r x1 x2)) - (sJoy r x3 x4))), (12, .int (nI x4)), (11, .int (nI x3)), (10, .int (nI x2)), (9, .int (nI x1)), (8, .int (nI j)), (7, .int (nI i)), (6, .int (nI (100 * dn))), (5, .int (nI ((zz dn) / 2))), (2, .int (sWPA r N ke so zz el (nI dn))), (0, .ref h), (1, .int (nI dn))]) hx hb dX4_swap_187 hl (Nat.le_of_ble_eq_true rfl) rfl (fun ls hl => ?_)
          refine n_iinc (k := 7) (lv' := [(8, .int (nI (j + 1))), (4, .int ((((sJoy r x1 x4) + (sJoy r x3 x2)) - (sJoy r x1 x2)) - (sJoy r x3 x4))), (3, .int (nI ((10 * i) + j))), (13, .int ((((sJoy r x1 x4) + (sJoy r x3 x2)) - (sJoy r x1 x2)) - (sJoy r x3 x4))), (12, .int (nI x4)), (11, .int (nI x3)), (10, .int (nI x2)), (9, .int (nI x1)), (7, .int (nI i)), (6, .int (nI (100 * dn))), (5, .int (nI ((zz dn) / 2))), (2, .int (sWPA r N ke so zz el (nI dn))), (0, .ref h), (1, .int (nI dn))]) hx hb j 1 dX4_swap_189 hl rfl (Nat.le_of_ble_eq_true rfl) rfl (fun ls hl => ?_)
          refine lv_goto (tgt := 50) hx hb dX4_swap_192 (by decide) ?_
          have e_12 : swB r el (100 * dn) (swI r el (100 * dn) i (swO r el (100 * dn) (zz dn / 2) i) (j + 1)) = (((sJoy r x1 x4) + (sJoy r x3 x2)) - (sJoy r x1 x2)) - (sJoy r x3 x4) := by rw [swI, if_pos (by omega)]; simp [swS, swBS, swV, encS, y1, y2, y3, y4, t_dn, c_10, c_11, zc_11]
          have e_13 : enc (swI r el (100 * dn) i (swO r el (100 * dn) (zz dn / 2) i) (j + 1)) = nI ((10 * i) + j) := by rw [swI, if_pos (by omega)]; simp [swS, swBS, swV, encS, y1, y2, y3, y4, t_dn, c_10, c_11, zc_11]
          exact ih_6 (j + 1) (by omega) (by omega) ls (by rw [e_12, e_13]; exact lv_sub hl [0, 8, 9, 10, 1, 2, 11, 12, 13] rfl)
        · have zc_11 : ((((sJoy r x1 x4) + (sJoy r x3 x2)) - (sJoy r x1 x2)) - (sJoy r x3 x4)) ≤ (swB r el (100 * dn) (swI r el (100 * dn) i (swO r el (100 * dn) (zz dn / 2) i) j)) := Int32.not_lt.mp c_11
          refine lv_goto (tgt := 189) hx hb dX4_swap_173 (by decide) ?_
          refine n_iinc (k := 5) (lv' := [(8, .int (nI (j + 1))), (13, .int ((((sJoy r x1 x4) + (sJoy r x3 x2)) - (sJoy r x1 x2)) - (sJoy r x3 x4))), (12, .int (nI x4)), (11, .int (nI x3)), (10, .int (nI x2)), (9, .int (nI x1)), (7, .int (nI i)), (6, .int (nI (100 * dn))), (5, .int (nI ((zz dn) / 2))), (4, .int (swB r el (100 * dn) (swI r el (100 * dn) i (swO r el (100 * dn) (zz dn / 2) i) j))), (3, .int (enc (swI r el (100 * dn) i (swO r el (100 * dn) (zz dn / 2) i) j))), (2, .int (sWPA r N ke so zz el (nI dn))), (0, .ref h), (1, .int (nI dn))]) hx hb j 1 dX4_swap_189 hl rfl (Nat.le_of_ble_eq_true rfl) rfl (fun ls hl => ?_)
          refine lv_goto (tgt := 50) hx hb dX4_swap_192 (by decide) ?_
          have e_14 : swB r el (100 * dn) (swI r el (100 * dn) i (swO r el (100 * dn) (zz dn / 2) i) (j + 1)) = swB r el (100 * dn) (swI r el (100 * dn) i (swO r el (100 * dn) (zz dn / 2) i) j) := by rw [swI, if_pos (by omega)]; simp [swS, swBS, swV, encS, y1, y2, y3, y4, t_dn, c_10, c_11, zc_11]
          have e_15 : enc (swI r el (100 * dn) i (swO r el (100 * dn) (zz dn / 2) i) (j + 1)) = enc (swI r el (100 * dn) i (swO r el (100 * dn) (zz dn / 2) i) j) := by rw [swI, if_pos (by omega)]; simp [swS, swBS, swV, encS, y1, y2, y3, y4, t_dn, c_10, c_11, zc_11]
          exact ih_6 (j + 1) (by omega) (by omega) ls (by rw [e_14, e_15]; exact lv_sub hl [0, 6, 7, 8, 9, 10, 11, 12, 13] rfl)
  · refine lv_iload_n hx hb dX4_swap_10 rfl (lv_at hl 0 rfl) ?_
    exact n_iret (v := sWPA r N ke so zz el d) C (by simp [sSwapA, c_1]) dX4_swap_11

set_option maxHeartbeats 4000000 in
set_option maxRecDepth 100000 in
theorem metX4_throat (l : Launch) (G : GG) (h : Nat) (ad : Nat → Nat) (iv : Nat → Int32) (ke so el : Nat → Int32) (zz : Nat → Nat) (d u f what : Int32) (hz : ∀ d, zz d ≤ 100) : MR l yX4_throat cX4_throat 12 (some .int) ({ frames := 3, cells := 0, slots := 0, locals := 64 }) [.ref h, .int d, .int u, .int f, .int what] [(h, mO ad iv), (ad 13, iA G 8 ke), (ad 16, iA G 8 so), (ad 17, iA G 8 (nIf zz)), (ad 18, iA G 800 el)] G (KM G) (sThroatA ke so zz el d u f what) := by
  -- rows printed by wip/tools/gen.py
  refine mr_mk RX4 (by decide) rfl (Nat.le_of_ble_eq_true rfl) ?_
  intro p0_ e0_ s m args below meth c C hP hK ls hl
  have hx := C.1
  have hb := C.2.1
  have hml := C.2.2.2.2.1
  have hown := C.2.2.2.2.2.1
  have hts := C.2.2.2.2.2.2
  have hl : lv_has ls 12 [(0, .ref h), (1, .int d), (2, .int u), (3, .int f), (4, .int what)] := hl
  refine lv_iload_n hx hb dX4_throat_0 rfl (lv_at hl 2 rfl) ?_
  refine lv_iconst (v := 0) hx hb dX4_throat_1 (by decide) ?_
  refine lv_bipush (v := 30) hx hb dX4_throat_2 (by decide) ?_
  refine c_S (rest := []) C (metX4_isIn l G u 0 30) 3 (lw_S q1145 q1146 q42 q1147) (by decide +kernel) ⟨rfl, rfl⟩ ⟨(Nat.le_of_ble_eq_true rfl), (Nat.le_of_ble_eq_true rfl)⟩ (KM_mv G) (hP.sub (ws' := []) [] rfl) hK hl rfl rfl (Nat.le_of_ble_eq_true rfl) ⟨(Nat.le_of_ble_eq_true rfl), (Nat.le_of_ble_eq_true rfl)⟩ dX4_throat_4 ?_
  refine n_if_eqB (b := (sIn u 0 30)) (tgt := 30) hx hb dX4_throat_7 (by decide) (fun c_1 => ?_) (fun c_1 => ?_)
  · refine lv_iconst (v := (-1)) hx hb dX4_throat_30 (by decide) ?_
    exact n_iret (v := (-1)) C (by simp [sThroatA, c_1]) dX4_throat_31
  · obtain ⟨u_2, hu_2, gu_2, rfl⟩ := sIn_t (a := 0) (b := 30) (by omega) (by omega) c_1
    have tu_2 : tn (nI u_2) = u_2 := nI_clamp (by omega)
    refine lv_iload_n hx hb dX4_throat_10 rfl (lv_at hl 3 rfl) ?_
    refine lv_iconst (v := 0) hx hb dX4_throat_11 (by decide) ?_
    refine lv_bipush (v := 9) hx hb dX4_throat_12 (by decide) ?_
    refine c_S (rest := []) C (metX4_isIn l G f 0 9) 3 (lw_S q1145 q1146 q42 q1147) (by decide +kernel) ⟨rfl, rfl⟩ ⟨(Nat.le_of_ble_eq_true rfl), (Nat.le_of_ble_eq_true rfl)⟩ (KM_mv G) (hP.sub (ws' := []) [] rfl) hK hl rfl rfl (Nat.le_of_ble_eq_true rfl) ⟨(Nat.le_of_ble_eq_true rfl), (Nat.le_of_ble_eq_true rfl)⟩ dX4_throat_14 ?_
    refine n_if_eqB (b := (sIn f 0 9)) (tgt := 30) hx hb dX4_throat_17 (by decide) (fun c_3 => ?_) (fun c_3 => ?_)
    · refine lv_iconst (v := (-1)) hx hb dX4_throat_30 (by decide) ?_
      exact n_iret (v := (-1)) C (by simp [sThroatA, c_1, tu_2, c_3]) dX4_throat_31
    · obtain ⟨f_4, hf_4, gf_4, rfl⟩ := sIn_t (a := 0) (b := 9) (by omega) (by omega) c_3
      have tf_4 : tn (nI f_4) = f_4 := nI_clamp (by omega)
      refine lv_iload hx hb dX4_throat_20 (lv_at hl 4 rfl) ?_
      refine lv_iconst (v := 0) hx hb dX4_throat_22 (by decide) ?_
      refine lv_iconst (v := 1) hx hb dX4_throat_23 (by decide) ?_
      refine c_S (rest := []) C (metX4_isIn l G what 0 1) 3 (lw_S q1145 q1146 q42 q1147) (by decide +kernel) ⟨rfl, rfl⟩ ⟨(Nat.le_of_ble_eq_true rfl), (Nat.le_of_ble_eq_true rfl)⟩ (KM_mv G) (hP.sub (ws' := []) [] rfl) hK hl rfl rfl (Nat.le_of_ble_eq_true rfl) ⟨(Nat.le_of_ble_eq_true rfl), (Nat.le_of_ble_eq_true rfl)⟩ dX4_throat_24 ?_
      refine n_if_neB (b := (sIn what 0 1)) (tgt := 32) hx hb dX4_throat_27 (by decide) (fun c_5 => ?_) (fun c_5 => ?_)
      · obtain ⟨what_6, hwhat_6, gwhat_6, rfl⟩ := sIn_t (a := 0) (b := 1) (by omega) (by omega) c_5
        have twhat_6 : tn (nI what_6) = what_6 := nI_clamp (by omega)
        refine lv_aload_n hx hb dX4_throat_32 rfl (lv_at hl 0 rfl) ?_
        refine lv_iload_n hx hb dX4_throat_33 rfl (lv_at hl 1 rfl) ?_
        refine lv_iconst (v := (-1)) hx hb dX4_throat_34 (by decide) ?_
        refine c_V (rest := []) C (metX4_wrongRow l G h ad iv ke so d (-1)) 2 (lw_V q1138 q1140 qs23 q42 q1141) (by decide +kernel) ⟨rfl, rfl⟩ ⟨(Nat.le_of_ble_eq_true rfl), (Nat.le_of_ble_eq_true rfl)⟩ (KM_mv G) (va_recv hK hP (ci := 0) (q0 := 0) rfl rfl) (hP.sub (ws' := [(h, mO ad iv), (ad 13, iA G 8 ke), (ad 16, iA G 8 so)]) [0, 1, 2] rfl) hK hl rfl rfl (Nat.le_of_ble_eq_true rfl) ⟨(Nat.le_of_ble_eq_true rfl), (Nat.le_of_ble_eq_true rfl)⟩ dX4_throat_35 ?_
        refine lv_istore (lv' := [(5, .int (sWR ke so d (-1))), (0, .ref h), (1, .int d), (2, .int (nI u_2)), (3, .int (nI f_4)), (4, .int (nI what_6))]) hx hb dX4_throat_38 hl (Nat.le_of_ble_eq_true rfl) rfl (fun ls hl => ?_)
        refine lv_iload hx hb dX4_throat_40 (lv_at hl 0 rfl) ?_
        refine lv_if_eq (x := sWR ke so d (-1)) (tgt := 48) hx hb dX4_throat_42 (by decide) (fun c_7 => ?_) (fun c_7 => ?_)
        · obtain ⟨dn, gd, k1, k2, rfl⟩ := sWR_0 c_7
          have t_dn : tn (nI dn) = dn := nI_clamp (by omega)
          refine lv_iconst (v := 0) hx hb dX4_throat_48 (by decide) ?_
          refine lv_istore (lv' := [(6, .int 0), (5, .int (sWR ke so (nI dn) (-1))), (0, .ref h), (1, .int (nI dn)), (2, .int (nI u_2)), (3, .int (nI f_4)), (4, .int (nI what_6))]) hx hb dX4_throat_49 hl (Nat.le_of_ble_eq_true rfl) rfl (fun ls hl => ?_)
          refine lv_iconst (v := 0) hx hb dX4_throat_51 (by decide) ?_
          refine lv_istore (lv' := [(7, .int 0), (6, .int 0), (5, .int (sWR ke so (nI dn) (-1))), (0, .ref h), (1, .int (nI dn)), (2, .int (nI u_2)), (3, .int (nI f_4)), (4, .int (nI what_6))]) hx hb dX4_throat_52 hl (Nat.le_of_ble_eq_true rfl) rfl (fun ls hl => ?_)
          suffices hlp_8 : (∀ (n k : Nat), k + n = 8 → ∀ (ls : Array Slot), lv_has ls 12 [(7, .int (nI k)), (6, .int (thS el (100 * dn) (zz dn) (nI u_2) (nI f_4) k)), (5, .int (sWR ke so (nI dn) (-1))), (0, .ref h), (1, .int (nI dn)), (2, .int (nI u_2)), (3, .int (nI f_4)), (4, .int (nI what_6))] → W p0_ l e0_ ({ frames := 3, cells := 0, slots := 0, locals := 64 } : Room) s m args below meth c s.heap [] (0) (0) (MQ below (vp_Si (fun rr9 => rr9 = sThroatA ke so zz el (nI dn) (nI u_2) (nI f_4) (nI what_6))) args s 0 0 (fun _ => False)) (F0 m 54 ls [])) by
            exact hlp_8 (8) 0 (by omega) ls (lv_sub hl [0, 1, 2, 3, 4, 5, 6, 7] rfl)
          have hend_8 : ∀ (ls : Array Slot), lv_has ls 12 [(7, .int (nI 8)), (6, .int (thS el (100 * dn) (zz dn) (nI u_2) (nI f_4) 8)), (5, .int (sWR ke so (nI dn) (-1))), (0, .ref h), (1, .int (nI dn)), (2, .int (nI u_2)), (3, .int (nI f_4)), (4, .int (nI what_6))] → W p0_ l e0_ ({ frames := 3, cells := 0, slots := 0, locals := 64 } : Room) s m args below meth c s.heap [] (0) (0) (MQ below (vp_Si (fun rr9 => rr9 = sThroatA ke so zz el (nI dn) (nI u_2) (nI f_4) (nI what_6))) args s 0 0 (fun _ => False)) (F0 m 54 ls []) := by
            intro ls hl
            refine lv_iload hx hb dX4_throat_54 (lv_at hl 0 rfl) ?_
            refine lv_bipush (v := 8) hx hb dX4_throat_56 (by decide) ?_
            refine n_ic_ge (x := 8) (y := 8) (tgt := 158) hx hb (by omega) (by omega) dX4_throat_58 (by decide) (fun c_9 => ?_) (fun c_9 => absurd c_9 (by omega))
            refine lv_iload hx hb dX4_throat_158 (lv_at hl 7 rfl) ?_
            refine n_if_ne (x := what_6) (tgt := 168) hx hb (by omega) dX4_throat_160 (by decide) (fun c_10 => ?_) (fun c_10 => ?_)
            · have zc_10 : ¬ nI what_6 = 0 := nI_ne0 c_10 (by omega)
              have yc_10 : ¬ what_6 = 0 := Nat.ne_of_gt c_10
              refine lv_iload hx hb dX4_throat_168 (lv_at hl 1 rfl) ?_
              refine c_S (rest := []) C (metX4_bits l G (thS el (100 * dn) (zz dn) (nI u_2) (nI f_4) 8)) 1 (lw_S q1323 q1324 q42 q1325) (by decide +kernel) ⟨rfl, rfl⟩ ⟨(Nat.le_of_ble_eq_true rfl), (Nat.le_of_ble_eq_true rfl)⟩ (KM_mv G) (hP.sub (ws' := []) [] rfl) hK hl rfl rfl (Nat.le_of_ble_eq_true rfl) ⟨(Nat.le_of_ble_eq_true rfl), (Nat.le_of_ble_eq_true rfl)⟩ dX4_throat_170 ?_
              exact n_iret (v := sBits (thS el (100 * dn) (zz dn) (nI u_2) (nI f_4) 8) 10) C (by simp [sThroatA, c_1, tu_2, c_3, tf_4, c_5, twhat_6, c_7, t_dn, k1, k2, c_9, c_10, yc_10, zc_10]) dX4_throat_173
            · obtain rfl := c_10
              have zc_10 : (nI 0 = 0) = True := eq_true rfl
              refine lv_iload hx hb dX4_throat_163 (lv_at hl 1 rfl) ?_
              refine lv_goto (tgt := 173) hx hb dX4_throat_165 (by decide) ?_
              exact n_iret (v := thS el (100 * dn) (zz dn) (nI u_2) (nI f_4) 8) C (by simp [sThroatA, c_1, tu_2, c_3, tf_4, c_5, twhat_6, c_7, t_dn, k1, k2, c_9, zc_10]) dX4_throat_173
          intro n
          induction n with
          | zero =>
            intro k hi_8 ls hl
            obtain e_8 : k = 8 := by omega
            first | (subst e_8; exact hend_8 ls hl) | (rw [e_8] at hl; exact hend_8 ls hl)
          | succ n ih_8 =>
            intro k hi_8 ls hl
            refine lv_iload hx hb dX4_throat_54 (lv_at hl 0 rfl) ?_
            refine lv_bipush (v := 8) hx hb dX4_throat_56 (by decide) ?_
            refine n_ic_ge (x := k) (y := 8) (tgt := 158) hx hb (by omega) (by omega) dX4_throat_58 (by decide) (fun c_11 => absurd c_11 (by omega)) (fun c_11 => ?_)
            refine lv_iload_n hx hb dX4_throat_61 rfl (lv_at hl 5 rfl) ?_
            refine lv_istore (lv' := [(8, .int (nI u_2)), (7, .int (nI k)), (6, .int (thS el (100 * dn) (zz dn) (nI u_2) (nI f_4) k)), (5, .int (sWR ke so (nI dn) (-1))), (0, .ref h), (1, .int (nI dn)), (2, .int (nI u_2)), (3, .int (nI f_4)), (4, .int (nI what_6))]) hx hb dX4_throat_62 hl (Nat.le_of_ble_eq_true rfl) rfl (fun ls hl => ?_)
            refine lv_iconst (v := 1) hx hb dX4_throat_64 (by decide) ?_
            refine lv_istore (lv' := [(9, .int 1), (8, .int (nI u_2)), (7, .int (nI k)), (6, .int (thS el (100 * dn) (zz dn) (nI u_2) (nI f_4) k)), (5, .int (sWR ke so (nI dn) (-1))), (0, .ref h), (1, .int (nI dn)), (2, .int (nI u_2)), (3, .int (nI f_4)), (4, .int (nI what_6))]) hx hb dX4_throat_65 hl (Nat.le_of_ble_eq_true rfl) rfl (fun ls hl => ?_)
            refine lv_iconst (v := 0) hx hb dX4_throat_67 (by decide) ?_
            refine lv_istore (lv' := [(10, .int 0), (9, .int 1), (8, .int (nI u_2)), (7, .int (nI k)), (6, .int (thS el (100 * dn) (zz dn) (nI u_2) (nI f_4) k)), (5, .int (sWR ke so (nI dn) (-1))), (0, .ref h), (1, .int (nI dn)), (2, .int (nI u_2)), (3, .int (nI f_4)), (4, .int (nI what_6))]) hx hb dX4_throat_68 hl (Nat.le_of_ble_eq_true rfl) rfl (fun ls hl => ?_)
            suffices hlp_12 : (∀ (n i : Nat), i + n = zz dn → ∀ (ls : Array Slot), lv_has ls 12 [(10, .int (nI i)), (9, .int (bI (tk el (100 * dn) (nI u_2) (sBite (nI k) (nI f_4)) i))), (8, .int (tl (nI u_2) (sBite (nI k) (nI f_4)) i)), (7, .int (nI k)), (6, .int (thS el (100 * dn) (zz dn) (nI u_2) (nI f_4) k)), (5, .int (sWR ke so (nI dn) (-1))), (0, .ref h), (1, .int (nI dn)), (2, .int (nI u_2)), (3, .int (nI f_4)), (4, .int (nI what_6))] → W p0_ l e0_ ({ frames := 3, cells := 0, slots := 0, locals := 64 } : Room) s m args below meth c s.heap [] (0) (0) (MQ below (vp_Si (fun rr9 => rr9 = sThroatA ke so zz el (nI dn) (nI u_2) (nI f_4) (nI what_6))) args s 0 0 (fun _ => False)) (F0 m 70 ls [])) by
              exact hlp_12 (zz dn) 0 (by omega) ls (lv_sub hl [0, 1, 2, 3, 4, 5, 6, 7, 8, 9, 10] rfl)
            have hend_12 : ∀ (ls : Array Slot), lv_has ls 12 [(10, .int (nI (zz dn))), (9, .int (bI (tk el (100 * dn) (nI u_2) (sBite (nI k) (nI f_4)) (zz dn)))), (8, .int (tl (nI u_2) (sBite (nI k) (nI f_4)) (zz dn))), (7, .int (nI k)), (6, .int (thS el (100 * dn) (zz dn) (nI u_2) (nI f_4) k)), (5, .int (sWR ke so (nI dn) (-1))), (0, .ref h), (1, .int (nI dn)), (2, .int (nI u_2)), (3, .int (nI f_4)), (4, .int (nI what_6))] → W p0_ l e0_ ({ frames := 3, cells := 0, slots := 0, locals := 64 } : Room) s m args below meth c s.heap [] (0) (0) (MQ below (vp_Si (fun rr9 => rr9 = sThroatA ke so zz el (nI dn) (nI u_2) (nI f_4) (nI what_6))) args s 0 0 (fun _ => False)) (F0 m 70 ls []) := by
              intro ls hl
              refine lv_iload hx hb dX4_throat_70 (lv_at hl 0 rfl) ?_
              refine lv_aload_n hx hb dX4_throat_72 rfl (lv_at hl 6 rfl) ?_
              refine va_get (D := gD G) (ci := 0) (v := .ref (ad 17)) (C := RX4) (T := TX4) (N := 20) hx hb hts in_X4 hown hK hP 0 rfl rfl 17 (by decide) (hts _ q1090) (fun _ h9 => h9) rfl dX4_throat_73 ?_
              refine lv_iload_n hx hb dX4_throat_76 rfl (lv_at hl 7 rfl) ?_
              refine n_iald C hK hP 3 dn rfl (by omega) (by omega) dX4_throat_77 ?_
              have hz_13 := hz dn
              refine n_ic_ge (x := (zz dn)) (y := zz dn) (tgt := 134) hx hb (by omega) (by omega) dX4_throat_78 (by decide) (fun c_14 => ?_) (fun c_14 => absurd c_14 (by omega))
              refine lv_iload hx hb dX4_throat_134 (lv_at hl 4 rfl) ?_
              refine lv_iload hx hb dX4_throat_136 (lv_at hl 1 rfl) ?_
              refine n_if_eqB (b := tk el (100 * dn) (nI u_2) (sBite (nI k) (nI f_4)) (zz dn)) (tgt := 148) hx hb dX4_throat_138 (by decide) (fun c_15 => ?_) (fun c_15 => ?_)
              · refine lv_iconst (v := 0) hx hb dX4_throat_148 (by decide) ?_
                refine lv_ior (x := thS el (100 * dn) (zz dn) (nI u_2) (nI f_4) k) (y := 0) hx hb dX4_throat_149 ?_
                refine lv_istore (lv' := [(6, .int ((thS el (100 * dn) (zz dn) (nI u_2) (nI f_4) k) ||| 0)), (10, .int (nI (zz dn))), (9, .int (bI (tk el (100 * dn) (nI u_2) (sBite (nI k) (nI f_4)) (zz dn)))), (8, .int (tl (nI u_2) (sBite (nI k) (nI f_4)) (zz dn))), (7, .int (nI k)), (5, .int (sWR ke so (nI dn) (-1))), (0, .ref h), (1, .int (nI dn)), (2, .int (nI u_2)), (3, .int (nI f_4)), (4, .int (nI what_6))]) hx hb dX4_throat_150 hl (Nat.le_of_ble_eq_true rfl) rfl (fun ls hl => ?_)
                refine n_iinc (k := 4) (lv' := [(7, .int (nI (k + 1))), (6, .int ((thS el (100 * dn) (zz dn) (nI u_2) (nI f_4) k) ||| 0)), (10, .int (nI (zz dn))), (9, .int (bI (tk el (100 * dn) (nI u_2) (sBite (nI k) (nI f_4)) (zz dn)))), (8, .int (tl (nI u_2) (sBite (nI k) (nI f_4)) (zz dn))), (5, .int (sWR ke so (nI dn) (-1))), (0, .ref h), (1, .int (nI dn)), (2, .int (nI u_2)), (3, .int (nI f_4)), (4, .int (nI what_6))]) hx hb k 1 dX4_throat_152 hl rfl (Nat.le_of_ble_eq_true rfl) rfl (fun ls hl => ?_)
                refine lv_goto (tgt := 54) hx hb dX4_throat_155 (by decide) ?_
                have e_16 : thS el (100 * dn) (zz dn) (nI u_2) (nI f_4) (k + 1) = (thS el (100 * dn) (zz dn) (nI u_2) (nI f_4) k) ||| 0 := by rw [thS]; simp [tu_2, tf_4, twhat_6, t_dn, c_11, c_14, c_15]
                exact ih_8 (k + 1) (by omega) ls (by rw [e_16]; exact lv_sub hl [0, 1, 5, 6, 7, 8, 9, 10] rfl)
              · refine lv_iconst (v := 1) hx hb dX4_throat_141 (by decide) ?_
                refine lv_iload hx hb dX4_throat_142 (lv_at hl 3 rfl) ?_
                refine lv_ishl (x := 1) (y := nI k) hx hb dX4_throat_144 ?_
                refine lv_goto (tgt := 149) hx hb dX4_throat_145 (by decide) ?_
                refine lv_ior (x := thS el (100 * dn) (zz dn) (nI u_2) (nI f_4) k) (y := 1 <<< ((nI k) &&& 31)) hx hb dX4_throat_149 ?_
                refine lv_istore (lv' := [(6, .int ((thS el (100 * dn) (zz dn) (nI u_2) (nI f_4) k) ||| (1 <<< ((nI k) &&& 31)))), (10, .int (nI (zz dn))), (9, .int (bI (tk el (100 * dn) (nI u_2) (sBite (nI k) (nI f_4)) (zz dn)))), (8, .int (tl (nI u_2) (sBite (nI k) (nI f_4)) (zz dn))), (7, .int (nI k)), (5, .int (sWR ke so (nI dn) (-1))), (0, .ref h), (1, .int (nI dn)), (2, .int (nI u_2)), (3, .int (nI f_4)), (4, .int (nI what_6))]) hx hb dX4_throat_150 hl (Nat.le_of_ble_eq_true rfl) rfl (fun ls hl => ?_)
                refine n_iinc (k := 4) (lv' := [(7, .int (nI (k + 1))), (6, .int ((thS el (100 * dn) (zz dn) (nI u_2) (nI f_4) k) ||| (1 <<< ((nI k) &&& 31)))), (10, .int (nI (zz dn))), (9, .int (bI (tk el (100 * dn) (nI u_2) (sBite (nI k) (nI f_4)) (zz dn)))), (8, .int (tl (nI u_2) (sBite (nI k) (nI f_4)) (zz dn))), (5, .int (sWR ke so (nI dn) (-1))), (0, .ref h), (1, .int (nI dn)), (2, .int (nI u_2)), (3, .int (nI f_4)), (4, .int (nI what_6))]) hx hb k 1 dX4_throat_152 hl rfl (Nat.le_of_ble_eq_true rfl) rfl (fun ls hl => ?_)
                refine lv_goto (tgt := 54) hx hb dX4_throat_155 (by decide) ?_
                have e_17 : thS el (100 * dn) (zz dn) (nI u_2) (nI f_4) (k + 1) = (thS el (100 * dn) (zz dn) (nI u_2) (nI f_4) k) ||| (1 <<< ((nI k) &&& 31)) := by rw [thS]; simp [tu_2, tf_4, twhat_6, t_dn, c_11, c_14, c_15]
                exact ih_8 (k + 1) (by omega) ls (by rw [e_17]; exact lv_sub hl [0, 1, 5, 6, 7, 8, 9, 10] rfl)
            intro n
            induction n with
            | zero =>
              intro i hi_12 ls hl
              obtain e_12 : i = zz dn := by omega
              first | (subst e_12; exact hend_12 ls hl) | (rw [e_12] at hl; exact hend_12 ls hl)
            | succ n ih_12 =>
              intro i hi_12 ls hl
              refine lv_iload hx hb dX4_throat_70 (lv_at hl 0 rfl) ?_
              refine lv_aload_n hx hb dX4_throat_72 rfl (lv_at hl 6 rfl) ?_
              refine va_get (D := gD G) (ci := 0) (v := .ref (ad 17)) (C := RX4) (T := TX4) (N := 20) hx hb hts in_X4 hown hK hP 0 rfl rfl 17 (by decide) (hts _ q1090) (fun _ h9 => h9) rfl dX4_throat_73 ?_
              refine lv_iload_n hx hb dX4_throat_76 rfl (lv_at hl 7 rfl) ?_
              refine n_iald C hK hP 3 dn rfl (by omega) (by omega) dX4_throat_77 ?_
              have hz_18 := hz dn
              refine n_ic_ge (x := i) (y := zz dn) (tgt := 134) hx hb (by omega) (by omega) dX4_throat_78 (by decide) (fun c_19 => absurd c_19 (by omega)) (fun c_19 => ?_)
              refine lv_iload hx hb dX4_throat_81 (lv_at hl 2 rfl) ?_
              refine lv_iload hx hb dX4_throat_83 (lv_at hl 3 rfl) ?_
              refine lv_iload_n hx hb dX4_throat_85 rfl (lv_at hl 9 rfl) ?_
              refine c_S (rest := [.int (tl (nI u_2) (sBite (nI k) (nI f_4)) i)]) C (metX4_bite l G (nI k) (nI f_4)) 2 (lw_S q1195 q1196 q42 q1197) (by decide +kernel) ⟨rfl, rfl⟩ ⟨(Nat.le_of_ble_eq_true rfl), (Nat.le_of_ble_eq_true rfl)⟩ (KM_mv G) (hP.sub (ws' := []) [] rfl) hK hl rfl rfl (Nat.le_of_ble_eq_true rfl) ⟨(Nat.le_of_ble_eq_true rfl), (Nat.le_of_ble_eq_true rfl)⟩ dX4_throat_86 ?_
              refine c_S (rest := []) C (metX4_least l G (tl (nI u_2) (sBite (nI k) (nI f_4)) i) (sBite (nI k) (nI f_4))) 2 (lw_S q1198 q1199 q42 q1200) (by decide +kernel) ⟨rfl, rfl⟩ ⟨(Nat.le_of_ble_eq_true rfl), (Nat.le_of_ble_eq_true rfl)⟩ (KM_mv G) (hP.sub (ws' := []) [] rfl) hK hl rfl rfl (Nat.le_of_ble_eq_true rfl) ⟨(Nat.le_of_ble_eq_true rfl), (Nat.le_of_ble_eq_true rfl)⟩ dX4_throat_89 ?_
              refine lv_istore (lv' := [(11, .int (mn (tl (nI u_2) (sBite (nI k) (nI f_4)) i) (sBite (nI k) (nI f_4)))), (10, .int (nI i)), (9, .int (bI (tk el (100 * dn) (nI u_2) (sBite (nI k) (nI f_4)) i))), (8, .int (tl (nI u_2) (sBite (nI k) (nI f_4)) i)), (7, .int (nI k)), (6, .int (thS el (100 * dn) (zz dn) (nI u_2) (nI f_4) k)), (5, .int (sWR ke so (nI dn) (-1))), (0, .ref h), (1, .int (nI dn)), (2, .int (nI u_2)), (3, .int (nI f_4)), (4, .int (nI what_6))]) hx hb dX4_throat_92 hl (Nat.le_of_ble_eq_true rfl) rfl (fun ls hl => ?_)
              refine lv_iload hx hb dX4_throat_94 (lv_at hl 2 rfl) ?_
              refine lv_aload_n hx hb dX4_throat_96 rfl (lv_at hl 7 rfl) ?_
              refine va_get (D := gD G) (ci := 0) (v := .ref (ad 18)) (C := RX4) (T := TX4) (N := 20) hx hb hts in_X4 hown hK hP 0 rfl rfl 18 (by decide) (hts _ q1091) (fun _ h9 => h9) rfl dX4_throat_97 ?_
              refine lv_bipush (v := 100) hx hb dX4_throat_100 (by decide) ?_
              refine lv_iload_n hx hb dX4_throat_102 rfl (lv_at hl 8 rfl) ?_
              refine n_imul hx hb 100 dn dX4_throat_103 ?_
              refine lv_iload hx hb dX4_throat_104 (lv_at hl 1 rfl) ?_
              refine n_iadd hx hb (100 * dn) i dX4_throat_106 ?_
              refine n_iald C hK hP 4 ((100 * dn) + i) rfl (by omega) (by omega) dX4_throat_107 ?_
              refine lv_iload hx hb dX4_throat_108 (lv_at hl 0 rfl) ?_
              refine lv_icmp_ne (x := el ((100 * dn) + i)) (y := mn (tl (nI u_2) (sBite (nI k) (nI f_4)) i) (sBite (nI k) (nI f_4))) (tgt := 117) hx hb dX4_throat_110 (by decide) (fun c_20 => ?_) (fun c_20 => ?_)
              · refine lv_iconst (v := 0) hx hb dX4_throat_117 (by decide) ?_
                refine lv_iand (x := bI (tk el (100 * dn) (nI u_2) (sBite (nI k) (nI f_4)) i)) (y := 0) hx hb dX4_throat_118 ?_
                refine lv_istore (lv' := [(9, .int ((bI (tk el (100 * dn) (nI u_2) (sBite (nI k) (nI f_4)) i)) &&& 0)), (11, .int (mn (tl (nI u_2) (sBite (nI k) (nI f_4)) i) (sBite (nI k) (nI f_4)))), (10, .int (nI i)), (8, .int (tl (nI u_2) (sBite (nI k) (nI f_4)) i)), (7, .int (nI k)), (6, .int (thS el (100 * dn) (zz dn) (nI u_2) (nI f_4) k)), (5, .int (sWR ke so (nI dn) (-1))), (0, .ref h), (1, .int (nI dn)), (2, .int (nI u_2)), (3, .int (nI f_4)), (4, .int (nI what_6))]) hx hb dX4_throat_119 hl (Nat.le_of_ble_eq_true rfl) rfl (fun ls hl => ?_)
                refine lv_iload hx hb dX4_throat_121 (lv_at hl 3 rfl) ?_
                refine lv_iload hx hb dX4_throat_123 (lv_at hl 1 rfl) ?_
                refine lv_isub (x := tl (nI u_2) (sBite (nI k) (nI f_4)) i) (y := mn (tl (nI u_2) (sBite (nI k) (nI f_4)) i) (sBite (nI k) (nI f_4))) hx hb dX4_throat_125 ?_
                refine lv_istore (lv' := [(8, .int ((tl (nI u_2) (sBite (nI k) (nI f_4)) i) - (mn (tl (nI u_2) (sBite (nI k) (nI f_4)) i) (sBite (nI k) (nI f_4))))), (9, .int ((bI (tk el (100 * dn) (nI u_2) (sBite (nI k) (nI f_4)) i)) &&& 0)), (11, .int (mn (tl (nI u_2) (sBite (nI k) (nI f_4)) i) (sBite (nI k) (nI f_4)))), (10, .int (nI i)), (7, .int (nI k)), (6, .int (thS el (100 * dn) (zz dn) (nI u_2) (nI f_4) k)), (5, .int (sWR ke so (nI dn) (-1))), (0, .ref h), (1, .int (nI dn)), (2, .int (nI u_2)), (3, .int (nI f_4)), (4, .int (nI what_6))]) hx hb dX4_throat_126 hl (Nat.le_of_ble_eq_true rfl) rfl (fun ls hl => ?_)
                refine n_iinc (k := 3) (lv' := [(10, .int (nI (i + 1))), (8, .int ((tl (nI u_2) (sBite (nI k) (nI f_4)) i) - (mn (tl (nI u_2) (sBite (nI k) (nI f_4)) i) (sBite (nI k) (nI f_4))))), (9, .int ((bI (tk el (100 * dn) (nI u_2) (sBite (nI k) (nI f_4)) i)) &&& 0)), (11, .int (mn (tl (nI u_2) (sBite (nI k) (nI f_4)) i) (sBite (nI k) (nI f_4)))), (7, .int (nI k)), (6, .int (thS el (100 * dn) (zz dn) (nI u_2) (nI f_4) k)), (5, .int (sWR ke so (nI dn) (-1))), (0, .ref h), (1, .int (nI dn)), (2, .int (nI u_2)), (3, .int (nI f_4)), (4, .int (nI what_6))]) hx hb i 1 dX4_throat_128 hl rfl (Nat.le_of_ble_eq_true rfl) rfl (fun ls hl => ?_)
                refine lv_goto (tgt := 70) hx hb dX4_throat_131 (by decide) ?_
                have e_21 : bI (tk el (100 * dn) (nI u_2) (sBite (nI k) (nI f_4)) (i + 1)) = (bI (tk el (100 * dn) (nI u_2) (sBite (nI k) (nI f_4)) i)) &&& 0 := by first | (rw [bI_and1]; simp [tk, tu_2, tf_4, twhat_6, t_dn, c_19, c_20]; done) | (rw [bI_and0]; simp [tk, tu_2, tf_4, twhat_6, t_dn, c_19, c_20]; done)
                have e_22 : tl (nI u_2) (sBite (nI k) (nI f_4)) (i + 1) = (tl (nI u_2) (sBite (nI k) (nI f_4)) i) - (mn (tl (nI u_2) (sBite (nI k) (nI f_4)) i) (sBite (nI k) (nI f_4))) := by rfl
                exact ih_12 (i + 1) (by omega) ls (by rw [e_21, e_22]; exact lv_sub hl [0, 2, 1, 4, 5, 6, 7, 8, 9, 10, 11] rfl)
              · refine lv_iconst (v := 1) hx hb dX4_throat_113 (by decide) ?_
                refine lv_goto (tgt := 118) hx hb dX4_throat_114 (by decide) ?_
                refine lv_iand (x := bI (tk el (100 * dn) (nI u_2) (sBite (nI k) (nI f_4)) i)) (y := 1) hx hb dX4_throat_118 ?_
                refine lv_istore (lv' := [(9, .int ((bI (tk el (100 * dn) (nI u_2) (sBite (nI k) (nI f_4)) i)) &&& 1)), (11, .int (mn (tl (nI u_2) (sBite (nI k) (nI f_4)) i) (sBite (nI k) (nI f_4)))), (10, .int (nI i)), (8, .int (tl (nI u_2) (sBite (nI k) (nI f_4)) i)), (7, .int (nI k)), (6, .int (thS el (100 * dn) (zz dn) (nI u_2) (nI f_4) k)), (5, .int (sWR ke so (nI dn) (-1))), (0, .ref h), (1, .int (nI dn)), (2, .int (nI u_2)), (3, .int (nI f_4)), (4, .int (nI what_6))]) hx hb dX4_throat_119 hl (Nat.le_of_ble_eq_true rfl) rfl (fun ls hl => ?_)
                refine lv_iload hx hb dX4_throat_121 (lv_at hl 3 rfl) ?_
                refine lv_iload hx hb dX4_throat_123 (lv_at hl 1 rfl) ?_
                refine lv_isub (x := tl (nI u_2) (sBite (nI k) (nI f_4)) i) (y := mn (tl (nI u_2) (sBite (nI k) (nI f_4)) i) (sBite (nI k) (nI f_4))) hx hb dX4_throat_125 ?_
                refine lv_istore (lv' := [(8, .int ((tl (nI u_2) (sBite (nI k) (nI f_4)) i) - (mn (tl (nI u_2) (sBite (nI k) (nI f_4)) i) (sBite (nI k) (nI f_4))))), (9, .int ((bI (tk el (100 * dn) (nI u_2) (sBite (nI k) (nI f_4)) i)) &&& 1)), (11, .int (mn (tl (nI u_2) (sBite (nI k) (nI f_4)) i) (sBite (nI k) (nI f_4)))), (10, .int (nI i)), (7, .int (nI k)), (6, .int (thS el (100 * dn) (zz dn) (nI u_2) (nI f_4) k)), (5, .int (sWR ke so (nI dn) (-1))), (0, .ref h), (1, .int (nI dn)), (2, .int (nI u_2)), (3, .int (nI f_4)), (4, .int (nI what_6))]) hx hb dX4_throat_126 hl (Nat.le_of_ble_eq_true rfl) rfl (fun ls hl => ?_)
                refine n_iinc (k := 3) (lv' := [(10, .int (nI (i + 1))), (8, .int ((tl (nI u_2) (sBite (nI k) (nI f_4)) i) - (mn (tl (nI u_2) (sBite (nI k) (nI f_4)) i) (sBite (nI k) (nI f_4))))), (9, .int ((bI (tk el (100 * dn) (nI u_2) (sBite (nI k) (nI f_4)) i)) &&& 1)), (11, .int (mn (tl (nI u_2) (sBite (nI k) (nI f_4)) i) (sBite (nI k) (nI f_4)))), (7, .int (nI k)), (6, .int (thS el (100 * dn) (zz dn) (nI u_2) (nI f_4) k)), (5, .int (sWR ke so (nI dn) (-1))), (0, .ref h), (1, .int (nI dn)), (2, .int (nI u_2)), (3, .int (nI f_4)), (4, .int (nI what_6))]) hx hb i 1 dX4_throat_128 hl rfl (Nat.le_of_ble_eq_true rfl) rfl (fun ls hl => ?_)
                refine lv_goto (tgt := 70) hx hb dX4_throat_131 (by decide) ?_
                have e_23 : bI (tk el (100 * dn) (nI u_2) (sBite (nI k) (nI f_4)) (i + 1)) = (bI (tk el (100 * dn) (nI u_2) (sBite (nI k) (nI f_4)) i)) &&& 1 := by first | (rw [bI_and1]; simp [tk, tu_2, tf_4, twhat_6, t_dn, c_19, c_20]; done) | (rw [bI_and0]; simp [tk, tu_2, tf_4, twhat_6, t_dn, c_19, c_20]; done)
                have e_24 : tl (nI u_2) (sBite (nI k) (nI f_4)) (i + 1) = (tl (nI u_2) (sBite (nI k) (nI f_4)) i) - (mn (tl (nI u_2) (sBite (nI k) (nI f_4)) i) (sBite (nI k) (nI f_4))) := by rfl
                exact ih_12 (i + 1) (by omega) ls (by rw [e_23, e_24]; exact lv_sub hl [0, 2, 1, 4, 5, 6, 7, 8, 9, 10, 11] rfl)
        · refine lv_iload hx hb dX4_throat_45 (lv_at hl 0 rfl) ?_
          exact n_iret (v := sWR ke so d (-1)) C (by simp [sThroatA, c_1, tu_2, c_3, tf_4, c_5, twhat_6, c_7]) dX4_throat_47
      · refine lv_iconst (v := (-1)) hx hb dX4_throat_30 (by decide) ?_
        exact n_iret (v := (-1)) C (by simp [sThroatA, c_1, tu_2, c_3, tf_4, c_5]) dX4_throat_31
