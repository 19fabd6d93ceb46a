set_option maxHeartbeats 4000000 in
set_option maxRecDepth 100000 in
theorem metX5_sign (l : Launch) (G : GG) (h ra z8 : Nat) (rf : Nat → Int32) (p : Nat) (hp : p ≤ 2000) (hz8 : z8 ≤ 100) : MR l yX5_sign cX5_sign 1 (some .int) ({ frames := 0, cells := 0, slots := 0, locals := 0 }) [.ref h] [(h, .inr (5, [.ref ra, .int (nI p)])), (ra, tA G 1 z8 rf)] G (KX G) (tS rf z8 p) := by
  -- rows printed by wip/tools/gen.py
  refine mr_mk RX5 (by decide) rfl (Nat.le_of_ble_eq_true rfl) ?_
  intro p0_ e0_ s m args below meth c C hP hK ls hl
  have hx := C.1
  have hb := C.2.1
  have hml := C.2.2.2.2.1
  have hown := C.2.2.2.2.2.1
  have hts := C.2.2.2.2.2.2
  have hl : lv_has ls 1 [(0, .ref h)] := hl
  refine lv_aload_n hx hb dX5_sign_0 rfl (lv_at hl 0 rfl) ?_
  refine va_get (D := gD G) (ci := 5) (v := .int (nI p)) (C := RX5) (T := TX5) (N := 2) hx hb hts in_X5 hown hK.1 hP 0 rfl rfl 1 (by decide) (hts _ q186) (fun _ h9 => h9) rfl dX5_sign_1 ?_
  refine lv_aload_n hx hb dX5_sign_4 rfl (lv_at hl 0 rfl) ?_
  refine va_get (D := gD G) (ci := 5) (v := .ref ra) (C := RX5) (T := TX5) (N := 2) hx hb hts in_X5 hown hK.1 hP 0 rfl rfl 0 (by decide) (hts _ q185) (fun _ h9 => h9) rfl dX5_sign_5 ?_
  refine va_alen C.1 C.2.1 hK.1 hP 1 1 (v := nI z8) rfl rfl rfl dX5_sign_8 ?_
  refine n_ic_ge (x := p) (y := z8) (tgt := 24) hx hb (by omega) (by omega) dX5_sign_9 (by decide) (fun c_1 => ?_) (fun c_1 => ?_)
  · have zc_1 : ¬ p < z8 := Nat.not_lt.mpr c_1
    refine lv_iconst (v := (-1)) hx hb dX5_sign_24 (by decide) ?_
    exact n_iret (v := (-1)) C ((tS_out (by omega)).symm) dX5_sign_25
  · have zc_1 : ¬ z8 ≤ p := Nat.not_le.mpr c_1
    refine lv_aload_n hx hb dX5_sign_12 rfl (lv_at hl 0 rfl) ?_
    refine va_get (D := gD G) (ci := 5) (v := .ref ra) (C := RX5) (T := TX5) (N := 2) hx hb hts in_X5 hown hK.1 hP 0 rfl rfl 0 (by decide) (hts _ q185) (fun _ h9 => h9) rfl dX5_sign_13 ?_
    refine lv_aload_n hx hb dX5_sign_16 rfl (lv_at hl 0 rfl) ?_
    refine va_get (D := gD G) (ci := 5) (v := .int (nI p)) (C := RX5) (T := TX5) (N := 2) hx hb hts in_X5 hown hK.1 hP 0 rfl rfl 1 (by decide) (hts _ q186) (fun _ h9 => h9) rfl dX5_sign_17 ?_
    refine n_bald C hK.1 hP 1 p rfl (by omega) (by omega) dX5_sign_20 ?_
    refine lv_goto (tgt := 25) hx hb dX5_sign_21 (by decide) ?_
    exact n_iret (v := rf p) C ((tS_in (by omega)).symm) dX5_sign_25

set_option maxHeartbeats 4000000 in
set_option maxRecDepth 100000 in
theorem metX5_broken (l : Launch) (G : GG) (gm : GM) (h ra z8 : Nat) (rf : Nat → Int32) (p : Nat) (hl9 : l.stackTraces = false) (hng : NG gm [(h, .inr (5, [.ref ra, .int (nI p)])), (ra, tA G 1 z8 rf)]) (hp : p ≤ 2000) (hz8 : z8 ≤ 100) : MWq l yX5_broken cX5_broken 1 (some (.object "CakesToTheWatched$Broken")) ({ frames := 6, cells := 1, slots := 7, locals := 121 }) [.ref h] [(h, .inr (5, [.ref ra, .int (nI p)])), (ra, tA G 1 z8 rf)] G (KE G gm) 1 7 (fun rv w1 => ∃ (q : Nat) (f9 : Nat → Value), rv = some q ∧ w1 = [(h, .inr (5, [.ref ra, .int (nI p)])), (ra, tA G 1 z8 rf), (q, eO 14 f9 (-1000 - nI p))]) := by
  -- rows printed by wip/tools/gen.py
  refine mwq_mkg RX5 (by decide) rfl (Nat.le_of_ble_eq_true rfl) ?_
  intro p0_ e0_ s m args below meth c A C hA hAx hP hK hD ls hl
  have hZ : ZA A s := hK.2.2.of hP hAx
  have hM1 := hK.2.1
  have hK := hK.1
  have hGP := hK.2
  have hK := hK.1
  have hGA := GA.of hng hGP hAx
  have hx := C.1
  have hb := C.2.1
  have hml := C.2.2.2.2.1
  have hown := C.2.2.2.2.2.1
  have hts := C.2.2.2.2.2.2
  have hS : va_S A s.heap s.heap [] := va_S.rf
  have hl : lv_has ls 1 [(0, .ref h)] := hl
  refine n_newF (G := G) (ci := 14) (fs := [.null, .null, .null, .null, .null, .int 0, .int 0]) (Cn := RX7) (T := TX7) (N := 7) C in_X7 tyX7 tyX7_ok q241 q242 q50 hK.1 hP hD hS hA rfl (fun j hj => (by rcases (show j = 0 ∨ j = 1 ∨ j = 2 ∨ j = 3 ∨ j = 4 ∨ j = 5 ∨ j = 6 by omega) with rfl | rfl | rfl | rfl | rfl | rfl | rfl <;> rfl)) (Nat.le_of_ble_eq_true rfl) (Nat.le_of_ble_eq_true rfl) dX5_broken_0 (fun qn_1 H hP hD hS hF9 => ?_)
  have hP : PP G [(h, .inr (5, [.ref ra, .int (nI p)])), (ra, tA G 1 z8 rf), (qn_1, .inr (14, [.null, .null, .null, .null, .null, .int 0, .int 0]))] H := hP
  have hD : va_D A [(h, .inr (5, [.ref ra, .int (nI p)])), (ra, tA G 1 z8 rf), (qn_1, .inr (14, [.null, .null, .null, .null, .null, .int 0, .int 0]))] := hD
  refine lv_dup hx hb dX5_broken_3 rfl ?_
  refine lv_sipush (v := (-1000)) hx hb dX5_broken_4 (by decide) ?_
  refine lv_aload_n hx hb dX5_broken_7 rfl (lv_at hl 0 rfl) ?_
  refine va_get (D := gD G) (ci := 5) (v := .int (nI p)) (C := RX5) (T := TX5) (N := 2) hx hb hts in_X5 hown hK.1 hP 0 rfl rfl 1 (by decide) (hts _ q186) (fun _ h9 => h9) rfl dX5_broken_8 ?_
  refine lv_isub (x := (-1000)) (y := nI p) hx hb dX5_broken_11 ?_
  refine c_IWvk (wr := [(h, .inr (5, [.ref ra, .int (nI p)])), (ra, tA G 1 z8 rf)]) (rest := [.ref qn_1]) C (metX7_init l hl9 G qn_1 ((-1000) - (nI p))) 1 q250 q252 q50 q251 rfl (by decide +kernel) ⟨rfl, rfl⟩ ⟨(Nat.le_of_ble_eq_true rfl), (Nat.le_of_ble_eq_true rfl)⟩ KI.call (KI.at hK hZ hS hF9) hA hP hD hS [2] [0, 1] rfl rfl rfl rfl (by decide) hl rfl rfl (Nat.le_of_ble_eq_true rfl) ⟨(Nat.le_of_ble_eq_true rfl), (Nat.le_of_ble_eq_true rfl)⟩ dX5_broken_12 (fun w1 H locs hq_3 hP hD hS => ?_)
  obtain ⟨f_4, rfl⟩ := hq_3
  have hP : PP G [(h, .inr (5, [.ref ra, .int (nI p)])), (ra, tA G 1 z8 rf), (qn_1, eO 14 f_4 ((-1000) - (nI p)))] H := hP
  have hD : va_D A [(h, .inr (5, [.ref ra, .int (nI p)])), (ra, tA G 1 z8 rf), (qn_1, eO 14 f_4 ((-1000) - (nI p)))] := hD
  exact n_aretW (r := some qn_1) (w1 := [(h, .inr (5, [.ref ra, .int (nI p)])), (ra, tA G 1 z8 rf), (qn_1, eO 14 f_4 ((-1000) - (nI p)))]) C (⟨_, _, rfl, rfl⟩) hP hD hS (by first | omega | decide) (by first | omega | decide) dX5_broken_15

set_option maxHeartbeats 4000000 in
set_option maxRecDepth 100000 in
theorem metX5_number (l : Launch) (G : GG) (gm : GM) (h ra z8 : Nat) (rf : Nat → Int32) (d p : Nat) (hl9 : l.stackTraces = false) (hng : NG gm [(h, .inr (5, [.ref ra, .int (nI p)])), (ra, tA G 1 z8 rf)]) (hd : d ≤ 2) (hp : p ≤ 1000) (hz8 : z8 ≤ 100) : MTi l yX5_number cX5_number 4 (some .int) ({ frames := 7, cells := 1, slots := 7, locals := 141 }) [.ref h, .int (nI d)] [(h, .inr (5, [.ref ra, .int (nI p)])), (ra, tA G 1 z8 rf)] G (KE G gm) 1 7 (fun rv w1 => (rdN (tS rf z8) d p 0).1 = true ∧ rv = ((rdN (tS rf z8) d p 0).2.2) ∧ w1 = [(h, .inr (5, [.ref ra, .int (nI ((rdN (tS rf z8) d p 0).2.1))])), (ra, tA G 1 z8 rf)]) (fun E q w1 => (rdN (tS rf z8) d p 0).1 = false ∧ E = RX7 ∧ ∃ f9 : Nat → Value, w1 = [(h, .inr (5, [.ref ra, .int (nI ((rdN (tS rf z8) d p 0).2.1))])), (ra, tA G 1 z8 rf), (q, eO 14 f9 (-1000 - nI (rdN (tS rf z8) d p 0).2.1))]) := by
  -- rows printed by wip/tools/gen.py
  refine mti_mkg RX5 (by decide) rfl (Nat.le_of_ble_eq_true rfl) ?_
  intro p0_ e0_ s m args below meth c A C ht9 hA hAx hP hK hD ls hl
  have hZ : ZA A s := hK.2.2.of hP hAx
  have hM1 := hK.2.1
  have hK := hK.1
  have hGP := hK.2
  have hK := hK.1
  have hGA := GA.of hng hGP hAx
  have hx := C.1
  have hb := C.2.1
  have hml := C.2.2.2.2.1
  have hown := C.2.2.2.2.2.1
  have hts := C.2.2.2.2.2.2
  have hS : va_S A s.heap s.heap [] := va_S.rf
  have hl : lv_has ls 4 [(0, .ref h), (1, .int (nI d))] := hl
  refine lv_iconst (v := 0) hx hb dX5_number_0 (by decide) ?_
  refine lv_istore_n (lv' := [(2, .int 0), (0, .ref h), (1, .int (nI d))]) hx hb dX5_number_1 rfl hl (Nat.le_of_ble_eq_true rfl) rfl (fun ls hl => ?_)
  refine lv_iconst (v := 0) hx hb dX5_number_2 (by decide) ?_
  refine lv_istore_n (lv' := [(3, .int 0), (2, .int 0), (0, .ref h), (1, .int (nI d))]) hx hb dX5_number_3 rfl hl (Nat.le_of_ble_eq_true rfl) rfl (fun ls hl => ?_)
  suffices hlp_1 : ∀ (n : Nat) (m2 n2 p2 : Nat) (v2 : Int32), m2 < n → ∀ (H : Heap) (locs : List Loc), PP G [(h, .inr (5, [.ref ra, .int (nI p2)])), (ra, tA G 1 z8 rf)] H → va_D A [(h, .inr (5, [.ref ra, .int (nI p2)])), (ra, tA G 1 z8 rf)] → va_S A s.heap H locs → (rdN (tS rf z8) d p 0 = rdN (tS rf z8) m2 p2 v2) → (m2 + n2 = d) → (p2 + m2 = p + d) → ∀ (ls : Array Slot), lv_has ls 4 [(3, .int (nI n2)), (2, .int v2), (0, .ref h), (1, .int (nI d))] → W p0_ l e0_ ({ frames := 7, cells := 1, slots := 7, locals := 141 } : Room) s m args below meth c H locs (0) (0) (xq_MQ below (va_Qi (S := va_W) (fun rv w1 => (rdN (tS rf z8) d p 0).1 = true ∧ rv = ((rdN (tS rf z8) d p 0).2.2) ∧ w1 = [(h, .inr (5, [.ref ra, .int (nI ((rdN (tS rf z8) d p 0).2.1))])), (ra, tA G 1 z8 rf)]) (fun w1 t => PP G w1 t.heap ∧ va_D A w1) A) (xq_X (S := va_W) (fun _ => True) (fun E q w1 t => (fun E q w1 => (rdN (tS rf z8) d p 0).1 = false ∧ E = RX7 ∧ ∃ f9 : Nat → Value, w1 = [(h, .inr (5, [.ref ra, .int (nI ((rdN (tS rf z8) d p 0).2.1))])), (ra, tA G 1 z8 rf), (q, eO 14 f9 (-1000 - nI (rdN (tS rf z8) d p 0).2.1))]) E q w1 ∧ PP G w1 t.heap ∧ va_D A w1) A) args s 1 7 A) (F0 m 4 ls []) by
    exact hlp_1 (d + 1) d 0 p 0 (Nat.lt_succ_self _) _ _ (hP.sub [0, 1] rfl) (hD.sub [0, 1] (by decide) rfl) hS (rfl) (by omega) (by omega) ls (lv_sub hl [0, 1, 2, 3] rfl)
  intro n
  induction n with
  | zero => intro m2 n2 p2 v2 hmu_1 H locs hP hD hS hg hmn hpp ls hl; exact absurd hmu_1 (Nat.not_lt_zero _)
  | succ n ih_1 =>
    intro m2 n2 p2 v2 hmu_1 H locs hP hD hS hg hmn hpp ls hl
    refine lv_iload_n hx hb dX5_number_4 rfl (lv_at hl 0 rfl) ?_
    refine lv_iload_n hx hb dX5_number_5 rfl (lv_at hl 3 rfl) ?_
    refine n_ic_ge (x := n2) (y := d) (tgt := 57) hx hb (by omega) (by omega) dX5_number_6 (by decide) (fun c_2 => ?_) (fun c_2 => ?_)
    · have zc_2 : ¬ n2 < d := Nat.not_lt.mpr c_2
      have e0 : rdN (tS rf z8) d p 0 = (true, p2, v2) := by rw [hg, show m2 = 0 by omega, rdN]
      refine lv_iload_n hx hb dX5_number_57 rfl (lv_at hl 1 rfl) ?_
      exact xq_ret (n_iretW (v := v2) (w1 := [(h, .inr (5, [.ref ra, .int (nI p2)])), (ra, tA G 1 z8 rf)]) C (⟨by rw [e0], by rw [e0], by rw [e0]⟩) hP hD hS (by first | omega | decide) (by first | omega | decide) dX5_number_58)
    · have zc_2 : ¬ d ≤ n2 := Nat.not_le.mpr c_2
      refine lv_aload_n hx hb dX5_number_9 rfl (lv_at hl 2 rfl) ?_
      refine c_V (rest := []) C (metX5_sign l G h ra z8 rf p2 (by omega) (by omega)) 0 (lw_V q202 q204 qs5 q48 q205) (by decide +kernel) ⟨rfl, rfl⟩ ⟨(Nat.le_of_ble_eq_true rfl), (Nat.le_of_ble_eq_true rfl)⟩ (KX_mv G) (va_recv hK.1 hP (ci := 5) (q0 := 0) rfl rfl) hP hK hl rfl rfl (Nat.le_of_ble_eq_true rfl) ⟨(Nat.le_of_ble_eq_true rfl), (Nat.le_of_ble_eq_true rfl)⟩ dX5_number_10 ?_
      refine lv_bipush (v := 48) hx hb dX5_number_13 (by decide) ?_
      refine lv_bipush (v := 57) hx hb dX5_number_15 (by decide) ?_
      refine c_SNk (rest := []) C (metX1_isIn l G (tS rf z8 p2) 48 57) 3 (host := "CakesToTheWatched") (hK.2.2.2.2.2.1 ("CakesToTheWatched$FeteReader", 28, ⟨"CakesToTheWatched", "isIn", "(III)Z"⟩, "CakesToTheWatched") (by decide +kernel)) q173 q172 q39 (by decide +kernel) ⟨rfl, rfl⟩ ⟨(Nat.le_of_ble_eq_true rfl), (Nat.le_of_ble_eq_true rfl)⟩ ((fun _ _ _ _ h => (KM_mv G).2 _ _ _ _ h)) (hP.sub (ws' := []) [] rfl) (fun _ _ hW => (KM_mv G).1 _ _ hW hK.1) hl rfl rfl (Nat.le_of_ble_eq_true rfl) ⟨(Nat.le_of_ble_eq_true rfl), (Nat.le_of_ble_eq_true rfl)⟩ dX5_number_17 ?_
      refine n_if_neB (b := (sIn (tS rf z8 p2) 48 57)) (tgt := 28) hx hb dX5_number_20 (by decide) (fun c_3 => ?_) (fun c_3 => ?_)
      · obtain ⟨tS_rf_z8_4, htS_rf_z8_4, gtS_rf_z8_4, qtS_rf_z8_4⟩ := sIn_t (a := 48) (b := 57) (by omega) (by omega) c_3
        have utS_rf_z8_4 : sIn (nI tS_rf_z8_4) 48 57 = true := by rw [← qtS_rf_z8_4]; exact c_3
        have ttS_rf_z8_4 : tn (nI tS_rf_z8_4) = tS_rf_z8_4 := nI_clamp (by omega)
        have e9 : m2 = (m2 - 1) + 1 := by omega
        have e0 : rdN (tS rf z8) d p 0 = rdN (tS rf z8) (m2 - 1) (p2 + 1) (10 * v2 + tS rf z8 p2 - 48) := by rw [hg, e9, rdN, if_pos c_3]; rfl
        refine lv_bipush (v := 10) hx hb dX5_number_28 (by decide) ?_
        refine lv_iload_n hx hb dX5_number_30 rfl (lv_at hl 1 rfl) ?_
        refine lv_imul (x := 10) (y := v2) hx hb dX5_number_31 ?_
        refine lv_aload_n hx hb dX5_number_32 rfl (lv_at hl 2 rfl) ?_
        refine c_V (rest := [.int (10 * v2)]) C (metX5_sign l G h ra z8 rf p2 (by omega) (by omega)) 0 (lw_V q202 q204 qs5 q48 q205) (by decide +kernel) ⟨rfl, rfl⟩ ⟨(Nat.le_of_ble_eq_true rfl), (Nat.le_of_ble_eq_true rfl)⟩ (KX_mv G) (va_recv hK.1 hP (ci := 5) (q0 := 0) rfl rfl) hP hK hl rfl rfl (Nat.le_of_ble_eq_true rfl) ⟨(Nat.le_of_ble_eq_true rfl), (Nat.le_of_ble_eq_true rfl)⟩ dX5_number_33 ?_
        refine n_eqi (qtS_rf_z8_4) ?_
        refine lv_iadd (x := 10 * v2) (y := nI tS_rf_z8_4) hx hb dX5_number_36 ?_
        refine lv_bipush (v := 48) hx hb dX5_number_37 (by decide) ?_
        refine lv_isub (x := (10 * v2) + (nI tS_rf_z8_4)) (y := 48) hx hb dX5_number_39 ?_
        refine lv_istore_n (lv' := [(2, .int (((10 * v2) + (nI tS_rf_z8_4)) - 48)), (3, .int (nI n2)), (0, .ref h), (1, .int (nI d))]) hx hb dX5_number_40 rfl hl (Nat.le_of_ble_eq_true rfl) rfl (fun ls hl => ?_)
        refine lv_aload_n hx hb dX5_number_41 rfl (lv_at hl 2 rfl) ?_
        refine lv_dup hx hb dX5_number_42 rfl ?_
        refine va_get (D := gD G) (ci := 5) (v := .int (nI p2)) (C := RX5) (T := TX5) (N := 2) hx hb hts in_X5 hown hK.1 hP 0 rfl rfl 1 (by decide) (hts _ q186) (fun _ h9 => h9) rfl dX5_number_43 ?_
        refine lv_iconst (v := 1) hx hb dX5_number_46 (by decide) ?_
        refine n_iadd hx hb p2 1 dX5_number_47 ?_
        refine va_put (D := gD G) (ci := 5) (v := .int (nI (p2 + 1))) (ty := .int) (C := RX5) (T := TX5) (N := 2) hx hb hts in_X5 tyX5 tyX5_ok nmX5 hown hK.1 hP hD hS 0 rfl rfl 1 (by decide) (hts _ q186) (fun _ h9 => h9) rfl (by decide +kernel) rfl rfl (Nat.le_of_ble_eq_true rfl) dX5_number_48 (fun H locs hP hD hS => ?_)
        have hP : PP G [(h, .inr (5, [.ref ra, .int (nI (p2 + 1))])), (ra, tA G 1 z8 rf)] H := hP
        have hD : va_D A [(h, .inr (5, [.ref ra, .int (nI (p2 + 1))])), (ra, tA G 1 z8 rf)] := hD
        refine n_iinc (k := 1) (lv' := [(3, .int (nI (n2 + 1))), (2, .int (((10 * v2) + (nI tS_rf_z8_4)) - 48)), (0, .ref h), (1, .int (nI d))]) hx hb n2 1 dX5_number_51 hl rfl (Nat.le_of_ble_eq_true rfl) rfl (fun ls hl => ?_)
        refine lv_goto (tgt := 4) hx hb dX5_number_54 (by decide) ?_
        exact ih_1 (m2 - 1) (n2 + 1) (p2 + 1) (((10 * v2) + (nI tS_rf_z8_4)) - 48) (by omega) _ _ (hP.sub [0, 1] rfl) (hD.sub [0, 1] (by decide) rfl) hS (by rw [e0, show tS rf z8 p2 = nI _ from by assumption]) (by omega) (by omega) ls (lv_sub hl [0, 1, 2, 3] rfl)
      · have e9 : m2 = (m2 - 1) + 1 := by omega
        have e0 : rdN (tS rf z8) d p 0 = (false, p2, v2) := by rw [hg, e9, rdN, if_neg (by simp [c_3])]
        refine lv_aload_n hx hb dX5_number_23 rfl (lv_at hl 2 rfl) ?_
        refine c_VWqk (wr := []) (rest := []) C (metX5_broken l G gm h ra z8 rf p2 hl9 (NG.of hGA hD [0, 1] rfl) (by omega) (by omega)) 0 (lw_V q237 q239 qs8 q48 q240) (by decide +kernel) ⟨rfl, rfl⟩ ⟨(Nat.le_of_ble_eq_true rfl), (Nat.le_of_ble_eq_true rfl)⟩ (KE.call) (KE.at hK (hGP.kept hGA hS) hM1 hZ hS) (va_recv hK.1 hP (ci := 5) (q0 := 0) rfl rfl) hA hP hD hS [0, 1] [] rfl rfl rfl rfl (by decide) hl rfl rfl (Nat.le_of_ble_eq_true rfl) ⟨(Nat.le_of_ble_eq_true rfl), (Nat.le_of_ble_eq_true rfl)⟩ dX5_number_24 (fun r_5 w1 H locs hq_6 hP hD hS => ?_)
        obtain ⟨qb_7, fb_8, rfl, rfl⟩ := hq_6
        have hP : PP G [(h, .inr (5, [.ref ra, .int (nI p2)])), (ra, tA G 1 z8 rf), (qb_7, eO 14 fb_8 (-1000 - nI p2))] H := hP
        have hD : va_D A [(h, .inr (5, [.ref ra, .int (nI p2)])), (ra, tA G 1 z8 rf), (qb_7, eO 14 fb_8 (-1000 - nI p2))] := hD
        exact x_thr (ci := 14) (E := RX7) (q0 := 2) (w1 := [(h, .inr (5, [.ref ra, .int (nI p2)])), (ra, tA G 1 z8 rf), (qb_7, eO 14 fb_8 (-1000 - nI p2))]) (px := fun E q w1 => (rdN (tS rf z8) d p 0).1 = false ∧ E = RX7 ∧ ∃ f9 : Nat → Value, w1 = [(h, .inr (5, [.ref ra, .int (nI ((rdN (tS rf z8) d p 0).2.1))])), (ra, tA G 1 z8 rf), (q, eO 14 f9 (-1000 - nI (rdN (tS rf z8) d p 0).2.1))]) C hK.1 ht9 ⟨by rw [e0], rfl, fb_8, by rw [e0]⟩ hP hD hS (by first | omega | decide) (by first | omega | decide) rfl rfl dX5_number_27
