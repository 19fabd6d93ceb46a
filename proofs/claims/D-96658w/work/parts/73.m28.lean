set_option maxHeartbeats 4000000 in
set_option maxRecDepth 100000 in
theorem metX5_statement (l : Launch) (G : GG) (gm : GM) (h ra z8 : Nat) (rf : Nat → Int32) (p : Nat) (hl9 : l.stackTraces = false) (hng : NG gm [(h, .inr (5, [.ref ra, .int (nI p)])), (ra, tA G 1 z8 rf)]) (hp : p ≤ 200) (hz8 : z8 ≤ 100) : MTq l yX5_statement cX5_statement 2 (some (.object "CakesToTheWatched$Told")) ({ frames := 9, cells := 8, slots := 50, locals := 186 }) [.ref h] [(h, .inr (5, [.ref ra, .int (nI p)])), (ra, tA G 1 z8 rf)] G (KE G gm) 8 50 (fun rv w1 => (stS (tS rf z8) p (fun _ => 0)).1 = true ∧ ∃ o nb : Nat, rv = some o ∧ w1 = [(h, .inr (5, [.ref ra, .int (nI ((stS (tS rf z8) p (fun _ => 0)).2.1))])), (ra, tA G 1 z8 rf), (o, .inr (4, [.int (tS rf z8 p), .int (nI p), .ref nb, .int (nI (stM (tS rf z8 p)))])), (nb, iA G 4 ((stS (tS rf z8) p (fun _ => 0)).2.2))]) (fun E q w1 => (stS (tS rf z8) p (fun _ => 0)).1 = false ∧ E = RX7 ∧ ∃ f9 : Nat → Value, w1 = [(h, .inr (5, [.ref ra, .int (nI ((stS (tS rf z8) p (fun _ => 0)).2.1))])), (ra, tA G 1 z8 rf), (q, eO 14 f9 (-1000 - nI (stS (tS rf z8) p (fun _ => 0)).2.1))]) := by
  -- rows printed by wip/tools/gen.py
  refine mtq_mkg RX5 (by decide) rfl (Nat.le_of_ble_eq_true rfl) ?_
  intro p0_ e0_ s m args below meth c A C ht9 hA hAx hP hK hD ls hl
  have hZ : ZA A s := hK.2.2.of hP hAx
  have hM1 := hK.2.1
  have hK := hK.1
  have hGP := hK.2
  have hK := hK.1
  have hGA := GA.of hng hGP hAx
  have hx := C.1
  have hb := C.2.1
  have hml := C.2.2.2.2.1
  have hown := C.2.2.2.2.2.1
  have hts := C.2.2.2.2.2.2
  have hS : va_S A s.heap s.heap [] := va_S.rf
  have hl : lv_has ls 2 [(0, .ref h)] := hl
  refine va_new (D := gD G) (ci := 4) (fs := [.int 0, .int 0, .null, .int 0]) (C := RX6) (T := TX6) (N := 4) hx hb hts in_X6 tyX6 tyX6_ok hown (hts _ q200) (hts _ q201) (hts _ q49) hK.1 hP hD hS hA rfl (fun j hj => (by rcases (show j = 0 ∨ j = 1 ∨ j = 2 ∨ j = 3 by omega) with rfl | rfl | rfl | rfl <;> rfl)) (Nat.le_of_ble_eq_true rfl) (Nat.le_of_ble_eq_true rfl) dX5_statement_0 (fun qn_1 H hP hD hS => ?_)
  have hP : PP G [(h, .inr (5, [.ref ra, .int (nI p)])), (ra, tA G 1 z8 rf), (qn_1, .inr (4, [.int 0, .int 0, .null, .int 0]))] H := hP
  have hD : va_D A [(h, .inr (5, [.ref ra, .int (nI p)])), (ra, tA G 1 z8 rf), (qn_1, .inr (4, [.int 0, .int 0, .null, .int 0]))] := hD
  refine lv_dup hx hb dX5_statement_3 rfl ?_
  refine lv_aload_n hx hb dX5_statement_4 rfl (lv_at hl 0 rfl) ?_
  refine c_V (rest := [.ref qn_1, .ref qn_1]) C (metX5_sign l G h ra z8 rf p (by omega) (by omega)) 0 (lw_V q202 q204 qs5 q48 q205) (by decide +kernel) ⟨rfl, rfl⟩ ⟨(Nat.le_of_ble_eq_true rfl), (Nat.le_of_ble_eq_true rfl)⟩ (KX_mv G) (va_recv hK.1 hP (ci := 5) (q0 := 0) rfl rfl) (hP.sub (ws' := [(h, .inr (5, [.ref ra, .int (nI p)])), (ra, tA G 1 z8 rf)]) [0, 1] rfl) hK hl rfl rfl (Nat.le_of_ble_eq_true rfl) ⟨(Nat.le_of_ble_eq_true rfl), (Nat.le_of_ble_eq_true rfl)⟩ dX5_statement_5 ?_
  refine lv_aload_n hx hb dX5_statement_8 rfl (lv_at hl 0 rfl) ?_
  refine va_get (D := gD G) (ci := 5) (v := .int (nI p)) (C := RX5) (T := TX5) (N := 2) hx hb hts in_X5 hown hK.1 hP 0 rfl rfl 1 (by decide) (hts _ q186) (fun _ h9 => h9) rfl dX5_statement_9 ?_
  refine c_IWvk (wr := [(h, .inr (5, [.ref ra, .int (nI p)])), (ra, tA G 1 z8 rf)]) (rest := [.ref qn_1]) C (metX6_init l G qn_1 (tS rf z8 p) (nI p)) 2 q206 q208 q49 q207 rfl (by decide +kernel) ⟨rfl, rfl⟩ ⟨(Nat.le_of_ble_eq_true rfl), (Nat.le_of_ble_eq_true rfl)⟩ ((fun _ _ _ _ h => (KM_mv G).2 _ _ _ _ h)) (fun _ _ hW => (KM_mv G).1 _ _ hW hK.1) hA hP hD hS [2] [0, 1] rfl rfl rfl rfl (by decide) hl rfl rfl (Nat.le_of_ble_eq_true rfl) ⟨(Nat.le_of_ble_eq_true rfl), (Nat.le_of_ble_eq_true rfl)⟩ dX5_statement_12 (fun w1 H locs hq_3 hP hD hS => ?_)
  obtain ⟨nb_4, rfl⟩ := hq_3
  have hP : PP G [(h, .inr (5, [.ref ra, .int (nI p)])), (ra, tA G 1 z8 rf), (qn_1, .inr (4, [.int (tS rf z8 p), .int (nI p), .ref nb_4, .int (nI 0)])), (nb_4, iA G 4 (fun _ => 0))] H := hP
  have hD : va_D A [(h, .inr (5, [.ref ra, .int (nI p)])), (ra, tA G 1 z8 rf), (qn_1, .inr (4, [.int (tS rf z8 p), .int (nI p), .ref nb_4, .int (nI 0)])), (nb_4, iA G 4 (fun _ => 0))] := hD
  refine lv_astore_n (lv' := [(1, .ref qn_1), (0, .ref h)]) hx hb dX5_statement_15 rfl hl (Nat.le_of_ble_eq_true rfl) rfl (fun ls hl => ?_)
  refine lv_aload_n hx hb dX5_statement_16 rfl (lv_at hl 1 rfl) ?_
  refine lv_dup hx hb dX5_statement_17 rfl ?_
  refine va_get (D := gD G) (ci := 5) (v := .int (nI p)) (C := RX5) (T := TX5) (N := 2) hx hb hts in_X5 hown hK.1 hP 0 rfl rfl 1 (by decide) (hts _ q186) (fun _ h9 => h9) rfl dX5_statement_18 ?_
  refine lv_iconst (v := 1) hx hb dX5_statement_21 (by decide) ?_
  refine n_iadd hx hb p 1 dX5_statement_22 ?_
  refine va_put (D := gD G) (ci := 5) (v := .int (nI (p + 1))) (ty := .int) (C := RX5) (T := TX5) (N := 2) hx hb hts in_X5 tyX5 tyX5_ok nmX5 hown hK.1 hP hD hS 0 rfl rfl 1 (by decide) (hts _ q186) (fun _ h9 => h9) rfl (by decide +kernel) rfl rfl (Nat.le_of_ble_eq_true rfl) dX5_statement_23 (fun H locs hP hD hS => ?_)
  have hP : PP G [(h, .inr (5, [.ref ra, .int (nI (p + 1))])), (ra, tA G 1 z8 rf), (qn_1, .inr (4, [.int (tS rf z8 p), .int (nI p), .ref nb_4, .int (nI 0)])), (nb_4, iA G 4 (fun _ => 0))] H := hP
  have hD : va_D A [(h, .inr (5, [.ref ra, .int (nI (p + 1))])), (ra, tA G 1 z8 rf), (qn_1, .inr (4, [.int (tS rf z8 p), .int (nI p), .ref nb_4, .int (nI 0)])), (nb_4, iA G 4 (fun _ => 0))] := hD
  refine lv_aload_n hx hb dX5_statement_26 rfl (lv_at hl 1 rfl) ?_
  refine lv_aload_n hx hb dX5_statement_27 rfl (lv_at hl 0 rfl) ?_
  refine c_VTv (wr := []) (rest := []) C (metX5_reads l G gm h ra z8 qn_1 nb_4 rf p (tS rf z8 p) (nI p) (fun _ => 0) hl9 (NG.of hGA hD [0, 1, 2, 3] rfl) (by omega) (by omega)) 1 (lw_V q228 q230 qs6 q48 q231) (by decide +kernel) ⟨rfl, rfl⟩ ⟨(Nat.le_of_ble_eq_true rfl), (Nat.le_of_ble_eq_true rfl)⟩ (KE.call) (KE.at hK (hGP.kept hGA hS) hM1 hZ hS) (va_recv hK.1 hP (ci := 5) (q0 := 0) rfl rfl) hA hP hD hS [0, 1, 2, 3] [] rfl rfl rfl rfl (by decide) hl rfl rfl (Nat.le_of_ble_eq_true rfl) ⟨(Nat.le_of_ble_eq_true rfl), (Nat.le_of_ble_eq_true rfl)⟩ dX5_statement_28 (fun E ce q9 w1 H locs hpx hP hD hS hce hcv hcl => ?_) (fun w1 H locs hq_6 hP hD hS => ?_)
  · obtain ⟨k_7, rfl, f9, rfl⟩ := hpx
    have hP : PP G [(h, .inr (5, [.ref ra, .int (nI ((stNc (tS rf z8) (tS rf z8 p) p (fun _ => 0)).2.1))])), (ra, tA G 1 z8 rf), (q9, eO 14 f9 (-1000 - nI (stNc (tS rf z8) (tS rf z8 p) p (fun _ => 0)).2.1))] H := hP
    have hD : va_D A [(h, .inr (5, [.ref ra, .int (nI ((stNc (tS rf z8) (tS rf z8 p) p (fun _ => 0)).2.1))])), (ra, tA G 1 z8 rf), (q9, eO 14 f9 (-1000 - nI (stNc (tS rf z8) (tS rf z8 p) p (fun _ => 0)).2.1))] := hD
    exact x_out (E := RX7) (w1 := [(h, .inr (5, [.ref ra, .int (nI ((stNc (tS rf z8) (tS rf z8 p) p (fun _ => 0)).2.1))])), (ra, tA G 1 z8 rf), (q9, eO 14 f9 (-1000 - nI (stNc (tS rf z8) (tS rf z8 p) p (fun _ => 0)).2.1))]) (px := fun E q w1 => (stS (tS rf z8) p (fun _ => 0)).1 = false ∧ E = RX7 ∧ ∃ f9 : Nat → Value, w1 = [(h, .inr (5, [.ref ra, .int (nI ((stS (tS rf z8) p (fun _ => 0)).2.1))])), (ra, tA G 1 z8 rf), (q, eO 14 f9 (-1000 - nI (stS (tS rf z8) p (fun _ => 0)).2.1))]) C ht9 ⟨by simp [stS, ← stNc_t, k_7], rfl, f9, by simp [stS, ← stNc_t, k_7]⟩ hP hD hS (by first | omega | decide) (by first | omega | decide) hce hcv hcl
  have le_8 := stNc_le (tS rf z8) (tS rf z8 p) p (fun _ => 0)
  obtain ⟨k_9, rfl⟩ := hq_6
  have hP : PP G [(h, .inr (5, [.ref ra, .int (nI ((stNc (tS rf z8) (tS rf z8 p) p (fun _ => 0)).2.1))])), (ra, tA G 1 z8 rf), (qn_1, .inr (4, [.int (tS rf z8 p), .int (nI p), .ref nb_4, .int (nI (stM (tS rf z8 p)))])), (nb_4, iA G 4 ((stNc (tS rf z8) (tS rf z8 p) p (fun _ => 0)).2.2))] H := hP
  have hD : va_D A [(h, .inr (5, [.ref ra, .int (nI ((stNc (tS rf z8) (tS rf z8 p) p (fun _ => 0)).2.1))])), (ra, tA G 1 z8 rf), (qn_1, .inr (4, [.int (tS rf z8 p), .int (nI p), .ref nb_4, .int (nI (stM (tS rf z8 p)))])), (nb_4, iA G 4 ((stNc (tS rf z8) (tS rf z8 p) p (fun _ => 0)).2.2))] := hD
  refine lv_aload_n hx hb dX5_statement_31 rfl (lv_at hl 1 rfl) ?_
  refine c_V (rest := []) C (metX5_sign l G h ra z8 rf ((stNc (tS rf z8) (tS rf z8 p) p (fun _ => 0)).2.1) (by omega) (by omega)) 0 (lw_V q202 q204 qs5 q48 q205) (by decide +kernel) ⟨rfl, rfl⟩ ⟨(Nat.le_of_ble_eq_true rfl), (Nat.le_of_ble_eq_true rfl)⟩ (KX_mv G) (va_recv hK.1 hP (ci := 5) (q0 := 0) rfl rfl) (hP.sub (ws' := [(h, .inr (5, [.ref ra, .int (nI ((stNc (tS rf z8) (tS rf z8 p) p (fun _ => 0)).2.1))])), (ra, tA G 1 z8 rf)]) [0, 1] rfl) hK hl rfl rfl (Nat.le_of_ble_eq_true rfl) ⟨(Nat.le_of_ble_eq_true rfl), (Nat.le_of_ble_eq_true rfl)⟩ dX5_statement_32 ?_
  refine lv_bipush (v := 59) hx hb dX5_statement_35 (by decide) ?_
  refine lv_icmp_eq (x := tS rf z8 ((stNc (tS rf z8) (tS rf z8 p) p (fun _ => 0)).2.1)) (y := 59) (tgt := 45) hx hb dX5_statement_37 (by decide) (fun c_10 => ?_) (fun c_10 => ?_)
  · refine lv_aload_n hx hb dX5_statement_45 rfl (lv_at hl 1 rfl) ?_
    refine lv_dup hx hb dX5_statement_46 rfl ?_
    refine va_get (D := gD G) (ci := 5) (v := .int (nI ((stNc (tS rf z8) (tS rf z8 p) p (fun _ => 0)).2.1))) (C := RX5) (T := TX5) (N := 2) hx hb hts in_X5 hown hK.1 hP 0 rfl rfl 1 (by decide) (hts _ q186) (fun _ h9 => h9) rfl dX5_statement_47 ?_
    refine lv_iconst (v := 1) hx hb dX5_statement_50 (by decide) ?_
    refine n_iadd hx hb ((stNc (tS rf z8) (tS rf z8 p) p (fun _ => 0)).2.1) 1 dX5_statement_51 ?_
    refine va_put (D := gD G) (ci := 5) (v := .int (nI (((stNc (tS rf z8) (tS rf z8 p) p (fun _ => 0)).2.1) + 1))) (ty := .int) (C := RX5) (T := TX5) (N := 2) hx hb hts in_X5 tyX5 tyX5_ok nmX5 hown hK.1 hP hD hS 0 rfl rfl 1 (by decide) (hts _ q186) (fun _ h9 => h9) rfl (by decide +kernel) rfl rfl (Nat.le_of_ble_eq_true rfl) dX5_statement_52 (fun H locs hP hD hS => ?_)
    have hP : PP G [(h, .inr (5, [.ref ra, .int (nI (((stNc (tS rf z8) (tS rf z8 p) p (fun _ => 0)).2.1) + 1))])), (ra, tA G 1 z8 rf), (qn_1, .inr (4, [.int (tS rf z8 p), .int (nI p), .ref nb_4, .int (nI (stM (tS rf z8 p)))])), (nb_4, iA G 4 ((stNc (tS rf z8) (tS rf z8 p) p (fun _ => 0)).2.2))] H := hP
    have hD : va_D A [(h, .inr (5, [.ref ra, .int (nI (((stNc (tS rf z8) (tS rf z8 p) p (fun _ => 0)).2.1) + 1))])), (ra, tA G 1 z8 rf), (qn_1, .inr (4, [.int (tS rf z8 p), .int (nI p), .ref nb_4, .int (nI (stM (tS rf z8 p)))])), (nb_4, iA G 4 ((stNc (tS rf z8) (tS rf z8 p) p (fun _ => 0)).2.2))] := hD
    refine lv_aload_n hx hb dX5_statement_55 rfl (lv_at hl 0 rfl) ?_
    exact xq_ret (n_aretW (r := some qn_1) (w1 := [(h, .inr (5, [.ref ra, .int (nI (((stNc (tS rf z8) (tS rf z8 p) p (fun _ => 0)).2.1) + 1))])), (ra, tA G 1 z8 rf), (qn_1, .inr (4, [.int (tS rf z8 p), .int (nI p), .ref nb_4, .int (nI (stM (tS rf z8 p)))])), (nb_4, iA G 4 ((stNc (tS rf z8) (tS rf z8 p) p (fun _ => 0)).2.2))]) C (⟨by simp [stS, ← stNc_t, k_9, c_10], qn_1, nb_4, rfl, by simp [stS, ← stNc_t, k_9, c_10]⟩) hP hD hS (by first | omega | decide) (by first | omega | decide) dX5_statement_56)
  · refine lv_aload_n hx hb dX5_statement_40 rfl (lv_at hl 1 rfl) ?_
    refine c_VWqk (wr := [(qn_1, .inr (4, [.int (tS rf z8 p), .int (nI p), .ref nb_4, .int (nI (stM (tS rf z8 p)))])), (nb_4, iA G 4 ((stNc (tS rf z8) (tS rf z8 p) p (fun _ => 0)).2.2))]) (rest := []) C (metX5_broken l G gm h ra z8 rf ((stNc (tS rf z8) (tS rf z8 p) p (fun _ => 0)).2.1) hl9 (NG.of hGA hD [0, 1] rfl) (by omega) (by omega)) 0 (lw_V q237 q239 qs8 q48 q240) (by decide +kernel) ⟨rfl, rfl⟩ ⟨(Nat.le_of_ble_eq_true rfl), (Nat.le_of_ble_eq_true rfl)⟩ (KE.call) (KE.at hK (hGP.kept hGA hS) hM1 hZ hS) (va_recv hK.1 hP (ci := 5) (q0 := 0) rfl rfl) hA hP hD hS [0, 1] [2, 3] rfl rfl rfl rfl (by decide) hl rfl rfl (Nat.le_of_ble_eq_true rfl) ⟨(Nat.le_of_ble_eq_true rfl), (Nat.le_of_ble_eq_true rfl)⟩ dX5_statement_41 (fun r_11 w1 H locs hq_12 hP hD hS => ?_)
    obtain ⟨qb_13, fb_14, rfl, rfl⟩ := hq_12
    have hP : PP G [(qn_1, .inr (4, [.int (tS rf z8 p), .int (nI p), .ref nb_4, .int (nI (stM (tS rf z8 p)))])), (nb_4, iA G 4 ((stNc (tS rf z8) (tS rf z8 p) p (fun _ => 0)).2.2)), (h, .inr (5, [.ref ra, .int (nI ((stNc (tS rf z8) (tS rf z8 p) p (fun _ => 0)).2.1))])), (ra, tA G 1 z8 rf), (qb_13, eO 14 fb_14 (-1000 - nI ((stNc (tS rf z8) (tS rf z8 p) p (fun _ => 0)).2.1)))] H := hP
    have hD : va_D A [(qn_1, .inr (4, [.int (tS rf z8 p), .int (nI p), .ref nb_4, .int (nI (stM (tS rf z8 p)))])), (nb_4, iA G 4 ((stNc (tS rf z8) (tS rf z8 p) p (fun _ => 0)).2.2)), (h, .inr (5, [.ref ra, .int (nI ((stNc (tS rf z8) (tS rf z8 p) p (fun _ => 0)).2.1))])), (ra, tA G 1 z8 rf), (qb_13, eO 14 fb_14 (-1000 - nI ((stNc (tS rf z8) (tS rf z8 p) p (fun _ => 0)).2.1)))] := hD
    exact x_thr (ci := 14) (E := RX7) (q0 := 2) (w1 := [(h, .inr (5, [.ref ra, .int (nI ((stNc (tS rf z8) (tS rf z8 p) p (fun _ => 0)).2.1))])), (ra, tA G 1 z8 rf), (qb_13, eO 14 fb_14 (-1000 - nI ((stNc (tS rf z8) (tS rf z8 p) p (fun _ => 0)).2.1)))]) (px := fun E q w1 => (stS (tS rf z8) p (fun _ => 0)).1 = false ∧ E = RX7 ∧ ∃ f9 : Nat → Value, w1 = [(h, .inr (5, [.ref ra, .int (nI ((stS (tS rf z8) p (fun _ => 0)).2.1))])), (ra, tA G 1 z8 rf), (q, eO 14 f9 (-1000 - nI (stS (tS rf z8) p (fun _ => 0)).2.1))]) C hK.1 ht9 ⟨by simp [stS, ← stNc_t, k_9, c_10], rfl, fb_14, by simp [stS, ← stNc_t, k_9, c_10]⟩ (hP.sub (ws' := [(h, .inr (5, [.ref ra, .int (nI ((stNc (tS rf z8) (tS rf z8 p) p (fun _ => 0)).2.1))])), (ra, tA G 1 z8 rf), (qb_13, eO 14 fb_14 (-1000 - nI ((stNc (tS rf z8) (tS rf z8 p) p (fun _ => 0)).2.1)))]) [2, 3, 4] rfl) (hD.sub (ws' := [(h, .inr (5, [.ref ra, .int (nI ((stNc (tS rf z8) (tS rf z8 p) p (fun _ => 0)).2.1))])), (ra, tA G 1 z8 rf), (qb_13, eO 14 fb_14 (-1000 - nI ((stNc (tS rf z8) (tS rf z8 p) p (fun _ => 0)).2.1)))]) [2, 3, 4] (by decide) rfl) hS (by first | omega | decide) (by first | omega | decide) rfl rfl dX5_statement_44
