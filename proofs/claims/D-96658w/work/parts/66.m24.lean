set_option maxHeartbeats 4000000 in
set_option maxRecDepth 100000 in
theorem metX1_toss_b (l : Launch) (G : GG) (h : Nat) (xa : Nat → Nat) (xi : Nat → Int32) (sh : Nat → Nat) (gm : GM) (d : Int32) (hl9 : l.stackTraces = false) (hng : NG gm [(h, xO xa xi)]) (hbad : sIn d 0 7 = false) : MWh l yX1_toss cX1_toss 3 (some .int) [((25 : Nat), (41 : Nat), (41 : Nat), (370 : Nat)), ((25 : Nat), (41 : Nat), (47 : Nat), (350 : Nat)), ((25 : Nat), (41 : Nat), (51 : Nat), (144 : Nat))] ({ frames := 2, cells := 0, slots := 0, locals := 43 }) [.ref h, .int d] [(h, xO xa xi)] G (KE G gm) 0 0 (fun rv w1 => rv = -1 ∧ w1 = [(h, xO xa xi)]) := by
  -- rows printed by wip/tools/gen.py
  refine mwh_mkg RX1 (by decide) rfl (Nat.le_of_ble_eq_true rfl) ?_
  intro p0_ e0_ s m args below meth c A C htab hA hAx hP hK hD ls hl
  have hZ : ZA A s := hK.2.2.of hP hAx
  have hM1 := hK.2.1
  have hK := hK.1
  have hGP := hK.2
  have hK := hK.1
  have hGA := GA.of hng hGP hAx
  have hx := C.1
  have hb := C.2.1
  have hml := C.2.2.2.2.1
  have hown := C.2.2.2.2.2.1
  have hts := C.2.2.2.2.2.2
  have hS : va_S A s.heap s.heap [] := va_S.rf
  have hl : lv_has ls 3 [(0, .ref h), (1, .int d)] := hl
  refine lv_aload_n hx hb dX1_toss_0 rfl (lv_at hl 0 rfl) ?_
  refine lv_iload_n hx hb dX1_toss_1 rfl (lv_at hl 1 rfl) ?_
  refine c_V (rest := []) C (metX1_isShelf l G h xa xi d) 1 (lw_V q166 q168 qs2 q39 q170) (by decide +kernel) ⟨rfl, rfl⟩ ⟨(Nat.le_of_ble_eq_true rfl), (Nat.le_of_ble_eq_true rfl)⟩ (KM_mv G) (va_recv hK.1 hP (ci := 1) (q0 := 0) rfl rfl) hP hK.1 hl rfl rfl (Nat.le_of_ble_eq_true rfl) ⟨(Nat.le_of_ble_eq_true rfl), (Nat.le_of_ble_eq_true rfl)⟩ dX1_toss_2 ?_
  refine n_if_neB (b := (sIn d 0 7)) (tgt := 10) hx hb dX1_toss_5 (by decide) (fun c_1 => absurd c_1 (by simp [hbad])) (fun c_1 => ?_)
  refine lv_iconst (v := (-1)) hx hb dX1_toss_8 (by decide) ?_
  exact n_iretW (v := (-1)) (w1 := [(h, xO xa xi)]) C (⟨rfl, rfl⟩) hP hD hS (by first | omega | decide) (by first | omega | decide) dX1_toss_9

set_option maxHeartbeats 4000000 in
set_option maxRecDepth 100000 in
theorem metX1_cost_b (l : Launch) (G : GG) (h : Nat) (xa : Nat → Nat) (xi : Nat → Int32) (sh : Nat → Nat) (gm : GM) (d : Int32) (hl9 : l.stackTraces = false) (hng : NG gm [(h, xO xa xi)]) (hbad : sIn d 0 7 = false) : MWh l yX1_cost cX1_cost 3 (some .int) [((10 : Nat), (25 : Nat), (26 : Nat), (350 : Nat)), ((10 : Nat), (25 : Nat), (30 : Nat), (144 : Nat))] ({ frames := 2, cells := 0, slots := 0, locals := 43 }) [.ref h, .int d] [(h, xO xa xi)] G (KE G gm) 0 0 (fun rv w1 => rv = -1 ∧ w1 = [(h, xO xa xi)]) := by
  -- rows printed by wip/tools/gen.py
  refine mwh_mkg RX1 (by decide) rfl (Nat.le_of_ble_eq_true rfl) ?_
  intro p0_ e0_ s m args below meth c A C htab hA hAx hP hK hD ls hl
  have hZ : ZA A s := hK.2.2.of hP hAx
  have hM1 := hK.2.1
  have hK := hK.1
  have hGP := hK.2
  have hK := hK.1
  have hGA := GA.of hng hGP hAx
  have hx := C.1
  have hb := C.2.1
  have hml := C.2.2.2.2.1
  have hown := C.2.2.2.2.2.1
  have hts := C.2.2.2.2.2.2
  have hS : va_S A s.heap s.heap [] := va_S.rf
  have hl : lv_has ls 3 [(0, .ref h), (1, .int d)] := hl
  refine lv_aload_n hx hb dX1_cost_0 rfl (lv_at hl 0 rfl) ?_
  refine lv_iload_n hx hb dX1_cost_1 rfl (lv_at hl 1 rfl) ?_
  refine c_V (rest := []) C (metX1_isShelf l G h xa xi d) 1 (lw_V q166 q168 qs2 q39 q170) (by decide +kernel) ⟨rfl, rfl⟩ ⟨(Nat.le_of_ble_eq_true rfl), (Nat.le_of_ble_eq_true rfl)⟩ (KM_mv G) (va_recv hK.1 hP (ci := 1) (q0 := 0) rfl rfl) hP hK.1 hl rfl rfl (Nat.le_of_ble_eq_true rfl) ⟨(Nat.le_of_ble_eq_true rfl), (Nat.le_of_ble_eq_true rfl)⟩ dX1_cost_2 ?_
  refine n_if_neB (b := (sIn d 0 7)) (tgt := 10) hx hb dX1_cost_5 (by decide) (fun c_1 => absurd c_1 (by simp [hbad])) (fun c_1 => ?_)
  refine lv_iconst (v := (-1)) hx hb dX1_cost_8 (by decide) ?_
  exact n_iretW (v := (-1)) (w1 := [(h, xO xa xi)]) C (⟨rfl, rfl⟩) hP hD hS (by first | omega | decide) (by first | omega | decide) dX1_cost_9

set_option maxHeartbeats 4000000 in
set_option maxRecDepth 100000 in
theorem metX1_toss_n (l : Launch) (G : GG) (h : Nat) (xa : Nat → Nat) (xi : Nat → Int32) (sh : Nat → Nat) (gm : GM) (dn : Nat) (hl9 : l.stackTraces = false) (hng : NG gm [(h, xO xa xi), (xa 8, qA G 5 8 (shf sh)), (sh dn, .inr (3, [.null]))]) (hdn : dn ≤ 7) : MWh l yX1_toss cX1_toss 3 (some .int) [((25 : Nat), (41 : Nat), (41 : Nat), (370 : Nat)), ((25 : Nat), (41 : Nat), (47 : Nat), (350 : Nat)), ((25 : Nat), (41 : Nat), (51 : Nat), (144 : Nat))] ({ frames := 2, cells := 0, slots := 0, locals := 43 }) [.ref h, .int (nI dn)] [(h, xO xa xi), (xa 8, qA G 5 8 (shf sh)), (sh dn, .inr (3, [.null]))] G (KE G gm) 0 0 (fun rv w1 => rv = -11 ∧ w1 = [(h, xO xa xi), (xa 8, qA G 5 8 (shf sh)), (sh dn, .inr (3, [.null]))]) := by
  -- rows printed by wip/tools/gen.py
  refine mwh_mkg RX1 (by decide) rfl (Nat.le_of_ble_eq_true rfl) ?_
  intro p0_ e0_ s m args below meth c A C htab hA hAx hP hK hD ls hl
  have hZ : ZA A s := hK.2.2.of hP hAx
  have hM1 := hK.2.1
  have hK := hK.1
  have hGP := hK.2
  have hK := hK.1
  have hGA := GA.of hng hGP hAx
  have hx := C.1
  have hb := C.2.1
  have hml := C.2.2.2.2.1
  have hown := C.2.2.2.2.2.1
  have hts := C.2.2.2.2.2.2
  have hS : va_S A s.heap s.heap [] := va_S.rf
  have hl : lv_has ls 3 [(0, .ref h), (1, .int (nI dn))] := hl
  have hs7 := sIn07 hdn
  refine lv_aload_n hx hb dX1_toss_0 rfl (lv_at hl 0 rfl) ?_
  refine lv_iload_n hx hb dX1_toss_1 rfl (lv_at hl 1 rfl) ?_
  refine c_V (rest := []) C (metX1_isShelf l G h xa xi (nI dn)) 1 (lw_V q166 q168 qs2 q39 q170) (by decide +kernel) ⟨rfl, rfl⟩ ⟨(Nat.le_of_ble_eq_true rfl), (Nat.le_of_ble_eq_true rfl)⟩ (KM_mv G) (va_recv hK.1 hP (ci := 1) (q0 := 0) rfl rfl) (hP.sub (ws' := [(h, xO xa xi)]) [0] rfl) hK.1 hl rfl rfl (Nat.le_of_ble_eq_true rfl) ⟨(Nat.le_of_ble_eq_true rfl), (Nat.le_of_ble_eq_true rfl)⟩ dX1_toss_2 ?_
  refine n_if_neB (b := (sIn (nI dn) 0 7)) (tgt := 10) hx hb dX1_toss_5 (by decide) (fun c_1 => ?_) (fun c_1 => absurd c_1 (by simp [hs7]))
  refine lv_aload_n hx hb dX1_toss_10 rfl (lv_at hl 0 rfl) ?_
  refine va_get (D := gD G) (ci := 1) (v := .ref (xa 8)) (C := RX1) (T := TX1) (N := 9) hx hb hts in_X1 hown hK.1 hP 0 rfl rfl 8 (by decide) (hts _ q846) (fun _ h9 => h9) rfl dX1_toss_11 ?_
  refine lv_iload_n hx hb dX1_toss_14 rfl (lv_at hl 1 rfl) ?_
  refine n_aldqS (y := sh dn) C hK.1 hP 1 5 dn rfl rfl (by omega) (by omega) rfl dX1_toss_15 ?_
  refine va_get (D := gD G) (ci := 3) (v := .null) (C := RX3) (T := TX3) (N := 1) hx hb hts in_X3 hown hK.1 hP 2 rfl rfl 0 (by decide) (hts _ q834) (fun _ h9 => h9) rfl dX1_toss_16 ?_
  refine lv_ifnonnullN hx hb dX1_toss_19 ?_
  refine lv_bipush (v := (-11)) hx hb dX1_toss_22 (by decide) ?_
  exact n_iretW (v := (-11)) (w1 := [(h, xO xa xi), (xa 8, qA G 5 8 (shf sh)), (sh dn, .inr (3, [.null]))]) C (⟨rfl, rfl⟩) hP hD hS (by first | omega | decide) (by first | omega | decide) dX1_toss_24

set_option maxHeartbeats 4000000 in
set_option maxRecDepth 100000 in
theorem metX1_toss_g (l : Launch) (G : GG) (h : Nat) (xa : Nat → Nat) (xi : Nat → Int32) (sh : Nat → Nat) (gm : GM) (dn : Nat) (y k : Nat) (v : Int32) (hl9 : l.stackTraces = false) (hng : NG gm [(h, xO xa xi), (xa 8, qA G 5 8 (shf sh)), (sh dn, .inr (3, [.ref y]))]) (hdn : dn ≤ 7) (hy : gm y = some (k, v)) : MWh l yX1_toss cX1_toss 3 (some .int) [((25 : Nat), (41 : Nat), (41 : Nat), (370 : Nat)), ((25 : Nat), (41 : Nat), (47 : Nat), (350 : Nat)), ((25 : Nat), (41 : Nat), (51 : Nat), (144 : Nat))] ({ frames := 15, cells := 4, slots := 1200, locals := 10400 }) [.ref h, .int (nI dn)] [(h, xO xa xi), (xa 8, qA G 5 8 (shf sh)), (sh dn, .inr (3, [.ref y]))] G (KE G gm) 4 1200 (fun rv w1 => rv = sTosX k v ∧ w1 = [(h, xO xa xi), (xa 8, qA G 5 8 (shf sh)), (sh dn, .inr (3, [.ref y]))]) := by
  -- rows printed by wip/tools/gen.py
  refine mwh_mkg RX1 (by decide) rfl (Nat.le_of_ble_eq_true rfl) ?_
  intro p0_ e0_ s m args below meth c A C htab hA hAx hP hK hD ls hl
  have hZ : ZA A s := hK.2.2.of hP hAx
  have hM1 := hK.2.1
  have hK := hK.1
  have hGP := hK.2
  have hK := hK.1
  have hGA := GA.of hng hGP hAx
  have hx := C.1
  have hb := C.2.1
  have hml := C.2.2.2.2.1
  have hown := C.2.2.2.2.2.1
  have hts := C.2.2.2.2.2.2
  have hS : va_S A s.heap s.heap [] := va_S.rf
  have hl : lv_has ls 3 [(0, .ref h), (1, .int (nI dn))] := hl
  have hs7 := sIn07 hdn
  refine lv_aload_n hx hb dX1_toss_0 rfl (lv_at hl 0 rfl) ?_
  refine lv_iload_n hx hb dX1_toss_1 rfl (lv_at hl 1 rfl) ?_
  refine c_V (rest := []) C (metX1_isShelf l G h xa xi (nI dn)) 1 (lw_V q166 q168 qs2 q39 q170) (by decide +kernel) ⟨rfl, rfl⟩ ⟨(Nat.le_of_ble_eq_true rfl), (Nat.le_of_ble_eq_true rfl)⟩ (KM_mv G) (va_recv hK.1 hP (ci := 1) (q0 := 0) rfl rfl) (hP.sub (ws' := [(h, xO xa xi)]) [0] rfl) hK.1 hl rfl rfl (Nat.le_of_ble_eq_true rfl) ⟨(Nat.le_of_ble_eq_true rfl), (Nat.le_of_ble_eq_true rfl)⟩ dX1_toss_2 ?_
  refine n_if_neB (b := (sIn (nI dn) 0 7)) (tgt := 10) hx hb dX1_toss_5 (by decide) (fun c_1 => ?_) (fun c_1 => absurd c_1 (by simp [hs7]))
  refine lv_aload_n hx hb dX1_toss_10 rfl (lv_at hl 0 rfl) ?_
  refine va_get (D := gD G) (ci := 1) (v := .ref (xa 8)) (C := RX1) (T := TX1) (N := 9) hx hb hts in_X1 hown hK.1 hP 0 rfl rfl 8 (by decide) (hts _ q846) (fun _ h9 => h9) rfl dX1_toss_11 ?_
  refine lv_iload_n hx hb dX1_toss_14 rfl (lv_at hl 1 rfl) ?_
  refine n_aldqS (y := sh dn) C hK.1 hP 1 5 dn rfl rfl (by omega) (by omega) rfl dX1_toss_15 ?_
  refine va_get (D := gD G) (ci := 3) (v := .ref y) (C := RX3) (T := TX3) (N := 1) hx hb hts in_X3 hown hK.1 hP 2 rfl rfl 0 (by decide) (hts _ q834) (fun _ h9 => h9) rfl dX1_toss_16 ?_
  refine lv_ifnonnull (tgt := 25) hx hb dX1_toss_19 (by decide) ?_
  refine lv_aload_n hx hb dX1_toss_25 rfl (lv_at hl 0 rfl) ?_
  refine va_get (D := gD G) (ci := 1) (v := .ref (xa 8)) (C := RX1) (T := TX1) (N := 9) hx hb hts in_X1 hown hK.1 hP 0 rfl rfl 8 (by decide) (hts _ q846) (fun _ h9 => h9) rfl dX1_toss_26 ?_
  refine lv_iload_n hx hb dX1_toss_29 rfl (lv_at hl 1 rfl) ?_
  refine n_aldqS (y := sh dn) C hK.1 hP 1 5 dn rfl rfl (by omega) (by omega) rfl dX1_toss_30 ?_
  refine va_get (D := gD G) (ci := 3) (v := .ref y) (C := RX3) (T := TX3) (N := 1) hx hb hts in_X3 hown hK.1 hP 2 rfl rfl 0 (by decide) (hts _ q834) (fun _ h9 => h9) rfl dX1_toss_31 ?_
  refine n_castG C hK (hGP.kept hGA hS) hy q287 dX1_toss_34 ?_
  refine g_failure C hl9 hK hZ ((hGP.kept hGA hS) _ _ _ hy).1 (GP.pp (hGP.kept hGA hS) hy) hA hP hD hS [0, 1, 2] rfl rfl hl (Nat.le_of_ble_eq_true rfl) ⟨Nat.le_of_ble_eq_true rfl, Nat.le_of_ble_eq_true rfl⟩ ⟨Nat.le_of_ble_eq_true rfl, Nat.le_of_ble_eq_true rfl⟩ dX1_toss_37 (fun c0 H locs hP hD hS => ?_) (fun n9 c1 q9 fv H locs hP hD hS => ?_)
  · have hP : PP G [(h, xO xa xi), (xa 8, qA G 5 8 (shf sh)), (sh dn, .inr (3, [.ref y]))] H := hP
    have hD : va_D A [(h, xO xa xi), (xa 8, qA G 5 8 (shf sh)), (sh dn, .inr (3, [.ref y]))] := hD
    refine vx_athrowN hx hb dX1_toss_40 ?_
    refine x_noteN C hl9 hK.2 hP (hGP.kept hGA hS) hS hZ hl.1 ⟨Nat.le_of_ble_eq_true rfl, Nat.le_of_ble_eq_true rfl, Nat.le_of_ble_eq_true rfl, Nat.le_of_ble_eq_true rfl⟩ (fun H q9 ce hP _ hS hce hcv hcl => ?_)
    refine x_catch (E := "java/lang/NullPointerException") (name := "java/lang/NullPointerException") C hK.2 htab [⟨25, 41, 41, 370⟩] ⟨25, 41, 47, 350⟩ [⟨25, 41, 51, 144⟩] rfl (fun z h9 => by simp only [List.mem_cons, List.not_mem_nil, or_false] at h9; rcases h9 with rfl <;> first | exact Or.inl (by decide) | exact Or.inr ⟨by decide, _, q980, by decide +kernel⟩) (by decide) (by decide) q922 (by decide +kernel) hce hcv hcl ?_
    refine lv_astore_n (lv' := [(2, .ref q9), (0, .ref h), (1, .int (nI dn))]) hx hb dX1_toss_47 rfl hl (Nat.le_of_ble_eq_true rfl) rfl (fun ls hl => ?_)
    refine lv_bipush (v := (-15)) hx hb dX1_toss_48 (by decide) ?_
    exact n_iretW (v := (-15)) (w1 := [(h, xO xa xi), (xa 8, qA G 5 8 (shf sh)), (sh dn, .inr (3, [.ref y]))]) C (⟨(sTosX_0 c0).symm, rfl⟩) hP hD hS (by first | omega | decide) (by first | omega | decide) dX1_toss_50
  · have hP : PP G [(h, xO xa xi), (xa 8, qA G 5 8 (shf sh)), (sh dn, .inr (3, [.ref y])), (q9, eO 15 fv n9)] H := hP
    have hD : va_D A [(h, xO xa xi), (xa 8, qA G 5 8 (shf sh)), (sh dn, .inr (3, [.ref y])), (q9, eO 15 fv n9)] := hD
    obtain ⟨ce, hce, hcv, hcl⟩ := x_rec hK.1 hP (ci := 15) (E := "CakesToTheWatched$Tossed") rfl (q0 := 3) rfl
    refine vx_athrow hx hb dX1_toss_40 ?_
    refine x_catch (E := "CakesToTheWatched$Tossed") (name := "CakesToTheWatched$Tossed") C hK.2 htab [] ⟨25, 41, 41, 370⟩ [⟨25, 41, 47, 350⟩, ⟨25, 41, 51, 144⟩] rfl (fun _ h9 => nomatch h9) (by decide) (by decide) q980 (by decide +kernel) hce hcv hcl ?_
    refine lv_astore_n (lv' := [(2, .ref q9), (0, .ref h), (1, .int (nI dn))]) hx hb dX1_toss_41 rfl hl (Nat.le_of_ble_eq_true rfl) rfl (fun ls hl => ?_)
    refine lv_aload_n hx hb dX1_toss_42 rfl (lv_at hl 0 rfl) ?_
    refine va_get (D := gD G) (ci := 15) (v := .int n9) (C := RX16) (T := TX16) (N := 7) hx hb hts in_X16 hown hK.1 hP 3 rfl rfl 6 (by decide) (hts _ q1016) (fun _ h9 => h9) rfl dX1_toss_43 ?_
    exact n_iretW (v := n9) (w1 := [(h, xO xa xi), (xa 8, qA G 5 8 (shf sh)), (sh dn, .inr (3, [.ref y]))]) C (⟨(sTosX_1 c1).symm, rfl⟩) (hP.sub (ws' := [(h, xO xa xi), (xa 8, qA G 5 8 (shf sh)), (sh dn, .inr (3, [.ref y]))]) [0, 1, 2] rfl) (hD.sub (ws' := [(h, xO xa xi), (xa 8, qA G 5 8 (shf sh)), (sh dn, .inr (3, [.ref y]))]) [0, 1, 2] (by decide) rfl) hS (by first | omega | decide) (by first | omega | decide) dX1_toss_46

set_option maxHeartbeats 4000000 in
set_option maxRecDepth 100000 in
theorem metX1_toss_r (l : Launch) (G : GG) (h : Nat) (xa : Nat → Nat) (xi : Nat → Int32) (sh : Nat → Nat) (gm : GM) (dn : Nat) (t ra z8 : Nat) (rf : Nat → Int32) (hl9 : l.stackTraces = false) (hng : NG gm [(h, xO xa xi), (xa 8, qA G 5 8 (shf sh)), (sh dn, .inr (3, [.ref ra])), (ra, tA G t z8 rf)]) (hdn : dn ≤ 7) (ht : t < 3) (hz8 : z8 ≤ 100) : MWh l yX1_toss cX1_toss 3 (some .int) [((25 : Nat), (41 : Nat), (41 : Nat), (370 : Nat)), ((25 : Nat), (41 : Nat), (47 : Nat), (350 : Nat)), ((25 : Nat), (41 : Nat), (51 : Nat), (144 : Nat))] ({ frames := 9, cells := 4, slots := 1100, locals := 10400 }) [.ref h, .int (nI dn)] [(h, xO xa xi), (xa 8, qA G 5 8 (shf sh)), (sh dn, .inr (3, [.ref ra])), (ra, tA G t z8 rf)] G (KE G gm) 4 1100 (fun rv w1 => rv = -12 ∧ w1 = [(h, xO xa xi), (xa 8, qA G 5 8 (shf sh)), (sh dn, .inr (3, [.ref ra])), (ra, tA G t z8 rf)]) := by
  -- rows printed by wip/tools/gen.py
  refine mwh_mkg RX1 (by decide) rfl (Nat.le_of_ble_eq_true rfl) ?_
  intro p0_ e0_ s m args below meth c A C htab hA hAx hP hK hD ls hl
  have hZ : ZA A s := hK.2.2.of hP hAx
  have hM1 := hK.2.1
  have hK := hK.1
  have hGP := hK.2
  have hK := hK.1
  have hGA := GA.of hng hGP hAx
  have hx := C.1
  have hb := C.2.1
  have hml := C.2.2.2.2.1
  have hown := C.2.2.2.2.2.1
  have hts := C.2.2.2.2.2.2
  have hS : va_S A s.heap s.heap [] := va_S.rf
  have hl : lv_has ls 3 [(0, .ref h), (1, .int (nI dn))] := hl
  have hs7 := sIn07 hdn
  refine lv_aload_n hx hb dX1_toss_0 rfl (lv_at hl 0 rfl) ?_
  refine lv_iload_n hx hb dX1_toss_1 rfl (lv_at hl 1 rfl) ?_
  refine c_V (rest := []) C (metX1_isShelf l G h xa xi (nI dn)) 1 (lw_V q166 q168 qs2 q39 q170) (by decide +kernel) ⟨rfl, rfl⟩ ⟨(Nat.le_of_ble_eq_true rfl), (Nat.le_of_ble_eq_true rfl)⟩ (KM_mv G) (va_recv hK.1 hP (ci := 1) (q0 := 0) rfl rfl) (hP.sub (ws' := [(h, xO xa xi)]) [0] rfl) hK.1 hl rfl rfl (Nat.le_of_ble_eq_true rfl) ⟨(Nat.le_of_ble_eq_true rfl), (Nat.le_of_ble_eq_true rfl)⟩ dX1_toss_2 ?_
  refine n_if_neB (b := (sIn (nI dn) 0 7)) (tgt := 10) hx hb dX1_toss_5 (by decide) (fun c_1 => ?_) (fun c_1 => absurd c_1 (by simp [hs7]))
  refine lv_aload_n hx hb dX1_toss_10 rfl (lv_at hl 0 rfl) ?_
  refine va_get (D := gD G) (ci := 1) (v := .ref (xa 8)) (C := RX1) (T := TX1) (N := 9) hx hb hts in_X1 hown hK.1 hP 0 rfl rfl 8 (by decide) (hts _ q846) (fun _ h9 => h9) rfl dX1_toss_11 ?_
  refine lv_iload_n hx hb dX1_toss_14 rfl (lv_at hl 1 rfl) ?_
  refine n_aldqS (y := sh dn) C hK.1 hP 1 5 dn rfl rfl (by omega) (by omega) rfl dX1_toss_15 ?_
  refine va_get (D := gD G) (ci := 3) (v := .ref ra) (C := RX3) (T := TX3) (N := 1) hx hb hts in_X3 hown hK.1 hP 2 rfl rfl 0 (by decide) (hts _ q834) (fun _ h9 => h9) rfl dX1_toss_16 ?_
  refine lv_ifnonnull (tgt := 25) hx hb dX1_toss_19 (by decide) ?_
  refine lv_aload_n hx hb dX1_toss_25 rfl (lv_at hl 0 rfl) ?_
  refine va_get (D := gD G) (ci := 1) (v := .ref (xa 8)) (C := RX1) (T := TX1) (N := 9) hx hb hts in_X1 hown hK.1 hP 0 rfl rfl 8 (by decide) (hts _ q846) (fun _ h9 => h9) rfl dX1_toss_26 ?_
  refine lv_iload_n hx hb dX1_toss_29 rfl (lv_at hl 1 rfl) ?_
  refine n_aldqS (y := sh dn) C hK.1 hP 1 5 dn rfl rfl (by omega) (by omega) rfl dX1_toss_30 ?_
  refine va_get (D := gD G) (ci := 3) (v := .ref ra) (C := RX3) (T := TX3) (N := 1) hx hb hts in_X3 hown hK.1 hP 2 rfl rfl 0 (by decide) (hts _ q834) (fun _ h9 => h9) rfl dX1_toss_31 ?_
  refine n_castXT (q0 := 3) C hM1 hK ht hP rfl (xn_guest ht) arr_cc.2.2.2 q287 dX1_toss_34 (fun tx9 ha9 hb9 => ?_)
  refine x_note C hl9 hK.2 hP (hGP.kept hGA hS) hS hZ E_cce eCCE_tbl e_in1.1 hl.1 ha9 hb9 ⟨Nat.le_of_ble_eq_true rfl, Nat.le_of_ble_eq_true rfl, Nat.le_of_ble_eq_true rfl, Nat.le_of_ble_eq_true rfl, Nat.le_of_ble_eq_true rfl⟩ (fun H q9 ce hP _ hS hce hcv hcl => ?_)
  refine x_catch (E := "java/lang/ClassCastException") (name := "java/lang/ClassCastException") C hK.2 htab [⟨25, 41, 41, 370⟩, ⟨25, 41, 47, 350⟩] ⟨25, 41, 51, 144⟩ [] rfl (fun z h9 => by simp only [List.mem_cons, List.not_mem_nil, or_false] at h9; rcases h9 with rfl | rfl <;> first | exact Or.inl (by decide) | exact Or.inr ⟨by decide, _, q980, by decide +kernel⟩ | exact Or.inr ⟨by decide, _, q922, by decide +kernel⟩) (by decide) (by decide) q74 (by decide +kernel) hce hcv hcl ?_
  refine lv_astore_n (lv' := [(2, .ref q9), (0, .ref h), (1, .int (nI dn))]) hx hb dX1_toss_51 rfl hl (Nat.le_of_ble_eq_true rfl) rfl (fun ls hl => ?_)
  refine lv_bipush (v := (-12)) hx hb dX1_toss_52 (by decide) ?_
  exact n_iretW (v := (-12)) (w1 := [(h, xO xa xi), (xa 8, qA G 5 8 (shf sh)), (sh dn, .inr (3, [.ref ra])), (ra, tA G t z8 rf)]) C (⟨rfl, rfl⟩) hP hD hS (by first | omega | decide) (by first | omega | decide) dX1_toss_54

set_option maxHeartbeats 4000000 in
set_option maxRecDepth 100000 in
theorem metX1_cost_n (l : Launch) (G : GG) (h : Nat) (xa : Nat → Nat) (xi : Nat → Int32) (sh : Nat → Nat) (gm : GM) (dn : Nat) (hl9 : l.stackTraces = false) (hng : NG gm [(h, xO xa xi), (xa 8, qA G 5 8 (shf sh)), (sh dn, .inr (3, [.null]))]) (hdn : dn ≤ 7) : MWh l yX1_cost cX1_cost 3 (some .int) [((10 : Nat), (25 : Nat), (26 : Nat), (350 : Nat)), ((10 : Nat), (25 : Nat), (30 : Nat), (144 : Nat))] ({ frames := 9, cells := 4, slots := 1100, locals := 10400 }) [.ref h, .int (nI dn)] [(h, xO xa xi), (xa 8, qA G 5 8 (shf sh)), (sh dn, .inr (3, [.null]))] G (KE G gm) 4 1100 (fun rv w1 => rv = -11 ∧ w1 = [(h, xO xa xi), (xa 8, qA G 5 8 (shf sh)), (sh dn, .inr (3, [.null]))]) := by
  -- rows printed by wip/tools/gen.py
  refine mwh_mkg RX1 (by decide) rfl (Nat.le_of_ble_eq_true rfl) ?_
  intro p0_ e0_ s m args below meth c A C htab hA hAx hP hK hD ls hl
  have hZ : ZA A s := hK.2.2.of hP hAx
  have hM1 := hK.2.1
  have hK := hK.1
  have hGP := hK.2
  have hK := hK.1
  have hGA := GA.of hng hGP hAx
  have hx := C.1
  have hb := C.2.1
  have hml := C.2.2.2.2.1
  have hown := C.2.2.2.2.2.1
  have hts := C.2.2.2.2.2.2
  have hS : va_S A s.heap s.heap [] := va_S.rf
  have hl : lv_has ls 3 [(0, .ref h), (1, .int (nI dn))] := hl
  have hs7 := sIn07 hdn
  refine lv_aload_n hx hb dX1_cost_0 rfl (lv_at hl 0 rfl) ?_
  refine lv_iload_n hx hb dX1_cost_1 rfl (lv_at hl 1 rfl) ?_
  refine c_V (rest := []) C (metX1_isShelf l G h xa xi (nI dn)) 1 (lw_V q166 q168 qs2 q39 q170) (by decide +kernel) ⟨rfl, rfl⟩ ⟨(Nat.le_of_ble_eq_true rfl), (Nat.le_of_ble_eq_true rfl)⟩ (KM_mv G) (va_recv hK.1 hP (ci := 1) (q0 := 0) rfl rfl) (hP.sub (ws' := [(h, xO xa xi)]) [0] rfl) hK.1 hl rfl rfl (Nat.le_of_ble_eq_true rfl) ⟨(Nat.le_of_ble_eq_true rfl), (Nat.le_of_ble_eq_true rfl)⟩ dX1_cost_2 ?_
  refine n_if_neB (b := (sIn (nI dn) 0 7)) (tgt := 10) hx hb dX1_cost_5 (by decide) (fun c_1 => ?_) (fun c_1 => absurd c_1 (by simp [hs7]))
  refine lv_aload_n hx hb dX1_cost_10 rfl (lv_at hl 0 rfl) ?_
  refine va_get (D := gD G) (ci := 1) (v := .ref (xa 8)) (C := RX1) (T := TX1) (N := 9) hx hb hts in_X1 hown hK.1 hP 0 rfl rfl 8 (by decide) (hts _ q846) (fun _ h9 => h9) rfl dX1_cost_11 ?_
  refine lv_iload_n hx hb dX1_cost_14 rfl (lv_at hl 1 rfl) ?_
  refine n_aldqS (y := sh dn) C hK.1 hP 1 5 dn rfl rfl (by omega) (by omega) rfl dX1_cost_15 ?_
  refine va_get (D := gD G) (ci := 3) (v := .null) (C := RX3) (T := TX3) (N := 1) hx hb hts in_X3 hown hK.1 hP 2 rfl rfl 0 (by decide) (hts _ q834) (fun _ h9 => h9) rfl dX1_cost_16 ?_
  refine lv_castN hx hb dX1_cost_19 ?_
  refine vx_invokeN (C := "CakesToTheWatched$Guest") (As := []) hx hb hown (hts _ q944) (hts _ q945) (hts _ q952) (hts _ q946) ⟨by decide, by decide⟩ (by decide +kernel) dX1_cost_22 ?_ rfl
  refine x_noteN C hl9 hK.2 hP (hGP.kept hGA hS) hS hZ hl.1 ⟨Nat.le_of_ble_eq_true rfl, Nat.le_of_ble_eq_true rfl, Nat.le_of_ble_eq_true rfl, Nat.le_of_ble_eq_true rfl⟩ (fun H q9 ce hP _ hS hce hcv hcl => ?_)
  refine x_catch (E := "java/lang/NullPointerException") (name := "java/lang/NullPointerException") C hK.2 htab [] ⟨10, 25, 26, 350⟩ [⟨10, 25, 30, 144⟩] rfl (fun _ h9 => nomatch h9) (by decide) (by decide) q922 (by decide +kernel) hce hcv hcl ?_
  refine lv_astore_n (lv' := [(2, .ref q9), (0, .ref h), (1, .int (nI dn))]) hx hb dX1_cost_26 rfl hl (Nat.le_of_ble_eq_true rfl) rfl (fun ls hl => ?_)
  refine lv_bipush (v := (-11)) hx hb dX1_cost_27 (by decide) ?_
  exact n_iretW (v := (-11)) (w1 := [(h, xO xa xi), (xa 8, qA G 5 8 (shf sh)), (sh dn, .inr (3, [.null]))]) C (⟨rfl, rfl⟩) hP hD hS (by first | omega | decide) (by first | omega | decide) dX1_cost_29

set_option maxHeartbeats 4000000 in
set_option maxRecDepth 100000 in
theorem metX1_cost_g (l : Launch) (G : GG) (h : Nat) (xa : Nat → Nat) (xi : Nat → Int32) (sh : Nat → Nat) (gm : GM) (dn : Nat) (y k : Nat) (v : Int32) (hl9 : l.stackTraces = false) (hng : NG gm [(h, xO xa xi), (xa 8, qA G 5 8 (shf sh)), (sh dn, .inr (3, [.ref y]))]) (hdn : dn ≤ 7) (hy : gm y = some (k, v)) : MWh l yX1_cost cX1_cost 3 (some .int) [((10 : Nat), (25 : Nat), (26 : Nat), (350 : Nat)), ((10 : Nat), (25 : Nat), (30 : Nat), (144 : Nat))] ({ frames := 6, cells := 0, slots := 0, locals := 200 }) [.ref h, .int (nI dn)] [(h, xO xa xi), (xa 8, qA G 5 8 (shf sh)), (sh dn, .inr (3, [.ref y]))] G (KE G gm) 0 0 (fun rv w1 => rv = sCost (nI k) v ∧ w1 = [(h, xO xa xi), (xa 8, qA G 5 8 (shf sh)), (sh dn, .inr (3, [.ref y]))]) := by
  -- rows printed by wip/tools/gen.py
  refine mwh_mkg RX1 (by decide) rfl (Nat.le_of_ble_eq_true rfl) ?_
  intro p0_ e0_ s m args below meth c A C htab hA hAx hP hK hD ls hl
  have hZ : ZA A s := hK.2.2.of hP hAx
  have hM1 := hK.2.1
  have hK := hK.1
  have hGP := hK.2
  have hK := hK.1
  have hGA := GA.of hng hGP hAx
  have hx := C.1
  have hb := C.2.1
  have hml := C.2.2.2.2.1
  have hown := C.2.2.2.2.2.1
  have hts := C.2.2.2.2.2.2
  have hS : va_S A s.heap s.heap [] := va_S.rf
  have hl : lv_has ls 3 [(0, .ref h), (1, .int (nI dn))] := hl
  have hs7 := sIn07 hdn
  refine lv_aload_n hx hb dX1_cost_0 rfl (lv_at hl 0 rfl) ?_
  refine lv_iload_n hx hb dX1_cost_1 rfl (lv_at hl 1 rfl) ?_
  refine c_V (rest := []) C (metX1_isShelf l G h xa xi (nI dn)) 1 (lw_V q166 q168 qs2 q39 q170) (by decide +kernel) ⟨rfl, rfl⟩ ⟨(Nat.le_of_ble_eq_true rfl), (Nat.le_of_ble_eq_true rfl)⟩ (KM_mv G) (va_recv hK.1 hP (ci := 1) (q0 := 0) rfl rfl) (hP.sub (ws' := [(h, xO xa xi)]) [0] rfl) hK.1 hl rfl rfl (Nat.le_of_ble_eq_true rfl) ⟨(Nat.le_of_ble_eq_true rfl), (Nat.le_of_ble_eq_true rfl)⟩ dX1_cost_2 ?_
  refine n_if_neB (b := (sIn (nI dn) 0 7)) (tgt := 10) hx hb dX1_cost_5 (by decide) (fun c_1 => ?_) (fun c_1 => absurd c_1 (by simp [hs7]))
  refine lv_aload_n hx hb dX1_cost_10 rfl (lv_at hl 0 rfl) ?_
  refine va_get (D := gD G) (ci := 1) (v := .ref (xa 8)) (C := RX1) (T := TX1) (N := 9) hx hb hts in_X1 hown hK.1 hP 0 rfl rfl 8 (by decide) (hts _ q846) (fun _ h9 => h9) rfl dX1_cost_11 ?_
  refine lv_iload_n hx hb dX1_cost_14 rfl (lv_at hl 1 rfl) ?_
  refine n_aldqS (y := sh dn) C hK.1 hP 1 5 dn rfl rfl (by omega) (by omega) rfl dX1_cost_15 ?_
  refine va_get (D := gD G) (ci := 3) (v := .ref y) (C := RX3) (T := TX3) (N := 1) hx hb hts in_X3 hown hK.1 hP 2 rfl rfl 0 (by decide) (hts _ q834) (fun _ h9 => h9) rfl dX1_cost_16 ?_
  refine n_castG C hK (hGP.kept hGA hS) hy q287 dX1_cost_19 ?_
  refine g_cost (ws := [(y, .inr (6 + k, [.int (v)]))]) (q0 := 0) C hK.1 ((hGP.kept hGA hS) _ _ _ hy).1 rfl (GP.pp (hGP.kept hGA hS) hy) ⟨(Nat.le_of_ble_eq_true rfl), (Nat.le_of_ble_eq_true rfl)⟩ hl (Nat.le_of_ble_eq_true rfl) ⟨(Nat.le_of_ble_eq_true rfl), (Nat.le_of_ble_eq_true rfl)⟩ dX1_cost_22 ?_
  exact n_iretW (v := sCost (nI k) v) (w1 := [(h, xO xa xi), (xa 8, qA G 5 8 (shf sh)), (sh dn, .inr (3, [.ref y]))]) C (⟨rfl, rfl⟩) hP hD hS (by first | omega | decide) (by first | omega | decide) dX1_cost_25

set_option maxHeartbeats 4000000 in
set_option maxRecDepth 100000 in
theorem metX1_cost_r (l : Launch) (G : GG) (h : Nat) (xa : Nat → Nat) (xi : Nat → Int32) (sh : Nat → Nat) (gm : GM) (dn : Nat) (t ra z8 : Nat) (rf : Nat → Int32) (hl9 : l.stackTraces = false) (hng : NG gm [(h, xO xa xi), (xa 8, qA G 5 8 (shf sh)), (sh dn, .inr (3, [.ref ra])), (ra, tA G t z8 rf)]) (hdn : dn ≤ 7) (ht : t < 3) (hz8 : z8 ≤ 100) : MWh l yX1_cost cX1_cost 3 (some .int) [((10 : Nat), (25 : Nat), (26 : Nat), (350 : Nat)), ((10 : Nat), (25 : Nat), (30 : Nat), (144 : Nat))] ({ frames := 9, cells := 4, slots := 1100, locals := 10400 }) [.ref h, .int (nI dn)] [(h, xO xa xi), (xa 8, qA G 5 8 (shf sh)), (sh dn, .inr (3, [.ref ra])), (ra, tA G t z8 rf)] G (KE G gm) 4 1100 (fun rv w1 => rv = -12 ∧ w1 = [(h, xO xa xi), (xa 8, qA G 5 8 (shf sh)), (sh dn, .inr (3, [.ref ra])), (ra, tA G t z8 rf)]) := by
  -- rows printed by wip/tools/gen.py
  refine mwh_mkg RX1 (by decide) rfl (Nat.le_of_ble_eq_true rfl) ?_
  intro p0_ e0_ s m args below meth c A C htab hA hAx hP hK hD ls hl
  have hZ : ZA A s := hK.2.2.of hP hAx
  have hM1 := hK.2.1
  have hK := hK.1
  have hGP := hK.2
  have hK := hK.1
  have hGA := GA.of hng hGP hAx
  have hx := C.1
  have hb := C.2.1
  have hml := C.2.2.2.2.1
  have hown := C.2.2.2.2.2.1
  have hts := C.2.2.2.2.2.2
  have hS : va_S A s.heap s.heap [] := va_S.rf
  have hl : lv_has ls 3 [(0, .ref h), (1, .int (nI dn))] := hl
  have hs7 := sIn07 hdn
  refine lv_aload_n hx hb dX1_cost_0 rfl (lv_at hl 0 rfl) ?_
  refine lv_iload_n hx hb dX1_cost_1 rfl (lv_at hl 1 rfl) ?_
  refine c_V (rest := []) C (metX1_isShelf l G h xa xi (nI dn)) 1 (lw_V q166 q168 qs2 q39 q170) (by decide +kernel) ⟨rfl, rfl⟩ ⟨(Nat.le_of_ble_eq_true rfl), (Nat.le_of_ble_eq_true rfl)⟩ (KM_mv G) (va_recv hK.1 hP (ci := 1) (q0 := 0) rfl rfl) (hP.sub (ws' := [(h, xO xa xi)]) [0] rfl) hK.1 hl rfl rfl (Nat.le_of_ble_eq_true rfl) ⟨(Nat.le_of_ble_eq_true rfl), (Nat.le_of_ble_eq_true rfl)⟩ dX1_cost_2 ?_
  refine n_if_neB (b := (sIn (nI dn) 0 7)) (tgt := 10) hx hb dX1_cost_5 (by decide) (fun c_1 => ?_) (fun c_1 => absurd c_1 (by simp [hs7]))
  refine lv_aload_n hx hb dX1_cost_10 rfl (lv_at hl 0 rfl) ?_
  refine va_get (D := gD G) (ci := 1) (v := .ref (xa 8)) (C := RX1) (T := TX1) (N := 9) hx hb hts in_X1 hown hK.1 hP 0 rfl rfl 8 (by decide) (hts _ q846) (fun _ h9 => h9) rfl dX1_cost_11 ?_
  refine lv_iload_n hx hb dX1_cost_14 rfl (lv_at hl 1 rfl) ?_
  refine n_aldqS (y := sh dn) C hK.1 hP 1 5 dn rfl rfl (by omega) (by omega) rfl dX1_cost_15 ?_
  refine va_get (D := gD G) (ci := 3) (v := .ref ra) (C := RX3) (T := TX3) (N := 1) hx hb hts in_X3 hown hK.1 hP 2 rfl rfl 0 (by decide) (hts _ q834) (fun _ h9 => h9) rfl dX1_cost_16 ?_
  refine n_castXT (q0 := 3) C hM1 hK ht hP rfl (xn_guest ht) arr_cc.2.2.2 q287 dX1_cost_19 (fun tx9 ha9 hb9 => ?_)
  refine x_note C hl9 hK.2 hP (hGP.kept hGA hS) hS hZ E_cce eCCE_tbl e_in1.1 hl.1 ha9 hb9 ⟨Nat.le_of_ble_eq_true rfl, Nat.le_of_ble_eq_true rfl, Nat.le_of_ble_eq_true rfl, Nat.le_of_ble_eq_true rfl, Nat.le_of_ble_eq_true rfl⟩ (fun H q9 ce hP _ hS hce hcv hcl => ?_)
  refine x_catch (E := "java/lang/ClassCastException") (name := "java/lang/ClassCastException") C hK.2 htab [⟨10, 25, 26, 350⟩] ⟨10, 25, 30, 144⟩ [] rfl (fun z h9 => by simp only [List.mem_cons, List.not_mem_nil, or_false] at h9; rcases h9 with rfl <;> first | exact Or.inl (by decide) | exact Or.inr ⟨by decide, _, q922, by decide +kernel⟩) (by decide) (by decide) q74 (by decide +kernel) hce hcv hcl ?_
  refine lv_astore_n (lv' := [(2, .ref q9), (0, .ref h), (1, .int (nI dn))]) hx hb dX1_cost_30 rfl hl (Nat.le_of_ble_eq_true rfl) rfl (fun ls hl => ?_)
  refine lv_bipush (v := (-12)) hx hb dX1_cost_31 (by decide) ?_
  exact n_iretW (v := (-12)) (w1 := [(h, xO xa xi), (xa 8, qA G 5 8 (shf sh)), (sh dn, .inr (3, [.ref ra])), (ra, tA G t z8 rf)]) C (⟨rfl, rfl⟩) hP hD hS (by first | omega | decide) (by first | omega | decide) dX1_cost_33
