set_option maxHeartbeats 4000000 in
set_option maxRecDepth 100000 in
theorem metX1_keep_b1 (l : Launch) (G : GG) (h : Nat) (xa : Nat → Nat) (xi : Nat → Int32) (sh : Nat → Nat) (gm : GM) (d what k f : Int32) (hl9 : l.stackTraces = false) (hng : NG gm [(h, xO xa xi)]) (hbad : sIn d 0 7 = false) : MW l yX1_keep cX1_keep 5 (some .int) ({ frames := 2, cells := 0, slots := 0, locals := 43 }) [.ref h, .int d, .int what, .int k, .int f] [(h, xO xa xi)] G (KE G gm) 0 0 (fun rv w1 => rv = -1 ∧ w1 = [(h, xO xa xi)]) := by
  -- rows printed by wip/tools/gen.py
  refine mw_mkg RX1 (by decide) rfl (Nat.le_of_ble_eq_true rfl) ?_
  intro p0_ e0_ s m args below meth c A C hA hAx hP hK hD ls hl
  have hZ : ZA A s := hK.2.2.of hP hAx
  have hM1 := hK.2.1
  have hK := hK.1
  have hGP := hK.2
  have hK := hK.1
  have hGA := GA.of hng hGP hAx
  have hx := C.1
  have hb := C.2.1
  have hml := C.2.2.2.2.1
  have hown := C.2.2.2.2.2.1
  have hts := C.2.2.2.2.2.2
  have hS : va_S A s.heap s.heap [] := va_S.rf
  have hl : lv_has ls 5 [(0, .ref h), (1, .int d), (2, .int what), (3, .int k), (4, .int f)] := hl
  refine lv_aload_n hx hb dX1_keep_0 rfl (lv_at hl 0 rfl) ?_
  refine lv_iload_n hx hb dX1_keep_1 rfl (lv_at hl 1 rfl) ?_
  refine c_V (rest := []) C (metX1_isShelf l G h xa xi d) 1 (lw_V q166 q168 qs2 q39 q170) (by decide +kernel) ⟨rfl, rfl⟩ ⟨(Nat.le_of_ble_eq_true rfl), (Nat.le_of_ble_eq_true rfl)⟩ (KM_mv G) (va_recv hK.1 hP (ci := 1) (q0 := 0) rfl rfl) hP hK.1 hl rfl rfl (Nat.le_of_ble_eq_true rfl) ⟨(Nat.le_of_ble_eq_true rfl), (Nat.le_of_ble_eq_true rfl)⟩ dX1_keep_2 ?_
  refine n_if_eqB (b := (sIn d 0 7)) (tgt := 40) hx hb dX1_keep_5 (by decide) (fun c_1 => ?_) (fun c_1 => absurd c_1 (by simp [hbad]))
  refine lv_iconst (v := (-1)) hx hb dX1_keep_40 (by decide) ?_
  exact n_iretW (v := (-1)) (w1 := [(h, xO xa xi)]) C (⟨rfl, rfl⟩) hP hD hS (by first | omega | decide) (by first | omega | decide) dX1_keep_41

set_option maxHeartbeats 4000000 in
set_option maxRecDepth 100000 in
theorem metX1_keep_b2 (l : Launch) (G : GG) (h : Nat) (xa : Nat → Nat) (xi : Nat → Int32) (sh : Nat → Nat) (gm : GM) (dn : Nat) (what k f : Int32) (hl9 : l.stackTraces = false) (hng : NG gm [(h, xO xa xi)]) (hdn : dn ≤ 7) (h2 : sIn what 0 1 = false) : MW l yX1_keep cX1_keep 5 (some .int) ({ frames := 2, cells := 0, slots := 0, locals := 43 }) [.ref h, .int (nI dn), .int what, .int k, .int f] [(h, xO xa xi)] G (KE G gm) 0 0 (fun rv w1 => rv = -1 ∧ w1 = [(h, xO xa xi)]) := by
  -- rows printed by wip/tools/gen.py
  refine mw_mkg RX1 (by decide) rfl (Nat.le_of_ble_eq_true rfl) ?_
  intro p0_ e0_ s m args below meth c A C hA hAx hP hK hD ls hl
  have hZ : ZA A s := hK.2.2.of hP hAx
  have hM1 := hK.2.1
  have hK := hK.1
  have hGP := hK.2
  have hK := hK.1
  have hGA := GA.of hng hGP hAx
  have hx := C.1
  have hb := C.2.1
  have hml := C.2.2.2.2.1
  have hown := C.2.2.2.2.2.1
  have hts := C.2.2.2.2.2.2
  have hS : va_S A s.heap s.heap [] := va_S.rf
  have hl : lv_has ls 5 [(0, .ref h), (1, .int (nI dn)), (2, .int what), (3, .int k), (4, .int f)] := hl
  have hs7 := sIn07 hdn
  refine lv_aload_n hx hb dX1_keep_0 rfl (lv_at hl 0 rfl) ?_
  refine lv_iload_n hx hb dX1_keep_1 rfl (lv_at hl 1 rfl) ?_
  refine c_V (rest := []) C (metX1_isShelf l G h xa xi (nI dn)) 1 (lw_V q166 q168 qs2 q39 q170) (by decide +kernel) ⟨rfl, rfl⟩ ⟨(Nat.le_of_ble_eq_true rfl), (Nat.le_of_ble_eq_true rfl)⟩ (KM_mv G) (va_recv hK.1 hP (ci := 1) (q0 := 0) rfl rfl) hP hK.1 hl rfl rfl (Nat.le_of_ble_eq_true rfl) ⟨(Nat.le_of_ble_eq_true rfl), (Nat.le_of_ble_eq_true rfl)⟩ dX1_keep_2 ?_
  refine n_if_eqB (b := (sIn (nI dn) 0 7)) (tgt := 40) hx hb dX1_keep_5 (by decide) (fun c_1 => absurd c_1 (by simp [hs7])) (fun c_1 => ?_)
  refine lv_iload_n hx hb dX1_keep_8 rfl (lv_at hl 2 rfl) ?_
  refine lv_iconst (v := 0) hx hb dX1_keep_9 (by decide) ?_
  refine lv_iconst (v := 1) hx hb dX1_keep_10 (by decide) ?_
  refine c_S (rest := []) C (metX1_isIn l G what 0 1) 3 (lw_S q171 q172 q39 q173) (by decide +kernel) ⟨rfl, rfl⟩ ⟨(Nat.le_of_ble_eq_true rfl), (Nat.le_of_ble_eq_true rfl)⟩ (KM_mv G) (hP.sub (ws' := []) [] rfl) hK.1 hl rfl rfl (Nat.le_of_ble_eq_true rfl) ⟨(Nat.le_of_ble_eq_true rfl), (Nat.le_of_ble_eq_true rfl)⟩ dX1_keep_11 ?_
  refine n_if_eqB (b := (sIn what 0 1)) (tgt := 40) hx hb dX1_keep_14 (by decide) (fun c_2 => ?_) (fun c_2 => absurd c_2 (by simp [h2]))
  refine lv_iconst (v := (-1)) hx hb dX1_keep_40 (by decide) ?_
  exact n_iretW (v := (-1)) (w1 := [(h, xO xa xi)]) C (⟨rfl, rfl⟩) hP hD hS (by first | omega | decide) (by first | omega | decide) dX1_keep_41

set_option maxHeartbeats 4000000 in
set_option maxRecDepth 100000 in
theorem metX1_keep_b3 (l : Launch) (G : GG) (h : Nat) (xa : Nat → Nat) (xi : Nat → Int32) (sh : Nat → Nat) (gm : GM) (dn : Nat) (k f : Int32) (hl9 : l.stackTraces = false) (hng : NG gm [(h, xO xa xi)]) (hdn : dn ≤ 7) (h2 : sIn k 0 7 = false) : MW l yX1_keep cX1_keep 5 (some .int) ({ frames := 2, cells := 0, slots := 0, locals := 43 }) [.ref h, .int (nI dn), .int 1, .int k, .int f] [(h, xO xa xi)] G (KE G gm) 0 0 (fun rv w1 => rv = -1 ∧ w1 = [(h, xO xa xi)]) := by
  -- rows printed by wip/tools/gen.py
  refine mw_mkg RX1 (by decide) rfl (Nat.le_of_ble_eq_true rfl) ?_
  intro p0_ e0_ s m args below meth c A C hA hAx hP hK hD ls hl
  have hZ : ZA A s := hK.2.2.of hP hAx
  have hM1 := hK.2.1
  have hK := hK.1
  have hGP := hK.2
  have hK := hK.1
  have hGA := GA.of hng hGP hAx
  have hx := C.1
  have hb := C.2.1
  have hml := C.2.2.2.2.1
  have hown := C.2.2.2.2.2.1
  have hts := C.2.2.2.2.2.2
  have hS : va_S A s.heap s.heap [] := va_S.rf
  have hl : lv_has ls 5 [(0, .ref h), (1, .int (nI dn)), (2, .int 1), (3, .int k), (4, .int f)] := hl
  have hs7 := sIn07 hdn
  have hw1 : sIn 1 0 1 = true := by decide
  have hw0 : sIn 0 0 1 = true := by decide
  refine lv_aload_n hx hb dX1_keep_0 rfl (lv_at hl 0 rfl) ?_
  refine lv_iload_n hx hb dX1_keep_1 rfl (lv_at hl 1 rfl) ?_
  refine c_V (rest := []) C (metX1_isShelf l G h xa xi (nI dn)) 1 (lw_V q166 q168 qs2 q39 q170) (by decide +kernel) ⟨rfl, rfl⟩ ⟨(Nat.le_of_ble_eq_true rfl), (Nat.le_of_ble_eq_true rfl)⟩ (KM_mv G) (va_recv hK.1 hP (ci := 1) (q0 := 0) rfl rfl) hP hK.1 hl rfl rfl (Nat.le_of_ble_eq_true rfl) ⟨(Nat.le_of_ble_eq_true rfl), (Nat.le_of_ble_eq_true rfl)⟩ dX1_keep_2 ?_
  refine n_if_eqB (b := (sIn (nI dn) 0 7)) (tgt := 40) hx hb dX1_keep_5 (by decide) (fun c_1 => absurd c_1 (by simp [hs7])) (fun c_1 => ?_)
  refine lv_iload_n hx hb dX1_keep_8 rfl (lv_at hl 2 rfl) ?_
  refine lv_iconst (v := 0) hx hb dX1_keep_9 (by decide) ?_
  refine lv_iconst (v := 1) hx hb dX1_keep_10 (by decide) ?_
  refine c_S (rest := []) C (metX1_isIn l G 1 0 1) 3 (lw_S q171 q172 q39 q173) (by decide +kernel) ⟨rfl, rfl⟩ ⟨(Nat.le_of_ble_eq_true rfl), (Nat.le_of_ble_eq_true rfl)⟩ (KM_mv G) (hP.sub (ws' := []) [] rfl) hK.1 hl rfl rfl (Nat.le_of_ble_eq_true rfl) ⟨(Nat.le_of_ble_eq_true rfl), (Nat.le_of_ble_eq_true rfl)⟩ dX1_keep_11 ?_
  refine n_if_eqB (b := (sIn 1 0 1)) (tgt := 40) hx hb dX1_keep_14 (by decide) (fun c_2 => absurd c_2 (by simp [hw1])) (fun c_2 => ?_)
  refine lv_iload_n hx hb dX1_keep_17 rfl (lv_at hl 2 rfl) ?_
  refine lv_iconst (v := 1) hx hb dX1_keep_18 (by decide) ?_
  refine lv_icmp_ne (x := 1) (y := 1) (tgt := 42) hx hb dX1_keep_19 (by decide) (fun c_3 => absurd c_3 (by decide)) (fun c_3 => ?_)
  refine lv_iload_n hx hb dX1_keep_22 rfl (lv_at hl 3 rfl) ?_
  refine lv_iconst (v := 0) hx hb dX1_keep_23 (by decide) ?_
  refine lv_bipush (v := 7) hx hb dX1_keep_24 (by decide) ?_
  refine c_S (rest := []) C (metX1_isIn l G k 0 7) 3 (lw_S q171 q172 q39 q173) (by decide +kernel) ⟨rfl, rfl⟩ ⟨(Nat.le_of_ble_eq_true rfl), (Nat.le_of_ble_eq_true rfl)⟩ (KM_mv G) (hP.sub (ws' := []) [] rfl) hK.1 hl rfl rfl (Nat.le_of_ble_eq_true rfl) ⟨(Nat.le_of_ble_eq_true rfl), (Nat.le_of_ble_eq_true rfl)⟩ dX1_keep_26 ?_
  refine n_if_eqB (b := (sIn k 0 7)) (tgt := 40) hx hb dX1_keep_29 (by decide) (fun c_4 => ?_) (fun c_4 => absurd c_4 (by simp [h2]))
  refine lv_iconst (v := (-1)) hx hb dX1_keep_40 (by decide) ?_
  exact n_iretW (v := (-1)) (w1 := [(h, xO xa xi)]) C (⟨rfl, rfl⟩) hP hD hS (by first | omega | decide) (by first | omega | decide) dX1_keep_41

set_option maxHeartbeats 4000000 in
set_option maxRecDepth 100000 in
theorem metX1_keep_b4 (l : Launch) (G : GG) (h : Nat) (xa : Nat → Nat) (xi : Nat → Int32) (sh : Nat → Nat) (gm : GM) (dn : Nat) (k f : Int32) (hl9 : l.stackTraces = false) (hng : NG gm [(h, xO xa xi)]) (hdn : dn ≤ 7) (h1 : sIn k 0 7 = true) (h2 : sIn f 0 9 = false) : MW l yX1_keep cX1_keep 5 (some .int) ({ frames := 2, cells := 0, slots := 0, locals := 43 }) [.ref h, .int (nI dn), .int 1, .int k, .int f] [(h, xO xa xi)] G (KE G gm) 0 0 (fun rv w1 => rv = -1 ∧ w1 = [(h, xO xa xi)]) := by
  -- rows printed by wip/tools/gen.py
  refine mw_mkg RX1 (by decide) rfl (Nat.le_of_ble_eq_true rfl) ?_
  intro p0_ e0_ s m args below meth c A C hA hAx hP hK hD ls hl
  have hZ : ZA A s := hK.2.2.of hP hAx
  have hM1 := hK.2.1
  have hK := hK.1
  have hGP := hK.2
  have hK := hK.1
  have hGA := GA.of hng hGP hAx
  have hx := C.1
  have hb := C.2.1
  have hml := C.2.2.2.2.1
  have hown := C.2.2.2.2.2.1
  have hts := C.2.2.2.2.2.2
  have hS : va_S A s.heap s.heap [] := va_S.rf
  have hl : lv_has ls 5 [(0, .ref h), (1, .int (nI dn)), (2, .int 1), (3, .int k), (4, .int f)] := hl
  have hs7 := sIn07 hdn
  have hw1 : sIn 1 0 1 = true := by decide
  have hw0 : sIn 0 0 1 = true := by decide
  refine lv_aload_n hx hb dX1_keep_0 rfl (lv_at hl 0 rfl) ?_
  refine lv_iload_n hx hb dX1_keep_1 rfl (lv_at hl 1 rfl) ?_
  refine c_V (rest := []) C (metX1_isShelf l G h xa xi (nI dn)) 1 (lw_V q166 q168 qs2 q39 q170) (by decide +kernel) ⟨rfl, rfl⟩ ⟨(Nat.le_of_ble_eq_true rfl), (Nat.le_of_ble_eq_true rfl)⟩ (KM_mv G) (va_recv hK.1 hP (ci := 1) (q0 := 0) rfl rfl) hP hK.1 hl rfl rfl (Nat.le_of_ble_eq_true rfl) ⟨(Nat.le_of_ble_eq_true rfl), (Nat.le_of_ble_eq_true rfl)⟩ dX1_keep_2 ?_
  refine n_if_eqB (b := (sIn (nI dn) 0 7)) (tgt := 40) hx hb dX1_keep_5 (by decide) (fun c_1 => absurd c_1 (by simp [hs7])) (fun c_1 => ?_)
  refine lv_iload_n hx hb dX1_keep_8 rfl (lv_at hl 2 rfl) ?_
  refine lv_iconst (v := 0) hx hb dX1_keep_9 (by decide) ?_
  refine lv_iconst (v := 1) hx hb dX1_keep_10 (by decide) ?_
  refine c_S (rest := []) C (metX1_isIn l G 1 0 1) 3 (lw_S q171 q172 q39 q173) (by decide +kernel) ⟨rfl, rfl⟩ ⟨(Nat.le_of_ble_eq_true rfl), (Nat.le_of_ble_eq_true rfl)⟩ (KM_mv G) (hP.sub (ws' := []) [] rfl) hK.1 hl rfl rfl (Nat.le_of_ble_eq_true rfl) ⟨(Nat.le_of_ble_eq_true rfl), (Nat.le_of_ble_eq_true rfl)⟩ dX1_keep_11 ?_
  refine n_if_eqB (b := (sIn 1 0 1)) (tgt := 40) hx hb dX1_keep_14 (by decide) (fun c_2 => absurd c_2 (by simp [hw1])) (fun c_2 => ?_)
  refine lv_iload_n hx hb dX1_keep_17 rfl (lv_at hl 2 rfl) ?_
  refine lv_iconst (v := 1) hx hb dX1_keep_18 (by decide) ?_
  refine lv_icmp_ne (x := 1) (y := 1) (tgt := 42) hx hb dX1_keep_19 (by decide) (fun c_3 => absurd c_3 (by decide)) (fun c_3 => ?_)
  refine lv_iload_n hx hb dX1_keep_22 rfl (lv_at hl 3 rfl) ?_
  refine lv_iconst (v := 0) hx hb dX1_keep_23 (by decide) ?_
  refine lv_bipush (v := 7) hx hb dX1_keep_24 (by decide) ?_
  refine c_S (rest := []) C (metX1_isIn l G k 0 7) 3 (lw_S q171 q172 q39 q173) (by decide +kernel) ⟨rfl, rfl⟩ ⟨(Nat.le_of_ble_eq_true rfl), (Nat.le_of_ble_eq_true rfl)⟩ (KM_mv G) (hP.sub (ws' := []) [] rfl) hK.1 hl rfl rfl (Nat.le_of_ble_eq_true rfl) ⟨(Nat.le_of_ble_eq_true rfl), (Nat.le_of_ble_eq_true rfl)⟩ dX1_keep_26 ?_
  refine n_if_eqB (b := (sIn k 0 7)) (tgt := 40) hx hb dX1_keep_29 (by decide) (fun c_4 => absurd c_4 (by simp [h1])) (fun c_4 => ?_)
  refine lv_iload hx hb dX1_keep_32 (lv_at hl 4 rfl) ?_
  refine c_S (rest := []) C (metX1_isNine l G f) 1 (lw_S q635 q636 q39 q637) (by decide +kernel) ⟨rfl, rfl⟩ ⟨(Nat.le_of_ble_eq_true rfl), (Nat.le_of_ble_eq_true rfl)⟩ (KM_mv G) (hP.sub (ws' := []) [] rfl) hK.1 hl rfl rfl (Nat.le_of_ble_eq_true rfl) ⟨(Nat.le_of_ble_eq_true rfl), (Nat.le_of_ble_eq_true rfl)⟩ dX1_keep_34 ?_
  refine n_if_neB (b := (sIn f 0 9)) (tgt := 42) hx hb dX1_keep_37 (by decide) (fun c_5 => absurd c_5 (by simp [h2])) (fun c_5 => ?_)
  refine lv_iconst (v := (-1)) hx hb dX1_keep_40 (by decide) ?_
  exact n_iretW (v := (-1)) (w1 := [(h, xO xa xi)]) C (⟨rfl, rfl⟩) hP hD hS (by first | omega | decide) (by first | omega | decide) dX1_keep_41

set_option maxHeartbeats 4000000 in
set_option maxRecDepth 100000 in
theorem metX1_keep_n (l : Launch) (G : GG) (h : Nat) (xa : Nat → Nat) (xi : Nat → Int32) (sh : Nat → Nat) (gm : GM) (dn : Nat) (k f : Int32) (hv : Value) (hl9 : l.stackTraces = false) (hng : NG gm [(h, xO xa xi), (xa 8, qA G 5 8 (shf sh)), (sh dn, .inr (3, [hv]))]) (hdn : dn ≤ 7) : MW l yX1_keep cX1_keep 5 (some .int) ({ frames := 2, cells := 0, slots := 0, locals := 43 }) [.ref h, .int (nI dn), .int 0, .int k, .int f] [(h, xO xa xi), (xa 8, qA G 5 8 (shf sh)), (sh dn, .inr (3, [hv]))] G (KE G gm) 0 0 (fun rv w1 => rv = 0 ∧ w1 = [(h, xO xa xi), (xa 8, qA G 5 8 (shf sh)), (sh dn, .inr (3, [.null]))]) := by
  -- rows printed by wip/tools/gen.py
  refine mw_mkg RX1 (by decide) rfl (Nat.le_of_ble_eq_true rfl) ?_
  intro p0_ e0_ s m args below meth c A C hA hAx hP hK hD ls hl
  have hZ : ZA A s := hK.2.2.of hP hAx
  have hM1 := hK.2.1
  have hK := hK.1
  have hGP := hK.2
  have hK := hK.1
  have hGA := GA.of hng hGP hAx
  have hx := C.1
  have hb := C.2.1
  have hml := C.2.2.2.2.1
  have hown := C.2.2.2.2.2.1
  have hts := C.2.2.2.2.2.2
  have hS : va_S A s.heap s.heap [] := va_S.rf
  have hl : lv_has ls 5 [(0, .ref h), (1, .int (nI dn)), (2, .int 0), (3, .int k), (4, .int f)] := hl
  have hs7 := sIn07 hdn
  have hw1 : sIn 1 0 1 = true := by decide
  have hw0 : sIn 0 0 1 = true := by decide
  refine lv_aload_n hx hb dX1_keep_0 rfl (lv_at hl 0 rfl) ?_
  refine lv_iload_n hx hb dX1_keep_1 rfl (lv_at hl 1 rfl) ?_
  refine c_V (rest := []) C (metX1_isShelf l G h xa xi (nI dn)) 1 (lw_V q166 q168 qs2 q39 q170) (by decide +kernel) ⟨rfl, rfl⟩ ⟨(Nat.le_of_ble_eq_true rfl), (Nat.le_of_ble_eq_true rfl)⟩ (KM_mv G) (va_recv hK.1 hP (ci := 1) (q0 := 0) rfl rfl) (hP.sub (ws' := [(h, xO xa xi)]) [0] rfl) hK.1 hl rfl rfl (Nat.le_of_ble_eq_true rfl) ⟨(Nat.le_of_ble_eq_true rfl), (Nat.le_of_ble_eq_true rfl)⟩ dX1_keep_2 ?_
  refine n_if_eqB (b := (sIn (nI dn) 0 7)) (tgt := 40) hx hb dX1_keep_5 (by decide) (fun c_1 => absurd c_1 (by simp [hs7])) (fun c_1 => ?_)
  refine lv_iload_n hx hb dX1_keep_8 rfl (lv_at hl 2 rfl) ?_
  refine lv_iconst (v := 0) hx hb dX1_keep_9 (by decide) ?_
  refine lv_iconst (v := 1) hx hb dX1_keep_10 (by decide) ?_
  refine c_S (rest := []) C (metX1_isIn l G 0 0 1) 3 (lw_S q171 q172 q39 q173) (by decide +kernel) ⟨rfl, rfl⟩ ⟨(Nat.le_of_ble_eq_true rfl), (Nat.le_of_ble_eq_true rfl)⟩ (KM_mv G) (hP.sub (ws' := []) [] rfl) hK.1 hl rfl rfl (Nat.le_of_ble_eq_true rfl) ⟨(Nat.le_of_ble_eq_true rfl), (Nat.le_of_ble_eq_true rfl)⟩ dX1_keep_11 ?_
  refine n_if_eqB (b := (sIn 0 0 1)) (tgt := 40) hx hb dX1_keep_14 (by decide) (fun c_2 => absurd c_2 (by simp [hw0])) (fun c_2 => ?_)
  refine lv_iload_n hx hb dX1_keep_17 rfl (lv_at hl 2 rfl) ?_
  refine lv_iconst (v := 1) hx hb dX1_keep_18 (by decide) ?_
  refine lv_icmp_ne (x := 0) (y := 1) (tgt := 42) hx hb dX1_keep_19 (by decide) (fun c_3 => ?_) (fun c_3 => absurd c_3 (by decide))
  refine lv_aload_n hx hb dX1_keep_42 rfl (lv_at hl 0 rfl) ?_
  refine va_get (D := gD G) (ci := 1) (v := .ref (xa 8)) (C := RX1) (T := TX1) (N := 9) hx hb hts in_X1 hown hK.1 hP 0 rfl rfl 8 (by decide) (hts _ q846) (fun _ h9 => h9) rfl dX1_keep_43 ?_
  refine lv_iload_n hx hb dX1_keep_46 rfl (lv_at hl 1 rfl) ?_
  refine n_aldqS (y := sh dn) C hK.1 hP 1 5 dn rfl rfl (by omega) (by omega) rfl dX1_keep_47 ?_
  refine lv_iload_n hx hb dX1_keep_48 rfl (lv_at hl 2 rfl) ?_
  refine lv_if_ne (x := 0) (tgt := 56) hx hb dX1_keep_49 (by decide) (fun c_4 => absurd c_4 (by decide)) (fun c_4 => ?_)
  refine lv_null hx hb dX1_keep_52 ?_
  refine lv_goto (tgt := 62) hx hb dX1_keep_53 (by decide) ?_
  refine va_put (D := gD G) (ci := 3) (v := .null) (ty := (.object "java/lang/Object")) (C := RX3) (T := TX3) (N := 1) hx hb hts in_X3 tyX3 tyX3_ok nmX3 hown hK.1 hP hD hS 2 rfl rfl 0 (by decide) (hts _ q834) (fun _ h9 => h9) rfl (by decide +kernel) rfl rfl (Nat.le_of_ble_eq_true rfl) dX1_keep_62 (fun H locs hP hD hS => ?_)
  have hP : PP G [(h, xO xa xi), (xa 8, qA G 5 8 (shf sh)), (sh dn, .inr (3, [.null]))] H := hP
  have hD : va_D A [(h, xO xa xi), (xa 8, qA G 5 8 (shf sh)), (sh dn, .inr (3, [.null]))] := hD
  refine lv_iconst (v := 0) hx hb dX1_keep_65 (by decide) ?_
  exact n_iretW (v := 0) (w1 := [(h, xO xa xi), (xa 8, qA G 5 8 (shf sh)), (sh dn, .inr (3, [.null]))]) C (⟨rfl, rfl⟩) hP hD hS (by first | omega | decide) (by first | omega | decide) dX1_keep_66

set_option maxHeartbeats 4000000 in
set_option maxRecDepth 100000 in
theorem metX1_keep_g (l : Launch) (G : GG) (h : Nat) (xa : Nat → Nat) (xi : Nat → Int32) (sh : Nat → Nat) (gm : GM) (dn : Nat) (kn : Nat) (v : Int32) (hv : Value) (hl9 : l.stackTraces = false) (hng : NG gm [(h, xO xa xi), (xa 8, qA G 5 8 (shf sh)), (sh dn, .inr (3, [hv]))]) (hdn : dn ≤ 7) (hk : kn < 8) (h9 : sIn v 0 9 = true) : MW l yX1_keep cX1_keep 5 (some .int) ({ frames := 5, cells := 1, slots := 1, locals := 114 }) [.ref h, .int (nI dn), .int 1, .int (nI kn), .int v] [(h, xO xa xi), (xa 8, qA G 5 8 (shf sh)), (sh dn, .inr (3, [hv]))] G (KE G gm) 1 1 (fun rv w1 => rv = 0 ∧ ∃ q : Nat, w1 = [(h, xO xa xi), (xa 8, qA G 5 8 (shf sh)), (sh dn, .inr (3, [.ref q])), (q, .inr (6 + kn, [.int v]))]) := by
  -- rows printed by wip/tools/gen.py
  refine mw_mkg RX1 (by decide) rfl (Nat.le_of_ble_eq_true rfl) ?_
  intro p0_ e0_ s m args below meth c A C hA hAx hP hK hD ls hl
  have hZ : ZA A s := hK.2.2.of hP hAx
  have hM1 := hK.2.1
  have hK := hK.1
  have hGP := hK.2
  have hK := hK.1
  have hGA := GA.of hng hGP hAx
  have hx := C.1
  have hb := C.2.1
  have hml := C.2.2.2.2.1
  have hown := C.2.2.2.2.2.1
  have hts := C.2.2.2.2.2.2
  have hS : va_S A s.heap s.heap [] := va_S.rf
  have hl : lv_has ls 5 [(0, .ref h), (1, .int (nI dn)), (2, .int 1), (3, .int (nI kn)), (4, .int v)] := hl
  have hs7 := sIn07 hdn
  have hw1 : sIn 1 0 1 = true := by decide
  have hw0 : sIn 0 0 1 = true := by decide
  have hk7 : sIn (nI kn) 0 7 = true := sIn07 (by omega)
  refine lv_aload_n hx hb dX1_keep_0 rfl (lv_at hl 0 rfl) ?_
  refine lv_iload_n hx hb dX1_keep_1 rfl (lv_at hl 1 rfl) ?_
  refine c_V (rest := []) C (metX1_isShelf l G h xa xi (nI dn)) 1 (lw_V q166 q168 qs2 q39 q170) (by decide +kernel) ⟨rfl, rfl⟩ ⟨(Nat.le_of_ble_eq_true rfl), (Nat.le_of_ble_eq_true rfl)⟩ (KM_mv G) (va_recv hK.1 hP (ci := 1) (q0 := 0) rfl rfl) (hP.sub (ws' := [(h, xO xa xi)]) [0] rfl) hK.1 hl rfl rfl (Nat.le_of_ble_eq_true rfl) ⟨(Nat.le_of_ble_eq_true rfl), (Nat.le_of_ble_eq_true rfl)⟩ dX1_keep_2 ?_
  refine n_if_eqB (b := (sIn (nI dn) 0 7)) (tgt := 40) hx hb dX1_keep_5 (by decide) (fun c_1 => absurd c_1 (by simp [hs7])) (fun c_1 => ?_)
  refine lv_iload_n hx hb dX1_keep_8 rfl (lv_at hl 2 rfl) ?_
  refine lv_iconst (v := 0) hx hb dX1_keep_9 (by decide) ?_
  refine lv_iconst (v := 1) hx hb dX1_keep_10 (by decide) ?_
  refine c_S (rest := []) C (metX1_isIn l G 1 0 1) 3 (lw_S q171 q172 q39 q173) (by decide +kernel) ⟨rfl, rfl⟩ ⟨(Nat.le_of_ble_eq_true rfl), (Nat.le_of_ble_eq_true rfl)⟩ (KM_mv G) (hP.sub (ws' := []) [] rfl) hK.1 hl rfl rfl (Nat.le_of_ble_eq_true rfl) ⟨(Nat.le_of_ble_eq_true rfl), (Nat.le_of_ble_eq_true rfl)⟩ dX1_keep_11 ?_
  refine n_if_eqB (b := (sIn 1 0 1)) (tgt := 40) hx hb dX1_keep_14 (by decide) (fun c_2 => absurd c_2 (by simp [hw1])) (fun c_2 => ?_)
  refine lv_iload_n hx hb dX1_keep_17 rfl (lv_at hl 2 rfl) ?_
  refine lv_iconst (v := 1) hx hb dX1_keep_18 (by decide) ?_
  refine lv_icmp_ne (x := 1) (y := 1) (tgt := 42) hx hb dX1_keep_19 (by decide) (fun c_3 => absurd c_3 (by decide)) (fun c_3 => ?_)
  refine lv_iload_n hx hb dX1_keep_22 rfl (lv_at hl 3 rfl) ?_
  refine lv_iconst (v := 0) hx hb dX1_keep_23 (by decide) ?_
  refine lv_bipush (v := 7) hx hb dX1_keep_24 (by decide) ?_
  refine c_S (rest := []) C (metX1_isIn l G (nI kn) 0 7) 3 (lw_S q171 q172 q39 q173) (by decide +kernel) ⟨rfl, rfl⟩ ⟨(Nat.le_of_ble_eq_true rfl), (Nat.le_of_ble_eq_true rfl)⟩ (KM_mv G) (hP.sub (ws' := []) [] rfl) hK.1 hl rfl rfl (Nat.le_of_ble_eq_true rfl) ⟨(Nat.le_of_ble_eq_true rfl), (Nat.le_of_ble_eq_true rfl)⟩ dX1_keep_26 ?_
  refine n_if_eqB (b := (sIn (nI kn) 0 7)) (tgt := 40) hx hb dX1_keep_29 (by decide) (fun c_4 => absurd c_4 (by simp [hk7])) (fun c_4 => ?_)
  refine lv_iload hx hb dX1_keep_32 (lv_at hl 4 rfl) ?_
  refine c_S (rest := []) C (metX1_isNine l G v) 1 (lw_S q635 q636 q39 q637) (by decide +kernel) ⟨rfl, rfl⟩ ⟨(Nat.le_of_ble_eq_true rfl), (Nat.le_of_ble_eq_true rfl)⟩ (KM_mv G) (hP.sub (ws' := []) [] rfl) hK.1 hl rfl rfl (Nat.le_of_ble_eq_true rfl) ⟨(Nat.le_of_ble_eq_true rfl), (Nat.le_of_ble_eq_true rfl)⟩ dX1_keep_34 ?_
  refine n_if_neB (b := (sIn v 0 9)) (tgt := 42) hx hb dX1_keep_37 (by decide) (fun c_5 => ?_) (fun c_5 => absurd c_5 (by simp [h9]))
  refine lv_aload_n hx hb dX1_keep_42 rfl (lv_at hl 0 rfl) ?_
  refine va_get (D := gD G) (ci := 1) (v := .ref (xa 8)) (C := RX1) (T := TX1) (N := 9) hx hb hts in_X1 hown hK.1 hP 0 rfl rfl 8 (by decide) (hts _ q846) (fun _ h9 => h9) rfl dX1_keep_43 ?_
  refine lv_iload_n hx hb dX1_keep_46 rfl (lv_at hl 1 rfl) ?_
  refine n_aldqS (y := sh dn) C hK.1 hP 1 5 dn rfl rfl (by omega) (by omega) rfl dX1_keep_47 ?_
  refine lv_iload_n hx hb dX1_keep_48 rfl (lv_at hl 2 rfl) ?_
  refine lv_if_ne (x := 1) (tgt := 56) hx hb dX1_keep_49 (by decide) (fun c_6 => ?_) (fun c_6 => absurd c_6 (by decide))
  refine lv_iload_n hx hb dX1_keep_56 rfl (lv_at hl 3 rfl) ?_
  refine lv_iload hx hb dX1_keep_57 (lv_at hl 4 rfl) ?_
  refine c_SWqk (wr := [(h, xO xa xi), (xa 8, qA G 5 8 (shf sh)), (sh dn, .inr (3, [hv]))]) (rest := [.ref (sh dn)]) C (metX1_guestOf l G kn v (by omega)) 2 (lw_S q284 q285 q39 q286) (by decide +kernel) ⟨rfl, rfl⟩ ⟨(Nat.le_of_ble_eq_true rfl), (Nat.le_of_ble_eq_true rfl)⟩ ((fun _ _ _ _ h => (KM_mv G).2 _ _ _ _ h)) (fun _ _ hW => (KM_mv G).1 _ _ hW hK.1) hA hP hD hS [] [0, 1, 2] rfl rfl rfl rfl (by decide) hl rfl rfl (Nat.le_of_ble_eq_true rfl) ⟨(Nat.le_of_ble_eq_true rfl), (Nat.le_of_ble_eq_true rfl)⟩ dX1_keep_59 (fun r_7 w1 H locs hq_8 hP hD hS => ?_)
  obtain ⟨qg_9, rfl, rfl⟩ := hq_8
  have hP : PP G [(h, xO xa xi), (xa 8, qA G 5 8 (shf sh)), (sh dn, .inr (3, [hv])), (qg_9, .inr (6 + kn, [.int v]))] H := hP
  have hD : va_D A [(h, xO xa xi), (xa 8, qA G 5 8 (shf sh)), (sh dn, .inr (3, [hv])), (qg_9, .inr (6 + kn, [.int v]))] := hD
  refine va_put (D := gD G) (ci := 3) (v := .ref qg_9) (ty := (.object "java/lang/Object")) (C := RX3) (T := TX3) (N := 1) hx hb hts in_X3 tyX3 tyX3_ok nmX3 hown hK.1 hP hD hS 2 rfl rfl 0 (by decide) (hts _ q834) (fun _ h9 => h9) rfl (by decide +kernel) rfl rfl (Nat.le_of_ble_eq_true rfl) dX1_keep_62 (fun H locs hP hD hS => ?_)
  have hP : PP G [(h, xO xa xi), (xa 8, qA G 5 8 (shf sh)), (sh dn, .inr (3, [.ref qg_9])), (qg_9, .inr (6 + kn, [.int v]))] H := hP
  have hD : va_D A [(h, xO xa xi), (xa 8, qA G 5 8 (shf sh)), (sh dn, .inr (3, [.ref qg_9])), (qg_9, .inr (6 + kn, [.int v]))] := hD
  refine lv_iconst (v := 0) hx hb dX1_keep_65 (by decide) ?_
  exact n_iretW (v := 0) (w1 := [(h, xO xa xi), (xa 8, qA G 5 8 (shf sh)), (sh dn, .inr (3, [.ref qg_9])), (qg_9, .inr (6 + kn, [.int v]))]) C (⟨rfl, _, rfl⟩) hP hD hS (by first | omega | decide) (by first | omega | decide) dX1_keep_66

set_option maxHeartbeats 4000000 in
set_option maxRecDepth 100000 in
theorem metX1_comes_2_b1 (l : Launch) (G : GG) (h : Nat) (xa : Nat → Nat) (xi : Nat → Int32) (sh : Nat → Nat) (gm : GM) (d hu wi : Int32) (hl9 : l.stackTraces = false) (hng : NG gm [(h, xO xa xi)]) (hbad : sIn d 0 7 = false) : MWh l yX1_comes_2 cX1_comes_2 5 (some .int) [((24 : Nat), (45 : Nat), (75 : Nat), (144 : Nat)), ((46 : Nat), (74 : Nat), (75 : Nat), (144 : Nat))] ({ frames := 2, cells := 0, slots := 0, locals := 43 }) [.ref h, .int d, .int hu, .int wi] [(h, xO xa xi)] G (KE G gm) 0 0 (fun rv w1 => rv = -1 ∧ w1 = [(h, xO xa xi)]) := by
  -- rows printed by wip/tools/gen.py
  refine mwh_mkg RX1 (by decide) rfl (Nat.le_of_ble_eq_true rfl) ?_
  intro p0_ e0_ s m args below meth c A C htab hA hAx hP hK hD ls hl
  have hZ : ZA A s := hK.2.2.of hP hAx
  have hM1 := hK.2.1
  have hK := hK.1
  have hGP := hK.2
  have hK := hK.1
  have hGA := GA.of hng hGP hAx
  have hx := C.1
  have hb := C.2.1
  have hml := C.2.2.2.2.1
  have hown := C.2.2.2.2.2.1
  have hts := C.2.2.2.2.2.2
  have hS : va_S A s.heap s.heap [] := va_S.rf
  have hl : lv_has ls 5 [(0, .ref h), (1, .int d), (2, .int hu), (3, .int wi)] := hl
  refine lv_aload_n hx hb dX1_comes_2_0 rfl (lv_at hl 0 rfl) ?_
  refine lv_iload_n hx hb dX1_comes_2_1 rfl (lv_at hl 1 rfl) ?_
  refine c_V (rest := []) C (metX1_isShelf l G h xa xi d) 1 (lw_V q166 q168 qs2 q39 q170) (by decide +kernel) ⟨rfl, rfl⟩ ⟨(Nat.le_of_ble_eq_true rfl), (Nat.le_of_ble_eq_true rfl)⟩ (KM_mv G) (va_recv hK.1 hP (ci := 1) (q0 := 0) rfl rfl) hP hK.1 hl rfl rfl (Nat.le_of_ble_eq_true rfl) ⟨(Nat.le_of_ble_eq_true rfl), (Nat.le_of_ble_eq_true rfl)⟩ dX1_comes_2_2 ?_
  refine n_if_eqB (b := (sIn d 0 7)) (tgt := 22) hx hb dX1_comes_2_5 (by decide) (fun c_1 => ?_) (fun c_1 => absurd c_1 (by simp [hbad]))
  refine lv_iconst (v := (-1)) hx hb dX1_comes_2_22 (by decide) ?_
  exact n_iretW (v := (-1)) (w1 := [(h, xO xa xi)]) C (⟨rfl, rfl⟩) hP hD hS (by first | omega | decide) (by first | omega | decide) dX1_comes_2_23

set_option maxHeartbeats 4000000 in
set_option maxRecDepth 100000 in
theorem metX1_comes_2_b2 (l : Launch) (G : GG) (h : Nat) (xa : Nat → Nat) (xi : Nat → Int32) (sh : Nat → Nat) (gm : GM) (dn : Nat) (hu wi : Int32) (hl9 : l.stackTraces = false) (hng : NG gm [(h, xO xa xi)]) (hdn : dn ≤ 7) (h1 : sIn hu 0 30 = false) : MWh l yX1_comes_2 cX1_comes_2 5 (some .int) [((24 : Nat), (45 : Nat), (75 : Nat), (144 : Nat)), ((46 : Nat), (74 : Nat), (75 : Nat), (144 : Nat))] ({ frames := 2, cells := 0, slots := 0, locals := 43 }) [.ref h, .int (nI dn), .int hu, .int wi] [(h, xO xa xi)] G (KE G gm) 0 0 (fun rv w1 => rv = -1 ∧ w1 = [(h, xO xa xi)]) := by
  -- rows printed by wip/tools/gen.py
  refine mwh_mkg RX1 (by decide) rfl (Nat.le_of_ble_eq_true rfl) ?_
  intro p0_ e0_ s m args below meth c A C htab hA hAx hP hK hD ls hl
  have hZ : ZA A s := hK.2.2.of hP hAx
  have hM1 := hK.2.1
  have hK := hK.1
  have hGP := hK.2
  have hK := hK.1
  have hGA := GA.of hng hGP hAx
  have hx := C.1
  have hb := C.2.1
  have hml := C.2.2.2.2.1
  have hown := C.2.2.2.2.2.1
  have hts := C.2.2.2.2.2.2
  have hS : va_S A s.heap s.heap [] := va_S.rf
  have hl : lv_has ls 5 [(0, .ref h), (1, .int (nI dn)), (2, .int hu), (3, .int wi)] := hl
  have hs7 := sIn07 hdn
  refine lv_aload_n hx hb dX1_comes_2_0 rfl (lv_at hl 0 rfl) ?_
  refine lv_iload_n hx hb dX1_comes_2_1 rfl (lv_at hl 1 rfl) ?_
  refine c_V (rest := []) C (metX1_isShelf l G h xa xi (nI dn)) 1 (lw_V q166 q168 qs2 q39 q170) (by decide +kernel) ⟨rfl, rfl⟩ ⟨(Nat.le_of_ble_eq_true rfl), (Nat.le_of_ble_eq_true rfl)⟩ (KM_mv G) (va_recv hK.1 hP (ci := 1) (q0 := 0) rfl rfl) hP hK.1 hl rfl rfl (Nat.le_of_ble_eq_true rfl) ⟨(Nat.le_of_ble_eq_true rfl), (Nat.le_of_ble_eq_true rfl)⟩ dX1_comes_2_2 ?_
  refine n_if_eqB (b := (sIn (nI dn) 0 7)) (tgt := 22) hx hb dX1_comes_2_5 (by decide) (fun c_1 => absurd c_1 (by simp [hs7])) (fun c_1 => ?_)
  refine lv_iload_n hx hb dX1_comes_2_8 rfl (lv_at hl 2 rfl) ?_
  refine c_S (rest := []) C (metX1_isFeeling l G hu) 1 (lw_S q281 q282 q39 q283) (by decide +kernel) ⟨rfl, rfl⟩ ⟨(Nat.le_of_ble_eq_true rfl), (Nat.le_of_ble_eq_true rfl)⟩ (KM_mv G) (hP.sub (ws' := []) [] rfl) hK.1 hl rfl rfl (Nat.le_of_ble_eq_true rfl) ⟨(Nat.le_of_ble_eq_true rfl), (Nat.le_of_ble_eq_true rfl)⟩ dX1_comes_2_9 ?_
  refine n_if_eqB (b := (sIn hu 0 30)) (tgt := 22) hx hb dX1_comes_2_12 (by decide) (fun c_2 => ?_) (fun c_2 => absurd c_2 (by simp [h1]))
  refine lv_iconst (v := (-1)) hx hb dX1_comes_2_22 (by decide) ?_
  exact n_iretW (v := (-1)) (w1 := [(h, xO xa xi)]) C (⟨rfl, rfl⟩) hP hD hS (by first | omega | decide) (by first | omega | decide) dX1_comes_2_23

set_option maxHeartbeats 4000000 in
set_option maxRecDepth 100000 in
theorem metX1_comes_2_b3 (l : Launch) (G : GG) (h : Nat) (xa : Nat → Nat) (xi : Nat → Int32) (sh : Nat → Nat) (gm : GM) (dn : Nat) (hu wi : Int32) (hl9 : l.stackTraces = false) (hng : NG gm [(h, xO xa xi)]) (hdn : dn ≤ 7) (h1 : sIn hu 0 30 = true) (h2 : sIn wi 0 30 = false) : MWh l yX1_comes_2 cX1_comes_2 5 (some .int) [((24 : Nat), (45 : Nat), (75 : Nat), (144 : Nat)), ((46 : Nat), (74 : Nat), (75 : Nat), (144 : Nat))] ({ frames := 2, cells := 0, slots := 0, locals := 43 }) [.ref h, .int (nI dn), .int hu, .int wi] [(h, xO xa xi)] G (KE G gm) 0 0 (fun rv w1 => rv = -1 ∧ w1 = [(h, xO xa xi)]) := by
  -- rows printed by wip/tools/gen.py
  refine mwh_mkg RX1 (by decide) rfl (Nat.le_of_ble_eq_true rfl) ?_
  intro p0_ e0_ s m args below meth c A C htab hA hAx hP hK hD ls hl
  have hZ : ZA A s := hK.2.2.of hP hAx
  have hM1 := hK.2.1
  have hK := hK.1
  have hGP := hK.2
  have hK := hK.1
  have hGA := GA.of hng hGP hAx
  have hx := C.1
  have hb := C.2.1
  have hml := C.2.2.2.2.1
  have hown := C.2.2.2.2.2.1
  have hts := C.2.2.2.2.2.2
  have hS : va_S A s.heap s.heap [] := va_S.rf
  have hl : lv_has ls 5 [(0, .ref h), (1, .int (nI dn)), (2, .int hu), (3, .int wi)] := hl
  have hs7 := sIn07 hdn
  refine lv_aload_n hx hb dX1_comes_2_0 rfl (lv_at hl 0 rfl) ?_
  refine lv_iload_n hx hb dX1_comes_2_1 rfl (lv_at hl 1 rfl) ?_
  refine c_V (rest := []) C (metX1_isShelf l G h xa xi (nI dn)) 1 (lw_V q166 q168 qs2 q39 q170) (by decide +kernel) ⟨rfl, rfl⟩ ⟨(Nat.le_of_ble_eq_true rfl), (Nat.le_of_ble_eq_true rfl)⟩ (KM_mv G) (va_recv hK.1 hP (ci := 1) (q0 := 0) rfl rfl) hP hK.1 hl rfl rfl (Nat.le_of_ble_eq_true rfl) ⟨(Nat.le_of_ble_eq_true rfl), (Nat.le_of_ble_eq_true rfl)⟩ dX1_comes_2_2 ?_
  refine n_if_eqB (b := (sIn (nI dn) 0 7)) (tgt := 22) hx hb dX1_comes_2_5 (by decide) (fun c_1 => absurd c_1 (by simp [hs7])) (fun c_1 => ?_)
  refine lv_iload_n hx hb dX1_comes_2_8 rfl (lv_at hl 2 rfl) ?_
  refine c_S (rest := []) C (metX1_isFeeling l G hu) 1 (lw_S q281 q282 q39 q283) (by decide +kernel) ⟨rfl, rfl⟩ ⟨(Nat.le_of_ble_eq_true rfl), (Nat.le_of_ble_eq_true rfl)⟩ (KM_mv G) (hP.sub (ws' := []) [] rfl) hK.1 hl rfl rfl (Nat.le_of_ble_eq_true rfl) ⟨(Nat.le_of_ble_eq_true rfl), (Nat.le_of_ble_eq_true rfl)⟩ dX1_comes_2_9 ?_
  refine n_if_eqB (b := (sIn hu 0 30)) (tgt := 22) hx hb dX1_comes_2_12 (by decide) (fun c_2 => absurd c_2 (by simp [h1])) (fun c_2 => ?_)
  refine lv_iload_n hx hb dX1_comes_2_15 rfl (lv_at hl 3 rfl) ?_
  refine c_S (rest := []) C (metX1_isFeeling l G wi) 1 (lw_S q281 q282 q39 q283) (by decide +kernel) ⟨rfl, rfl⟩ ⟨(Nat.le_of_ble_eq_true rfl), (Nat.le_of_ble_eq_true rfl)⟩ (KM_mv G) (hP.sub (ws' := []) [] rfl) hK.1 hl rfl rfl (Nat.le_of_ble_eq_true rfl) ⟨(Nat.le_of_ble_eq_true rfl), (Nat.le_of_ble_eq_true rfl)⟩ dX1_comes_2_16 ?_
  refine n_if_neB (b := (sIn wi 0 30)) (tgt := 24) hx hb dX1_comes_2_19 (by decide) (fun c_3 => absurd c_3 (by simp [h2])) (fun c_3 => ?_)
  refine lv_iconst (v := (-1)) hx hb dX1_comes_2_22 (by decide) ?_
  exact n_iretW (v := (-1)) (w1 := [(h, xO xa xi)]) C (⟨rfl, rfl⟩) hP hD hS (by first | omega | decide) (by first | omega | decide) dX1_comes_2_23

set_option maxHeartbeats 4000000 in
set_option maxRecDepth 100000 in
theorem metX1_comes_2_n (l : Launch) (G : GG) (h : Nat) (xa : Nat → Nat) (xi : Nat → Int32) (sh : Nat → Nat) (gm : GM) (dn : Nat) (hu wi : Int32) (hl9 : l.stackTraces = false) (hng : NG gm [(h, xO xa xi), (xa 8, qA G 5 8 (shf sh)), (sh dn, .inr (3, [.null]))]) (hdn : dn ≤ 7) (h1 : sIn hu 0 30 = true) (h2 : sIn wi 0 30 = true) : MWh l yX1_comes_2 cX1_comes_2 5 (some .int) [((24 : Nat), (45 : Nat), (75 : Nat), (144 : Nat)), ((46 : Nat), (74 : Nat), (75 : Nat), (144 : Nat))] ({ frames := 2, cells := 0, slots := 0, locals := 43 }) [.ref h, .int (nI dn), .int hu, .int wi] [(h, xO xa xi), (xa 8, qA G 5 8 (shf sh)), (sh dn, .inr (3, [.null]))] G (KE G gm) 0 0 (fun rv w1 => rv = -11 ∧ w1 = [(h, xO xa xi), (xa 8, qA G 5 8 (shf sh)), (sh dn, .inr (3, [.null]))]) := by
  -- rows printed by wip/tools/gen.py
  refine mwh_mkg RX1 (by decide) rfl (Nat.le_of_ble_eq_true rfl) ?_
  intro p0_ e0_ s m args below meth c A C htab hA hAx hP hK hD ls hl
  have hZ : ZA A s := hK.2.2.of hP hAx
  have hM1 := hK.2.1
  have hK := hK.1
  have hGP := hK.2
  have hK := hK.1
  have hGA := GA.of hng hGP hAx
  have hx := C.1
  have hb := C.2.1
  have hml := C.2.2.2.2.1
  have hown := C.2.2.2.2.2.1
  have hts := C.2.2.2.2.2.2
  have hS : va_S A s.heap s.heap [] := va_S.rf
  have hl : lv_has ls 5 [(0, .ref h), (1, .int (nI dn)), (2, .int hu), (3, .int wi)] := hl
  have hs7 := sIn07 hdn
  refine lv_aload_n hx hb dX1_comes_2_0 rfl (lv_at hl 0 rfl) ?_
  refine lv_iload_n hx hb dX1_comes_2_1 rfl (lv_at hl 1 rfl) ?_
  refine c_V (rest := []) C (metX1_isShelf l G h xa xi (nI dn)) 1 (lw_V q166 q168 qs2 q39 q170) (by decide +kernel) ⟨rfl, rfl⟩ ⟨(Nat.le_of_ble_eq_true rfl), (Nat.le_of_ble_eq_true rfl)⟩ (KM_mv G) (va_recv hK.1 hP (ci := 1) (q0 := 0) rfl rfl) (hP.sub (ws' := [(h, xO xa xi)]) [0] rfl) hK.1 hl rfl rfl (Nat.le_of_ble_eq_true rfl) ⟨(Nat.le_of_ble_eq_true rfl), (Nat.le_of_ble_eq_true rfl)⟩ dX1_comes_2_2 ?_
  refine n_if_eqB (b := (sIn (nI dn) 0 7)) (tgt := 22) hx hb dX1_comes_2_5 (by decide) (fun c_1 => absurd c_1 (by simp [hs7])) (fun c_1 => ?_)
  refine lv_iload_n hx hb dX1_comes_2_8 rfl (lv_at hl 2 rfl) ?_
  refine c_S (rest := []) C (metX1_isFeeling l G hu) 1 (lw_S q281 q282 q39 q283) (by decide +kernel) ⟨rfl, rfl⟩ ⟨(Nat.le_of_ble_eq_true rfl), (Nat.le_of_ble_eq_true rfl)⟩ (KM_mv G) (hP.sub (ws' := []) [] rfl) hK.1 hl rfl rfl (Nat.le_of_ble_eq_true rfl) ⟨(Nat.le_of_ble_eq_true rfl), (Nat.le_of_ble_eq_true rfl)⟩ dX1_comes_2_9 ?_
  refine n_if_eqB (b := (sIn hu 0 30)) (tgt := 22) hx hb dX1_comes_2_12 (by decide) (fun c_2 => absurd c_2 (by simp [h1])) (fun c_2 => ?_)
  refine lv_iload_n hx hb dX1_comes_2_15 rfl (lv_at hl 3 rfl) ?_
  refine c_S (rest := []) C (metX1_isFeeling l G wi) 1 (lw_S q281 q282 q39 q283) (by decide +kernel) ⟨rfl, rfl⟩ ⟨(Nat.le_of_ble_eq_true rfl), (Nat.le_of_ble_eq_true rfl)⟩ (KM_mv G) (hP.sub (ws' := []) [] rfl) hK.1 hl rfl rfl (Nat.le_of_ble_eq_true rfl) ⟨(Nat.le_of_ble_eq_true rfl), (Nat.le_of_ble_eq_true rfl)⟩ dX1_comes_2_16 ?_
  refine n_if_neB (b := (sIn wi 0 30)) (tgt := 24) hx hb dX1_comes_2_19 (by decide) (fun c_3 => ?_) (fun c_3 => absurd c_3 (by simp [h2]))
  refine lv_aload_n hx hb dX1_comes_2_24 rfl (lv_at hl 0 rfl) ?_
  refine va_get (D := gD G) (ci := 1) (v := .ref (xa 8)) (C := RX1) (T := TX1) (N := 9) hx hb hts in_X1 hown hK.1 hP 0 rfl rfl 8 (by decide) (hts _ q846) (fun _ h9 => h9) rfl dX1_comes_2_25 ?_
  refine lv_iload_n hx hb dX1_comes_2_28 rfl (lv_at hl 1 rfl) ?_
  refine n_aldqS (y := sh dn) C hK.1 hP 1 5 dn rfl rfl (by omega) (by omega) rfl dX1_comes_2_29 ?_
  refine va_get (D := gD G) (ci := 3) (v := .null) (C := RX3) (T := TX3) (N := 1) hx hb hts in_X3 hown hK.1 hP 2 rfl rfl 0 (by decide) (hts _ q834) (fun _ h9 => h9) rfl dX1_comes_2_30 ?_
  refine lv_castN hx hb dX1_comes_2_33 ?_
  refine lv_astoreN (lv' := [(4, .null), (0, .ref h), (1, .int (nI dn)), (2, .int hu), (3, .int wi)]) hx hb dX1_comes_2_36 hl (Nat.le_of_ble_eq_true rfl) rfl (fun ls hl => ?_)
  refine lv_aloadN hx hb dX1_comes_2_38 (lv_at hl 0 rfl) ?_
  refine lv_ifnonnullN hx hb dX1_comes_2_40 ?_
  refine lv_bipush (v := (-11)) hx hb dX1_comes_2_43 (by decide) ?_
  exact n_iretW (v := (-11)) (w1 := [(h, xO xa xi), (xa 8, qA G 5 8 (shf sh)), (sh dn, .inr (3, [.null]))]) C (⟨rfl, rfl⟩) hP hD hS (by first | omega | decide) (by first | omega | decide) dX1_comes_2_45

set_option maxHeartbeats 4000000 in
set_option maxRecDepth 100000 in
theorem metX1_comes_2_r (l : Launch) (G : GG) (h : Nat) (xa : Nat → Nat) (xi : Nat → Int32) (sh : Nat → Nat) (gm : GM) (dn : Nat) (hu wi : Int32) (t ra z8 : Nat) (rf : Nat → Int32) (hl9 : l.stackTraces = false) (hng : NG gm [(h, xO xa xi), (xa 8, qA G 5 8 (shf sh)), (sh dn, .inr (3, [.ref ra])), (ra, tA G t z8 rf)]) (hdn : dn ≤ 7) (h1 : sIn hu 0 30 = true) (h2 : sIn wi 0 30 = true) (ht : t < 3) (hz8 : z8 ≤ 100) : MWh l yX1_comes_2 cX1_comes_2 5 (some .int) [((24 : Nat), (45 : Nat), (75 : Nat), (144 : Nat)), ((46 : Nat), (74 : Nat), (75 : Nat), (144 : Nat))] ({ frames := 9, cells := 4, slots := 1100, locals := 10400 }) [.ref h, .int (nI dn), .int hu, .int wi] [(h, xO xa xi), (xa 8, qA G 5 8 (shf sh)), (sh dn, .inr (3, [.ref ra])), (ra, tA G t z8 rf)] G (KE G gm) 4 1100 (fun rv w1 => rv = -12 ∧ w1 = [(h, xO xa xi), (xa 8, qA G 5 8 (shf sh)), (sh dn, .inr (3, [.ref ra])), (ra, tA G t z8 rf)]) := by
  -- rows printed by wip/tools/gen.py
  refine mwh_mkg RX1 (by decide) rfl (Nat.le_of_ble_eq_true rfl) ?_
  intro p0_ e0_ s m args below meth c A C htab hA hAx hP hK hD ls hl
  have hZ : ZA A s := hK.2.2.of hP hAx
  have hM1 := hK.2.1
  have hK := hK.1
  have hGP := hK.2
  have hK := hK.1
  have hGA := GA.of hng hGP hAx
  have hx := C.1
  have hb := C.2.1
  have hml := C.2.2.2.2.1
  have hown := C.2.2.2.2.2.1
  have hts := C.2.2.2.2.2.2
  have hS : va_S A s.heap s.heap [] := va_S.rf
  have hl : lv_has ls 5 [(0, .ref h), (1, .int (nI dn)), (2, .int hu), (3, .int wi)] := hl
  have hs7 := sIn07 hdn
  refine lv_aload_n hx hb dX1_comes_2_0 rfl (lv_at hl 0 rfl) ?_
  refine lv_iload_n hx hb dX1_comes_2_1 rfl (lv_at hl 1 rfl) ?_
  refine c_V (rest := []) C (metX1_isShelf l G h xa xi (nI dn)) 1 (lw_V q166 q168 qs2 q39 q170) (by decide +kernel) ⟨rfl, rfl⟩ ⟨(Nat.le_of_ble_eq_true rfl), (Nat.le_of_ble_eq_true rfl)⟩ (KM_mv G) (va_recv hK.1 hP (ci := 1) (q0 := 0) rfl rfl) (hP.sub (ws' := [(h, xO xa xi)]) [0] rfl) hK.1 hl rfl rfl (Nat.le_of_ble_eq_true rfl) ⟨(Nat.le_of_ble_eq_true rfl), (Nat.le_of_ble_eq_true rfl)⟩ dX1_comes_2_2 ?_
  refine n_if_eqB (b := (sIn (nI dn) 0 7)) (tgt := 22) hx hb dX1_comes_2_5 (by decide) (fun c_1 => absurd c_1 (by simp [hs7])) (fun c_1 => ?_)
  refine lv_iload_n hx hb dX1_comes_2_8 rfl (lv_at hl 2 rfl) ?_
  refine c_S (rest := []) C (metX1_isFeeling l G hu) 1 (lw_S q281 q282 q39 q283) (by decide +kernel) ⟨rfl, rfl⟩ ⟨(Nat.le_of_ble_eq_true rfl), (Nat.le_of_ble_eq_true rfl)⟩ (KM_mv G) (hP.sub (ws' := []) [] rfl) hK.1 hl rfl rfl (Nat.le_of_ble_eq_true rfl) ⟨(Nat.le_of_ble_eq_true rfl), (Nat.le_of_ble_eq_true rfl)⟩ dX1_comes_2_9 ?_
  refine n_if_eqB (b := (sIn hu 0 30)) (tgt := 22) hx hb dX1_comes_2_12 (by decide) (fun c_2 => absurd c_2 (by simp [h1])) (fun c_2 => ?_)
  refine lv_iload_n hx hb dX1_comes_2_15 rfl (lv_at hl 3 rfl) ?_
  refine c_S (rest := []) C (metX1_isFeeling l G wi) 1 (lw_S q281 q282 q39 q283) (by decide +kernel) ⟨rfl, rfl⟩ ⟨(Nat.le_of_ble_eq_true rfl), (Nat.le_of_ble_eq_true rfl)⟩ (KM_mv G) (hP.sub (ws' := []) [] rfl) hK.1 hl rfl rfl (Nat.le_of_ble_eq_true rfl) ⟨(Nat.le_of_ble_eq_true rfl), (Nat.le_of_ble_eq_true rfl)⟩ dX1_comes_2_16 ?_
  refine n_if_neB (b := (sIn wi 0 30)) (tgt := 24) hx hb dX1_comes_2_19 (by decide) (fun c_3 => ?_) (fun c_3 => absurd c_3 (by simp [h2]))
  refine lv_aload_n hx hb dX1_comes_2_24 rfl (lv_at hl 0 rfl) ?_
  refine va_get (D := gD G) (ci := 1) (v := .ref (xa 8)) (C := RX1) (T := TX1) (N := 9) hx hb hts in_X1 hown hK.1 hP 0 rfl rfl 8 (by decide) (hts _ q846) (fun _ h9 => h9) rfl dX1_comes_2_25 ?_
  refine lv_iload_n hx hb dX1_comes_2_28 rfl (lv_at hl 1 rfl) ?_
  refine n_aldqS (y := sh dn) C hK.1 hP 1 5 dn rfl rfl (by omega) (by omega) rfl dX1_comes_2_29 ?_
  refine va_get (D := gD G) (ci := 3) (v := .ref ra) (C := RX3) (T := TX3) (N := 1) hx hb hts in_X3 hown hK.1 hP 2 rfl rfl 0 (by decide) (hts _ q834) (fun _ h9 => h9) rfl dX1_comes_2_30 ?_
  refine n_castXT (q0 := 3) C hM1 hK ht hP rfl (xn_guest ht) arr_cc.2.2.2 q287 dX1_comes_2_33 (fun tx9 ha9 hb9 => ?_)
  refine x_note C hl9 hK.2 hP (hGP.kept hGA hS) hS hZ E_cce eCCE_tbl e_in1.1 hl.1 ha9 hb9 ⟨Nat.le_of_ble_eq_true rfl, Nat.le_of_ble_eq_true rfl, Nat.le_of_ble_eq_true rfl, Nat.le_of_ble_eq_true rfl, Nat.le_of_ble_eq_true rfl⟩ (fun H q9 ce hP _ hS hce hcv hcl => ?_)
  refine x_catch (E := "java/lang/ClassCastException") (name := "java/lang/ClassCastException") C hK.2 htab [] ⟨24, 45, 75, 144⟩ [⟨46, 74, 75, 144⟩] rfl (fun _ h9 => nomatch h9) (by decide) (by decide) q74 (by decide +kernel) hce hcv hcl ?_
  refine lv_astore (lv' := [(4, .ref q9), (0, .ref h), (1, .int (nI dn)), (2, .int hu), (3, .int wi)]) hx hb dX1_comes_2_75 hl (Nat.le_of_ble_eq_true rfl) rfl (fun ls hl => ?_)
  refine lv_bipush (v := (-12)) hx hb dX1_comes_2_77 (by decide) ?_
  exact n_iretW (v := (-12)) (w1 := [(h, xO xa xi), (xa 8, qA G 5 8 (shf sh)), (sh dn, .inr (3, [.ref ra])), (ra, tA G t z8 rf)]) C (⟨rfl, rfl⟩) hP hD hS (by first | omega | decide) (by first | omega | decide) dX1_comes_2_79

set_option maxHeartbeats 4000000 in
set_option maxRecDepth 100000 in
theorem metX1_comes_2_f (l : Launch) (G : GG) (h : Nat) (xa : Nat → Nat) (xi : Nat → Int32) (sh : Nat → Nat) (gm : GM) (dn : Nat) (hu wi : Int32) (y k : Nat) (v : Int32) (fn : Nat → Nat) (wh : Nat → Option Nat) (r : Nat → Int32) (N : Nat) (hl9 : l.stackTraces = false) (hng : NG gm [(h, xO xa xi), (xa 0, fO fn r), (fn 0, qA G 3 9 wh), (fn 1, iA G 9 (fA r 2)), (fn 2, iA G 9 (fA r 3)), (fn 3, iA G 9 (fA r 4)), (fn 4, iA G 9 (fA r 5)), (xa 8, qA G 5 8 (shf sh)), (sh dn, .inr (3, [.ref y]))]) (hdn : dn ≤ 7) (h1 : sIn hu 0 30 = true) (h2 : sIn wi 0 30 = true) (hy : gm y = some (k, v)) (hN : N ≤ 8) (hr : r 0 = nI N) (hwk : WK gm wh r N) (h8 : N = 8) : MWh l yX1_comes_2 cX1_comes_2 5 (some .int) [((24 : Nat), (45 : Nat), (75 : Nat), (144 : Nat)), ((46 : Nat), (74 : Nat), (75 : Nat), (144 : Nat))] ({ frames := 2, cells := 0, slots := 0, locals := 43 }) [.ref h, .int (nI dn), .int hu, .int wi] [(h, xO xa xi), (xa 0, fO fn r), (fn 0, qA G 3 9 wh), (fn 1, iA G 9 (fA r 2)), (fn 2, iA G 9 (fA r 3)), (fn 3, iA G 9 (fA r 4)), (fn 4, iA G 9 (fA r 5)), (xa 8, qA G 5 8 (shf sh)), (sh dn, .inr (3, [.ref y]))] G (KE G gm) 0 0 (fun rv w1 => rv = -2 ∧ w1 = [(h, xO xa xi), (xa 0, fO fn r), (fn 0, qA G 3 9 wh), (fn 1, iA G 9 (fA r 2)), (fn 2, iA G 9 (fA r 3)), (fn 3, iA G 9 (fA r 4)), (fn 4, iA G 9 (fA r 5)), (xa 8, qA G 5 8 (shf sh)), (sh dn, .inr (3, [.ref y]))]) := by
  -- rows printed by wip/tools/gen.py
  refine mwh_mkg RX1 (by decide) rfl (Nat.le_of_ble_eq_true rfl) ?_
  intro p0_ e0_ s m args below meth c A C htab hA hAx hP hK hD ls hl
  have hZ : ZA A s := hK.2.2.of hP hAx
  have hM1 := hK.2.1
  have hK := hK.1
  have hGP := hK.2
  have hK := hK.1
  have hGA := GA.of hng hGP hAx
  have hx := C.1
  have hb := C.2.1
  have hml := C.2.2.2.2.1
  have hown := C.2.2.2.2.2.1
  have hts := C.2.2.2.2.2.2
  have hS : va_S A s.heap s.heap [] := va_S.rf
  have hl : lv_has ls 5 [(0, .ref h), (1, .int (nI dn)), (2, .int hu), (3, .int wi)] := hl
  have hs7 := sIn07 hdn
  refine lv_aload_n hx hb dX1_comes_2_0 rfl (lv_at hl 0 rfl) ?_
  refine lv_iload_n hx hb dX1_comes_2_1 rfl (lv_at hl 1 rfl) ?_
  refine c_V (rest := []) C (metX1_isShelf l G h xa xi (nI dn)) 1 (lw_V q166 q168 qs2 q39 q170) (by decide +kernel) ⟨rfl, rfl⟩ ⟨(Nat.le_of_ble_eq_true rfl), (Nat.le_of_ble_eq_true rfl)⟩ (KM_mv G) (va_recv hK.1 hP (ci := 1) (q0 := 0) rfl rfl) (hP.sub (ws' := [(h, xO xa xi)]) [0] rfl) hK.1 hl rfl rfl (Nat.le_of_ble_eq_true rfl) ⟨(Nat.le_of_ble_eq_true rfl), (Nat.le_of_ble_eq_true rfl)⟩ dX1_comes_2_2 ?_
  refine n_if_eqB (b := (sIn (nI dn) 0 7)) (tgt := 22) hx hb dX1_comes_2_5 (by decide) (fun c_1 => absurd c_1 (by simp [hs7])) (fun c_1 => ?_)
  refine lv_iload_n hx hb dX1_comes_2_8 rfl (lv_at hl 2 rfl) ?_
  refine c_S (rest := []) C (metX1_isFeeling l G hu) 1 (lw_S q281 q282 q39 q283) (by decide +kernel) ⟨rfl, rfl⟩ ⟨(Nat.le_of_ble_eq_true rfl), (Nat.le_of_ble_eq_true rfl)⟩ (KM_mv G) (hP.sub (ws' := []) [] rfl) hK.1 hl rfl rfl (Nat.le_of_ble_eq_true rfl) ⟨(Nat.le_of_ble_eq_true rfl), (Nat.le_of_ble_eq_true rfl)⟩ dX1_comes_2_9 ?_
  refine n_if_eqB (b := (sIn hu 0 30)) (tgt := 22) hx hb dX1_comes_2_12 (by decide) (fun c_2 => absurd c_2 (by simp [h1])) (fun c_2 => ?_)
  refine lv_iload_n hx hb dX1_comes_2_15 rfl (lv_at hl 3 rfl) ?_
  refine c_S (rest := []) C (metX1_isFeeling l G wi) 1 (lw_S q281 q282 q39 q283) (by decide +kernel) ⟨rfl, rfl⟩ ⟨(Nat.le_of_ble_eq_true rfl), (Nat.le_of_ble_eq_true rfl)⟩ (KM_mv G) (hP.sub (ws' := []) [] rfl) hK.1 hl rfl rfl (Nat.le_of_ble_eq_true rfl) ⟨(Nat.le_of_ble_eq_true rfl), (Nat.le_of_ble_eq_true rfl)⟩ dX1_comes_2_16 ?_
  refine n_if_neB (b := (sIn wi 0 30)) (tgt := 24) hx hb dX1_comes_2_19 (by decide) (fun c_3 => ?_) (fun c_3 => absurd c_3 (by simp [h2]))
  refine lv_aload_n hx hb dX1_comes_2_24 rfl (lv_at hl 0 rfl) ?_
  refine va_get (D := gD G) (ci := 1) (v := .ref (xa 8)) (C := RX1) (T := TX1) (N := 9) hx hb hts in_X1 hown hK.1 hP 0 rfl rfl 8 (by decide) (hts _ q846) (fun _ h9 => h9) rfl dX1_comes_2_25 ?_
  refine lv_iload_n hx hb dX1_comes_2_28 rfl (lv_at hl 1 rfl) ?_
  refine n_aldqS (y := sh dn) C hK.1 hP 7 5 dn rfl rfl (by omega) (by omega) rfl dX1_comes_2_29 ?_
  refine va_get (D := gD G) (ci := 3) (v := .ref y) (C := RX3) (T := TX3) (N := 1) hx hb hts in_X3 hown hK.1 hP 8 rfl rfl 0 (by decide) (hts _ q834) (fun _ h9 => h9) rfl dX1_comes_2_30 ?_
  refine n_castG C hK (hGP.kept hGA hS) hy q287 dX1_comes_2_33 ?_
  refine lv_astore (lv' := [(4, .ref y), (0, .ref h), (1, .int (nI dn)), (2, .int hu), (3, .int wi)]) hx hb dX1_comes_2_36 hl (Nat.le_of_ble_eq_true rfl) rfl (fun ls hl => ?_)
  refine lv_aload hx hb dX1_comes_2_38 (lv_at hl 0 rfl) ?_
  refine lv_ifnonnull (tgt := 46) hx hb dX1_comes_2_40 (by decide) ?_
  refine lv_aload_n hx hb dX1_comes_2_46 rfl (lv_at hl 1 rfl) ?_
  refine va_get (D := gD G) (ci := 1) (v := .ref (xa 0)) (C := RX1) (T := TX1) (N := 9) hx hb hts in_X1 hown hK.1 hP 0 rfl rfl 0 (by decide) (hts _ q838) (fun _ h9 => h9) rfl dX1_comes_2_47 ?_
  refine va_get (D := gD G) (ci := 2) (v := .int (r 0)) (C := RX2) (T := TX2) (N := 8) hx hb hts in_X2 hown hK.1 hP 1 rfl rfl 5 (by decide) (hts _ q803) (fun _ h9 => h9) rfl dX1_comes_2_50 ?_
  refine n_eqi (hr) ?_
  refine lv_bipush (v := 8) hx hb dX1_comes_2_53 (by decide) ?_
  refine n_ic_ne (x := N) (y := 8) (tgt := 63) hx hb (by omega) (by omega) dX1_comes_2_55 (by decide) (fun c_4 => absurd c_4 (by omega)) (fun c_4 => ?_)
  refine lv_bipush (v := (-2)) hx hb dX1_comes_2_58 (by decide) ?_
  refine lv_goto (tgt := 74) hx hb dX1_comes_2_60 (by decide) ?_
  exact n_iretW (v := (-2)) (w1 := [(h, xO xa xi), (xa 0, fO fn r), (fn 0, qA G 3 9 wh), (fn 1, iA G 9 (fA r 2)), (fn 2, iA G 9 (fA r 3)), (fn 3, iA G 9 (fA r 4)), (fn 4, iA G 9 (fA r 5)), (xa 8, qA G 5 8 (shf sh)), (sh dn, .inr (3, [.ref y]))]) C (⟨rfl, rfl⟩) hP hD hS (by first | omega | decide) (by first | omega | decide) dX1_comes_2_74

set_option maxHeartbeats 4000000 in
set_option maxRecDepth 100000 in
theorem metX1_comes_2_g (l : Launch) (G : GG) (h : Nat) (xa : Nat → Nat) (xi : Nat → Int32) (sh : Nat → Nat) (gm : GM) (dn : Nat) (hu wi : Int32) (y k : Nat) (v : Int32) (fn : Nat → Nat) (wh : Nat → Option Nat) (r : Nat → Int32) (N : Nat) (hl9 : l.stackTraces = false) (hng : NG gm [(h, xO xa xi), (xa 0, fO fn r), (fn 0, qA G 3 9 wh), (fn 1, iA G 9 (fA r 2)), (fn 2, iA G 9 (fA r 3)), (fn 3, iA G 9 (fA r 4)), (fn 4, iA G 9 (fA r 5)), (xa 8, qA G 5 8 (shf sh)), (sh dn, .inr (3, [.ref y]))]) (hdn : dn ≤ 7) (h1 : sIn hu 0 30 = true) (h2 : sIn wi 0 30 = true) (hy : gm y = some (k, v)) (hN : N ≤ 8) (hr : r 0 = nI N) (hwk : WK gm wh r N) (h8 : N < 8) : MWh l yX1_comes_2 cX1_comes_2 5 (some .int) [((24 : Nat), (45 : Nat), (75 : Nat), (144 : Nat)), ((46 : Nat), (74 : Nat), (75 : Nat), (144 : Nat))] ({ frames := 2, cells := 0, slots := 0, locals := 43 }) [.ref h, .int (nI dn), .int hu, .int wi] [(h, xO xa xi), (xa 0, fO fn r), (fn 0, qA G 3 9 wh), (fn 1, iA G 9 (fA r 2)), (fn 2, iA G 9 (fA r 3)), (fn 3, iA G 9 (fA r 4)), (fn 4, iA G 9 (fA r 5)), (xa 8, qA G 5 8 (shf sh)), (sh dn, .inr (3, [.ref y]))] G (KE G gm) 0 0 (fun rv w1 => rv = nI N ∧ w1 = [(h, xO xa xi), (xa 0, fO fn (sAdds r N (nI k) v hu wi)), (fn 0, qA G 3 9 (va_up wh N (some y))), (fn 1, iA G 9 (fA (sAdds r N (nI k) v hu wi) 2)), (fn 2, iA G 9 (fA (sAdds r N (nI k) v hu wi) 3)), (fn 3, iA G 9 (fA (sAdds r N (nI k) v hu wi) 4)), (fn 4, iA G 9 (fA (sAdds r N (nI k) v hu wi) 5)), (xa 8, qA G 5 8 (shf sh)), (sh dn, .inr (3, [.ref y]))]) := by
  -- rows printed by wip/tools/gen.py
  refine mwh_mkg RX1 (by decide) rfl (Nat.le_of_ble_eq_true rfl) ?_
  intro p0_ e0_ s m args below meth c A C htab hA hAx hP hK hD ls hl
  have hZ : ZA A s := hK.2.2.of hP hAx
  have hM1 := hK.2.1
  have hK := hK.1
  have hGP := hK.2
  have hK := hK.1
  have hGA := GA.of hng hGP hAx
  have hx := C.1
  have hb := C.2.1
  have hml := C.2.2.2.2.1
  have hown := C.2.2.2.2.2.1
  have hts := C.2.2.2.2.2.2
  have hS : va_S A s.heap s.heap [] := va_S.rf
  have hl : lv_has ls 5 [(0, .ref h), (1, .int (nI dn)), (2, .int hu), (3, .int wi)] := hl
  have hs7 := sIn07 hdn
  refine lv_aload_n hx hb dX1_comes_2_0 rfl (lv_at hl 0 rfl) ?_
  refine lv_iload_n hx hb dX1_comes_2_1 rfl (lv_at hl 1 rfl) ?_
  refine c_V (rest := []) C (metX1_isShelf l G h xa xi (nI dn)) 1 (lw_V q166 q168 qs2 q39 q170) (by decide +kernel) ⟨rfl, rfl⟩ ⟨(Nat.le_of_ble_eq_true rfl), (Nat.le_of_ble_eq_true rfl)⟩ (KM_mv G) (va_recv hK.1 hP (ci := 1) (q0 := 0) rfl rfl) (hP.sub (ws' := [(h, xO xa xi)]) [0] rfl) hK.1 hl rfl rfl (Nat.le_of_ble_eq_true rfl) ⟨(Nat.le_of_ble_eq_true rfl), (Nat.le_of_ble_eq_true rfl)⟩ dX1_comes_2_2 ?_
  refine n_if_eqB (b := (sIn (nI dn) 0 7)) (tgt := 22) hx hb dX1_comes_2_5 (by decide) (fun c_1 => absurd c_1 (by simp [hs7])) (fun c_1 => ?_)
  refine lv_iload_n hx hb dX1_comes_2_8 rfl (lv_at hl 2 rfl) ?_
  refine c_S (rest := []) C (metX1_isFeeling l G hu) 1 (lw_S q281 q282 q39 q283) (by decide +kernel) ⟨rfl, rfl⟩ ⟨(Nat.le_of_ble_eq_true rfl), (Nat.le_of_ble_eq_true rfl)⟩ (KM_mv G) (hP.sub (ws' := []) [] rfl) hK.1 hl rfl rfl (Nat.le_of_ble_eq_true rfl) ⟨(Nat.le_of_ble_eq_true rfl), (Nat.le_of_ble_eq_true rfl)⟩ dX1_comes_2_9 ?_
  refine n_if_eqB (b := (sIn hu 0 30)) (tgt := 22) hx hb dX1_comes_2_12 (by decide) (fun c_2 => absurd c_2 (by simp [h1])) (fun c_2 => ?_)
  refine lv_iload_n hx hb dX1_comes_2_15 rfl (lv_at hl 3 rfl) ?_
  refine c_S (rest := []) C (metX1_isFeeling l G wi) 1 (lw_S q281 q282 q39 q283) (by decide +kernel) ⟨rfl, rfl⟩ ⟨(Nat.le_of_ble_eq_true rfl), (Nat.le_of_ble_eq_true rfl)⟩ (KM_mv G) (hP.sub (ws' := []) [] rfl) hK.1 hl rfl rfl (Nat.le_of_ble_eq_true rfl) ⟨(Nat.le_of_ble_eq_true rfl), (Nat.le_of_ble_eq_true rfl)⟩ dX1_comes_2_16 ?_
  refine n_if_neB (b := (sIn wi 0 30)) (tgt := 24) hx hb dX1_comes_2_19 (by decide) (fun c_3 => ?_) (fun c_3 => absurd c_3 (by simp [h2]))
  refine lv_aload_n hx hb dX1_comes_2_24 rfl (lv_at hl 0 rfl) ?_
  refine va_get (D := gD G) (ci := 1) (v := .ref (xa 8)) (C := RX1) (T := TX1) (N := 9) hx hb hts in_X1 hown hK.1 hP 0 rfl rfl 8 (by decide) (hts _ q846) (fun _ h9 => h9) rfl dX1_comes_2_25 ?_
  refine lv_iload_n hx hb dX1_comes_2_28 rfl (lv_at hl 1 rfl) ?_
  refine n_aldqS (y := sh dn) C hK.1 hP 7 5 dn rfl rfl (by omega) (by omega) rfl dX1_comes_2_29 ?_
  refine va_get (D := gD G) (ci := 3) (v := .ref y) (C := RX3) (T := TX3) (N := 1) hx hb hts in_X3 hown hK.1 hP 8 rfl rfl 0 (by decide) (hts _ q834) (fun _ h9 => h9) rfl dX1_comes_2_30 ?_
  refine n_castG C hK (hGP.kept hGA hS) hy q287 dX1_comes_2_33 ?_
  refine lv_astore (lv' := [(4, .ref y), (0, .ref h), (1, .int (nI dn)), (2, .int hu), (3, .int wi)]) hx hb dX1_comes_2_36 hl (Nat.le_of_ble_eq_true rfl) rfl (fun ls hl => ?_)
  refine lv_aload hx hb dX1_comes_2_38 (lv_at hl 0 rfl) ?_
  refine lv_ifnonnull (tgt := 46) hx hb dX1_comes_2_40 (by decide) ?_
  refine lv_aload_n hx hb dX1_comes_2_46 rfl (lv_at hl 1 rfl) ?_
  refine va_get (D := gD G) (ci := 1) (v := .ref (xa 0)) (C := RX1) (T := TX1) (N := 9) hx hb hts in_X1 hown hK.1 hP 0 rfl rfl 0 (by decide) (hts _ q838) (fun _ h9 => h9) rfl dX1_comes_2_47 ?_
  refine va_get (D := gD G) (ci := 2) (v := .int (r 0)) (C := RX2) (T := TX2) (N := 8) hx hb hts in_X2 hown hK.1 hP 1 rfl rfl 5 (by decide) (hts _ q803) (fun _ h9 => h9) rfl dX1_comes_2_50 ?_
  refine n_eqi (hr) ?_
  refine lv_bipush (v := 8) hx hb dX1_comes_2_53 (by decide) ?_
  refine n_ic_ne (x := N) (y := 8) (tgt := 63) hx hb (by omega) (by omega) dX1_comes_2_55 (by decide) (fun c_4 => ?_) (fun c_4 => absurd c_4 (by omega))
  refine lv_aload_n hx hb dX1_comes_2_63 rfl (lv_at hl 1 rfl) ?_
  refine va_get (D := gD G) (ci := 1) (v := .ref (xa 0)) (C := RX1) (T := TX1) (N := 9) hx hb hts in_X1 hown hK.1 hP 0 rfl rfl 0 (by decide) (hts _ q838) (fun _ h9 => h9) rfl dX1_comes_2_64 ?_
  refine lv_aload hx hb dX1_comes_2_67 (lv_at hl 0 rfl) ?_
  refine lv_iload_n hx hb dX1_comes_2_69 rfl (lv_at hl 3 rfl) ?_
  refine lv_iload_n hx hb dX1_comes_2_70 rfl (lv_at hl 4 rfl) ?_
  refine c_VWk (wr := [(h, xO xa xi), (xa 8, qA G 5 8 (shf sh)), (sh dn, .inr (3, [.ref y]))]) (rest := []) C (metX2_comes l G (xa 0) fn gm wh r N y k v hu wi (by omega) (hr) (hwk) (hy) (NG.of hGA hD [1, 2, 3, 4, 5, 6] rfl)) 3 (lw_V q360 q361 q362 q40 q363) (by decide +kernel) ⟨rfl, rfl⟩ ⟨(Nat.le_of_ble_eq_true rfl), (Nat.le_of_ble_eq_true rfl)⟩ (KG.call) (KG.at hK (hGP.kept hGA hS)) (va_recv hK.1 hP (ci := 2) (q0 := 1) rfl rfl) hA hP hD hS [1, 2, 3, 4, 5, 6] [0, 7, 8] rfl rfl rfl rfl (by decide) hl rfl rfl (Nat.le_of_ble_eq_true rfl) ⟨(Nat.le_of_ble_eq_true rfl), (Nat.le_of_ble_eq_true rfl)⟩ dX1_comes_2_71 (fun r_5 w1 H locs hq_6 hP hD hS => ?_)
  obtain ⟨rfl, rfl⟩ := hq_6
  have hP : PP G [(h, xO xa xi), (xa 8, qA G 5 8 (shf sh)), (sh dn, .inr (3, [.ref y])), (xa 0, fO fn (sAdds r N (nI k) v hu wi)), (fn 0, qA G 3 9 (va_up wh N (some y))), (fn 1, iA G 9 (fA (sAdds r N (nI k) v hu wi) 2)), (fn 2, iA G 9 (fA (sAdds r N (nI k) v hu wi) 3)), (fn 3, iA G 9 (fA (sAdds r N (nI k) v hu wi) 4)), (fn 4, iA G 9 (fA (sAdds r N (nI k) v hu wi) 5))] H := hP
  have hD : va_D A [(h, xO xa xi), (xa 8, qA G 5 8 (shf sh)), (sh dn, .inr (3, [.ref y])), (xa 0, fO fn (sAdds r N (nI k) v hu wi)), (fn 0, qA G 3 9 (va_up wh N (some y))), (fn 1, iA G 9 (fA (sAdds r N (nI k) v hu wi) 2)), (fn 2, iA G 9 (fA (sAdds r N (nI k) v hu wi) 3)), (fn 3, iA G 9 (fA (sAdds r N (nI k) v hu wi) 4)), (fn 4, iA G 9 (fA (sAdds r N (nI k) v hu wi) 5))] := hD
  have hw_7 : WK gm (va_up wh N (some y)) (sAdds r N (nI k) v hu wi) (N + 1) := WK.adds hwk (hy)
  have hr_8 : (sAdds r N (nI k) v hu wi) 0 = nI (N + 1) := rfl
  exact n_iretW (v := nI N) (w1 := [(h, xO xa xi), (xa 0, fO fn (sAdds r N (nI k) v hu wi)), (fn 0, qA G 3 9 (va_up wh N (some y))), (fn 1, iA G 9 (fA (sAdds r N (nI k) v hu wi) 2)), (fn 2, iA G 9 (fA (sAdds r N (nI k) v hu wi) 3)), (fn 3, iA G 9 (fA (sAdds r N (nI k) v hu wi) 4)), (fn 4, iA G 9 (fA (sAdds r N (nI k) v hu wi) 5)), (xa 8, qA G 5 8 (shf sh)), (sh dn, .inr (3, [.ref y]))]) C (⟨rfl, rfl⟩) (hP.sub (ws' := [(h, xO xa xi), (xa 0, fO fn (sAdds r N (nI k) v hu wi)), (fn 0, qA G 3 9 (va_up wh N (some y))), (fn 1, iA G 9 (fA (sAdds r N (nI k) v hu wi) 2)), (fn 2, iA G 9 (fA (sAdds r N (nI k) v hu wi) 3)), (fn 3, iA G 9 (fA (sAdds r N (nI k) v hu wi) 4)), (fn 4, iA G 9 (fA (sAdds r N (nI k) v hu wi) 5)), (xa 8, qA G 5 8 (shf sh)), (sh dn, .inr (3, [.ref y]))]) [0, 3, 4, 5, 6, 7, 8, 1, 2] rfl) (hD.sub (ws' := [(h, xO xa xi), (xa 0, fO fn (sAdds r N (nI k) v hu wi)), (fn 0, qA G 3 9 (va_up wh N (some y))), (fn 1, iA G 9 (fA (sAdds r N (nI k) v hu wi) 2)), (fn 2, iA G 9 (fA (sAdds r N (nI k) v hu wi) 3)), (fn 3, iA G 9 (fA (sAdds r N (nI k) v hu wi) 4)), (fn 4, iA G 9 (fA (sAdds r N (nI k) v hu wi) 5)), (xa 8, qA G 5 8 (shf sh)), (sh dn, .inr (3, [.ref y]))]) [0, 3, 4, 5, 6, 7, 8, 1, 2] (by decide) rfl) hS (by first | omega | decide) (by first | omega | decide) dX1_comes_2_74

set_option maxHeartbeats 4000000 in
set_option maxRecDepth 100000 in
theorem metX1_row_b1 (l : Launch) (G : GG) (h : Nat) (xa : Nat → Nat) (xi : Nat → Int32) (sh : Nat → Nat) (gm : GM) (d t n : Int32) (hl9 : l.stackTraces = false) (hng : NG gm [(h, xO xa xi)]) (hbad : sIn d 0 7 = false) : MWh l yX1_row cX1_row 5 (some .int) [((25 : Nat), (67 : Nat), (68 : Nat), (343 : Nat))] ({ frames := 2, cells := 0, slots := 0, locals := 43 }) [.ref h, .int d, .int t, .int n] [(h, xO xa xi)] G (KE G gm) 0 0 (fun rv w1 => rv = -1 ∧ w1 = [(h, xO xa xi)]) := by
  -- rows printed by wip/tools/gen.py
  refine mwh_mkg RX1 (by decide) rfl (Nat.le_of_ble_eq_true rfl) ?_
  intro p0_ e0_ s m args below meth c A C htab hA hAx hP hK hD ls hl
  have hZ : ZA A s := hK.2.2.of hP hAx
  have hM1 := hK.2.1
  have hK := hK.1
  have hGP := hK.2
  have hK := hK.1
  have hGA := GA.of hng hGP hAx
  have hx := C.1
  have hb := C.2.1
  have hml := C.2.2.2.2.1
  have hown := C.2.2.2.2.2.1
  have hts := C.2.2.2.2.2.2
  have hS : va_S A s.heap s.heap [] := va_S.rf
  have hl : lv_has ls 5 [(0, .ref h), (1, .int d), (2, .int t), (3, .int n)] := hl
  refine lv_aload_n hx hb dX1_row_0 rfl (lv_at hl 0 rfl) ?_
  refine lv_iload_n hx hb dX1_row_1 rfl (lv_at hl 1 rfl) ?_
  refine c_V (rest := []) C (metX1_isShelf l G h xa xi d) 1 (lw_V q166 q168 qs2 q39 q170) (by decide +kernel) ⟨rfl, rfl⟩ ⟨(Nat.le_of_ble_eq_true rfl), (Nat.le_of_ble_eq_true rfl)⟩ (KM_mv G) (va_recv hK.1 hP (ci := 1) (q0 := 0) rfl rfl) hP hK.1 hl rfl rfl (Nat.le_of_ble_eq_true rfl) ⟨(Nat.le_of_ble_eq_true rfl), (Nat.le_of_ble_eq_true rfl)⟩ dX1_row_2 ?_
  refine n_if_eqB (b := (sIn d 0 7)) (tgt := 23) hx hb dX1_row_5 (by decide) (fun c_1 => ?_) (fun c_1 => absurd c_1 (by simp [hbad]))
  refine lv_iconst (v := (-1)) hx hb dX1_row_23 (by decide) ?_
  exact n_iretW (v := (-1)) (w1 := [(h, xO xa xi)]) C (⟨rfl, rfl⟩) hP hD hS (by first | omega | decide) (by first | omega | decide) dX1_row_24

set_option maxHeartbeats 4000000 in
set_option maxRecDepth 100000 in
theorem metX1_row_b2 (l : Launch) (G : GG) (h : Nat) (xa : Nat → Nat) (xi : Nat → Int32) (sh : Nat → Nat) (gm : GM) (dn : Nat) (t n : Int32) (hl9 : l.stackTraces = false) (hng : NG gm [(h, xO xa xi)]) (hdn : dn ≤ 7) (h2 : sIn t 0 2 = false) : MWh l yX1_row cX1_row 5 (some .int) [((25 : Nat), (67 : Nat), (68 : Nat), (343 : Nat))] ({ frames := 2, cells := 0, slots := 0, locals := 43 }) [.ref h, .int (nI dn), .int t, .int n] [(h, xO xa xi)] G (KE G gm) 0 0 (fun rv w1 => rv = -1 ∧ w1 = [(h, xO xa xi)]) := by
  -- rows printed by wip/tools/gen.py
  refine mwh_mkg RX1 (by decide) rfl (Nat.le_of_ble_eq_true rfl) ?_
  intro p0_ e0_ s m args below meth c A C htab hA hAx hP hK hD ls hl
  have hZ : ZA A s := hK.2.2.of hP hAx
  have hM1 := hK.2.1
  have hK := hK.1
  have hGP := hK.2
  have hK := hK.1
  have hGA := GA.of hng hGP hAx
  have hx := C.1
  have hb := C.2.1
  have hml := C.2.2.2.2.1
  have hown := C.2.2.2.2.2.1
  have hts := C.2.2.2.2.2.2
  have hS : va_S A s.heap s.heap [] := va_S.rf
  have hl : lv_has ls 5 [(0, .ref h), (1, .int (nI dn)), (2, .int t), (3, .int n)] := hl
  have hs7 := sIn07 hdn
  refine lv_aload_n hx hb dX1_row_0 rfl (lv_at hl 0 rfl) ?_
  refine lv_iload_n hx hb dX1_row_1 rfl (lv_at hl 1 rfl) ?_
  refine c_V (rest := []) C (metX1_isShelf l G h xa xi (nI dn)) 1 (lw_V q166 q168 qs2 q39 q170) (by decide +kernel) ⟨rfl, rfl⟩ ⟨(Nat.le_of_ble_eq_true rfl), (Nat.le_of_ble_eq_true rfl)⟩ (KM_mv G) (va_recv hK.1 hP (ci := 1) (q0 := 0) rfl rfl) hP hK.1 hl rfl rfl (Nat.le_of_ble_eq_true rfl) ⟨(Nat.le_of_ble_eq_true rfl), (Nat.le_of_ble_eq_true rfl)⟩ dX1_row_2 ?_
  refine n_if_eqB (b := (sIn (nI dn) 0 7)) (tgt := 23) hx hb dX1_row_5 (by decide) (fun c_1 => absurd c_1 (by simp [hs7])) (fun c_1 => ?_)
  refine lv_iload_n hx hb dX1_row_8 rfl (lv_at hl 2 rfl) ?_
  refine lv_iconst (v := 0) hx hb dX1_row_9 (by decide) ?_
  refine lv_iconst (v := 2) hx hb dX1_row_10 (by decide) ?_
  refine c_S (rest := []) C (metX1_isIn l G t 0 2) 3 (lw_S q171 q172 q39 q173) (by decide +kernel) ⟨rfl, rfl⟩ ⟨(Nat.le_of_ble_eq_true rfl), (Nat.le_of_ble_eq_true rfl)⟩ (KM_mv G) (hP.sub (ws' := []) [] rfl) hK.1 hl rfl rfl (Nat.le_of_ble_eq_true rfl) ⟨(Nat.le_of_ble_eq_true rfl), (Nat.le_of_ble_eq_true rfl)⟩ dX1_row_11 ?_
  refine n_if_eqB (b := (sIn t 0 2)) (tgt := 23) hx hb dX1_row_14 (by decide) (fun c_2 => ?_) (fun c_2 => absurd c_2 (by simp [h2]))
  refine lv_iconst (v := (-1)) hx hb dX1_row_23 (by decide) ?_
  exact n_iretW (v := (-1)) (w1 := [(h, xO xa xi)]) C (⟨rfl, rfl⟩) hP hD hS (by first | omega | decide) (by first | omega | decide) dX1_row_24

set_option maxHeartbeats 4000000 in
set_option maxRecDepth 100000 in
theorem metX1_row_b3 (l : Launch) (G : GG) (h : Nat) (xa : Nat → Nat) (xi : Nat → Int32) (sh : Nat → Nat) (gm : GM) (dn : Nat) (t n : Int32) (hl9 : l.stackTraces = false) (hng : NG gm [(h, xO xa xi)]) (hdn : dn ≤ 7) (h1 : sIn t 0 2 = true) (h2 : ¬ n ≤ 100) : MWh l yX1_row cX1_row 5 (some .int) [((25 : Nat), (67 : Nat), (68 : Nat), (343 : Nat))] ({ frames := 2, cells := 0, slots := 0, locals := 43 }) [.ref h, .int (nI dn), .int t, .int n] [(h, xO xa xi)] G (KE G gm) 0 0 (fun rv w1 => rv = -1 ∧ w1 = [(h, xO xa xi)]) := by
  -- rows printed by wip/tools/gen.py
  refine mwh_mkg RX1 (by decide) rfl (Nat.le_of_ble_eq_true rfl) ?_
  intro p0_ e0_ s m args below meth c A C htab hA hAx hP hK hD ls hl
  have hZ : ZA A s := hK.2.2.of hP hAx
  have hM1 := hK.2.1
  have hK := hK.1
  have hGP := hK.2
  have hK := hK.1
  have hGA := GA.of hng hGP hAx
  have hx := C.1
  have hb := C.2.1
  have hml := C.2.2.2.2.1
  have hown := C.2.2.2.2.2.1
  have hts := C.2.2.2.2.2.2
  have hS : va_S A s.heap s.heap [] := va_S.rf
  have hl : lv_has ls 5 [(0, .ref h), (1, .int (nI dn)), (2, .int t), (3, .int n)] := hl
  have hs7 := sIn07 hdn
  refine lv_aload_n hx hb dX1_row_0 rfl (lv_at hl 0 rfl) ?_
  refine lv_iload_n hx hb dX1_row_1 rfl (lv_at hl 1 rfl) ?_
  refine c_V (rest := []) C (metX1_isShelf l G h xa xi (nI dn)) 1 (lw_V q166 q168 qs2 q39 q170) (by decide +kernel) ⟨rfl, rfl⟩ ⟨(Nat.le_of_ble_eq_true rfl), (Nat.le_of_ble_eq_true rfl)⟩ (KM_mv G) (va_recv hK.1 hP (ci := 1) (q0 := 0) rfl rfl) hP hK.1 hl rfl rfl (Nat.le_of_ble_eq_true rfl) ⟨(Nat.le_of_ble_eq_true rfl), (Nat.le_of_ble_eq_true rfl)⟩ dX1_row_2 ?_
  refine n_if_eqB (b := (sIn (nI dn) 0 7)) (tgt := 23) hx hb dX1_row_5 (by decide) (fun c_1 => absurd c_1 (by simp [hs7])) (fun c_1 => ?_)
  refine lv_iload_n hx hb dX1_row_8 rfl (lv_at hl 2 rfl) ?_
  refine lv_iconst (v := 0) hx hb dX1_row_9 (by decide) ?_
  refine lv_iconst (v := 2) hx hb dX1_row_10 (by decide) ?_
  refine c_S (rest := []) C (metX1_isIn l G t 0 2) 3 (lw_S q171 q172 q39 q173) (by decide +kernel) ⟨rfl, rfl⟩ ⟨(Nat.le_of_ble_eq_true rfl), (Nat.le_of_ble_eq_true rfl)⟩ (KM_mv G) (hP.sub (ws' := []) [] rfl) hK.1 hl rfl rfl (Nat.le_of_ble_eq_true rfl) ⟨(Nat.le_of_ble_eq_true rfl), (Nat.le_of_ble_eq_true rfl)⟩ dX1_row_11 ?_
  refine n_if_eqB (b := (sIn t 0 2)) (tgt := 23) hx hb dX1_row_14 (by decide) (fun c_2 => absurd c_2 (by simp [h1])) (fun c_2 => ?_)
  refine lv_iload_n hx hb dX1_row_17 rfl (lv_at hl 3 rfl) ?_
  refine lv_bipush (v := 100) hx hb dX1_row_18 (by decide) ?_
  refine lv_icmp_le (x := n) (y := 100) (tgt := 25) hx hb dX1_row_20 (by decide) (fun c_3 => absurd c_3 (h2)) (fun c_3 => ?_)
  refine lv_iconst (v := (-1)) hx hb dX1_row_23 (by decide) ?_
  exact n_iretW (v := (-1)) (w1 := [(h, xO xa xi)]) C (⟨rfl, rfl⟩) hP hD hS (by first | omega | decide) (by first | omega | decide) dX1_row_24

set_option maxHeartbeats 4000000 in
set_option maxRecDepth 100000 in
theorem metX1_row_r0 (l : Launch) (G : GG) (h : Nat) (xa : Nat → Nat) (xi : Nat → Int32) (sh : Nat → Nat) (gm : GM) (dn : Nat) (n : Nat) (hv : Value) (hl9 : l.stackTraces = false) (hng : NG gm [(h, xO xa xi), (xa 8, qA G 5 8 (shf sh)), (sh dn, .inr (3, [hv]))]) (hdn : dn ≤ 7) (hn : n ≤ 100) : MWh l yX1_row cX1_row 5 (some .int) [((25 : Nat), (67 : Nat), (68 : Nat), (343 : Nat))] ({ frames := 2, cells := 1, slots := 100, locals := 43 }) [.ref h, .int (nI dn), .int 0, .int (nI n)] [(h, xO xa xi), (xa 8, qA G 5 8 (shf sh)), (sh dn, .inr (3, [hv]))] G (KE G gm) 1 100 (fun rv w1 => rv = 0 ∧ ∃ q : Nat, w1 = [(h, xO xa xi), (xa 8, qA G 5 8 (shf sh)), (sh dn, .inr (3, [.ref q])), (q, tA G 1 n (fun _ => 0))]) := by
  -- rows printed by wip/tools/gen.py
  refine mwh_mkg RX1 (by decide) rfl (Nat.le_of_ble_eq_true rfl) ?_
  intro p0_ e0_ s m args below meth c A C htab hA hAx hP hK hD ls hl
  have hZ : ZA A s := hK.2.2.of hP hAx
  have hM1 := hK.2.1
  have hK := hK.1
  have hGP := hK.2
  have hK := hK.1
  have hGA := GA.of hng hGP hAx
  have hx := C.1
  have hb := C.2.1
  have hml := C.2.2.2.2.1
  have hown := C.2.2.2.2.2.1
  have hts := C.2.2.2.2.2.2
  have hS : va_S A s.heap s.heap [] := va_S.rf
  have hl : lv_has ls 5 [(0, .ref h), (1, .int (nI dn)), (2, .int 0), (3, .int (nI n))] := hl
  have hs7 := sIn07 hdn
  have hq0 : sIn 0 0 2 = true := by decide
  refine lv_aload_n hx hb dX1_row_0 rfl (lv_at hl 0 rfl) ?_
  refine lv_iload_n hx hb dX1_row_1 rfl (lv_at hl 1 rfl) ?_
  refine c_V (rest := []) C (metX1_isShelf l G h xa xi (nI dn)) 1 (lw_V q166 q168 qs2 q39 q170) (by decide +kernel) ⟨rfl, rfl⟩ ⟨(Nat.le_of_ble_eq_true rfl), (Nat.le_of_ble_eq_true rfl)⟩ (KM_mv G) (va_recv hK.1 hP (ci := 1) (q0 := 0) rfl rfl) (hP.sub (ws' := [(h, xO xa xi)]) [0] rfl) hK.1 hl rfl rfl (Nat.le_of_ble_eq_true rfl) ⟨(Nat.le_of_ble_eq_true rfl), (Nat.le_of_ble_eq_true rfl)⟩ dX1_row_2 ?_
  refine n_if_eqB (b := (sIn (nI dn) 0 7)) (tgt := 23) hx hb dX1_row_5 (by decide) (fun c_1 => absurd c_1 (by simp [hs7])) (fun c_1 => ?_)
  refine lv_iload_n hx hb dX1_row_8 rfl (lv_at hl 2 rfl) ?_
  refine lv_iconst (v := 0) hx hb dX1_row_9 (by decide) ?_
  refine lv_iconst (v := 2) hx hb dX1_row_10 (by decide) ?_
  refine c_S (rest := []) C (metX1_isIn l G 0 0 2) 3 (lw_S q171 q172 q39 q173) (by decide +kernel) ⟨rfl, rfl⟩ ⟨(Nat.le_of_ble_eq_true rfl), (Nat.le_of_ble_eq_true rfl)⟩ (KM_mv G) (hP.sub (ws' := []) [] rfl) hK.1 hl rfl rfl (Nat.le_of_ble_eq_true rfl) ⟨(Nat.le_of_ble_eq_true rfl), (Nat.le_of_ble_eq_true rfl)⟩ dX1_row_11 ?_
  refine n_if_eqB (b := (sIn 0 0 2)) (tgt := 23) hx hb dX1_row_14 (by decide) (fun c_2 => absurd c_2 (by simp [hq0])) (fun c_2 => ?_)
  refine lv_iload_n hx hb dX1_row_17 rfl (lv_at hl 3 rfl) ?_
  refine lv_bipush (v := 100) hx hb dX1_row_18 (by decide) ?_
  refine n_ic_le (x := n) (y := 100) (tgt := 25) hx hb (by omega) (by omega) dX1_row_20 (by decide) (fun c_3 => ?_) (fun c_3 => absurd c_3 (by omega))
  refine lv_iload_n hx hb dX1_row_25 rfl (lv_at hl 2 rfl) ?_
  refine lv_if_ne (x := 0) (tgt := 37) hx hb dX1_row_26 (by decide) (fun c_4 => absurd c_4 (by decide)) (fun c_4 => ?_)
  refine lv_iload_n hx hb dX1_row_29 rfl (lv_at hl 3 rfl) ?_
  refine n_newb C hK.1 hP hD hS hA n (by omega) (by dsimp only; omega) (by dsimp only; omega) dX1_row_30 (fun qa_5 H hP hD hS => ?_)
  have hP : PP G [(h, xO xa xi), (xa 8, qA G 5 8 (shf sh)), (sh dn, .inr (3, [hv])), (qa_5, tA G 1 n (fun _ => 0))] H := hP
  have hD : va_D A [(h, xO xa xi), (xa 8, qA G 5 8 (shf sh)), (sh dn, .inr (3, [hv])), (qa_5, tA G 1 n (fun _ => 0))] := hD
  refine lv_astore (lv' := [(4, .ref qa_5), (0, .ref h), (1, .int (nI dn)), (2, .int 0), (3, .int (nI n))]) hx hb dX1_row_32 hl (Nat.le_of_ble_eq_true rfl) rfl (fun ls hl => ?_)
  refine lv_goto (tgt := 55) hx hb dX1_row_34 (by decide) ?_
  refine lv_aload_n hx hb dX1_row_55 rfl (lv_at hl 1 rfl) ?_
  refine va_get (D := gD G) (ci := 1) (v := .ref (xa 8)) (C := RX1) (T := TX1) (N := 9) hx hb hts in_X1 hown hK.1 hP 0 rfl rfl 8 (by decide) (hts _ q846) (fun _ h9 => h9) rfl dX1_row_56 ?_
  refine lv_iload_n hx hb dX1_row_59 rfl (lv_at hl 2 rfl) ?_
  refine n_aldqS (y := sh dn) C hK.1 hP 1 5 dn rfl rfl (by omega) (by omega) rfl dX1_row_60 ?_
  refine lv_aload hx hb dX1_row_61 (lv_at hl 0 rfl) ?_
  refine va_put (D := gD G) (ci := 3) (v := .ref qa_5) (ty := (.object "java/lang/Object")) (C := RX3) (T := TX3) (N := 1) hx hb hts in_X3 tyX3 tyX3_ok nmX3 hown hK.1 hP hD hS 2 rfl rfl 0 (by decide) (hts _ q834) (fun _ h9 => h9) rfl (by decide +kernel) rfl rfl (Nat.le_of_ble_eq_true rfl) dX1_row_63 (fun H locs hP hD hS => ?_)
  have hP : PP G [(h, xO xa xi), (xa 8, qA G 5 8 (shf sh)), (sh dn, .inr (3, [.ref qa_5])), (qa_5, tA G 1 n (fun _ => 0))] H := hP
  have hD : va_D A [(h, xO xa xi), (xa 8, qA G 5 8 (shf sh)), (sh dn, .inr (3, [.ref qa_5])), (qa_5, tA G 1 n (fun _ => 0))] := hD
  refine lv_iconst (v := 0) hx hb dX1_row_66 (by decide) ?_
  exact n_iretW (v := 0) (w1 := [(h, xO xa xi), (xa 8, qA G 5 8 (shf sh)), (sh dn, .inr (3, [.ref qa_5])), (qa_5, tA G 1 n (fun _ => 0))]) C (⟨rfl, _, rfl⟩) hP hD hS (by first | omega | decide) (by first | omega | decide) dX1_row_67

set_option maxHeartbeats 4000000 in
set_option maxRecDepth 100000 in
theorem metX1_row_n0 (l : Launch) (G : GG) (h : Nat) (xa : Nat → Nat) (xi : Nat → Int32) (sh : Nat → Nat) (gm : GM) (dn : Nat) (n : Int32) (hl9 : l.stackTraces = false) (hng : NG gm [(h, xO xa xi)]) (hdn : dn ≤ 7) (hneg : n < 0) : MWh l yX1_row cX1_row 5 (some .int) [((25 : Nat), (67 : Nat), (68 : Nat), (343 : Nat))] ({ frames := 9, cells := 4, slots := 1100, locals := 10400 }) [.ref h, .int (nI dn), .int 0, .int n] [(h, xO xa xi)] G (KE G gm) 4 1100 (fun rv w1 => rv = -14 ∧ w1 = [(h, xO xa xi)]) := by
  -- rows printed by wip/tools/gen.py
  refine mwh_mkg RX1 (by decide) rfl (Nat.le_of_ble_eq_true rfl) ?_
  intro p0_ e0_ s m args below meth c A C htab hA hAx hP hK hD ls hl
  have hZ : ZA A s := hK.2.2.of hP hAx
  have hM1 := hK.2.1
  have hK := hK.1
  have hGP := hK.2
  have hK := hK.1
  have hGA := GA.of hng hGP hAx
  have hx := C.1
  have hb := C.2.1
  have hml := C.2.2.2.2.1
  have hown := C.2.2.2.2.2.1
  have hts := C.2.2.2.2.2.2
  have hS : va_S A s.heap s.heap [] := va_S.rf
  have hl : lv_has ls 5 [(0, .ref h), (1, .int (nI dn)), (2, .int 0), (3, .int n)] := hl
  have hs7 := sIn07 hdn
  have hq0 : sIn 0 0 2 = true := by decide
  have hn9 : n ≤ 100 := Int32.le_trans (Int32.le_of_lt hneg) (by decide)
  refine lv_aload_n hx hb dX1_row_0 rfl (lv_at hl 0 rfl) ?_
  refine lv_iload_n hx hb dX1_row_1 rfl (lv_at hl 1 rfl) ?_
  refine c_V (rest := []) C (metX1_isShelf l G h xa xi (nI dn)) 1 (lw_V q166 q168 qs2 q39 q170) (by decide +kernel) ⟨rfl, rfl⟩ ⟨(Nat.le_of_ble_eq_true rfl), (Nat.le_of_ble_eq_true rfl)⟩ (KM_mv G) (va_recv hK.1 hP (ci := 1) (q0 := 0) rfl rfl) hP hK.1 hl rfl rfl (Nat.le_of_ble_eq_true rfl) ⟨(Nat.le_of_ble_eq_true rfl), (Nat.le_of_ble_eq_true rfl)⟩ dX1_row_2 ?_
  refine n_if_eqB (b := (sIn (nI dn) 0 7)) (tgt := 23) hx hb dX1_row_5 (by decide) (fun c_1 => absurd c_1 (by simp [hs7])) (fun c_1 => ?_)
  refine lv_iload_n hx hb dX1_row_8 rfl (lv_at hl 2 rfl) ?_
  refine lv_iconst (v := 0) hx hb dX1_row_9 (by decide) ?_
  refine lv_iconst (v := 2) hx hb dX1_row_10 (by decide) ?_
  refine c_S (rest := []) C (metX1_isIn l G 0 0 2) 3 (lw_S q171 q172 q39 q173) (by decide +kernel) ⟨rfl, rfl⟩ ⟨(Nat.le_of_ble_eq_true rfl), (Nat.le_of_ble_eq_true rfl)⟩ (KM_mv G) (hP.sub (ws' := []) [] rfl) hK.1 hl rfl rfl (Nat.le_of_ble_eq_true rfl) ⟨(Nat.le_of_ble_eq_true rfl), (Nat.le_of_ble_eq_true rfl)⟩ dX1_row_11 ?_
  refine n_if_eqB (b := (sIn 0 0 2)) (tgt := 23) hx hb dX1_row_14 (by decide) (fun c_2 => absurd c_2 (by simp [hq0])) (fun c_2 => ?_)
  refine lv_iload_n hx hb dX1_row_17 rfl (lv_at hl 3 rfl) ?_
  refine lv_bipush (v := 100) hx hb dX1_row_18 (by decide) ?_
  refine lv_icmp_le (x := n) (y := 100) (tgt := 25) hx hb dX1_row_20 (by decide) (fun c_3 => ?_) (fun c_3 => absurd c_3 (fun z => z hn9))
  refine lv_iload_n hx hb dX1_row_25 rfl (lv_at hl 2 rfl) ?_
  refine lv_if_ne (x := 0) (tgt := 37) hx hb dX1_row_26 (by decide) (fun c_4 => absurd c_4 (by decide)) (fun c_4 => ?_)
  refine lv_iload_n hx hb dX1_row_29 rfl (lv_at hl 3 rfl) ?_
  refine vx_newarrayZ hx hb hneg dX1_row_30 (fun tx9 he9 => ?_)
  obtain ⟨ha9, hb9⟩ := neg_text hneg he9
  refine x_note C hl9 hK.2 hP (hGP.kept hGA hS) hS hZ E_nas eNAS_tbl e_in1.2.2.1 hl.1 ha9 hb9 ⟨Nat.le_of_ble_eq_true rfl, Nat.le_of_ble_eq_true rfl, Nat.le_of_ble_eq_true rfl, Nat.le_of_ble_eq_true rfl, Nat.le_of_ble_eq_true rfl⟩ (fun H q9 ce hP _ hS hce hcv hcl => ?_)
  refine x_catch (E := "java/lang/NegativeArraySizeException") (name := "java/lang/NegativeArraySizeException") C hK.2 htab [] ⟨25, 67, 68, 343⟩ [] rfl (fun _ h9 => nomatch h9) (by decide) (by decide) q874 (by decide +kernel) hce hcv hcl ?_
  refine lv_astore (lv' := [(4, .ref q9), (0, .ref h), (1, .int (nI dn)), (2, .int 0), (3, .int n)]) hx hb dX1_row_68 hl (Nat.le_of_ble_eq_true rfl) rfl (fun ls hl => ?_)
  refine lv_bipush (v := (-14)) hx hb dX1_row_70 (by decide) ?_
  exact n_iretW (v := (-14)) (w1 := [(h, xO xa xi)]) C (⟨rfl, rfl⟩) hP hD hS (by first | omega | decide) (by first | omega | decide) dX1_row_72

set_option maxHeartbeats 4000000 in
set_option maxRecDepth 100000 in
theorem metX1_row_r1 (l : Launch) (G : GG) (h : Nat) (xa : Nat → Nat) (xi : Nat → Int32) (sh : Nat → Nat) (gm : GM) (dn : Nat) (n : Nat) (hv : Value) (hl9 : l.stackTraces = false) (hng : NG gm [(h, xO xa xi), (xa 8, qA G 5 8 (shf sh)), (sh dn, .inr (3, [hv]))]) (hdn : dn ≤ 7) (hn : n ≤ 100) : MWh l yX1_row cX1_row 5 (some .int) [((25 : Nat), (67 : Nat), (68 : Nat), (343 : Nat))] ({ frames := 2, cells := 1, slots := 100, locals := 43 }) [.ref h, .int (nI dn), .int 1, .int (nI n)] [(h, xO xa xi), (xa 8, qA G 5 8 (shf sh)), (sh dn, .inr (3, [hv]))] G (KE G gm) 1 100 (fun rv w1 => rv = 0 ∧ ∃ q : Nat, w1 = [(h, xO xa xi), (xa 8, qA G 5 8 (shf sh)), (sh dn, .inr (3, [.ref q])), (q, tA G 2 n (fun _ => 0))]) := by
  -- rows printed by wip/tools/gen.py
  refine mwh_mkg RX1 (by decide) rfl (Nat.le_of_ble_eq_true rfl) ?_
  intro p0_ e0_ s m args below meth c A C htab hA hAx hP hK hD ls hl
  have hZ : ZA A s := hK.2.2.of hP hAx
  have hM1 := hK.2.1
  have hK := hK.1
  have hGP := hK.2
  have hK := hK.1
  have hGA := GA.of hng hGP hAx
  have hx := C.1
  have hb := C.2.1
  have hml := C.2.2.2.2.1
  have hown := C.2.2.2.2.2.1
  have hts := C.2.2.2.2.2.2
  have hS : va_S A s.heap s.heap [] := va_S.rf
  have hl : lv_has ls 5 [(0, .ref h), (1, .int (nI dn)), (2, .int 1), (3, .int (nI n))] := hl
  have hs7 := sIn07 hdn
  have hq1 : sIn 1 0 2 = true := by decide
  refine lv_aload_n hx hb dX1_row_0 rfl (lv_at hl 0 rfl) ?_
  refine lv_iload_n hx hb dX1_row_1 rfl (lv_at hl 1 rfl) ?_
  refine c_V (rest := []) C (metX1_isShelf l G h xa xi (nI dn)) 1 (lw_V q166 q168 qs2 q39 q170) (by decide +kernel) ⟨rfl, rfl⟩ ⟨(Nat.le_of_ble_eq_true rfl), (Nat.le_of_ble_eq_true rfl)⟩ (KM_mv G) (va_recv hK.1 hP (ci := 1) (q0 := 0) rfl rfl) (hP.sub (ws' := [(h, xO xa xi)]) [0] rfl) hK.1 hl rfl rfl (Nat.le_of_ble_eq_true rfl) ⟨(Nat.le_of_ble_eq_true rfl), (Nat.le_of_ble_eq_true rfl)⟩ dX1_row_2 ?_
  refine n_if_eqB (b := (sIn (nI dn) 0 7)) (tgt := 23) hx hb dX1_row_5 (by decide) (fun c_1 => absurd c_1 (by simp [hs7])) (fun c_1 => ?_)
  refine lv_iload_n hx hb dX1_row_8 rfl (lv_at hl 2 rfl) ?_
  refine lv_iconst (v := 0) hx hb dX1_row_9 (by decide) ?_
  refine lv_iconst (v := 2) hx hb dX1_row_10 (by decide) ?_
  refine c_S (rest := []) C (metX1_isIn l G 1 0 2) 3 (lw_S q171 q172 q39 q173) (by decide +kernel) ⟨rfl, rfl⟩ ⟨(Nat.le_of_ble_eq_true rfl), (Nat.le_of_ble_eq_true rfl)⟩ (KM_mv G) (hP.sub (ws' := []) [] rfl) hK.1 hl rfl rfl (Nat.le_of_ble_eq_true rfl) ⟨(Nat.le_of_ble_eq_true rfl), (Nat.le_of_ble_eq_true rfl)⟩ dX1_row_11 ?_
  refine n_if_eqB (b := (sIn 1 0 2)) (tgt := 23) hx hb dX1_row_14 (by decide) (fun c_2 => absurd c_2 (by simp [hq1])) (fun c_2 => ?_)
  refine lv_iload_n hx hb dX1_row_17 rfl (lv_at hl 3 rfl) ?_
  refine lv_bipush (v := 100) hx hb dX1_row_18 (by decide) ?_
  refine n_ic_le (x := n) (y := 100) (tgt := 25) hx hb (by omega) (by omega) dX1_row_20 (by decide) (fun c_3 => ?_) (fun c_3 => absurd c_3 (by omega))
  refine lv_iload_n hx hb dX1_row_25 rfl (lv_at hl 2 rfl) ?_
  refine lv_if_ne (x := 1) (tgt := 37) hx hb dX1_row_26 (by decide) (fun c_4 => ?_) (fun c_4 => absurd c_4 (by decide))
  refine lv_iload_n hx hb dX1_row_37 rfl (lv_at hl 2 rfl) ?_
  refine lv_iconst (v := 1) hx hb dX1_row_38 (by decide) ?_
  refine lv_icmp_ne (x := 1) (y := 1) (tgt := 50) hx hb dX1_row_39 (by decide) (fun c_5 => absurd c_5 (by decide)) (fun c_5 => ?_)
  refine lv_iload_n hx hb dX1_row_42 rfl (lv_at hl 3 rfl) ?_
  refine n_news C hK.1 hP hD hS hA n (by omega) (by dsimp only; omega) (by dsimp only; omega) dX1_row_43 (fun qa_6 H hP hD hS => ?_)
  have hP : PP G [(h, xO xa xi), (xa 8, qA G 5 8 (shf sh)), (sh dn, .inr (3, [hv])), (qa_6, tA G 2 n (fun _ => 0))] H := hP
  have hD : va_D A [(h, xO xa xi), (xa 8, qA G 5 8 (shf sh)), (sh dn, .inr (3, [hv])), (qa_6, tA G 2 n (fun _ => 0))] := hD
  refine lv_astore (lv' := [(4, .ref qa_6), (0, .ref h), (1, .int (nI dn)), (2, .int 1), (3, .int (nI n))]) hx hb dX1_row_45 hl (Nat.le_of_ble_eq_true rfl) rfl (fun ls hl => ?_)
  refine lv_goto (tgt := 55) hx hb dX1_row_47 (by decide) ?_
  refine lv_aload_n hx hb dX1_row_55 rfl (lv_at hl 1 rfl) ?_
  refine va_get (D := gD G) (ci := 1) (v := .ref (xa 8)) (C := RX1) (T := TX1) (N := 9) hx hb hts in_X1 hown hK.1 hP 0 rfl rfl 8 (by decide) (hts _ q846) (fun _ h9 => h9) rfl dX1_row_56 ?_
  refine lv_iload_n hx hb dX1_row_59 rfl (lv_at hl 2 rfl) ?_
  refine n_aldqS (y := sh dn) C hK.1 hP 1 5 dn rfl rfl (by omega) (by omega) rfl dX1_row_60 ?_
  refine lv_aload hx hb dX1_row_61 (lv_at hl 0 rfl) ?_
  refine va_put (D := gD G) (ci := 3) (v := .ref qa_6) (ty := (.object "java/lang/Object")) (C := RX3) (T := TX3) (N := 1) hx hb hts in_X3 tyX3 tyX3_ok nmX3 hown hK.1 hP hD hS 2 rfl rfl 0 (by decide) (hts _ q834) (fun _ h9 => h9) rfl (by decide +kernel) rfl rfl (Nat.le_of_ble_eq_true rfl) dX1_row_63 (fun H locs hP hD hS => ?_)
  have hP : PP G [(h, xO xa xi), (xa 8, qA G 5 8 (shf sh)), (sh dn, .inr (3, [.ref qa_6])), (qa_6, tA G 2 n (fun _ => 0))] H := hP
  have hD : va_D A [(h, xO xa xi), (xa 8, qA G 5 8 (shf sh)), (sh dn, .inr (3, [.ref qa_6])), (qa_6, tA G 2 n (fun _ => 0))] := hD
  refine lv_iconst (v := 0) hx hb dX1_row_66 (by decide) ?_
  exact n_iretW (v := 0) (w1 := [(h, xO xa xi), (xa 8, qA G 5 8 (shf sh)), (sh dn, .inr (3, [.ref qa_6])), (qa_6, tA G 2 n (fun _ => 0))]) C (⟨rfl, _, rfl⟩) hP hD hS (by first | omega | decide) (by first | omega | decide) dX1_row_67

set_option maxHeartbeats 4000000 in
set_option maxRecDepth 100000 in
theorem metX1_row_n1 (l : Launch) (G : GG) (h : Nat) (xa : Nat → Nat) (xi : Nat → Int32) (sh : Nat → Nat) (gm : GM) (dn : Nat) (n : Int32) (hl9 : l.stackTraces = false) (hng : NG gm [(h, xO xa xi)]) (hdn : dn ≤ 7) (hneg : n < 0) : MWh l yX1_row cX1_row 5 (some .int) [((25 : Nat), (67 : Nat), (68 : Nat), (343 : Nat))] ({ frames := 9, cells := 4, slots := 1100, locals := 10400 }) [.ref h, .int (nI dn), .int 1, .int n] [(h, xO xa xi)] G (KE G gm) 4 1100 (fun rv w1 => rv = -14 ∧ w1 = [(h, xO xa xi)]) := by
  -- rows printed by wip/tools/gen.py
  refine mwh_mkg RX1 (by decide) rfl (Nat.le_of_ble_eq_true rfl) ?_
  intro p0_ e0_ s m args below meth c A C htab hA hAx hP hK hD ls hl
  have hZ : ZA A s := hK.2.2.of hP hAx
  have hM1 := hK.2.1
  have hK := hK.1
  have hGP := hK.2
  have hK := hK.1
  have hGA := GA.of hng hGP hAx
  have hx := C.1
  have hb := C.2.1
  have hml := C.2.2.2.2.1
  have hown := C.2.2.2.2.2.1
  have hts := C.2.2.2.2.2.2
  have hS : va_S A s.heap s.heap [] := va_S.rf
  have hl : lv_has ls 5 [(0, .ref h), (1, .int (nI dn)), (2, .int 1), (3, .int n)] := hl
  have hs7 := sIn07 hdn
  have hq1 : sIn 1 0 2 = true := by decide
  have hn9 : n ≤ 100 := Int32.le_trans (Int32.le_of_lt hneg) (by decide)
  refine lv_aload_n hx hb dX1_row_0 rfl (lv_at hl 0 rfl) ?_
  refine lv_iload_n hx hb dX1_row_1 rfl (lv_at hl 1 rfl) ?_
  refine c_V (rest := []) C (metX1_isShelf l G h xa xi (nI dn)) 1 (lw_V q166 q168 qs2 q39 q170) (by decide +kernel) ⟨rfl, rfl⟩ ⟨(Nat.le_of_ble_eq_true rfl), (Nat.le_of_ble_eq_true rfl)⟩ (KM_mv G) (va_recv hK.1 hP (ci := 1) (q0 := 0) rfl rfl) hP hK.1 hl rfl rfl (Nat.le_of_ble_eq_true rfl) ⟨(Nat.le_of_ble_eq_true rfl), (Nat.le_of_ble_eq_true rfl)⟩ dX1_row_2 ?_
  refine n_if_eqB (b := (sIn (nI dn) 0 7)) (tgt := 23) hx hb dX1_row_5 (by decide) (fun c_1 => absurd c_1 (by simp [hs7])) (fun c_1 => ?_)
  refine lv_iload_n hx hb dX1_row_8 rfl (lv_at hl 2 rfl) ?_
  refine lv_iconst (v := 0) hx hb dX1_row_9 (by decide) ?_
  refine lv_iconst (v := 2) hx hb dX1_row_10 (by decide) ?_
  refine c_S (rest := []) C (metX1_isIn l G 1 0 2) 3 (lw_S q171 q172 q39 q173) (by decide +kernel) ⟨rfl, rfl⟩ ⟨(Nat.le_of_ble_eq_true rfl), (Nat.le_of_ble_eq_true rfl)⟩ (KM_mv G) (hP.sub (ws' := []) [] rfl) hK.1 hl rfl rfl (Nat.le_of_ble_eq_true rfl) ⟨(Nat.le_of_ble_eq_true rfl), (Nat.le_of_ble_eq_true rfl)⟩ dX1_row_11 ?_
  refine n_if_eqB (b := (sIn 1 0 2)) (tgt := 23) hx hb dX1_row_14 (by decide) (fun c_2 => absurd c_2 (by simp [hq1])) (fun c_2 => ?_)
  refine lv_iload_n hx hb dX1_row_17 rfl (lv_at hl 3 rfl) ?_
  refine lv_bipush (v := 100) hx hb dX1_row_18 (by decide) ?_
  refine lv_icmp_le (x := n) (y := 100) (tgt := 25) hx hb dX1_row_20 (by decide) (fun c_3 => ?_) (fun c_3 => absurd c_3 (fun z => z hn9))
  refine lv_iload_n hx hb dX1_row_25 rfl (lv_at hl 2 rfl) ?_
  refine lv_if_ne (x := 1) (tgt := 37) hx hb dX1_row_26 (by decide) (fun c_4 => ?_) (fun c_4 => absurd c_4 (by decide))
  refine lv_iload_n hx hb dX1_row_37 rfl (lv_at hl 2 rfl) ?_
  refine lv_iconst (v := 1) hx hb dX1_row_38 (by decide) ?_
  refine lv_icmp_ne (x := 1) (y := 1) (tgt := 50) hx hb dX1_row_39 (by decide) (fun c_5 => absurd c_5 (by decide)) (fun c_5 => ?_)
  refine lv_iload_n hx hb dX1_row_42 rfl (lv_at hl 3 rfl) ?_
  refine vx_newarrayZ hx hb hneg dX1_row_43 (fun tx9 he9 => ?_)
  obtain ⟨ha9, hb9⟩ := neg_text hneg he9
  refine x_note C hl9 hK.2 hP (hGP.kept hGA hS) hS hZ E_nas eNAS_tbl e_in1.2.2.1 hl.1 ha9 hb9 ⟨Nat.le_of_ble_eq_true rfl, Nat.le_of_ble_eq_true rfl, Nat.le_of_ble_eq_true rfl, Nat.le_of_ble_eq_true rfl, Nat.le_of_ble_eq_true rfl⟩ (fun H q9 ce hP _ hS hce hcv hcl => ?_)
  refine x_catch (E := "java/lang/NegativeArraySizeException") (name := "java/lang/NegativeArraySizeException") C hK.2 htab [] ⟨25, 67, 68, 343⟩ [] rfl (fun _ h9 => nomatch h9) (by decide) (by decide) q874 (by decide +kernel) hce hcv hcl ?_
  refine lv_astore (lv' := [(4, .ref q9), (0, .ref h), (1, .int (nI dn)), (2, .int 1), (3, .int n)]) hx hb dX1_row_68 hl (Nat.le_of_ble_eq_true rfl) rfl (fun ls hl => ?_)
  refine lv_bipush (v := (-14)) hx hb dX1_row_70 (by decide) ?_
  exact n_iretW (v := (-14)) (w1 := [(h, xO xa xi)]) C (⟨rfl, rfl⟩) hP hD hS (by first | omega | decide) (by first | omega | decide) dX1_row_72

set_option maxHeartbeats 4000000 in
set_option maxRecDepth 100000 in
theorem metX1_row_r2 (l : Launch) (G : GG) (h : Nat) (xa : Nat → Nat) (xi : Nat → Int32) (sh : Nat → Nat) (gm : GM) (dn : Nat) (n : Nat) (hv : Value) (hl9 : l.stackTraces = false) (hng : NG gm [(h, xO xa xi), (xa 8, qA G 5 8 (shf sh)), (sh dn, .inr (3, [hv]))]) (hdn : dn ≤ 7) (hn : n ≤ 100) : MWh l yX1_row cX1_row 5 (some .int) [((25 : Nat), (67 : Nat), (68 : Nat), (343 : Nat))] ({ frames := 2, cells := 1, slots := 100, locals := 43 }) [.ref h, .int (nI dn), .int 2, .int (nI n)] [(h, xO xa xi), (xa 8, qA G 5 8 (shf sh)), (sh dn, .inr (3, [hv]))] G (KE G gm) 1 100 (fun rv w1 => rv = 0 ∧ ∃ q : Nat, w1 = [(h, xO xa xi), (xa 8, qA G 5 8 (shf sh)), (sh dn, .inr (3, [.ref q])), (q, tA G 0 n (fun _ => 0))]) := by
  -- rows printed by wip/tools/gen.py
  refine mwh_mkg RX1 (by decide) rfl (Nat.le_of_ble_eq_true rfl) ?_
  intro p0_ e0_ s m args below meth c A C htab hA hAx hP hK hD ls hl
  have hZ : ZA A s := hK.2.2.of hP hAx
  have hM1 := hK.2.1
  have hK := hK.1
  have hGP := hK.2
  have hK := hK.1
  have hGA := GA.of hng hGP hAx
  have hx := C.1
  have hb := C.2.1
  have hml := C.2.2.2.2.1
  have hown := C.2.2.2.2.2.1
  have hts := C.2.2.2.2.2.2
  have hS : va_S A s.heap s.heap [] := va_S.rf
  have hl : lv_has ls 5 [(0, .ref h), (1, .int (nI dn)), (2, .int 2), (3, .int (nI n))] := hl
  have hs7 := sIn07 hdn
  have hq2 : sIn 2 0 2 = true := by decide
  refine lv_aload_n hx hb dX1_row_0 rfl (lv_at hl 0 rfl) ?_
  refine lv_iload_n hx hb dX1_row_1 rfl (lv_at hl 1 rfl) ?_
  refine c_V (rest := []) C (metX1_isShelf l G h xa xi (nI dn)) 1 (lw_V q166 q168 qs2 q39 q170) (by decide +kernel) ⟨rfl, rfl⟩ ⟨(Nat.le_of_ble_eq_true rfl), (Nat.le_of_ble_eq_true rfl)⟩ (KM_mv G) (va_recv hK.1 hP (ci := 1) (q0 := 0) rfl rfl) (hP.sub (ws' := [(h, xO xa xi)]) [0] rfl) hK.1 hl rfl rfl (Nat.le_of_ble_eq_true rfl) ⟨(Nat.le_of_ble_eq_true rfl), (Nat.le_of_ble_eq_true rfl)⟩ dX1_row_2 ?_
  refine n_if_eqB (b := (sIn (nI dn) 0 7)) (tgt := 23) hx hb dX1_row_5 (by decide) (fun c_1 => absurd c_1 (by simp [hs7])) (fun c_1 => ?_)
  refine lv_iload_n hx hb dX1_row_8 rfl (lv_at hl 2 rfl) ?_
  refine lv_iconst (v := 0) hx hb dX1_row_9 (by decide) ?_
  refine lv_iconst (v := 2) hx hb dX1_row_10 (by decide) ?_
  refine c_S (rest := []) C (metX1_isIn l G 2 0 2) 3 (lw_S q171 q172 q39 q173) (by decide +kernel) ⟨rfl, rfl⟩ ⟨(Nat.le_of_ble_eq_true rfl), (Nat.le_of_ble_eq_true rfl)⟩ (KM_mv G) (hP.sub (ws' := []) [] rfl) hK.1 hl rfl rfl (Nat.le_of_ble_eq_true rfl) ⟨(Nat.le_of_ble_eq_true rfl), (Nat.le_of_ble_eq_true rfl)⟩ dX1_row_11 ?_
  refine n_if_eqB (b := (sIn 2 0 2)) (tgt := 23) hx hb dX1_row_14 (by decide) (fun c_2 => absurd c_2 (by simp [hq2])) (fun c_2 => ?_)
  refine lv_iload_n hx hb dX1_row_17 rfl (lv_at hl 3 rfl) ?_
  refine lv_bipush (v := 100) hx hb dX1_row_18 (by decide) ?_
  refine n_ic_le (x := n) (y := 100) (tgt := 25) hx hb (by omega) (by omega) dX1_row_20 (by decide) (fun c_3 => ?_) (fun c_3 => absurd c_3 (by omega))
  refine lv_iload_n hx hb dX1_row_25 rfl (lv_at hl 2 rfl) ?_
  refine lv_if_ne (x := 2) (tgt := 37) hx hb dX1_row_26 (by decide) (fun c_4 => ?_) (fun c_4 => absurd c_4 (by decide))
  refine lv_iload_n hx hb dX1_row_37 rfl (lv_at hl 2 rfl) ?_
  refine lv_iconst (v := 1) hx hb dX1_row_38 (by decide) ?_
  refine lv_icmp_ne (x := 2) (y := 1) (tgt := 50) hx hb dX1_row_39 (by decide) (fun c_5 => ?_) (fun c_5 => absurd c_5 (by decide))
  refine lv_iload_n hx hb dX1_row_50 rfl (lv_at hl 3 rfl) ?_
  refine n_newi C hK.1 hP hD hS hA n (by omega) (by dsimp only; omega) (by dsimp only; omega) dX1_row_51 (fun qa_6 H hP hD hS => ?_)
  have hP : PP G [(h, xO xa xi), (xa 8, qA G 5 8 (shf sh)), (sh dn, .inr (3, [hv])), (qa_6, tA G 0 n (fun _ => 0))] H := hP
  have hD : va_D A [(h, xO xa xi), (xa 8, qA G 5 8 (shf sh)), (sh dn, .inr (3, [hv])), (qa_6, tA G 0 n (fun _ => 0))] := hD
  refine lv_astore (lv' := [(4, .ref qa_6), (0, .ref h), (1, .int (nI dn)), (2, .int 2), (3, .int (nI n))]) hx hb dX1_row_53 hl (Nat.le_of_ble_eq_true rfl) rfl (fun ls hl => ?_)
  refine lv_aload_n hx hb dX1_row_55 rfl (lv_at hl 1 rfl) ?_
  refine va_get (D := gD G) (ci := 1) (v := .ref (xa 8)) (C := RX1) (T := TX1) (N := 9) hx hb hts in_X1 hown hK.1 hP 0 rfl rfl 8 (by decide) (hts _ q846) (fun _ h9 => h9) rfl dX1_row_56 ?_
  refine lv_iload_n hx hb dX1_row_59 rfl (lv_at hl 2 rfl) ?_
  refine n_aldqS (y := sh dn) C hK.1 hP 1 5 dn rfl rfl (by omega) (by omega) rfl dX1_row_60 ?_
  refine lv_aload hx hb dX1_row_61 (lv_at hl 0 rfl) ?_
  refine va_put (D := gD G) (ci := 3) (v := .ref qa_6) (ty := (.object "java/lang/Object")) (C := RX3) (T := TX3) (N := 1) hx hb hts in_X3 tyX3 tyX3_ok nmX3 hown hK.1 hP hD hS 2 rfl rfl 0 (by decide) (hts _ q834) (fun _ h9 => h9) rfl (by decide +kernel) rfl rfl (Nat.le_of_ble_eq_true rfl) dX1_row_63 (fun H locs hP hD hS => ?_)
  have hP : PP G [(h, xO xa xi), (xa 8, qA G 5 8 (shf sh)), (sh dn, .inr (3, [.ref qa_6])), (qa_6, tA G 0 n (fun _ => 0))] H := hP
  have hD : va_D A [(h, xO xa xi), (xa 8, qA G 5 8 (shf sh)), (sh dn, .inr (3, [.ref qa_6])), (qa_6, tA G 0 n (fun _ => 0))] := hD
  refine lv_iconst (v := 0) hx hb dX1_row_66 (by decide) ?_
  exact n_iretW (v := 0) (w1 := [(h, xO xa xi), (xa 8, qA G 5 8 (shf sh)), (sh dn, .inr (3, [.ref qa_6])), (qa_6, tA G 0 n (fun _ => 0))]) C (⟨rfl, _, rfl⟩) hP hD hS (by first | omega | decide) (by first | omega | decide) dX1_row_67

set_option maxHeartbeats 4000000 in
set_option maxRecDepth 100000 in
theorem metX1_row_n2 (l : Launch) (G : GG) (h : Nat) (xa : Nat → Nat) (xi : Nat → Int32) (sh : Nat → Nat) (gm : GM) (dn : Nat) (n : Int32) (hl9 : l.stackTraces = false) (hng : NG gm [(h, xO xa xi)]) (hdn : dn ≤ 7) (hneg : n < 0) : MWh l yX1_row cX1_row 5 (some .int) [((25 : Nat), (67 : Nat), (68 : Nat), (343 : Nat))] ({ frames := 9, cells := 4, slots := 1100, locals := 10400 }) [.ref h, .int (nI dn), .int 2, .int n] [(h, xO xa xi)] G (KE G gm) 4 1100 (fun rv w1 => rv = -14 ∧ w1 = [(h, xO xa xi)]) := by
  -- rows printed by wip/tools/gen.py
  refine mwh_mkg RX1 (by decide) rfl (Nat.le_of_ble_eq_true rfl) ?_
  intro p0_ e0_ s m args below meth c A C htab hA hAx hP hK hD ls hl
  have hZ : ZA A s := hK.2.2.of hP hAx
  have hM1 := hK.2.1
  have hK := hK.1
  have hGP := hK.2
  have hK := hK.1
  have hGA := GA.of hng hGP hAx
  have hx := C.1
  have hb := C.2.1
  have hml := C.2.2.2.2.1
  have hown := C.2.2.2.2.2.1
  have hts := C.2.2.2.2.2.2
  have hS : va_S A s.heap s.heap [] := va_S.rf
  have hl : lv_has ls 5 [(0, .ref h), (1, .int (nI dn)), (2, .int 2), (3, .int n)] := hl
  have hs7 := sIn07 hdn
  have hq2 : sIn 2 0 2 = true := by decide
  have hn9 : n ≤ 100 := Int32.le_trans (Int32.le_of_lt hneg) (by decide)
  refine lv_aload_n hx hb dX1_row_0 rfl (lv_at hl 0 rfl) ?_
  refine lv_iload_n hx hb dX1_row_1 rfl (lv_at hl 1 rfl) ?_
  refine c_V (rest := []) C (metX1_isShelf l G h xa xi (nI dn)) 1 (lw_V q166 q168 qs2 q39 q170) (by decide +kernel) ⟨rfl, rfl⟩ ⟨(Nat.le_of_ble_eq_true rfl), (Nat.le_of_ble_eq_true rfl)⟩ (KM_mv G) (va_recv hK.1 hP (ci := 1) (q0 := 0) rfl rfl) hP hK.1 hl rfl rfl (Nat.le_of_ble_eq_true rfl) ⟨(Nat.le_of_ble_eq_true rfl), (Nat.le_of_ble_eq_true rfl)⟩ dX1_row_2 ?_
  refine n_if_eqB (b := (sIn (nI dn) 0 7)) (tgt := 23) hx hb dX1_row_5 (by decide) (fun c_1 => absurd c_1 (by simp [hs7])) (fun c_1 => ?_)
  refine lv_iload_n hx hb dX1_row_8 rfl (lv_at hl 2 rfl) ?_
  refine lv_iconst (v := 0) hx hb dX1_row_9 (by decide) ?_
  refine lv_iconst (v := 2) hx hb dX1_row_10 (by decide) ?_
  refine c_S (rest := []) C (metX1_isIn l G 2 0 2) 3 (lw_S q171 q172 q39 q173) (by decide +kernel) ⟨rfl, rfl⟩ ⟨(Nat.le_of_ble_eq_true rfl), (Nat.le_of_ble_eq_true rfl)⟩ (KM_mv G) (hP.sub (ws' := []) [] rfl) hK.1 hl rfl rfl (Nat.le_of_ble_eq_true rfl) ⟨(Nat.le_of_ble_eq_true rfl), (Nat.le_of_ble_eq_true rfl)⟩ dX1_row_11 ?_
  refine n_if_eqB (b := (sIn 2 0 2)) (tgt := 23) hx hb dX1_row_14 (by decide) (fun c_2 => absurd c_2 (by simp [hq2])) (fun c_2 => ?_)
  refine lv_iload_n hx hb dX1_row_17 rfl (lv_at hl 3 rfl) ?_
  refine lv_bipush (v := 100) hx hb dX1_row_18 (by decide) ?_
  refine lv_icmp_le (x := n) (y := 100) (tgt := 25) hx hb dX1_row_20 (by decide) (fun c_3 => ?_) (fun c_3 => absurd c_3 (fun z => z hn9))
  refine lv_iload_n hx hb dX1_row_25 rfl (lv_at hl 2 rfl) ?_
  refine lv_if_ne (x := 2) (tgt := 37) hx hb dX1_row_26 (by decide) (fun c_4 => ?_) (fun c_4 => absurd c_4 (by decide))
  refine lv_iload_n hx hb dX1_row_37 rfl (lv_at hl 2 rfl) ?_
  refine lv_iconst (v := 1) hx hb dX1_row_38 (by decide) ?_
  refine lv_icmp_ne (x := 2) (y := 1) (tgt := 50) hx hb dX1_row_39 (by decide) (fun c_5 => ?_) (fun c_5 => absurd c_5 (by decide))
  refine lv_iload_n hx hb dX1_row_50 rfl (lv_at hl 3 rfl) ?_
  refine vx_newarrayZ hx hb hneg dX1_row_51 (fun tx9 he9 => ?_)
  obtain ⟨ha9, hb9⟩ := neg_text hneg he9
  refine x_note C hl9 hK.2 hP (hGP.kept hGA hS) hS hZ E_nas eNAS_tbl e_in1.2.2.1 hl.1 ha9 hb9 ⟨Nat.le_of_ble_eq_true rfl, Nat.le_of_ble_eq_true rfl, Nat.le_of_ble_eq_true rfl, Nat.le_of_ble_eq_true rfl, Nat.le_of_ble_eq_true rfl⟩ (fun H q9 ce hP _ hS hce hcv hcl => ?_)
  refine x_catch (E := "java/lang/NegativeArraySizeException") (name := "java/lang/NegativeArraySizeException") C hK.2 htab [] ⟨25, 67, 68, 343⟩ [] rfl (fun _ h9 => nomatch h9) (by decide) (by decide) q874 (by decide +kernel) hce hcv hcl ?_
  refine lv_astore (lv' := [(4, .ref q9), (0, .ref h), (1, .int (nI dn)), (2, .int 2), (3, .int n)]) hx hb dX1_row_68 hl (Nat.le_of_ble_eq_true rfl) rfl (fun ls hl => ?_)
  refine lv_bipush (v := (-14)) hx hb dX1_row_70 (by decide) ?_
  exact n_iretW (v := (-14)) (w1 := [(h, xO xa xi)]) C (⟨rfl, rfl⟩) hP hD hS (by first | omega | decide) (by first | omega | decide) dX1_row_72

set_option maxHeartbeats 4000000 in
set_option maxRecDepth 100000 in
theorem metX1_put_b (l : Launch) (G : GG) (h : Nat) (xa : Nat → Nat) (xi : Nat → Int32) (sh : Nat → Nat) (gm : GM) (d i v : Int32) (hl9 : l.stackTraces = false) (hng : NG gm [(h, xO xa xi)]) (hbad : sIn d 0 7 = false) : MWh l yX1_put cX1_put 6 (some .int) [((29 : Nat), (78 : Nat), (79 : Nat), (144 : Nat)), ((29 : Nat), (78 : Nat), (84 : Nat), (345 : Nat))] ({ frames := 2, cells := 0, slots := 0, locals := 43 }) [.ref h, .int d, .int i, .int v] [(h, xO xa xi)] G (KE G gm) 0 0 (fun rv w1 => rv = -1 ∧ w1 = [(h, xO xa xi)]) := by
  -- rows printed by wip/tools/gen.py
  refine mwh_mkg RX1 (by decide) rfl (Nat.le_of_ble_eq_true rfl) ?_
  intro p0_ e0_ s m args below meth c A C htab hA hAx hP hK hD ls hl
  have hZ : ZA A s := hK.2.2.of hP hAx
  have hM1 := hK.2.1
  have hK := hK.1
  have hGP := hK.2
  have hK := hK.1
  have hGA := GA.of hng hGP hAx
  have hx := C.1
  have hb := C.2.1
  have hml := C.2.2.2.2.1
  have hown := C.2.2.2.2.2.1
  have hts := C.2.2.2.2.2.2
  have hS : va_S A s.heap s.heap [] := va_S.rf
  have hl : lv_has ls 6 [(0, .ref h), (1, .int d), (2, .int i), (3, .int v)] := hl
  refine lv_aload_n hx hb dX1_put_0 rfl (lv_at hl 0 rfl) ?_
  refine lv_iload_n hx hb dX1_put_1 rfl (lv_at hl 1 rfl) ?_
  refine c_V (rest := []) C (metX1_isShelf l G h xa xi d) 1 (lw_V q166 q168 qs2 q39 q170) (by decide +kernel) ⟨rfl, rfl⟩ ⟨(Nat.le_of_ble_eq_true rfl), (Nat.le_of_ble_eq_true rfl)⟩ (KM_mv G) (va_recv hK.1 hP (ci := 1) (q0 := 0) rfl rfl) hP hK.1 hl rfl rfl (Nat.le_of_ble_eq_true rfl) ⟨(Nat.le_of_ble_eq_true rfl), (Nat.le_of_ble_eq_true rfl)⟩ dX1_put_2 ?_
  refine n_if_neB (b := (sIn d 0 7)) (tgt := 10) hx hb dX1_put_5 (by decide) (fun c_1 => absurd c_1 (by simp [hbad])) (fun c_1 => ?_)
  refine lv_iconst (v := (-1)) hx hb dX1_put_8 (by decide) ?_
  exact n_iretW (v := (-1)) (w1 := [(h, xO xa xi)]) C (⟨rfl, rfl⟩) hP hD hS (by first | omega | decide) (by first | omega | decide) dX1_put_9

set_option maxHeartbeats 4000000 in
set_option maxRecDepth 100000 in
theorem metX1_put_n (l : Launch) (G : GG) (h : Nat) (xa : Nat → Nat) (xi : Nat → Int32) (sh : Nat → Nat) (gm : GM) (dn : Nat) (i v : Int32) (hl9 : l.stackTraces = false) (hng : NG gm [(h, xO xa xi), (xa 8, qA G 5 8 (shf sh)), (sh dn, .inr (3, [.null]))]) (hdn : dn ≤ 7) : MWh l yX1_put cX1_put 6 (some .int) [((29 : Nat), (78 : Nat), (79 : Nat), (144 : Nat)), ((29 : Nat), (78 : Nat), (84 : Nat), (345 : Nat))] ({ frames := 2, cells := 0, slots := 0, locals := 43 }) [.ref h, .int (nI dn), .int i, .int v] [(h, xO xa xi), (xa 8, qA G 5 8 (shf sh)), (sh dn, .inr (3, [.null]))] G (KE G gm) 0 0 (fun rv w1 => rv = -11 ∧ w1 = [(h, xO xa xi), (xa 8, qA G 5 8 (shf sh)), (sh dn, .inr (3, [.null]))]) := by
  -- rows printed by wip/tools/gen.py
  refine mwh_mkg RX1 (by decide) rfl (Nat.le_of_ble_eq_true rfl) ?_
  intro p0_ e0_ s m args below meth c A C htab hA hAx hP hK hD ls hl
  have hZ : ZA A s := hK.2.2.of hP hAx
  have hM1 := hK.2.1
  have hK := hK.1
  have hGP := hK.2
  have hK := hK.1
  have hGA := GA.of hng hGP hAx
  have hx := C.1
  have hb := C.2.1
  have hml := C.2.2.2.2.1
  have hown := C.2.2.2.2.2.1
  have hts := C.2.2.2.2.2.2
  have hS : va_S A s.heap s.heap [] := va_S.rf
  have hl : lv_has ls 6 [(0, .ref h), (1, .int (nI dn)), (2, .int i), (3, .int v)] := hl
  have hs7 := sIn07 hdn
  refine lv_aload_n hx hb dX1_put_0 rfl (lv_at hl 0 rfl) ?_
  refine lv_iload_n hx hb dX1_put_1 rfl (lv_at hl 1 rfl) ?_
  refine c_V (rest := []) C (metX1_isShelf l G h xa xi (nI dn)) 1 (lw_V q166 q168 qs2 q39 q170) (by decide +kernel) ⟨rfl, rfl⟩ ⟨(Nat.le_of_ble_eq_true rfl), (Nat.le_of_ble_eq_true rfl)⟩ (KM_mv G) (va_recv hK.1 hP (ci := 1) (q0 := 0) rfl rfl) (hP.sub (ws' := [(h, xO xa xi)]) [0] rfl) hK.1 hl rfl rfl (Nat.le_of_ble_eq_true rfl) ⟨(Nat.le_of_ble_eq_true rfl), (Nat.le_of_ble_eq_true rfl)⟩ dX1_put_2 ?_
  refine n_if_neB (b := (sIn (nI dn) 0 7)) (tgt := 10) hx hb dX1_put_5 (by decide) (fun c_1 => ?_) (fun c_1 => absurd c_1 (by simp [hs7]))
  refine lv_aload_n hx hb dX1_put_10 rfl (lv_at hl 0 rfl) ?_
  refine va_get (D := gD G) (ci := 1) (v := .ref (xa 8)) (C := RX1) (T := TX1) (N := 9) hx hb hts in_X1 hown hK.1 hP 0 rfl rfl 8 (by decide) (hts _ q846) (fun _ h9 => h9) rfl dX1_put_11 ?_
  refine lv_iload_n hx hb dX1_put_14 rfl (lv_at hl 1 rfl) ?_
  refine n_aldqS (y := sh dn) C hK.1 hP 1 5 dn rfl rfl (by omega) (by omega) rfl dX1_put_15 ?_
  refine va_get (D := gD G) (ci := 3) (v := .null) (C := RX3) (T := TX3) (N := 1) hx hb hts in_X3 hown hK.1 hP 2 rfl rfl 0 (by decide) (hts _ q834) (fun _ h9 => h9) rfl dX1_put_16 ?_
  refine lv_astoreN (lv' := [(4, .null), (0, .ref h), (1, .int (nI dn)), (2, .int i), (3, .int v)]) hx hb dX1_put_19 hl (Nat.le_of_ble_eq_true rfl) rfl (fun ls hl => ?_)
  refine lv_aloadN hx hb dX1_put_21 (lv_at hl 0 rfl) ?_
  refine lv_ifnonnullN hx hb dX1_put_23 ?_
  refine lv_bipush (v := (-11)) hx hb dX1_put_26 (by decide) ?_
  exact n_iretW (v := (-11)) (w1 := [(h, xO xa xi), (xa 8, qA G 5 8 (shf sh)), (sh dn, .inr (3, [.null]))]) C (⟨rfl, rfl⟩) hP hD hS (by first | omega | decide) (by first | omega | decide) dX1_put_28

set_option maxHeartbeats 4000000 in
set_option maxRecDepth 100000 in
theorem metX1_put_g (l : Launch) (G : GG) (h : Nat) (xa : Nat → Nat) (xi : Nat → Int32) (sh : Nat → Nat) (gm : GM) (dn : Nat) (i v : Int32) (y k : Nat) (f : Int32) (hl9 : l.stackTraces = false) (hng : NG gm [(h, xO xa xi), (xa 8, qA G 5 8 (shf sh)), (sh dn, .inr (3, [.ref y]))]) (hdn : dn ≤ 7) (hy : gm y = some (k, f)) : MWh l yX1_put cX1_put 6 (some .int) [((29 : Nat), (78 : Nat), (79 : Nat), (144 : Nat)), ((29 : Nat), (78 : Nat), (84 : Nat), (345 : Nat))] ({ frames := 9, cells := 4, slots := 1100, locals := 10400 }) [.ref h, .int (nI dn), .int i, .int v] [(h, xO xa xi), (xa 8, qA G 5 8 (shf sh)), (sh dn, .inr (3, [.ref y]))] G (KE G gm) 4 1100 (fun rv w1 => rv = -12 ∧ w1 = [(h, xO xa xi), (xa 8, qA G 5 8 (shf sh)), (sh dn, .inr (3, [.ref y]))]) := by
  -- rows printed by wip/tools/gen.py
  refine mwh_mkg RX1 (by decide) rfl (Nat.le_of_ble_eq_true rfl) ?_
  intro p0_ e0_ s m args below meth c A C htab hA hAx hP hK hD ls hl
  have hZ : ZA A s := hK.2.2.of hP hAx
  have hM1 := hK.2.1
  have hK := hK.1
  have hGP := hK.2
  have hK := hK.1
  have hGA := GA.of hng hGP hAx
  have hx := C.1
  have hb := C.2.1
  have hml := C.2.2.2.2.1
  have hown := C.2.2.2.2.2.1
  have hts := C.2.2.2.2.2.2
  have hS : va_S A s.heap s.heap [] := va_S.rf
  have hl : lv_has ls 6 [(0, .ref h), (1, .int (nI dn)), (2, .int i), (3, .int v)] := hl
  have hs7 := sIn07 hdn
  refine lv_aload_n hx hb dX1_put_0 rfl (lv_at hl 0 rfl) ?_
  refine lv_iload_n hx hb dX1_put_1 rfl (lv_at hl 1 rfl) ?_
  refine c_V (rest := []) C (metX1_isShelf l G h xa xi (nI dn)) 1 (lw_V q166 q168 qs2 q39 q170) (by decide +kernel) ⟨rfl, rfl⟩ ⟨(Nat.le_of_ble_eq_true rfl), (Nat.le_of_ble_eq_true rfl)⟩ (KM_mv G) (va_recv hK.1 hP (ci := 1) (q0 := 0) rfl rfl) (hP.sub (ws' := [(h, xO xa xi)]) [0] rfl) hK.1 hl rfl rfl (Nat.le_of_ble_eq_true rfl) ⟨(Nat.le_of_ble_eq_true rfl), (Nat.le_of_ble_eq_true rfl)⟩ dX1_put_2 ?_
  refine n_if_neB (b := (sIn (nI dn) 0 7)) (tgt := 10) hx hb dX1_put_5 (by decide) (fun c_1 => ?_) (fun c_1 => absurd c_1 (by simp [hs7]))
  refine lv_aload_n hx hb dX1_put_10 rfl (lv_at hl 0 rfl) ?_
  refine va_get (D := gD G) (ci := 1) (v := .ref (xa 8)) (C := RX1) (T := TX1) (N := 9) hx hb hts in_X1 hown hK.1 hP 0 rfl rfl 8 (by decide) (hts _ q846) (fun _ h9 => h9) rfl dX1_put_11 ?_
  refine lv_iload_n hx hb dX1_put_14 rfl (lv_at hl 1 rfl) ?_
  refine n_aldqS (y := sh dn) C hK.1 hP 1 5 dn rfl rfl (by omega) (by omega) rfl dX1_put_15 ?_
  refine va_get (D := gD G) (ci := 3) (v := .ref y) (C := RX3) (T := TX3) (N := 1) hx hb hts in_X3 hown hK.1 hP 2 rfl rfl 0 (by decide) (hts _ q834) (fun _ h9 => h9) rfl dX1_put_16 ?_
  refine lv_astore (lv' := [(4, .ref y), (0, .ref h), (1, .int (nI dn)), (2, .int i), (3, .int v)]) hx hb dX1_put_19 hl (Nat.le_of_ble_eq_true rfl) rfl (fun ls hl => ?_)
  refine lv_aload hx hb dX1_put_21 (lv_at hl 0 rfl) ?_
  refine lv_ifnonnull (tgt := 29) hx hb dX1_put_23 (by decide) ?_
  refine lv_aload hx hb dX1_put_29 (lv_at hl 0 rfl) ?_
  refine n_instG C hK (hGP.kept hGA hS) hy ((gnm_xn _ ((hGP.kept hGA hS) _ _ _ hy).1).1) q174 dX1_put_31 ?_
  refine lv_if_eq (x := 0) (tgt := 49) hx hb dX1_put_34 (by decide) (fun c_2 => ?_) (fun c_2 => absurd c_2 (by decide))
  refine lv_aload hx hb dX1_put_49 (lv_at hl 0 rfl) ?_
  refine n_instG C hK (hGP.kept hGA hS) hy ((gnm_xn _ ((hGP.kept hGA hS) _ _ _ hy).1).2.1) q674 dX1_put_51 ?_
  refine lv_if_eq (x := 0) (tgt := 69) hx hb dX1_put_54 (by decide) (fun c_3 => ?_) (fun c_3 => absurd c_3 (by decide))
  refine lv_aload hx hb dX1_put_69 (lv_at hl 0 rfl) ?_
  refine n_castXG C hM1 hK (hGP.kept hGA hS) hy ((gnm_xn _ ((hGP.kept hGA hS) _ _ _ hy).1).2.2) arr_cc.2.2.1 q675 dX1_put_71 (fun tx9 ha9 hb9 => ?_)
  refine x_note C hl9 hK.2 hP (hGP.kept hGA hS) hS hZ E_cce eCCE_tbl e_in1.1 hl.1 ha9 hb9 ⟨Nat.le_of_ble_eq_true rfl, Nat.le_of_ble_eq_true rfl, Nat.le_of_ble_eq_true rfl, Nat.le_of_ble_eq_true rfl, Nat.le_of_ble_eq_true rfl⟩ (fun H q9 ce hP _ hS hce hcv hcl => ?_)
  refine x_catch (E := "java/lang/ClassCastException") (name := "java/lang/ClassCastException") C hK.2 htab [] ⟨29, 78, 79, 144⟩ [⟨29, 78, 84, 345⟩] rfl (fun _ h9 => nomatch h9) (by decide) (by decide) q74 (by decide +kernel) hce hcv hcl ?_
  refine lv_astore (lv' := [(5, .ref q9), (4, .ref y), (0, .ref h), (1, .int (nI dn)), (2, .int i), (3, .int v)]) hx hb dX1_put_79 hl (Nat.le_of_ble_eq_true rfl) rfl (fun ls hl => ?_)
  refine lv_bipush (v := (-12)) hx hb dX1_put_81 (by decide) ?_
  exact n_iretW (v := (-12)) (w1 := [(h, xO xa xi), (xa 8, qA G 5 8 (shf sh)), (sh dn, .inr (3, [.ref y]))]) C (⟨rfl, rfl⟩) hP hD hS (by first | omega | decide) (by first | omega | decide) dX1_put_83

set_option maxHeartbeats 4000000 in
set_option maxRecDepth 100000 in
theorem metX1_put_r0 (l : Launch) (G : GG) (h : Nat) (xa : Nat → Nat) (xi : Nat → Int32) (sh : Nat → Nat) (gm : GM) (dn : Nat) (ra z8 : Nat) (rf : Nat → Int32) (j : Nat) (v : Int32) (hl9 : l.stackTraces = false) (hng : NG gm [(h, xO xa xi), (xa 8, qA G 5 8 (shf sh)), (sh dn, .inr (3, [.ref ra])), (ra, tA G 0 z8 rf)]) (hdn : dn ≤ 7) (hz8 : z8 ≤ 100) (hj : j < z8) : MWh l yX1_put cX1_put 6 (some .int) [((29 : Nat), (78 : Nat), (79 : Nat), (144 : Nat)), ((29 : Nat), (78 : Nat), (84 : Nat), (345 : Nat))] ({ frames := 2, cells := 0, slots := 0, locals := 43 }) [.ref h, .int (nI dn), .int (nI j), .int v] [(h, xO xa xi), (xa 8, qA G 5 8 (shf sh)), (sh dn, .inr (3, [.ref ra])), (ra, tA G 0 z8 rf)] G (KE G gm) 0 0 (fun rv w1 => rv = 0 ∧ w1 = [(h, xO xa xi), (xa 8, qA G 5 8 (shf sh)), (sh dn, .inr (3, [.ref ra])), (ra, tA G 0 z8 (upd rf j (v)))]) := by
  -- rows printed by wip/tools/gen.py
  refine mwh_mkg RX1 (by decide) rfl (Nat.le_of_ble_eq_true rfl) ?_
  intro p0_ e0_ s m args below meth c A C htab hA hAx hP hK hD ls hl
  have hZ : ZA A s := hK.2.2.of hP hAx
  have hM1 := hK.2.1
  have hK := hK.1
  have hGP := hK.2
  have hK := hK.1
  have hGA := GA.of hng hGP hAx
  have hx := C.1
  have hb := C.2.1
  have hml := C.2.2.2.2.1
  have hown := C.2.2.2.2.2.1
  have hts := C.2.2.2.2.2.2
  have hS : va_S A s.heap s.heap [] := va_S.rf
  have hl : lv_has ls 6 [(0, .ref h), (1, .int (nI dn)), (2, .int (nI j)), (3, .int v)] := hl
  have hs7 := sIn07 hdn
  refine lv_aload_n hx hb dX1_put_0 rfl (lv_at hl 0 rfl) ?_
  refine lv_iload_n hx hb dX1_put_1 rfl (lv_at hl 1 rfl) ?_
  refine c_V (rest := []) C (metX1_isShelf l G h xa xi (nI dn)) 1 (lw_V q166 q168 qs2 q39 q170) (by decide +kernel) ⟨rfl, rfl⟩ ⟨(Nat.le_of_ble_eq_true rfl), (Nat.le_of_ble_eq_true rfl)⟩ (KM_mv G) (va_recv hK.1 hP (ci := 1) (q0 := 0) rfl rfl) (hP.sub (ws' := [(h, xO xa xi)]) [0] rfl) hK.1 hl rfl rfl (Nat.le_of_ble_eq_true rfl) ⟨(Nat.le_of_ble_eq_true rfl), (Nat.le_of_ble_eq_true rfl)⟩ dX1_put_2 ?_
  refine n_if_neB (b := (sIn (nI dn) 0 7)) (tgt := 10) hx hb dX1_put_5 (by decide) (fun c_1 => ?_) (fun c_1 => absurd c_1 (by simp [hs7]))
  refine lv_aload_n hx hb dX1_put_10 rfl (lv_at hl 0 rfl) ?_
  refine va_get (D := gD G) (ci := 1) (v := .ref (xa 8)) (C := RX1) (T := TX1) (N := 9) hx hb hts in_X1 hown hK.1 hP 0 rfl rfl 8 (by decide) (hts _ q846) (fun _ h9 => h9) rfl dX1_put_11 ?_
  refine lv_iload_n hx hb dX1_put_14 rfl (lv_at hl 1 rfl) ?_
  refine n_aldqS (y := sh dn) C hK.1 hP 1 5 dn rfl rfl (by omega) (by omega) rfl dX1_put_15 ?_
  refine va_get (D := gD G) (ci := 3) (v := .ref ra) (C := RX3) (T := TX3) (N := 1) hx hb hts in_X3 hown hK.1 hP 2 rfl rfl 0 (by decide) (hts _ q834) (fun _ h9 => h9) rfl dX1_put_16 ?_
  refine lv_astore (lv' := [(4, .ref ra), (0, .ref h), (1, .int (nI dn)), (2, .int (nI j)), (3, .int v)]) hx hb dX1_put_19 hl (Nat.le_of_ble_eq_true rfl) rfl (fun ls hl => ?_)
  refine lv_aload hx hb dX1_put_21 (lv_at hl 0 rfl) ?_
  refine lv_ifnonnull (tgt := 29) hx hb dX1_put_23 (by decide) ?_
  refine lv_aload hx hb dX1_put_29 (lv_at hl 0 rfl) ?_
  refine n_instF (q0 := 3) (n2 := "[I") C hK.2 hP rfl (nmA0 hK.1) (by decide +kernel) q174 dX1_put_31 ?_
  refine lv_if_eq (x := 0) (tgt := 49) hx hb dX1_put_34 (by decide) (fun c_2 => ?_) (fun c_2 => absurd c_2 (by decide))
  refine lv_aload hx hb dX1_put_49 (lv_at hl 0 rfl) ?_
  refine n_instF (q0 := 3) (n2 := "[I") C hK.2 hP rfl (nmA0 hK.1) (by decide +kernel) q674 dX1_put_51 ?_
  refine lv_if_eq (x := 0) (tgt := 69) hx hb dX1_put_54 (by decide) (fun c_3 => ?_) (fun c_3 => absurd c_3 (by decide))
  refine lv_aload hx hb dX1_put_69 (lv_at hl 0 rfl) ?_
  refine n_castT (q0 := 3) C hP rfl (nmA0 hK.1) q675 dX1_put_71 ?_
  refine lv_iload_n hx hb dX1_put_74 rfl (lv_at hl 3 rfl) ?_
  refine lv_iload_n hx hb dX1_put_75 rfl (lv_at hl 4 rfl) ?_
  refine n_iast (x := v) C hK.1 hP hD hS 3 j rfl (by omega) (by omega) dX1_put_76 (fun H locs hP hD hS => ?_)
  have hP : PP G [(h, xO xa xi), (xa 8, qA G 5 8 (shf sh)), (sh dn, .inr (3, [.ref ra])), (ra, tA G 0 z8 (upd rf j v))] H := hP
  have hD : va_D A [(h, xO xa xi), (xa 8, qA G 5 8 (shf sh)), (sh dn, .inr (3, [.ref ra])), (ra, tA G 0 z8 (upd rf j v))] := hD
  refine lv_iconst (v := 0) hx hb dX1_put_77 (by decide) ?_
  exact n_iretW (v := 0) (w1 := [(h, xO xa xi), (xa 8, qA G 5 8 (shf sh)), (sh dn, .inr (3, [.ref ra])), (ra, tA G 0 z8 (upd rf j v))]) C (⟨rfl, rfl⟩) hP hD hS (by first | omega | decide) (by first | omega | decide) dX1_put_78

set_option maxHeartbeats 4000000 in
set_option maxRecDepth 100000 in
theorem metX1_put_o0 (l : Launch) (G : GG) (h : Nat) (xa : Nat → Nat) (xi : Nat → Int32) (sh : Nat → Nat) (gm : GM) (dn : Nat) (ra z8 : Nat) (rf : Nat → Int32) (i v : Int32) (hl9 : l.stackTraces = false) (hng : NG gm [(h, xO xa xi), (xa 8, qA G 5 8 (shf sh)), (sh dn, .inr (3, [.ref ra])), (ra, tA G 0 z8 rf)]) (hdn : dn ≤ 7) (hz8 : z8 ≤ 100) (hout : ¬ vp_in i z8) : MWh l yX1_put cX1_put 6 (some .int) [((29 : Nat), (78 : Nat), (79 : Nat), (144 : Nat)), ((29 : Nat), (78 : Nat), (84 : Nat), (345 : Nat))] ({ frames := 9, cells := 4, slots := 1100, locals := 10400 }) [.ref h, .int (nI dn), .int i, .int v] [(h, xO xa xi), (xa 8, qA G 5 8 (shf sh)), (sh dn, .inr (3, [.ref ra])), (ra, tA G 0 z8 rf)] G (KE G gm) 4 1100 (fun rv w1 => rv = -13 ∧ w1 = [(h, xO xa xi), (xa 8, qA G 5 8 (shf sh)), (sh dn, .inr (3, [.ref ra])), (ra, tA G 0 z8 rf)]) := by
  -- rows printed by wip/tools/gen.py
  refine mwh_mkg RX1 (by decide) rfl (Nat.le_of_ble_eq_true rfl) ?_
  intro p0_ e0_ s m args below meth c A C htab hA hAx hP hK hD ls hl
  have hZ : ZA A s := hK.2.2.of hP hAx
  have hM1 := hK.2.1
  have hK := hK.1
  have hGP := hK.2
  have hK := hK.1
  have hGA := GA.of hng hGP hAx
  have hx := C.1
  have hb := C.2.1
  have hml := C.2.2.2.2.1
  have hown := C.2.2.2.2.2.1
  have hts := C.2.2.2.2.2.2
  have hS : va_S A s.heap s.heap [] := va_S.rf
  have hl : lv_has ls 6 [(0, .ref h), (1, .int (nI dn)), (2, .int i), (3, .int v)] := hl
  have hs7 := sIn07 hdn
  refine lv_aload_n hx hb dX1_put_0 rfl (lv_at hl 0 rfl) ?_
  refine lv_iload_n hx hb dX1_put_1 rfl (lv_at hl 1 rfl) ?_
  refine c_V (rest := []) C (metX1_isShelf l G h xa xi (nI dn)) 1 (lw_V q166 q168 qs2 q39 q170) (by decide +kernel) ⟨rfl, rfl⟩ ⟨(Nat.le_of_ble_eq_true rfl), (Nat.le_of_ble_eq_true rfl)⟩ (KM_mv G) (va_recv hK.1 hP (ci := 1) (q0 := 0) rfl rfl) (hP.sub (ws' := [(h, xO xa xi)]) [0] rfl) hK.1 hl rfl rfl (Nat.le_of_ble_eq_true rfl) ⟨(Nat.le_of_ble_eq_true rfl), (Nat.le_of_ble_eq_true rfl)⟩ dX1_put_2 ?_
  refine n_if_neB (b := (sIn (nI dn) 0 7)) (tgt := 10) hx hb dX1_put_5 (by decide) (fun c_1 => ?_) (fun c_1 => absurd c_1 (by simp [hs7]))
  refine lv_aload_n hx hb dX1_put_10 rfl (lv_at hl 0 rfl) ?_
  refine va_get (D := gD G) (ci := 1) (v := .ref (xa 8)) (C := RX1) (T := TX1) (N := 9) hx hb hts in_X1 hown hK.1 hP 0 rfl rfl 8 (by decide) (hts _ q846) (fun _ h9 => h9) rfl dX1_put_11 ?_
  refine lv_iload_n hx hb dX1_put_14 rfl (lv_at hl 1 rfl) ?_
  refine n_aldqS (y := sh dn) C hK.1 hP 1 5 dn rfl rfl (by omega) (by omega) rfl dX1_put_15 ?_
  refine va_get (D := gD G) (ci := 3) (v := .ref ra) (C := RX3) (T := TX3) (N := 1) hx hb hts in_X3 hown hK.1 hP 2 rfl rfl 0 (by decide) (hts _ q834) (fun _ h9 => h9) rfl dX1_put_16 ?_
  refine lv_astore (lv' := [(4, .ref ra), (0, .ref h), (1, .int (nI dn)), (2, .int i), (3, .int v)]) hx hb dX1_put_19 hl (Nat.le_of_ble_eq_true rfl) rfl (fun ls hl => ?_)
  refine lv_aload hx hb dX1_put_21 (lv_at hl 0 rfl) ?_
  refine lv_ifnonnull (tgt := 29) hx hb dX1_put_23 (by decide) ?_
  refine lv_aload hx hb dX1_put_29 (lv_at hl 0 rfl) ?_
  refine n_instF (q0 := 3) (n2 := "[I") C hK.2 hP rfl (nmA0 hK.1) (by decide +kernel) q174 dX1_put_31 ?_
  refine lv_if_eq (x := 0) (tgt := 49) hx hb dX1_put_34 (by decide) (fun c_2 => ?_) (fun c_2 => absurd c_2 (by decide))
  refine lv_aload hx hb dX1_put_49 (lv_at hl 0 rfl) ?_
  refine n_instF (q0 := 3) (n2 := "[I") C hK.2 hP rfl (nmA0 hK.1) (by decide +kernel) q674 dX1_put_51 ?_
  refine lv_if_eq (x := 0) (tgt := 69) hx hb dX1_put_54 (by decide) (fun c_3 => ?_) (fun c_3 => absurd c_3 (by decide))
  refine lv_aload hx hb dX1_put_69 (lv_at hl 0 rfl) ?_
  refine n_castT (q0 := 3) C hP rfl (nmA0 hK.1) q675 dX1_put_71 ?_
  refine lv_iload_n hx hb dX1_put_74 rfl (lv_at hl 3 rfl) ?_
  refine lv_iload_n hx hb dX1_put_75 rfl (lv_at hl 4 rfl) ?_
  refine vx_iastZ C.1 C.2.1 hK.1 hP 3 0 rfl rfl hout dX1_put_76 (fun tx9 he9 => ?_)
  obtain ⟨ha9, hb9⟩ := idx_text (by omega) he9
  refine x_note C hl9 hK.2 hP (hGP.kept hGA hS) hS hZ E_aio eAIO_tbl e_in1.2.1 hl.1 ha9 hb9 ⟨Nat.le_of_ble_eq_true rfl, Nat.le_of_ble_eq_true rfl, Nat.le_of_ble_eq_true rfl, Nat.le_of_ble_eq_true rfl, Nat.le_of_ble_eq_true rfl⟩ (fun H q9 ce hP _ hS hce hcv hcl => ?_)
  refine x_catch (E := "java/lang/ArrayIndexOutOfBoundsException") (name := "java/lang/ArrayIndexOutOfBoundsException") C hK.2 htab [⟨29, 78, 79, 144⟩] ⟨29, 78, 84, 345⟩ [] rfl (fun z h9 => by simp only [List.mem_cons, List.not_mem_nil, or_false] at h9; rcases h9 with rfl <;> first | exact Or.inl (by decide) | exact Or.inr ⟨by decide, _, q74, by decide +kernel⟩) (by decide) (by decide) q893 (by decide +kernel) hce hcv hcl ?_
  refine lv_astore (lv' := [(5, .ref q9), (4, .ref ra), (0, .ref h), (1, .int (nI dn)), (2, .int i), (3, .int v)]) hx hb dX1_put_84 hl (Nat.le_of_ble_eq_true rfl) rfl (fun ls hl => ?_)
  refine lv_bipush (v := (-13)) hx hb dX1_put_86 (by decide) ?_
  exact n_iretW (v := (-13)) (w1 := [(h, xO xa xi), (xa 8, qA G 5 8 (shf sh)), (sh dn, .inr (3, [.ref ra])), (ra, tA G 0 z8 rf)]) C (⟨rfl, rfl⟩) hP hD hS (by first | omega | decide) (by first | omega | decide) dX1_put_88

set_option maxHeartbeats 4000000 in
set_option maxRecDepth 100000 in
theorem metX1_put_r1 (l : Launch) (G : GG) (h : Nat) (xa : Nat → Nat) (xi : Nat → Int32) (sh : Nat → Nat) (gm : GM) (dn : Nat) (ra z8 : Nat) (rf : Nat → Int32) (j : Nat) (v : Int32) (hl9 : l.stackTraces = false) (hng : NG gm [(h, xO xa xi), (xa 8, qA G 5 8 (shf sh)), (sh dn, .inr (3, [.ref ra])), (ra, tA G 1 z8 rf)]) (hdn : dn ≤ 7) (hz8 : z8 ≤ 100) (hj : j < z8) : MWh l yX1_put cX1_put 6 (some .int) [((29 : Nat), (78 : Nat), (79 : Nat), (144 : Nat)), ((29 : Nat), (78 : Nat), (84 : Nat), (345 : Nat))] ({ frames := 2, cells := 0, slots := 0, locals := 43 }) [.ref h, .int (nI dn), .int (nI j), .int v] [(h, xO xa xi), (xa 8, qA G 5 8 (shf sh)), (sh dn, .inr (3, [.ref ra])), (ra, tA G 1 z8 rf)] G (KE G gm) 0 0 (fun rv w1 => rv = 0 ∧ w1 = [(h, xO xa xi), (xa 8, qA G 5 8 (shf sh)), (sh dn, .inr (3, [.ref ra])), (ra, tA G 1 z8 (upd rf j (vp_nar .byte v.toInt8.toInt32)))]) := by
  -- rows printed by wip/tools/gen.py
  refine mwh_mkg RX1 (by decide) rfl (Nat.le_of_ble_eq_true rfl) ?_
  intro p0_ e0_ s m args below meth c A C htab hA hAx hP hK hD ls hl
  have hZ : ZA A s := hK.2.2.of hP hAx
  have hM1 := hK.2.1
  have hK := hK.1
  have hGP := hK.2
  have hK := hK.1
  have hGA := GA.of hng hGP hAx
  have hx := C.1
  have hb := C.2.1
  have hml := C.2.2.2.2.1
  have hown := C.2.2.2.2.2.1
  have hts := C.2.2.2.2.2.2
  have hS : va_S A s.heap s.heap [] := va_S.rf
  have hl : lv_has ls 6 [(0, .ref h), (1, .int (nI dn)), (2, .int (nI j)), (3, .int v)] := hl
  have hs7 := sIn07 hdn
  refine lv_aload_n hx hb dX1_put_0 rfl (lv_at hl 0 rfl) ?_
  refine lv_iload_n hx hb dX1_put_1 rfl (lv_at hl 1 rfl) ?_
  refine c_V (rest := []) C (metX1_isShelf l G h xa xi (nI dn)) 1 (lw_V q166 q168 qs2 q39 q170) (by decide +kernel) ⟨rfl, rfl⟩ ⟨(Nat.le_of_ble_eq_true rfl), (Nat.le_of_ble_eq_true rfl)⟩ (KM_mv G) (va_recv hK.1 hP (ci := 1) (q0 := 0) rfl rfl) (hP.sub (ws' := [(h, xO xa xi)]) [0] rfl) hK.1 hl rfl rfl (Nat.le_of_ble_eq_true rfl) ⟨(Nat.le_of_ble_eq_true rfl), (Nat.le_of_ble_eq_true rfl)⟩ dX1_put_2 ?_
  refine n_if_neB (b := (sIn (nI dn) 0 7)) (tgt := 10) hx hb dX1_put_5 (by decide) (fun c_1 => ?_) (fun c_1 => absurd c_1 (by simp [hs7]))
  refine lv_aload_n hx hb dX1_put_10 rfl (lv_at hl 0 rfl) ?_
  refine va_get (D := gD G) (ci := 1) (v := .ref (xa 8)) (C := RX1) (T := TX1) (N := 9) hx hb hts in_X1 hown hK.1 hP 0 rfl rfl 8 (by decide) (hts _ q846) (fun _ h9 => h9) rfl dX1_put_11 ?_
  refine lv_iload_n hx hb dX1_put_14 rfl (lv_at hl 1 rfl) ?_
  refine n_aldqS (y := sh dn) C hK.1 hP 1 5 dn rfl rfl (by omega) (by omega) rfl dX1_put_15 ?_
  refine va_get (D := gD G) (ci := 3) (v := .ref ra) (C := RX3) (T := TX3) (N := 1) hx hb hts in_X3 hown hK.1 hP 2 rfl rfl 0 (by decide) (hts _ q834) (fun _ h9 => h9) rfl dX1_put_16 ?_
  refine lv_astore (lv' := [(4, .ref ra), (0, .ref h), (1, .int (nI dn)), (2, .int (nI j)), (3, .int v)]) hx hb dX1_put_19 hl (Nat.le_of_ble_eq_true rfl) rfl (fun ls hl => ?_)
  refine lv_aload hx hb dX1_put_21 (lv_at hl 0 rfl) ?_
  refine lv_ifnonnull (tgt := 29) hx hb dX1_put_23 (by decide) ?_
  refine lv_aload hx hb dX1_put_29 (lv_at hl 0 rfl) ?_
  refine n_instT (q0 := 3) C hP rfl (nmA1 hK.1) q174 dX1_put_31 ?_
  refine lv_if_eq (x := 1) (tgt := 49) hx hb dX1_put_34 (by decide) (fun c_2 => absurd c_2 (by decide)) (fun c_2 => ?_)
  refine lv_aload hx hb dX1_put_37 (lv_at hl 0 rfl) ?_
  refine n_castT (q0 := 3) C hP rfl (nmA1 hK.1) q174 dX1_put_39 ?_
  refine lv_iload_n hx hb dX1_put_42 rfl (lv_at hl 3 rfl) ?_
  refine lv_iload_n hx hb dX1_put_43 rfl (lv_at hl 4 rfl) ?_
  refine lv_i2b (x := v) (v := v.toInt8.toInt32) hx hb dX1_put_44 rfl ?_
  refine n_bast (x := v.toInt8.toInt32) C hK.1 hP hD hS 3 j rfl (by omega) (by omega) dX1_put_45 (fun H locs hP hD hS => ?_)
  have hP : PP G [(h, xO xa xi), (xa 8, qA G 5 8 (shf sh)), (sh dn, .inr (3, [.ref ra])), (ra, tA G 1 z8 (upd rf j (vp_nar .byte v.toInt8.toInt32)))] H := hP
  have hD : va_D A [(h, xO xa xi), (xa 8, qA G 5 8 (shf sh)), (sh dn, .inr (3, [.ref ra])), (ra, tA G 1 z8 (upd rf j (vp_nar .byte v.toInt8.toInt32)))] := hD
  refine lv_goto (tgt := 77) hx hb dX1_put_46 (by decide) ?_
  refine lv_iconst (v := 0) hx hb dX1_put_77 (by decide) ?_
  exact n_iretW (v := 0) (w1 := [(h, xO xa xi), (xa 8, qA G 5 8 (shf sh)), (sh dn, .inr (3, [.ref ra])), (ra, tA G 1 z8 (upd rf j (vp_nar .byte v.toInt8.toInt32)))]) C (⟨rfl, rfl⟩) hP hD hS (by first | omega | decide) (by first | omega | decide) dX1_put_78

set_option maxHeartbeats 4000000 in
set_option maxRecDepth 100000 in
theorem metX1_put_o1 (l : Launch) (G : GG) (h : Nat) (xa : Nat → Nat) (xi : Nat → Int32) (sh : Nat → Nat) (gm : GM) (dn : Nat) (ra z8 : Nat) (rf : Nat → Int32) (i v : Int32) (hl9 : l.stackTraces = false) (hng : NG gm [(h, xO xa xi), (xa 8, qA G 5 8 (shf sh)), (sh dn, .inr (3, [.ref ra])), (ra, tA G 1 z8 rf)]) (hdn : dn ≤ 7) (hz8 : z8 ≤ 100) (hout : ¬ vp_in i z8) : MWh l yX1_put cX1_put 6 (some .int) [((29 : Nat), (78 : Nat), (79 : Nat), (144 : Nat)), ((29 : Nat), (78 : Nat), (84 : Nat), (345 : Nat))] ({ frames := 9, cells := 4, slots := 1100, locals := 10400 }) [.ref h, .int (nI dn), .int i, .int v] [(h, xO xa xi), (xa 8, qA G 5 8 (shf sh)), (sh dn, .inr (3, [.ref ra])), (ra, tA G 1 z8 rf)] G (KE G gm) 4 1100 (fun rv w1 => rv = -13 ∧ w1 = [(h, xO xa xi), (xa 8, qA G 5 8 (shf sh)), (sh dn, .inr (3, [.ref ra])), (ra, tA G 1 z8 rf)]) := by
  -- rows printed by wip/tools/gen.py
  refine mwh_mkg RX1 (by decide) rfl (Nat.le_of_ble_eq_true rfl) ?_
  intro p0_ e0_ s m args below meth c A C htab hA hAx hP hK hD ls hl
  have hZ : ZA A s := hK.2.2.of hP hAx
  have hM1 := hK.2.1
  have hK := hK.1
  have hGP := hK.2
  have hK := hK.1
  have hGA := GA.of hng hGP hAx
  have hx := C.1
  have hb := C.2.1
  have hml := C.2.2.2.2.1
  have hown := C.2.2.2.2.2.1
  have hts := C.2.2.2.2.2.2
  have hS : va_S A s.heap s.heap [] := va_S.rf
  have hl : lv_has ls 6 [(0, .ref h), (1, .int (nI dn)), (2, .int i), (3, .int v)] := hl
  have hs7 := sIn07 hdn
  refine lv_aload_n hx hb dX1_put_0 rfl (lv_at hl 0 rfl) ?_
  refine lv_iload_n hx hb dX1_put_1 rfl (lv_at hl 1 rfl) ?_
  refine c_V (rest := []) C (metX1_isShelf l G h xa xi (nI dn)) 1 (lw_V q166 q168 qs2 q39 q170) (by decide +kernel) ⟨rfl, rfl⟩ ⟨(Nat.le_of_ble_eq_true rfl), (Nat.le_of_ble_eq_true rfl)⟩ (KM_mv G) (va_recv hK.1 hP (ci := 1) (q0 := 0) rfl rfl) (hP.sub (ws' := [(h, xO xa xi)]) [0] rfl) hK.1 hl rfl rfl (Nat.le_of_ble_eq_true rfl) ⟨(Nat.le_of_ble_eq_true rfl), (Nat.le_of_ble_eq_true rfl)⟩ dX1_put_2 ?_
  refine n_if_neB (b := (sIn (nI dn) 0 7)) (tgt := 10) hx hb dX1_put_5 (by decide) (fun c_1 => ?_) (fun c_1 => absurd c_1 (by simp [hs7]))
  refine lv_aload_n hx hb dX1_put_10 rfl (lv_at hl 0 rfl) ?_
  refine va_get (D := gD G) (ci := 1) (v := .ref (xa 8)) (C := RX1) (T := TX1) (N := 9) hx hb hts in_X1 hown hK.1 hP 0 rfl rfl 8 (by decide) (hts _ q846) (fun _ h9 => h9) rfl dX1_put_11 ?_
  refine lv_iload_n hx hb dX1_put_14 rfl (lv_at hl 1 rfl) ?_
  refine n_aldqS (y := sh dn) C hK.1 hP 1 5 dn rfl rfl (by omega) (by omega) rfl dX1_put_15 ?_
  refine va_get (D := gD G) (ci := 3) (v := .ref ra) (C := RX3) (T := TX3) (N := 1) hx hb hts in_X3 hown hK.1 hP 2 rfl rfl 0 (by decide) (hts _ q834) (fun _ h9 => h9) rfl dX1_put_16 ?_
  refine lv_astore (lv' := [(4, .ref ra), (0, .ref h), (1, .int (nI dn)), (2, .int i), (3, .int v)]) hx hb dX1_put_19 hl (Nat.le_of_ble_eq_true rfl) rfl (fun ls hl => ?_)
  refine lv_aload hx hb dX1_put_21 (lv_at hl 0 rfl) ?_
  refine lv_ifnonnull (tgt := 29) hx hb dX1_put_23 (by decide) ?_
  refine lv_aload hx hb dX1_put_29 (lv_at hl 0 rfl) ?_
  refine n_instT (q0 := 3) C hP rfl (nmA1 hK.1) q174 dX1_put_31 ?_
  refine lv_if_eq (x := 1) (tgt := 49) hx hb dX1_put_34 (by decide) (fun c_2 => absurd c_2 (by decide)) (fun c_2 => ?_)
  refine lv_aload hx hb dX1_put_37 (lv_at hl 0 rfl) ?_
  refine n_castT (q0 := 3) C hP rfl (nmA1 hK.1) q174 dX1_put_39 ?_
  refine lv_iload_n hx hb dX1_put_42 rfl (lv_at hl 3 rfl) ?_
  refine lv_iload_n hx hb dX1_put_43 rfl (lv_at hl 4 rfl) ?_
  refine lv_i2b (x := v) (v := v.toInt8.toInt32) hx hb dX1_put_44 rfl ?_
  refine vx_bastZ C.1 C.2.1 hK.1 hP 3 1 rfl rfl hout dX1_put_45 (fun tx9 he9 => ?_)
  obtain ⟨ha9, hb9⟩ := idx_text (by omega) he9
  refine x_note C hl9 hK.2 hP (hGP.kept hGA hS) hS hZ E_aio eAIO_tbl e_in1.2.1 hl.1 ha9 hb9 ⟨Nat.le_of_ble_eq_true rfl, Nat.le_of_ble_eq_true rfl, Nat.le_of_ble_eq_true rfl, Nat.le_of_ble_eq_true rfl, Nat.le_of_ble_eq_true rfl⟩ (fun H q9 ce hP _ hS hce hcv hcl => ?_)
  refine x_catch (E := "java/lang/ArrayIndexOutOfBoundsException") (name := "java/lang/ArrayIndexOutOfBoundsException") C hK.2 htab [⟨29, 78, 79, 144⟩] ⟨29, 78, 84, 345⟩ [] rfl (fun z h9 => by simp only [List.mem_cons, List.not_mem_nil, or_false] at h9; rcases h9 with rfl <;> first | exact Or.inl (by decide) | exact Or.inr ⟨by decide, _, q74, by decide +kernel⟩) (by decide) (by decide) q893 (by decide +kernel) hce hcv hcl ?_
  refine lv_astore (lv' := [(5, .ref q9), (4, .ref ra), (0, .ref h), (1, .int (nI dn)), (2, .int i), (3, .int v)]) hx hb dX1_put_84 hl (Nat.le_of_ble_eq_true rfl) rfl (fun ls hl => ?_)
  refine lv_bipush (v := (-13)) hx hb dX1_put_86 (by decide) ?_
  exact n_iretW (v := (-13)) (w1 := [(h, xO xa xi), (xa 8, qA G 5 8 (shf sh)), (sh dn, .inr (3, [.ref ra])), (ra, tA G 1 z8 rf)]) C (⟨rfl, rfl⟩) hP hD hS (by first | omega | decide) (by first | omega | decide) dX1_put_88

set_option maxHeartbeats 4000000 in
set_option maxRecDepth 100000 in
theorem metX1_put_r2 (l : Launch) (G : GG) (h : Nat) (xa : Nat → Nat) (xi : Nat → Int32) (sh : Nat → Nat) (gm : GM) (dn : Nat) (ra z8 : Nat) (rf : Nat → Int32) (j : Nat) (v : Int32) (hl9 : l.stackTraces = false) (hng : NG gm [(h, xO xa xi), (xa 8, qA G 5 8 (shf sh)), (sh dn, .inr (3, [.ref ra])), (ra, tA G 2 z8 rf)]) (hdn : dn ≤ 7) (hz8 : z8 ≤ 100) (hj : j < z8) : MWh l yX1_put cX1_put 6 (some .int) [((29 : Nat), (78 : Nat), (79 : Nat), (144 : Nat)), ((29 : Nat), (78 : Nat), (84 : Nat), (345 : Nat))] ({ frames := 2, cells := 0, slots := 0, locals := 43 }) [.ref h, .int (nI dn), .int (nI j), .int v] [(h, xO xa xi), (xa 8, qA G 5 8 (shf sh)), (sh dn, .inr (3, [.ref ra])), (ra, tA G 2 z8 rf)] G (KE G gm) 0 0 (fun rv w1 => rv = 0 ∧ w1 = [(h, xO xa xi), (xa 8, qA G 5 8 (shf sh)), (sh dn, .inr (3, [.ref ra])), (ra, tA G 2 z8 (upd rf j (vp_nar .short v.toInt16.toInt32)))]) := by
  -- rows printed by wip/tools/gen.py
  refine mwh_mkg RX1 (by decide) rfl (Nat.le_of_ble_eq_true rfl) ?_
  intro p0_ e0_ s m args below meth c A C htab hA hAx hP hK hD ls hl
  have hZ : ZA A s := hK.2.2.of hP hAx
  have hM1 := hK.2.1
  have hK := hK.1
  have hGP := hK.2
  have hK := hK.1
  have hGA := GA.of hng hGP hAx
  have hx := C.1
  have hb := C.2.1
  have hml := C.2.2.2.2.1
  have hown := C.2.2.2.2.2.1
  have hts := C.2.2.2.2.2.2
  have hS : va_S A s.heap s.heap [] := va_S.rf
  have hl : lv_has ls 6 [(0, .ref h), (1, .int (nI dn)), (2, .int (nI j)), (3, .int v)] := hl
  have hs7 := sIn07 hdn
  refine lv_aload_n hx hb dX1_put_0 rfl (lv_at hl 0 rfl) ?_
  refine lv_iload_n hx hb dX1_put_1 rfl (lv_at hl 1 rfl) ?_
  refine c_V (rest := []) C (metX1_isShelf l G h xa xi (nI dn)) 1 (lw_V q166 q168 qs2 q39 q170) (by decide +kernel) ⟨rfl, rfl⟩ ⟨(Nat.le_of_ble_eq_true rfl), (Nat.le_of_ble_eq_true rfl)⟩ (KM_mv G) (va_recv hK.1 hP (ci := 1) (q0 := 0) rfl rfl) (hP.sub (ws' := [(h, xO xa xi)]) [0] rfl) hK.1 hl rfl rfl (Nat.le_of_ble_eq_true rfl) ⟨(Nat.le_of_ble_eq_true rfl), (Nat.le_of_ble_eq_true rfl)⟩ dX1_put_2 ?_
  refine n_if_neB (b := (sIn (nI dn) 0 7)) (tgt := 10) hx hb dX1_put_5 (by decide) (fun c_1 => ?_) (fun c_1 => absurd c_1 (by simp [hs7]))
  refine lv_aload_n hx hb dX1_put_10 rfl (lv_at hl 0 rfl) ?_
  refine va_get (D := gD G) (ci := 1) (v := .ref (xa 8)) (C := RX1) (T := TX1) (N := 9) hx hb hts in_X1 hown hK.1 hP 0 rfl rfl 8 (by decide) (hts _ q846) (fun _ h9 => h9) rfl dX1_put_11 ?_
  refine lv_iload_n hx hb dX1_put_14 rfl (lv_at hl 1 rfl) ?_
  refine n_aldqS (y := sh dn) C hK.1 hP 1 5 dn rfl rfl (by omega) (by omega) rfl dX1_put_15 ?_
  refine va_get (D := gD G) (ci := 3) (v := .ref ra) (C := RX3) (T := TX3) (N := 1) hx hb hts in_X3 hown hK.1 hP 2 rfl rfl 0 (by decide) (hts _ q834) (fun _ h9 => h9) rfl dX1_put_16 ?_
  refine lv_astore (lv' := [(4, .ref ra), (0, .ref h), (1, .int (nI dn)), (2, .int (nI j)), (3, .int v)]) hx hb dX1_put_19 hl (Nat.le_of_ble_eq_true rfl) rfl (fun ls hl => ?_)
  refine lv_aload hx hb dX1_put_21 (lv_at hl 0 rfl) ?_
  refine lv_ifnonnull (tgt := 29) hx hb dX1_put_23 (by decide) ?_
  refine lv_aload hx hb dX1_put_29 (lv_at hl 0 rfl) ?_
  refine n_instF (q0 := 3) (n2 := "[S") C hK.2 hP rfl (nmA2 hK.1) (by decide +kernel) q174 dX1_put_31 ?_
  refine lv_if_eq (x := 0) (tgt := 49) hx hb dX1_put_34 (by decide) (fun c_2 => ?_) (fun c_2 => absurd c_2 (by decide))
  refine lv_aload hx hb dX1_put_49 (lv_at hl 0 rfl) ?_
  refine n_instT (q0 := 3) C hP rfl (nmA2 hK.1) q674 dX1_put_51 ?_
  refine lv_if_eq (x := 1) (tgt := 69) hx hb dX1_put_54 (by decide) (fun c_3 => absurd c_3 (by decide)) (fun c_3 => ?_)
  refine lv_aload hx hb dX1_put_57 (lv_at hl 0 rfl) ?_
  refine n_castT (q0 := 3) C hP rfl (nmA2 hK.1) q674 dX1_put_59 ?_
  refine lv_iload_n hx hb dX1_put_62 rfl (lv_at hl 3 rfl) ?_
  refine lv_iload_n hx hb dX1_put_63 rfl (lv_at hl 4 rfl) ?_
  refine lv_i2s (x := v) (v := v.toInt16.toInt32) hx hb dX1_put_64 rfl ?_
  refine n_sast (x := v.toInt16.toInt32) C hK.1 hP hD hS 3 j rfl (by omega) (by omega) dX1_put_65 (fun H locs hP hD hS => ?_)
  have hP : PP G [(h, xO xa xi), (xa 8, qA G 5 8 (shf sh)), (sh dn, .inr (3, [.ref ra])), (ra, tA G 2 z8 (upd rf j (vp_nar .short v.toInt16.toInt32)))] H := hP
  have hD : va_D A [(h, xO xa xi), (xa 8, qA G 5 8 (shf sh)), (sh dn, .inr (3, [.ref ra])), (ra, tA G 2 z8 (upd rf j (vp_nar .short v.toInt16.toInt32)))] := hD
  refine lv_goto (tgt := 77) hx hb dX1_put_66 (by decide) ?_
  refine lv_iconst (v := 0) hx hb dX1_put_77 (by decide) ?_
  exact n_iretW (v := 0) (w1 := [(h, xO xa xi), (xa 8, qA G 5 8 (shf sh)), (sh dn, .inr (3, [.ref ra])), (ra, tA G 2 z8 (upd rf j (vp_nar .short v.toInt16.toInt32)))]) C (⟨rfl, rfl⟩) hP hD hS (by first | omega | decide) (by first | omega | decide) dX1_put_78

set_option maxHeartbeats 4000000 in
set_option maxRecDepth 100000 in
theorem metX1_put_o2 (l : Launch) (G : GG) (h : Nat) (xa : Nat → Nat) (xi : Nat → Int32) (sh : Nat → Nat) (gm : GM) (dn : Nat) (ra z8 : Nat) (rf : Nat → Int32) (i v : Int32) (hl9 : l.stackTraces = false) (hng : NG gm [(h, xO xa xi), (xa 8, qA G 5 8 (shf sh)), (sh dn, .inr (3, [.ref ra])), (ra, tA G 2 z8 rf)]) (hdn : dn ≤ 7) (hz8 : z8 ≤ 100) (hout : ¬ vp_in i z8) : MWh l yX1_put cX1_put 6 (some .int) [((29 : Nat), (78 : Nat), (79 : Nat), (144 : Nat)), ((29 : Nat), (78 : Nat), (84 : Nat), (345 : Nat))] ({ frames := 9, cells := 4, slots := 1100, locals := 10400 }) [.ref h, .int (nI dn), .int i, .int v] [(h, xO xa xi), (xa 8, qA G 5 8 (shf sh)), (sh dn, .inr (3, [.ref ra])), (ra, tA G 2 z8 rf)] G (KE G gm) 4 1100 (fun rv w1 => rv = -13 ∧ w1 = [(h, xO xa xi), (xa 8, qA G 5 8 (shf sh)), (sh dn, .inr (3, [.ref ra])), (ra, tA G 2 z8 rf)]) := by
  -- rows printed by wip/tools/gen.py
  refine mwh_mkg RX1 (by decide) rfl (Nat.le_of_ble_eq_true rfl) ?_
  intro p0_ e0_ s m args below meth c A C htab hA hAx hP hK hD ls hl
  have hZ : ZA A s := hK.2.2.of hP hAx
  have hM1 := hK.2.1
  have hK := hK.1
  have hGP := hK.2
  have hK := hK.1
  have hGA := GA.of hng hGP hAx
  have hx := C.1
  have hb := C.2.1
  have hml := C.2.2.2.2.1
  have hown := C.2.2.2.2.2.1
  have hts := C.2.2.2.2.2.2
  have hS : va_S A s.heap s.heap [] := va_S.rf
  have hl : lv_has ls 6 [(0, .ref h), (1, .int (nI dn)), (2, .int i), (3, .int v)] := hl
  have hs7 := sIn07 hdn
  refine lv_aload_n hx hb dX1_put_0 rfl (lv_at hl 0 rfl) ?_
  refine lv_iload_n hx hb dX1_put_1 rfl (lv_at hl 1 rfl) ?_
  refine c_V (rest := []) C (metX1_isShelf l G h xa xi (nI dn)) 1 (lw_V q166 q168 qs2 q39 q170) (by decide +kernel) ⟨rfl, rfl⟩ ⟨(Nat.le_of_ble_eq_true rfl), (Nat.le_of_ble_eq_true rfl)⟩ (KM_mv G) (va_recv hK.1 hP (ci := 1) (q0 := 0) rfl rfl) (hP.sub (ws' := [(h, xO xa xi)]) [0] rfl) hK.1 hl rfl rfl (Nat.le_of_ble_eq_true rfl) ⟨(Nat.le_of_ble_eq_true rfl), (Nat.le_of_ble_eq_true rfl)⟩ dX1_put_2 ?_
  refine n_if_neB (b := (sIn (nI dn) 0 7)) (tgt := 10) hx hb dX1_put_5 (by decide) (fun c_1 => ?_) (fun c_1 => absurd c_1 (by simp [hs7]))
  refine lv_aload_n hx hb dX1_put_10 rfl (lv_at hl 0 rfl) ?_
  refine va_get (D := gD G) (ci := 1) (v := .ref (xa 8)) (C := RX1) (T := TX1) (N := 9) hx hb hts in_X1 hown hK.1 hP 0 rfl rfl 8 (by decide) (hts _ q846) (fun _ h9 => h9) rfl dX1_put_11 ?_
  refine lv_iload_n hx hb dX1_put_14 rfl (lv_at hl 1 rfl) ?_
  refine n_aldqS (y := sh dn) C hK.1 hP 1 5 dn rfl rfl (by omega) (by omega) rfl dX1_put_15 ?_
  refine va_get (D := gD G) (ci := 3) (v := .ref ra) (C := RX3) (T := TX3) (N := 1) hx hb hts in_X3 hown hK.1 hP 2 rfl rfl 0 (by decide) (hts _ q834) (fun _ h9 => h9) rfl dX1_put_16 ?_
  refine lv_astore (lv' := [(4, .ref ra), (0, .ref h), (1, .int (nI dn)), (2, .int i), (3, .int v)]) hx hb dX1_put_19 hl (Nat.le_of_ble_eq_true rfl) rfl (fun ls hl => ?_)
  refine lv_aload hx hb dX1_put_21 (lv_at hl 0 rfl) ?_
  refine lv_ifnonnull (tgt := 29) hx hb dX1_put_23 (by decide) ?_
  refine lv_aload hx hb dX1_put_29 (lv_at hl 0 rfl) ?_
  refine n_instF (q0 := 3) (n2 := "[S") C hK.2 hP rfl (nmA2 hK.1) (by decide +kernel) q174 dX1_put_31 ?_
  refine lv_if_eq (x := 0) (tgt := 49) hx hb dX1_put_34 (by decide) (fun c_2 => ?_) (fun c_2 => absurd c_2 (by decide))
  refine lv_aload hx hb dX1_put_49 (lv_at hl 0 rfl) ?_
  refine n_instT (q0 := 3) C hP rfl (nmA2 hK.1) q674 dX1_put_51 ?_
  refine lv_if_eq (x := 1) (tgt := 69) hx hb dX1_put_54 (by decide) (fun c_3 => absurd c_3 (by decide)) (fun c_3 => ?_)
  refine lv_aload hx hb dX1_put_57 (lv_at hl 0 rfl) ?_
  refine n_castT (q0 := 3) C hP rfl (nmA2 hK.1) q674 dX1_put_59 ?_
  refine lv_iload_n hx hb dX1_put_62 rfl (lv_at hl 3 rfl) ?_
  refine lv_iload_n hx hb dX1_put_63 rfl (lv_at hl 4 rfl) ?_
  refine lv_i2s (x := v) (v := v.toInt16.toInt32) hx hb dX1_put_64 rfl ?_
  refine vx_sastZ C.1 C.2.1 hK.1 hP 3 2 rfl rfl hout dX1_put_65 (fun tx9 he9 => ?_)
  obtain ⟨ha9, hb9⟩ := idx_text (by omega) he9
  refine x_note C hl9 hK.2 hP (hGP.kept hGA hS) hS hZ E_aio eAIO_tbl e_in1.2.1 hl.1 ha9 hb9 ⟨Nat.le_of_ble_eq_true rfl, Nat.le_of_ble_eq_true rfl, Nat.le_of_ble_eq_true rfl, Nat.le_of_ble_eq_true rfl, Nat.le_of_ble_eq_true rfl⟩ (fun H q9 ce hP _ hS hce hcv hcl => ?_)
  refine x_catch (E := "java/lang/ArrayIndexOutOfBoundsException") (name := "java/lang/ArrayIndexOutOfBoundsException") C hK.2 htab [⟨29, 78, 79, 144⟩] ⟨29, 78, 84, 345⟩ [] rfl (fun z h9 => by simp only [List.mem_cons, List.not_mem_nil, or_false] at h9; rcases h9 with rfl <;> first | exact Or.inl (by decide) | exact Or.inr ⟨by decide, _, q74, by decide +kernel⟩) (by decide) (by decide) q893 (by decide +kernel) hce hcv hcl ?_
  refine lv_astore (lv' := [(5, .ref q9), (4, .ref ra), (0, .ref h), (1, .int (nI dn)), (2, .int i), (3, .int v)]) hx hb dX1_put_84 hl (Nat.le_of_ble_eq_true rfl) rfl (fun ls hl => ?_)
  refine lv_bipush (v := (-13)) hx hb dX1_put_86 (by decide) ?_
  exact n_iretW (v := (-13)) (w1 := [(h, xO xa xi), (xa 8, qA G 5 8 (shf sh)), (sh dn, .inr (3, [.ref ra])), (ra, tA G 2 z8 rf)]) C (⟨rfl, rfl⟩) hP hD hS (by first | omega | decide) (by first | omega | decide) dX1_put_88
