/-! LAW: cases that ask no shelf (printed by tools/mklaw.py) -/
set_option maxHeartbeats 4000000 in
set_option maxRecDepth 100000 in
theorem law_13 {p : Program} {l : Launch} {e : Env} {s : State} {m : MethodId} {below : List Frame} {meth : Method} {c : Code} {b L : Nat} {xs : Nat → Int32} {Q : State → Prop} {G : GG} {ax am ao : Nat} {xa fn fk fm sh ad : Nat → Nat} (C : Cx p c meth s #[.ref b] m cL_law 8 (some .boolean) RX0) (hl9 : l.stackTraces = false) (hK : KX G s) (hM1 : MR1 s) (hZ : ZA (fun q : Nat => s.heap.size ≤ q) s) (hX : va_X b L xs s s.heap) (hbl : b < s.heap.size) (hL : L ≤ 384) (i : Nat) (hi : i + 6 ≤ L) {H : Heap} {locs : List Loc} {cells slots : Nat} (hcc : cells + 1010 ≤ room_1.cells) (hss : slots + 5500 ≤ room_1.slots) (hLI : LI G ax am ao xa fn fk fm sh ad (fun q : Nat => s.heap.size ≤ q) H) (hS : va_S (fun q : Nat => s.heap.size ≤ q) s.heap H locs) (kont : ∀ (H1 : Heap) (locs1 : List Loc), LI G ax am ao xa fn fk fm sh ad (fun q : Nat => s.heap.size ≤ q) H1 → va_S (fun q : Nat => s.heap.size ≤ q) s.heap H1 locs1 → ∀ ls : Array Slot, lv_has ls 8 [(4, .int (nI i)), (3, .ref ao), (2, .ref am), (1, .ref ax), (0, .ref b)] → W p l e room_1 s m #[.ref b] below meth c H1 locs1 (cells + 1010) (slots + 5500) Q (F0 m 1584 ls [])) : ∀ ls : Array Slot, lv_has ls 8 [(4, .int (nI i)), (3, .ref ao), (2, .ref am), (1, .ref ax), (0, .ref b)] → W p l e room_1 s m #[.ref b] below meth c H locs cells slots Q (F0 m 649 ls []) := by
  intro ls hl
  obtain ⟨gm, tg, N, N2, hv, rw, r, rk, xi, wh, wk, gw, ga2, ga3, ga4, ga5, g0, g1, g2, ft, vv, by9, iv, m9, w9, nu, wb, bb, ke, kk, kf, so, zz, el, out, hLF, hP, hD⟩ := hLI
  obtain ⟨hN, hr, hwk, hri, h9, hN2, hr2, hwk2, hri2, h92, hiv, hgt, hzz, hsd⟩ := hLF
  have hx := C.1
  have hb := C.2.1
  have hown := C.2.2.2.2.2.1
  have hts := C.2.2.2.2.2.2
  have hA : ∀ q : Nat, s.heap.size ≤ q → (fun q : Nat => s.heap.size ≤ q) q := fun _ h => h
  generalize hT : (SL sh hv PT 8 ++ (RL G rw el PT 8 ++ tg)) = T at hP hD
  have htT : ∀ q ∈ tg, q ∈ T := fun q hq => by rw [← hT]; exact List.mem_append_right _ (List.mem_append_right _ hq)
  have hP : PP G ([(ax, xO xa xi), (xa 0, fO fn r), (fn 0, qA G 3 9 wh), (fn 1, iA G 9 (fA r 2)), (fn 2, iA G 9 (fA r 3)), (fn 3, iA G 9 (fA r 4)), (fn 4, iA G 9 (fA r 5)), (xa 1, fO fk rk), (fk 0, qA G 3 9 wk), (fk 1, iA G 9 (fA rk 2)), (fk 2, iA G 9 (fA rk 3)), (fk 3, iA G 9 (fA rk 4)), (fk 4, iA G 9 (fA rk 5)), (xa 2, fR fm g0 g1 g2), (fm 0, qA G 3 9 gw), (fm 1, iA G 9 ga2), (fm 2, iA G 9 ga3), (fm 3, iA G 9 ga4), (fm 4, iA G 9 ga5), (xa 4, qA G 4 100 ft), (xa 5, iA G 1280 vv), (xa 6, iA G 8 by9), (xa 8, qA G 5 8 (shf sh)), (am, mO ad iv), (ad 0, iA G 57 r), (ad 1, iA G 57 m9), (ad 2, iA G 57 rk), (ad 3, iA G 57 w9), (ad 8, iA G 4 nu), (ad 9, iA G 8 wb), (ad 10, iA G 8 bb), (ad 13, iA G 8 ke), (ad 14, iA G 8 kk), (ad 15, iA G 8 kf), (ad 16, iA G 8 so), (ad 17, iA G 8 (nIf zz)), (ad 18, iA G 800 el), (ao, lA G 1 out)] ++ T) H := hP
  have hD : va_D (fun q : Nat => s.heap.size ≤ q) ([(ax, xO xa xi), (xa 0, fO fn r), (fn 0, qA G 3 9 wh), (fn 1, iA G 9 (fA r 2)), (fn 2, iA G 9 (fA r 3)), (fn 3, iA G 9 (fA r 4)), (fn 4, iA G 9 (fA r 5)), (xa 1, fO fk rk), (fk 0, qA G 3 9 wk), (fk 1, iA G 9 (fA rk 2)), (fk 2, iA G 9 (fA rk 3)), (fk 3, iA G 9 (fA rk 4)), (fk 4, iA G 9 (fA rk 5)), (xa 2, fR fm g0 g1 g2), (fm 0, qA G 3 9 gw), (fm 1, iA G 9 ga2), (fm 2, iA G 9 ga3), (fm 3, iA G 9 ga4), (fm 4, iA G 9 ga5), (xa 4, qA G 4 100 ft), (xa 5, iA G 1280 vv), (xa 6, iA G 8 by9), (xa 8, qA G 5 8 (shf sh)), (am, mO ad iv), (ad 0, iA G 57 r), (ad 1, iA G 57 m9), (ad 2, iA G 57 rk), (ad 3, iA G 57 w9), (ad 8, iA G 4 nu), (ad 9, iA G 8 wb), (ad 10, iA G 8 bb), (ad 13, iA G 8 ke), (ad 14, iA G 8 kk), (ad 15, iA G 8 kf), (ad 16, iA G 8 so), (ad 17, iA G 8 (nIf zz)), (ad 18, iA G 800 el), (ao, lA G 1 out)] ++ T) := hD
  refine lv_aload_n hx hb dL_law_649 rfl (lv_at hl 3 rfl) ?_
  refine lv_aload_n hx hb dL_law_650 rfl (lv_at hl 4 rfl) ?_
  refine lv_iload hx hb dL_law_651 (lv_at hl 0 rfl) ?_
  refine lv_iconst (v := 1) hx hb dL_law_653 (by decide) ?_
  refine n_iadd hx hb i 1 dL_law_654 ?_
  refine va_sld (i := nI (i + 1)) hx hb hX hbl (Nat.not_le.mpr hbl) hS (vp_in_nI (by omega) (by omega)) dL_law_655 ?_
  refine n_eqi (y := xs (i + 1)) (congrArg xs (nI_clamp (by omega))) ?_
  refine c_Vk (rest := []) C (metX1_atAll l G ax xa xi fn gm wh r N (xs (i + 1)) (by omega) (hr) (hwk)) 1 (lw_V q618 q619 q620 q39 q621) (by decide +kernel) ⟨rfl, rfl⟩ ⟨(Nat.le_of_ble_eq_true rfl), (Nat.le_of_ble_eq_true rfl)⟩ (KG.call) (va_recv hK.1 hP (ci := 1) (q0 := 0) rfl rfl) ((tl_P hP).sub (ws' := [(ax, xO xa xi), (xa 0, fO fn r), (fn 0, qA G 3 9 wh), (fn 1, iA G 9 (fA r 2)), (fn 2, iA G 9 (fA r 3)), (fn 3, iA G 9 (fA r 4)), (fn 4, iA G 9 (fA r 5))]) [0, 1, 2, 3, 4, 5, 6] rfl) (KG.at hK (hgt.GP (G0_GP G H) hP (fun q hq => List.mem_append_right _ (htT q hq)))) hl rfl rfl (Nat.le_of_ble_eq_true rfl) ⟨(by omega), (by omega)⟩ dL_law_656 ?_
  refine lv_aload_n hx hb dL_law_659 rfl (lv_at hl 2 rfl) ?_
  refine lv_aload_n hx hb dL_law_660 rfl (lv_at hl 4 rfl) ?_
  refine lv_iload hx hb dL_law_661 (lv_at hl 0 rfl) ?_
  refine lv_iconst (v := 1) hx hb dL_law_663 (by decide) ?_
  refine n_iadd hx hb i 1 dL_law_664 ?_
  refine va_sld (i := nI (i + 1)) hx hb hX hbl (Nat.not_le.mpr hbl) hS (vp_in_nI (by omega) (by omega)) dL_law_665 ?_
  refine n_eqi (y := xs (i + 1)) (congrArg xs (nI_clamp (by omega))) ?_
  refine c_V (rest := [.int (sAtAllX r N (xs (i + 1)))]) C (metX4_atAll l G am ad iv r N (xs (i + 1)) (by omega) (hr)) 1 (lw_V q1279 q1280 q1281 q42 q1282) (by decide +kernel) ⟨rfl, rfl⟩ ⟨(Nat.le_of_ble_eq_true rfl), (Nat.le_of_ble_eq_true rfl)⟩ (KM_mv G) (va_recv hK.1 hP (ci := 0) (q0 := 23) rfl rfl) ((tl_P hP).sub (ws' := [(am, mO ad iv), (ad 0, iA G 57 r)]) [23, 24] rfl) hK.1 hl rfl rfl (Nat.le_of_ble_eq_true rfl) ⟨(by omega), (by omega)⟩ dL_law_666 ?_
  refine lv_icmp_eq (x := sAtAllX r N (xs (i + 1))) (y := sAtAllA r N (xs (i + 1))) (tgt := 1584) hx hb dL_law_669 (by decide) (fun c_1 => ?_) (fun c_1 => absurd c_1 ((fun q => q (sAtAll_eq hri (by omega) _))))
  have hP : PP G ((LW G ax am ao xa fn fk fm sh ad xi r wh rk wk gw ga2 ga3 ga4 ga5 g0 g1 g2 ft vv by9 iv r m9 rk w9 nu wb bb ke kk kf so zz el out) ++ T) H := hP.part [0, 1, 2, 3, 4, 5, 6, 7, 8, 9, 10, 11, 12, 13, 14, 15, 16, 17, 18, 19, 20, 21, 22, 23, 24, 25, 26, 27, 28, 29, 30, 31, 32, 33, 34, 35, 36, 37] rfl
  have hD : va_D (fun q : Nat => s.heap.size ≤ q) ((LW G ax am ao xa fn fk fm sh ad xi r wh rk wk gw ga2 ga3 ga4 ga5 g0 g1 g2 ft vv by9 iv r m9 rk w9 nu wb bb ke kk kf so zz el out) ++ T) := hD.part [0, 1, 2, 3, 4, 5, 6, 7, 8, 9, 10, 11, 12, 13, 14, 15, 16, 17, 18, 19, 20, 21, 22, 23, 24, 25, 26, 27, 28, 29, 30, 31, 32, 33, 34, 35, 36, 37] (by decide) rfl
  subst hT
  refine W.widen (k := cells + 1010) (n := slots + 5500) (by omega) (by omega) ?_
  exact kont H locs ⟨gm, tg, N, N2, hv, rw, r, rk, xi, wh, wk, gw, ga2, ga3, ga4, ga5, g0, g1, g2, ft, vv, by9, iv, m9, w9, nu, wb, bb, ke, kk, kf, so, zz, el, out, ⟨hN, hr, hwk, hri, h9, hN2, hr2, hwk2, hri2, h92, hiv, hgt, hzz, hsd⟩, hP, hD⟩ hS ls hl

set_option maxHeartbeats 4000000 in
set_option maxRecDepth 100000 in
theorem law_14 {p : Program} {l : Launch} {e : Env} {s : State} {m : MethodId} {below : List Frame} {meth : Method} {c : Code} {b L : Nat} {xs : Nat → Int32} {Q : State → Prop} {G : GG} {ax am ao : Nat} {xa fn fk fm sh ad : Nat → Nat} (C : Cx p c meth s #[.ref b] m cL_law 8 (some .boolean) RX0) (hl9 : l.stackTraces = false) (hK : KX G s) (hM1 : MR1 s) (hZ : ZA (fun q : Nat => s.heap.size ≤ q) s) (hX : va_X b L xs s s.heap) (hbl : b < s.heap.size) (hL : L ≤ 384) (i : Nat) (hi : i + 6 ≤ L) {H : Heap} {locs : List Loc} {cells slots : Nat} (hcc : cells + 1010 ≤ room_1.cells) (hss : slots + 5500 ≤ room_1.slots) (hLI : LI G ax am ao xa fn fk fm sh ad (fun q : Nat => s.heap.size ≤ q) H) (hS : va_S (fun q : Nat => s.heap.size ≤ q) s.heap H locs) (kont : ∀ (H1 : Heap) (locs1 : List Loc), LI G ax am ao xa fn fk fm sh ad (fun q : Nat => s.heap.size ≤ q) H1 → va_S (fun q : Nat => s.heap.size ≤ q) s.heap H1 locs1 → ∀ ls : Array Slot, lv_has ls 8 [(4, .int (nI i)), (3, .ref ao), (2, .ref am), (1, .ref ax), (0, .ref b)] → W p l e room_1 s m #[.ref b] below meth c H1 locs1 (cells + 1010) (slots + 5500) Q (F0 m 1584 ls [])) : ∀ ls : Array Slot, lv_has ls 8 [(4, .int (nI i)), (3, .ref ao), (2, .ref am), (1, .ref ax), (0, .ref b)] → W p l e room_1 s m #[.ref b] below meth c H locs cells slots Q (F0 m 674 ls []) := by
  intro ls hl
  obtain ⟨gm, tg, N, N2, hv, rw, r, rk, xi, wh, wk, gw, ga2, ga3, ga4, ga5, g0, g1, g2, ft, vv, by9, iv, m9, w9, nu, wb, bb, ke, kk, kf, so, zz, el, out, hLF, hP, hD⟩ := hLI
  obtain ⟨hN, hr, hwk, hri, h9, hN2, hr2, hwk2, hri2, h92, hiv, hgt, hzz, hsd⟩ := hLF
  have hx := C.1
  have hb := C.2.1
  have hown := C.2.2.2.2.2.1
  have hts := C.2.2.2.2.2.2
  have hA : ∀ q : Nat, s.heap.size ≤ q → (fun q : Nat => s.heap.size ≤ q) q := fun _ h => h
  generalize hT : (SL sh hv PT 8 ++ (RL G rw el PT 8 ++ tg)) = T at hP hD
  have htT : ∀ q ∈ tg, q ∈ T := fun q hq => by rw [← hT]; exact List.mem_append_right _ (List.mem_append_right _ hq)
  have hP : PP G ([(ax, xO xa xi), (xa 0, fO fn r), (fn 0, qA G 3 9 wh), (fn 1, iA G 9 (fA r 2)), (fn 2, iA G 9 (fA r 3)), (fn 3, iA G 9 (fA r 4)), (fn 4, iA G 9 (fA r 5)), (xa 1, fO fk rk), (fk 0, qA G 3 9 wk), (fk 1, iA G 9 (fA rk 2)), (fk 2, iA G 9 (fA rk 3)), (fk 3, iA G 9 (fA rk 4)), (fk 4, iA G 9 (fA rk 5)), (xa 2, fR fm g0 g1 g2), (fm 0, qA G 3 9 gw), (fm 1, iA G 9 ga2), (fm 2, iA G 9 ga3), (fm 3, iA G 9 ga4), (fm 4, iA G 9 ga5), (xa 4, qA G 4 100 ft), (xa 5, iA G 1280 vv), (xa 6, iA G 8 by9), (xa 8, qA G 5 8 (shf sh)), (am, mO ad iv), (ad 0, iA G 57 r), (ad 1, iA G 57 m9), (ad 2, iA G 57 rk), (ad 3, iA G 57 w9), (ad 8, iA G 4 nu), (ad 9, iA G 8 wb), (ad 10, iA G 8 bb), (ad 13, iA G 8 ke), (ad 14, iA G 8 kk), (ad 15, iA G 8 kf), (ad 16, iA G 8 so), (ad 17, iA G 8 (nIf zz)), (ad 18, iA G 800 el), (ao, lA G 1 out)] ++ T) H := hP
  have hD : va_D (fun q : Nat => s.heap.size ≤ q) ([(ax, xO xa xi), (xa 0, fO fn r), (fn 0, qA G 3 9 wh), (fn 1, iA G 9 (fA r 2)), (fn 2, iA G 9 (fA r 3)), (fn 3, iA G 9 (fA r 4)), (fn 4, iA G 9 (fA r 5)), (xa 1, fO fk rk), (fk 0, qA G 3 9 wk), (fk 1, iA G 9 (fA rk 2)), (fk 2, iA G 9 (fA rk 3)), (fk 3, iA G 9 (fA rk 4)), (fk 4, iA G 9 (fA rk 5)), (xa 2, fR fm g0 g1 g2), (fm 0, qA G 3 9 gw), (fm 1, iA G 9 ga2), (fm 2, iA G 9 ga3), (fm 3, iA G 9 ga4), (fm 4, iA G 9 ga5), (xa 4, qA G 4 100 ft), (xa 5, iA G 1280 vv), (xa 6, iA G 8 by9), (xa 8, qA G 5 8 (shf sh)), (am, mO ad iv), (ad 0, iA G 57 r), (ad 1, iA G 57 m9), (ad 2, iA G 57 rk), (ad 3, iA G 57 w9), (ad 8, iA G 4 nu), (ad 9, iA G 8 wb), (ad 10, iA G 8 bb), (ad 13, iA G 8 ke), (ad 14, iA G 8 kk), (ad 15, iA G 8 kf), (ad 16, iA G 8 so), (ad 17, iA G 8 (nIf zz)), (ad 18, iA G 800 el), (ao, lA G 1 out)] ++ T) := hD
  refine lv_aload_n hx hb dL_law_674 rfl (lv_at hl 3 rfl) ?_
  refine c_Vk (rest := []) C (metX1_stuck l G ax xa xi fn gm wh r N (by omega) (hr) (hwk) (hri.JN)) 0 (lw_V q627 q628 q629 q39 q630) (by decide +kernel) ⟨rfl, rfl⟩ ⟨(Nat.le_of_ble_eq_true rfl), (Nat.le_of_ble_eq_true rfl)⟩ (KG.call) (va_recv hK.1 hP (ci := 1) (q0 := 0) rfl rfl) ((tl_P hP).sub (ws' := [(ax, xO xa xi), (xa 0, fO fn r), (fn 0, qA G 3 9 wh), (fn 1, iA G 9 (fA r 2)), (fn 2, iA G 9 (fA r 3)), (fn 3, iA G 9 (fA r 4)), (fn 4, iA G 9 (fA r 5))]) [0, 1, 2, 3, 4, 5, 6] rfl) (KG.at hK (hgt.GP (G0_GP G H) hP (fun q hq => List.mem_append_right _ (htT q hq)))) hl rfl rfl (Nat.le_of_ble_eq_true rfl) ⟨(by omega), (by omega)⟩ dL_law_675 ?_
  refine lv_aload_n hx hb dL_law_678 rfl (lv_at hl 2 rfl) ?_
  refine c_V (rest := [.int (sStuckX r N)]) C (metX4_stuck l G am ad iv r N (by omega) (hr)) 0 (lw_V q1283 q1284 q1285 q42 q1286) (by decide +kernel) ⟨rfl, rfl⟩ ⟨(Nat.le_of_ble_eq_true rfl), (Nat.le_of_ble_eq_true rfl)⟩ (KM_mv G) (va_recv hK.1 hP (ci := 0) (q0 := 23) rfl rfl) ((tl_P hP).sub (ws' := [(am, mO ad iv), (ad 0, iA G 57 r)]) [23, 24] rfl) hK.1 hl rfl rfl (Nat.le_of_ble_eq_true rfl) ⟨(by omega), (by omega)⟩ dL_law_679 ?_
  refine lv_icmp_eq (x := sStuckX r N) (y := sStuckA r N) (tgt := 1584) hx hb dL_law_682 (by decide) (fun c_1 => ?_) (fun c_1 => absurd c_1 ((fun q => q (sStuck_eq hri (by omega)))))
  have hP : PP G ((LW G ax am ao xa fn fk fm sh ad xi r wh rk wk gw ga2 ga3 ga4 ga5 g0 g1 g2 ft vv by9 iv r m9 rk w9 nu wb bb ke kk kf so zz el out) ++ T) H := hP.part [0, 1, 2, 3, 4, 5, 6, 7, 8, 9, 10, 11, 12, 13, 14, 15, 16, 17, 18, 19, 20, 21, 22, 23, 24, 25, 26, 27, 28, 29, 30, 31, 32, 33, 34, 35, 36, 37] rfl
  have hD : va_D (fun q : Nat => s.heap.size ≤ q) ((LW G ax am ao xa fn fk fm sh ad xi r wh rk wk gw ga2 ga3 ga4 ga5 g0 g1 g2 ft vv by9 iv r m9 rk w9 nu wb bb ke kk kf so zz el out) ++ T) := hD.part [0, 1, 2, 3, 4, 5, 6, 7, 8, 9, 10, 11, 12, 13, 14, 15, 16, 17, 18, 19, 20, 21, 22, 23, 24, 25, 26, 27, 28, 29, 30, 31, 32, 33, 34, 35, 36, 37] (by decide) rfl
  subst hT
  refine W.widen (k := cells + 1010) (n := slots + 5500) (by omega) (by omega) ?_
  exact kont H locs ⟨gm, tg, N, N2, hv, rw, r, rk, xi, wh, wk, gw, ga2, ga3, ga4, ga5, g0, g1, g2, ft, vv, by9, iv, m9, w9, nu, wb, bb, ke, kk, kf, so, zz, el, out, ⟨hN, hr, hwk, hri, h9, hN2, hr2, hwk2, hri2, h92, hiv, hgt, hzz, hsd⟩, hP, hD⟩ hS ls hl

set_option maxHeartbeats 4000000 in
set_option maxRecDepth 100000 in
theorem law_15 {p : Program} {l : Launch} {e : Env} {s : State} {m : MethodId} {below : List Frame} {meth : Method} {c : Code} {b L : Nat} {xs : Nat → Int32} {Q : State → Prop} {G : GG} {ax am ao : Nat} {xa fn fk fm sh ad : Nat → Nat} (C : Cx p c meth s #[.ref b] m cL_law 8 (some .boolean) RX0) (hl9 : l.stackTraces = false) (hK : KX G s) (hM1 : MR1 s) (hZ : ZA (fun q : Nat => s.heap.size ≤ q) s) (hX : va_X b L xs s s.heap) (hbl : b < s.heap.size) (hL : L ≤ 384) (i : Nat) (hi : i + 6 ≤ L) {H : Heap} {locs : List Loc} {cells slots : Nat} (hcc : cells + 1010 ≤ room_1.cells) (hss : slots + 5500 ≤ room_1.slots) (hLI : LI G ax am ao xa fn fk fm sh ad (fun q : Nat => s.heap.size ≤ q) H) (hS : va_S (fun q : Nat => s.heap.size ≤ q) s.heap H locs) (kont : ∀ (H1 : Heap) (locs1 : List Loc), LI G ax am ao xa fn fk fm sh ad (fun q : Nat => s.heap.size ≤ q) H1 → va_S (fun q : Nat => s.heap.size ≤ q) s.heap H1 locs1 → ∀ ls : Array Slot, lv_has ls 8 [(4, .int (nI i)), (3, .ref ao), (2, .ref am), (1, .ref ax), (0, .ref b)] → W p l e room_1 s m #[.ref b] below meth c H1 locs1 (cells + 1010) (slots + 5500) Q (F0 m 1584 ls [])) : ∀ ls : Array Slot, lv_has ls 8 [(4, .int (nI i)), (3, .ref ao), (2, .ref am), (1, .ref ax), (0, .ref b)] → W p l e room_1 s m #[.ref b] below meth c H locs cells slots Q (F0 m 687 ls []) := by
  intro ls hl
  obtain ⟨gm, tg, N, N2, hv, rw, r, rk, xi, wh, wk, gw, ga2, ga3, ga4, ga5, g0, g1, g2, ft, vv, by9, iv, m9, w9, nu, wb, bb, ke, kk, kf, so, zz, el, out, hLF, hP, hD⟩ := hLI
  obtain ⟨hN, hr, hwk, hri, h9, hN2, hr2, hwk2, hri2, h92, hiv, hgt, hzz, hsd⟩ := hLF
  have hx := C.1
  have hb := C.2.1
  have hown := C.2.2.2.2.2.1
  have hts := C.2.2.2.2.2.2
  have hA : ∀ q : Nat, s.heap.size ≤ q → (fun q : Nat => s.heap.size ≤ q) q := fun _ h => h
  generalize hT : (SL sh hv PT 8 ++ (RL G rw el PT 8 ++ tg)) = T at hP hD
  have htT : ∀ q ∈ tg, q ∈ T := fun q hq => by rw [← hT]; exact List.mem_append_right _ (List.mem_append_right _ hq)
  have hP : PP G ([(ax, xO xa xi), (xa 0, fO fn r), (fn 0, qA G 3 9 wh), (fn 1, iA G 9 (fA r 2)), (fn 2, iA G 9 (fA r 3)), (fn 3, iA G 9 (fA r 4)), (fn 4, iA G 9 (fA r 5)), (xa 1, fO fk rk), (fk 0, qA G 3 9 wk), (fk 1, iA G 9 (fA rk 2)), (fk 2, iA G 9 (fA rk 3)), (fk 3, iA G 9 (fA rk 4)), (fk 4, iA G 9 (fA rk 5)), (xa 2, fR fm g0 g1 g2), (fm 0, qA G 3 9 gw), (fm 1, iA G 9 ga2), (fm 2, iA G 9 ga3), (fm 3, iA G 9 ga4), (fm 4, iA G 9 ga5), (xa 4, qA G 4 100 ft), (xa 5, iA G 1280 vv), (xa 6, iA G 8 by9), (xa 8, qA G 5 8 (shf sh)), (am, mO ad iv), (ad 0, iA G 57 r), (ad 1, iA G 57 m9), (ad 2, iA G 57 rk), (ad 3, iA G 57 w9), (ad 8, iA G 4 nu), (ad 9, iA G 8 wb), (ad 10, iA G 8 bb), (ad 13, iA G 8 ke), (ad 14, iA G 8 kk), (ad 15, iA G 8 kf), (ad 16, iA G 8 so), (ad 17, iA G 8 (nIf zz)), (ad 18, iA G 800 el), (ao, lA G 1 out)] ++ T) H := hP
  have hD : va_D (fun q : Nat => s.heap.size ≤ q) ([(ax, xO xa xi), (xa 0, fO fn r), (fn 0, qA G 3 9 wh), (fn 1, iA G 9 (fA r 2)), (fn 2, iA G 9 (fA r 3)), (fn 3, iA G 9 (fA r 4)), (fn 4, iA G 9 (fA r 5)), (xa 1, fO fk rk), (fk 0, qA G 3 9 wk), (fk 1, iA G 9 (fA rk 2)), (fk 2, iA G 9 (fA rk 3)), (fk 3, iA G 9 (fA rk 4)), (fk 4, iA G 9 (fA rk 5)), (xa 2, fR fm g0 g1 g2), (fm 0, qA G 3 9 gw), (fm 1, iA G 9 ga2), (fm 2, iA G 9 ga3), (fm 3, iA G 9 ga4), (fm 4, iA G 9 ga5), (xa 4, qA G 4 100 ft), (xa 5, iA G 1280 vv), (xa 6, iA G 8 by9), (xa 8, qA G 5 8 (shf sh)), (am, mO ad iv), (ad 0, iA G 57 r), (ad 1, iA G 57 m9), (ad 2, iA G 57 rk), (ad 3, iA G 57 w9), (ad 8, iA G 4 nu), (ad 9, iA G 8 wb), (ad 10, iA G 8 bb), (ad 13, iA G 8 ke), (ad 14, iA G 8 kk), (ad 15, iA G 8 kf), (ad 16, iA G 8 so), (ad 17, iA G 8 (nIf zz)), (ad 18, iA G 800 el), (ao, lA G 1 out)] ++ T) := hD
  refine lv_aload_n hx hb dL_law_687 rfl (lv_at hl 3 rfl) ?_
  refine lv_aload_n hx hb dL_law_688 rfl (lv_at hl 4 rfl) ?_
  refine lv_iload hx hb dL_law_689 (lv_at hl 0 rfl) ?_
  refine lv_iconst (v := 1) hx hb dL_law_691 (by decide) ?_
  refine n_iadd hx hb i 1 dL_law_692 ?_
  refine va_sld (i := nI (i + 1)) hx hb hX hbl (Nat.not_le.mpr hbl) hS (vp_in_nI (by omega) (by omega)) dL_law_693 ?_
  refine n_eqi (y := xs (i + 1)) (congrArg xs (nI_clamp (by omega))) ?_
  refine c_VWkP (wr := [(xa 1, fO fk rk), (fk 0, qA G 3 9 wk), (fk 1, iA G 9 (fA rk 2)), (fk 2, iA G 9 (fA rk 3)), (fk 3, iA G 9 (fA rk 4)), (fk 4, iA G 9 (fA rk 5)), (xa 4, qA G 4 100 ft), (xa 5, iA G 1280 vv), (xa 6, iA G 8 by9), (xa 8, qA G 5 8 (shf sh)), (am, mO ad iv), (ad 0, iA G 57 r), (ad 1, iA G 57 m9), (ad 2, iA G 57 rk), (ad 3, iA G 57 w9), (ad 8, iA G 4 nu), (ad 9, iA G 8 wb), (ad 10, iA G 8 bb), (ad 13, iA G 8 ke), (ad 14, iA G 8 kk), (ad 15, iA G 8 kf), (ad 16, iA G 8 so), (ad 17, iA G 8 (nIf zz)), (ad 18, iA G 800 el), (ao, lA G 1 out)]) (rest := []) C (metX1_bring l G ax xa xi fn gm wh r N fm gw ga2 ga3 ga4 ga5 g0 g1 g2 (xs (i + 1)) (by omega) (hr) (hwk) (hri) (gt_NG9 hgt (G0_GA _) hD (isC := [0, 1, 2, 3, 4, 5, 6, 13, 14, 15, 16, 17, 18]) rfl htT)) 1 (lw_V q631 q632 q633 q39 q634) (by decide +kernel) ⟨rfl, rfl⟩ ⟨(Nat.le_of_ble_eq_true rfl), (Nat.le_of_ble_eq_true rfl)⟩ (KG.call) (KG.at hK (hgt.GP (G0_GP G H) hP (fun q hq => List.mem_append_right _ (htT q hq)))) (va_recv hK.1 hP (ci := 1) (q0 := 0) rfl rfl) hA hP hD hS [0, 1, 2, 3, 4, 5, 6, 13, 14, 15, 16, 17, 18] [7, 8, 9, 10, 11, 12, 19, 20, 21, 22, 23, 24, 25, 26, 27, 28, 29, 30, 31, 32, 33, 34, 35, 36, 37] rfl rfl rfl rfl (by decide) hl rfl rfl (Nat.le_of_ble_eq_true rfl) ⟨(by omega), (by omega)⟩ dL_law_694 (fun r_1 w1 H locs hq_2 hP hD hS => ?_)
  obtain ⟨rfl, gw_3, g2_4, g3_5, g4_6, g5_7, g0_8, g1_9, g2_10, rfl⟩ := hq_2
  have hP : PP G ([(xa 1, fO fk rk), (fk 0, qA G 3 9 wk), (fk 1, iA G 9 (fA rk 2)), (fk 2, iA G 9 (fA rk 3)), (fk 3, iA G 9 (fA rk 4)), (fk 4, iA G 9 (fA rk 5)), (xa 4, qA G 4 100 ft), (xa 5, iA G 1280 vv), (xa 6, iA G 8 by9), (xa 8, qA G 5 8 (shf sh)), (am, mO ad iv), (ad 0, iA G 57 r), (ad 1, iA G 57 m9), (ad 2, iA G 57 rk), (ad 3, iA G 57 w9), (ad 8, iA G 4 nu), (ad 9, iA G 8 wb), (ad 10, iA G 8 bb), (ad 13, iA G 8 ke), (ad 14, iA G 8 kk), (ad 15, iA G 8 kf), (ad 16, iA G 8 so), (ad 17, iA G 8 (nIf zz)), (ad 18, iA G 800 el), (ao, lA G 1 out), (ax, xO xa xi), (xa 0, fO fn r), (fn 0, qA G 3 9 wh), (fn 1, iA G 9 (fA r 2)), (fn 2, iA G 9 (fA r 3)), (fn 3, iA G 9 (fA r 4)), (fn 4, iA G 9 (fA r 5)), (xa 2, fR fm g0_8 g1_9 g2_10), (fm 0, qA G 3 9 gw_3), (fm 1, iA G 9 g2_4), (fm 2, iA G 9 g3_5), (fm 3, iA G 9 g4_6), (fm 4, iA G 9 g5_7)] ++ T) H := hP
  have hD : va_D (fun q : Nat => s.heap.size ≤ q) ([(xa 1, fO fk rk), (fk 0, qA G 3 9 wk), (fk 1, iA G 9 (fA rk 2)), (fk 2, iA G 9 (fA rk 3)), (fk 3, iA G 9 (fA rk 4)), (fk 4, iA G 9 (fA rk 5)), (xa 4, qA G 4 100 ft), (xa 5, iA G 1280 vv), (xa 6, iA G 8 by9), (xa 8, qA G 5 8 (shf sh)), (am, mO ad iv), (ad 0, iA G 57 r), (ad 1, iA G 57 m9), (ad 2, iA G 57 rk), (ad 3, iA G 57 w9), (ad 8, iA G 4 nu), (ad 9, iA G 8 wb), (ad 10, iA G 8 bb), (ad 13, iA G 8 ke), (ad 14, iA G 8 kk), (ad 15, iA G 8 kf), (ad 16, iA G 8 so), (ad 17, iA G 8 (nIf zz)), (ad 18, iA G 800 el), (ao, lA G 1 out), (ax, xO xa xi), (xa 0, fO fn r), (fn 0, qA G 3 9 wh), (fn 1, iA G 9 (fA r 2)), (fn 2, iA G 9 (fA r 3)), (fn 3, iA G 9 (fA r 4)), (fn 4, iA G 9 (fA r 5)), (xa 2, fR fm g0_8 g1_9 g2_10), (fm 0, qA G 3 9 gw_3), (fm 1, iA G 9 g2_4), (fm 2, iA G 9 g3_5), (fm 3, iA G 9 g4_6), (fm 4, iA G 9 g5_7)] ++ T) := hD
  refine lv_aload_n hx hb dL_law_697 rfl (lv_at hl 2 rfl) ?_
  refine lv_aload_n hx hb dL_law_698 rfl (lv_at hl 4 rfl) ?_
  refine lv_iload hx hb dL_law_699 (lv_at hl 0 rfl) ?_
  refine lv_iconst (v := 1) hx hb dL_law_701 (by decide) ?_
  refine n_iadd hx hb i 1 dL_law_702 ?_
  refine va_sld (i := nI (i + 1)) hx hb hX hbl (Nat.not_le.mpr hbl) hS (vp_in_nI (by omega) (by omega)) dL_law_703 ?_
  refine n_eqi (y := xs (i + 1)) (congrArg xs (nI_clamp (by omega))) ?_
  refine c_VWkP (wr := [(xa 1, fO fk rk), (fk 0, qA G 3 9 wk), (fk 1, iA G 9 (fA rk 2)), (fk 2, iA G 9 (fA rk 3)), (fk 3, iA G 9 (fA rk 4)), (fk 4, iA G 9 (fA rk 5)), (xa 4, qA G 4 100 ft), (xa 5, iA G 1280 vv), (xa 6, iA G 8 by9), (xa 8, qA G 5 8 (shf sh)), (ad 2, iA G 57 rk), (ad 3, iA G 57 w9), (ad 8, iA G 4 nu), (ad 9, iA G 8 wb), (ad 10, iA G 8 bb), (ad 13, iA G 8 ke), (ad 14, iA G 8 kk), (ad 15, iA G 8 kf), (ad 16, iA G 8 so), (ad 17, iA G 8 (nIf zz)), (ad 18, iA G 800 el), (ao, lA G 1 out), (ax, xO xa xi), (xa 0, fO fn r), (fn 0, qA G 3 9 wh), (fn 1, iA G 9 (fA r 2)), (fn 2, iA G 9 (fA r 3)), (fn 3, iA G 9 (fA r 4)), (fn 4, iA G 9 (fA r 5)), (xa 2, fR fm g0_8 g1_9 g2_10), (fm 0, qA G 3 9 gw_3), (fm 1, iA G 9 g2_4), (fm 2, iA G 9 g3_5), (fm 3, iA G 9 g4_6), (fm 4, iA G 9 g5_7)]) (rest := [.int (sBringX r N (xs (i + 1)))]) C (metX4_bring l G am ad iv r N m9 (xs (i + 1)) (by omega) (hr)) 1 (lw_V q1287 q1288 q1289 q42 q1290) (by decide +kernel) ⟨rfl, rfl⟩ ⟨(Nat.le_of_ble_eq_true rfl), (Nat.le_of_ble_eq_true rfl)⟩ ((fun _ _ _ _ h => (KM_mv G).2 _ _ _ _ h)) (fun _ _ hW => (KM_mv G).1 _ _ hW hK.1) (va_recv hK.1 hP (ci := 0) (q0 := 10) rfl rfl) hA hP hD hS [10, 11, 12] [0, 1, 2, 3, 4, 5, 6, 7, 8, 9, 13, 14, 15, 16, 17, 18, 19, 20, 21, 22, 23, 24, 25, 26, 27, 28, 29, 30, 31, 32, 33, 34, 35, 36, 37] rfl rfl rfl rfl (by decide) hl rfl rfl (Nat.le_of_ble_eq_true rfl) ⟨(by omega), (by omega)⟩ dL_law_704 (fun r_11 w1 H locs hq_12 hP hD hS => ?_)
  obtain ⟨rfl, g_13, rfl⟩ := hq_12
  have hP : PP G ([(xa 1, fO fk rk), (fk 0, qA G 3 9 wk), (fk 1, iA G 9 (fA rk 2)), (fk 2, iA G 9 (fA rk 3)), (fk 3, iA G 9 (fA rk 4)), (fk 4, iA G 9 (fA rk 5)), (xa 4, qA G 4 100 ft), (xa 5, iA G 1280 vv), (xa 6, iA G 8 by9), (xa 8, qA G 5 8 (shf sh)), (ad 2, iA G 57 rk), (ad 3, iA G 57 w9), (ad 8, iA G 4 nu), (ad 9, iA G 8 wb), (ad 10, iA G 8 bb), (ad 13, iA G 8 ke), (ad 14, iA G 8 kk), (ad 15, iA G 8 kf), (ad 16, iA G 8 so), (ad 17, iA G 8 (nIf zz)), (ad 18, iA G 800 el), (ao, lA G 1 out), (ax, xO xa xi), (xa 0, fO fn r), (fn 0, qA G 3 9 wh), (fn 1, iA G 9 (fA r 2)), (fn 2, iA G 9 (fA r 3)), (fn 3, iA G 9 (fA r 4)), (fn 4, iA G 9 (fA r 5)), (xa 2, fR fm g0_8 g1_9 g2_10), (fm 0, qA G 3 9 gw_3), (fm 1, iA G 9 g2_4), (fm 2, iA G 9 g3_5), (fm 3, iA G 9 g4_6), (fm 4, iA G 9 g5_7), (am, mO ad iv), (ad 0, iA G 57 r), (ad 1, iA G 57 g_13)] ++ T) H := hP
  have hD : va_D (fun q : Nat => s.heap.size ≤ q) ([(xa 1, fO fk rk), (fk 0, qA G 3 9 wk), (fk 1, iA G 9 (fA rk 2)), (fk 2, iA G 9 (fA rk 3)), (fk 3, iA G 9 (fA rk 4)), (fk 4, iA G 9 (fA rk 5)), (xa 4, qA G 4 100 ft), (xa 5, iA G 1280 vv), (xa 6, iA G 8 by9), (xa 8, qA G 5 8 (shf sh)), (ad 2, iA G 57 rk), (ad 3, iA G 57 w9), (ad 8, iA G 4 nu), (ad 9, iA G 8 wb), (ad 10, iA G 8 bb), (ad 13, iA G 8 ke), (ad 14, iA G 8 kk), (ad 15, iA G 8 kf), (ad 16, iA G 8 so), (ad 17, iA G 8 (nIf zz)), (ad 18, iA G 800 el), (ao, lA G 1 out), (ax, xO xa xi), (xa 0, fO fn r), (fn 0, qA G 3 9 wh), (fn 1, iA G 9 (fA r 2)), (fn 2, iA G 9 (fA r 3)), (fn 3, iA G 9 (fA r 4)), (fn 4, iA G 9 (fA r 5)), (xa 2, fR fm g0_8 g1_9 g2_10), (fm 0, qA G 3 9 gw_3), (fm 1, iA G 9 g2_4), (fm 2, iA G 9 g3_5), (fm 3, iA G 9 g4_6), (fm 4, iA G 9 g5_7), (am, mO ad iv), (ad 0, iA G 57 r), (ad 1, iA G 57 g_13)] ++ T) := hD
  refine lv_icmp_eq (x := sBringX r N (xs (i + 1))) (y := sBringA r N (xs (i + 1))) (tgt := 1584) hx hb dL_law_707 (by decide) (fun c_14 => ?_) (fun c_14 => absurd c_14 ((fun q => q (sBring_eq hri _))))
  have hP : PP G ((LW G ax am ao xa fn fk fm sh ad xi r wh rk wk gw_3 g2_4 g3_5 g4_6 g5_7 g0_8 g1_9 g2_10 ft vv by9 iv r g_13 rk w9 nu wb bb ke kk kf so zz el out) ++ T) H := hP.part [22, 23, 24, 25, 26, 27, 28, 0, 1, 2, 3, 4, 5, 29, 30, 31, 32, 33, 34, 6, 7, 8, 9, 35, 36, 37, 10, 11, 12, 13, 14, 15, 16, 17, 18, 19, 20, 21] rfl
  have hD : va_D (fun q : Nat => s.heap.size ≤ q) ((LW G ax am ao xa fn fk fm sh ad xi r wh rk wk gw_3 g2_4 g3_5 g4_6 g5_7 g0_8 g1_9 g2_10 ft vv by9 iv r g_13 rk w9 nu wb bb ke kk kf so zz el out) ++ T) := hD.part [22, 23, 24, 25, 26, 27, 28, 0, 1, 2, 3, 4, 5, 29, 30, 31, 32, 33, 34, 6, 7, 8, 9, 35, 36, 37, 10, 11, 12, 13, 14, 15, 16, 17, 18, 19, 20, 21] (by decide) rfl
  subst hT
  refine W.widen (k := cells + 1010) (n := slots + 5500) (by omega) (by omega) ?_
  exact kont H locs ⟨gm, tg, N, N2, hv, rw, r, rk, xi, wh, wk, gw_3, g2_4, g3_5, g4_6, g5_7, g0_8, g1_9, g2_10, ft, vv, by9, iv, g_13, w9, nu, wb, bb, ke, kk, kf, so, zz, el, out, ⟨hN, hr, hwk, hri, h9, hN2, hr2, hwk2, hri2, h92, hiv, hgt, hzz, hsd⟩, hP, hD⟩ hS ls hl

set_option maxHeartbeats 4000000 in
set_option maxRecDepth 100000 in
theorem law_16 {p : Program} {l : Launch} {e : Env} {s : State} {m : MethodId} {below : List Frame} {meth : Method} {c : Code} {b L : Nat} {xs : Nat → Int32} {Q : State → Prop} {G : GG} {ax am ao : Nat} {xa fn fk fm sh ad : Nat → Nat} (C : Cx p c meth s #[.ref b] m cL_law 8 (some .boolean) RX0) (hl9 : l.stackTraces = false) (hK : KX G s) (hM1 : MR1 s) (hZ : ZA (fun q : Nat => s.heap.size ≤ q) s) (hX : va_X b L xs s s.heap) (hbl : b < s.heap.size) (hL : L ≤ 384) (i : Nat) (hi : i + 6 ≤ L) {H : Heap} {locs : List Loc} {cells slots : Nat} (hcc : cells + 1010 ≤ room_1.cells) (hss : slots + 5500 ≤ room_1.slots) (hLI : LI G ax am ao xa fn fk fm sh ad (fun q : Nat => s.heap.size ≤ q) H) (hS : va_S (fun q : Nat => s.heap.size ≤ q) s.heap H locs) (kont : ∀ (H1 : Heap) (locs1 : List Loc), LI G ax am ao xa fn fk fm sh ad (fun q : Nat => s.heap.size ≤ q) H1 → va_S (fun q : Nat => s.heap.size ≤ q) s.heap H1 locs1 → ∀ ls : Array Slot, lv_has ls 8 [(4, .int (nI i)), (3, .ref ao), (2, .ref am), (1, .ref ax), (0, .ref b)] → W p l e room_1 s m #[.ref b] below meth c H1 locs1 (cells + 1010) (slots + 5500) Q (F0 m 1584 ls [])) : ∀ ls : Array Slot, lv_has ls 8 [(4, .int (nI i)), (3, .ref ao), (2, .ref am), (1, .ref ax), (0, .ref b)] → W p l e room_1 s m #[.ref b] below meth c H locs cells slots Q (F0 m 712 ls []) := by
  intro ls hl
  obtain ⟨gm, tg, N, N2, hv, rw, r, rk, xi, wh, wk, gw, ga2, ga3, ga4, ga5, g0, g1, g2, ft, vv, by9, iv, m9, w9, nu, wb, bb, ke, kk, kf, so, zz, el, out, hLF, hP, hD⟩ := hLI
  obtain ⟨hN, hr, hwk, hri, h9, hN2, hr2, hwk2, hri2, h92, hiv, hgt, hzz, hsd⟩ := hLF
  have hx := C.1
  have hb := C.2.1
  have hown := C.2.2.2.2.2.1
  have hts := C.2.2.2.2.2.2
  have hA : ∀ q : Nat, s.heap.size ≤ q → (fun q : Nat => s.heap.size ≤ q) q := fun _ h => h
  generalize hT : (SL sh hv PT 8 ++ (RL G rw el PT 8 ++ tg)) = T at hP hD
  have htT : ∀ q ∈ tg, q ∈ T := fun q hq => by rw [← hT]; exact List.mem_append_right _ (List.mem_append_right _ hq)
  have hP : PP G ([(ax, xO xa xi), (xa 0, fO fn r), (fn 0, qA G 3 9 wh), (fn 1, iA G 9 (fA r 2)), (fn 2, iA G 9 (fA r 3)), (fn 3, iA G 9 (fA r 4)), (fn 4, iA G 9 (fA r 5)), (xa 1, fO fk rk), (fk 0, qA G 3 9 wk), (fk 1, iA G 9 (fA rk 2)), (fk 2, iA G 9 (fA rk 3)), (fk 3, iA G 9 (fA rk 4)), (fk 4, iA G 9 (fA rk 5)), (xa 2, fR fm g0 g1 g2), (fm 0, qA G 3 9 gw), (fm 1, iA G 9 ga2), (fm 2, iA G 9 ga3), (fm 3, iA G 9 ga4), (fm 4, iA G 9 ga5), (xa 4, qA G 4 100 ft), (xa 5, iA G 1280 vv), (xa 6, iA G 8 by9), (xa 8, qA G 5 8 (shf sh)), (am, mO ad iv), (ad 0, iA G 57 r), (ad 1, iA G 57 m9), (ad 2, iA G 57 rk), (ad 3, iA G 57 w9), (ad 8, iA G 4 nu), (ad 9, iA G 8 wb), (ad 10, iA G 8 bb), (ad 13, iA G 8 ke), (ad 14, iA G 8 kk), (ad 15, iA G 8 kf), (ad 16, iA G 8 so), (ad 17, iA G 8 (nIf zz)), (ad 18, iA G 800 el), (ao, lA G 1 out)] ++ T) H := hP
  have hD : va_D (fun q : Nat => s.heap.size ≤ q) ([(ax, xO xa xi), (xa 0, fO fn r), (fn 0, qA G 3 9 wh), (fn 1, iA G 9 (fA r 2)), (fn 2, iA G 9 (fA r 3)), (fn 3, iA G 9 (fA r 4)), (fn 4, iA G 9 (fA r 5)), (xa 1, fO fk rk), (fk 0, qA G 3 9 wk), (fk 1, iA G 9 (fA rk 2)), (fk 2, iA G 9 (fA rk 3)), (fk 3, iA G 9 (fA rk 4)), (fk 4, iA G 9 (fA rk 5)), (xa 2, fR fm g0 g1 g2), (fm 0, qA G 3 9 gw), (fm 1, iA G 9 ga2), (fm 2, iA G 9 ga3), (fm 3, iA G 9 ga4), (fm 4, iA G 9 ga5), (xa 4, qA G 4 100 ft), (xa 5, iA G 1280 vv), (xa 6, iA G 8 by9), (xa 8, qA G 5 8 (shf sh)), (am, mO ad iv), (ad 0, iA G 57 r), (ad 1, iA G 57 m9), (ad 2, iA G 57 rk), (ad 3, iA G 57 w9), (ad 8, iA G 4 nu), (ad 9, iA G 8 wb), (ad 10, iA G 8 bb), (ad 13, iA G 8 ke), (ad 14, iA G 8 kk), (ad 15, iA G 8 kf), (ad 16, iA G 8 so), (ad 17, iA G 8 (nIf zz)), (ad 18, iA G 800 el), (ao, lA G 1 out)] ++ T) := hD
  refine lv_aload_n hx hb dL_law_712 rfl (lv_at hl 3 rfl) ?_
  refine lv_aload_n hx hb dL_law_713 rfl (lv_at hl 4 rfl) ?_
  refine lv_iload hx hb dL_law_714 (lv_at hl 0 rfl) ?_
  refine lv_iconst (v := 1) hx hb dL_law_716 (by decide) ?_
  refine n_iadd hx hb i 1 dL_law_717 ?_
  refine va_sld (i := nI (i + 1)) hx hb hX hbl (Nat.not_le.mpr hbl) hS (vp_in_nI (by omega) (by omega)) dL_law_718 ?_
  refine n_eqi (y := xs (i + 1)) (congrArg xs (nI_clamp (by omega))) ?_
  refine c_Vk (rest := []) C (metX1_feeds l G ax xa xi fn gm wh r N (xs (i + 1)) (by omega) (hr) (hwk) (hri.bt)) 1 (lw_V q638 q639 q640 q39 q641) (by decide +kernel) ⟨rfl, rfl⟩ ⟨(Nat.le_of_ble_eq_true rfl), (Nat.le_of_ble_eq_true rfl)⟩ (KG.call) (va_recv hK.1 hP (ci := 1) (q0 := 0) rfl rfl) ((tl_P hP).sub (ws' := [(ax, xO xa xi), (xa 0, fO fn r), (fn 0, qA G 3 9 wh), (fn 1, iA G 9 (fA r 2)), (fn 2, iA G 9 (fA r 3)), (fn 3, iA G 9 (fA r 4)), (fn 4, iA G 9 (fA r 5))]) [0, 1, 2, 3, 4, 5, 6] rfl) (KG.at hK (hgt.GP (G0_GP G H) hP (fun q hq => List.mem_append_right _ (htT q hq)))) hl rfl rfl (Nat.le_of_ble_eq_true rfl) ⟨(by omega), (by omega)⟩ dL_law_719 ?_
  refine lv_aload_n hx hb dL_law_722 rfl (lv_at hl 2 rfl) ?_
  refine lv_aload_n hx hb dL_law_723 rfl (lv_at hl 4 rfl) ?_
  refine lv_iload hx hb dL_law_724 (lv_at hl 0 rfl) ?_
  refine lv_iconst (v := 1) hx hb dL_law_726 (by decide) ?_
  refine n_iadd hx hb i 1 dL_law_727 ?_
  refine va_sld (i := nI (i + 1)) hx hb hX hbl (Nat.not_le.mpr hbl) hS (vp_in_nI (by omega) (by omega)) dL_law_728 ?_
  refine n_eqi (y := xs (i + 1)) (congrArg xs (nI_clamp (by omega))) ?_
  refine c_V (rest := [.int (sFeedsA r N (xs (i + 1)))]) C (metX4_feeds l G am ad iv r N (xs (i + 1)) (by omega) (hr) (hri.bt)) 1 (lw_V q1291 q1292 q1293 q42 q1294) (by decide +kernel) ⟨rfl, rfl⟩ ⟨(Nat.le_of_ble_eq_true rfl), (Nat.le_of_ble_eq_true rfl)⟩ (KM_mv G) (va_recv hK.1 hP (ci := 0) (q0 := 23) rfl rfl) ((tl_P hP).sub (ws' := [(am, mO ad iv), (ad 0, iA G 57 r)]) [23, 24] rfl) hK.1 hl rfl rfl (Nat.le_of_ble_eq_true rfl) ⟨(by omega), (by omega)⟩ dL_law_729 ?_
  refine lv_icmp_eq (x := sFeedsA r N (xs (i + 1))) (y := sFeedsA r N (xs (i + 1))) (tgt := 1584) hx hb dL_law_732 (by decide) (fun c_1 => ?_) (fun c_1 => absurd c_1 ((fun q => q (rfl))))
  have hP : PP G ((LW G ax am ao xa fn fk fm sh ad xi r wh rk wk gw ga2 ga3 ga4 ga5 g0 g1 g2 ft vv by9 iv r m9 rk w9 nu wb bb ke kk kf so zz el out) ++ T) H := hP.part [0, 1, 2, 3, 4, 5, 6, 7, 8, 9, 10, 11, 12, 13, 14, 15, 16, 17, 18, 19, 20, 21, 22, 23, 24, 25, 26, 27, 28, 29, 30, 31, 32, 33, 34, 35, 36, 37] rfl
  have hD : va_D (fun q : Nat => s.heap.size ≤ q) ((LW G ax am ao xa fn fk fm sh ad xi r wh rk wk gw ga2 ga3 ga4 ga5 g0 g1 g2 ft vv by9 iv r m9 rk w9 nu wb bb ke kk kf so zz el out) ++ T) := hD.part [0, 1, 2, 3, 4, 5, 6, 7, 8, 9, 10, 11, 12, 13, 14, 15, 16, 17, 18, 19, 20, 21, 22, 23, 24, 25, 26, 27, 28, 29, 30, 31, 32, 33, 34, 35, 36, 37] (by decide) rfl
  subst hT
  refine W.widen (k := cells + 1010) (n := slots + 5500) (by omega) (by omega) ?_
  exact kont H locs ⟨gm, tg, N, N2, hv, rw, r, rk, xi, wh, wk, gw, ga2, ga3, ga4, ga5, g0, g1, g2, ft, vv, by9, iv, m9, w9, nu, wb, bb, ke, kk, kf, so, zz, el, out, ⟨hN, hr, hwk, hri, h9, hN2, hr2, hwk2, hri2, h92, hiv, hgt, hzz, hsd⟩, hP, hD⟩ hS ls hl

set_option maxHeartbeats 4000000 in
set_option maxRecDepth 100000 in
theorem law_17 {p : Program} {l : Launch} {e : Env} {s : State} {m : MethodId} {below : List Frame} {meth : Method} {c : Code} {b L : Nat} {xs : Nat → Int32} {Q : State → Prop} {G : GG} {ax am ao : Nat} {xa fn fk fm sh ad : Nat → Nat} (C : Cx p c meth s #[.ref b] m cL_law 8 (some .boolean) RX0) (hl9 : l.stackTraces = false) (hK : KX G s) (hM1 : MR1 s) (hZ : ZA (fun q : Nat => s.heap.size ≤ q) s) (hX : va_X b L xs s s.heap) (hbl : b < s.heap.size) (hL : L ≤ 384) (i : Nat) (hi : i + 6 ≤ L) {H : Heap} {locs : List Loc} {cells slots : Nat} (hcc : cells + 1010 ≤ room_1.cells) (hss : slots + 5500 ≤ room_1.slots) (hLI : LI G ax am ao xa fn fk fm sh ad (fun q : Nat => s.heap.size ≤ q) H) (hS : va_S (fun q : Nat => s.heap.size ≤ q) s.heap H locs) (kont : ∀ (H1 : Heap) (locs1 : List Loc), LI G ax am ao xa fn fk fm sh ad (fun q : Nat => s.heap.size ≤ q) H1 → va_S (fun q : Nat => s.heap.size ≤ q) s.heap H1 locs1 → ∀ ls : Array Slot, lv_has ls 8 [(4, .int (nI i)), (3, .ref ao), (2, .ref am), (1, .ref ax), (0, .ref b)] → W p l e room_1 s m #[.ref b] below meth c H1 locs1 (cells + 1010) (slots + 5500) Q (F0 m 1584 ls [])) : ∀ ls : Array Slot, lv_has ls 8 [(4, .int (nI i)), (3, .ref ao), (2, .ref am), (1, .ref ax), (0, .ref b)] → W p l e room_1 s m #[.ref b] below meth c H locs cells slots Q (F0 m 737 ls []) := by
  intro ls hl
  obtain ⟨gm, tg, N, N2, hv, rw, r, rk, xi, wh, wk, gw, ga2, ga3, ga4, ga5, g0, g1, g2, ft, vv, by9, iv, m9, w9, nu, wb, bb, ke, kk, kf, so, zz, el, out, hLF, hP, hD⟩ := hLI
  obtain ⟨hN, hr, hwk, hri, h9, hN2, hr2, hwk2, hri2, h92, hiv, hgt, hzz, hsd⟩ := hLF
  have hx := C.1
  have hb := C.2.1
  have hown := C.2.2.2.2.2.1
  have hts := C.2.2.2.2.2.2
  have hA : ∀ q : Nat, s.heap.size ≤ q → (fun q : Nat => s.heap.size ≤ q) q := fun _ h => h
  generalize hT : (SL sh hv PT 8 ++ (RL G rw el PT 8 ++ tg)) = T at hP hD
  have htT : ∀ q ∈ tg, q ∈ T := fun q hq => by rw [← hT]; exact List.mem_append_right _ (List.mem_append_right _ hq)
  have hP : PP G ([(ax, xO xa xi), (xa 0, fO fn r), (fn 0, qA G 3 9 wh), (fn 1, iA G 9 (fA r 2)), (fn 2, iA G 9 (fA r 3)), (fn 3, iA G 9 (fA r 4)), (fn 4, iA G 9 (fA r 5)), (xa 1, fO fk rk), (fk 0, qA G 3 9 wk), (fk 1, iA G 9 (fA rk 2)), (fk 2, iA G 9 (fA rk 3)), (fk 3, iA G 9 (fA rk 4)), (fk 4, iA G 9 (fA rk 5)), (xa 2, fR fm g0 g1 g2), (fm 0, qA G 3 9 gw), (fm 1, iA G 9 ga2), (fm 2, iA G 9 ga3), (fm 3, iA G 9 ga4), (fm 4, iA G 9 ga5), (xa 4, qA G 4 100 ft), (xa 5, iA G 1280 vv), (xa 6, iA G 8 by9), (xa 8, qA G 5 8 (shf sh)), (am, mO ad iv), (ad 0, iA G 57 r), (ad 1, iA G 57 m9), (ad 2, iA G 57 rk), (ad 3, iA G 57 w9), (ad 8, iA G 4 nu), (ad 9, iA G 8 wb), (ad 10, iA G 8 bb), (ad 13, iA G 8 ke), (ad 14, iA G 8 kk), (ad 15, iA G 8 kf), (ad 16, iA G 8 so), (ad 17, iA G 8 (nIf zz)), (ad 18, iA G 800 el), (ao, lA G 1 out)] ++ T) H := hP
  have hD : va_D (fun q : Nat => s.heap.size ≤ q) ([(ax, xO xa xi), (xa 0, fO fn r), (fn 0, qA G 3 9 wh), (fn 1, iA G 9 (fA r 2)), (fn 2, iA G 9 (fA r 3)), (fn 3, iA G 9 (fA r 4)), (fn 4, iA G 9 (fA r 5)), (xa 1, fO fk rk), (fk 0, qA G 3 9 wk), (fk 1, iA G 9 (fA rk 2)), (fk 2, iA G 9 (fA rk 3)), (fk 3, iA G 9 (fA rk 4)), (fk 4, iA G 9 (fA rk 5)), (xa 2, fR fm g0 g1 g2), (fm 0, qA G 3 9 gw), (fm 1, iA G 9 ga2), (fm 2, iA G 9 ga3), (fm 3, iA G 9 ga4), (fm 4, iA G 9 ga5), (xa 4, qA G 4 100 ft), (xa 5, iA G 1280 vv), (xa 6, iA G 8 by9), (xa 8, qA G 5 8 (shf sh)), (am, mO ad iv), (ad 0, iA G 57 r), (ad 1, iA G 57 m9), (ad 2, iA G 57 rk), (ad 3, iA G 57 w9), (ad 8, iA G 4 nu), (ad 9, iA G 8 wb), (ad 10, iA G 8 bb), (ad 13, iA G 8 ke), (ad 14, iA G 8 kk), (ad 15, iA G 8 kf), (ad 16, iA G 8 so), (ad 17, iA G 8 (nIf zz)), (ad 18, iA G 800 el), (ao, lA G 1 out)] ++ T) := hD
  refine lv_aload_n hx hb dL_law_737 rfl (lv_at hl 3 rfl) ?_
  refine lv_aload_n hx hb dL_law_738 rfl (lv_at hl 4 rfl) ?_
  refine lv_iload hx hb dL_law_739 (lv_at hl 0 rfl) ?_
  refine lv_iconst (v := 1) hx hb dL_law_741 (by decide) ?_
  refine n_iadd hx hb i 1 dL_law_742 ?_
  refine va_sld (i := nI (i + 1)) hx hb hX hbl (Nat.not_le.mpr hbl) hS (vp_in_nI (by omega) (by omega)) dL_law_743 ?_
  refine n_eqi (y := xs (i + 1)) (congrArg xs (nI_clamp (by omega))) ?_
  refine lv_aload_n hx hb dL_law_744 rfl (lv_at hl 4 rfl) ?_
  refine lv_iload hx hb dL_law_745 (lv_at hl 0 rfl) ?_
  refine lv_iconst (v := 2) hx hb dL_law_747 (by decide) ?_
  refine n_iadd hx hb i 2 dL_law_748 ?_
  refine va_sld (i := nI (i + 2)) hx hb hX hbl (Nat.not_le.mpr hbl) hS (vp_in_nI (by omega) (by omega)) dL_law_749 ?_
  refine n_eqi (y := xs (i + 2)) (congrArg xs (nI_clamp (by omega))) ?_
  refine c_Vk (rest := []) C (metX1_prices l G ax xa xi fn gm wh r N (xs (i + 1)) (xs (i + 2)) (by omega) (hr) (hwk)) 2 (lw_V q642 q643 q644 q39 q645) (by decide +kernel) ⟨rfl, rfl⟩ ⟨(Nat.le_of_ble_eq_true rfl), (Nat.le_of_ble_eq_true rfl)⟩ (KG.call) (va_recv hK.1 hP (ci := 1) (q0 := 0) rfl rfl) ((tl_P hP).sub (ws' := [(ax, xO xa xi), (xa 0, fO fn r), (fn 0, qA G 3 9 wh), (fn 1, iA G 9 (fA r 2)), (fn 2, iA G 9 (fA r 3)), (fn 3, iA G 9 (fA r 4)), (fn 4, iA G 9 (fA r 5))]) [0, 1, 2, 3, 4, 5, 6] rfl) (KG.at hK (hgt.GP (G0_GP G H) hP (fun q hq => List.mem_append_right _ (htT q hq)))) hl rfl rfl (Nat.le_of_ble_eq_true rfl) ⟨(by omega), (by omega)⟩ dL_law_750 ?_
  refine lv_aload_n hx hb dL_law_753 rfl (lv_at hl 2 rfl) ?_
  refine lv_aload_n hx hb dL_law_754 rfl (lv_at hl 4 rfl) ?_
  refine lv_iload hx hb dL_law_755 (lv_at hl 0 rfl) ?_
  refine lv_iconst (v := 1) hx hb dL_law_757 (by decide) ?_
  refine n_iadd hx hb i 1 dL_law_758 ?_
  refine va_sld (i := nI (i + 1)) hx hb hX hbl (Nat.not_le.mpr hbl) hS (vp_in_nI (by omega) (by omega)) dL_law_759 ?_
  refine n_eqi (y := xs (i + 1)) (congrArg xs (nI_clamp (by omega))) ?_
  refine lv_aload_n hx hb dL_law_760 rfl (lv_at hl 4 rfl) ?_
  refine lv_iload hx hb dL_law_761 (lv_at hl 0 rfl) ?_
  refine lv_iconst (v := 2) hx hb dL_law_763 (by decide) ?_
  refine n_iadd hx hb i 2 dL_law_764 ?_
  refine va_sld (i := nI (i + 2)) hx hb hX hbl (Nat.not_le.mpr hbl) hS (vp_in_nI (by omega) (by omega)) dL_law_765 ?_
  refine n_eqi (y := xs (i + 2)) (congrArg xs (nI_clamp (by omega))) ?_
  refine c_V (rest := [.int (sPricesA r N (xs (i + 1)) (xs (i + 2)))]) C (metX4_prices l G am ad iv r N (xs (i + 1)) (xs (i + 2)) (by omega) (hr)) 2 (lw_V q1295 q1296 q1297 q42 q1298) (by decide +kernel) ⟨rfl, rfl⟩ ⟨(Nat.le_of_ble_eq_true rfl), (Nat.le_of_ble_eq_true rfl)⟩ (KM_mv G) (va_recv hK.1 hP (ci := 0) (q0 := 23) rfl rfl) ((tl_P hP).sub (ws' := [(am, mO ad iv), (ad 0, iA G 57 r)]) [23, 24] rfl) hK.1 hl rfl rfl (Nat.le_of_ble_eq_true rfl) ⟨(by omega), (by omega)⟩ dL_law_766 ?_
  refine lv_icmp_eq (x := sPricesA r N (xs (i + 1)) (xs (i + 2))) (y := sPricesA r N (xs (i + 1)) (xs (i + 2))) (tgt := 1584) hx hb dL_law_769 (by decide) (fun c_1 => ?_) (fun c_1 => absurd c_1 ((fun q => q (rfl))))
  have hP : PP G ((LW G ax am ao xa fn fk fm sh ad xi r wh rk wk gw ga2 ga3 ga4 ga5 g0 g1 g2 ft vv by9 iv r m9 rk w9 nu wb bb ke kk kf so zz el out) ++ T) H := hP.part [0, 1, 2, 3, 4, 5, 6, 7, 8, 9, 10, 11, 12, 13, 14, 15, 16, 17, 18, 19, 20, 21, 22, 23, 24, 25, 26, 27, 28, 29, 30, 31, 32, 33, 34, 35, 36, 37] rfl
  have hD : va_D (fun q : Nat => s.heap.size ≤ q) ((LW G ax am ao xa fn fk fm sh ad xi r wh rk wk gw ga2 ga3 ga4 ga5 g0 g1 g2 ft vv by9 iv r m9 rk w9 nu wb bb ke kk kf so zz el out) ++ T) := hD.part [0, 1, 2, 3, 4, 5, 6, 7, 8, 9, 10, 11, 12, 13, 14, 15, 16, 17, 18, 19, 20, 21, 22, 23, 24, 25, 26, 27, 28, 29, 30, 31, 32, 33, 34, 35, 36, 37] (by decide) rfl
  subst hT
  refine W.widen (k := cells + 1010) (n := slots + 5500) (by omega) (by omega) ?_
  exact kont H locs ⟨gm, tg, N, N2, hv, rw, r, rk, xi, wh, wk, gw, ga2, ga3, ga4, ga5, g0, g1, g2, ft, vv, by9, iv, m9, w9, nu, wb, bb, ke, kk, kf, so, zz, el, out, ⟨hN, hr, hwk, hri, h9, hN2, hr2, hwk2, hri2, h92, hiv, hgt, hzz, hsd⟩, hP, hD⟩ hS ls hl

set_option maxHeartbeats 4000000 in
set_option maxRecDepth 100000 in
theorem law_18 {p : Program} {l : Launch} {e : Env} {s : State} {m : MethodId} {below : List Frame} {meth : Method} {c : Code} {b L : Nat} {xs : Nat → Int32} {Q : State → Prop} {G : GG} {ax am ao : Nat} {xa fn fk fm sh ad : Nat → Nat} (C : Cx p c meth s #[.ref b] m cL_law 8 (some .boolean) RX0) (hl9 : l.stackTraces = false) (hK : KX G s) (hM1 : MR1 s) (hZ : ZA (fun q : Nat => s.heap.size ≤ q) s) (hX : va_X b L xs s s.heap) (hbl : b < s.heap.size) (hL : L ≤ 384) (i : Nat) (hi : i + 6 ≤ L) {H : Heap} {locs : List Loc} {cells slots : Nat} (hcc : cells + 1010 ≤ room_1.cells) (hss : slots + 5500 ≤ room_1.slots) (hLI : LI G ax am ao xa fn fk fm sh ad (fun q : Nat => s.heap.size ≤ q) H) (hS : va_S (fun q : Nat => s.heap.size ≤ q) s.heap H locs) (kont : ∀ (H1 : Heap) (locs1 : List Loc), LI G ax am ao xa fn fk fm sh ad (fun q : Nat => s.heap.size ≤ q) H1 → va_S (fun q : Nat => s.heap.size ≤ q) s.heap H1 locs1 → ∀ ls : Array Slot, lv_has ls 8 [(4, .int (nI i)), (3, .ref ao), (2, .ref am), (1, .ref ax), (0, .ref b)] → W p l e room_1 s m #[.ref b] below meth c H1 locs1 (cells + 1010) (slots + 5500) Q (F0 m 1584 ls [])) : ∀ ls : Array Slot, lv_has ls 8 [(4, .int (nI i)), (3, .ref ao), (2, .ref am), (1, .ref ax), (0, .ref b)] → W p l e room_1 s m #[.ref b] below meth c H locs cells slots Q (F0 m 774 ls []) := by
  intro ls hl
  obtain ⟨gm, tg, N, N2, hv, rw, r, rk, xi, wh, wk, gw, ga2, ga3, ga4, ga5, g0, g1, g2, ft, vv, by9, iv, m9, w9, nu, wb, bb, ke, kk, kf, so, zz, el, out, hLF, hP, hD⟩ := hLI
  obtain ⟨hN, hr, hwk, hri, h9, hN2, hr2, hwk2, hri2, h92, hiv, hgt, hzz, hsd⟩ := hLF
  have hx := C.1
  have hb := C.2.1
  have hown := C.2.2.2.2.2.1
  have hts := C.2.2.2.2.2.2
  have hA : ∀ q : Nat, s.heap.size ≤ q → (fun q : Nat => s.heap.size ≤ q) q := fun _ h => h
  generalize hT : (SL sh hv PT 8 ++ (RL G rw el PT 8 ++ tg)) = T at hP hD
  have htT : ∀ q ∈ tg, q ∈ T := fun q hq => by rw [← hT]; exact List.mem_append_right _ (List.mem_append_right _ hq)
  have hP : PP G ([(ax, xO xa xi), (xa 0, fO fn r), (fn 0, qA G 3 9 wh), (fn 1, iA G 9 (fA r 2)), (fn 2, iA G 9 (fA r 3)), (fn 3, iA G 9 (fA r 4)), (fn 4, iA G 9 (fA r 5)), (xa 1, fO fk rk), (fk 0, qA G 3 9 wk), (fk 1, iA G 9 (fA rk 2)), (fk 2, iA G 9 (fA rk 3)), (fk 3, iA G 9 (fA rk 4)), (fk 4, iA G 9 (fA rk 5)), (xa 2, fR fm g0 g1 g2), (fm 0, qA G 3 9 gw), (fm 1, iA G 9 ga2), (fm 2, iA G 9 ga3), (fm 3, iA G 9 ga4), (fm 4, iA G 9 ga5), (xa 4, qA G 4 100 ft), (xa 5, iA G 1280 vv), (xa 6, iA G 8 by9), (xa 8, qA G 5 8 (shf sh)), (am, mO ad iv), (ad 0, iA G 57 r), (ad 1, iA G 57 m9), (ad 2, iA G 57 rk), (ad 3, iA G 57 w9), (ad 8, iA G 4 nu), (ad 9, iA G 8 wb), (ad 10, iA G 8 bb), (ad 13, iA G 8 ke), (ad 14, iA G 8 kk), (ad 15, iA G 8 kf), (ad 16, iA G 8 so), (ad 17, iA G 8 (nIf zz)), (ad 18, iA G 800 el), (ao, lA G 1 out)] ++ T) H := hP
  have hD : va_D (fun q : Nat => s.heap.size ≤ q) ([(ax, xO xa xi), (xa 0, fO fn r), (fn 0, qA G 3 9 wh), (fn 1, iA G 9 (fA r 2)), (fn 2, iA G 9 (fA r 3)), (fn 3, iA G 9 (fA r 4)), (fn 4, iA G 9 (fA r 5)), (xa 1, fO fk rk), (fk 0, qA G 3 9 wk), (fk 1, iA G 9 (fA rk 2)), (fk 2, iA G 9 (fA rk 3)), (fk 3, iA G 9 (fA rk 4)), (fk 4, iA G 9 (fA rk 5)), (xa 2, fR fm g0 g1 g2), (fm 0, qA G 3 9 gw), (fm 1, iA G 9 ga2), (fm 2, iA G 9 ga3), (fm 3, iA G 9 ga4), (fm 4, iA G 9 ga5), (xa 4, qA G 4 100 ft), (xa 5, iA G 1280 vv), (xa 6, iA G 8 by9), (xa 8, qA G 5 8 (shf sh)), (am, mO ad iv), (ad 0, iA G 57 r), (ad 1, iA G 57 m9), (ad 2, iA G 57 rk), (ad 3, iA G 57 w9), (ad 8, iA G 4 nu), (ad 9, iA G 8 wb), (ad 10, iA G 8 bb), (ad 13, iA G 8 ke), (ad 14, iA G 8 kk), (ad 15, iA G 8 kf), (ad 16, iA G 8 so), (ad 17, iA G 8 (nIf zz)), (ad 18, iA G 800 el), (ao, lA G 1 out)] ++ T) := hD
  refine lv_aload_n hx hb dL_law_774 rfl (lv_at hl 3 rfl) ?_
  refine lv_aload_n hx hb dL_law_775 rfl (lv_at hl 4 rfl) ?_
  refine lv_iload hx hb dL_law_776 (lv_at hl 0 rfl) ?_
  refine lv_iconst (v := 1) hx hb dL_law_778 (by decide) ?_
  refine n_iadd hx hb i 1 dL_law_779 ?_
  refine va_sld (i := nI (i + 1)) hx hb hX hbl (Nat.not_le.mpr hbl) hS (vp_in_nI (by omega) (by omega)) dL_law_780 ?_
  refine n_eqi (y := xs (i + 1)) (congrArg xs (nI_clamp (by omega))) ?_
  refine c_Vk (rest := []) C (metX1_clears l G ax xa xi fn gm wh r N (xs (i + 1)) (by omega) (hr) (hwk)) 1 (lw_V q655 q656 q657 q39 q658) (by decide +kernel) ⟨rfl, rfl⟩ ⟨(Nat.le_of_ble_eq_true rfl), (Nat.le_of_ble_eq_true rfl)⟩ (KG.call) (va_recv hK.1 hP (ci := 1) (q0 := 0) rfl rfl) ((tl_P hP).sub (ws' := [(ax, xO xa xi), (xa 0, fO fn r), (fn 0, qA G 3 9 wh), (fn 1, iA G 9 (fA r 2)), (fn 2, iA G 9 (fA r 3)), (fn 3, iA G 9 (fA r 4)), (fn 4, iA G 9 (fA r 5))]) [0, 1, 2, 3, 4, 5, 6] rfl) (KG.at hK (hgt.GP (G0_GP G H) hP (fun q hq => List.mem_append_right _ (htT q hq)))) hl rfl rfl (Nat.le_of_ble_eq_true rfl) ⟨(by omega), (by omega)⟩ dL_law_781 ?_
  refine lv_aload_n hx hb dL_law_784 rfl (lv_at hl 2 rfl) ?_
  refine lv_aload_n hx hb dL_law_785 rfl (lv_at hl 4 rfl) ?_
  refine lv_iload hx hb dL_law_786 (lv_at hl 0 rfl) ?_
  refine lv_iconst (v := 1) hx hb dL_law_788 (by decide) ?_
  refine n_iadd hx hb i 1 dL_law_789 ?_
  refine va_sld (i := nI (i + 1)) hx hb hX hbl (Nat.not_le.mpr hbl) hS (vp_in_nI (by omega) (by omega)) dL_law_790 ?_
  refine n_eqi (y := xs (i + 1)) (congrArg xs (nI_clamp (by omega))) ?_
  refine c_V (rest := [.int (sClearsA r N (xs (i + 1)))]) C (metX4_clears l G am ad iv r N (xs (i + 1)) (by omega) (hr)) 1 (lw_V q1307 q1308 q1309 q42 q1310) (by decide +kernel) ⟨rfl, rfl⟩ ⟨(Nat.le_of_ble_eq_true rfl), (Nat.le_of_ble_eq_true rfl)⟩ (KM_mv G) (va_recv hK.1 hP (ci := 0) (q0 := 23) rfl rfl) ((tl_P hP).sub (ws' := [(am, mO ad iv), (ad 0, iA G 57 r)]) [23, 24] rfl) hK.1 hl rfl rfl (Nat.le_of_ble_eq_true rfl) ⟨(by omega), (by omega)⟩ dL_law_791 ?_
  refine lv_icmp_eq (x := sClearsA r N (xs (i + 1))) (y := sClearsA r N (xs (i + 1))) (tgt := 1584) hx hb dL_law_794 (by decide) (fun c_1 => ?_) (fun c_1 => absurd c_1 ((fun q => q (rfl))))
  have hP : PP G ((LW G ax am ao xa fn fk fm sh ad xi r wh rk wk gw ga2 ga3 ga4 ga5 g0 g1 g2 ft vv by9 iv r m9 rk w9 nu wb bb ke kk kf so zz el out) ++ T) H := hP.part [0, 1, 2, 3, 4, 5, 6, 7, 8, 9, 10, 11, 12, 13, 14, 15, 16, 17, 18, 19, 20, 21, 22, 23, 24, 25, 26, 27, 28, 29, 30, 31, 32, 33, 34, 35, 36, 37] rfl
  have hD : va_D (fun q : Nat => s.heap.size ≤ q) ((LW G ax am ao xa fn fk fm sh ad xi r wh rk wk gw ga2 ga3 ga4 ga5 g0 g1 g2 ft vv by9 iv r m9 rk w9 nu wb bb ke kk kf so zz el out) ++ T) := hD.part [0, 1, 2, 3, 4, 5, 6, 7, 8, 9, 10, 11, 12, 13, 14, 15, 16, 17, 18, 19, 20, 21, 22, 23, 24, 25, 26, 27, 28, 29, 30, 31, 32, 33, 34, 35, 36, 37] (by decide) rfl
  subst hT
  refine W.widen (k := cells + 1010) (n := slots + 5500) (by omega) (by omega) ?_
  exact kont H locs ⟨gm, tg, N, N2, hv, rw, r, rk, xi, wh, wk, gw, ga2, ga3, ga4, ga5, g0, g1, g2, ft, vv, by9, iv, m9, w9, nu, wb, bb, ke, kk, kf, so, zz, el, out, ⟨hN, hr, hwk, hri, h9, hN2, hr2, hwk2, hri2, h92, hiv, hgt, hzz, hsd⟩, hP, hD⟩ hS ls hl

set_option maxHeartbeats 4000000 in
set_option maxRecDepth 100000 in
theorem law_21 {p : Program} {l : Launch} {e : Env} {s : State} {m : MethodId} {below : List Frame} {meth : Method} {c : Code} {b L : Nat} {xs : Nat → Int32} {Q : State → Prop} {G : GG} {ax am ao : Nat} {xa fn fk fm sh ad : Nat → Nat} (C : Cx p c meth s #[.ref b] m cL_law 8 (some .boolean) RX0) (hl9 : l.stackTraces = false) (hK : KX G s) (hM1 : MR1 s) (hZ : ZA (fun q : Nat => s.heap.size ≤ q) s) (hX : va_X b L xs s s.heap) (hbl : b < s.heap.size) (hL : L ≤ 384) (i : Nat) (hi : i + 6 ≤ L) {H : Heap} {locs : List Loc} {cells slots : Nat} (hcc : cells + 1010 ≤ room_1.cells) (hss : slots + 5500 ≤ room_1.slots) (hLI : LI G ax am ao xa fn fk fm sh ad (fun q : Nat => s.heap.size ≤ q) H) (hS : va_S (fun q : Nat => s.heap.size ≤ q) s.heap H locs) (kont : ∀ (H1 : Heap) (locs1 : List Loc), LI G ax am ao xa fn fk fm sh ad (fun q : Nat => s.heap.size ≤ q) H1 → va_S (fun q : Nat => s.heap.size ≤ q) s.heap H1 locs1 → ∀ ls : Array Slot, lv_has ls 8 [(4, .int (nI i)), (3, .ref ao), (2, .ref am), (1, .ref ax), (0, .ref b)] → W p l e room_1 s m #[.ref b] below meth c H1 locs1 (cells + 1010) (slots + 5500) Q (F0 m 1584 ls [])) : ∀ ls : Array Slot, lv_has ls 8 [(4, .int (nI i)), (3, .ref ao), (2, .ref am), (1, .ref ax), (0, .ref b)] → W p l e room_1 s m #[.ref b] below meth c H locs cells slots Q (F0 m 885 ls []) := by
  intro ls hl
  obtain ⟨gm, tg, N, N2, hv, rw, r, rk, xi, wh, wk, gw, ga2, ga3, ga4, ga5, g0, g1, g2, ft, vv, by9, iv, m9, w9, nu, wb, bb, ke, kk, kf, so, zz, el, out, hLF, hP, hD⟩ := hLI
  obtain ⟨hN, hr, hwk, hri, h9, hN2, hr2, hwk2, hri2, h92, hiv, hgt, hzz, hsd⟩ := hLF
  have hx := C.1
  have hb := C.2.1
  have hown := C.2.2.2.2.2.1
  have hts := C.2.2.2.2.2.2
  have hA : ∀ q : Nat, s.heap.size ≤ q → (fun q : Nat => s.heap.size ≤ q) q := fun _ h => h
  generalize hT : (SL sh hv PT 8 ++ (RL G rw el PT 8 ++ tg)) = T at hP hD
  have htT : ∀ q ∈ tg, q ∈ T := fun q hq => by rw [← hT]; exact List.mem_append_right _ (List.mem_append_right _ hq)
  have hP : PP G ([(ax, xO xa xi), (xa 0, fO fn r), (fn 0, qA G 3 9 wh), (fn 1, iA G 9 (fA r 2)), (fn 2, iA G 9 (fA r 3)), (fn 3, iA G 9 (fA r 4)), (fn 4, iA G 9 (fA r 5)), (xa 1, fO fk rk), (fk 0, qA G 3 9 wk), (fk 1, iA G 9 (fA rk 2)), (fk 2, iA G 9 (fA rk 3)), (fk 3, iA G 9 (fA rk 4)), (fk 4, iA G 9 (fA rk 5)), (xa 2, fR fm g0 g1 g2), (fm 0, qA G 3 9 gw), (fm 1, iA G 9 ga2), (fm 2, iA G 9 ga3), (fm 3, iA G 9 ga4), (fm 4, iA G 9 ga5), (xa 4, qA G 4 100 ft), (xa 5, iA G 1280 vv), (xa 6, iA G 8 by9), (xa 8, qA G 5 8 (shf sh)), (am, mO ad iv), (ad 0, iA G 57 r), (ad 1, iA G 57 m9), (ad 2, iA G 57 rk), (ad 3, iA G 57 w9), (ad 8, iA G 4 nu), (ad 9, iA G 8 wb), (ad 10, iA G 8 bb), (ad 13, iA G 8 ke), (ad 14, iA G 8 kk), (ad 15, iA G 8 kf), (ad 16, iA G 8 so), (ad 17, iA G 8 (nIf zz)), (ad 18, iA G 800 el), (ao, lA G 1 out)] ++ T) H := hP
  have hD : va_D (fun q : Nat => s.heap.size ≤ q) ([(ax, xO xa xi), (xa 0, fO fn r), (fn 0, qA G 3 9 wh), (fn 1, iA G 9 (fA r 2)), (fn 2, iA G 9 (fA r 3)), (fn 3, iA G 9 (fA r 4)), (fn 4, iA G 9 (fA r 5)), (xa 1, fO fk rk), (fk 0, qA G 3 9 wk), (fk 1, iA G 9 (fA rk 2)), (fk 2, iA G 9 (fA rk 3)), (fk 3, iA G 9 (fA rk 4)), (fk 4, iA G 9 (fA rk 5)), (xa 2, fR fm g0 g1 g2), (fm 0, qA G 3 9 gw), (fm 1, iA G 9 ga2), (fm 2, iA G 9 ga3), (fm 3, iA G 9 ga4), (fm 4, iA G 9 ga5), (xa 4, qA G 4 100 ft), (xa 5, iA G 1280 vv), (xa 6, iA G 8 by9), (xa 8, qA G 5 8 (shf sh)), (am, mO ad iv), (ad 0, iA G 57 r), (ad 1, iA G 57 m9), (ad 2, iA G 57 rk), (ad 3, iA G 57 w9), (ad 8, iA G 4 nu), (ad 9, iA G 8 wb), (ad 10, iA G 8 bb), (ad 13, iA G 8 ke), (ad 14, iA G 8 kk), (ad 15, iA G 8 kf), (ad 16, iA G 8 so), (ad 17, iA G 8 (nIf zz)), (ad 18, iA G 800 el), (ao, lA G 1 out)] ++ T) := hD
  refine lv_aload_n hx hb dL_law_885 rfl (lv_at hl 3 rfl) ?_
  refine lv_aload_n hx hb dL_law_886 rfl (lv_at hl 4 rfl) ?_
  refine lv_iload hx hb dL_law_887 (lv_at hl 0 rfl) ?_
  refine lv_iconst (v := 1) hx hb dL_law_889 (by decide) ?_
  refine n_iadd hx hb i 1 dL_law_890 ?_
  refine va_sld (i := nI (i + 1)) hx hb hX hbl (Nat.not_le.mpr hbl) hS (vp_in_nI (by omega) (by omega)) dL_law_891 ?_
  refine n_eqi (y := xs (i + 1)) (congrArg xs (nI_clamp (by omega))) ?_
  refine lv_aload_n hx hb dL_law_892 rfl (lv_at hl 4 rfl) ?_
  refine lv_iload hx hb dL_law_893 (lv_at hl 0 rfl) ?_
  refine lv_iconst (v := 2) hx hb dL_law_895 (by decide) ?_
  refine n_iadd hx hb i 2 dL_law_896 ?_
  refine va_sld (i := nI (i + 2)) hx hb hX hbl (Nat.not_le.mpr hbl) hS (vp_in_nI (by omega) (by omega)) dL_law_897 ?_
  refine n_eqi (y := xs (i + 2)) (congrArg xs (nI_clamp (by omega))) ?_
  refine lv_aload_n hx hb dL_law_898 rfl (lv_at hl 4 rfl) ?_
  refine lv_iload hx hb dL_law_899 (lv_at hl 0 rfl) ?_
  refine lv_iconst (v := 3) hx hb dL_law_901 (by decide) ?_
  refine n_iadd hx hb i 3 dL_law_902 ?_
  refine va_sld (i := nI (i + 3)) hx hb hX hbl (Nat.not_le.mpr hbl) hS (vp_in_nI (by omega) (by omega)) dL_law_903 ?_
  refine n_eqi (y := xs (i + 3)) (congrArg xs (nI_clamp (by omega))) ?_
  refine c_V (rest := []) C (metX1_lastOnes l G ax xa xi (xs (i + 1)) (xs (i + 2)) (xs (i + 3))) 3 (lw_V q699 q700 q701 q39 q702) (by decide +kernel) ⟨rfl, rfl⟩ ⟨(Nat.le_of_ble_eq_true rfl), (Nat.le_of_ble_eq_true rfl)⟩ (KM_mv G) (va_recv hK.1 hP (ci := 1) (q0 := 0) rfl rfl) ((tl_P hP).sub (ws' := [(ax, xO xa xi)]) [0] rfl) hK.1 hl rfl rfl (Nat.le_of_ble_eq_true rfl) ⟨(by omega), (by omega)⟩ dL_law_904 ?_
  refine lv_aload_n hx hb dL_law_907 rfl (lv_at hl 2 rfl) ?_
  refine lv_aload_n hx hb dL_law_908 rfl (lv_at hl 4 rfl) ?_
  refine lv_iload hx hb dL_law_909 (lv_at hl 0 rfl) ?_
  refine lv_iconst (v := 1) hx hb dL_law_911 (by decide) ?_
  refine n_iadd hx hb i 1 dL_law_912 ?_
  refine va_sld (i := nI (i + 1)) hx hb hX hbl (Nat.not_le.mpr hbl) hS (vp_in_nI (by omega) (by omega)) dL_law_913 ?_
  refine n_eqi (y := xs (i + 1)) (congrArg xs (nI_clamp (by omega))) ?_
  refine lv_aload_n hx hb dL_law_914 rfl (lv_at hl 4 rfl) ?_
  refine lv_iload hx hb dL_law_915 (lv_at hl 0 rfl) ?_
  refine lv_iconst (v := 2) hx hb dL_law_917 (by decide) ?_
  refine n_iadd hx hb i 2 dL_law_918 ?_
  refine va_sld (i := nI (i + 2)) hx hb hX hbl (Nat.not_le.mpr hbl) hS (vp_in_nI (by omega) (by omega)) dL_law_919 ?_
  refine n_eqi (y := xs (i + 2)) (congrArg xs (nI_clamp (by omega))) ?_
  refine lv_aload_n hx hb dL_law_920 rfl (lv_at hl 4 rfl) ?_
  refine lv_iload hx hb dL_law_921 (lv_at hl 0 rfl) ?_
  refine lv_iconst (v := 3) hx hb dL_law_923 (by decide) ?_
  refine n_iadd hx hb i 3 dL_law_924 ?_
  refine va_sld (i := nI (i + 3)) hx hb hX hbl (Nat.not_le.mpr hbl) hS (vp_in_nI (by omega) (by omega)) dL_law_925 ?_
  refine n_eqi (y := xs (i + 3)) (congrArg xs (nI_clamp (by omega))) ?_
  refine c_V (rest := [.int (sLastA (xs (i + 1)) (xs (i + 2)) (xs (i + 3)))]) C (metX4_lastOnes l G am ad iv (xs (i + 1)) (xs (i + 2)) (xs (i + 3))) 3 (lw_V q1326 q1327 q1328 q42 q1329) (by decide +kernel) ⟨rfl, rfl⟩ ⟨(Nat.le_of_ble_eq_true rfl), (Nat.le_of_ble_eq_true rfl)⟩ (KM_mv G) (va_recv hK.1 hP (ci := 0) (q0 := 23) rfl rfl) ((tl_P hP).sub (ws' := [(am, mO ad iv)]) [23] rfl) hK.1 hl rfl rfl (Nat.le_of_ble_eq_true rfl) ⟨(by omega), (by omega)⟩ dL_law_926 ?_
  refine lv_icmp_eq (x := sLastA (xs (i + 1)) (xs (i + 2)) (xs (i + 3))) (y := sLastA (xs (i + 1)) (xs (i + 2)) (xs (i + 3))) (tgt := 1584) hx hb dL_law_929 (by decide) (fun c_1 => ?_) (fun c_1 => absurd c_1 ((fun q => q (rfl))))
  have hP : PP G ((LW G ax am ao xa fn fk fm sh ad xi r wh rk wk gw ga2 ga3 ga4 ga5 g0 g1 g2 ft vv by9 iv r m9 rk w9 nu wb bb ke kk kf so zz el out) ++ T) H := hP.part [0, 1, 2, 3, 4, 5, 6, 7, 8, 9, 10, 11, 12, 13, 14, 15, 16, 17, 18, 19, 20, 21, 22, 23, 24, 25, 26, 27, 28, 29, 30, 31, 32, 33, 34, 35, 36, 37] rfl
  have hD : va_D (fun q : Nat => s.heap.size ≤ q) ((LW G ax am ao xa fn fk fm sh ad xi r wh rk wk gw ga2 ga3 ga4 ga5 g0 g1 g2 ft vv by9 iv r m9 rk w9 nu wb bb ke kk kf so zz el out) ++ T) := hD.part [0, 1, 2, 3, 4, 5, 6, 7, 8, 9, 10, 11, 12, 13, 14, 15, 16, 17, 18, 19, 20, 21, 22, 23, 24, 25, 26, 27, 28, 29, 30, 31, 32, 33, 34, 35, 36, 37] (by decide) rfl
  subst hT
  refine W.widen (k := cells + 1010) (n := slots + 5500) (by omega) (by omega) ?_
  exact kont H locs ⟨gm, tg, N, N2, hv, rw, r, rk, xi, wh, wk, gw, ga2, ga3, ga4, ga5, g0, g1, g2, ft, vv, by9, iv, m9, w9, nu, wb, bb, ke, kk, kf, so, zz, el, out, ⟨hN, hr, hwk, hri, h9, hN2, hr2, hwk2, hri2, h92, hiv, hgt, hzz, hsd⟩, hP, hD⟩ hS ls hl

set_option maxHeartbeats 4000000 in
set_option maxRecDepth 100000 in
theorem law_22 {p : Program} {l : Launch} {e : Env} {s : State} {m : MethodId} {below : List Frame} {meth : Method} {c : Code} {b L : Nat} {xs : Nat → Int32} {Q : State → Prop} {G : GG} {ax am ao : Nat} {xa fn fk fm sh ad : Nat → Nat} (C : Cx p c meth s #[.ref b] m cL_law 8 (some .boolean) RX0) (hl9 : l.stackTraces = false) (hK : KX G s) (hM1 : MR1 s) (hZ : ZA (fun q : Nat => s.heap.size ≤ q) s) (hX : va_X b L xs s s.heap) (hbl : b < s.heap.size) (hL : L ≤ 384) (i : Nat) (hi : i + 6 ≤ L) {H : Heap} {locs : List Loc} {cells slots : Nat} (hcc : cells + 1010 ≤ room_1.cells) (hss : slots + 5500 ≤ room_1.slots) (hLI : LI G ax am ao xa fn fk fm sh ad (fun q : Nat => s.heap.size ≤ q) H) (hS : va_S (fun q : Nat => s.heap.size ≤ q) s.heap H locs) (kont : ∀ (H1 : Heap) (locs1 : List Loc), LI G ax am ao xa fn fk fm sh ad (fun q : Nat => s.heap.size ≤ q) H1 → va_S (fun q : Nat => s.heap.size ≤ q) s.heap H1 locs1 → ∀ ls : Array Slot, lv_has ls 8 [(4, .int (nI i)), (3, .ref ao), (2, .ref am), (1, .ref ax), (0, .ref b)] → W p l e room_1 s m #[.ref b] below meth c H1 locs1 (cells + 1010) (slots + 5500) Q (F0 m 1584 ls [])) : ∀ ls : Array Slot, lv_has ls 8 [(4, .int (nI i)), (3, .ref ao), (2, .ref am), (1, .ref ax), (0, .ref b)] → W p l e room_1 s m #[.ref b] below meth c H locs cells slots Q (F0 m 934 ls []) := by
  intro ls hl
  obtain ⟨gm, tg, N, N2, hv, rw, r, rk, xi, wh, wk, gw, ga2, ga3, ga4, ga5, g0, g1, g2, ft, vv, by9, iv, m9, w9, nu, wb, bb, ke, kk, kf, so, zz, el, out, hLF, hP, hD⟩ := hLI
  obtain ⟨hN, hr, hwk, hri, h9, hN2, hr2, hwk2, hri2, h92, hiv, hgt, hzz, hsd⟩ := hLF
  have hx := C.1
  have hb := C.2.1
  have hown := C.2.2.2.2.2.1
  have hts := C.2.2.2.2.2.2
  have hA : ∀ q : Nat, s.heap.size ≤ q → (fun q : Nat => s.heap.size ≤ q) q := fun _ h => h
  generalize hT : (SL sh hv PT 8 ++ (RL G rw el PT 8 ++ tg)) = T at hP hD
  have htT : ∀ q ∈ tg, q ∈ T := fun q hq => by rw [← hT]; exact List.mem_append_right _ (List.mem_append_right _ hq)
  have hP : PP G ([(ax, xO xa xi), (xa 0, fO fn r), (fn 0, qA G 3 9 wh), (fn 1, iA G 9 (fA r 2)), (fn 2, iA G 9 (fA r 3)), (fn 3, iA G 9 (fA r 4)), (fn 4, iA G 9 (fA r 5)), (xa 1, fO fk rk), (fk 0, qA G 3 9 wk), (fk 1, iA G 9 (fA rk 2)), (fk 2, iA G 9 (fA rk 3)), (fk 3, iA G 9 (fA rk 4)), (fk 4, iA G 9 (fA rk 5)), (xa 2, fR fm g0 g1 g2), (fm 0, qA G 3 9 gw), (fm 1, iA G 9 ga2), (fm 2, iA G 9 ga3), (fm 3, iA G 9 ga4), (fm 4, iA G 9 ga5), (xa 4, qA G 4 100 ft), (xa 5, iA G 1280 vv), (xa 6, iA G 8 by9), (xa 8, qA G 5 8 (shf sh)), (am, mO ad iv), (ad 0, iA G 57 r), (ad 1, iA G 57 m9), (ad 2, iA G 57 rk), (ad 3, iA G 57 w9), (ad 8, iA G 4 nu), (ad 9, iA G 8 wb), (ad 10, iA G 8 bb), (ad 13, iA G 8 ke), (ad 14, iA G 8 kk), (ad 15, iA G 8 kf), (ad 16, iA G 8 so), (ad 17, iA G 8 (nIf zz)), (ad 18, iA G 800 el), (ao, lA G 1 out)] ++ T) H := hP
  have hD : va_D (fun q : Nat => s.heap.size ≤ q) ([(ax, xO xa xi), (xa 0, fO fn r), (fn 0, qA G 3 9 wh), (fn 1, iA G 9 (fA r 2)), (fn 2, iA G 9 (fA r 3)), (fn 3, iA G 9 (fA r 4)), (fn 4, iA G 9 (fA r 5)), (xa 1, fO fk rk), (fk 0, qA G 3 9 wk), (fk 1, iA G 9 (fA rk 2)), (fk 2, iA G 9 (fA rk 3)), (fk 3, iA G 9 (fA rk 4)), (fk 4, iA G 9 (fA rk 5)), (xa 2, fR fm g0 g1 g2), (fm 0, qA G 3 9 gw), (fm 1, iA G 9 ga2), (fm 2, iA G 9 ga3), (fm 3, iA G 9 ga4), (fm 4, iA G 9 ga5), (xa 4, qA G 4 100 ft), (xa 5, iA G 1280 vv), (xa 6, iA G 8 by9), (xa 8, qA G 5 8 (shf sh)), (am, mO ad iv), (ad 0, iA G 57 r), (ad 1, iA G 57 m9), (ad 2, iA G 57 rk), (ad 3, iA G 57 w9), (ad 8, iA G 4 nu), (ad 9, iA G 8 wb), (ad 10, iA G 8 bb), (ad 13, iA G 8 ke), (ad 14, iA G 8 kk), (ad 15, iA G 8 kf), (ad 16, iA G 8 so), (ad 17, iA G 8 (nIf zz)), (ad 18, iA G 800 el), (ao, lA G 1 out)] ++ T) := hD
  refine lv_aload_n hx hb dL_law_934 rfl (lv_at hl 3 rfl) ?_
  refine lv_aload_n hx hb dL_law_935 rfl (lv_at hl 4 rfl) ?_
  refine lv_iload hx hb dL_law_936 (lv_at hl 0 rfl) ?_
  refine lv_iconst (v := 1) hx hb dL_law_938 (by decide) ?_
  refine n_iadd hx hb i 1 dL_law_939 ?_
  refine va_sld (i := nI (i + 1)) hx hb hX hbl (Nat.not_le.mpr hbl) hS (vp_in_nI (by omega) (by omega)) dL_law_940 ?_
  refine n_eqi (y := xs (i + 1)) (congrArg xs (nI_clamp (by omega))) ?_
  refine c_Vk (rest := []) C (metX1_shares l G ax xa xi fn gm wh r N (xs (i + 1)) (by omega) (hr) (hwk) (hri.shs (by omega))) 1 (lw_V q703 q704 q705 q39 q706) (by decide +kernel) ⟨rfl, rfl⟩ ⟨(Nat.le_of_ble_eq_true rfl), (Nat.le_of_ble_eq_true rfl)⟩ (KG.call) (va_recv hK.1 hP (ci := 1) (q0 := 0) rfl rfl) ((tl_P hP).sub (ws' := [(ax, xO xa xi), (xa 0, fO fn r), (fn 0, qA G 3 9 wh), (fn 1, iA G 9 (fA r 2)), (fn 2, iA G 9 (fA r 3)), (fn 3, iA G 9 (fA r 4)), (fn 4, iA G 9 (fA r 5))]) [0, 1, 2, 3, 4, 5, 6] rfl) (KG.at hK (hgt.GP (G0_GP G H) hP (fun q hq => List.mem_append_right _ (htT q hq)))) hl rfl rfl (Nat.le_of_ble_eq_true rfl) ⟨(by omega), (by omega)⟩ dL_law_941 ?_
  refine lv_aload_n hx hb dL_law_944 rfl (lv_at hl 2 rfl) ?_
  refine lv_aload_n hx hb dL_law_945 rfl (lv_at hl 4 rfl) ?_
  refine lv_iload hx hb dL_law_946 (lv_at hl 0 rfl) ?_
  refine lv_iconst (v := 1) hx hb dL_law_948 (by decide) ?_
  refine n_iadd hx hb i 1 dL_law_949 ?_
  refine va_sld (i := nI (i + 1)) hx hb hX hbl (Nat.not_le.mpr hbl) hS (vp_in_nI (by omega) (by omega)) dL_law_950 ?_
  refine n_eqi (y := xs (i + 1)) (congrArg xs (nI_clamp (by omega))) ?_
  refine c_V (rest := [.int (sSharesA r N (xs (i + 1)))]) C (metX4_shares l G am ad iv r N (xs (i + 1)) (by omega) (hr)) 1 (lw_V q1330 q1331 q1332 q42 q1333) (by decide +kernel) ⟨rfl, rfl⟩ ⟨(Nat.le_of_ble_eq_true rfl), (Nat.le_of_ble_eq_true rfl)⟩ (KM_mv G) (va_recv hK.1 hP (ci := 0) (q0 := 23) rfl rfl) ((tl_P hP).sub (ws' := [(am, mO ad iv), (ad 0, iA G 57 r)]) [23, 24] rfl) hK.1 hl rfl rfl (Nat.le_of_ble_eq_true rfl) ⟨(by omega), (by omega)⟩ dL_law_951 ?_
  refine lv_icmp_eq (x := sSharesA r N (xs (i + 1))) (y := sSharesA r N (xs (i + 1))) (tgt := 1584) hx hb dL_law_954 (by decide) (fun c_1 => ?_) (fun c_1 => absurd c_1 ((fun q => q (rfl))))
  have hP : PP G ((LW G ax am ao xa fn fk fm sh ad xi r wh rk wk gw ga2 ga3 ga4 ga5 g0 g1 g2 ft vv by9 iv r m9 rk w9 nu wb bb ke kk kf so zz el out) ++ T) H := hP.part [0, 1, 2, 3, 4, 5, 6, 7, 8, 9, 10, 11, 12, 13, 14, 15, 16, 17, 18, 19, 20, 21, 22, 23, 24, 25, 26, 27, 28, 29, 30, 31, 32, 33, 34, 35, 36, 37] rfl
  have hD : va_D (fun q : Nat => s.heap.size ≤ q) ((LW G ax am ao xa fn fk fm sh ad xi r wh rk wk gw ga2 ga3 ga4 ga5 g0 g1 g2 ft vv by9 iv r m9 rk w9 nu wb bb ke kk kf so zz el out) ++ T) := hD.part [0, 1, 2, 3, 4, 5, 6, 7, 8, 9, 10, 11, 12, 13, 14, 15, 16, 17, 18, 19, 20, 21, 22, 23, 24, 25, 26, 27, 28, 29, 30, 31, 32, 33, 34, 35, 36, 37] (by decide) rfl
  subst hT
  refine W.widen (k := cells + 1010) (n := slots + 5500) (by omega) (by omega) ?_
  exact kont H locs ⟨gm, tg, N, N2, hv, rw, r, rk, xi, wh, wk, gw, ga2, ga3, ga4, ga5, g0, g1, g2, ft, vv, by9, iv, m9, w9, nu, wb, bb, ke, kk, kf, so, zz, el, out, ⟨hN, hr, hwk, hri, h9, hN2, hr2, hwk2, hri2, h92, hiv, hgt, hzz, hsd⟩, hP, hD⟩ hS ls hl

set_option maxHeartbeats 4000000 in
set_option maxRecDepth 100000 in
theorem law_23 {p : Program} {l : Launch} {e : Env} {s : State} {m : MethodId} {below : List Frame} {meth : Method} {c : Code} {b L : Nat} {xs : Nat → Int32} {Q : State → Prop} {G : GG} {ax am ao : Nat} {xa fn fk fm sh ad : Nat → Nat} (C : Cx p c meth s #[.ref b] m cL_law 8 (some .boolean) RX0) (hl9 : l.stackTraces = false) (hK : KX G s) (hM1 : MR1 s) (hZ : ZA (fun q : Nat => s.heap.size ≤ q) s) (hX : va_X b L xs s s.heap) (hbl : b < s.heap.size) (hL : L ≤ 384) (i : Nat) (hi : i + 6 ≤ L) {H : Heap} {locs : List Loc} {cells slots : Nat} (hcc : cells + 1010 ≤ room_1.cells) (hss : slots + 5500 ≤ room_1.slots) (hLI : LI G ax am ao xa fn fk fm sh ad (fun q : Nat => s.heap.size ≤ q) H) (hS : va_S (fun q : Nat => s.heap.size ≤ q) s.heap H locs) (kont : ∀ (H1 : Heap) (locs1 : List Loc), LI G ax am ao xa fn fk fm sh ad (fun q : Nat => s.heap.size ≤ q) H1 → va_S (fun q : Nat => s.heap.size ≤ q) s.heap H1 locs1 → ∀ ls : Array Slot, lv_has ls 8 [(4, .int (nI i)), (3, .ref ao), (2, .ref am), (1, .ref ax), (0, .ref b)] → W p l e room_1 s m #[.ref b] below meth c H1 locs1 (cells + 1010) (slots + 5500) Q (F0 m 1584 ls [])) : ∀ ls : Array Slot, lv_has ls 8 [(4, .int (nI i)), (3, .ref ao), (2, .ref am), (1, .ref ax), (0, .ref b)] → W p l e room_1 s m #[.ref b] below meth c H locs cells slots Q (F0 m 959 ls []) := by
  intro ls hl
  obtain ⟨gm, tg, N, N2, hv, rw, r, rk, xi, wh, wk, gw, ga2, ga3, ga4, ga5, g0, g1, g2, ft, vv, by9, iv, m9, w9, nu, wb, bb, ke, kk, kf, so, zz, el, out, hLF, hP, hD⟩ := hLI
  obtain ⟨hN, hr, hwk, hri, h9, hN2, hr2, hwk2, hri2, h92, hiv, hgt, hzz, hsd⟩ := hLF
  have hx := C.1
  have hb := C.2.1
  have hown := C.2.2.2.2.2.1
  have hts := C.2.2.2.2.2.2
  have hA : ∀ q : Nat, s.heap.size ≤ q → (fun q : Nat => s.heap.size ≤ q) q := fun _ h => h
  generalize hT : (SL sh hv PT 8 ++ (RL G rw el PT 8 ++ tg)) = T at hP hD
  have htT : ∀ q ∈ tg, q ∈ T := fun q hq => by rw [← hT]; exact List.mem_append_right _ (List.mem_append_right _ hq)
  have hP : PP G ([(ax, xO xa xi), (xa 0, fO fn r), (fn 0, qA G 3 9 wh), (fn 1, iA G 9 (fA r 2)), (fn 2, iA G 9 (fA r 3)), (fn 3, iA G 9 (fA r 4)), (fn 4, iA G 9 (fA r 5)), (xa 1, fO fk rk), (fk 0, qA G 3 9 wk), (fk 1, iA G 9 (fA rk 2)), (fk 2, iA G 9 (fA rk 3)), (fk 3, iA G 9 (fA rk 4)), (fk 4, iA G 9 (fA rk 5)), (xa 2, fR fm g0 g1 g2), (fm 0, qA G 3 9 gw), (fm 1, iA G 9 ga2), (fm 2, iA G 9 ga3), (fm 3, iA G 9 ga4), (fm 4, iA G 9 ga5), (xa 4, qA G 4 100 ft), (xa 5, iA G 1280 vv), (xa 6, iA G 8 by9), (xa 8, qA G 5 8 (shf sh)), (am, mO ad iv), (ad 0, iA G 57 r), (ad 1, iA G 57 m9), (ad 2, iA G 57 rk), (ad 3, iA G 57 w9), (ad 8, iA G 4 nu), (ad 9, iA G 8 wb), (ad 10, iA G 8 bb), (ad 13, iA G 8 ke), (ad 14, iA G 8 kk), (ad 15, iA G 8 kf), (ad 16, iA G 8 so), (ad 17, iA G 8 (nIf zz)), (ad 18, iA G 800 el), (ao, lA G 1 out)] ++ T) H := hP
  have hD : va_D (fun q : Nat => s.heap.size ≤ q) ([(ax, xO xa xi), (xa 0, fO fn r), (fn 0, qA G 3 9 wh), (fn 1, iA G 9 (fA r 2)), (fn 2, iA G 9 (fA r 3)), (fn 3, iA G 9 (fA r 4)), (fn 4, iA G 9 (fA r 5)), (xa 1, fO fk rk), (fk 0, qA G 3 9 wk), (fk 1, iA G 9 (fA rk 2)), (fk 2, iA G 9 (fA rk 3)), (fk 3, iA G 9 (fA rk 4)), (fk 4, iA G 9 (fA rk 5)), (xa 2, fR fm g0 g1 g2), (fm 0, qA G 3 9 gw), (fm 1, iA G 9 ga2), (fm 2, iA G 9 ga3), (fm 3, iA G 9 ga4), (fm 4, iA G 9 ga5), (xa 4, qA G 4 100 ft), (xa 5, iA G 1280 vv), (xa 6, iA G 8 by9), (xa 8, qA G 5 8 (shf sh)), (am, mO ad iv), (ad 0, iA G 57 r), (ad 1, iA G 57 m9), (ad 2, iA G 57 rk), (ad 3, iA G 57 w9), (ad 8, iA G 4 nu), (ad 9, iA G 8 wb), (ad 10, iA G 8 bb), (ad 13, iA G 8 ke), (ad 14, iA G 8 kk), (ad 15, iA G 8 kf), (ad 16, iA G 8 so), (ad 17, iA G 8 (nIf zz)), (ad 18, iA G 800 el), (ao, lA G 1 out)] ++ T) := hD
  refine lv_aload_n hx hb dL_law_959 rfl (lv_at hl 3 rfl) ?_
  refine lv_aload_n hx hb dL_law_960 rfl (lv_at hl 4 rfl) ?_
  refine lv_iload hx hb dL_law_961 (lv_at hl 0 rfl) ?_
  refine lv_iconst (v := 1) hx hb dL_law_963 (by decide) ?_
  refine n_iadd hx hb i 1 dL_law_964 ?_
  refine va_sld (i := nI (i + 1)) hx hb hX hbl (Nat.not_le.mpr hbl) hS (vp_in_nI (by omega) (by omega)) dL_law_965 ?_
  refine n_eqi (y := xs (i + 1)) (congrArg xs (nI_clamp (by omega))) ?_
  refine lv_aload_n hx hb dL_law_966 rfl (lv_at hl 4 rfl) ?_
  refine lv_iload hx hb dL_law_967 (lv_at hl 0 rfl) ?_
  refine lv_iconst (v := 2) hx hb dL_law_969 (by decide) ?_
  refine n_iadd hx hb i 2 dL_law_970 ?_
  refine va_sld (i := nI (i + 2)) hx hb hX hbl (Nat.not_le.mpr hbl) hS (vp_in_nI (by omega) (by omega)) dL_law_971 ?_
  refine n_eqi (y := xs (i + 2)) (congrArg xs (nI_clamp (by omega))) ?_
  refine lv_aload_n hx hb dL_law_972 rfl (lv_at hl 4 rfl) ?_
  refine lv_iload hx hb dL_law_973 (lv_at hl 0 rfl) ?_
  refine lv_iconst (v := 3) hx hb dL_law_975 (by decide) ?_
  refine n_iadd hx hb i 3 dL_law_976 ?_
  refine va_sld (i := nI (i + 3)) hx hb hX hbl (Nat.not_le.mpr hbl) hS (vp_in_nI (by omega) (by omega)) dL_law_977 ?_
  refine n_eqi (y := xs (i + 3)) (congrArg xs (nI_clamp (by omega))) ?_
  refine lv_aload_n hx hb dL_law_978 rfl (lv_at hl 4 rfl) ?_
  refine lv_iload hx hb dL_law_979 (lv_at hl 0 rfl) ?_
  refine lv_iconst (v := 4) hx hb dL_law_981 (by decide) ?_
  refine n_iadd hx hb i 4 dL_law_982 ?_
  refine va_sld (i := nI (i + 4)) hx hb hX hbl (Nat.not_le.mpr hbl) hS (vp_in_nI (by omega) (by omega)) dL_law_983 ?_
  refine n_eqi (y := xs (i + 4)) (congrArg xs (nI_clamp (by omega))) ?_
  refine c_Vlk (rest := []) C (metX1_crowd l G ax xa xi (xs (i + 1)) (xs (i + 2)) (xs (i + 3)) (xs (i + 4))) 4 (lw_V q715 q716 q717 q39 q718) (by decide +kernel) ⟨rfl, rfl⟩ ⟨(Nat.le_of_ble_eq_true rfl), (Nat.le_of_ble_eq_true rfl)⟩ ((fun _ _ _ _ h => (KM_mv G).2 _ _ _ _ h)) (va_recv hK.1 hP (ci := 1) (q0 := 0) rfl rfl) ((tl_P hP).sub (ws' := [(ax, xO xa xi)]) [0] rfl) (fun _ _ hW => (KM_mv G).1 _ _ hW hK.1) hl rfl rfl (Nat.le_of_ble_eq_true rfl) ⟨(by omega), (by omega)⟩ dL_law_984 ?_
  refine lv_aload_n hx hb dL_law_987 rfl (lv_at hl 2 rfl) ?_
  refine lv_aload_n hx hb dL_law_988 rfl (lv_at hl 4 rfl) ?_
  refine lv_iload hx hb dL_law_989 (lv_at hl 0 rfl) ?_
  refine lv_iconst (v := 1) hx hb dL_law_991 (by decide) ?_
  refine n_iadd hx hb i 1 dL_law_992 ?_
  refine va_sld (i := nI (i + 1)) hx hb hX hbl (Nat.not_le.mpr hbl) hS (vp_in_nI (by omega) (by omega)) dL_law_993 ?_
  refine n_eqi (y := xs (i + 1)) (congrArg xs (nI_clamp (by omega))) ?_
  refine lv_aload_n hx hb dL_law_994 rfl (lv_at hl 4 rfl) ?_
  refine lv_iload hx hb dL_law_995 (lv_at hl 0 rfl) ?_
  refine lv_iconst (v := 2) hx hb dL_law_997 (by decide) ?_
  refine n_iadd hx hb i 2 dL_law_998 ?_
  refine va_sld (i := nI (i + 2)) hx hb hX hbl (Nat.not_le.mpr hbl) hS (vp_in_nI (by omega) (by omega)) dL_law_999 ?_
  refine n_eqi (y := xs (i + 2)) (congrArg xs (nI_clamp (by omega))) ?_
  refine lv_aload_n hx hb dL_law_1000 rfl (lv_at hl 4 rfl) ?_
  refine lv_iload hx hb dL_law_1001 (lv_at hl 0 rfl) ?_
  refine lv_iconst (v := 3) hx hb dL_law_1003 (by decide) ?_
  refine n_iadd hx hb i 3 dL_law_1004 ?_
  refine va_sld (i := nI (i + 3)) hx hb hX hbl (Nat.not_le.mpr hbl) hS (vp_in_nI (by omega) (by omega)) dL_law_1005 ?_
  refine n_eqi (y := xs (i + 3)) (congrArg xs (nI_clamp (by omega))) ?_
  refine lv_aload_n hx hb dL_law_1006 rfl (lv_at hl 4 rfl) ?_
  refine lv_iload hx hb dL_law_1007 (lv_at hl 0 rfl) ?_
  refine lv_iconst (v := 4) hx hb dL_law_1009 (by decide) ?_
  refine n_iadd hx hb i 4 dL_law_1010 ?_
  refine va_sld (i := nI (i + 4)) hx hb hX hbl (Nat.not_le.mpr hbl) hS (vp_in_nI (by omega) (by omega)) dL_law_1011 ?_
  refine n_eqi (y := xs (i + 4)) (congrArg xs (nI_clamp (by omega))) ?_
  refine c_Vlk (rest := [.long (sCrowdX (xs (i + 1)) (xs (i + 2)) (xs (i + 3)) (xs (i + 4)))]) C (metX4_crowd l G am ad iv (xs (i + 1)) (xs (i + 2)) (xs (i + 3)) (xs (i + 4))) 4 (lw_V q1342 q1343 q1344 q42 q1345) (by decide +kernel) ⟨rfl, rfl⟩ ⟨(Nat.le_of_ble_eq_true rfl), (Nat.le_of_ble_eq_true rfl)⟩ ((fun _ _ _ _ h => (KM_mv G).2 _ _ _ _ h)) (va_recv hK.1 hP (ci := 0) (q0 := 23) rfl rfl) ((tl_P hP).sub (ws' := [(am, mO ad iv)]) [23] rfl) (fun _ _ hW => (KM_mv G).1 _ _ hW hK.1) hl rfl rfl (Nat.le_of_ble_eq_true rfl) ⟨(by omega), (by omega)⟩ dL_law_1012 ?_
  refine W.lcmp (x := sCrowdX (xs (i + 1)) (xs (i + 2)) (xs (i + 3)) (xs (i + 4))) (y := sCrowdA (xs (i + 1)) (xs (i + 2)) (xs (i + 3)) (xs (i + 4))) hx hb dL_law_1015 ?_
  refine lv_if_eq (x := lg_cmp (sCrowdX (xs (i + 1)) (xs (i + 2)) (xs (i + 3)) (xs (i + 4))) (sCrowdA (xs (i + 1)) (xs (i + 2)) (xs (i + 3)) (xs (i + 4)))) (tgt := 1584) hx hb dL_law_1016 (by decide) (fun c_1 => ?_) (fun c_1 => absurd c_1 ((fun q => q (by rw [sCrowd_eq]; exact lgc_0 _))))
  have hP : PP G ((LW G ax am ao xa fn fk fm sh ad xi r wh rk wk gw ga2 ga3 ga4 ga5 g0 g1 g2 ft vv by9 iv r m9 rk w9 nu wb bb ke kk kf so zz el out) ++ T) H := hP.part [0, 1, 2, 3, 4, 5, 6, 7, 8, 9, 10, 11, 12, 13, 14, 15, 16, 17, 18, 19, 20, 21, 22, 23, 24, 25, 26, 27, 28, 29, 30, 31, 32, 33, 34, 35, 36, 37] rfl
  have hD : va_D (fun q : Nat => s.heap.size ≤ q) ((LW G ax am ao xa fn fk fm sh ad xi r wh rk wk gw ga2 ga3 ga4 ga5 g0 g1 g2 ft vv by9 iv r m9 rk w9 nu wb bb ke kk kf so zz el out) ++ T) := hD.part [0, 1, 2, 3, 4, 5, 6, 7, 8, 9, 10, 11, 12, 13, 14, 15, 16, 17, 18, 19, 20, 21, 22, 23, 24, 25, 26, 27, 28, 29, 30, 31, 32, 33, 34, 35, 36, 37] (by decide) rfl
  subst hT
  refine W.widen (k := cells + 1010) (n := slots + 5500) (by omega) (by omega) ?_
  exact kont H locs ⟨gm, tg, N, N2, hv, rw, r, rk, xi, wh, wk, gw, ga2, ga3, ga4, ga5, g0, g1, g2, ft, vv, by9, iv, m9, w9, nu, wb, bb, ke, kk, kf, so, zz, el, out, ⟨hN, hr, hwk, hri, h9, hN2, hr2, hwk2, hri2, h92, hiv, hgt, hzz, hsd⟩, hP, hD⟩ hS ls hl

set_option maxHeartbeats 4000000 in
set_option maxRecDepth 100000 in
theorem law_24 {p : Program} {l : Launch} {e : Env} {s : State} {m : MethodId} {below : List Frame} {meth : Method} {c : Code} {b L : Nat} {xs : Nat → Int32} {Q : State → Prop} {G : GG} {ax am ao : Nat} {xa fn fk fm sh ad : Nat → Nat} (C : Cx p c meth s #[.ref b] m cL_law 8 (some .boolean) RX0) (hl9 : l.stackTraces = false) (hK : KX G s) (hM1 : MR1 s) (hZ : ZA (fun q : Nat => s.heap.size ≤ q) s) (hX : va_X b L xs s s.heap) (hbl : b < s.heap.size) (hL : L ≤ 384) (i : Nat) (hi : i + 6 ≤ L) {H : Heap} {locs : List Loc} {cells slots : Nat} (hcc : cells + 1010 ≤ room_1.cells) (hss : slots + 5500 ≤ room_1.slots) (hLI : LI G ax am ao xa fn fk fm sh ad (fun q : Nat => s.heap.size ≤ q) H) (hS : va_S (fun q : Nat => s.heap.size ≤ q) s.heap H locs) (kont : ∀ (H1 : Heap) (locs1 : List Loc), LI G ax am ao xa fn fk fm sh ad (fun q : Nat => s.heap.size ≤ q) H1 → va_S (fun q : Nat => s.heap.size ≤ q) s.heap H1 locs1 → ∀ ls : Array Slot, lv_has ls 8 [(4, .int (nI i)), (3, .ref ao), (2, .ref am), (1, .ref ax), (0, .ref b)] → W p l e room_1 s m #[.ref b] below meth c H1 locs1 (cells + 1010) (slots + 5500) Q (F0 m 1584 ls [])) : ∀ ls : Array Slot, lv_has ls 8 [(4, .int (nI i)), (3, .ref ao), (2, .ref am), (1, .ref ax), (0, .ref b)] → W p l e room_1 s m #[.ref b] below meth c H locs cells slots Q (F0 m 1021 ls []) := by
  intro ls hl
  obtain ⟨gm, tg, N, N2, hv, rw, r, rk, xi, wh, wk, gw, ga2, ga3, ga4, ga5, g0, g1, g2, ft, vv, by9, iv, m9, w9, nu, wb, bb, ke, kk, kf, so, zz, el, out, hLF, hP, hD⟩ := hLI
  obtain ⟨hN, hr, hwk, hri, h9, hN2, hr2, hwk2, hri2, h92, hiv, hgt, hzz, hsd⟩ := hLF
  have hx := C.1
  have hb := C.2.1
  have hown := C.2.2.2.2.2.1
  have hts := C.2.2.2.2.2.2
  have hA : ∀ q : Nat, s.heap.size ≤ q → (fun q : Nat => s.heap.size ≤ q) q := fun _ h => h
  generalize hT : (SL sh hv PT 8 ++ (RL G rw el PT 8 ++ tg)) = T at hP hD
  have htT : ∀ q ∈ tg, q ∈ T := fun q hq => by rw [← hT]; exact List.mem_append_right _ (List.mem_append_right _ hq)
  obtain ⟨hs, hs9, hs1, -, -⟩ := hri.hun N (Nat.le_refl N)
  have hP : PP G ([(ax, xO xa xi), (xa 0, fO fn r), (fn 0, qA G 3 9 wh), (fn 1, iA G 9 (fA r 2)), (fn 2, iA G 9 (fA r 3)), (fn 3, iA G 9 (fA r 4)), (fn 4, iA G 9 (fA r 5)), (xa 1, fO fk rk), (fk 0, qA G 3 9 wk), (fk 1, iA G 9 (fA rk 2)), (fk 2, iA G 9 (fA rk 3)), (fk 3, iA G 9 (fA rk 4)), (fk 4, iA G 9 (fA rk 5)), (xa 2, fR fm g0 g1 g2), (fm 0, qA G 3 9 gw), (fm 1, iA G 9 ga2), (fm 2, iA G 9 ga3), (fm 3, iA G 9 ga4), (fm 4, iA G 9 ga5), (xa 4, qA G 4 100 ft), (xa 5, iA G 1280 vv), (xa 6, iA G 8 by9), (xa 8, qA G 5 8 (shf sh)), (am, mO ad iv), (ad 0, iA G 57 r), (ad 1, iA G 57 m9), (ad 2, iA G 57 rk), (ad 3, iA G 57 w9), (ad 8, iA G 4 nu), (ad 9, iA G 8 wb), (ad 10, iA G 8 bb), (ad 13, iA G 8 ke), (ad 14, iA G 8 kk), (ad 15, iA G 8 kf), (ad 16, iA G 8 so), (ad 17, iA G 8 (nIf zz)), (ad 18, iA G 800 el), (ao, lA G 1 out)] ++ T) H := hP
  have hD : va_D (fun q : Nat => s.heap.size ≤ q) ([(ax, xO xa xi), (xa 0, fO fn r), (fn 0, qA G 3 9 wh), (fn 1, iA G 9 (fA r 2)), (fn 2, iA G 9 (fA r 3)), (fn 3, iA G 9 (fA r 4)), (fn 4, iA G 9 (fA r 5)), (xa 1, fO fk rk), (fk 0, qA G 3 9 wk), (fk 1, iA G 9 (fA rk 2)), (fk 2, iA G 9 (fA rk 3)), (fk 3, iA G 9 (fA rk 4)), (fk 4, iA G 9 (fA rk 5)), (xa 2, fR fm g0 g1 g2), (fm 0, qA G 3 9 gw), (fm 1, iA G 9 ga2), (fm 2, iA G 9 ga3), (fm 3, iA G 9 ga4), (fm 4, iA G 9 ga5), (xa 4, qA G 4 100 ft), (xa 5, iA G 1280 vv), (xa 6, iA G 8 by9), (xa 8, qA G 5 8 (shf sh)), (am, mO ad iv), (ad 0, iA G 57 r), (ad 1, iA G 57 m9), (ad 2, iA G 57 rk), (ad 3, iA G 57 w9), (ad 8, iA G 4 nu), (ad 9, iA G 8 wb), (ad 10, iA G 8 bb), (ad 13, iA G 8 ke), (ad 14, iA G 8 kk), (ad 15, iA G 8 kf), (ad 16, iA G 8 so), (ad 17, iA G 8 (nIf zz)), (ad 18, iA G 800 el), (ao, lA G 1 out)] ++ T) := hD
  refine lv_aload_n hx hb dL_law_1021 rfl (lv_at hl 3 rfl) ?_
  refine lv_aload_n hx hb dL_law_1022 rfl (lv_at hl 4 rfl) ?_
  refine lv_iload hx hb dL_law_1023 (lv_at hl 0 rfl) ?_
  refine lv_iconst (v := 1) hx hb dL_law_1025 (by decide) ?_
  refine n_iadd hx hb i 1 dL_law_1026 ?_
  refine va_sld (i := nI (i + 1)) hx hb hX hbl (Nat.not_le.mpr hbl) hS (vp_in_nI (by omega) (by omega)) dL_law_1027 ?_
  refine n_eqi (y := xs (i + 1)) (congrArg xs (nI_clamp (by omega))) ?_
  refine c_Vlk (rest := []) C (metX1_mean l G ax xa xi fn gm wh r N hs (xs (i + 1)) (by omega) (hr) (hwk) (hs1) (by omega)) 1 (lw_V q732 q733 q734 q39 q735) (by decide +kernel) ⟨rfl, rfl⟩ ⟨(Nat.le_of_ble_eq_true rfl), (Nat.le_of_ble_eq_true rfl)⟩ (KG.call) (va_recv hK.1 hP (ci := 1) (q0 := 0) rfl rfl) ((tl_P hP).sub (ws' := [(ax, xO xa xi), (xa 0, fO fn r), (fn 0, qA G 3 9 wh), (fn 1, iA G 9 (fA r 2)), (fn 2, iA G 9 (fA r 3)), (fn 3, iA G 9 (fA r 4)), (fn 4, iA G 9 (fA r 5))]) [0, 1, 2, 3, 4, 5, 6] rfl) (KG.at hK (hgt.GP (G0_GP G H) hP (fun q hq => List.mem_append_right _ (htT q hq)))) hl rfl rfl (Nat.le_of_ble_eq_true rfl) ⟨(by omega), (by omega)⟩ dL_law_1028 ?_
  refine lv_aload_n hx hb dL_law_1031 rfl (lv_at hl 2 rfl) ?_
  refine lv_aload_n hx hb dL_law_1032 rfl (lv_at hl 4 rfl) ?_
  refine lv_iload hx hb dL_law_1033 (lv_at hl 0 rfl) ?_
  refine lv_iconst (v := 1) hx hb dL_law_1035 (by decide) ?_
  refine n_iadd hx hb i 1 dL_law_1036 ?_
  refine va_sld (i := nI (i + 1)) hx hb hX hbl (Nat.not_le.mpr hbl) hS (vp_in_nI (by omega) (by omega)) dL_law_1037 ?_
  refine n_eqi (y := xs (i + 1)) (congrArg xs (nI_clamp (by omega))) ?_
  refine c_Vlk (rest := [.long (sMeanX hs N (xs (i + 1)))]) C (metX4_mean l G am ad iv r N hs (xs (i + 1)) (by omega) (hr) (hs1) (by omega) (by omega)) 1 (lw_V q1353 q1354 q1355 q42 q1356) (by decide +kernel) ⟨rfl, rfl⟩ ⟨(Nat.le_of_ble_eq_true rfl), (Nat.le_of_ble_eq_true rfl)⟩ ((fun _ _ _ _ h => (KM_mv G).2 _ _ _ _ h)) (va_recv hK.1 hP (ci := 0) (q0 := 23) rfl rfl) ((tl_P hP).sub (ws' := [(am, mO ad iv), (ad 0, iA G 57 r)]) [23, 24] rfl) (fun _ _ hW => (KM_mv G).1 _ _ hW hK.1) hl rfl rfl (Nat.le_of_ble_eq_true rfl) ⟨(by omega), (by omega)⟩ dL_law_1038 ?_
  refine W.lcmp (x := sMeanX hs N (xs (i + 1))) (y := sMeanA hs N (xs (i + 1))) hx hb dL_law_1041 ?_
  refine lv_if_eq (x := lg_cmp (sMeanX hs N (xs (i + 1))) (sMeanA hs N (xs (i + 1)))) (tgt := 1584) hx hb dL_law_1042 (by decide) (fun c_1 => ?_) (fun c_1 => absurd c_1 ((fun q => q (by rw [sMean_eq hs9]; exact lgc_0 _))))
  have hP : PP G ((LW G ax am ao xa fn fk fm sh ad xi r wh rk wk gw ga2 ga3 ga4 ga5 g0 g1 g2 ft vv by9 iv r m9 rk w9 nu wb bb ke kk kf so zz el out) ++ T) H := hP.part [0, 1, 2, 3, 4, 5, 6, 7, 8, 9, 10, 11, 12, 13, 14, 15, 16, 17, 18, 19, 20, 21, 22, 23, 24, 25, 26, 27, 28, 29, 30, 31, 32, 33, 34, 35, 36, 37] rfl
  have hD : va_D (fun q : Nat => s.heap.size ≤ q) ((LW G ax am ao xa fn fk fm sh ad xi r wh rk wk gw ga2 ga3 ga4 ga5 g0 g1 g2 ft vv by9 iv r m9 rk w9 nu wb bb ke kk kf so zz el out) ++ T) := hD.part [0, 1, 2, 3, 4, 5, 6, 7, 8, 9, 10, 11, 12, 13, 14, 15, 16, 17, 18, 19, 20, 21, 22, 23, 24, 25, 26, 27, 28, 29, 30, 31, 32, 33, 34, 35, 36, 37] (by decide) rfl
  subst hT
  refine W.widen (k := cells + 1010) (n := slots + 5500) (by omega) (by omega) ?_
  exact kont H locs ⟨gm, tg, N, N2, hv, rw, r, rk, xi, wh, wk, gw, ga2, ga3, ga4, ga5, g0, g1, g2, ft, vv, by9, iv, m9, w9, nu, wb, bb, ke, kk, kf, so, zz, el, out, ⟨hN, hr, hwk, hri, h9, hN2, hr2, hwk2, hri2, h92, hiv, hgt, hzz, hsd⟩, hP, hD⟩ hS ls hl
