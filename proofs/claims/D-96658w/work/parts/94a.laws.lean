/-! LAW: cases that ask a shelf (printed by tools/mklaws.py) -/
set_option maxHeartbeats 4000000 in
set_option maxRecDepth 100000 in
theorem law_38 {p : Program} {l : Launch} {e : Env} {s : State} {m : MethodId} {below : List Frame} {meth : Method} {c : Code} {b L : Nat} {xs : Nat → Int32} {Q : State → Prop} {G : GG} {ax am ao : Nat} {xa fn fk fm sh ad : Nat → Nat} (C : Cx p c meth s #[.ref b] m cL_law 8 (some .boolean) RX0) (hl9 : l.stackTraces = false) (hK : KX G s) (hM1 : MR1 s) (hZ : ZA (fun q : Nat => s.heap.size ≤ q) s) (hX : va_X b L xs s s.heap) (hbl : b < s.heap.size) (hL : L ≤ 384) (i : Nat) (hi : i + 6 ≤ L) {H : Heap} {locs : List Loc} {cells slots : Nat} (hcc : cells + 1010 ≤ room_1.cells) (hss : slots + 5500 ≤ room_1.slots) (hLI : LI G ax am ao xa fn fk fm sh ad (fun q : Nat => s.heap.size ≤ q) H) (hS : va_S (fun q : Nat => s.heap.size ≤ q) s.heap H locs) (kont : ∀ (H1 : Heap) (locs1 : List Loc), LI G ax am ao xa fn fk fm sh ad (fun q : Nat => s.heap.size ≤ q) H1 → va_S (fun q : Nat => s.heap.size ≤ q) s.heap H1 locs1 → ∀ ls : Array Slot, lv_has ls 8 [(4, .int (nI i)), (3, .ref ao), (2, .ref am), (1, .ref ax), (0, .ref b)] → W p l e room_1 s m #[.ref b] below meth c H1 locs1 (cells + 1010) (slots + 5500) Q (F0 m 1584 ls [])) : ∀ ls : Array Slot, lv_has ls 8 [(4, .int (nI i)), (3, .ref ao), (2, .ref am), (1, .ref ax), (0, .ref b)] → W p l e room_1 s m #[.ref b] below meth c H locs cells slots Q (F0 m 1534 ls []) := by
  intro ls hl
  obtain ⟨gm, tg, N, N2, hv, rw, r, rk, xi, wh, wk, gw, ga2, ga3, ga4, ga5, g0, g1, g2, ft, vv, by9, iv, m9, w9, nu, wb, bb, ke, kk, kf, so, zz, el, out, hLF, hP, hD⟩ := hLI
  obtain ⟨hN, hr, hwk, hri, h9, hN2, hr2, hwk2, hri2, h92, hiv, hgt, hzz, hsd⟩ := hLF
  have hx := C.1
  have hb := C.2.1
  have hown := C.2.2.2.2.2.1
  have hts := C.2.2.2.2.2.2
  have hA : ∀ q : Nat, s.heap.size ≤ q → (fun q : Nat => s.heap.size ≤ q) q := fun _ h => h
  by_cases hbad : sIn (xs (i + 1)) 0 7 = false
  · generalize hT : (SL sh hv PT 8 ++ (RL G rw el PT 8 ++ tg)) = T at hP hD
    have htT : ∀ q ∈ tg, q ∈ T := fun q hq => by rw [← hT]; exact List.mem_append_right _ (List.mem_append_right _ hq)
    have hP : PP G ([(ax, xO xa xi), (xa 0, fO fn r), (fn 0, qA G 3 9 wh), (fn 1, iA G 9 (fA r 2)), (fn 2, iA G 9 (fA r 3)), (fn 3, iA G 9 (fA r 4)), (fn 4, iA G 9 (fA r 5)), (xa 1, fO fk rk), (fk 0, qA G 3 9 wk), (fk 1, iA G 9 (fA rk 2)), (fk 2, iA G 9 (fA rk 3)), (fk 3, iA G 9 (fA rk 4)), (fk 4, iA G 9 (fA rk 5)), (xa 2, fR fm g0 g1 g2), (fm 0, qA G 3 9 gw), (fm 1, iA G 9 ga2), (fm 2, iA G 9 ga3), (fm 3, iA G 9 ga4), (fm 4, iA G 9 ga5), (xa 4, qA G 4 100 ft), (xa 5, iA G 1280 vv), (xa 6, iA G 8 by9), (xa 8, qA G 5 8 (shf sh)), (am, mO ad iv), (ad 0, iA G 57 r), (ad 1, iA G 57 m9), (ad 2, iA G 57 rk), (ad 3, iA G 57 w9), (ad 8, iA G 4 nu), (ad 9, iA G 8 wb), (ad 10, iA G 8 bb), (ad 13, iA G 8 ke), (ad 14, iA G 8 kk), (ad 15, iA G 8 kf), (ad 16, iA G 8 so), (ad 17, iA G 8 (nIf zz)), (ad 18, iA G 800 el), (ao, lA G 1 out)] ++ T) H := hP
    have hD : va_D (fun q : Nat => s.heap.size ≤ q) ([(ax, xO xa xi), (xa 0, fO fn r), (fn 0, qA G 3 9 wh), (fn 1, iA G 9 (fA r 2)), (fn 2, iA G 9 (fA r 3)), (fn 3, iA G 9 (fA r 4)), (fn 4, iA G 9 (fA r 5)), (xa 1, fO fk rk), (fk 0, qA G 3 9 wk), (fk 1, iA G 9 (fA rk 2)), (fk 2, iA G 9 (fA rk 3)), (fk 3, iA G 9 (fA rk 4)), (fk 4, iA G 9 (fA rk 5)), (xa 2, fR fm g0 g1 g2), (fm 0, qA G 3 9 gw), (fm 1, iA G 9 ga2), (fm 2, iA G 9 ga3), (fm 3, iA G 9 ga4), (fm 4, iA G 9 ga5), (xa 4, qA G 4 100 ft), (xa 5, iA G 1280 vv), (xa 6, iA G 8 by9), (xa 8, qA G 5 8 (shf sh)), (am, mO ad iv), (ad 0, iA G 57 r), (ad 1, iA G 57 m9), (ad 2, iA G 57 rk), (ad 3, iA G 57 w9), (ad 8, iA G 4 nu), (ad 9, iA G 8 wb), (ad 10, iA G 8 bb), (ad 13, iA G 8 ke), (ad 14, iA G 8 kk), (ad 15, iA G 8 kf), (ad 16, iA G 8 so), (ad 17, iA G 8 (nIf zz)), (ad 18, iA G 800 el), (ao, lA G 1 out)] ++ T) := hD
    refine lv_aload_n hx hb dL_law_1534 rfl (lv_at hl 3 rfl) ?_
    refine lv_aload_n hx hb dL_law_1535 rfl (lv_at hl 4 rfl) ?_
    refine lv_iload hx hb dL_law_1536 (lv_at hl 0 rfl) ?_
    refine lv_iconst (v := 1) hx hb dL_law_1538 (by decide) ?_
    refine n_iadd hx hb i 1 dL_law_1539 ?_
    refine va_sld (i := nI (i + 1)) hx hb hX hbl (Nat.not_le.mpr hbl) hS (vp_in_nI (by omega) (by omega)) dL_law_1540 ?_
    refine n_eqi (y := xs (i + 1)) (congrArg xs (nI_clamp (by omega))) ?_
    refine c_VWhP (wr := [(xa 0, fO fn r), (fn 0, qA G 3 9 wh), (fn 1, iA G 9 (fA r 2)), (fn 2, iA G 9 (fA r 3)), (fn 3, iA G 9 (fA r 4)), (fn 4, iA G 9 (fA r 5)), (xa 1, fO fk rk), (fk 0, qA G 3 9 wk), (fk 1, iA G 9 (fA rk 2)), (fk 2, iA G 9 (fA rk 3)), (fk 3, iA G 9 (fA rk 4)), (fk 4, iA G 9 (fA rk 5)), (xa 2, fR fm g0 g1 g2), (fm 0, qA G 3 9 gw), (fm 1, iA G 9 ga2), (fm 2, iA G 9 ga3), (fm 3, iA G 9 ga4), (fm 4, iA G 9 ga5), (xa 4, qA G 4 100 ft), (xa 5, iA G 1280 vv), (xa 6, iA G 8 by9), (xa 8, qA G 5 8 (shf sh)), (am, mO ad iv), (ad 0, iA G 57 r), (ad 1, iA G 57 m9), (ad 2, iA G 57 rk), (ad 3, iA G 57 w9), (ad 8, iA G 4 nu), (ad 9, iA G 8 wb), (ad 10, iA G 8 bb), (ad 13, iA G 8 ke), (ad 14, iA G 8 kk), (ad 15, iA G 8 kf), (ad 16, iA G 8 so), (ad 17, iA G 8 (nIf zz)), (ad 18, iA G 800 el), (ao, lA G 1 out)]) (rest := []) C (metX1_cost_b l G ax xa xi sh gm (xs (i + 1)) hl9 (gt_NG9 hgt (G0_GA _) hD (isC := [0]) rfl htT) (hbad)) 1 (lw_VW q918 q919 q920 q39 q921) (by decide +kernel) ⟨rfl, rfl⟩ ⟨(Nat.le_of_ble_eq_true rfl), (Nat.le_of_ble_eq_true rfl)⟩ (KE.call) (KE.at hK (hgt.GP (G0_GP G H) hP (fun q hq => List.mem_append_right _ (htT q hq))) hM1 hZ hS) (va_recv hK.1 hP (ci := 1) (q0 := 0) rfl rfl) hA hP hD hS [0] [1, 2, 3, 4, 5, 6, 7, 8, 9, 10, 11, 12, 13, 14, 15, 16, 17, 18, 19, 20, 21, 22, 23, 24, 25, 26, 27, 28, 29, 30, 31, 32, 33, 34, 35, 36, 37] rfl rfl rfl rfl (by decide) hl rfl rfl (Nat.le_of_ble_eq_true rfl) ⟨(by omega), (by omega)⟩ dL_law_1541 (fun r_1 w1 H locs hq_2 hP hD hS => ?_)
    obtain ⟨rfl, rfl⟩ := hq_2
    have hP : PP G ([(xa 0, fO fn r), (fn 0, qA G 3 9 wh), (fn 1, iA G 9 (fA r 2)), (fn 2, iA G 9 (fA r 3)), (fn 3, iA G 9 (fA r 4)), (fn 4, iA G 9 (fA r 5)), (xa 1, fO fk rk), (fk 0, qA G 3 9 wk), (fk 1, iA G 9 (fA rk 2)), (fk 2, iA G 9 (fA rk 3)), (fk 3, iA G 9 (fA rk 4)), (fk 4, iA G 9 (fA rk 5)), (xa 2, fR fm g0 g1 g2), (fm 0, qA G 3 9 gw), (fm 1, iA G 9 ga2), (fm 2, iA G 9 ga3), (fm 3, iA G 9 ga4), (fm 4, iA G 9 ga5), (xa 4, qA G 4 100 ft), (xa 5, iA G 1280 vv), (xa 6, iA G 8 by9), (xa 8, qA G 5 8 (shf sh)), (am, mO ad iv), (ad 0, iA G 57 r), (ad 1, iA G 57 m9), (ad 2, iA G 57 rk), (ad 3, iA G 57 w9), (ad 8, iA G 4 nu), (ad 9, iA G 8 wb), (ad 10, iA G 8 bb), (ad 13, iA G 8 ke), (ad 14, iA G 8 kk), (ad 15, iA G 8 kf), (ad 16, iA G 8 so), (ad 17, iA G 8 (nIf zz)), (ad 18, iA G 800 el), (ao, lA G 1 out), (ax, xO xa xi)] ++ T) H := hP
    have hD : va_D (fun q : Nat => s.heap.size ≤ q) ([(xa 0, fO fn r), (fn 0, qA G 3 9 wh), (fn 1, iA G 9 (fA r 2)), (fn 2, iA G 9 (fA r 3)), (fn 3, iA G 9 (fA r 4)), (fn 4, iA G 9 (fA r 5)), (xa 1, fO fk rk), (fk 0, qA G 3 9 wk), (fk 1, iA G 9 (fA rk 2)), (fk 2, iA G 9 (fA rk 3)), (fk 3, iA G 9 (fA rk 4)), (fk 4, iA G 9 (fA rk 5)), (xa 2, fR fm g0 g1 g2), (fm 0, qA G 3 9 gw), (fm 1, iA G 9 ga2), (fm 2, iA G 9 ga3), (fm 3, iA G 9 ga4), (fm 4, iA G 9 ga5), (xa 4, qA G 4 100 ft), (xa 5, iA G 1280 vv), (xa 6, iA G 8 by9), (xa 8, qA G 5 8 (shf sh)), (am, mO ad iv), (ad 0, iA G 57 r), (ad 1, iA G 57 m9), (ad 2, iA G 57 rk), (ad 3, iA G 57 w9), (ad 8, iA G 4 nu), (ad 9, iA G 8 wb), (ad 10, iA G 8 bb), (ad 13, iA G 8 ke), (ad 14, iA G 8 kk), (ad 15, iA G 8 kf), (ad 16, iA G 8 so), (ad 17, iA G 8 (nIf zz)), (ad 18, iA G 800 el), (ao, lA G 1 out), (ax, xO xa xi)] ++ T) := hD
    refine lv_aload_n hx hb dL_law_1544 rfl (lv_at hl 2 rfl) ?_
    refine lv_aload_n hx hb dL_law_1545 rfl (lv_at hl 4 rfl) ?_
    refine lv_iload hx hb dL_law_1546 (lv_at hl 0 rfl) ?_
    refine lv_iconst (v := 1) hx hb dL_law_1548 (by decide) ?_
    refine n_iadd hx hb i 1 dL_law_1549 ?_
    refine va_sld (i := nI (i + 1)) hx hb hX hbl (Nat.not_le.mpr hbl) hS (vp_in_nI (by omega) (by omega)) dL_law_1550 ?_
    refine n_eqi (y := xs (i + 1)) (congrArg xs (nI_clamp (by omega))) ?_
    refine c_V (rest := [.int (-1)]) C (metX4_cost l G am ad iv ke kk kf (xs (i + 1))) 1 (lw_V q1424 q1425 q1426 q42 q1427) (by decide +kernel) ⟨rfl, rfl⟩ ⟨(Nat.le_of_ble_eq_true rfl), (Nat.le_of_ble_eq_true rfl)⟩ (KM_mv G) (va_recv hK.1 hP (ci := 0) (q0 := 22) rfl rfl) ((tl_P hP).sub (ws' := [(am, mO ad iv), (ad 13, iA G 8 ke), (ad 14, iA G 8 kk), (ad 15, iA G 8 kf)]) [22, 30, 31, 32] rfl) hK.1 hl rfl rfl (Nat.le_of_ble_eq_true rfl) ⟨(by omega), (by omega)⟩ dL_law_1551 ?_
    refine lv_icmp_eq (x := -1) (y := sCostA ke kk kf (xs (i + 1))) (tgt := 1584) hx hb dL_law_1554 (by decide) (fun c_3 => ?_) (fun c_3 => absurd c_3 ((fun q => q (co_w (wk_b hbad) (by decide)))))
    have hP : PP G ((LW G ax am ao xa fn fk fm sh ad xi r wh rk wk gw ga2 ga3 ga4 ga5 g0 g1 g2 ft vv by9 iv r m9 rk w9 nu wb bb ke kk kf so zz el out) ++ T) H := hP.part [37, 0, 1, 2, 3, 4, 5, 6, 7, 8, 9, 10, 11, 12, 13, 14, 15, 16, 17, 18, 19, 20, 21, 22, 23, 24, 25, 26, 27, 28, 29, 30, 31, 32, 33, 34, 35, 36] rfl
    have hD : va_D (fun q : Nat => s.heap.size ≤ q) ((LW G ax am ao xa fn fk fm sh ad xi r wh rk wk gw ga2 ga3 ga4 ga5 g0 g1 g2 ft vv by9 iv r m9 rk w9 nu wb bb ke kk kf so zz el out) ++ T) := hD.part [37, 0, 1, 2, 3, 4, 5, 6, 7, 8, 9, 10, 11, 12, 13, 14, 15, 16, 17, 18, 19, 20, 21, 22, 23, 24, 25, 26, 27, 28, 29, 30, 31, 32, 33, 34, 35, 36] (by decide) rfl
    subst hT
    refine W.widen (k := cells + 1010) (n := slots + 5500) (by omega) (by omega) ?_
    exact kont H locs ⟨gm, tg, N, N2, hv, rw, r, rk, xi, wh, wk, gw, ga2, ga3, ga4, ga5, g0, g1, g2, ft, vv, by9, iv, m9, w9, nu, wb, bb, ke, kk, kf, so, zz, el, out, ⟨hN, hr, hwk, hri, h9, hN2, hr2, hwk2, hri2, h92, hiv, hgt, hzz, hsd⟩, hP, hD⟩ hS ls hl
  · obtain ⟨d, hd, ed⟩ := sh_d hbad
    have hzd := hzz d
    have hP := PP_perm (wo_out (P := PT) rfl hd) hP
    have hD := D_perm (wo_out (P := PT) rfl hd) hD
    rcases hsd d hd with ⟨e1, e2, e3⟩ | ⟨y0, k0, f0, e1, e2, e3, e4, e5, e6, e7, e8⟩ | ⟨a0, t0, e1, e2, e3, e4, e5, e6⟩
    · rw [e1, rl1_n e2, List.append_nil] at hP hD
      generalize hT : (SL sh hv (rmP PT d) 8 ++ (RL G rw el (rmP PT d) 8 ++ tg)) = T at hP hD
      have htT : ∀ q ∈ tg, q ∈ T := fun q hq => by rw [← hT]; exact List.mem_append_right _ (List.mem_append_right _ hq)
      have hP : PP G ([(ax, xO xa xi), (xa 0, fO fn r), (fn 0, qA G 3 9 wh), (fn 1, iA G 9 (fA r 2)), (fn 2, iA G 9 (fA r 3)), (fn 3, iA G 9 (fA r 4)), (fn 4, iA G 9 (fA r 5)), (xa 1, fO fk rk), (fk 0, qA G 3 9 wk), (fk 1, iA G 9 (fA rk 2)), (fk 2, iA G 9 (fA rk 3)), (fk 3, iA G 9 (fA rk 4)), (fk 4, iA G 9 (fA rk 5)), (xa 2, fR fm g0 g1 g2), (fm 0, qA G 3 9 gw), (fm 1, iA G 9 ga2), (fm 2, iA G 9 ga3), (fm 3, iA G 9 ga4), (fm 4, iA G 9 ga5), (xa 4, qA G 4 100 ft), (xa 5, iA G 1280 vv), (xa 6, iA G 8 by9), (xa 8, qA G 5 8 (shf sh)), (am, mO ad iv), (ad 0, iA G 57 r), (ad 1, iA G 57 m9), (ad 2, iA G 57 rk), (ad 3, iA G 57 w9), (ad 8, iA G 4 nu), (ad 9, iA G 8 wb), (ad 10, iA G 8 bb), (ad 13, iA G 8 ke), (ad 14, iA G 8 kk), (ad 15, iA G 8 kf), (ad 16, iA G 8 so), (ad 17, iA G 8 (nIf zz)), (ad 18, iA G 800 el), (ao, lA G 1 out), (sh d, .inr (3, [.null]))] ++ T) H := hP
      have hD : va_D (fun q : Nat => s.heap.size ≤ q) ([(ax, xO xa xi), (xa 0, fO fn r), (fn 0, qA G 3 9 wh), (fn 1, iA G 9 (fA r 2)), (fn 2, iA G 9 (fA r 3)), (fn 3, iA G 9 (fA r 4)), (fn 4, iA G 9 (fA r 5)), (xa 1, fO fk rk), (fk 0, qA G 3 9 wk), (fk 1, iA G 9 (fA rk 2)), (fk 2, iA G 9 (fA rk 3)), (fk 3, iA G 9 (fA rk 4)), (fk 4, iA G 9 (fA rk 5)), (xa 2, fR fm g0 g1 g2), (fm 0, qA G 3 9 gw), (fm 1, iA G 9 ga2), (fm 2, iA G 9 ga3), (fm 3, iA G 9 ga4), (fm 4, iA G 9 ga5), (xa 4, qA G 4 100 ft), (xa 5, iA G 1280 vv), (xa 6, iA G 8 by9), (xa 8, qA G 5 8 (shf sh)), (am, mO ad iv), (ad 0, iA G 57 r), (ad 1, iA G 57 m9), (ad 2, iA G 57 rk), (ad 3, iA G 57 w9), (ad 8, iA G 4 nu), (ad 9, iA G 8 wb), (ad 10, iA G 8 bb), (ad 13, iA G 8 ke), (ad 14, iA G 8 kk), (ad 15, iA G 8 kf), (ad 16, iA G 8 so), (ad 17, iA G 8 (nIf zz)), (ad 18, iA G 800 el), (ao, lA G 1 out), (sh d, .inr (3, [.null]))] ++ T) := hD
      refine lv_aload_n hx hb dL_law_1534 rfl (lv_at hl 3 rfl) ?_
      refine lv_aload_n hx hb dL_law_1535 rfl (lv_at hl 4 rfl) ?_
      refine lv_iload hx hb dL_law_1536 (lv_at hl 0 rfl) ?_
      refine lv_iconst (v := 1) hx hb dL_law_1538 (by decide) ?_
      refine n_iadd hx hb i 1 dL_law_1539 ?_
      refine va_sld (i := nI (i + 1)) hx hb hX hbl (Nat.not_le.mpr hbl) hS (vp_in_nI (by omega) (by omega)) dL_law_1540 ?_
      refine n_eqi (y := nI d) ((congrArg xs (nI_clamp (by omega))).trans ed) ?_
      refine c_VWhP (wr := [(xa 0, fO fn r), (fn 0, qA G 3 9 wh), (fn 1, iA G 9 (fA r 2)), (fn 2, iA G 9 (fA r 3)), (fn 3, iA G 9 (fA r 4)), (fn 4, iA G 9 (fA r 5)), (xa 1, fO fk rk), (fk 0, qA G 3 9 wk), (fk 1, iA G 9 (fA rk 2)), (fk 2, iA G 9 (fA rk 3)), (fk 3, iA G 9 (fA rk 4)), (fk 4, iA G 9 (fA rk 5)), (xa 2, fR fm g0 g1 g2), (fm 0, qA G 3 9 gw), (fm 1, iA G 9 ga2), (fm 2, iA G 9 ga3), (fm 3, iA G 9 ga4), (fm 4, iA G 9 ga5), (xa 4, qA G 4 100 ft), (xa 5, iA G 1280 vv), (xa 6, iA G 8 by9), (am, mO ad iv), (ad 0, iA G 57 r), (ad 1, iA G 57 m9), (ad 2, iA G 57 rk), (ad 3, iA G 57 w9), (ad 8, iA G 4 nu), (ad 9, iA G 8 wb), (ad 10, iA G 8 bb), (ad 13, iA G 8 ke), (ad 14, iA G 8 kk), (ad 15, iA G 8 kf), (ad 16, iA G 8 so), (ad 17, iA G 8 (nIf zz)), (ad 18, iA G 800 el), (ao, lA G 1 out)]) (rest := []) C (metX1_cost_n l G ax xa xi sh gm d hl9 (gt_NG9 hgt (G0_GA _) hD (isC := [0, 22, 38]) rfl htT) (by omega)) 1 (lw_VW q918 q919 q920 q39 q921) (by decide +kernel) ⟨rfl, rfl⟩ ⟨(Nat.le_of_ble_eq_true rfl), (Nat.le_of_ble_eq_true rfl)⟩ (KE.call) (KE.at hK (hgt.GP (G0_GP G H) hP (fun q hq => List.mem_append_right _ (htT q hq))) hM1 hZ hS) (va_recv hK.1 hP (ci := 1) (q0 := 0) rfl rfl) hA hP hD hS [0, 22, 38] [1, 2, 3, 4, 5, 6, 7, 8, 9, 10, 11, 12, 13, 14, 15, 16, 17, 18, 19, 20, 21, 23, 24, 25, 26, 27, 28, 29, 30, 31, 32, 33, 34, 35, 36, 37] rfl rfl rfl rfl (by decide) hl rfl rfl (Nat.le_of_ble_eq_true rfl) ⟨(by omega), (by omega)⟩ dL_law_1541 (fun r_4 w1 H locs hq_5 hP hD hS => ?_)
      obtain ⟨rfl, rfl⟩ := hq_5
      have hP : PP G ([(xa 0, fO fn r), (fn 0, qA G 3 9 wh), (fn 1, iA G 9 (fA r 2)), (fn 2, iA G 9 (fA r 3)), (fn 3, iA G 9 (fA r 4)), (fn 4, iA G 9 (fA r 5)), (xa 1, fO fk rk), (fk 0, qA G 3 9 wk), (fk 1, iA G 9 (fA rk 2)), (fk 2, iA G 9 (fA rk 3)), (fk 3, iA G 9 (fA rk 4)), (fk 4, iA G 9 (fA rk 5)), (xa 2, fR fm g0 g1 g2), (fm 0, qA G 3 9 gw), (fm 1, iA G 9 ga2), (fm 2, iA G 9 ga3), (fm 3, iA G 9 ga4), (fm 4, iA G 9 ga5), (xa 4, qA G 4 100 ft), (xa 5, iA G 1280 vv), (xa 6, iA G 8 by9), (am, mO ad iv), (ad 0, iA G 57 r), (ad 1, iA G 57 m9), (ad 2, iA G 57 rk), (ad 3, iA G 57 w9), (ad 8, iA G 4 nu), (ad 9, iA G 8 wb), (ad 10, iA G 8 bb), (ad 13, iA G 8 ke), (ad 14, iA G 8 kk), (ad 15, iA G 8 kf), (ad 16, iA G 8 so), (ad 17, iA G 8 (nIf zz)), (ad 18, iA G 800 el), (ao, lA G 1 out), (ax, xO xa xi), (xa 8, qA G 5 8 (shf sh)), (sh d, .inr (3, [.null]))] ++ T) H := hP
      have hD : va_D (fun q : Nat => s.heap.size ≤ q) ([(xa 0, fO fn r), (fn 0, qA G 3 9 wh), (fn 1, iA G 9 (fA r 2)), (fn 2, iA G 9 (fA r 3)), (fn 3, iA G 9 (fA r 4)), (fn 4, iA G 9 (fA r 5)), (xa 1, fO fk rk), (fk 0, qA G 3 9 wk), (fk 1, iA G 9 (fA rk 2)), (fk 2, iA G 9 (fA rk 3)), (fk 3, iA G 9 (fA rk 4)), (fk 4, iA G 9 (fA rk 5)), (xa 2, fR fm g0 g1 g2), (fm 0, qA G 3 9 gw), (fm 1, iA G 9 ga2), (fm 2, iA G 9 ga3), (fm 3, iA G 9 ga4), (fm 4, iA G 9 ga5), (xa 4, qA G 4 100 ft), (xa 5, iA G 1280 vv), (xa 6, iA G 8 by9), (am, mO ad iv), (ad 0, iA G 57 r), (ad 1, iA G 57 m9), (ad 2, iA G 57 rk), (ad 3, iA G 57 w9), (ad 8, iA G 4 nu), (ad 9, iA G 8 wb), (ad 10, iA G 8 bb), (ad 13, iA G 8 ke), (ad 14, iA G 8 kk), (ad 15, iA G 8 kf), (ad 16, iA G 8 so), (ad 17, iA G 8 (nIf zz)), (ad 18, iA G 800 el), (ao, lA G 1 out), (ax, xO xa xi), (xa 8, qA G 5 8 (shf sh)), (sh d, .inr (3, [.null]))] ++ T) := hD
      refine lv_aload_n hx hb dL_law_1544 rfl (lv_at hl 2 rfl) ?_
      refine lv_aload_n hx hb dL_law_1545 rfl (lv_at hl 4 rfl) ?_
      refine lv_iload hx hb dL_law_1546 (lv_at hl 0 rfl) ?_
      refine lv_iconst (v := 1) hx hb dL_law_1548 (by decide) ?_
      refine n_iadd hx hb i 1 dL_law_1549 ?_
      refine va_sld (i := nI (i + 1)) hx hb hX hbl (Nat.not_le.mpr hbl) hS (vp_in_nI (by omega) (by omega)) dL_law_1550 ?_
      refine n_eqi (y := nI d) ((congrArg xs (nI_clamp (by omega))).trans ed) ?_
      refine c_V (rest := [.int (-11)]) C (metX4_cost l G am ad iv ke kk kf (nI d)) 1 (lw_V q1424 q1425 q1426 q42 q1427) (by decide +kernel) ⟨rfl, rfl⟩ ⟨(Nat.le_of_ble_eq_true rfl), (Nat.le_of_ble_eq_true rfl)⟩ (KM_mv G) (va_recv hK.1 hP (ci := 0) (q0 := 21) rfl rfl) ((tl_P hP).sub (ws' := [(am, mO ad iv), (ad 13, iA G 8 ke), (ad 14, iA G 8 kk), (ad 15, iA G 8 kf)]) [21, 29, 30, 31] rfl) hK.1 hl rfl rfl (Nat.le_of_ble_eq_true rfl) ⟨(by omega), (by omega)⟩ dL_law_1551 ?_
      refine lv_icmp_eq (x := -11) (y := sCostA ke kk kf (nI d)) (tgt := 1584) hx hb dL_law_1554 (by decide) (fun c_6 => ?_) (fun c_6 => absurd c_6 ((fun q => q (co_w (wk_n hd e3) (by decide)))))
      have hP : PP G ((((LW G ax am ao xa fn fk fm sh ad xi r wh rk wk gw ga2 ga3 ga4 ga5 g0 g1 g2 ft vv by9 iv r m9 rk w9 nu wb bb ke kk kf so zz el out) ++ [(sh d, .inr (3, [.null]))]) ++ []) ++ T) H := hP.part [36, 0, 1, 2, 3, 4, 5, 6, 7, 8, 9, 10, 11, 12, 13, 14, 15, 16, 17, 18, 19, 20, 37, 21, 22, 23, 24, 25, 26, 27, 28, 29, 30, 31, 32, 33, 34, 35, 38] rfl
      have hD : va_D (fun q : Nat => s.heap.size ≤ q) ((((LW G ax am ao xa fn fk fm sh ad xi r wh rk wk gw ga2 ga3 ga4 ga5 g0 g1 g2 ft vv by9 iv r m9 rk w9 nu wb bb ke kk kf so zz el out) ++ [(sh d, .inr (3, [.null]))]) ++ []) ++ T) := hD.part [36, 0, 1, 2, 3, 4, 5, 6, 7, 8, 9, 10, 11, 12, 13, 14, 15, 16, 17, 18, 19, 20, 37, 21, 22, 23, 24, 25, 26, 27, 28, 29, 30, 31, 32, 33, 34, 35, 38] (by decide) rfl
      subst hT
      obtain ⟨hP, hD⟩ := wo_bk (X := (LW G ax am ao xa fn fk fm sh ad xi r wh rk wk gw ga2 ga3 ga4 ga5 g0 g1 g2 ft vv by9 iv r m9 rk w9 nu wb bb ke kk kf so zz el out)) (R := []) hv rw el hd (e1) (rl1_n e2) (fun _ _ _ => ⟨rfl, rfl, fun _ _ _ _ => rfl⟩) hP hD
      refine W.widen (k := cells + 1010) (n := slots + 5500) (by omega) (by omega) ?_
      exact kont H locs ⟨gm, tg, N, N2, hv, rw, r, rk, xi, wh, wk, gw, ga2, ga3, ga4, ga5, g0, g1, g2, ft, vv, by9, iv, m9, w9, nu, wb, bb, ke, kk, kf, so, zz, el, out, ⟨hN, hr, hwk, hri, h9, hN2, hr2, hwk2, hri2, h92, hiv, hgt, hzz, hsd⟩, hP, hD⟩ hS ls hl
    · rw [e1, rl1_n e2, List.append_nil] at hP hD
      generalize hT : (SL sh hv (rmP PT d) 8 ++ (RL G rw el (rmP PT d) 8 ++ tg)) = T at hP hD
      have htT : ∀ q ∈ tg, q ∈ T := fun q hq => by rw [← hT]; exact List.mem_append_right _ (List.mem_append_right _ hq)
      have hP : PP G ([(ax, xO xa xi), (xa 0, fO fn r), (fn 0, qA G 3 9 wh), (fn 1, iA G 9 (fA r 2)), (fn 2, iA G 9 (fA r 3)), (fn 3, iA G 9 (fA r 4)), (fn 4, iA G 9 (fA r 5)), (xa 1, fO fk rk), (fk 0, qA G 3 9 wk), (fk 1, iA G 9 (fA rk 2)), (fk 2, iA G 9 (fA rk 3)), (fk 3, iA G 9 (fA rk 4)), (fk 4, iA G 9 (fA rk 5)), (xa 2, fR fm g0 g1 g2), (fm 0, qA G 3 9 gw), (fm 1, iA G 9 ga2), (fm 2, iA G 9 ga3), (fm 3, iA G 9 ga4), (fm 4, iA G 9 ga5), (xa 4, qA G 4 100 ft), (xa 5, iA G 1280 vv), (xa 6, iA G 8 by9), (xa 8, qA G 5 8 (shf sh)), (am, mO ad iv), (ad 0, iA G 57 r), (ad 1, iA G 57 m9), (ad 2, iA G 57 rk), (ad 3, iA G 57 w9), (ad 8, iA G 4 nu), (ad 9, iA G 8 wb), (ad 10, iA G 8 bb), (ad 13, iA G 8 ke), (ad 14, iA G 8 kk), (ad 15, iA G 8 kf), (ad 16, iA G 8 so), (ad 17, iA G 8 (nIf zz)), (ad 18, iA G 800 el), (ao, lA G 1 out), (sh d, .inr (3, [.ref y0]))] ++ T) H := hP
      have hD : va_D (fun q : Nat => s.heap.size ≤ q) ([(ax, xO xa xi), (xa 0, fO fn r), (fn 0, qA G 3 9 wh), (fn 1, iA G 9 (fA r 2)), (fn 2, iA G 9 (fA r 3)), (fn 3, iA G 9 (fA r 4)), (fn 4, iA G 9 (fA r 5)), (xa 1, fO fk rk), (fk 0, qA G 3 9 wk), (fk 1, iA G 9 (fA rk 2)), (fk 2, iA G 9 (fA rk 3)), (fk 3, iA G 9 (fA rk 4)), (fk 4, iA G 9 (fA rk 5)), (xa 2, fR fm g0 g1 g2), (fm 0, qA G 3 9 gw), (fm 1, iA G 9 ga2), (fm 2, iA G 9 ga3), (fm 3, iA G 9 ga4), (fm 4, iA G 9 ga5), (xa 4, qA G 4 100 ft), (xa 5, iA G 1280 vv), (xa 6, iA G 8 by9), (xa 8, qA G 5 8 (shf sh)), (am, mO ad iv), (ad 0, iA G 57 r), (ad 1, iA G 57 m9), (ad 2, iA G 57 rk), (ad 3, iA G 57 w9), (ad 8, iA G 4 nu), (ad 9, iA G 8 wb), (ad 10, iA G 8 bb), (ad 13, iA G 8 ke), (ad 14, iA G 8 kk), (ad 15, iA G 8 kf), (ad 16, iA G 8 so), (ad 17, iA G 8 (nIf zz)), (ad 18, iA G 800 el), (ao, lA G 1 out), (sh d, .inr (3, [.ref y0]))] ++ T) := hD
      refine lv_aload_n hx hb dL_law_1534 rfl (lv_at hl 3 rfl) ?_
      refine lv_aload_n hx hb dL_law_1535 rfl (lv_at hl 4 rfl) ?_
      refine lv_iload hx hb dL_law_1536 (lv_at hl 0 rfl) ?_
      refine lv_iconst (v := 1) hx hb dL_law_1538 (by decide) ?_
      refine n_iadd hx hb i 1 dL_law_1539 ?_
      refine va_sld (i := nI (i + 1)) hx hb hX hbl (Nat.not_le.mpr hbl) hS (vp_in_nI (by omega) (by omega)) dL_law_1540 ?_
      refine n_eqi (y := nI d) ((congrArg xs (nI_clamp (by omega))).trans ed) ?_
      refine c_VWhP (wr := [(xa 0, fO fn r), (fn 0, qA G 3 9 wh), (fn 1, iA G 9 (fA r 2)), (fn 2, iA G 9 (fA r 3)), (fn 3, iA G 9 (fA r 4)), (fn 4, iA G 9 (fA r 5)), (xa 1, fO fk rk), (fk 0, qA G 3 9 wk), (fk 1, iA G 9 (fA rk 2)), (fk 2, iA G 9 (fA rk 3)), (fk 3, iA G 9 (fA rk 4)), (fk 4, iA G 9 (fA rk 5)), (xa 2, fR fm g0 g1 g2), (fm 0, qA G 3 9 gw), (fm 1, iA G 9 ga2), (fm 2, iA G 9 ga3), (fm 3, iA G 9 ga4), (fm 4, iA G 9 ga5), (xa 4, qA G 4 100 ft), (xa 5, iA G 1280 vv), (xa 6, iA G 8 by9), (am, mO ad iv), (ad 0, iA G 57 r), (ad 1, iA G 57 m9), (ad 2, iA G 57 rk), (ad 3, iA G 57 w9), (ad 8, iA G 4 nu), (ad 9, iA G 8 wb), (ad 10, iA G 8 bb), (ad 13, iA G 8 ke), (ad 14, iA G 8 kk), (ad 15, iA G 8 kf), (ad 16, iA G 8 so), (ad 17, iA G 8 (nIf zz)), (ad 18, iA G 800 el), (ao, lA G 1 out)]) (rest := []) C (metX1_cost_g l G ax xa xi sh gm d y0 k0 (nI f0) hl9 (gt_NG9 hgt (G0_GA _) hD (isC := [0, 22, 38]) rfl htT) (by omega) (e3)) 1 (lw_VW q918 q919 q920 q39 q921) (by decide +kernel) ⟨rfl, rfl⟩ ⟨(Nat.le_of_ble_eq_true rfl), (Nat.le_of_ble_eq_true rfl)⟩ (KE.call) (KE.at hK (hgt.GP (G0_GP G H) hP (fun q hq => List.mem_append_right _ (htT q hq))) hM1 hZ hS) (va_recv hK.1 hP (ci := 1) (q0 := 0) rfl rfl) hA hP hD hS [0, 22, 38] [1, 2, 3, 4, 5, 6, 7, 8, 9, 10, 11, 12, 13, 14, 15, 16, 17, 18, 19, 20, 21, 23, 24, 25, 26, 27, 28, 29, 30, 31, 32, 33, 34, 35, 36, 37] rfl rfl rfl rfl (by decide) hl rfl rfl (Nat.le_of_ble_eq_true rfl) ⟨(by omega), (by omega)⟩ dL_law_1541 (fun r_7 w1 H locs hq_8 hP hD hS => ?_)
      obtain ⟨rfl, rfl⟩ := hq_8
      have hP : PP G ([(xa 0, fO fn r), (fn 0, qA G 3 9 wh), (fn 1, iA G 9 (fA r 2)), (fn 2, iA G 9 (fA r 3)), (fn 3, iA G 9 (fA r 4)), (fn 4, iA G 9 (fA r 5)), (xa 1, fO fk rk), (fk 0, qA G 3 9 wk), (fk 1, iA G 9 (fA rk 2)), (fk 2, iA G 9 (fA rk 3)), (fk 3, iA G 9 (fA rk 4)), (fk 4, iA G 9 (fA rk 5)), (xa 2, fR fm g0 g1 g2), (fm 0, qA G 3 9 gw), (fm 1, iA G 9 ga2), (fm 2, iA G 9 ga3), (fm 3, iA G 9 ga4), (fm 4, iA G 9 ga5), (xa 4, qA G 4 100 ft), (xa 5, iA G 1280 vv), (xa 6, iA G 8 by9), (am, mO ad iv), (ad 0, iA G 57 r), (ad 1, iA G 57 m9), (ad 2, iA G 57 rk), (ad 3, iA G 57 w9), (ad 8, iA G 4 nu), (ad 9, iA G 8 wb), (ad 10, iA G 8 bb), (ad 13, iA G 8 ke), (ad 14, iA G 8 kk), (ad 15, iA G 8 kf), (ad 16, iA G 8 so), (ad 17, iA G 8 (nIf zz)), (ad 18, iA G 800 el), (ao, lA G 1 out), (ax, xO xa xi), (xa 8, qA G 5 8 (shf sh)), (sh d, .inr (3, [.ref y0]))] ++ T) H := hP
      have hD : va_D (fun q : Nat => s.heap.size ≤ q) ([(xa 0, fO fn r), (fn 0, qA G 3 9 wh), (fn 1, iA G 9 (fA r 2)), (fn 2, iA G 9 (fA r 3)), (fn 3, iA G 9 (fA r 4)), (fn 4, iA G 9 (fA r 5)), (xa 1, fO fk rk), (fk 0, qA G 3 9 wk), (fk 1, iA G 9 (fA rk 2)), (fk 2, iA G 9 (fA rk 3)), (fk 3, iA G 9 (fA rk 4)), (fk 4, iA G 9 (fA rk 5)), (xa 2, fR fm g0 g1 g2), (fm 0, qA G 3 9 gw), (fm 1, iA G 9 ga2), (fm 2, iA G 9 ga3), (fm 3, iA G 9 ga4), (fm 4, iA G 9 ga5), (xa 4, qA G 4 100 ft), (xa 5, iA G 1280 vv), (xa 6, iA G 8 by9), (am, mO ad iv), (ad 0, iA G 57 r), (ad 1, iA G 57 m9), (ad 2, iA G 57 rk), (ad 3, iA G 57 w9), (ad 8, iA G 4 nu), (ad 9, iA G 8 wb), (ad 10, iA G 8 bb), (ad 13, iA G 8 ke), (ad 14, iA G 8 kk), (ad 15, iA G 8 kf), (ad 16, iA G 8 so), (ad 17, iA G 8 (nIf zz)), (ad 18, iA G 800 el), (ao, lA G 1 out), (ax, xO xa xi), (xa 8, qA G 5 8 (shf sh)), (sh d, .inr (3, [.ref y0]))] ++ T) := hD
      refine lv_aload_n hx hb dL_law_1544 rfl (lv_at hl 2 rfl) ?_
      refine lv_aload_n hx hb dL_law_1545 rfl (lv_at hl 4 rfl) ?_
      refine lv_iload hx hb dL_law_1546 (lv_at hl 0 rfl) ?_
      refine lv_iconst (v := 1) hx hb dL_law_1548 (by decide) ?_
      refine n_iadd hx hb i 1 dL_law_1549 ?_
      refine va_sld (i := nI (i + 1)) hx hb hX hbl (Nat.not_le.mpr hbl) hS (vp_in_nI (by omega) (by omega)) dL_law_1550 ?_
      refine n_eqi (y := nI d) ((congrArg xs (nI_clamp (by omega))).trans ed) ?_
      refine c_V (rest := [.int (sCost (nI k0) (nI f0))]) C (metX4_cost l G am ad iv ke kk kf (nI d)) 1 (lw_V q1424 q1425 q1426 q42 q1427) (by decide +kernel) ⟨rfl, rfl⟩ ⟨(Nat.le_of_ble_eq_true rfl), (Nat.le_of_ble_eq_true rfl)⟩ (KM_mv G) (va_recv hK.1 hP (ci := 0) (q0 := 21) rfl rfl) ((tl_P hP).sub (ws' := [(am, mO ad iv), (ad 13, iA G 8 ke), (ad 14, iA G 8 kk), (ad 15, iA G 8 kf)]) [21, 29, 30, 31] rfl) hK.1 hl rfl rfl (Nat.le_of_ble_eq_true rfl) ⟨(by omega), (by omega)⟩ dL_law_1551 ?_
      refine lv_icmp_eq (x := sCost (nI k0) (nI f0)) (y := sCostA ke kk kf (nI d)) (tgt := 1584) hx hb dL_law_1554 (by decide) (fun c_9 => ?_) (fun c_9 => absurd c_9 ((fun q => q (co_g hd e6 e7 e8))))
      have hP : PP G ((((LW G ax am ao xa fn fk fm sh ad xi r wh rk wk gw ga2 ga3 ga4 ga5 g0 g1 g2 ft vv by9 iv r m9 rk w9 nu wb bb ke kk kf so zz el out) ++ [(sh d, .inr (3, [.ref y0]))]) ++ []) ++ T) H := hP.part [36, 0, 1, 2, 3, 4, 5, 6, 7, 8, 9, 10, 11, 12, 13, 14, 15, 16, 17, 18, 19, 20, 37, 21, 22, 23, 24, 25, 26, 27, 28, 29, 30, 31, 32, 33, 34, 35, 38] rfl
      have hD : va_D (fun q : Nat => s.heap.size ≤ q) ((((LW G ax am ao xa fn fk fm sh ad xi r wh rk wk gw ga2 ga3 ga4 ga5 g0 g1 g2 ft vv by9 iv r m9 rk w9 nu wb bb ke kk kf so zz el out) ++ [(sh d, .inr (3, [.ref y0]))]) ++ []) ++ T) := hD.part [36, 0, 1, 2, 3, 4, 5, 6, 7, 8, 9, 10, 11, 12, 13, 14, 15, 16, 17, 18, 19, 20, 37, 21, 22, 23, 24, 25, 26, 27, 28, 29, 30, 31, 32, 33, 34, 35, 38] (by decide) rfl
      subst hT
      obtain ⟨hP, hD⟩ := wo_bk (X := (LW G ax am ao xa fn fk fm sh ad xi r wh rk wk gw ga2 ga3 ga4 ga5 g0 g1 g2 ft vv by9 iv r m9 rk w9 nu wb bb ke kk kf so zz el out)) (R := []) hv rw el hd (e1) (rl1_n e2) (fun _ _ _ => ⟨rfl, rfl, fun _ _ _ _ => rfl⟩) hP hD
      refine W.widen (k := cells + 1010) (n := slots + 5500) (by omega) (by omega) ?_
      exact kont H locs ⟨gm, tg, N, N2, hv, rw, r, rk, xi, wh, wk, gw, ga2, ga3, ga4, ga5, g0, g1, g2, ft, vv, by9, iv, m9, w9, nu, wb, bb, ke, kk, kf, so, zz, el, out, ⟨hN, hr, hwk, hri, h9, hN2, hr2, hwk2, hri2, h92, hiv, hgt, hzz, hsd⟩, hP, hD⟩ hS ls hl
    · rw [e1, rl1_s e2] at hP hD
      generalize hT : (SL sh hv (rmP PT d) 8 ++ (RL G rw el (rmP PT d) 8 ++ tg)) = T at hP hD
      have htT : ∀ q ∈ tg, q ∈ T := fun q hq => by rw [← hT]; exact List.mem_append_right _ (List.mem_append_right _ hq)
      have hP : PP G ([(ax, xO xa xi), (xa 0, fO fn r), (fn 0, qA G 3 9 wh), (fn 1, iA G 9 (fA r 2)), (fn 2, iA G 9 (fA r 3)), (fn 3, iA G 9 (fA r 4)), (fn 4, iA G 9 (fA r 5)), (xa 1, fO fk rk), (fk 0, qA G 3 9 wk), (fk 1, iA G 9 (fA rk 2)), (fk 2, iA G 9 (fA rk 3)), (fk 3, iA G 9 (fA rk 4)), (fk 4, iA G 9 (fA rk 5)), (xa 2, fR fm g0 g1 g2), (fm 0, qA G 3 9 gw), (fm 1, iA G 9 ga2), (fm 2, iA G 9 ga3), (fm 3, iA G 9 ga4), (fm 4, iA G 9 ga5), (xa 4, qA G 4 100 ft), (xa 5, iA G 1280 vv), (xa 6, iA G 8 by9), (xa 8, qA G 5 8 (shf sh)), (am, mO ad iv), (ad 0, iA G 57 r), (ad 1, iA G 57 m9), (ad 2, iA G 57 rk), (ad 3, iA G 57 w9), (ad 8, iA G 4 nu), (ad 9, iA G 8 wb), (ad 10, iA G 8 bb), (ad 13, iA G 8 ke), (ad 14, iA G 8 kk), (ad 15, iA G 8 kf), (ad 16, iA G 8 so), (ad 17, iA G 8 (nIf zz)), (ad 18, iA G 800 el), (ao, lA G 1 out), (sh d, .inr (3, [.ref a0])), (a0, tA G t0 (zz d) (rwE el (100 * d)))] ++ T) H := hP
      have hD : va_D (fun q : Nat => s.heap.size ≤ q) ([(ax, xO xa xi), (xa 0, fO fn r), (fn 0, qA G 3 9 wh), (fn 1, iA G 9 (fA r 2)), (fn 2, iA G 9 (fA r 3)), (fn 3, iA G 9 (fA r 4)), (fn 4, iA G 9 (fA r 5)), (xa 1, fO fk rk), (fk 0, qA G 3 9 wk), (fk 1, iA G 9 (fA rk 2)), (fk 2, iA G 9 (fA rk 3)), (fk 3, iA G 9 (fA rk 4)), (fk 4, iA G 9 (fA rk 5)), (xa 2, fR fm g0 g1 g2), (fm 0, qA G 3 9 gw), (fm 1, iA G 9 ga2), (fm 2, iA G 9 ga3), (fm 3, iA G 9 ga4), (fm 4, iA G 9 ga5), (xa 4, qA G 4 100 ft), (xa 5, iA G 1280 vv), (xa 6, iA G 8 by9), (xa 8, qA G 5 8 (shf sh)), (am, mO ad iv), (ad 0, iA G 57 r), (ad 1, iA G 57 m9), (ad 2, iA G 57 rk), (ad 3, iA G 57 w9), (ad 8, iA G 4 nu), (ad 9, iA G 8 wb), (ad 10, iA G 8 bb), (ad 13, iA G 8 ke), (ad 14, iA G 8 kk), (ad 15, iA G 8 kf), (ad 16, iA G 8 so), (ad 17, iA G 8 (nIf zz)), (ad 18, iA G 800 el), (ao, lA G 1 out), (sh d, .inr (3, [.ref a0])), (a0, tA G t0 (zz d) (rwE el (100 * d)))] ++ T) := hD
      refine lv_aload_n hx hb dL_law_1534 rfl (lv_at hl 3 rfl) ?_
      refine lv_aload_n hx hb dL_law_1535 rfl (lv_at hl 4 rfl) ?_
      refine lv_iload hx hb dL_law_1536 (lv_at hl 0 rfl) ?_
      refine lv_iconst (v := 1) hx hb dL_law_1538 (by decide) ?_
      refine n_iadd hx hb i 1 dL_law_1539 ?_
      refine va_sld (i := nI (i + 1)) hx hb hX hbl (Nat.not_le.mpr hbl) hS (vp_in_nI (by omega) (by omega)) dL_law_1540 ?_
      refine n_eqi (y := nI d) ((congrArg xs (nI_clamp (by omega))).trans ed) ?_
      refine c_VWhP (wr := [(xa 0, fO fn r), (fn 0, qA G 3 9 wh), (fn 1, iA G 9 (fA r 2)), (fn 2, iA G 9 (fA r 3)), (fn 3, iA G 9 (fA r 4)), (fn 4, iA G 9 (fA r 5)), (xa 1, fO fk rk), (fk 0, qA G 3 9 wk), (fk 1, iA G 9 (fA rk 2)), (fk 2, iA G 9 (fA rk 3)), (fk 3, iA G 9 (fA rk 4)), (fk 4, iA G 9 (fA rk 5)), (xa 2, fR fm g0 g1 g2), (fm 0, qA G 3 9 gw), (fm 1, iA G 9 ga2), (fm 2, iA G 9 ga3), (fm 3, iA G 9 ga4), (fm 4, iA G 9 ga5), (xa 4, qA G 4 100 ft), (xa 5, iA G 1280 vv), (xa 6, iA G 8 by9), (am, mO ad iv), (ad 0, iA G 57 r), (ad 1, iA G 57 m9), (ad 2, iA G 57 rk), (ad 3, iA G 57 w9), (ad 8, iA G 4 nu), (ad 9, iA G 8 wb), (ad 10, iA G 8 bb), (ad 13, iA G 8 ke), (ad 14, iA G 8 kk), (ad 15, iA G 8 kf), (ad 16, iA G 8 so), (ad 17, iA G 8 (nIf zz)), (ad 18, iA G 800 el), (ao, lA G 1 out)]) (rest := []) C (metX1_cost_r l G ax xa xi sh gm d t0 a0 (zz d) (rwE el (100 * d)) hl9 (gt_NG9 hgt (G0_GA _) hD (isC := [0, 22, 38, 39]) rfl htT) (by omega) (by omega) (by omega)) 1 (lw_VW q918 q919 q920 q39 q921) (by decide +kernel) ⟨rfl, rfl⟩ ⟨(Nat.le_of_ble_eq_true rfl), (Nat.le_of_ble_eq_true rfl)⟩ (KE.call) (KE.at hK (hgt.GP (G0_GP G H) hP (fun q hq => List.mem_append_right _ (htT q hq))) hM1 hZ hS) (va_recv hK.1 hP (ci := 1) (q0 := 0) rfl rfl) hA hP hD hS [0, 22, 38, 39] [1, 2, 3, 4, 5, 6, 7, 8, 9, 10, 11, 12, 13, 14, 15, 16, 17, 18, 19, 20, 21, 23, 24, 25, 26, 27, 28, 29, 30, 31, 32, 33, 34, 35, 36, 37] rfl rfl rfl rfl (by decide) hl rfl rfl (Nat.le_of_ble_eq_true rfl) ⟨(by omega), (by omega)⟩ dL_law_1541 (fun r_10 w1 H locs hq_11 hP hD hS => ?_)
      obtain ⟨rfl, rfl⟩ := hq_11
      have hP : PP G ([(xa 0, fO fn r), (fn 0, qA G 3 9 wh), (fn 1, iA G 9 (fA r 2)), (fn 2, iA G 9 (fA r 3)), (fn 3, iA G 9 (fA r 4)), (fn 4, iA G 9 (fA r 5)), (xa 1, fO fk rk), (fk 0, qA G 3 9 wk), (fk 1, iA G 9 (fA rk 2)), (fk 2, iA G 9 (fA rk 3)), (fk 3, iA G 9 (fA rk 4)), (fk 4, iA G 9 (fA rk 5)), (xa 2, fR fm g0 g1 g2), (fm 0, qA G 3 9 gw), (fm 1, iA G 9 ga2), (fm 2, iA G 9 ga3), (fm 3, iA G 9 ga4), (fm 4, iA G 9 ga5), (xa 4, qA G 4 100 ft), (xa 5, iA G 1280 vv), (xa 6, iA G 8 by9), (am, mO ad iv), (ad 0, iA G 57 r), (ad 1, iA G 57 m9), (ad 2, iA G 57 rk), (ad 3, iA G 57 w9), (ad 8, iA G 4 nu), (ad 9, iA G 8 wb), (ad 10, iA G 8 bb), (ad 13, iA G 8 ke), (ad 14, iA G 8 kk), (ad 15, iA G 8 kf), (ad 16, iA G 8 so), (ad 17, iA G 8 (nIf zz)), (ad 18, iA G 800 el), (ao, lA G 1 out), (ax, xO xa xi), (xa 8, qA G 5 8 (shf sh)), (sh d, .inr (3, [.ref a0])), (a0, tA G t0 (zz d) (rwE el (100 * d)))] ++ T) H := hP
      have hD : va_D (fun q : Nat => s.heap.size ≤ q) ([(xa 0, fO fn r), (fn 0, qA G 3 9 wh), (fn 1, iA G 9 (fA r 2)), (fn 2, iA G 9 (fA r 3)), (fn 3, iA G 9 (fA r 4)), (fn 4, iA G 9 (fA r 5)), (xa 1, fO fk rk), (fk 0, qA G 3 9 wk), (fk 1, iA G 9 (fA rk 2)), (fk 2, iA G 9 (fA rk 3)), (fk 3, iA G 9 (fA rk 4)), (fk 4, iA G 9 (fA rk 5)), (xa 2, fR fm g0 g1 g2), (fm 0, qA G 3 9 gw), (fm 1, iA G 9 ga2), (fm 2, iA G 9 ga3), (fm 3, iA G 9 ga4), (fm 4, iA G 9 ga5), (xa 4, qA G 4 100 ft), (xa 5, iA G 1280 vv), (xa 6, iA G 8 by9), (am, mO ad iv), (ad 0, iA G 57 r), (ad 1, iA G 57 m9), (ad 2, iA G 57 rk), (ad 3, iA G 57 w9), (ad 8, iA G 4 nu), (ad 9, iA G 8 wb), (ad 10, iA G 8 bb), (ad 13, iA G 8 ke), (ad 14, iA G 8 kk), (ad 15, iA G 8 kf), (ad 16, iA G 8 so), (ad 17, iA G 8 (nIf zz)), (ad 18, iA G 800 el), (ao, lA G 1 out), (ax, xO xa xi), (xa 8, qA G 5 8 (shf sh)), (sh d, .inr (3, [.ref a0])), (a0, tA G t0 (zz d) (rwE el (100 * d)))] ++ T) := hD
      refine lv_aload_n hx hb dL_law_1544 rfl (lv_at hl 2 rfl) ?_
      refine lv_aload_n hx hb dL_law_1545 rfl (lv_at hl 4 rfl) ?_
      refine lv_iload hx hb dL_law_1546 (lv_at hl 0 rfl) ?_
      refine lv_iconst (v := 1) hx hb dL_law_1548 (by decide) ?_
      refine n_iadd hx hb i 1 dL_law_1549 ?_
      refine va_sld (i := nI (i + 1)) hx hb hX hbl (Nat.not_le.mpr hbl) hS (vp_in_nI (by omega) (by omega)) dL_law_1550 ?_
      refine n_eqi (y := nI d) ((congrArg xs (nI_clamp (by omega))).trans ed) ?_
      refine c_V (rest := [.int (-12)]) C (metX4_cost l G am ad iv ke kk kf (nI d)) 1 (lw_V q1424 q1425 q1426 q42 q1427) (by decide +kernel) ⟨rfl, rfl⟩ ⟨(Nat.le_of_ble_eq_true rfl), (Nat.le_of_ble_eq_true rfl)⟩ (KM_mv G) (va_recv hK.1 hP (ci := 0) (q0 := 21) rfl rfl) ((tl_P hP).sub (ws' := [(am, mO ad iv), (ad 13, iA G 8 ke), (ad 14, iA G 8 kk), (ad 15, iA G 8 kf)]) [21, 29, 30, 31] rfl) hK.1 hl rfl rfl (Nat.le_of_ble_eq_true rfl) ⟨(by omega), (by omega)⟩ dL_law_1551 ?_
      refine lv_icmp_eq (x := -12) (y := sCostA ke kk kf (nI d)) (tgt := 1584) hx hb dL_law_1554 (by decide) (fun c_12 => ?_) (fun c_12 => absurd c_12 ((fun q => q (co_w (wk_r hd e4) (by decide)))))
      have hP : PP G ((((LW G ax am ao xa fn fk fm sh ad xi r wh rk wk gw ga2 ga3 ga4 ga5 g0 g1 g2 ft vv by9 iv r m9 rk w9 nu wb bb ke kk kf so zz el out) ++ [(sh d, .inr (3, [.ref a0]))]) ++ [(a0, tA G t0 (zz d) (rwE el (100 * d)))]) ++ T) H := hP.part [36, 0, 1, 2, 3, 4, 5, 6, 7, 8, 9, 10, 11, 12, 13, 14, 15, 16, 17, 18, 19, 20, 37, 21, 22, 23, 24, 25, 26, 27, 28, 29, 30, 31, 32, 33, 34, 35, 38, 39] rfl
      have hD : va_D (fun q : Nat => s.heap.size ≤ q) ((((LW G ax am ao xa fn fk fm sh ad xi r wh rk wk gw ga2 ga3 ga4 ga5 g0 g1 g2 ft vv by9 iv r m9 rk w9 nu wb bb ke kk kf so zz el out) ++ [(sh d, .inr (3, [.ref a0]))]) ++ [(a0, tA G t0 (zz d) (rwE el (100 * d)))]) ++ T) := hD.part [36, 0, 1, 2, 3, 4, 5, 6, 7, 8, 9, 10, 11, 12, 13, 14, 15, 16, 17, 18, 19, 20, 37, 21, 22, 23, 24, 25, 26, 27, 28, 29, 30, 31, 32, 33, 34, 35, 38, 39] (by decide) rfl
      subst hT
      obtain ⟨hP, hD⟩ := wo_bk (X := (LW G ax am ao xa fn fk fm sh ad xi r wh rk wk gw ga2 ga3 ga4 ga5 g0 g1 g2 ft vv by9 iv r m9 rk w9 nu wb bb ke kk kf so zz el out)) (R := [(a0, tA G t0 (zz d) (rwE el (100 * d)))]) hv rw el hd (e1) (rl1_s e2) (fun _ _ _ => ⟨rfl, rfl, fun _ _ _ _ => rfl⟩) hP hD
      refine W.widen (k := cells + 1010) (n := slots + 5500) (by omega) (by omega) ?_
      exact kont H locs ⟨gm, tg, N, N2, hv, rw, r, rk, xi, wh, wk, gw, ga2, ga3, ga4, ga5, g0, g1, g2, ft, vv, by9, iv, m9, w9, nu, wb, bb, ke, kk, kf, so, zz, el, out, ⟨hN, hr, hwk, hri, h9, hN2, hr2, hwk2, hri2, h92, hiv, hgt, hzz, hsd⟩, hP, hD⟩ hS ls hl

set_option maxHeartbeats 4000000 in
set_option maxRecDepth 100000 in
theorem law_39 {p : Program} {l : Launch} {e : Env} {s : State} {m : MethodId} {below : List Frame} {meth : Method} {c : Code} {b L : Nat} {xs : Nat → Int32} {Q : State → Prop} {G : GG} {ax am ao : Nat} {xa fn fk fm sh ad : Nat → Nat} (C : Cx p c meth s #[.ref b] m cL_law 8 (some .boolean) RX0) (hl9 : l.stackTraces = false) (hK : KX G s) (hM1 : MR1 s) (hZ : ZA (fun q : Nat => s.heap.size ≤ q) s) (hX : va_X b L xs s s.heap) (hbl : b < s.heap.size) (hL : L ≤ 384) (i : Nat) (hi : i + 6 ≤ L) {H : Heap} {locs : List Loc} {cells slots : Nat} (hcc : cells + 1010 ≤ room_1.cells) (hss : slots + 5500 ≤ room_1.slots) (hLI : LI G ax am ao xa fn fk fm sh ad (fun q : Nat => s.heap.size ≤ q) H) (hS : va_S (fun q : Nat => s.heap.size ≤ q) s.heap H locs) (kont : ∀ (H1 : Heap) (locs1 : List Loc), LI G ax am ao xa fn fk fm sh ad (fun q : Nat => s.heap.size ≤ q) H1 → va_S (fun q : Nat => s.heap.size ≤ q) s.heap H1 locs1 → ∀ ls : Array Slot, lv_has ls 8 [(4, .int (nI i)), (3, .ref ao), (2, .ref am), (1, .ref ax), (0, .ref b)] → W p l e room_1 s m #[.ref b] below meth c H1 locs1 (cells + 1010) (slots + 5500) Q (F0 m 1584 ls [])) : ∀ ls : Array Slot, lv_has ls 8 [(4, .int (nI i)), (3, .ref ao), (2, .ref am), (1, .ref ax), (0, .ref b)] → W p l e room_1 s m #[.ref b] below meth c H locs cells slots Q (F0 m 1559 ls []) := by
  intro ls hl
  obtain ⟨gm, tg, N, N2, hv, rw, r, rk, xi, wh, wk, gw, ga2, ga3, ga4, ga5, g0, g1, g2, ft, vv, by9, iv, m9, w9, nu, wb, bb, ke, kk, kf, so, zz, el, out, hLF, hP, hD⟩ := hLI
  obtain ⟨hN, hr, hwk, hri, h9, hN2, hr2, hwk2, hri2, h92, hiv, hgt, hzz, hsd⟩ := hLF
  have hx := C.1
  have hb := C.2.1
  have hown := C.2.2.2.2.2.1
  have hts := C.2.2.2.2.2.2
  have hA : ∀ q : Nat, s.heap.size ≤ q → (fun q : Nat => s.heap.size ≤ q) q := fun _ h => h
  by_cases hbad : sIn (xs (i + 1)) 0 7 = false
  · generalize hT : (SL sh hv PT 8 ++ (RL G rw el PT 8 ++ tg)) = T at hP hD
    have htT : ∀ q ∈ tg, q ∈ T := fun q hq => by rw [← hT]; exact List.mem_append_right _ (List.mem_append_right _ hq)
    have hP : PP G ([(ax, xO xa xi), (xa 0, fO fn r), (fn 0, qA G 3 9 wh), (fn 1, iA G 9 (fA r 2)), (fn 2, iA G 9 (fA r 3)), (fn 3, iA G 9 (fA r 4)), (fn 4, iA G 9 (fA r 5)), (xa 1, fO fk rk), (fk 0, qA G 3 9 wk), (fk 1, iA G 9 (fA rk 2)), (fk 2, iA G 9 (fA rk 3)), (fk 3, iA G 9 (fA rk 4)), (fk 4, iA G 9 (fA rk 5)), (xa 2, fR fm g0 g1 g2), (fm 0, qA G 3 9 gw), (fm 1, iA G 9 ga2), (fm 2, iA G 9 ga3), (fm 3, iA G 9 ga4), (fm 4, iA G 9 ga5), (xa 4, qA G 4 100 ft), (xa 5, iA G 1280 vv), (xa 6, iA G 8 by9), (xa 8, qA G 5 8 (shf sh)), (am, mO ad iv), (ad 0, iA G 57 r), (ad 1, iA G 57 m9), (ad 2, iA G 57 rk), (ad 3, iA G 57 w9), (ad 8, iA G 4 nu), (ad 9, iA G 8 wb), (ad 10, iA G 8 bb), (ad 13, iA G 8 ke), (ad 14, iA G 8 kk), (ad 15, iA G 8 kf), (ad 16, iA G 8 so), (ad 17, iA G 8 (nIf zz)), (ad 18, iA G 800 el), (ao, lA G 1 out)] ++ T) H := hP
    have hD : va_D (fun q : Nat => s.heap.size ≤ q) ([(ax, xO xa xi), (xa 0, fO fn r), (fn 0, qA G 3 9 wh), (fn 1, iA G 9 (fA r 2)), (fn 2, iA G 9 (fA r 3)), (fn 3, iA G 9 (fA r 4)), (fn 4, iA G 9 (fA r 5)), (xa 1, fO fk rk), (fk 0, qA G 3 9 wk), (fk 1, iA G 9 (fA rk 2)), (fk 2, iA G 9 (fA rk 3)), (fk 3, iA G 9 (fA rk 4)), (fk 4, iA G 9 (fA rk 5)), (xa 2, fR fm g0 g1 g2), (fm 0, qA G 3 9 gw), (fm 1, iA G 9 ga2), (fm 2, iA G 9 ga3), (fm 3, iA G 9 ga4), (fm 4, iA G 9 ga5), (xa 4, qA G 4 100 ft), (xa 5, iA G 1280 vv), (xa 6, iA G 8 by9), (xa 8, qA G 5 8 (shf sh)), (am, mO ad iv), (ad 0, iA G 57 r), (ad 1, iA G 57 m9), (ad 2, iA G 57 rk), (ad 3, iA G 57 w9), (ad 8, iA G 4 nu), (ad 9, iA G 8 wb), (ad 10, iA G 8 bb), (ad 13, iA G 8 ke), (ad 14, iA G 8 kk), (ad 15, iA G 8 kf), (ad 16, iA G 8 so), (ad 17, iA G 8 (nIf zz)), (ad 18, iA G 800 el), (ao, lA G 1 out)] ++ T) := hD
    refine lv_aload_n hx hb dL_law_1559 rfl (lv_at hl 3 rfl) ?_
    refine lv_aload_n hx hb dL_law_1560 rfl (lv_at hl 4 rfl) ?_
    refine lv_iload hx hb dL_law_1561 (lv_at hl 0 rfl) ?_
    refine lv_iconst (v := 1) hx hb dL_law_1563 (by decide) ?_
    refine n_iadd hx hb i 1 dL_law_1564 ?_
    refine va_sld (i := nI (i + 1)) hx hb hX hbl (Nat.not_le.mpr hbl) hS (vp_in_nI (by omega) (by omega)) dL_law_1565 ?_
    refine n_eqi (y := xs (i + 1)) (congrArg xs (nI_clamp (by omega))) ?_
    refine c_VWhP (wr := [(xa 0, fO fn r), (fn 0, qA G 3 9 wh), (fn 1, iA G 9 (fA r 2)), (fn 2, iA G 9 (fA r 3)), (fn 3, iA G 9 (fA r 4)), (fn 4, iA G 9 (fA r 5)), (xa 1, fO fk rk), (fk 0, qA G 3 9 wk), (fk 1, iA G 9 (fA rk 2)), (fk 2, iA G 9 (fA rk 3)), (fk 3, iA G 9 (fA rk 4)), (fk 4, iA G 9 (fA rk 5)), (xa 2, fR fm g0 g1 g2), (fm 0, qA G 3 9 gw), (fm 1, iA G 9 ga2), (fm 2, iA G 9 ga3), (fm 3, iA G 9 ga4), (fm 4, iA G 9 ga5), (xa 4, qA G 4 100 ft), (xa 5, iA G 1280 vv), (xa 6, iA G 8 by9), (xa 8, qA G 5 8 (shf sh)), (am, mO ad iv), (ad 0, iA G 57 r), (ad 1, iA G 57 m9), (ad 2, iA G 57 rk), (ad 3, iA G 57 w9), (ad 8, iA G 4 nu), (ad 9, iA G 8 wb), (ad 10, iA G 8 bb), (ad 13, iA G 8 ke), (ad 14, iA G 8 kk), (ad 15, iA G 8 kf), (ad 16, iA G 8 so), (ad 17, iA G 8 (nIf zz)), (ad 18, iA G 800 el), (ao, lA G 1 out)]) (rest := []) C (metX1_toss_b l G ax xa xi sh gm (xs (i + 1)) hl9 (gt_NG9 hgt (G0_GA _) hD (isC := [0]) rfl htT) (hbad)) 1 (lw_VW q976 q977 q978 q39 q979) (by decide +kernel) ⟨rfl, rfl⟩ ⟨(Nat.le_of_ble_eq_true rfl), (Nat.le_of_ble_eq_true rfl)⟩ (KE.call) (KE.at hK (hgt.GP (G0_GP G H) hP (fun q hq => List.mem_append_right _ (htT q hq))) hM1 hZ hS) (va_recv hK.1 hP (ci := 1) (q0 := 0) rfl rfl) hA hP hD hS [0] [1, 2, 3, 4, 5, 6, 7, 8, 9, 10, 11, 12, 13, 14, 15, 16, 17, 18, 19, 20, 21, 22, 23, 24, 25, 26, 27, 28, 29, 30, 31, 32, 33, 34, 35, 36, 37] rfl rfl rfl rfl (by decide) hl rfl rfl (Nat.le_of_ble_eq_true rfl) ⟨(by omega), (by omega)⟩ dL_law_1566 (fun r_1 w1 H locs hq_2 hP hD hS => ?_)
    obtain ⟨rfl, rfl⟩ := hq_2
    have hP : PP G ([(xa 0, fO fn r), (fn 0, qA G 3 9 wh), (fn 1, iA G 9 (fA r 2)), (fn 2, iA G 9 (fA r 3)), (fn 3, iA G 9 (fA r 4)), (fn 4, iA G 9 (fA r 5)), (xa 1, fO fk rk), (fk 0, qA G 3 9 wk), (fk 1, iA G 9 (fA rk 2)), (fk 2, iA G 9 (fA rk 3)), (fk 3, iA G 9 (fA rk 4)), (fk 4, iA G 9 (fA rk 5)), (xa 2, fR fm g0 g1 g2), (fm 0, qA G 3 9 gw), (fm 1, iA G 9 ga2), (fm 2, iA G 9 ga3), (fm 3, iA G 9 ga4), (fm 4, iA G 9 ga5), (xa 4, qA G 4 100 ft), (xa 5, iA G 1280 vv), (xa 6, iA G 8 by9), (xa 8, qA G 5 8 (shf sh)), (am, mO ad iv), (ad 0, iA G 57 r), (ad 1, iA G 57 m9), (ad 2, iA G 57 rk), (ad 3, iA G 57 w9), (ad 8, iA G 4 nu), (ad 9, iA G 8 wb), (ad 10, iA G 8 bb), (ad 13, iA G 8 ke), (ad 14, iA G 8 kk), (ad 15, iA G 8 kf), (ad 16, iA G 8 so), (ad 17, iA G 8 (nIf zz)), (ad 18, iA G 800 el), (ao, lA G 1 out), (ax, xO xa xi)] ++ T) H := hP
    have hD : va_D (fun q : Nat => s.heap.size ≤ q) ([(xa 0, fO fn r), (fn 0, qA G 3 9 wh), (fn 1, iA G 9 (fA r 2)), (fn 2, iA G 9 (fA r 3)), (fn 3, iA G 9 (fA r 4)), (fn 4, iA G 9 (fA r 5)), (xa 1, fO fk rk), (fk 0, qA G 3 9 wk), (fk 1, iA G 9 (fA rk 2)), (fk 2, iA G 9 (fA rk 3)), (fk 3, iA G 9 (fA rk 4)), (fk 4, iA G 9 (fA rk 5)), (xa 2, fR fm g0 g1 g2), (fm 0, qA G 3 9 gw), (fm 1, iA G 9 ga2), (fm 2, iA G 9 ga3), (fm 3, iA G 9 ga4), (fm 4, iA G 9 ga5), (xa 4, qA G 4 100 ft), (xa 5, iA G 1280 vv), (xa 6, iA G 8 by9), (xa 8, qA G 5 8 (shf sh)), (am, mO ad iv), (ad 0, iA G 57 r), (ad 1, iA G 57 m9), (ad 2, iA G 57 rk), (ad 3, iA G 57 w9), (ad 8, iA G 4 nu), (ad 9, iA G 8 wb), (ad 10, iA G 8 bb), (ad 13, iA G 8 ke), (ad 14, iA G 8 kk), (ad 15, iA G 8 kf), (ad 16, iA G 8 so), (ad 17, iA G 8 (nIf zz)), (ad 18, iA G 800 el), (ao, lA G 1 out), (ax, xO xa xi)] ++ T) := hD
    refine lv_aload_n hx hb dL_law_1569 rfl (lv_at hl 2 rfl) ?_
    refine lv_aload_n hx hb dL_law_1570 rfl (lv_at hl 4 rfl) ?_
    refine lv_iload hx hb dL_law_1571 (lv_at hl 0 rfl) ?_
    refine lv_iconst (v := 1) hx hb dL_law_1573 (by decide) ?_
    refine n_iadd hx hb i 1 dL_law_1574 ?_
    refine va_sld (i := nI (i + 1)) hx hb hX hbl (Nat.not_le.mpr hbl) hS (vp_in_nI (by omega) (by omega)) dL_law_1575 ?_
    refine n_eqi (y := xs (i + 1)) (congrArg xs (nI_clamp (by omega))) ?_
    refine c_V (rest := [.int (-1)]) C (metX4_toss l G am ad iv ke kk kf (xs (i + 1))) 1 (lw_V q1431 q1432 q1433 q42 q1434) (by decide +kernel) ⟨rfl, rfl⟩ ⟨(Nat.le_of_ble_eq_true rfl), (Nat.le_of_ble_eq_true rfl)⟩ (KM_mv G) (va_recv hK.1 hP (ci := 0) (q0 := 22) rfl rfl) ((tl_P hP).sub (ws' := [(am, mO ad iv), (ad 13, iA G 8 ke), (ad 14, iA G 8 kk), (ad 15, iA G 8 kf)]) [22, 30, 31, 32] rfl) hK.1 hl rfl rfl (Nat.le_of_ble_eq_true rfl) ⟨(by omega), (by omega)⟩ dL_law_1576 ?_
    refine lv_icmp_eq (x := -1) (y := sTossA ke kk kf (xs (i + 1))) (tgt := 1584) hx hb dL_law_1579 (by decide) (fun c_3 => ?_) (fun c_3 => absurd c_3 ((fun q => q (to_w (wk_b hbad) (by decide)))))
    have hP : PP G ((LW G ax am ao xa fn fk fm sh ad xi r wh rk wk gw ga2 ga3 ga4 ga5 g0 g1 g2 ft vv by9 iv r m9 rk w9 nu wb bb ke kk kf so zz el out) ++ T) H := hP.part [37, 0, 1, 2, 3, 4, 5, 6, 7, 8, 9, 10, 11, 12, 13, 14, 15, 16, 17, 18, 19, 20, 21, 22, 23, 24, 25, 26, 27, 28, 29, 30, 31, 32, 33, 34, 35, 36] rfl
    have hD : va_D (fun q : Nat => s.heap.size ≤ q) ((LW G ax am ao xa fn fk fm sh ad xi r wh rk wk gw ga2 ga3 ga4 ga5 g0 g1 g2 ft vv by9 iv r m9 rk w9 nu wb bb ke kk kf so zz el out) ++ T) := hD.part [37, 0, 1, 2, 3, 4, 5, 6, 7, 8, 9, 10, 11, 12, 13, 14, 15, 16, 17, 18, 19, 20, 21, 22, 23, 24, 25, 26, 27, 28, 29, 30, 31, 32, 33, 34, 35, 36] (by decide) rfl
    subst hT
    refine W.widen (k := cells + 1010) (n := slots + 5500) (by omega) (by omega) ?_
    exact kont H locs ⟨gm, tg, N, N2, hv, rw, r, rk, xi, wh, wk, gw, ga2, ga3, ga4, ga5, g0, g1, g2, ft, vv, by9, iv, m9, w9, nu, wb, bb, ke, kk, kf, so, zz, el, out, ⟨hN, hr, hwk, hri, h9, hN2, hr2, hwk2, hri2, h92, hiv, hgt, hzz, hsd⟩, hP, hD⟩ hS ls hl
  · obtain ⟨d, hd, ed⟩ := sh_d hbad
    have hzd := hzz d
    have hP := PP_perm (wo_out (P := PT) rfl hd) hP
    have hD := D_perm (wo_out (P := PT) rfl hd) hD
    rcases hsd d hd with ⟨e1, e2, e3⟩ | ⟨y0, k0, f0, e1, e2, e3, e4, e5, e6, e7, e8⟩ | ⟨a0, t0, e1, e2, e3, e4, e5, e6⟩
    · rw [e1, rl1_n e2, List.append_nil] at hP hD
      generalize hT : (SL sh hv (rmP PT d) 8 ++ (RL G rw el (rmP PT d) 8 ++ tg)) = T at hP hD
      have htT : ∀ q ∈ tg, q ∈ T := fun q hq => by rw [← hT]; exact List.mem_append_right _ (List.mem_append_right _ hq)
      have hP : PP G ([(ax, xO xa xi), (xa 0, fO fn r), (fn 0, qA G 3 9 wh), (fn 1, iA G 9 (fA r 2)), (fn 2, iA G 9 (fA r 3)), (fn 3, iA G 9 (fA r 4)), (fn 4, iA G 9 (fA r 5)), (xa 1, fO fk rk), (fk 0, qA G 3 9 wk), (fk 1, iA G 9 (fA rk 2)), (fk 2, iA G 9 (fA rk 3)), (fk 3, iA G 9 (fA rk 4)), (fk 4, iA G 9 (fA rk 5)), (xa 2, fR fm g0 g1 g2), (fm 0, qA G 3 9 gw), (fm 1, iA G 9 ga2), (fm 2, iA G 9 ga3), (fm 3, iA G 9 ga4), (fm 4, iA G 9 ga5), (xa 4, qA G 4 100 ft), (xa 5, iA G 1280 vv), (xa 6, iA G 8 by9), (xa 8, qA G 5 8 (shf sh)), (am, mO ad iv), (ad 0, iA G 57 r), (ad 1, iA G 57 m9), (ad 2, iA G 57 rk), (ad 3, iA G 57 w9), (ad 8, iA G 4 nu), (ad 9, iA G 8 wb), (ad 10, iA G 8 bb), (ad 13, iA G 8 ke), (ad 14, iA G 8 kk), (ad 15, iA G 8 kf), (ad 16, iA G 8 so), (ad 17, iA G 8 (nIf zz)), (ad 18, iA G 800 el), (ao, lA G 1 out), (sh d, .inr (3, [.null]))] ++ T) H := hP
      have hD : va_D (fun q : Nat => s.heap.size ≤ q) ([(ax, xO xa xi), (xa 0, fO fn r), (fn 0, qA G 3 9 wh), (fn 1, iA G 9 (fA r 2)), (fn 2, iA G 9 (fA r 3)), (fn 3, iA G 9 (fA r 4)), (fn 4, iA G 9 (fA r 5)), (xa 1, fO fk rk), (fk 0, qA G 3 9 wk), (fk 1, iA G 9 (fA rk 2)), (fk 2, iA G 9 (fA rk 3)), (fk 3, iA G 9 (fA rk 4)), (fk 4, iA G 9 (fA rk 5)), (xa 2, fR fm g0 g1 g2), (fm 0, qA G 3 9 gw), (fm 1, iA G 9 ga2), (fm 2, iA G 9 ga3), (fm 3, iA G 9 ga4), (fm 4, iA G 9 ga5), (xa 4, qA G 4 100 ft), (xa 5, iA G 1280 vv), (xa 6, iA G 8 by9), (xa 8, qA G 5 8 (shf sh)), (am, mO ad iv), (ad 0, iA G 57 r), (ad 1, iA G 57 m9), (ad 2, iA G 57 rk), (ad 3, iA G 57 w9), (ad 8, iA G 4 nu), (ad 9, iA G 8 wb), (ad 10, iA G 8 bb), (ad 13, iA G 8 ke), (ad 14, iA G 8 kk), (ad 15, iA G 8 kf), (ad 16, iA G 8 so), (ad 17, iA G 8 (nIf zz)), (ad 18, iA G 800 el), (ao, lA G 1 out), (sh d, .inr (3, [.null]))] ++ T) := hD
      refine lv_aload_n hx hb dL_law_1559 rfl (lv_at hl 3 rfl) ?_
      refine lv_aload_n hx hb dL_law_1560 rfl (lv_at hl 4 rfl) ?_
      refine lv_iload hx hb dL_law_1561 (lv_at hl 0 rfl) ?_
      refine lv_iconst (v := 1) hx hb dL_law_1563 (by decide) ?_
      refine n_iadd hx hb i 1 dL_law_1564 ?_
      refine va_sld (i := nI (i + 1)) hx hb hX hbl (Nat.not_le.mpr hbl) hS (vp_in_nI (by omega) (by omega)) dL_law_1565 ?_
      refine n_eqi (y := nI d) ((congrArg xs (nI_clamp (by omega))).trans ed) ?_
      refine c_VWhP (wr := [(xa 0, fO fn r), (fn 0, qA G 3 9 wh), (fn 1, iA G 9 (fA r 2)), (fn 2, iA G 9 (fA r 3)), (fn 3, iA G 9 (fA r 4)), (fn 4, iA G 9 (fA r 5)), (xa 1, fO fk rk), (fk 0, qA G 3 9 wk), (fk 1, iA G 9 (fA rk 2)), (fk 2, iA G 9 (fA rk 3)), (fk 3, iA G 9 (fA rk 4)), (fk 4, iA G 9 (fA rk 5)), (xa 2, fR fm g0 g1 g2), (fm 0, qA G 3 9 gw), (fm 1, iA G 9 ga2), (fm 2, iA G 9 ga3), (fm 3, iA G 9 ga4), (fm 4, iA G 9 ga5), (xa 4, qA G 4 100 ft), (xa 5, iA G 1280 vv), (xa 6, iA G 8 by9), (am, mO ad iv), (ad 0, iA G 57 r), (ad 1, iA G 57 m9), (ad 2, iA G 57 rk), (ad 3, iA G 57 w9), (ad 8, iA G 4 nu), (ad 9, iA G 8 wb), (ad 10, iA G 8 bb), (ad 13, iA G 8 ke), (ad 14, iA G 8 kk), (ad 15, iA G 8 kf), (ad 16, iA G 8 so), (ad 17, iA G 8 (nIf zz)), (ad 18, iA G 800 el), (ao, lA G 1 out)]) (rest := []) C (metX1_toss_n l G ax xa xi sh gm d hl9 (gt_NG9 hgt (G0_GA _) hD (isC := [0, 22, 38]) rfl htT) (by omega)) 1 (lw_VW q976 q977 q978 q39 q979) (by decide +kernel) ⟨rfl, rfl⟩ ⟨(Nat.le_of_ble_eq_true rfl), (Nat.le_of_ble_eq_true rfl)⟩ (KE.call) (KE.at hK (hgt.GP (G0_GP G H) hP (fun q hq => List.mem_append_right _ (htT q hq))) hM1 hZ hS) (va_recv hK.1 hP (ci := 1) (q0 := 0) rfl rfl) hA hP hD hS [0, 22, 38] [1, 2, 3, 4, 5, 6, 7, 8, 9, 10, 11, 12, 13, 14, 15, 16, 17, 18, 19, 20, 21, 23, 24, 25, 26, 27, 28, 29, 30, 31, 32, 33, 34, 35, 36, 37] rfl rfl rfl rfl (by decide) hl rfl rfl (Nat.le_of_ble_eq_true rfl) ⟨(by omega), (by omega)⟩ dL_law_1566 (fun r_4 w1 H locs hq_5 hP hD hS => ?_)
      obtain ⟨rfl, rfl⟩ := hq_5
      have hP : PP G ([(xa 0, fO fn r), (fn 0, qA G 3 9 wh), (fn 1, iA G 9 (fA r 2)), (fn 2, iA G 9 (fA r 3)), (fn 3, iA G 9 (fA r 4)), (fn 4, iA G 9 (fA r 5)), (xa 1, fO fk rk), (fk 0, qA G 3 9 wk), (fk 1, iA G 9 (fA rk 2)), (fk 2, iA G 9 (fA rk 3)), (fk 3, iA G 9 (fA rk 4)), (fk 4, iA G 9 (fA rk 5)), (xa 2, fR fm g0 g1 g2), (fm 0, qA G 3 9 gw), (fm 1, iA G 9 ga2), (fm 2, iA G 9 ga3), (fm 3, iA G 9 ga4), (fm 4, iA G 9 ga5), (xa 4, qA G 4 100 ft), (xa 5, iA G 1280 vv), (xa 6, iA G 8 by9), (am, mO ad iv), (ad 0, iA G 57 r), (ad 1, iA G 57 m9), (ad 2, iA G 57 rk), (ad 3, iA G 57 w9), (ad 8, iA G 4 nu), (ad 9, iA G 8 wb), (ad 10, iA G 8 bb), (ad 13, iA G 8 ke), (ad 14, iA G 8 kk), (ad 15, iA G 8 kf), (ad 16, iA G 8 so), (ad 17, iA G 8 (nIf zz)), (ad 18, iA G 800 el), (ao, lA G 1 out), (ax, xO xa xi), (xa 8, qA G 5 8 (shf sh)), (sh d, .inr (3, [.null]))] ++ T) H := hP
      have hD : va_D (fun q : Nat => s.heap.size ≤ q) ([(xa 0, fO fn r), (fn 0, qA G 3 9 wh), (fn 1, iA G 9 (fA r 2)), (fn 2, iA G 9 (fA r 3)), (fn 3, iA G 9 (fA r 4)), (fn 4, iA G 9 (fA r 5)), (xa 1, fO fk rk), (fk 0, qA G 3 9 wk), (fk 1, iA G 9 (fA rk 2)), (fk 2, iA G 9 (fA rk 3)), (fk 3, iA G 9 (fA rk 4)), (fk 4, iA G 9 (fA rk 5)), (xa 2, fR fm g0 g1 g2), (fm 0, qA G 3 9 gw), (fm 1, iA G 9 ga2), (fm 2, iA G 9 ga3), (fm 3, iA G 9 ga4), (fm 4, iA G 9 ga5), (xa 4, qA G 4 100 ft), (xa 5, iA G 1280 vv), (xa 6, iA G 8 by9), (am, mO ad iv), (ad 0, iA G 57 r), (ad 1, iA G 57 m9), (ad 2, iA G 57 rk), (ad 3, iA G 57 w9), (ad 8, iA G 4 nu), (ad 9, iA G 8 wb), (ad 10, iA G 8 bb), (ad 13, iA G 8 ke), (ad 14, iA G 8 kk), (ad 15, iA G 8 kf), (ad 16, iA G 8 so), (ad 17, iA G 8 (nIf zz)), (ad 18, iA G 800 el), (ao, lA G 1 out), (ax, xO xa xi), (xa 8, qA G 5 8 (shf sh)), (sh d, .inr (3, [.null]))] ++ T) := hD
      refine lv_aload_n hx hb dL_law_1569 rfl (lv_at hl 2 rfl) ?_
      refine lv_aload_n hx hb dL_law_1570 rfl (lv_at hl 4 rfl) ?_
      refine lv_iload hx hb dL_law_1571 (lv_at hl 0 rfl) ?_
      refine lv_iconst (v := 1) hx hb dL_law_1573 (by decide) ?_
      refine n_iadd hx hb i 1 dL_law_1574 ?_
      refine va_sld (i := nI (i + 1)) hx hb hX hbl (Nat.not_le.mpr hbl) hS (vp_in_nI (by omega) (by omega)) dL_law_1575 ?_
      refine n_eqi (y := nI d) ((congrArg xs (nI_clamp (by omega))).trans ed) ?_
      refine c_V (rest := [.int (-11)]) C (metX4_toss l G am ad iv ke kk kf (nI d)) 1 (lw_V q1431 q1432 q1433 q42 q1434) (by decide +kernel) ⟨rfl, rfl⟩ ⟨(Nat.le_of_ble_eq_true rfl), (Nat.le_of_ble_eq_true rfl)⟩ (KM_mv G) (va_recv hK.1 hP (ci := 0) (q0 := 21) rfl rfl) ((tl_P hP).sub (ws' := [(am, mO ad iv), (ad 13, iA G 8 ke), (ad 14, iA G 8 kk), (ad 15, iA G 8 kf)]) [21, 29, 30, 31] rfl) hK.1 hl rfl rfl (Nat.le_of_ble_eq_true rfl) ⟨(by omega), (by omega)⟩ dL_law_1576 ?_
      refine lv_icmp_eq (x := -11) (y := sTossA ke kk kf (nI d)) (tgt := 1584) hx hb dL_law_1579 (by decide) (fun c_6 => ?_) (fun c_6 => absurd c_6 ((fun q => q (to_w (wk_n hd e3) (by decide)))))
      have hP : PP G ((((LW G ax am ao xa fn fk fm sh ad xi r wh rk wk gw ga2 ga3 ga4 ga5 g0 g1 g2 ft vv by9 iv r m9 rk w9 nu wb bb ke kk kf so zz el out) ++ [(sh d, .inr (3, [.null]))]) ++ []) ++ T) H := hP.part [36, 0, 1, 2, 3, 4, 5, 6, 7, 8, 9, 10, 11, 12, 13, 14, 15, 16, 17, 18, 19, 20, 37, 21, 22, 23, 24, 25, 26, 27, 28, 29, 30, 31, 32, 33, 34, 35, 38] rfl
      have hD : va_D (fun q : Nat => s.heap.size ≤ q) ((((LW G ax am ao xa fn fk fm sh ad xi r wh rk wk gw ga2 ga3 ga4 ga5 g0 g1 g2 ft vv by9 iv r m9 rk w9 nu wb bb ke kk kf so zz el out) ++ [(sh d, .inr (3, [.null]))]) ++ []) ++ T) := hD.part [36, 0, 1, 2, 3, 4, 5, 6, 7, 8, 9, 10, 11, 12, 13, 14, 15, 16, 17, 18, 19, 20, 37, 21, 22, 23, 24, 25, 26, 27, 28, 29, 30, 31, 32, 33, 34, 35, 38] (by decide) rfl
      subst hT
      obtain ⟨hP, hD⟩ := wo_bk (X := (LW G ax am ao xa fn fk fm sh ad xi r wh rk wk gw ga2 ga3 ga4 ga5 g0 g1 g2 ft vv by9 iv r m9 rk w9 nu wb bb ke kk kf so zz el out)) (R := []) hv rw el hd (e1) (rl1_n e2) (fun _ _ _ => ⟨rfl, rfl, fun _ _ _ _ => rfl⟩) hP hD
      refine W.widen (k := cells + 1010) (n := slots + 5500) (by omega) (by omega) ?_
      exact kont H locs ⟨gm, tg, N, N2, hv, rw, r, rk, xi, wh, wk, gw, ga2, ga3, ga4, ga5, g0, g1, g2, ft, vv, by9, iv, m9, w9, nu, wb, bb, ke, kk, kf, so, zz, el, out, ⟨hN, hr, hwk, hri, h9, hN2, hr2, hwk2, hri2, h92, hiv, hgt, hzz, hsd⟩, hP, hD⟩ hS ls hl
    · rw [e1, rl1_n e2, List.append_nil] at hP hD
      generalize hT : (SL sh hv (rmP PT d) 8 ++ (RL G rw el (rmP PT d) 8 ++ tg)) = T at hP hD
      have htT : ∀ q ∈ tg, q ∈ T := fun q hq => by rw [← hT]; exact List.mem_append_right _ (List.mem_append_right _ hq)
      have hP : PP G ([(ax, xO xa xi), (xa 0, fO fn r), (fn 0, qA G 3 9 wh), (fn 1, iA G 9 (fA r 2)), (fn 2, iA G 9 (fA r 3)), (fn 3, iA G 9 (fA r 4)), (fn 4, iA G 9 (fA r 5)), (xa 1, fO fk rk), (fk 0, qA G 3 9 wk), (fk 1, iA G 9 (fA rk 2)), (fk 2, iA G 9 (fA rk 3)), (fk 3, iA G 9 (fA rk 4)), (fk 4, iA G 9 (fA rk 5)), (xa 2, fR fm g0 g1 g2), (fm 0, qA G 3 9 gw), (fm 1, iA G 9 ga2), (fm 2, iA G 9 ga3), (fm 3, iA G 9 ga4), (fm 4, iA G 9 ga5), (xa 4, qA G 4 100 ft), (xa 5, iA G 1280 vv), (xa 6, iA G 8 by9), (xa 8, qA G 5 8 (shf sh)), (am, mO ad iv), (ad 0, iA G 57 r), (ad 1, iA G 57 m9), (ad 2, iA G 57 rk), (ad 3, iA G 57 w9), (ad 8, iA G 4 nu), (ad 9, iA G 8 wb), (ad 10, iA G 8 bb), (ad 13, iA G 8 ke), (ad 14, iA G 8 kk), (ad 15, iA G 8 kf), (ad 16, iA G 8 so), (ad 17, iA G 8 (nIf zz)), (ad 18, iA G 800 el), (ao, lA G 1 out), (sh d, .inr (3, [.ref y0]))] ++ T) H := hP
      have hD : va_D (fun q : Nat => s.heap.size ≤ q) ([(ax, xO xa xi), (xa 0, fO fn r), (fn 0, qA G 3 9 wh), (fn 1, iA G 9 (fA r 2)), (fn 2, iA G 9 (fA r 3)), (fn 3, iA G 9 (fA r 4)), (fn 4, iA G 9 (fA r 5)), (xa 1, fO fk rk), (fk 0, qA G 3 9 wk), (fk 1, iA G 9 (fA rk 2)), (fk 2, iA G 9 (fA rk 3)), (fk 3, iA G 9 (fA rk 4)), (fk 4, iA G 9 (fA rk 5)), (xa 2, fR fm g0 g1 g2), (fm 0, qA G 3 9 gw), (fm 1, iA G 9 ga2), (fm 2, iA G 9 ga3), (fm 3, iA G 9 ga4), (fm 4, iA G 9 ga5), (xa 4, qA G 4 100 ft), (xa 5, iA G 1280 vv), (xa 6, iA G 8 by9), (xa 8, qA G 5 8 (shf sh)), (am, mO ad iv), (ad 0, iA G 57 r), (ad 1, iA G 57 m9), (ad 2, iA G 57 rk), (ad 3, iA G 57 w9), (ad 8, iA G 4 nu), (ad 9, iA G 8 wb), (ad 10, iA G 8 bb), (ad 13, iA G 8 ke), (ad 14, iA G 8 kk), (ad 15, iA G 8 kf), (ad 16, iA G 8 so), (ad 17, iA G 8 (nIf zz)), (ad 18, iA G 800 el), (ao, lA G 1 out), (sh d, .inr (3, [.ref y0]))] ++ T) := hD
      refine lv_aload_n hx hb dL_law_1559 rfl (lv_at hl 3 rfl) ?_
      refine lv_aload_n hx hb dL_law_1560 rfl (lv_at hl 4 rfl) ?_
      refine lv_iload hx hb dL_law_1561 (lv_at hl 0 rfl) ?_
      refine lv_iconst (v := 1) hx hb dL_law_1563 (by decide) ?_
      refine n_iadd hx hb i 1 dL_law_1564 ?_
      refine va_sld (i := nI (i + 1)) hx hb hX hbl (Nat.not_le.mpr hbl) hS (vp_in_nI (by omega) (by omega)) dL_law_1565 ?_
      refine n_eqi (y := nI d) ((congrArg xs (nI_clamp (by omega))).trans ed) ?_
      refine c_VWhP (wr := [(xa 0, fO fn r), (fn 0, qA G 3 9 wh), (fn 1, iA G 9 (fA r 2)), (fn 2, iA G 9 (fA r 3)), (fn 3, iA G 9 (fA r 4)), (fn 4, iA G 9 (fA r 5)), (xa 1, fO fk rk), (fk 0, qA G 3 9 wk), (fk 1, iA G 9 (fA rk 2)), (fk 2, iA G 9 (fA rk 3)), (fk 3, iA G 9 (fA rk 4)), (fk 4, iA G 9 (fA rk 5)), (xa 2, fR fm g0 g1 g2), (fm 0, qA G 3 9 gw), (fm 1, iA G 9 ga2), (fm 2, iA G 9 ga3), (fm 3, iA G 9 ga4), (fm 4, iA G 9 ga5), (xa 4, qA G 4 100 ft), (xa 5, iA G 1280 vv), (xa 6, iA G 8 by9), (am, mO ad iv), (ad 0, iA G 57 r), (ad 1, iA G 57 m9), (ad 2, iA G 57 rk), (ad 3, iA G 57 w9), (ad 8, iA G 4 nu), (ad 9, iA G 8 wb), (ad 10, iA G 8 bb), (ad 13, iA G 8 ke), (ad 14, iA G 8 kk), (ad 15, iA G 8 kf), (ad 16, iA G 8 so), (ad 17, iA G 8 (nIf zz)), (ad 18, iA G 800 el), (ao, lA G 1 out)]) (rest := []) C (metX1_toss_g l G ax xa xi sh gm d y0 k0 (nI f0) hl9 (gt_NG9 hgt (G0_GA _) hD (isC := [0, 22, 38]) rfl htT) (by omega) (e3)) 1 (lw_VW q976 q977 q978 q39 q979) (by decide +kernel) ⟨rfl, rfl⟩ ⟨(Nat.le_of_ble_eq_true rfl), (Nat.le_of_ble_eq_true rfl)⟩ (KE.call) (KE.at hK (hgt.GP (G0_GP G H) hP (fun q hq => List.mem_append_right _ (htT q hq))) hM1 hZ hS) (va_recv hK.1 hP (ci := 1) (q0 := 0) rfl rfl) hA hP hD hS [0, 22, 38] [1, 2, 3, 4, 5, 6, 7, 8, 9, 10, 11, 12, 13, 14, 15, 16, 17, 18, 19, 20, 21, 23, 24, 25, 26, 27, 28, 29, 30, 31, 32, 33, 34, 35, 36, 37] rfl rfl rfl rfl (by decide) hl rfl rfl (Nat.le_of_ble_eq_true rfl) ⟨(by omega), (by omega)⟩ dL_law_1566 (fun r_7 w1 H locs hq_8 hP hD hS => ?_)
      obtain ⟨rfl, rfl⟩ := hq_8
      have hP : PP G ([(xa 0, fO fn r), (fn 0, qA G 3 9 wh), (fn 1, iA G 9 (fA r 2)), (fn 2, iA G 9 (fA r 3)), (fn 3, iA G 9 (fA r 4)), (fn 4, iA G 9 (fA r 5)), (xa 1, fO fk rk), (fk 0, qA G 3 9 wk), (fk 1, iA G 9 (fA rk 2)), (fk 2, iA G 9 (fA rk 3)), (fk 3, iA G 9 (fA rk 4)), (fk 4, iA G 9 (fA rk 5)), (xa 2, fR fm g0 g1 g2), (fm 0, qA G 3 9 gw), (fm 1, iA G 9 ga2), (fm 2, iA G 9 ga3), (fm 3, iA G 9 ga4), (fm 4, iA G 9 ga5), (xa 4, qA G 4 100 ft), (xa 5, iA G 1280 vv), (xa 6, iA G 8 by9), (am, mO ad iv), (ad 0, iA G 57 r), (ad 1, iA G 57 m9), (ad 2, iA G 57 rk), (ad 3, iA G 57 w9), (ad 8, iA G 4 nu), (ad 9, iA G 8 wb), (ad 10, iA G 8 bb), (ad 13, iA G 8 ke), (ad 14, iA G 8 kk), (ad 15, iA G 8 kf), (ad 16, iA G 8 so), (ad 17, iA G 8 (nIf zz)), (ad 18, iA G 800 el), (ao, lA G 1 out), (ax, xO xa xi), (xa 8, qA G 5 8 (shf sh)), (sh d, .inr (3, [.ref y0]))] ++ T) H := hP
      have hD : va_D (fun q : Nat => s.heap.size ≤ q) ([(xa 0, fO fn r), (fn 0, qA G 3 9 wh), (fn 1, iA G 9 (fA r 2)), (fn 2, iA G 9 (fA r 3)), (fn 3, iA G 9 (fA r 4)), (fn 4, iA G 9 (fA r 5)), (xa 1, fO fk rk), (fk 0, qA G 3 9 wk), (fk 1, iA G 9 (fA rk 2)), (fk 2, iA G 9 (fA rk 3)), (fk 3, iA G 9 (fA rk 4)), (fk 4, iA G 9 (fA rk 5)), (xa 2, fR fm g0 g1 g2), (fm 0, qA G 3 9 gw), (fm 1, iA G 9 ga2), (fm 2, iA G 9 ga3), (fm 3, iA G 9 ga4), (fm 4, iA G 9 ga5), (xa 4, qA G 4 100 ft), (xa 5, iA G 1280 vv), (xa 6, iA G 8 by9), (am, mO ad iv), (ad 0, iA G 57 r), (ad 1, iA G 57 m9), (ad 2, iA G 57 rk), (ad 3, iA G 57 w9), (ad 8, iA G 4 nu), (ad 9, iA G 8 wb), (ad 10, iA G 8 bb), (ad 13, iA G 8 ke), (ad 14, iA G 8 kk), (ad 15, iA G 8 kf), (ad 16, iA G 8 so), (ad 17, iA G 8 (nIf zz)), (ad 18, iA G 800 el), (ao, lA G 1 out), (ax, xO xa xi), (xa 8, qA G 5 8 (shf sh)), (sh d, .inr (3, [.ref y0]))] ++ T) := hD
      refine lv_aload_n hx hb dL_law_1569 rfl (lv_at hl 2 rfl) ?_
      refine lv_aload_n hx hb dL_law_1570 rfl (lv_at hl 4 rfl) ?_
      refine lv_iload hx hb dL_law_1571 (lv_at hl 0 rfl) ?_
      refine lv_iconst (v := 1) hx hb dL_law_1573 (by decide) ?_
      refine n_iadd hx hb i 1 dL_law_1574 ?_
      refine va_sld (i := nI (i + 1)) hx hb hX hbl (Nat.not_le.mpr hbl) hS (vp_in_nI (by omega) (by omega)) dL_law_1575 ?_
      refine n_eqi (y := nI d) ((congrArg xs (nI_clamp (by omega))).trans ed) ?_
      refine c_V (rest := [.int (sTosX k0 (nI f0))]) C (metX4_toss l G am ad iv ke kk kf (nI d)) 1 (lw_V q1431 q1432 q1433 q42 q1434) (by decide +kernel) ⟨rfl, rfl⟩ ⟨(Nat.le_of_ble_eq_true rfl), (Nat.le_of_ble_eq_true rfl)⟩ (KM_mv G) (va_recv hK.1 hP (ci := 0) (q0 := 21) rfl rfl) ((tl_P hP).sub (ws' := [(am, mO ad iv), (ad 13, iA G 8 ke), (ad 14, iA G 8 kk), (ad 15, iA G 8 kf)]) [21, 29, 30, 31] rfl) hK.1 hl rfl rfl (Nat.le_of_ble_eq_true rfl) ⟨(by omega), (by omega)⟩ dL_law_1576 ?_
      refine lv_icmp_eq (x := sTosX k0 (nI f0)) (y := sTossA ke kk kf (nI d)) (tgt := 1584) hx hb dL_law_1579 (by decide) (fun c_9 => ?_) (fun c_9 => absurd c_9 ((fun q => q (to_g hd e4 e5 e6 e7 e8))))
      have hP : PP G ((((LW G ax am ao xa fn fk fm sh ad xi r wh rk wk gw ga2 ga3 ga4 ga5 g0 g1 g2 ft vv by9 iv r m9 rk w9 nu wb bb ke kk kf so zz el out) ++ [(sh d, .inr (3, [.ref y0]))]) ++ []) ++ T) H := hP.part [36, 0, 1, 2, 3, 4, 5, 6, 7, 8, 9, 10, 11, 12, 13, 14, 15, 16, 17, 18, 19, 20, 37, 21, 22, 23, 24, 25, 26, 27, 28, 29, 30, 31, 32, 33, 34, 35, 38] rfl
      have hD : va_D (fun q : Nat => s.heap.size ≤ q) ((((LW G ax am ao xa fn fk fm sh ad xi r wh rk wk gw ga2 ga3 ga4 ga5 g0 g1 g2 ft vv by9 iv r m9 rk w9 nu wb bb ke kk kf so zz el out) ++ [(sh d, .inr (3, [.ref y0]))]) ++ []) ++ T) := hD.part [36, 0, 1, 2, 3, 4, 5, 6, 7, 8, 9, 10, 11, 12, 13, 14, 15, 16, 17, 18, 19, 20, 37, 21, 22, 23, 24, 25, 26, 27, 28, 29, 30, 31, 32, 33, 34, 35, 38] (by decide) rfl
      subst hT
      obtain ⟨hP, hD⟩ := wo_bk (X := (LW G ax am ao xa fn fk fm sh ad xi r wh rk wk gw ga2 ga3 ga4 ga5 g0 g1 g2 ft vv by9 iv r m9 rk w9 nu wb bb ke kk kf so zz el out)) (R := []) hv rw el hd (e1) (rl1_n e2) (fun _ _ _ => ⟨rfl, rfl, fun _ _ _ _ => rfl⟩) hP hD
      refine W.widen (k := cells + 1010) (n := slots + 5500) (by omega) (by omega) ?_
      exact kont H locs ⟨gm, tg, N, N2, hv, rw, r, rk, xi, wh, wk, gw, ga2, ga3, ga4, ga5, g0, g1, g2, ft, vv, by9, iv, m9, w9, nu, wb, bb, ke, kk, kf, so, zz, el, out, ⟨hN, hr, hwk, hri, h9, hN2, hr2, hwk2, hri2, h92, hiv, hgt, hzz, hsd⟩, hP, hD⟩ hS ls hl
    · rw [e1, rl1_s e2] at hP hD
      generalize hT : (SL sh hv (rmP PT d) 8 ++ (RL G rw el (rmP PT d) 8 ++ tg)) = T at hP hD
      have htT : ∀ q ∈ tg, q ∈ T := fun q hq => by rw [← hT]; exact List.mem_append_right _ (List.mem_append_right _ hq)
      have hP : PP G ([(ax, xO xa xi), (xa 0, fO fn r), (fn 0, qA G 3 9 wh), (fn 1, iA G 9 (fA r 2)), (fn 2, iA G 9 (fA r 3)), (fn 3, iA G 9 (fA r 4)), (fn 4, iA G 9 (fA r 5)), (xa 1, fO fk rk), (fk 0, qA G 3 9 wk), (fk 1, iA G 9 (fA rk 2)), (fk 2, iA G 9 (fA rk 3)), (fk 3, iA G 9 (fA rk 4)), (fk 4, iA G 9 (fA rk 5)), (xa 2, fR fm g0 g1 g2), (fm 0, qA G 3 9 gw), (fm 1, iA G 9 ga2), (fm 2, iA G 9 ga3), (fm 3, iA G 9 ga4), (fm 4, iA G 9 ga5), (xa 4, qA G 4 100 ft), (xa 5, iA G 1280 vv), (xa 6, iA G 8 by9), (xa 8, qA G 5 8 (shf sh)), (am, mO ad iv), (ad 0, iA G 57 r), (ad 1, iA G 57 m9), (ad 2, iA G 57 rk), (ad 3, iA G 57 w9), (ad 8, iA G 4 nu), (ad 9, iA G 8 wb), (ad 10, iA G 8 bb), (ad 13, iA G 8 ke), (ad 14, iA G 8 kk), (ad 15, iA G 8 kf), (ad 16, iA G 8 so), (ad 17, iA G 8 (nIf zz)), (ad 18, iA G 800 el), (ao, lA G 1 out), (sh d, .inr (3, [.ref a0])), (a0, tA G t0 (zz d) (rwE el (100 * d)))] ++ T) H := hP
      have hD : va_D (fun q : Nat => s.heap.size ≤ q) ([(ax, xO xa xi), (xa 0, fO fn r), (fn 0, qA G 3 9 wh), (fn 1, iA G 9 (fA r 2)), (fn 2, iA G 9 (fA r 3)), (fn 3, iA G 9 (fA r 4)), (fn 4, iA G 9 (fA r 5)), (xa 1, fO fk rk), (fk 0, qA G 3 9 wk), (fk 1, iA G 9 (fA rk 2)), (fk 2, iA G 9 (fA rk 3)), (fk 3, iA G 9 (fA rk 4)), (fk 4, iA G 9 (fA rk 5)), (xa 2, fR fm g0 g1 g2), (fm 0, qA G 3 9 gw), (fm 1, iA G 9 ga2), (fm 2, iA G 9 ga3), (fm 3, iA G 9 ga4), (fm 4, iA G 9 ga5), (xa 4, qA G 4 100 ft), (xa 5, iA G 1280 vv), (xa 6, iA G 8 by9), (xa 8, qA G 5 8 (shf sh)), (am, mO ad iv), (ad 0, iA G 57 r), (ad 1, iA G 57 m9), (ad 2, iA G 57 rk), (ad 3, iA G 57 w9), (ad 8, iA G 4 nu), (ad 9, iA G 8 wb), (ad 10, iA G 8 bb), (ad 13, iA G 8 ke), (ad 14, iA G 8 kk), (ad 15, iA G 8 kf), (ad 16, iA G 8 so), (ad 17, iA G 8 (nIf zz)), (ad 18, iA G 800 el), (ao, lA G 1 out), (sh d, .inr (3, [.ref a0])), (a0, tA G t0 (zz d) (rwE el (100 * d)))] ++ T) := hD
      refine lv_aload_n hx hb dL_law_1559 rfl (lv_at hl 3 rfl) ?_
      refine lv_aload_n hx hb dL_law_1560 rfl (lv_at hl 4 rfl) ?_
      refine lv_iload hx hb dL_law_1561 (lv_at hl 0 rfl) ?_
      refine lv_iconst (v := 1) hx hb dL_law_1563 (by decide) ?_
      refine n_iadd hx hb i 1 dL_law_1564 ?_
      refine va_sld (i := nI (i + 1)) hx hb hX hbl (Nat.not_le.mpr hbl) hS (vp_in_nI (by omega) (by omega)) dL_law_1565 ?_
      refine n_eqi (y := nI d) ((congrArg xs (nI_clamp (by omega))).trans ed) ?_
      refine c_VWhP (wr := [(xa 0, fO fn r), (fn 0, qA G 3 9 wh), (fn 1, iA G 9 (fA r 2)), (fn 2, iA G 9 (fA r 3)), (fn 3, iA G 9 (fA r 4)), (fn 4, iA G 9 (fA r 5)), (xa 1, fO fk rk), (fk 0, qA G 3 9 wk), (fk 1, iA G 9 (fA rk 2)), (fk 2, iA G 9 (fA rk 3)), (fk 3, iA G 9 (fA rk 4)), (fk 4, iA G 9 (fA rk 5)), (xa 2, fR fm g0 g1 g2), (fm 0, qA G 3 9 gw), (fm 1, iA G 9 ga2), (fm 2, iA G 9 ga3), (fm 3, iA G 9 ga4), (fm 4, iA G 9 ga5), (xa 4, qA G 4 100 ft), (xa 5, iA G 1280 vv), (xa 6, iA G 8 by9), (am, mO ad iv), (ad 0, iA G 57 r), (ad 1, iA G 57 m9), (ad 2, iA G 57 rk), (ad 3, iA G 57 w9), (ad 8, iA G 4 nu), (ad 9, iA G 8 wb), (ad 10, iA G 8 bb), (ad 13, iA G 8 ke), (ad 14, iA G 8 kk), (ad 15, iA G 8 kf), (ad 16, iA G 8 so), (ad 17, iA G 8 (nIf zz)), (ad 18, iA G 800 el), (ao, lA G 1 out)]) (rest := []) C (metX1_toss_r l G ax xa xi sh gm d t0 a0 (zz d) (rwE el (100 * d)) hl9 (gt_NG9 hgt (G0_GA _) hD (isC := [0, 22, 38, 39]) rfl htT) (by omega) (by omega) (by omega)) 1 (lw_VW q976 q977 q978 q39 q979) (by decide +kernel) ⟨rfl, rfl⟩ ⟨(Nat.le_of_ble_eq_true rfl), (Nat.le_of_ble_eq_true rfl)⟩ (KE.call) (KE.at hK (hgt.GP (G0_GP G H) hP (fun q hq => List.mem_append_right _ (htT q hq))) hM1 hZ hS) (va_recv hK.1 hP (ci := 1) (q0 := 0) rfl rfl) hA hP hD hS [0, 22, 38, 39] [1, 2, 3, 4, 5, 6, 7, 8, 9, 10, 11, 12, 13, 14, 15, 16, 17, 18, 19, 20, 21, 23, 24, 25, 26, 27, 28, 29, 30, 31, 32, 33, 34, 35, 36, 37] rfl rfl rfl rfl (by decide) hl rfl rfl (Nat.le_of_ble_eq_true rfl) ⟨(by omega), (by omega)⟩ dL_law_1566 (fun r_10 w1 H locs hq_11 hP hD hS => ?_)
      obtain ⟨rfl, rfl⟩ := hq_11
      have hP : PP G ([(xa 0, fO fn r), (fn 0, qA G 3 9 wh), (fn 1, iA G 9 (fA r 2)), (fn 2, iA G 9 (fA r 3)), (fn 3, iA G 9 (fA r 4)), (fn 4, iA G 9 (fA r 5)), (xa 1, fO fk rk), (fk 0, qA G 3 9 wk), (fk 1, iA G 9 (fA rk 2)), (fk 2, iA G 9 (fA rk 3)), (fk 3, iA G 9 (fA rk 4)), (fk 4, iA G 9 (fA rk 5)), (xa 2, fR fm g0 g1 g2), (fm 0, qA G 3 9 gw), (fm 1, iA G 9 ga2), (fm 2, iA G 9 ga3), (fm 3, iA G 9 ga4), (fm 4, iA G 9 ga5), (xa 4, qA G 4 100 ft), (xa 5, iA G 1280 vv), (xa 6, iA G 8 by9), (am, mO ad iv), (ad 0, iA G 57 r), (ad 1, iA G 57 m9), (ad 2, iA G 57 rk), (ad 3, iA G 57 w9), (ad 8, iA G 4 nu), (ad 9, iA G 8 wb), (ad 10, iA G 8 bb), (ad 13, iA G 8 ke), (ad 14, iA G 8 kk), (ad 15, iA G 8 kf), (ad 16, iA G 8 so), (ad 17, iA G 8 (nIf zz)), (ad 18, iA G 800 el), (ao, lA G 1 out), (ax, xO xa xi), (xa 8, qA G 5 8 (shf sh)), (sh d, .inr (3, [.ref a0])), (a0, tA G t0 (zz d) (rwE el (100 * d)))] ++ T) H := hP
      have hD : va_D (fun q : Nat => s.heap.size ≤ q) ([(xa 0, fO fn r), (fn 0, qA G 3 9 wh), (fn 1, iA G 9 (fA r 2)), (fn 2, iA G 9 (fA r 3)), (fn 3, iA G 9 (fA r 4)), (fn 4, iA G 9 (fA r 5)), (xa 1, fO fk rk), (fk 0, qA G 3 9 wk), (fk 1, iA G 9 (fA rk 2)), (fk 2, iA G 9 (fA rk 3)), (fk 3, iA G 9 (fA rk 4)), (fk 4, iA G 9 (fA rk 5)), (xa 2, fR fm g0 g1 g2), (fm 0, qA G 3 9 gw), (fm 1, iA G 9 ga2), (fm 2, iA G 9 ga3), (fm 3, iA G 9 ga4), (fm 4, iA G 9 ga5), (xa 4, qA G 4 100 ft), (xa 5, iA G 1280 vv), (xa 6, iA G 8 by9), (am, mO ad iv), (ad 0, iA G 57 r), (ad 1, iA G 57 m9), (ad 2, iA G 57 rk), (ad 3, iA G 57 w9), (ad 8, iA G 4 nu), (ad 9, iA G 8 wb), (ad 10, iA G 8 bb), (ad 13, iA G 8 ke), (ad 14, iA G 8 kk), (ad 15, iA G 8 kf), (ad 16, iA G 8 so), (ad 17, iA G 8 (nIf zz)), (ad 18, iA G 800 el), (ao, lA G 1 out), (ax, xO xa xi), (xa 8, qA G 5 8 (shf sh)), (sh d, .inr (3, [.ref a0])), (a0, tA G t0 (zz d) (rwE el (100 * d)))] ++ T) := hD
      refine lv_aload_n hx hb dL_law_1569 rfl (lv_at hl 2 rfl) ?_
      refine lv_aload_n hx hb dL_law_1570 rfl (lv_at hl 4 rfl) ?_
      refine lv_iload hx hb dL_law_1571 (lv_at hl 0 rfl) ?_
      refine lv_iconst (v := 1) hx hb dL_law_1573 (by decide) ?_
      refine n_iadd hx hb i 1 dL_law_1574 ?_
      refine va_sld (i := nI (i + 1)) hx hb hX hbl (Nat.not_le.mpr hbl) hS (vp_in_nI (by omega) (by omega)) dL_law_1575 ?_
      refine n_eqi (y := nI d) ((congrArg xs (nI_clamp (by omega))).trans ed) ?_
      refine c_V (rest := [.int (-12)]) C (metX4_toss l G am ad iv ke kk kf (nI d)) 1 (lw_V q1431 q1432 q1433 q42 q1434) (by decide +kernel) ⟨rfl, rfl⟩ ⟨(Nat.le_of_ble_eq_true rfl), (Nat.le_of_ble_eq_true rfl)⟩ (KM_mv G) (va_recv hK.1 hP (ci := 0) (q0 := 21) rfl rfl) ((tl_P hP).sub (ws' := [(am, mO ad iv), (ad 13, iA G 8 ke), (ad 14, iA G 8 kk), (ad 15, iA G 8 kf)]) [21, 29, 30, 31] rfl) hK.1 hl rfl rfl (Nat.le_of_ble_eq_true rfl) ⟨(by omega), (by omega)⟩ dL_law_1576 ?_
      refine lv_icmp_eq (x := -12) (y := sTossA ke kk kf (nI d)) (tgt := 1584) hx hb dL_law_1579 (by decide) (fun c_12 => ?_) (fun c_12 => absurd c_12 ((fun q => q (to_w (wk_r hd e4) (by decide)))))
      have hP : PP G ((((LW G ax am ao xa fn fk fm sh ad xi r wh rk wk gw ga2 ga3 ga4 ga5 g0 g1 g2 ft vv by9 iv r m9 rk w9 nu wb bb ke kk kf so zz el out) ++ [(sh d, .inr (3, [.ref a0]))]) ++ [(a0, tA G t0 (zz d) (rwE el (100 * d)))]) ++ T) H := hP.part [36, 0, 1, 2, 3, 4, 5, 6, 7, 8, 9, 10, 11, 12, 13, 14, 15, 16, 17, 18, 19, 20, 37, 21, 22, 23, 24, 25, 26, 27, 28, 29, 30, 31, 32, 33, 34, 35, 38, 39] rfl
      have hD : va_D (fun q : Nat => s.heap.size ≤ q) ((((LW G ax am ao xa fn fk fm sh ad xi r wh rk wk gw ga2 ga3 ga4 ga5 g0 g1 g2 ft vv by9 iv r m9 rk w9 nu wb bb ke kk kf so zz el out) ++ [(sh d, .inr (3, [.ref a0]))]) ++ [(a0, tA G t0 (zz d) (rwE el (100 * d)))]) ++ T) := hD.part [36, 0, 1, 2, 3, 4, 5, 6, 7, 8, 9, 10, 11, 12, 13, 14, 15, 16, 17, 18, 19, 20, 37, 21, 22, 23, 24, 25, 26, 27, 28, 29, 30, 31, 32, 33, 34, 35, 38, 39] (by decide) rfl
      subst hT
      obtain ⟨hP, hD⟩ := wo_bk (X := (LW G ax am ao xa fn fk fm sh ad xi r wh rk wk gw ga2 ga3 ga4 ga5 g0 g1 g2 ft vv by9 iv r m9 rk w9 nu wb bb ke kk kf so zz el out)) (R := [(a0, tA G t0 (zz d) (rwE el (100 * d)))]) hv rw el hd (e1) (rl1_s e2) (fun _ _ _ => ⟨rfl, rfl, fun _ _ _ _ => rfl⟩) hP hD
      refine W.widen (k := cells + 1010) (n := slots + 5500) (by omega) (by omega) ?_
      exact kont H locs ⟨gm, tg, N, N2, hv, rw, r, rk, xi, wh, wk, gw, ga2, ga3, ga4, ga5, g0, g1, g2, ft, vv, by9, iv, m9, w9, nu, wb, bb, ke, kk, kf, so, zz, el, out, ⟨hN, hr, hwk, hri, h9, hN2, hr2, hwk2, hri2, h92, hiv, hgt, hzz, hsd⟩, hP, hD⟩ hS ls hl

set_option maxHeartbeats 4000000 in
set_option maxRecDepth 100000 in
theorem law_19 {p : Program} {l : Launch} {e : Env} {s : State} {m : MethodId} {below : List Frame} {meth : Method} {c : Code} {b L : Nat} {xs : Nat → Int32} {Q : State → Prop} {G : GG} {ax am ao : Nat} {xa fn fk fm sh ad : Nat → Nat} (C : Cx p c meth s #[.ref b] m cL_law 8 (some .boolean) RX0) (hl9 : l.stackTraces = false) (hK : KX G s) (hM1 : MR1 s) (hZ : ZA (fun q : Nat => s.heap.size ≤ q) s) (hX : va_X b L xs s s.heap) (hbl : b < s.heap.size) (hL : L ≤ 384) (i : Nat) (hi : i + 6 ≤ L) {H : Heap} {locs : List Loc} {cells slots : Nat} (hcc : cells + 1010 ≤ room_1.cells) (hss : slots + 5500 ≤ room_1.slots) (hLI : LI G ax am ao xa fn fk fm sh ad (fun q : Nat => s.heap.size ≤ q) H) (hS : va_S (fun q : Nat => s.heap.size ≤ q) s.heap H locs) (kont : ∀ (H1 : Heap) (locs1 : List Loc), LI G ax am ao xa fn fk fm sh ad (fun q : Nat => s.heap.size ≤ q) H1 → va_S (fun q : Nat => s.heap.size ≤ q) s.heap H1 locs1 → ∀ ls : Array Slot, lv_has ls 8 [(4, .int (nI i)), (3, .ref ao), (2, .ref am), (1, .ref ax), (0, .ref b)] → W p l e room_1 s m #[.ref b] below meth c H1 locs1 (cells + 1010) (slots + 5500) Q (F0 m 1584 ls [])) : ∀ ls : Array Slot, lv_has ls 8 [(4, .int (nI i)), (3, .ref ao), (2, .ref am), (1, .ref ax), (0, .ref b)] → W p l e room_1 s m #[.ref b] below meth c H locs cells slots Q (F0 m 799 ls []) := by
  intro ls hl
  obtain ⟨gm, tg, N, N2, hv, rw, r, rk, xi, wh, wk, gw, ga2, ga3, ga4, ga5, g0, g1, g2, ft, vv, by9, iv, m9, w9, nu, wb, bb, ke, kk, kf, so, zz, el, out, hLF, hP, hD⟩ := hLI
  obtain ⟨hN, hr, hwk, hri, h9, hN2, hr2, hwk2, hri2, h92, hiv, hgt, hzz, hsd⟩ := hLF
  have hx := C.1
  have hb := C.2.1
  have hown := C.2.2.2.2.2.1
  have hts := C.2.2.2.2.2.2
  have hA : ∀ q : Nat, s.heap.size ≤ q → (fun q : Nat => s.heap.size ≤ q) q := fun _ h => h
  by_cases hbad : sIn (xs (i + 1)) 0 7 = false
  · generalize hT : (SL sh hv PT 8 ++ (RL G rw el PT 8 ++ tg)) = T at hP hD
    have htT : ∀ q ∈ tg, q ∈ T := fun q hq => by rw [← hT]; exact List.mem_append_right _ (List.mem_append_right _ hq)
    have hP : PP G ([(ax, xO xa xi), (xa 0, fO fn r), (fn 0, qA G 3 9 wh), (fn 1, iA G 9 (fA r 2)), (fn 2, iA G 9 (fA r 3)), (fn 3, iA G 9 (fA r 4)), (fn 4, iA G 9 (fA r 5)), (xa 1, fO fk rk), (fk 0, qA G 3 9 wk), (fk 1, iA G 9 (fA rk 2)), (fk 2, iA G 9 (fA rk 3)), (fk 3, iA G 9 (fA rk 4)), (fk 4, iA G 9 (fA rk 5)), (xa 2, fR fm g0 g1 g2), (fm 0, qA G 3 9 gw), (fm 1, iA G 9 ga2), (fm 2, iA G 9 ga3), (fm 3, iA G 9 ga4), (fm 4, iA G 9 ga5), (xa 4, qA G 4 100 ft), (xa 5, iA G 1280 vv), (xa 6, iA G 8 by9), (xa 8, qA G 5 8 (shf sh)), (am, mO ad iv), (ad 0, iA G 57 r), (ad 1, iA G 57 m9), (ad 2, iA G 57 rk), (ad 3, iA G 57 w9), (ad 8, iA G 4 nu), (ad 9, iA G 8 wb), (ad 10, iA G 8 bb), (ad 13, iA G 8 ke), (ad 14, iA G 8 kk), (ad 15, iA G 8 kf), (ad 16, iA G 8 so), (ad 17, iA G 8 (nIf zz)), (ad 18, iA G 800 el), (ao, lA G 1 out)] ++ T) H := hP
    have hD : va_D (fun q : Nat => s.heap.size ≤ q) ([(ax, xO xa xi), (xa 0, fO fn r), (fn 0, qA G 3 9 wh), (fn 1, iA G 9 (fA r 2)), (fn 2, iA G 9 (fA r 3)), (fn 3, iA G 9 (fA r 4)), (fn 4, iA G 9 (fA r 5)), (xa 1, fO fk rk), (fk 0, qA G 3 9 wk), (fk 1, iA G 9 (fA rk 2)), (fk 2, iA G 9 (fA rk 3)), (fk 3, iA G 9 (fA rk 4)), (fk 4, iA G 9 (fA rk 5)), (xa 2, fR fm g0 g1 g2), (fm 0, qA G 3 9 gw), (fm 1, iA G 9 ga2), (fm 2, iA G 9 ga3), (fm 3, iA G 9 ga4), (fm 4, iA G 9 ga5), (xa 4, qA G 4 100 ft), (xa 5, iA G 1280 vv), (xa 6, iA G 8 by9), (xa 8, qA G 5 8 (shf sh)), (am, mO ad iv), (ad 0, iA G 57 r), (ad 1, iA G 57 m9), (ad 2, iA G 57 rk), (ad 3, iA G 57 w9), (ad 8, iA G 4 nu), (ad 9, iA G 8 wb), (ad 10, iA G 8 bb), (ad 13, iA G 8 ke), (ad 14, iA G 8 kk), (ad 15, iA G 8 kf), (ad 16, iA G 8 so), (ad 17, iA G 8 (nIf zz)), (ad 18, iA G 800 el), (ao, lA G 1 out)] ++ T) := hD
    refine lv_aload_n hx hb dL_law_799 rfl (lv_at hl 3 rfl) ?_
    refine lv_aload_n hx hb dL_law_800 rfl (lv_at hl 4 rfl) ?_
    refine lv_iload hx hb dL_law_801 (lv_at hl 0 rfl) ?_
    refine lv_iconst (v := 1) hx hb dL_law_803 (by decide) ?_
    refine n_iadd hx hb i 1 dL_law_804 ?_
    refine va_sld (i := nI (i + 1)) hx hb hX hbl (Nat.not_le.mpr hbl) hS (vp_in_nI (by omega) (by omega)) dL_law_805 ?_
    refine n_eqi (y := xs (i + 1)) (congrArg xs (nI_clamp (by omega))) ?_
    refine c_Vk (rest := []) C (metX1_swap_w l G ax xa xi gm [] (xs (i + 1)) (-1) (metX1_notPairs_w l G ax xa xi gm [] (xs (i + 1)) (-1) ((metX1_notRow_b l G ax xa xi (xs (i + 1)) hbad).weak fun _ h => h.1) (by decide)) (by decide)) 1 (lw_V q659 q660 q661 q39 q662) (by decide +kernel) ⟨rfl, rfl⟩ ⟨(Nat.le_of_ble_eq_true rfl), (Nat.le_of_ble_eq_true rfl)⟩ (KG.call) (va_recv hK.1 hP (ci := 1) (q0 := 0) rfl rfl) ((tl_P hP).sub (ws' := [(ax, xO xa xi)]) [0] rfl) (KG.at hK (hgt.GP (G0_GP G H) hP (fun q hq => List.mem_append_right _ (htT q hq)))) hl rfl rfl (Nat.le_of_ble_eq_true rfl) ⟨(by omega), (by omega)⟩ dL_law_806 ?_
    refine lv_aload_n hx hb dL_law_809 rfl (lv_at hl 2 rfl) ?_
    refine lv_aload_n hx hb dL_law_810 rfl (lv_at hl 4 rfl) ?_
    refine lv_iload hx hb dL_law_811 (lv_at hl 0 rfl) ?_
    refine lv_iconst (v := 1) hx hb dL_law_813 (by decide) ?_
    refine n_iadd hx hb i 1 dL_law_814 ?_
    refine va_sld (i := nI (i + 1)) hx hb hX hbl (Nat.not_le.mpr hbl) hS (vp_in_nI (by omega) (by omega)) dL_law_815 ?_
    refine n_eqi (y := xs (i + 1)) (congrArg xs (nI_clamp (by omega))) ?_
    refine c_V (rest := [.int (-1)]) C (metX4_swap l G am ad iv r N ke so el zz (xs (i + 1)) (by omega) (hr) (hzz)) 1 (lw_V q1311 q1312 q1313 q42 q1314) (by decide +kernel) ⟨rfl, rfl⟩ ⟨(Nat.le_of_ble_eq_true rfl), (Nat.le_of_ble_eq_true rfl)⟩ (KM_mv G) (va_recv hK.1 hP (ci := 0) (q0 := 23) rfl rfl) ((tl_P hP).sub (ws' := [(am, mO ad iv), (ad 0, iA G 57 r), (ad 13, iA G 8 ke), (ad 16, iA G 8 so), (ad 17, iA G 8 (nIf zz)), (ad 18, iA G 800 el)]) [23, 24, 31, 34, 35, 36] rfl) hK.1 hl rfl rfl (Nat.le_of_ble_eq_true rfl) ⟨(by omega), (by omega)⟩ dL_law_816 ?_
    refine lv_icmp_eq (x := (-1)) (y := sSwapA r N ke so zz el (xs (i + 1))) (tgt := 1584) hx hb dL_law_819 (by decide) (fun c_1 => ?_) (fun c_1 => absurd c_1 ((fun q => q (sw_w (wr_b hbad) (by decide)))))
    have hP : PP G ((LW G ax am ao xa fn fk fm sh ad xi r wh rk wk gw ga2 ga3 ga4 ga5 g0 g1 g2 ft vv by9 iv r m9 rk w9 nu wb bb ke kk kf so zz el out) ++ T) H := hP.part [0, 1, 2, 3, 4, 5, 6, 7, 8, 9, 10, 11, 12, 13, 14, 15, 16, 17, 18, 19, 20, 21, 22, 23, 24, 25, 26, 27, 28, 29, 30, 31, 32, 33, 34, 35, 36, 37] rfl
    have hD : va_D (fun q : Nat => s.heap.size ≤ q) ((LW G ax am ao xa fn fk fm sh ad xi r wh rk wk gw ga2 ga3 ga4 ga5 g0 g1 g2 ft vv by9 iv r m9 rk w9 nu wb bb ke kk kf so zz el out) ++ T) := hD.part [0, 1, 2, 3, 4, 5, 6, 7, 8, 9, 10, 11, 12, 13, 14, 15, 16, 17, 18, 19, 20, 21, 22, 23, 24, 25, 26, 27, 28, 29, 30, 31, 32, 33, 34, 35, 36, 37] (by decide) rfl
    subst hT
    refine W.widen (k := cells + 1010) (n := slots + 5500) (by omega) (by omega) ?_
    exact kont H locs ⟨gm, tg, N, N2, hv, rw, r, rk, xi, wh, wk, gw, ga2, ga3, ga4, ga5, g0, g1, g2, ft, vv, by9, iv, m9, w9, nu, wb, bb, ke, kk, kf, so, zz, el, out, ⟨hN, hr, hwk, hri, h9, hN2, hr2, hwk2, hri2, h92, hiv, hgt, hzz, hsd⟩, hP, hD⟩ hS ls hl
  · obtain ⟨d, hd, ed⟩ := sh_d hbad
    have hzd := hzz d
    have hP := PP_perm (wo_out (P := PT) rfl hd) hP
    have hD := D_perm (wo_out (P := PT) rfl hd) hD
    rcases hsd d hd with ⟨e1, e2, e3⟩ | ⟨y0, k0, f0, e1, e2, e3, e4, e5, e6, e7, e8⟩ | ⟨a0, t0, e1, e2, e3, e4, e5, e6⟩
    · rw [e1, rl1_n e2, List.append_nil] at hP hD
      generalize hT : (SL sh hv (rmP PT d) 8 ++ (RL G rw el (rmP PT d) 8 ++ tg)) = T at hP hD
      have htT : ∀ q ∈ tg, q ∈ T := fun q hq => by rw [← hT]; exact List.mem_append_right _ (List.mem_append_right _ hq)
      have hP : PP G ([(ax, xO xa xi), (xa 0, fO fn r), (fn 0, qA G 3 9 wh), (fn 1, iA G 9 (fA r 2)), (fn 2, iA G 9 (fA r 3)), (fn 3, iA G 9 (fA r 4)), (fn 4, iA G 9 (fA r 5)), (xa 1, fO fk rk), (fk 0, qA G 3 9 wk), (fk 1, iA G 9 (fA rk 2)), (fk 2, iA G 9 (fA rk 3)), (fk 3, iA G 9 (fA rk 4)), (fk 4, iA G 9 (fA rk 5)), (xa 2, fR fm g0 g1 g2), (fm 0, qA G 3 9 gw), (fm 1, iA G 9 ga2), (fm 2, iA G 9 ga3), (fm 3, iA G 9 ga4), (fm 4, iA G 9 ga5), (xa 4, qA G 4 100 ft), (xa 5, iA G 1280 vv), (xa 6, iA G 8 by9), (xa 8, qA G 5 8 (shf sh)), (am, mO ad iv), (ad 0, iA G 57 r), (ad 1, iA G 57 m9), (ad 2, iA G 57 rk), (ad 3, iA G 57 w9), (ad 8, iA G 4 nu), (ad 9, iA G 8 wb), (ad 10, iA G 8 bb), (ad 13, iA G 8 ke), (ad 14, iA G 8 kk), (ad 15, iA G 8 kf), (ad 16, iA G 8 so), (ad 17, iA G 8 (nIf zz)), (ad 18, iA G 800 el), (ao, lA G 1 out), (sh d, .inr (3, [.null]))] ++ T) H := hP
      have hD : va_D (fun q : Nat => s.heap.size ≤ q) ([(ax, xO xa xi), (xa 0, fO fn r), (fn 0, qA G 3 9 wh), (fn 1, iA G 9 (fA r 2)), (fn 2, iA G 9 (fA r 3)), (fn 3, iA G 9 (fA r 4)), (fn 4, iA G 9 (fA r 5)), (xa 1, fO fk rk), (fk 0, qA G 3 9 wk), (fk 1, iA G 9 (fA rk 2)), (fk 2, iA G 9 (fA rk 3)), (fk 3, iA G 9 (fA rk 4)), (fk 4, iA G 9 (fA rk 5)), (xa 2, fR fm g0 g1 g2), (fm 0, qA G 3 9 gw), (fm 1, iA G 9 ga2), (fm 2, iA G 9 ga3), (fm 3, iA G 9 ga4), (fm 4, iA G 9 ga5), (xa 4, qA G 4 100 ft), (xa 5, iA G 1280 vv), (xa 6, iA G 8 by9), (xa 8, qA G 5 8 (shf sh)), (am, mO ad iv), (ad 0, iA G 57 r), (ad 1, iA G 57 m9), (ad 2, iA G 57 rk), (ad 3, iA G 57 w9), (ad 8, iA G 4 nu), (ad 9, iA G 8 wb), (ad 10, iA G 8 bb), (ad 13, iA G 8 ke), (ad 14, iA G 8 kk), (ad 15, iA G 8 kf), (ad 16, iA G 8 so), (ad 17, iA G 8 (nIf zz)), (ad 18, iA G 800 el), (ao, lA G 1 out), (sh d, .inr (3, [.null]))] ++ T) := hD
      refine lv_aload_n hx hb dL_law_799 rfl (lv_at hl 3 rfl) ?_
      refine lv_aload_n hx hb dL_law_800 rfl (lv_at hl 4 rfl) ?_
      refine lv_iload hx hb dL_law_801 (lv_at hl 0 rfl) ?_
      refine lv_iconst (v := 1) hx hb dL_law_803 (by decide) ?_
      refine n_iadd hx hb i 1 dL_law_804 ?_
      refine va_sld (i := nI (i + 1)) hx hb hX hbl (Nat.not_le.mpr hbl) hS (vp_in_nI (by omega) (by omega)) dL_law_805 ?_
      refine n_eqi (y := nI d) ((congrArg xs (nI_clamp (by omega))).trans ed) ?_
      refine c_Vk (rest := []) C (metX1_swap_w l G ax xa xi gm [(xa 8, qA G 5 8 (shf sh)), (sh d, .inr (3, [.null]))] (nI d) (-11) (metX1_notPairs_w l G ax xa xi gm [(xa 8, qA G 5 8 (shf sh)), (sh d, .inr (3, [.null]))] (nI d) (-11) ((metX1_notRow_n l G ax xa xi sh d (by omega)).weak fun _ h => h.1) (by decide)) (by decide)) 1 (lw_V q659 q660 q661 q39 q662) (by decide +kernel) ⟨rfl, rfl⟩ ⟨(Nat.le_of_ble_eq_true rfl), (Nat.le_of_ble_eq_true rfl)⟩ (KG.call) (va_recv hK.1 hP (ci := 1) (q0 := 0) rfl rfl) ((tl_P hP).sub (ws' := [(ax, xO xa xi), (xa 8, qA G 5 8 (shf sh)), (sh d, .inr (3, [.null]))]) [0, 22, 38] rfl) (KG.at hK (hgt.GP (G0_GP G H) hP (fun q hq => List.mem_append_right _ (htT q hq)))) hl rfl rfl (Nat.le_of_ble_eq_true rfl) ⟨(by omega), (by omega)⟩ dL_law_806 ?_
      refine lv_aload_n hx hb dL_law_809 rfl (lv_at hl 2 rfl) ?_
      refine lv_aload_n hx hb dL_law_810 rfl (lv_at hl 4 rfl) ?_
      refine lv_iload hx hb dL_law_811 (lv_at hl 0 rfl) ?_
      refine lv_iconst (v := 1) hx hb dL_law_813 (by decide) ?_
      refine n_iadd hx hb i 1 dL_law_814 ?_
      refine va_sld (i := nI (i + 1)) hx hb hX hbl (Nat.not_le.mpr hbl) hS (vp_in_nI (by omega) (by omega)) dL_law_815 ?_
      refine n_eqi (y := nI d) ((congrArg xs (nI_clamp (by omega))).trans ed) ?_
      refine c_V (rest := [.int (-11)]) C (metX4_swap l G am ad iv r N ke so el zz (nI d) (by omega) (hr) (hzz)) 1 (lw_V q1311 q1312 q1313 q42 q1314) (by decide +kernel) ⟨rfl, rfl⟩ ⟨(Nat.le_of_ble_eq_true rfl), (Nat.le_of_ble_eq_true rfl)⟩ (KM_mv G) (va_recv hK.1 hP (ci := 0) (q0 := 23) rfl rfl) ((tl_P hP).sub (ws' := [(am, mO ad iv), (ad 0, iA G 57 r), (ad 13, iA G 8 ke), (ad 16, iA G 8 so), (ad 17, iA G 8 (nIf zz)), (ad 18, iA G 800 el)]) [23, 24, 31, 34, 35, 36] rfl) hK.1 hl rfl rfl (Nat.le_of_ble_eq_true rfl) ⟨(by omega), (by omega)⟩ dL_law_816 ?_
      refine lv_icmp_eq (x := (-11)) (y := sSwapA r N ke so zz el (nI d)) (tgt := 1584) hx hb dL_law_819 (by decide) (fun c_2 => ?_) (fun c_2 => absurd c_2 ((fun q => q (sw_w (wr_n hd e3) (by decide)))))
      have hP : PP G ((((LW G ax am ao xa fn fk fm sh ad xi r wh rk wk gw ga2 ga3 ga4 ga5 g0 g1 g2 ft vv by9 iv r m9 rk w9 nu wb bb ke kk kf so zz el out) ++ [(sh d, .inr (3, [.null]))]) ++ []) ++ T) H := hP.part [0, 1, 2, 3, 4, 5, 6, 7, 8, 9, 10, 11, 12, 13, 14, 15, 16, 17, 18, 19, 20, 21, 22, 23, 24, 25, 26, 27, 28, 29, 30, 31, 32, 33, 34, 35, 36, 37, 38] rfl
      have hD : va_D (fun q : Nat => s.heap.size ≤ q) ((((LW G ax am ao xa fn fk fm sh ad xi r wh rk wk gw ga2 ga3 ga4 ga5 g0 g1 g2 ft vv by9 iv r m9 rk w9 nu wb bb ke kk kf so zz el out) ++ [(sh d, .inr (3, [.null]))]) ++ []) ++ T) := hD.part [0, 1, 2, 3, 4, 5, 6, 7, 8, 9, 10, 11, 12, 13, 14, 15, 16, 17, 18, 19, 20, 21, 22, 23, 24, 25, 26, 27, 28, 29, 30, 31, 32, 33, 34, 35, 36, 37, 38] (by decide) rfl
      subst hT
      obtain ⟨hP, hD⟩ := wo_bk (X := (LW G ax am ao xa fn fk fm sh ad xi r wh rk wk gw ga2 ga3 ga4 ga5 g0 g1 g2 ft vv by9 iv r m9 rk w9 nu wb bb ke kk kf so zz el out)) (R := []) hv rw el hd (e1) (rl1_n e2) (fun _ _ _ => ⟨rfl, rfl, fun _ _ _ _ => rfl⟩) hP hD
      refine W.widen (k := cells + 1010) (n := slots + 5500) (by omega) (by omega) ?_
      exact kont H locs ⟨gm, tg, N, N2, hv, rw, r, rk, xi, wh, wk, gw, ga2, ga3, ga4, ga5, g0, g1, g2, ft, vv, by9, iv, m9, w9, nu, wb, bb, ke, kk, kf, so, zz, el, out, ⟨hN, hr, hwk, hri, h9, hN2, hr2, hwk2, hri2, h92, hiv, hgt, hzz, hsd⟩, hP, hD⟩ hS ls hl
    · rw [e1, rl1_n e2, List.append_nil] at hP hD
      generalize hT : (SL sh hv (rmP PT d) 8 ++ (RL G rw el (rmP PT d) 8 ++ tg)) = T at hP hD
      have htT : ∀ q ∈ tg, q ∈ T := fun q hq => by rw [← hT]; exact List.mem_append_right _ (List.mem_append_right _ hq)
      have hP : PP G ([(ax, xO xa xi), (xa 0, fO fn r), (fn 0, qA G 3 9 wh), (fn 1, iA G 9 (fA r 2)), (fn 2, iA G 9 (fA r 3)), (fn 3, iA G 9 (fA r 4)), (fn 4, iA G 9 (fA r 5)), (xa 1, fO fk rk), (fk 0, qA G 3 9 wk), (fk 1, iA G 9 (fA rk 2)), (fk 2, iA G 9 (fA rk 3)), (fk 3, iA G 9 (fA rk 4)), (fk 4, iA G 9 (fA rk 5)), (xa 2, fR fm g0 g1 g2), (fm 0, qA G 3 9 gw), (fm 1, iA G 9 ga2), (fm 2, iA G 9 ga3), (fm 3, iA G 9 ga4), (fm 4, iA G 9 ga5), (xa 4, qA G 4 100 ft), (xa 5, iA G 1280 vv), (xa 6, iA G 8 by9), (xa 8, qA G 5 8 (shf sh)), (am, mO ad iv), (ad 0, iA G 57 r), (ad 1, iA G 57 m9), (ad 2, iA G 57 rk), (ad 3, iA G 57 w9), (ad 8, iA G 4 nu), (ad 9, iA G 8 wb), (ad 10, iA G 8 bb), (ad 13, iA G 8 ke), (ad 14, iA G 8 kk), (ad 15, iA G 8 kf), (ad 16, iA G 8 so), (ad 17, iA G 8 (nIf zz)), (ad 18, iA G 800 el), (ao, lA G 1 out), (sh d, .inr (3, [.ref y0]))] ++ T) H := hP
      have hD : va_D (fun q : Nat => s.heap.size ≤ q) ([(ax, xO xa xi), (xa 0, fO fn r), (fn 0, qA G 3 9 wh), (fn 1, iA G 9 (fA r 2)), (fn 2, iA G 9 (fA r 3)), (fn 3, iA G 9 (fA r 4)), (fn 4, iA G 9 (fA r 5)), (xa 1, fO fk rk), (fk 0, qA G 3 9 wk), (fk 1, iA G 9 (fA rk 2)), (fk 2, iA G 9 (fA rk 3)), (fk 3, iA G 9 (fA rk 4)), (fk 4, iA G 9 (fA rk 5)), (xa 2, fR fm g0 g1 g2), (fm 0, qA G 3 9 gw), (fm 1, iA G 9 ga2), (fm 2, iA G 9 ga3), (fm 3, iA G 9 ga4), (fm 4, iA G 9 ga5), (xa 4, qA G 4 100 ft), (xa 5, iA G 1280 vv), (xa 6, iA G 8 by9), (xa 8, qA G 5 8 (shf sh)), (am, mO ad iv), (ad 0, iA G 57 r), (ad 1, iA G 57 m9), (ad 2, iA G 57 rk), (ad 3, iA G 57 w9), (ad 8, iA G 4 nu), (ad 9, iA G 8 wb), (ad 10, iA G 8 bb), (ad 13, iA G 8 ke), (ad 14, iA G 8 kk), (ad 15, iA G 8 kf), (ad 16, iA G 8 so), (ad 17, iA G 8 (nIf zz)), (ad 18, iA G 800 el), (ao, lA G 1 out), (sh d, .inr (3, [.ref y0]))] ++ T) := hD
      refine lv_aload_n hx hb dL_law_799 rfl (lv_at hl 3 rfl) ?_
      refine lv_aload_n hx hb dL_law_800 rfl (lv_at hl 4 rfl) ?_
      refine lv_iload hx hb dL_law_801 (lv_at hl 0 rfl) ?_
      refine lv_iconst (v := 1) hx hb dL_law_803 (by decide) ?_
      refine n_iadd hx hb i 1 dL_law_804 ?_
      refine va_sld (i := nI (i + 1)) hx hb hX hbl (Nat.not_le.mpr hbl) hS (vp_in_nI (by omega) (by omega)) dL_law_805 ?_
      refine n_eqi (y := nI d) ((congrArg xs (nI_clamp (by omega))).trans ed) ?_
      refine c_Vk (rest := []) C (metX1_swap_w l G ax xa xi gm [(xa 8, qA G 5 8 (shf sh)), (sh d, .inr (3, [.ref y0]))] (nI d) (-12) (metX1_notPairs_w l G ax xa xi gm [(xa 8, qA G 5 8 (shf sh)), (sh d, .inr (3, [.ref y0]))] (nI d) (-12) (metX1_notRow_g l G ax xa xi sh d gm y0 k0 (nI f0) (by omega) e3) (by decide)) (by decide)) 1 (lw_V q659 q660 q661 q39 q662) (by decide +kernel) ⟨rfl, rfl⟩ ⟨(Nat.le_of_ble_eq_true rfl), (Nat.le_of_ble_eq_true rfl)⟩ (KG.call) (va_recv hK.1 hP (ci := 1) (q0 := 0) rfl rfl) ((tl_P hP).sub (ws' := [(ax, xO xa xi), (xa 8, qA G 5 8 (shf sh)), (sh d, .inr (3, [.ref y0]))]) [0, 22, 38] rfl) (KG.at hK (hgt.GP (G0_GP G H) hP (fun q hq => List.mem_append_right _ (htT q hq)))) hl rfl rfl (Nat.le_of_ble_eq_true rfl) ⟨(by omega), (by omega)⟩ dL_law_806 ?_
      refine lv_aload_n hx hb dL_law_809 rfl (lv_at hl 2 rfl) ?_
      refine lv_aload_n hx hb dL_law_810 rfl (lv_at hl 4 rfl) ?_
      refine lv_iload hx hb dL_law_811 (lv_at hl 0 rfl) ?_
      refine lv_iconst (v := 1) hx hb dL_law_813 (by decide) ?_
      refine n_iadd hx hb i 1 dL_law_814 ?_
      refine va_sld (i := nI (i + 1)) hx hb hX hbl (Nat.not_le.mpr hbl) hS (vp_in_nI (by omega) (by omega)) dL_law_815 ?_
      refine n_eqi (y := nI d) ((congrArg xs (nI_clamp (by omega))).trans ed) ?_
      refine c_V (rest := [.int (-12)]) C (metX4_swap l G am ad iv r N ke so el zz (nI d) (by omega) (hr) (hzz)) 1 (lw_V q1311 q1312 q1313 q42 q1314) (by decide +kernel) ⟨rfl, rfl⟩ ⟨(Nat.le_of_ble_eq_true rfl), (Nat.le_of_ble_eq_true rfl)⟩ (KM_mv G) (va_recv hK.1 hP (ci := 0) (q0 := 23) rfl rfl) ((tl_P hP).sub (ws' := [(am, mO ad iv), (ad 0, iA G 57 r), (ad 13, iA G 8 ke), (ad 16, iA G 8 so), (ad 17, iA G 8 (nIf zz)), (ad 18, iA G 800 el)]) [23, 24, 31, 34, 35, 36] rfl) hK.1 hl rfl rfl (Nat.le_of_ble_eq_true rfl) ⟨(by omega), (by omega)⟩ dL_law_816 ?_
      refine lv_icmp_eq (x := (-12)) (y := sSwapA r N ke so zz el (nI d)) (tgt := 1584) hx hb dL_law_819 (by decide) (fun c_3 => ?_) (fun c_3 => absurd c_3 ((fun q => q (sw_w (wr_g hd e6) (by decide)))))
      have hP : PP G ((((LW G ax am ao xa fn fk fm sh ad xi r wh rk wk gw ga2 ga3 ga4 ga5 g0 g1 g2 ft vv by9 iv r m9 rk w9 nu wb bb ke kk kf so zz el out) ++ [(sh d, .inr (3, [.ref y0]))]) ++ []) ++ T) H := hP.part [0, 1, 2, 3, 4, 5, 6, 7, 8, 9, 10, 11, 12, 13, 14, 15, 16, 17, 18, 19, 20, 21, 22, 23, 24, 25, 26, 27, 28, 29, 30, 31, 32, 33, 34, 35, 36, 37, 38] rfl
      have hD : va_D (fun q : Nat => s.heap.size ≤ q) ((((LW G ax am ao xa fn fk fm sh ad xi r wh rk wk gw ga2 ga3 ga4 ga5 g0 g1 g2 ft vv by9 iv r m9 rk w9 nu wb bb ke kk kf so zz el out) ++ [(sh d, .inr (3, [.ref y0]))]) ++ []) ++ T) := hD.part [0, 1, 2, 3, 4, 5, 6, 7, 8, 9, 10, 11, 12, 13, 14, 15, 16, 17, 18, 19, 20, 21, 22, 23, 24, 25, 26, 27, 28, 29, 30, 31, 32, 33, 34, 35, 36, 37, 38] (by decide) rfl
      subst hT
      obtain ⟨hP, hD⟩ := wo_bk (X := (LW G ax am ao xa fn fk fm sh ad xi r wh rk wk gw ga2 ga3 ga4 ga5 g0 g1 g2 ft vv by9 iv r m9 rk w9 nu wb bb ke kk kf so zz el out)) (R := []) hv rw el hd (e1) (rl1_n e2) (fun _ _ _ => ⟨rfl, rfl, fun _ _ _ _ => rfl⟩) hP hD
      refine W.widen (k := cells + 1010) (n := slots + 5500) (by omega) (by omega) ?_
      exact kont H locs ⟨gm, tg, N, N2, hv, rw, r, rk, xi, wh, wk, gw, ga2, ga3, ga4, ga5, g0, g1, g2, ft, vv, by9, iv, m9, w9, nu, wb, bb, ke, kk, kf, so, zz, el, out, ⟨hN, hr, hwk, hri, h9, hN2, hr2, hwk2, hri2, h92, hiv, hgt, hzz, hsd⟩, hP, hD⟩ hS ls hl
    · rw [e1, rl1_s e2] at hP hD
      generalize hT : (SL sh hv (rmP PT d) 8 ++ (RL G rw el (rmP PT d) 8 ++ tg)) = T at hP hD
      have htT : ∀ q ∈ tg, q ∈ T := fun q hq => by rw [← hT]; exact List.mem_append_right _ (List.mem_append_right _ hq)
      have hP : PP G ([(ax, xO xa xi), (xa 0, fO fn r), (fn 0, qA G 3 9 wh), (fn 1, iA G 9 (fA r 2)), (fn 2, iA G 9 (fA r 3)), (fn 3, iA G 9 (fA r 4)), (fn 4, iA G 9 (fA r 5)), (xa 1, fO fk rk), (fk 0, qA G 3 9 wk), (fk 1, iA G 9 (fA rk 2)), (fk 2, iA G 9 (fA rk 3)), (fk 3, iA G 9 (fA rk 4)), (fk 4, iA G 9 (fA rk 5)), (xa 2, fR fm g0 g1 g2), (fm 0, qA G 3 9 gw), (fm 1, iA G 9 ga2), (fm 2, iA G 9 ga3), (fm 3, iA G 9 ga4), (fm 4, iA G 9 ga5), (xa 4, qA G 4 100 ft), (xa 5, iA G 1280 vv), (xa 6, iA G 8 by9), (xa 8, qA G 5 8 (shf sh)), (am, mO ad iv), (ad 0, iA G 57 r), (ad 1, iA G 57 m9), (ad 2, iA G 57 rk), (ad 3, iA G 57 w9), (ad 8, iA G 4 nu), (ad 9, iA G 8 wb), (ad 10, iA G 8 bb), (ad 13, iA G 8 ke), (ad 14, iA G 8 kk), (ad 15, iA G 8 kf), (ad 16, iA G 8 so), (ad 17, iA G 8 (nIf zz)), (ad 18, iA G 800 el), (ao, lA G 1 out), (sh d, .inr (3, [.ref a0])), (a0, tA G t0 (zz d) (rwE el (100 * d)))] ++ T) H := hP
      have hD : va_D (fun q : Nat => s.heap.size ≤ q) ([(ax, xO xa xi), (xa 0, fO fn r), (fn 0, qA G 3 9 wh), (fn 1, iA G 9 (fA r 2)), (fn 2, iA G 9 (fA r 3)), (fn 3, iA G 9 (fA r 4)), (fn 4, iA G 9 (fA r 5)), (xa 1, fO fk rk), (fk 0, qA G 3 9 wk), (fk 1, iA G 9 (fA rk 2)), (fk 2, iA G 9 (fA rk 3)), (fk 3, iA G 9 (fA rk 4)), (fk 4, iA G 9 (fA rk 5)), (xa 2, fR fm g0 g1 g2), (fm 0, qA G 3 9 gw), (fm 1, iA G 9 ga2), (fm 2, iA G 9 ga3), (fm 3, iA G 9 ga4), (fm 4, iA G 9 ga5), (xa 4, qA G 4 100 ft), (xa 5, iA G 1280 vv), (xa 6, iA G 8 by9), (xa 8, qA G 5 8 (shf sh)), (am, mO ad iv), (ad 0, iA G 57 r), (ad 1, iA G 57 m9), (ad 2, iA G 57 rk), (ad 3, iA G 57 w9), (ad 8, iA G 4 nu), (ad 9, iA G 8 wb), (ad 10, iA G 8 bb), (ad 13, iA G 8 ke), (ad 14, iA G 8 kk), (ad 15, iA G 8 kf), (ad 16, iA G 8 so), (ad 17, iA G 8 (nIf zz)), (ad 18, iA G 800 el), (ao, lA G 1 out), (sh d, .inr (3, [.ref a0])), (a0, tA G t0 (zz d) (rwE el (100 * d)))] ++ T) := hD
      refine lv_aload_n hx hb dL_law_799 rfl (lv_at hl 3 rfl) ?_
      refine lv_aload_n hx hb dL_law_800 rfl (lv_at hl 4 rfl) ?_
      refine lv_iload hx hb dL_law_801 (lv_at hl 0 rfl) ?_
      refine lv_iconst (v := 1) hx hb dL_law_803 (by decide) ?_
      refine n_iadd hx hb i 1 dL_law_804 ?_
      refine va_sld (i := nI (i + 1)) hx hb hX hbl (Nat.not_le.mpr hbl) hS (vp_in_nI (by omega) (by omega)) dL_law_805 ?_
      refine n_eqi (y := nI d) ((congrArg xs (nI_clamp (by omega))).trans ed) ?_
      refine c_Vk (rest := []) C (metX1_swap_r l G ax xa xi fn gm wh r N sh d t0 a0 (zz d) (rwE el (100 * d)) (by omega) (hr) (hwk) (by omega) (by omega) (by omega)) 1 (lw_V q659 q660 q661 q39 q662) (by decide +kernel) ⟨rfl, rfl⟩ ⟨(Nat.le_of_ble_eq_true rfl), (Nat.le_of_ble_eq_true rfl)⟩ (KG.call) (va_recv hK.1 hP (ci := 1) (q0 := 0) rfl rfl) ((tl_P hP).sub (ws' := [(ax, xO xa xi), (xa 8, qA G 5 8 (shf sh)), (sh d, .inr (3, [.ref a0])), (xa 0, fO fn r), (fn 0, qA G 3 9 wh), (fn 1, iA G 9 (fA r 2)), (fn 2, iA G 9 (fA r 3)), (fn 3, iA G 9 (fA r 4)), (fn 4, iA G 9 (fA r 5)), (a0, tA G t0 (zz d) (rwE el (100 * d)))]) [0, 22, 38, 1, 2, 3, 4, 5, 6, 39] rfl) (KG.at hK (hgt.GP (G0_GP G H) hP (fun q hq => List.mem_append_right _ (htT q hq)))) hl rfl rfl (Nat.le_of_ble_eq_true rfl) ⟨(by omega), (by omega)⟩ dL_law_806 ?_
      refine lv_aload_n hx hb dL_law_809 rfl (lv_at hl 2 rfl) ?_
      refine lv_aload_n hx hb dL_law_810 rfl (lv_at hl 4 rfl) ?_
      refine lv_iload hx hb dL_law_811 (lv_at hl 0 rfl) ?_
      refine lv_iconst (v := 1) hx hb dL_law_813 (by decide) ?_
      refine n_iadd hx hb i 1 dL_law_814 ?_
      refine va_sld (i := nI (i + 1)) hx hb hX hbl (Nat.not_le.mpr hbl) hS (vp_in_nI (by omega) (by omega)) dL_law_815 ?_
      refine n_eqi (y := nI d) ((congrArg xs (nI_clamp (by omega))).trans ed) ?_
      refine c_V (rest := [.int (sSwapX r N (zz d) (rwE el (100 * d)))]) C (metX4_swap l G am ad iv r N ke so el zz (nI d) (by omega) (hr) (hzz)) 1 (lw_V q1311 q1312 q1313 q42 q1314) (by decide +kernel) ⟨rfl, rfl⟩ ⟨(Nat.le_of_ble_eq_true rfl), (Nat.le_of_ble_eq_true rfl)⟩ (KM_mv G) (va_recv hK.1 hP (ci := 0) (q0 := 23) rfl rfl) ((tl_P hP).sub (ws' := [(am, mO ad iv), (ad 0, iA G 57 r), (ad 13, iA G 8 ke), (ad 16, iA G 8 so), (ad 17, iA G 8 (nIf zz)), (ad 18, iA G 800 el)]) [23, 24, 31, 34, 35, 36] rfl) hK.1 hl rfl rfl (Nat.le_of_ble_eq_true rfl) ⟨(by omega), (by omega)⟩ dL_law_816 ?_
      refine lv_icmp_eq (x := sSwapX r N (zz d) (rwE el (100 * d))) (y := sSwapA r N ke so zz el (nI d)) (tgt := 1584) hx hb dL_law_819 (by decide) (fun c_4 => ?_) (fun c_4 => absurd c_4 ((fun q => q (sw_r hd e4))))
      have hP : PP G ((((LW G ax am ao xa fn fk fm sh ad xi r wh rk wk gw ga2 ga3 ga4 ga5 g0 g1 g2 ft vv by9 iv r m9 rk w9 nu wb bb ke kk kf so zz el out) ++ [(sh d, .inr (3, [.ref a0]))]) ++ [(a0, tA G t0 (zz d) (rwE el (100 * d)))]) ++ T) H := hP.part [0, 1, 2, 3, 4, 5, 6, 7, 8, 9, 10, 11, 12, 13, 14, 15, 16, 17, 18, 19, 20, 21, 22, 23, 24, 25, 26, 27, 28, 29, 30, 31, 32, 33, 34, 35, 36, 37, 38, 39] rfl
      have hD : va_D (fun q : Nat => s.heap.size ≤ q) ((((LW G ax am ao xa fn fk fm sh ad xi r wh rk wk gw ga2 ga3 ga4 ga5 g0 g1 g2 ft vv by9 iv r m9 rk w9 nu wb bb ke kk kf so zz el out) ++ [(sh d, .inr (3, [.ref a0]))]) ++ [(a0, tA G t0 (zz d) (rwE el (100 * d)))]) ++ T) := hD.part [0, 1, 2, 3, 4, 5, 6, 7, 8, 9, 10, 11, 12, 13, 14, 15, 16, 17, 18, 19, 20, 21, 22, 23, 24, 25, 26, 27, 28, 29, 30, 31, 32, 33, 34, 35, 36, 37, 38, 39] (by decide) rfl
      subst hT
      obtain ⟨hP, hD⟩ := wo_bk (X := (LW G ax am ao xa fn fk fm sh ad xi r wh rk wk gw ga2 ga3 ga4 ga5 g0 g1 g2 ft vv by9 iv r m9 rk w9 nu wb bb ke kk kf so zz el out)) (R := [(a0, tA G t0 (zz d) (rwE el (100 * d)))]) hv rw el hd (e1) (rl1_s e2) (fun _ _ _ => ⟨rfl, rfl, fun _ _ _ _ => rfl⟩) hP hD
      refine W.widen (k := cells + 1010) (n := slots + 5500) (by omega) (by omega) ?_
      exact kont H locs ⟨gm, tg, N, N2, hv, rw, r, rk, xi, wh, wk, gw, ga2, ga3, ga4, ga5, g0, g1, g2, ft, vv, by9, iv, m9, w9, nu, wb, bb, ke, kk, kf, so, zz, el, out, ⟨hN, hr, hwk, hri, h9, hN2, hr2, hwk2, hri2, h92, hiv, hgt, hzz, hsd⟩, hP, hD⟩ hS ls hl

set_option maxHeartbeats 4000000 in
set_option maxRecDepth 100000 in
theorem law_20 {p : Program} {l : Launch} {e : Env} {s : State} {m : MethodId} {below : List Frame} {meth : Method} {c : Code} {b L : Nat} {xs : Nat → Int32} {Q : State → Prop} {G : GG} {ax am ao : Nat} {xa fn fk fm sh ad : Nat → Nat} (C : Cx p c meth s #[.ref b] m cL_law 8 (some .boolean) RX0) (hl9 : l.stackTraces = false) (hK : KX G s) (hM1 : MR1 s) (hZ : ZA (fun q : Nat => s.heap.size ≤ q) s) (hX : va_X b L xs s s.heap) (hbl : b < s.heap.size) (hL : L ≤ 384) (i : Nat) (hi : i + 6 ≤ L) {H : Heap} {locs : List Loc} {cells slots : Nat} (hcc : cells + 1010 ≤ room_1.cells) (hss : slots + 5500 ≤ room_1.slots) (hLI : LI G ax am ao xa fn fk fm sh ad (fun q : Nat => s.heap.size ≤ q) H) (hS : va_S (fun q : Nat => s.heap.size ≤ q) s.heap H locs) (kont : ∀ (H1 : Heap) (locs1 : List Loc), LI G ax am ao xa fn fk fm sh ad (fun q : Nat => s.heap.size ≤ q) H1 → va_S (fun q : Nat => s.heap.size ≤ q) s.heap H1 locs1 → ∀ ls : Array Slot, lv_has ls 8 [(4, .int (nI i)), (3, .ref ao), (2, .ref am), (1, .ref ax), (0, .ref b)] → W p l e room_1 s m #[.ref b] below meth c H1 locs1 (cells + 1010) (slots + 5500) Q (F0 m 1584 ls [])) : ∀ ls : Array Slot, lv_has ls 8 [(4, .int (nI i)), (3, .ref ao), (2, .ref am), (1, .ref ax), (0, .ref b)] → W p l e room_1 s m #[.ref b] below meth c H locs cells slots Q (F0 m 824 ls []) := by
  intro ls hl
  obtain ⟨gm, tg, N, N2, hv, rw, r, rk, xi, wh, wk, gw, ga2, ga3, ga4, ga5, g0, g1, g2, ft, vv, by9, iv, m9, w9, nu, wb, bb, ke, kk, kf, so, zz, el, out, hLF, hP, hD⟩ := hLI
  obtain ⟨hN, hr, hwk, hri, h9, hN2, hr2, hwk2, hri2, h92, hiv, hgt, hzz, hsd⟩ := hLF
  have hx := C.1
  have hb := C.2.1
  have hown := C.2.2.2.2.2.1
  have hts := C.2.2.2.2.2.2
  have hA : ∀ q : Nat, s.heap.size ≤ q → (fun q : Nat => s.heap.size ≤ q) q := fun _ h => h
  by_cases hbad : sIn (xs (i + 1)) 0 7 = false
  · generalize hT : (SL sh hv PT 8 ++ (RL G rw el PT 8 ++ tg)) = T at hP hD
    have htT : ∀ q ∈ tg, q ∈ T := fun q hq => by rw [← hT]; exact List.mem_append_right _ (List.mem_append_right _ hq)
    have hP : PP G ([(ax, xO xa xi), (xa 0, fO fn r), (fn 0, qA G 3 9 wh), (fn 1, iA G 9 (fA r 2)), (fn 2, iA G 9 (fA r 3)), (fn 3, iA G 9 (fA r 4)), (fn 4, iA G 9 (fA r 5)), (xa 1, fO fk rk), (fk 0, qA G 3 9 wk), (fk 1, iA G 9 (fA rk 2)), (fk 2, iA G 9 (fA rk 3)), (fk 3, iA G 9 (fA rk 4)), (fk 4, iA G 9 (fA rk 5)), (xa 2, fR fm g0 g1 g2), (fm 0, qA G 3 9 gw), (fm 1, iA G 9 ga2), (fm 2, iA G 9 ga3), (fm 3, iA G 9 ga4), (fm 4, iA G 9 ga5), (xa 4, qA G 4 100 ft), (xa 5, iA G 1280 vv), (xa 6, iA G 8 by9), (xa 8, qA G 5 8 (shf sh)), (am, mO ad iv), (ad 0, iA G 57 r), (ad 1, iA G 57 m9), (ad 2, iA G 57 rk), (ad 3, iA G 57 w9), (ad 8, iA G 4 nu), (ad 9, iA G 8 wb), (ad 10, iA G 8 bb), (ad 13, iA G 8 ke), (ad 14, iA G 8 kk), (ad 15, iA G 8 kf), (ad 16, iA G 8 so), (ad 17, iA G 8 (nIf zz)), (ad 18, iA G 800 el), (ao, lA G 1 out)] ++ T) H := hP
    have hD : va_D (fun q : Nat => s.heap.size ≤ q) ([(ax, xO xa xi), (xa 0, fO fn r), (fn 0, qA G 3 9 wh), (fn 1, iA G 9 (fA r 2)), (fn 2, iA G 9 (fA r 3)), (fn 3, iA G 9 (fA r 4)), (fn 4, iA G 9 (fA r 5)), (xa 1, fO fk rk), (fk 0, qA G 3 9 wk), (fk 1, iA G 9 (fA rk 2)), (fk 2, iA G 9 (fA rk 3)), (fk 3, iA G 9 (fA rk 4)), (fk 4, iA G 9 (fA rk 5)), (xa 2, fR fm g0 g1 g2), (fm 0, qA G 3 9 gw), (fm 1, iA G 9 ga2), (fm 2, iA G 9 ga3), (fm 3, iA G 9 ga4), (fm 4, iA G 9 ga5), (xa 4, qA G 4 100 ft), (xa 5, iA G 1280 vv), (xa 6, iA G 8 by9), (xa 8, qA G 5 8 (shf sh)), (am, mO ad iv), (ad 0, iA G 57 r), (ad 1, iA G 57 m9), (ad 2, iA G 57 rk), (ad 3, iA G 57 w9), (ad 8, iA G 4 nu), (ad 9, iA G 8 wb), (ad 10, iA G 8 bb), (ad 13, iA G 8 ke), (ad 14, iA G 8 kk), (ad 15, iA G 8 kf), (ad 16, iA G 8 so), (ad 17, iA G 8 (nIf zz)), (ad 18, iA G 800 el), (ao, lA G 1 out)] ++ T) := hD
    refine lv_aload_n hx hb dL_law_824 rfl (lv_at hl 3 rfl) ?_
    refine lv_aload_n hx hb dL_law_825 rfl (lv_at hl 4 rfl) ?_
    refine lv_iload hx hb dL_law_826 (lv_at hl 0 rfl) ?_
    refine lv_iconst (v := 1) hx hb dL_law_828 (by decide) ?_
    refine n_iadd hx hb i 1 dL_law_829 ?_
    refine va_sld (i := nI (i + 1)) hx hb hX hbl (Nat.not_le.mpr hbl) hS (vp_in_nI (by omega) (by omega)) dL_law_830 ?_
    refine n_eqi (y := xs (i + 1)) (congrArg xs (nI_clamp (by omega))) ?_
    refine lv_aload_n hx hb dL_law_831 rfl (lv_at hl 4 rfl) ?_
    refine lv_iload hx hb dL_law_832 (lv_at hl 0 rfl) ?_
    refine lv_iconst (v := 2) hx hb dL_law_834 (by decide) ?_
    refine n_iadd hx hb i 2 dL_law_835 ?_
    refine va_sld (i := nI (i + 2)) hx hb hX hbl (Nat.not_le.mpr hbl) hS (vp_in_nI (by omega) (by omega)) dL_law_836 ?_
    refine n_eqi (y := xs (i + 2)) (congrArg xs (nI_clamp (by omega))) ?_
    refine lv_aload_n hx hb dL_law_837 rfl (lv_at hl 4 rfl) ?_
    refine lv_iload hx hb dL_law_838 (lv_at hl 0 rfl) ?_
    refine lv_iconst (v := 3) hx hb dL_law_840 (by decide) ?_
    refine n_iadd hx hb i 3 dL_law_841 ?_
    refine va_sld (i := nI (i + 3)) hx hb hX hbl (Nat.not_le.mpr hbl) hS (vp_in_nI (by omega) (by omega)) dL_law_842 ?_
    refine n_eqi (y := xs (i + 3)) (congrArg xs (nI_clamp (by omega))) ?_
    refine lv_aload_n hx hb dL_law_843 rfl (lv_at hl 4 rfl) ?_
    refine lv_iload hx hb dL_law_844 (lv_at hl 0 rfl) ?_
    refine lv_iconst (v := 4) hx hb dL_law_846 (by decide) ?_
    refine n_iadd hx hb i 4 dL_law_847 ?_
    refine va_sld (i := nI (i + 4)) hx hb hX hbl (Nat.not_le.mpr hbl) hS (vp_in_nI (by omega) (by omega)) dL_law_848 ?_
    refine n_eqi (y := xs (i + 4)) (congrArg xs (nI_clamp (by omega))) ?_
    refine c_Vk (rest := []) C (metX1_throat_w l G ax xa xi gm [] (xs (i + 1)) (-1) (xs (i + 2)) (xs (i + 3)) (xs (i + 4)) ((metX1_notRow_b l G ax xa xi (xs (i + 1)) hbad).weak fun _ h => h.1) (by decide)) 4 (lw_V q686 q687 q688 q39 q689) (by decide +kernel) ⟨rfl, rfl⟩ ⟨(Nat.le_of_ble_eq_true rfl), (Nat.le_of_ble_eq_true rfl)⟩ (KG.call) (va_recv hK.1 hP (ci := 1) (q0 := 0) rfl rfl) ((tl_P hP).sub (ws' := [(ax, xO xa xi)]) [0] rfl) (KG.at hK (hgt.GP (G0_GP G H) hP (fun q hq => List.mem_append_right _ (htT q hq)))) hl rfl rfl (Nat.le_of_ble_eq_true rfl) ⟨(by omega), (by omega)⟩ dL_law_849 ?_
    refine lv_aload_n hx hb dL_law_852 rfl (lv_at hl 2 rfl) ?_
    refine lv_aload_n hx hb dL_law_853 rfl (lv_at hl 4 rfl) ?_
    refine lv_iload hx hb dL_law_854 (lv_at hl 0 rfl) ?_
    refine lv_iconst (v := 1) hx hb dL_law_856 (by decide) ?_
    refine n_iadd hx hb i 1 dL_law_857 ?_
    refine va_sld (i := nI (i + 1)) hx hb hX hbl (Nat.not_le.mpr hbl) hS (vp_in_nI (by omega) (by omega)) dL_law_858 ?_
    refine n_eqi (y := xs (i + 1)) (congrArg xs (nI_clamp (by omega))) ?_
    refine lv_aload_n hx hb dL_law_859 rfl (lv_at hl 4 rfl) ?_
    refine lv_iload hx hb dL_law_860 (lv_at hl 0 rfl) ?_
    refine lv_iconst (v := 2) hx hb dL_law_862 (by decide) ?_
    refine n_iadd hx hb i 2 dL_law_863 ?_
    refine va_sld (i := nI (i + 2)) hx hb hX hbl (Nat.not_le.mpr hbl) hS (vp_in_nI (by omega) (by omega)) dL_law_864 ?_
    refine n_eqi (y := xs (i + 2)) (congrArg xs (nI_clamp (by omega))) ?_
    refine lv_aload_n hx hb dL_law_865 rfl (lv_at hl 4 rfl) ?_
    refine lv_iload hx hb dL_law_866 (lv_at hl 0 rfl) ?_
    refine lv_iconst (v := 3) hx hb dL_law_868 (by decide) ?_
    refine n_iadd hx hb i 3 dL_law_869 ?_
    refine va_sld (i := nI (i + 3)) hx hb hX hbl (Nat.not_le.mpr hbl) hS (vp_in_nI (by omega) (by omega)) dL_law_870 ?_
    refine n_eqi (y := xs (i + 3)) (congrArg xs (nI_clamp (by omega))) ?_
    refine lv_aload_n hx hb dL_law_871 rfl (lv_at hl 4 rfl) ?_
    refine lv_iload hx hb dL_law_872 (lv_at hl 0 rfl) ?_
    refine lv_iconst (v := 4) hx hb dL_law_874 (by decide) ?_
    refine n_iadd hx hb i 4 dL_law_875 ?_
    refine va_sld (i := nI (i + 4)) hx hb hX hbl (Nat.not_le.mpr hbl) hS (vp_in_nI (by omega) (by omega)) dL_law_876 ?_
    refine n_eqi (y := xs (i + 4)) (congrArg xs (nI_clamp (by omega))) ?_
    refine c_V (rest := [.int (sThW (xs (i + 2)) (xs (i + 3)) (xs (i + 4)) (-1))]) C (metX4_throat l G am ad iv ke so el zz (xs (i + 1)) (xs (i + 2)) (xs (i + 3)) (xs (i + 4)) (hzz)) 4 (lw_V q1319 q1320 q1321 q42 q1322) (by decide +kernel) ⟨rfl, rfl⟩ ⟨(Nat.le_of_ble_eq_true rfl), (Nat.le_of_ble_eq_true rfl)⟩ (KM_mv G) (va_recv hK.1 hP (ci := 0) (q0 := 23) rfl rfl) ((tl_P hP).sub (ws' := [(am, mO ad iv), (ad 13, iA G 8 ke), (ad 16, iA G 8 so), (ad 17, iA G 8 (nIf zz)), (ad 18, iA G 800 el)]) [23, 31, 34, 35, 36] rfl) hK.1 hl rfl rfl (Nat.le_of_ble_eq_true rfl) ⟨(by omega), (by omega)⟩ dL_law_877 ?_
    refine lv_icmp_eq (x := sThW (xs (i + 2)) (xs (i + 3)) (xs (i + 4)) (-1)) (y := sThroatA ke so zz el (xs (i + 1)) (xs (i + 2)) (xs (i + 3)) (xs (i + 4))) (tgt := 1584) hx hb dL_law_880 (by decide) (fun c_1 => ?_) (fun c_1 => absurd c_1 ((fun q => q (th_w (wr_b hbad) (by decide) _ _ _))))
    have hP : PP G ((LW G ax am ao xa fn fk fm sh ad xi r wh rk wk gw ga2 ga3 ga4 ga5 g0 g1 g2 ft vv by9 iv r m9 rk w9 nu wb bb ke kk kf so zz el out) ++ T) H := hP.part [0, 1, 2, 3, 4, 5, 6, 7, 8, 9, 10, 11, 12, 13, 14, 15, 16, 17, 18, 19, 20, 21, 22, 23, 24, 25, 26, 27, 28, 29, 30, 31, 32, 33, 34, 35, 36, 37] rfl
    have hD : va_D (fun q : Nat => s.heap.size ≤ q) ((LW G ax am ao xa fn fk fm sh ad xi r wh rk wk gw ga2 ga3 ga4 ga5 g0 g1 g2 ft vv by9 iv r m9 rk w9 nu wb bb ke kk kf so zz el out) ++ T) := hD.part [0, 1, 2, 3, 4, 5, 6, 7, 8, 9, 10, 11, 12, 13, 14, 15, 16, 17, 18, 19, 20, 21, 22, 23, 24, 25, 26, 27, 28, 29, 30, 31, 32, 33, 34, 35, 36, 37] (by decide) rfl
    subst hT
    refine W.widen (k := cells + 1010) (n := slots + 5500) (by omega) (by omega) ?_
    exact kont H locs ⟨gm, tg, N, N2, hv, rw, r, rk, xi, wh, wk, gw, ga2, ga3, ga4, ga5, g0, g1, g2, ft, vv, by9, iv, m9, w9, nu, wb, bb, ke, kk, kf, so, zz, el, out, ⟨hN, hr, hwk, hri, h9, hN2, hr2, hwk2, hri2, h92, hiv, hgt, hzz, hsd⟩, hP, hD⟩ hS ls hl
  · obtain ⟨d, hd, ed⟩ := sh_d hbad
    have hzd := hzz d
    have hP := PP_perm (wo_out (P := PT) rfl hd) hP
    have hD := D_perm (wo_out (P := PT) rfl hd) hD
    rcases hsd d hd with ⟨e1, e2, e3⟩ | ⟨y0, k0, f0, e1, e2, e3, e4, e5, e6, e7, e8⟩ | ⟨a0, t0, e1, e2, e3, e4, e5, e6⟩
    · rw [e1, rl1_n e2, List.append_nil] at hP hD
      generalize hT : (SL sh hv (rmP PT d) 8 ++ (RL G rw el (rmP PT d) 8 ++ tg)) = T at hP hD
      have htT : ∀ q ∈ tg, q ∈ T := fun q hq => by rw [← hT]; exact List.mem_append_right _ (List.mem_append_right _ hq)
      have hP : PP G ([(ax, xO xa xi), (xa 0, fO fn r), (fn 0, qA G 3 9 wh), (fn 1, iA G 9 (fA r 2)), (fn 2, iA G 9 (fA r 3)), (fn 3, iA G 9 (fA r 4)), (fn 4, iA G 9 (fA r 5)), (xa 1, fO fk rk), (fk 0, qA G 3 9 wk), (fk 1, iA G 9 (fA rk 2)), (fk 2, iA G 9 (fA rk 3)), (fk 3, iA G 9 (fA rk 4)), (fk 4, iA G 9 (fA rk 5)), (xa 2, fR fm g0 g1 g2), (fm 0, qA G 3 9 gw), (fm 1, iA G 9 ga2), (fm 2, iA G 9 ga3), (fm 3, iA G 9 ga4), (fm 4, iA G 9 ga5), (xa 4, qA G 4 100 ft), (xa 5, iA G 1280 vv), (xa 6, iA G 8 by9), (xa 8, qA G 5 8 (shf sh)), (am, mO ad iv), (ad 0, iA G 57 r), (ad 1, iA G 57 m9), (ad 2, iA G 57 rk), (ad 3, iA G 57 w9), (ad 8, iA G 4 nu), (ad 9, iA G 8 wb), (ad 10, iA G 8 bb), (ad 13, iA G 8 ke), (ad 14, iA G 8 kk), (ad 15, iA G 8 kf), (ad 16, iA G 8 so), (ad 17, iA G 8 (nIf zz)), (ad 18, iA G 800 el), (ao, lA G 1 out), (sh d, .inr (3, [.null]))] ++ T) H := hP
      have hD : va_D (fun q : Nat => s.heap.size ≤ q) ([(ax, xO xa xi), (xa 0, fO fn r), (fn 0, qA G 3 9 wh), (fn 1, iA G 9 (fA r 2)), (fn 2, iA G 9 (fA r 3)), (fn 3, iA G 9 (fA r 4)), (fn 4, iA G 9 (fA r 5)), (xa 1, fO fk rk), (fk 0, qA G 3 9 wk), (fk 1, iA G 9 (fA rk 2)), (fk 2, iA G 9 (fA rk 3)), (fk 3, iA G 9 (fA rk 4)), (fk 4, iA G 9 (fA rk 5)), (xa 2, fR fm g0 g1 g2), (fm 0, qA G 3 9 gw), (fm 1, iA G 9 ga2), (fm 2, iA G 9 ga3), (fm 3, iA G 9 ga4), (fm 4, iA G 9 ga5), (xa 4, qA G 4 100 ft), (xa 5, iA G 1280 vv), (xa 6, iA G 8 by9), (xa 8, qA G 5 8 (shf sh)), (am, mO ad iv), (ad 0, iA G 57 r), (ad 1, iA G 57 m9), (ad 2, iA G 57 rk), (ad 3, iA G 57 w9), (ad 8, iA G 4 nu), (ad 9, iA G 8 wb), (ad 10, iA G 8 bb), (ad 13, iA G 8 ke), (ad 14, iA G 8 kk), (ad 15, iA G 8 kf), (ad 16, iA G 8 so), (ad 17, iA G 8 (nIf zz)), (ad 18, iA G 800 el), (ao, lA G 1 out), (sh d, .inr (3, [.null]))] ++ T) := hD
      refine lv_aload_n hx hb dL_law_824 rfl (lv_at hl 3 rfl) ?_
      refine lv_aload_n hx hb dL_law_825 rfl (lv_at hl 4 rfl) ?_
      refine lv_iload hx hb dL_law_826 (lv_at hl 0 rfl) ?_
      refine lv_iconst (v := 1) hx hb dL_law_828 (by decide) ?_
      refine n_iadd hx hb i 1 dL_law_829 ?_
      refine va_sld (i := nI (i + 1)) hx hb hX hbl (Nat.not_le.mpr hbl) hS (vp_in_nI (by omega) (by omega)) dL_law_830 ?_
      refine n_eqi (y := nI d) ((congrArg xs (nI_clamp (by omega))).trans ed) ?_
      refine lv_aload_n hx hb dL_law_831 rfl (lv_at hl 4 rfl) ?_
      refine lv_iload hx hb dL_law_832 (lv_at hl 0 rfl) ?_
      refine lv_iconst (v := 2) hx hb dL_law_834 (by decide) ?_
      refine n_iadd hx hb i 2 dL_law_835 ?_
      refine va_sld (i := nI (i + 2)) hx hb hX hbl (Nat.not_le.mpr hbl) hS (vp_in_nI (by omega) (by omega)) dL_law_836 ?_
      refine n_eqi (y := xs (i + 2)) (congrArg xs (nI_clamp (by omega))) ?_
      refine lv_aload_n hx hb dL_law_837 rfl (lv_at hl 4 rfl) ?_
      refine lv_iload hx hb dL_law_838 (lv_at hl 0 rfl) ?_
      refine lv_iconst (v := 3) hx hb dL_law_840 (by decide) ?_
      refine n_iadd hx hb i 3 dL_law_841 ?_
      refine va_sld (i := nI (i + 3)) hx hb hX hbl (Nat.not_le.mpr hbl) hS (vp_in_nI (by omega) (by omega)) dL_law_842 ?_
      refine n_eqi (y := xs (i + 3)) (congrArg xs (nI_clamp (by omega))) ?_
      refine lv_aload_n hx hb dL_law_843 rfl (lv_at hl 4 rfl) ?_
      refine lv_iload hx hb dL_law_844 (lv_at hl 0 rfl) ?_
      refine lv_iconst (v := 4) hx hb dL_law_846 (by decide) ?_
      refine n_iadd hx hb i 4 dL_law_847 ?_
      refine va_sld (i := nI (i + 4)) hx hb hX hbl (Nat.not_le.mpr hbl) hS (vp_in_nI (by omega) (by omega)) dL_law_848 ?_
      refine n_eqi (y := xs (i + 4)) (congrArg xs (nI_clamp (by omega))) ?_
      refine c_Vk (rest := []) C (metX1_throat_w l G ax xa xi gm [(xa 8, qA G 5 8 (shf sh)), (sh d, .inr (3, [.null]))] (nI d) (-11) (xs (i + 2)) (xs (i + 3)) (xs (i + 4)) ((metX1_notRow_n l G ax xa xi sh d (by omega)).weak fun _ h => h.1) (by decide)) 4 (lw_V q686 q687 q688 q39 q689) (by decide +kernel) ⟨rfl, rfl⟩ ⟨(Nat.le_of_ble_eq_true rfl), (Nat.le_of_ble_eq_true rfl)⟩ (KG.call) (va_recv hK.1 hP (ci := 1) (q0 := 0) rfl rfl) ((tl_P hP).sub (ws' := [(ax, xO xa xi), (xa 8, qA G 5 8 (shf sh)), (sh d, .inr (3, [.null]))]) [0, 22, 38] rfl) (KG.at hK (hgt.GP (G0_GP G H) hP (fun q hq => List.mem_append_right _ (htT q hq)))) hl rfl rfl (Nat.le_of_ble_eq_true rfl) ⟨(by omega), (by omega)⟩ dL_law_849 ?_
      refine lv_aload_n hx hb dL_law_852 rfl (lv_at hl 2 rfl) ?_
      refine lv_aload_n hx hb dL_law_853 rfl (lv_at hl 4 rfl) ?_
      refine lv_iload hx hb dL_law_854 (lv_at hl 0 rfl) ?_
      refine lv_iconst (v := 1) hx hb dL_law_856 (by decide) ?_
      refine n_iadd hx hb i 1 dL_law_857 ?_
      refine va_sld (i := nI (i + 1)) hx hb hX hbl (Nat.not_le.mpr hbl) hS (vp_in_nI (by omega) (by omega)) dL_law_858 ?_
      refine n_eqi (y := nI d) ((congrArg xs (nI_clamp (by omega))).trans ed) ?_
      refine lv_aload_n hx hb dL_law_859 rfl (lv_at hl 4 rfl) ?_
      refine lv_iload hx hb dL_law_860 (lv_at hl 0 rfl) ?_
      refine lv_iconst (v := 2) hx hb dL_law_862 (by decide) ?_
      refine n_iadd hx hb i 2 dL_law_863 ?_
      refine va_sld (i := nI (i + 2)) hx hb hX hbl (Nat.not_le.mpr hbl) hS (vp_in_nI (by omega) (by omega)) dL_law_864 ?_
      refine n_eqi (y := xs (i + 2)) (congrArg xs (nI_clamp (by omega))) ?_
      refine lv_aload_n hx hb dL_law_865 rfl (lv_at hl 4 rfl) ?_
      refine lv_iload hx hb dL_law_866 (lv_at hl 0 rfl) ?_
      refine lv_iconst (v := 3) hx hb dL_law_868 (by decide) ?_
      refine n_iadd hx hb i 3 dL_law_869 ?_
      refine va_sld (i := nI (i + 3)) hx hb hX hbl (Nat.not_le.mpr hbl) hS (vp_in_nI (by omega) (by omega)) dL_law_870 ?_
      refine n_eqi (y := xs (i + 3)) (congrArg xs (nI_clamp (by omega))) ?_
      refine lv_aload_n hx hb dL_law_871 rfl (lv_at hl 4 rfl) ?_
      refine lv_iload hx hb dL_law_872 (lv_at hl 0 rfl) ?_
      refine lv_iconst (v := 4) hx hb dL_law_874 (by decide) ?_
      refine n_iadd hx hb i 4 dL_law_875 ?_
      refine va_sld (i := nI (i + 4)) hx hb hX hbl (Nat.not_le.mpr hbl) hS (vp_in_nI (by omega) (by omega)) dL_law_876 ?_
      refine n_eqi (y := xs (i + 4)) (congrArg xs (nI_clamp (by omega))) ?_
      refine c_V (rest := [.int (sThW (xs (i + 2)) (xs (i + 3)) (xs (i + 4)) (-11))]) C (metX4_throat l G am ad iv ke so el zz (nI d) (xs (i + 2)) (xs (i + 3)) (xs (i + 4)) (hzz)) 4 (lw_V q1319 q1320 q1321 q42 q1322) (by decide +kernel) ⟨rfl, rfl⟩ ⟨(Nat.le_of_ble_eq_true rfl), (Nat.le_of_ble_eq_true rfl)⟩ (KM_mv G) (va_recv hK.1 hP (ci := 0) (q0 := 23) rfl rfl) ((tl_P hP).sub (ws' := [(am, mO ad iv), (ad 13, iA G 8 ke), (ad 16, iA G 8 so), (ad 17, iA G 8 (nIf zz)), (ad 18, iA G 800 el)]) [23, 31, 34, 35, 36] rfl) hK.1 hl rfl rfl (Nat.le_of_ble_eq_true rfl) ⟨(by omega), (by omega)⟩ dL_law_877 ?_
      refine lv_icmp_eq (x := sThW (xs (i + 2)) (xs (i + 3)) (xs (i + 4)) (-11)) (y := sThroatA ke so zz el (nI d) (xs (i + 2)) (xs (i + 3)) (xs (i + 4))) (tgt := 1584) hx hb dL_law_880 (by decide) (fun c_2 => ?_) (fun c_2 => absurd c_2 ((fun q => q (th_w (wr_n hd e3) (by decide) _ _ _))))
      have hP : PP G ((((LW G ax am ao xa fn fk fm sh ad xi r wh rk wk gw ga2 ga3 ga4 ga5 g0 g1 g2 ft vv by9 iv r m9 rk w9 nu wb bb ke kk kf so zz el out) ++ [(sh d, .inr (3, [.null]))]) ++ []) ++ T) H := hP.part [0, 1, 2, 3, 4, 5, 6, 7, 8, 9, 10, 11, 12, 13, 14, 15, 16, 17, 18, 19, 20, 21, 22, 23, 24, 25, 26, 27, 28, 29, 30, 31, 32, 33, 34, 35, 36, 37, 38] rfl
      have hD : va_D (fun q : Nat => s.heap.size ≤ q) ((((LW G ax am ao xa fn fk fm sh ad xi r wh rk wk gw ga2 ga3 ga4 ga5 g0 g1 g2 ft vv by9 iv r m9 rk w9 nu wb bb ke kk kf so zz el out) ++ [(sh d, .inr (3, [.null]))]) ++ []) ++ T) := hD.part [0, 1, 2, 3, 4, 5, 6, 7, 8, 9, 10, 11, 12, 13, 14, 15, 16, 17, 18, 19, 20, 21, 22, 23, 24, 25, 26, 27, 28, 29, 30, 31, 32, 33, 34, 35, 36, 37, 38] (by decide) rfl
      subst hT
      obtain ⟨hP, hD⟩ := wo_bk (X := (LW G ax am ao xa fn fk fm sh ad xi r wh rk wk gw ga2 ga3 ga4 ga5 g0 g1 g2 ft vv by9 iv r m9 rk w9 nu wb bb ke kk kf so zz el out)) (R := []) hv rw el hd (e1) (rl1_n e2) (fun _ _ _ => ⟨rfl, rfl, fun _ _ _ _ => rfl⟩) hP hD
      refine W.widen (k := cells + 1010) (n := slots + 5500) (by omega) (by omega) ?_
      exact kont H locs ⟨gm, tg, N, N2, hv, rw, r, rk, xi, wh, wk, gw, ga2, ga3, ga4, ga5, g0, g1, g2, ft, vv, by9, iv, m9, w9, nu, wb, bb, ke, kk, kf, so, zz, el, out, ⟨hN, hr, hwk, hri, h9, hN2, hr2, hwk2, hri2, h92, hiv, hgt, hzz, hsd⟩, hP, hD⟩ hS ls hl
    · rw [e1, rl1_n e2, List.append_nil] at hP hD
      generalize hT : (SL sh hv (rmP PT d) 8 ++ (RL G rw el (rmP PT d) 8 ++ tg)) = T at hP hD
      have htT : ∀ q ∈ tg, q ∈ T := fun q hq => by rw [← hT]; exact List.mem_append_right _ (List.mem_append_right _ hq)
      have hP : PP G ([(ax, xO xa xi), (xa 0, fO fn r), (fn 0, qA G 3 9 wh), (fn 1, iA G 9 (fA r 2)), (fn 2, iA G 9 (fA r 3)), (fn 3, iA G 9 (fA r 4)), (fn 4, iA G 9 (fA r 5)), (xa 1, fO fk rk), (fk 0, qA G 3 9 wk), (fk 1, iA G 9 (fA rk 2)), (fk 2, iA G 9 (fA rk 3)), (fk 3, iA G 9 (fA rk 4)), (fk 4, iA G 9 (fA rk 5)), (xa 2, fR fm g0 g1 g2), (fm 0, qA G 3 9 gw), (fm 1, iA G 9 ga2), (fm 2, iA G 9 ga3), (fm 3, iA G 9 ga4), (fm 4, iA G 9 ga5), (xa 4, qA G 4 100 ft), (xa 5, iA G 1280 vv), (xa 6, iA G 8 by9), (xa 8, qA G 5 8 (shf sh)), (am, mO ad iv), (ad 0, iA G 57 r), (ad 1, iA G 57 m9), (ad 2, iA G 57 rk), (ad 3, iA G 57 w9), (ad 8, iA G 4 nu), (ad 9, iA G 8 wb), (ad 10, iA G 8 bb), (ad 13, iA G 8 ke), (ad 14, iA G 8 kk), (ad 15, iA G 8 kf), (ad 16, iA G 8 so), (ad 17, iA G 8 (nIf zz)), (ad 18, iA G 800 el), (ao, lA G 1 out), (sh d, .inr (3, [.ref y0]))] ++ T) H := hP
      have hD : va_D (fun q : Nat => s.heap.size ≤ q) ([(ax, xO xa xi), (xa 0, fO fn r), (fn 0, qA G 3 9 wh), (fn 1, iA G 9 (fA r 2)), (fn 2, iA G 9 (fA r 3)), (fn 3, iA G 9 (fA r 4)), (fn 4, iA G 9 (fA r 5)), (xa 1, fO fk rk), (fk 0, qA G 3 9 wk), (fk 1, iA G 9 (fA rk 2)), (fk 2, iA G 9 (fA rk 3)), (fk 3, iA G 9 (fA rk 4)), (fk 4, iA G 9 (fA rk 5)), (xa 2, fR fm g0 g1 g2), (fm 0, qA G 3 9 gw), (fm 1, iA G 9 ga2), (fm 2, iA G 9 ga3), (fm 3, iA G 9 ga4), (fm 4, iA G 9 ga5), (xa 4, qA G 4 100 ft), (xa 5, iA G 1280 vv), (xa 6, iA G 8 by9), (xa 8, qA G 5 8 (shf sh)), (am, mO ad iv), (ad 0, iA G 57 r), (ad 1, iA G 57 m9), (ad 2, iA G 57 rk), (ad 3, iA G 57 w9), (ad 8, iA G 4 nu), (ad 9, iA G 8 wb), (ad 10, iA G 8 bb), (ad 13, iA G 8 ke), (ad 14, iA G 8 kk), (ad 15, iA G 8 kf), (ad 16, iA G 8 so), (ad 17, iA G 8 (nIf zz)), (ad 18, iA G 800 el), (ao, lA G 1 out), (sh d, .inr (3, [.ref y0]))] ++ T) := hD
      refine lv_aload_n hx hb dL_law_824 rfl (lv_at hl 3 rfl) ?_
      refine lv_aload_n hx hb dL_law_825 rfl (lv_at hl 4 rfl) ?_
      refine lv_iload hx hb dL_law_826 (lv_at hl 0 rfl) ?_
      refine lv_iconst (v := 1) hx hb dL_law_828 (by decide) ?_
      refine n_iadd hx hb i 1 dL_law_829 ?_
      refine va_sld (i := nI (i + 1)) hx hb hX hbl (Nat.not_le.mpr hbl) hS (vp_in_nI (by omega) (by omega)) dL_law_830 ?_
      refine n_eqi (y := nI d) ((congrArg xs (nI_clamp (by omega))).trans ed) ?_
      refine lv_aload_n hx hb dL_law_831 rfl (lv_at hl 4 rfl) ?_
      refine lv_iload hx hb dL_law_832 (lv_at hl 0 rfl) ?_
      refine lv_iconst (v := 2) hx hb dL_law_834 (by decide) ?_
      refine n_iadd hx hb i 2 dL_law_835 ?_
      refine va_sld (i := nI (i + 2)) hx hb hX hbl (Nat.not_le.mpr hbl) hS (vp_in_nI (by omega) (by omega)) dL_law_836 ?_
      refine n_eqi (y := xs (i + 2)) (congrArg xs (nI_clamp (by omega))) ?_
      refine lv_aload_n hx hb dL_law_837 rfl (lv_at hl 4 rfl) ?_
      refine lv_iload hx hb dL_law_838 (lv_at hl 0 rfl) ?_
      refine lv_iconst (v := 3) hx hb dL_law_840 (by decide) ?_
      refine n_iadd hx hb i 3 dL_law_841 ?_
      refine va_sld (i := nI (i + 3)) hx hb hX hbl (Nat.not_le.mpr hbl) hS (vp_in_nI (by omega) (by omega)) dL_law_842 ?_
      refine n_eqi (y := xs (i + 3)) (congrArg xs (nI_clamp (by omega))) ?_
      refine lv_aload_n hx hb dL_law_843 rfl (lv_at hl 4 rfl) ?_
      refine lv_iload hx hb dL_law_844 (lv_at hl 0 rfl) ?_
      refine lv_iconst (v := 4) hx hb dL_law_846 (by decide) ?_
      refine n_iadd hx hb i 4 dL_law_847 ?_
      refine va_sld (i := nI (i + 4)) hx hb hX hbl (Nat.not_le.mpr hbl) hS (vp_in_nI (by omega) (by omega)) dL_law_848 ?_
      refine n_eqi (y := xs (i + 4)) (congrArg xs (nI_clamp (by omega))) ?_
      refine c_Vk (rest := []) C (metX1_throat_w l G ax xa xi gm [(xa 8, qA G 5 8 (shf sh)), (sh d, .inr (3, [.ref y0]))] (nI d) (-12) (xs (i + 2)) (xs (i + 3)) (xs (i + 4)) (metX1_notRow_g l G ax xa xi sh d gm y0 k0 (nI f0) (by omega) e3) (by decide)) 4 (lw_V q686 q687 q688 q39 q689) (by decide +kernel) ⟨rfl, rfl⟩ ⟨(Nat.le_of_ble_eq_true rfl), (Nat.le_of_ble_eq_true rfl)⟩ (KG.call) (va_recv hK.1 hP (ci := 1) (q0 := 0) rfl rfl) ((tl_P hP).sub (ws' := [(ax, xO xa xi), (xa 8, qA G 5 8 (shf sh)), (sh d, .inr (3, [.ref y0]))]) [0, 22, 38] rfl) (KG.at hK (hgt.GP (G0_GP G H) hP (fun q hq => List.mem_append_right _ (htT q hq)))) hl rfl rfl (Nat.le_of_ble_eq_true rfl) ⟨(by omega), (by omega)⟩ dL_law_849 ?_
      refine lv_aload_n hx hb dL_law_852 rfl (lv_at hl 2 rfl) ?_
      refine lv_aload_n hx hb dL_law_853 rfl (lv_at hl 4 rfl) ?_
      refine lv_iload hx hb dL_law_854 (lv_at hl 0 rfl) ?_
      refine lv_iconst (v := 1) hx hb dL_law_856 (by decide) ?_
      refine n_iadd hx hb i 1 dL_law_857 ?_
      refine va_sld (i := nI (i + 1)) hx hb hX hbl (Nat.not_le.mpr hbl) hS (vp_in_nI (by omega) (by omega)) dL_law_858 ?_
      refine n_eqi (y := nI d) ((congrArg xs (nI_clamp (by omega))).trans ed) ?_
      refine lv_aload_n hx hb dL_law_859 rfl (lv_at hl 4 rfl) ?_
      refine lv_iload hx hb dL_law_860 (lv_at hl 0 rfl) ?_
      refine lv_iconst (v := 2) hx hb dL_law_862 (by decide) ?_
      refine n_iadd hx hb i 2 dL_law_863 ?_
      refine va_sld (i := nI (i + 2)) hx hb hX hbl (Nat.not_le.mpr hbl) hS (vp_in_nI (by omega) (by omega)) dL_law_864 ?_
      refine n_eqi (y := xs (i + 2)) (congrArg xs (nI_clamp (by omega))) ?_
      refine lv_aload_n hx hb dL_law_865 rfl (lv_at hl 4 rfl) ?_
      refine lv_iload hx hb dL_law_866 (lv_at hl 0 rfl) ?_
      refine lv_iconst (v := 3) hx hb dL_law_868 (by decide) ?_
      refine n_iadd hx hb i 3 dL_law_869 ?_
      refine va_sld (i := nI (i + 3)) hx hb hX hbl (Nat.not_le.mpr hbl) hS (vp_in_nI (by omega) (by omega)) dL_law_870 ?_
      refine n_eqi (y := xs (i + 3)) (congrArg xs (nI_clamp (by omega))) ?_
      refine lv_aload_n hx hb dL_law_871 rfl (lv_at hl 4 rfl) ?_
      refine lv_iload hx hb dL_law_872 (lv_at hl 0 rfl) ?_
      refine lv_iconst (v := 4) hx hb dL_law_874 (by decide) ?_
      refine n_iadd hx hb i 4 dL_law_875 ?_
      refine va_sld (i := nI (i + 4)) hx hb hX hbl (Nat.not_le.mpr hbl) hS (vp_in_nI (by omega) (by omega)) dL_law_876 ?_
      refine n_eqi (y := xs (i + 4)) (congrArg xs (nI_clamp (by omega))) ?_
      refine c_V (rest := [.int (sThW (xs (i + 2)) (xs (i + 3)) (xs (i + 4)) (-12))]) C (metX4_throat l G am ad iv ke so el zz (nI d) (xs (i + 2)) (xs (i + 3)) (xs (i + 4)) (hzz)) 4 (lw_V q1319 q1320 q1321 q42 q1322) (by decide +kernel) ⟨rfl, rfl⟩ ⟨(Nat.le_of_ble_eq_true rfl), (Nat.le_of_ble_eq_true rfl)⟩ (KM_mv G) (va_recv hK.1 hP (ci := 0) (q0 := 23) rfl rfl) ((tl_P hP).sub (ws' := [(am, mO ad iv), (ad 13, iA G 8 ke), (ad 16, iA G 8 so), (ad 17, iA G 8 (nIf zz)), (ad 18, iA G 800 el)]) [23, 31, 34, 35, 36] rfl) hK.1 hl rfl rfl (Nat.le_of_ble_eq_true rfl) ⟨(by omega), (by omega)⟩ dL_law_877 ?_
      refine lv_icmp_eq (x := sThW (xs (i + 2)) (xs (i + 3)) (xs (i + 4)) (-12)) (y := sThroatA ke so zz el (nI d) (xs (i + 2)) (xs (i + 3)) (xs (i + 4))) (tgt := 1584) hx hb dL_law_880 (by decide) (fun c_3 => ?_) (fun c_3 => absurd c_3 ((fun q => q (th_w (wr_g hd e6) (by decide) _ _ _))))
      have hP : PP G ((((LW G ax am ao xa fn fk fm sh ad xi r wh rk wk gw ga2 ga3 ga4 ga5 g0 g1 g2 ft vv by9 iv r m9 rk w9 nu wb bb ke kk kf so zz el out) ++ [(sh d, .inr (3, [.ref y0]))]) ++ []) ++ T) H := hP.part [0, 1, 2, 3, 4, 5, 6, 7, 8, 9, 10, 11, 12, 13, 14, 15, 16, 17, 18, 19, 20, 21, 22, 23, 24, 25, 26, 27, 28, 29, 30, 31, 32, 33, 34, 35, 36, 37, 38] rfl
      have hD : va_D (fun q : Nat => s.heap.size ≤ q) ((((LW G ax am ao xa fn fk fm sh ad xi r wh rk wk gw ga2 ga3 ga4 ga5 g0 g1 g2 ft vv by9 iv r m9 rk w9 nu wb bb ke kk kf so zz el out) ++ [(sh d, .inr (3, [.ref y0]))]) ++ []) ++ T) := hD.part [0, 1, 2, 3, 4, 5, 6, 7, 8, 9, 10, 11, 12, 13, 14, 15, 16, 17, 18, 19, 20, 21, 22, 23, 24, 25, 26, 27, 28, 29, 30, 31, 32, 33, 34, 35, 36, 37, 38] (by decide) rfl
      subst hT
      obtain ⟨hP, hD⟩ := wo_bk (X := (LW G ax am ao xa fn fk fm sh ad xi r wh rk wk gw ga2 ga3 ga4 ga5 g0 g1 g2 ft vv by9 iv r m9 rk w9 nu wb bb ke kk kf so zz el out)) (R := []) hv rw el hd (e1) (rl1_n e2) (fun _ _ _ => ⟨rfl, rfl, fun _ _ _ _ => rfl⟩) hP hD
      refine W.widen (k := cells + 1010) (n := slots + 5500) (by omega) (by omega) ?_
      exact kont H locs ⟨gm, tg, N, N2, hv, rw, r, rk, xi, wh, wk, gw, ga2, ga3, ga4, ga5, g0, g1, g2, ft, vv, by9, iv, m9, w9, nu, wb, bb, ke, kk, kf, so, zz, el, out, ⟨hN, hr, hwk, hri, h9, hN2, hr2, hwk2, hri2, h92, hiv, hgt, hzz, hsd⟩, hP, hD⟩ hS ls hl
    · rw [e1, rl1_s e2] at hP hD
      generalize hT : (SL sh hv (rmP PT d) 8 ++ (RL G rw el (rmP PT d) 8 ++ tg)) = T at hP hD
      have htT : ∀ q ∈ tg, q ∈ T := fun q hq => by rw [← hT]; exact List.mem_append_right _ (List.mem_append_right _ hq)
      have hP : PP G ([(ax, xO xa xi), (xa 0, fO fn r), (fn 0, qA G 3 9 wh), (fn 1, iA G 9 (fA r 2)), (fn 2, iA G 9 (fA r 3)), (fn 3, iA G 9 (fA r 4)), (fn 4, iA G 9 (fA r 5)), (xa 1, fO fk rk), (fk 0, qA G 3 9 wk), (fk 1, iA G 9 (fA rk 2)), (fk 2, iA G 9 (fA rk 3)), (fk 3, iA G 9 (fA rk 4)), (fk 4, iA G 9 (fA rk 5)), (xa 2, fR fm g0 g1 g2), (fm 0, qA G 3 9 gw), (fm 1, iA G 9 ga2), (fm 2, iA G 9 ga3), (fm 3, iA G 9 ga4), (fm 4, iA G 9 ga5), (xa 4, qA G 4 100 ft), (xa 5, iA G 1280 vv), (xa 6, iA G 8 by9), (xa 8, qA G 5 8 (shf sh)), (am, mO ad iv), (ad 0, iA G 57 r), (ad 1, iA G 57 m9), (ad 2, iA G 57 rk), (ad 3, iA G 57 w9), (ad 8, iA G 4 nu), (ad 9, iA G 8 wb), (ad 10, iA G 8 bb), (ad 13, iA G 8 ke), (ad 14, iA G 8 kk), (ad 15, iA G 8 kf), (ad 16, iA G 8 so), (ad 17, iA G 8 (nIf zz)), (ad 18, iA G 800 el), (ao, lA G 1 out), (sh d, .inr (3, [.ref a0])), (a0, tA G t0 (zz d) (rwE el (100 * d)))] ++ T) H := hP
      have hD : va_D (fun q : Nat => s.heap.size ≤ q) ([(ax, xO xa xi), (xa 0, fO fn r), (fn 0, qA G 3 9 wh), (fn 1, iA G 9 (fA r 2)), (fn 2, iA G 9 (fA r 3)), (fn 3, iA G 9 (fA r 4)), (fn 4, iA G 9 (fA r 5)), (xa 1, fO fk rk), (fk 0, qA G 3 9 wk), (fk 1, iA G 9 (fA rk 2)), (fk 2, iA G 9 (fA rk 3)), (fk 3, iA G 9 (fA rk 4)), (fk 4, iA G 9 (fA rk 5)), (xa 2, fR fm g0 g1 g2), (fm 0, qA G 3 9 gw), (fm 1, iA G 9 ga2), (fm 2, iA G 9 ga3), (fm 3, iA G 9 ga4), (fm 4, iA G 9 ga5), (xa 4, qA G 4 100 ft), (xa 5, iA G 1280 vv), (xa 6, iA G 8 by9), (xa 8, qA G 5 8 (shf sh)), (am, mO ad iv), (ad 0, iA G 57 r), (ad 1, iA G 57 m9), (ad 2, iA G 57 rk), (ad 3, iA G 57 w9), (ad 8, iA G 4 nu), (ad 9, iA G 8 wb), (ad 10, iA G 8 bb), (ad 13, iA G 8 ke), (ad 14, iA G 8 kk), (ad 15, iA G 8 kf), (ad 16, iA G 8 so), (ad 17, iA G 8 (nIf zz)), (ad 18, iA G 800 el), (ao, lA G 1 out), (sh d, .inr (3, [.ref a0])), (a0, tA G t0 (zz d) (rwE el (100 * d)))] ++ T) := hD
      refine lv_aload_n hx hb dL_law_824 rfl (lv_at hl 3 rfl) ?_
      refine lv_aload_n hx hb dL_law_825 rfl (lv_at hl 4 rfl) ?_
      refine lv_iload hx hb dL_law_826 (lv_at hl 0 rfl) ?_
      refine lv_iconst (v := 1) hx hb dL_law_828 (by decide) ?_
      refine n_iadd hx hb i 1 dL_law_829 ?_
      refine va_sld (i := nI (i + 1)) hx hb hX hbl (Nat.not_le.mpr hbl) hS (vp_in_nI (by omega) (by omega)) dL_law_830 ?_
      refine n_eqi (y := nI d) ((congrArg xs (nI_clamp (by omega))).trans ed) ?_
      refine lv_aload_n hx hb dL_law_831 rfl (lv_at hl 4 rfl) ?_
      refine lv_iload hx hb dL_law_832 (lv_at hl 0 rfl) ?_
      refine lv_iconst (v := 2) hx hb dL_law_834 (by decide) ?_
      refine n_iadd hx hb i 2 dL_law_835 ?_
      refine va_sld (i := nI (i + 2)) hx hb hX hbl (Nat.not_le.mpr hbl) hS (vp_in_nI (by omega) (by omega)) dL_law_836 ?_
      refine n_eqi (y := xs (i + 2)) (congrArg xs (nI_clamp (by omega))) ?_
      refine lv_aload_n hx hb dL_law_837 rfl (lv_at hl 4 rfl) ?_
      refine lv_iload hx hb dL_law_838 (lv_at hl 0 rfl) ?_
      refine lv_iconst (v := 3) hx hb dL_law_840 (by decide) ?_
      refine n_iadd hx hb i 3 dL_law_841 ?_
      refine va_sld (i := nI (i + 3)) hx hb hX hbl (Nat.not_le.mpr hbl) hS (vp_in_nI (by omega) (by omega)) dL_law_842 ?_
      refine n_eqi (y := xs (i + 3)) (congrArg xs (nI_clamp (by omega))) ?_
      refine lv_aload_n hx hb dL_law_843 rfl (lv_at hl 4 rfl) ?_
      refine lv_iload hx hb dL_law_844 (lv_at hl 0 rfl) ?_
      refine lv_iconst (v := 4) hx hb dL_law_846 (by decide) ?_
      refine n_iadd hx hb i 4 dL_law_847 ?_
      refine va_sld (i := nI (i + 4)) hx hb hX hbl (Nat.not_le.mpr hbl) hS (vp_in_nI (by omega) (by omega)) dL_law_848 ?_
      refine n_eqi (y := xs (i + 4)) (congrArg xs (nI_clamp (by omega))) ?_
      refine c_VWkP (wr := [(xa 0, fO fn r), (fn 0, qA G 3 9 wh), (fn 1, iA G 9 (fA r 2)), (fn 2, iA G 9 (fA r 3)), (fn 3, iA G 9 (fA r 4)), (fn 4, iA G 9 (fA r 5)), (xa 1, fO fk rk), (fk 0, qA G 3 9 wk), (fk 1, iA G 9 (fA rk 2)), (fk 2, iA G 9 (fA rk 3)), (fk 3, iA G 9 (fA rk 4)), (fk 4, iA G 9 (fA rk 5)), (xa 2, fR fm g0 g1 g2), (fm 0, qA G 3 9 gw), (fm 1, iA G 9 ga2), (fm 2, iA G 9 ga3), (fm 3, iA G 9 ga4), (fm 4, iA G 9 ga5), (xa 4, qA G 4 100 ft), (xa 5, iA G 1280 vv), (xa 6, iA G 8 by9), (am, mO ad iv), (ad 0, iA G 57 r), (ad 1, iA G 57 m9), (ad 2, iA G 57 rk), (ad 3, iA G 57 w9), (ad 8, iA G 4 nu), (ad 9, iA G 8 wb), (ad 10, iA G 8 bb), (ad 13, iA G 8 ke), (ad 14, iA G 8 kk), (ad 15, iA G 8 kf), (ad 16, iA G 8 so), (ad 17, iA G 8 (nIf zz)), (ad 18, iA G 800 el), (ao, lA G 1 out)]) (rest := []) C (metX1_throat_r l G ax xa xi sh d t0 a0 (zz d) (rwE el (100 * d)) (xs (i + 2)) (xs (i + 3)) (xs (i + 4)) (by omega) (by omega) (by omega)) 4 (lw_V q686 q687 q688 q39 q689) (by decide +kernel) ⟨rfl, rfl⟩ ⟨(Nat.le_of_ble_eq_true rfl), (Nat.le_of_ble_eq_true rfl)⟩ ((fun _ _ _ _ h => (KX_mv G).2 _ _ _ _ h)) (fun _ _ hW => (KX_mv G).1 _ _ hW hK) (va_recv hK.1 hP (ci := 1) (q0 := 0) rfl rfl) hA hP hD hS [0, 22, 38, 39] [1, 2, 3, 4, 5, 6, 7, 8, 9, 10, 11, 12, 13, 14, 15, 16, 17, 18, 19, 20, 21, 23, 24, 25, 26, 27, 28, 29, 30, 31, 32, 33, 34, 35, 36, 37] rfl rfl rfl rfl (by decide) hl rfl rfl (Nat.le_of_ble_eq_true rfl) ⟨(by omega), (by omega)⟩ dL_law_849 (fun r_4 w1 H locs hq_5 hP hD hS => ?_)
      obtain ⟨rfl, rfl⟩ := hq_5
      have hP : PP G ([(xa 0, fO fn r), (fn 0, qA G 3 9 wh), (fn 1, iA G 9 (fA r 2)), (fn 2, iA G 9 (fA r 3)), (fn 3, iA G 9 (fA r 4)), (fn 4, iA G 9 (fA r 5)), (xa 1, fO fk rk), (fk 0, qA G 3 9 wk), (fk 1, iA G 9 (fA rk 2)), (fk 2, iA G 9 (fA rk 3)), (fk 3, iA G 9 (fA rk 4)), (fk 4, iA G 9 (fA rk 5)), (xa 2, fR fm g0 g1 g2), (fm 0, qA G 3 9 gw), (fm 1, iA G 9 ga2), (fm 2, iA G 9 ga3), (fm 3, iA G 9 ga4), (fm 4, iA G 9 ga5), (xa 4, qA G 4 100 ft), (xa 5, iA G 1280 vv), (xa 6, iA G 8 by9), (am, mO ad iv), (ad 0, iA G 57 r), (ad 1, iA G 57 m9), (ad 2, iA G 57 rk), (ad 3, iA G 57 w9), (ad 8, iA G 4 nu), (ad 9, iA G 8 wb), (ad 10, iA G 8 bb), (ad 13, iA G 8 ke), (ad 14, iA G 8 kk), (ad 15, iA G 8 kf), (ad 16, iA G 8 so), (ad 17, iA G 8 (nIf zz)), (ad 18, iA G 800 el), (ao, lA G 1 out), (ax, xO xa xi), (xa 8, qA G 5 8 (shf sh)), (sh d, .inr (3, [.ref a0])), (a0, tA G t0 (zz d) (rwE el (100 * d)))] ++ T) H := hP
      have hD : va_D (fun q : Nat => s.heap.size ≤ q) ([(xa 0, fO fn r), (fn 0, qA G 3 9 wh), (fn 1, iA G 9 (fA r 2)), (fn 2, iA G 9 (fA r 3)), (fn 3, iA G 9 (fA r 4)), (fn 4, iA G 9 (fA r 5)), (xa 1, fO fk rk), (fk 0, qA G 3 9 wk), (fk 1, iA G 9 (fA rk 2)), (fk 2, iA G 9 (fA rk 3)), (fk 3, iA G 9 (fA rk 4)), (fk 4, iA G 9 (fA rk 5)), (xa 2, fR fm g0 g1 g2), (fm 0, qA G 3 9 gw), (fm 1, iA G 9 ga2), (fm 2, iA G 9 ga3), (fm 3, iA G 9 ga4), (fm 4, iA G 9 ga5), (xa 4, qA G 4 100 ft), (xa 5, iA G 1280 vv), (xa 6, iA G 8 by9), (am, mO ad iv), (ad 0, iA G 57 r), (ad 1, iA G 57 m9), (ad 2, iA G 57 rk), (ad 3, iA G 57 w9), (ad 8, iA G 4 nu), (ad 9, iA G 8 wb), (ad 10, iA G 8 bb), (ad 13, iA G 8 ke), (ad 14, iA G 8 kk), (ad 15, iA G 8 kf), (ad 16, iA G 8 so), (ad 17, iA G 8 (nIf zz)), (ad 18, iA G 800 el), (ao, lA G 1 out), (ax, xO xa xi), (xa 8, qA G 5 8 (shf sh)), (sh d, .inr (3, [.ref a0])), (a0, tA G t0 (zz d) (rwE el (100 * d)))] ++ T) := hD
      refine lv_aload_n hx hb dL_law_852 rfl (lv_at hl 2 rfl) ?_
      refine lv_aload_n hx hb dL_law_853 rfl (lv_at hl 4 rfl) ?_
      refine lv_iload hx hb dL_law_854 (lv_at hl 0 rfl) ?_
      refine lv_iconst (v := 1) hx hb dL_law_856 (by decide) ?_
      refine n_iadd hx hb i 1 dL_law_857 ?_
      refine va_sld (i := nI (i + 1)) hx hb hX hbl (Nat.not_le.mpr hbl) hS (vp_in_nI (by omega) (by omega)) dL_law_858 ?_
      refine n_eqi (y := nI d) ((congrArg xs (nI_clamp (by omega))).trans ed) ?_
      refine lv_aload_n hx hb dL_law_859 rfl (lv_at hl 4 rfl) ?_
      refine lv_iload hx hb dL_law_860 (lv_at hl 0 rfl) ?_
      refine lv_iconst (v := 2) hx hb dL_law_862 (by decide) ?_
      refine n_iadd hx hb i 2 dL_law_863 ?_
      refine va_sld (i := nI (i + 2)) hx hb hX hbl (Nat.not_le.mpr hbl) hS (vp_in_nI (by omega) (by omega)) dL_law_864 ?_
      refine n_eqi (y := xs (i + 2)) (congrArg xs (nI_clamp (by omega))) ?_
      refine lv_aload_n hx hb dL_law_865 rfl (lv_at hl 4 rfl) ?_
      refine lv_iload hx hb dL_law_866 (lv_at hl 0 rfl) ?_
      refine lv_iconst (v := 3) hx hb dL_law_868 (by decide) ?_
      refine n_iadd hx hb i 3 dL_law_869 ?_
      refine va_sld (i := nI (i + 3)) hx hb hX hbl (Nat.not_le.mpr hbl) hS (vp_in_nI (by omega) (by omega)) dL_law_870 ?_
      refine n_eqi (y := xs (i + 3)) (congrArg xs (nI_clamp (by omega))) ?_
      refine lv_aload_n hx hb dL_law_871 rfl (lv_at hl 4 rfl) ?_
      refine lv_iload hx hb dL_law_872 (lv_at hl 0 rfl) ?_
      refine lv_iconst (v := 4) hx hb dL_law_874 (by decide) ?_
      refine n_iadd hx hb i 4 dL_law_875 ?_
      refine va_sld (i := nI (i + 4)) hx hb hX hbl (Nat.not_le.mpr hbl) hS (vp_in_nI (by omega) (by omega)) dL_law_876 ?_
      refine n_eqi (y := xs (i + 4)) (congrArg xs (nI_clamp (by omega))) ?_
      refine c_V (rest := [.int (sThroatX (zz d) (rwE el (100 * d)) (xs (i + 2)) (xs (i + 3)) (xs (i + 4)))]) C (metX4_throat l G am ad iv ke so el zz (nI d) (xs (i + 2)) (xs (i + 3)) (xs (i + 4)) (hzz)) 4 (lw_V q1319 q1320 q1321 q42 q1322) (by decide +kernel) ⟨rfl, rfl⟩ ⟨(Nat.le_of_ble_eq_true rfl), (Nat.le_of_ble_eq_true rfl)⟩ (KM_mv G) (va_recv hK.1 hP (ci := 0) (q0 := 21) rfl rfl) ((tl_P hP).sub (ws' := [(am, mO ad iv), (ad 13, iA G 8 ke), (ad 16, iA G 8 so), (ad 17, iA G 8 (nIf zz)), (ad 18, iA G 800 el)]) [21, 29, 32, 33, 34] rfl) hK.1 hl rfl rfl (Nat.le_of_ble_eq_true rfl) ⟨(by omega), (by omega)⟩ dL_law_877 ?_
      refine lv_icmp_eq (x := sThroatX (zz d) (rwE el (100 * d)) (xs (i + 2)) (xs (i + 3)) (xs (i + 4))) (y := sThroatA ke so zz el (nI d) (xs (i + 2)) (xs (i + 3)) (xs (i + 4))) (tgt := 1584) hx hb dL_law_880 (by decide) (fun c_6 => ?_) (fun c_6 => absurd c_6 ((fun q => q (th_r hd e4 _ _ _))))
      have hP : PP G ((((LW G ax am ao xa fn fk fm sh ad xi r wh rk wk gw ga2 ga3 ga4 ga5 g0 g1 g2 ft vv by9 iv r m9 rk w9 nu wb bb ke kk kf so zz el out) ++ [(sh d, .inr (3, [.ref a0]))]) ++ [(a0, tA G t0 (zz d) (rwE el (100 * d)))]) ++ T) H := hP.part [36, 0, 1, 2, 3, 4, 5, 6, 7, 8, 9, 10, 11, 12, 13, 14, 15, 16, 17, 18, 19, 20, 37, 21, 22, 23, 24, 25, 26, 27, 28, 29, 30, 31, 32, 33, 34, 35, 38, 39] rfl
      have hD : va_D (fun q : Nat => s.heap.size ≤ q) ((((LW G ax am ao xa fn fk fm sh ad xi r wh rk wk gw ga2 ga3 ga4 ga5 g0 g1 g2 ft vv by9 iv r m9 rk w9 nu wb bb ke kk kf so zz el out) ++ [(sh d, .inr (3, [.ref a0]))]) ++ [(a0, tA G t0 (zz d) (rwE el (100 * d)))]) ++ T) := hD.part [36, 0, 1, 2, 3, 4, 5, 6, 7, 8, 9, 10, 11, 12, 13, 14, 15, 16, 17, 18, 19, 20, 37, 21, 22, 23, 24, 25, 26, 27, 28, 29, 30, 31, 32, 33, 34, 35, 38, 39] (by decide) rfl
      subst hT
      obtain ⟨hP, hD⟩ := wo_bk (X := (LW G ax am ao xa fn fk fm sh ad xi r wh rk wk gw ga2 ga3 ga4 ga5 g0 g1 g2 ft vv by9 iv r m9 rk w9 nu wb bb ke kk kf so zz el out)) (R := [(a0, tA G t0 (zz d) (rwE el (100 * d)))]) hv rw el hd (e1) (rl1_s e2) (fun _ _ _ => ⟨rfl, rfl, fun _ _ _ _ => rfl⟩) hP hD
      refine W.widen (k := cells + 1010) (n := slots + 5500) (by omega) (by omega) ?_
      exact kont H locs ⟨gm, tg, N, N2, hv, rw, r, rk, xi, wh, wk, gw, ga2, ga3, ga4, ga5, g0, g1, g2, ft, vv, by9, iv, m9, w9, nu, wb, bb, ke, kk, kf, so, zz, el, out, ⟨hN, hr, hwk, hri, h9, hN2, hr2, hwk2, hri2, h92, hiv, hgt, hzz, hsd⟩, hP, hD⟩ hS ls hl
