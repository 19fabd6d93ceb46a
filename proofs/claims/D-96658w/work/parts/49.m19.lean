set_option maxHeartbeats 4000000 in
set_option maxRecDepth 100000 in
theorem metX1_partner_true (l : Launch) (G : GG) (h : Nat) (xa : Nat → Nat) (xi : Nat → Int32) (fn : Nat → Nat) (gm : GM) (wh : Nat → Option Nat) (r : Nat → Int32) (N : Nat) (vv : Nat → Int32) (mo z9 p : Nat) (hN : N ≤ 8) (hr : r 0 = nI N) (hwk : WK gm wh r N) (hri : RI r N) (hm : mo ≤ 4) (hz : z9 < 2 ^ N) (hp : p < N) (hV : ∀ m s, m ≤ 4 → s < 2 ^ N → vv (256 * m + s) = nI (xV r N m s)) : MR l yX1_partner cX1_partner 7 (some .int) ({ frames := 10, cells := 0, slots := 0, locals := 289 }) [.ref h, .int (nI mo), .int (nI z9), .int (nI p), .int (bI true)] [(h, xO xa xi), (xa 0, fO fn r), (fn 0, qA G 3 9 wh), (fn 1, iA G 9 (fA r 2)), (fn 2, iA G 9 (fA r 3)), (fn 3, iA G 9 (fA r 4)), (fn 4, iA G 9 (fA r 5)), (xa 5, iA G 1280 vv)] G (KG G gm) (encL (prt r N mo z9 p true)) := by
  -- rows printed by wip/tools/gen.py
  refine mr_mk RX1 (by decide) rfl (Nat.le_of_ble_eq_true rfl) ?_
  intro p0_ e0_ s m args below meth c C hP hK ls hl
  have hGP := hK.2
  have hK := hK.1
  have hx := C.1
  have hb := C.2.1
  have hml := C.2.2.2.2.1
  have hown := C.2.2.2.2.2.1
  have hts := C.2.2.2.2.2.2
  have hl : lv_has ls 7 [(0, .ref h), (1, .int (nI mo)), (2, .int (nI z9)), (3, .int (nI p)), (4, .int (bI true))] := hl
  have h28 := p28 hN
  refine lv_iload_n hx hb dX1_partner_0 rfl (lv_at hl 3 rfl) ?_
  refine lv_iconst (v := 1) hx hb dX1_partner_1 (by decide) ?_
  refine n_iadd hx hb p 1 dX1_partner_2 ?_
  rcases Nat.eq_zero_or_pos mo with m0 | m0
  · subst m0
    refine lv_istore (lv' := [(5, .int (nI (p + 1))), (0, .ref h), (1, .int (nI 0)), (2, .int (nI z9)), (3, .int (nI p)), (4, .int (bI true))]) hx hb dX1_partner_3 hl (Nat.le_of_ble_eq_true rfl) rfl (fun ls hl => ?_)
    refine lv_iload hx hb dX1_partner_5 (lv_at hl 0 rfl) ?_
    refine lv_aload_n hx hb dX1_partner_7 rfl (lv_at hl 1 rfl) ?_
    refine va_get (D := gD G) (ci := 1) (v := .ref (xa 0)) (C := RX1) (T := TX1) (N := 9) hx hb hts in_X1 hown hK.1 hP 0 rfl rfl 0 (by decide) (hts _ q838) (fun _ h9 => h9) rfl dX1_partner_8 ?_
    refine va_get (D := gD G) (ci := 2) (v := .int (r 0)) (C := RX2) (T := TX2) (N := 8) hx hb hts in_X2 hown hK.1 hP 1 rfl rfl 5 (by decide) (hts _ q803) (fun _ h9 => h9) rfl dX1_partner_11 ?_
    refine n_eqi (hr) ?_
    refine n_ic_ge (x := p + 1) (y := N) (tgt := 126) hx hb (by omega) (by omega) dX1_partner_14 (by decide) (fun c_2 => ?_) (fun c_2 => ?_)
    · have zc_2 : ¬ p + 1 < N := Nat.not_lt.mpr c_2
      refine lv_bipush (v := (-4)) hx hb dX1_partner_126 (by decide) ?_
      exact n_iret (v := (-4)) C (by rw [prt, if_pos rfl]; rfl) dX1_partner_128
    · have zc_2 : ¬ N ≤ p + 1 := Nat.not_le.mpr c_2
      refine lv_iload_n hx hb dX1_partner_17 rfl (lv_at hl 2 rfl) ?_
      refine n_if_le (x := 0) (tgt := 126) hx hb (by omega) dX1_partner_18 (by decide) (fun c_3 => ?_) (fun c_3 => absurd c_3 (by omega))
      refine lv_bipush (v := (-4)) hx hb dX1_partner_126 (by decide) ?_
      exact n_iret (v := (-4)) C (by rw [prt, if_pos rfl]; rfl) dX1_partner_128
  · have m1 : mo ≠ 0 := by omega
    refine lv_istore (lv' := [(5, .int (nI (p + 1))), (0, .ref h), (1, .int (nI mo)), (2, .int (nI z9)), (3, .int (nI p)), (4, .int (bI true))]) hx hb dX1_partner_3 hl (Nat.le_of_ble_eq_true rfl) rfl (fun ls hl => ?_)
    suffices hlp_4 : (∀ (n q : Nat), q + n = N → p + 1 ≤ q → (fstq (prS r N mo z9 p true) (N - (p + 1)) (p + 1) = fstq (prS r N mo z9 p true) (N - q) q) → ∀ (ls : Array Slot), lv_has ls 7 [(5, .int (nI q)), (0, .ref h), (1, .int (nI mo)), (2, .int (nI z9)), (3, .int (nI p)), (4, .int (bI true))] → W p0_ l e0_ ({ frames := 10, cells := 0, slots := 0, locals := 289 } : Room) s m args below meth c s.heap [] (0) (0) (MQ below (vp_Si (fun rr9 => rr9 = encL (prt r N mo z9 p true))) args s 0 0 (fun _ => False)) (F0 m 5 ls [])) by
      exact hlp_4 (N - (p + 1)) (p + 1) (by omega) (Nat.le_refl _) (rfl) ls (lv_sub hl [0, 1, 2, 3, 4, 5] rfl)
    have hend_4 : (fstq (prS r N mo z9 p true) (N - (p + 1)) (p + 1) = fstq (prS r N mo z9 p true) (N - N) N) → ∀ (ls : Array Slot), lv_has ls 7 [(5, .int (nI N)), (0, .ref h), (1, .int (nI mo)), (2, .int (nI z9)), (3, .int (nI p)), (4, .int (bI true))] → W p0_ l e0_ ({ frames := 10, cells := 0, slots := 0, locals := 289 } : Room) s m args below meth c s.heap [] (0) (0) (MQ below (vp_Si (fun rr9 => rr9 = encL (prt r N mo z9 p true))) args s 0 0 (fun _ => False)) (F0 m 5 ls []) := by
      intro hpr ls hl
      refine lv_iload hx hb dX1_partner_5 (lv_at hl 0 rfl) ?_
      refine lv_aload_n hx hb dX1_partner_7 rfl (lv_at hl 1 rfl) ?_
      refine va_get (D := gD G) (ci := 1) (v := .ref (xa 0)) (C := RX1) (T := TX1) (N := 9) hx hb hts in_X1 hown hK.1 hP 0 rfl rfl 0 (by decide) (hts _ q838) (fun _ h9 => h9) rfl dX1_partner_8 ?_
      refine va_get (D := gD G) (ci := 2) (v := .int (r 0)) (C := RX2) (T := TX2) (N := 8) hx hb hts in_X2 hown hK.1 hP 1 rfl rfl 5 (by decide) (hts _ q803) (fun _ h9 => h9) rfl dX1_partner_11 ?_
      refine n_eqi (hr) ?_
      refine n_ic_ge (x := N) (y := N) (tgt := 126) hx hb (by omega) (by omega) dX1_partner_14 (by decide) (fun c_5 => ?_) (fun c_5 => absurd c_5 (by omega))
      refine lv_bipush (v := (-4)) hx hb dX1_partner_126 (by decide) ?_
      exact n_iret (v := (-4)) C (by rw [prt, if_neg m1, hpr, Nat.sub_self]; rfl) dX1_partner_128
    intro n
    induction n with
    | zero =>
      intro q hi_4 hs_4 hpr ls hl
      obtain e_4 : q = N := by omega
      first | (subst e_4; exact hend_4 hpr ls hl) | (rw [e_4] at hl; exact hend_4 hpr ls hl)
    | succ n ih_4 =>
      intro q hi_4 hs_4 hpr ls hl
      have j1 := hri.jn (p := p) (q := q) hp (by omega)
      have j2 := hri.jn (p := q) (q := p) (by omega) hp
      have w1 := wo_le z9 p q
      have w2 := wo_le z9 q p
      have v1 := xV_le (m := mo - 1) (s := wo z9 p q) hri hN (by omega)
      have v2 := xV_le (m := mo - 1) (s := wo z9 q p) hri hN (by omega)
      have v3 := xV_le (m := mo) (s := z9) hri hN hz
      refine lv_iload hx hb dX1_partner_5 (lv_at hl 0 rfl) ?_
      refine lv_aload_n hx hb dX1_partner_7 rfl (lv_at hl 1 rfl) ?_
      refine va_get (D := gD G) (ci := 1) (v := .ref (xa 0)) (C := RX1) (T := TX1) (N := 9) hx hb hts in_X1 hown hK.1 hP 0 rfl rfl 0 (by decide) (hts _ q838) (fun _ h9 => h9) rfl dX1_partner_8 ?_
      refine va_get (D := gD G) (ci := 2) (v := .int (r 0)) (C := RX2) (T := TX2) (N := 8) hx hb hts in_X2 hown hK.1 hP 1 rfl rfl 5 (by decide) (hts _ q803) (fun _ h9 => h9) rfl dX1_partner_11 ?_
      refine n_eqi (hr) ?_
      refine n_ic_ge (x := q) (y := N) (tgt := 126) hx hb (by omega) (by omega) dX1_partner_14 (by decide) (fun c_6 => absurd c_6 (by omega)) (fun c_6 => ?_)
      refine lv_iload_n hx hb dX1_partner_17 rfl (lv_at hl 2 rfl) ?_
      refine n_if_le (x := mo) (tgt := 126) hx hb (by omega) dX1_partner_18 (by decide) (fun c_7 => absurd c_7 (by omega)) (fun c_7 => ?_)
      refine lv_iload_n hx hb dX1_partner_21 rfl (lv_at hl 3 rfl) ?_
      refine lv_iload hx hb dX1_partner_22 (lv_at hl 0 rfl) ?_
      refine c_S (rest := []) C (metX1_hasN l G (nI z9) q) 2 (lw_S q596 q597 q39 q598) (by decide +kernel) ⟨rfl, rfl⟩ ⟨(Nat.le_of_ble_eq_true rfl), (Nat.le_of_ble_eq_true rfl)⟩ (KM_mv G) (hP.sub (ws' := []) [] rfl) hK.1 hl rfl rfl (Nat.le_of_ble_eq_true rfl) ⟨(Nat.le_of_ble_eq_true rfl), (Nat.le_of_ble_eq_true rfl)⟩ dX1_partner_24 ?_
      refine n_if_eqB (b := (sBt (nI z9) q)) (tgt := 68) hx hb dX1_partner_27 (by decide) (fun c_8 => ?_) (fun c_8 => ?_)
      · refine lv_iconst (v := 0) hx hb dX1_partner_68 (by decide) ?_
        refine lv_istore (lv' := [(6, .int 0), (5, .int (nI q)), (0, .ref h), (1, .int (nI mo)), (2, .int (nI z9)), (3, .int (nI p)), (4, .int (bI true))]) hx hb dX1_partner_69 hl (Nat.le_of_ble_eq_true rfl) rfl (fun ls hl => ?_)
        refine lv_iload hx hb dX1_partner_71 (lv_at hl 0 rfl) ?_
        refine lv_if_eq (x := 0) (tgt := 120) hx hb dX1_partner_73 (by decide) (fun c_9 => ?_) (fun c_9 => absurd c_9 (by decide))
        refine n_iinc (k := 1) (lv' := [(5, .int (nI (q + 1))), (6, .int 0), (0, .ref h), (1, .int (nI mo)), (2, .int (nI z9)), (3, .int (nI p)), (4, .int (bI true))]) hx hb q 1 dX1_partner_120 hl rfl (Nat.le_of_ble_eq_true rfl) rfl (fun ls hl => ?_)
        refine lv_goto (tgt := 5) hx hb dX1_partner_123 (by decide) ?_
        exact ih_4 (q + 1) (by omega) (by omega) (by rw [hpr, show N - q = (N - (q + 1)) + 1 by omega, fstq, if_neg (by simp [prS, c_6, c_7, c_8, c_9])]) ls (lv_sub hl [0, 2, 3, 4, 5, 6] rfl)
      · refine lv_iload hx hb dX1_partner_30 (lv_at hl 5 rfl) ?_
        refine n_if_eqB (b := true) (tgt := 51) hx hb dX1_partner_32 (by decide) (fun c_10 => absurd c_10 (by decide)) (fun c_10 => ?_)
        refine lv_aload_n hx hb dX1_partner_35 rfl (lv_at hl 1 rfl) ?_
        refine va_get (D := gD G) (ci := 1) (v := .ref (xa 0)) (C := RX1) (T := TX1) (N := 9) hx hb hts in_X1 hown hK.1 hP 0 rfl rfl 0 (by decide) (hts _ q838) (fun _ h9 => h9) rfl dX1_partner_36 ?_
        refine lv_iload_n hx hb dX1_partner_39 rfl (lv_at hl 4 rfl) ?_
        refine lv_iload hx hb dX1_partner_40 (lv_at hl 0 rfl) ?_
        refine c_Vk (rest := []) C (metX2_canEatN l G (xa 0) fn gm wh r N p q (by omega) (hr) (hwk) (by omega) (by omega)) 2 (lw_V q367 q368 q369 q40 q370) (by decide +kernel) ⟨rfl, rfl⟩ ⟨(Nat.le_of_ble_eq_true rfl), (Nat.le_of_ble_eq_true rfl)⟩ (KG.call) (va_recv hK.1 hP (ci := 2) (q0 := 1) rfl rfl) (hP.sub (ws' := [(xa 0, fO fn r), (fn 0, qA G 3 9 wh), (fn 1, iA G 9 (fA r 2)), (fn 2, iA G 9 (fA r 3)), (fn 3, iA G 9 (fA r 4)), (fn 4, iA G 9 (fA r 5))]) [1, 2, 3, 4, 5, 6] rfl) (KG.at hK hGP) hl rfl rfl (Nat.le_of_ble_eq_true rfl) ⟨(Nat.le_of_ble_eq_true rfl), (Nat.le_of_ble_eq_true rfl)⟩ dX1_partner_42 ?_
        refine n_if_eqB (b := (sEat r p q)) (tgt := 68) hx hb dX1_partner_45 (by decide) (fun c_11 => ?_) (fun c_11 => ?_)
        · refine lv_iconst (v := 0) hx hb dX1_partner_68 (by decide) ?_
          refine lv_istore (lv' := [(6, .int 0), (5, .int (nI q)), (0, .ref h), (1, .int (nI mo)), (2, .int (nI z9)), (3, .int (nI p)), (4, .int (bI true))]) hx hb dX1_partner_69 hl (Nat.le_of_ble_eq_true rfl) rfl (fun ls hl => ?_)
          refine lv_iload hx hb dX1_partner_71 (lv_at hl 0 rfl) ?_
          refine lv_if_eq (x := 0) (tgt := 120) hx hb dX1_partner_73 (by decide) (fun c_12 => ?_) (fun c_12 => absurd c_12 (by decide))
          refine n_iinc (k := 1) (lv' := [(5, .int (nI (q + 1))), (6, .int 0), (0, .ref h), (1, .int (nI mo)), (2, .int (nI z9)), (3, .int (nI p)), (4, .int (bI true))]) hx hb q 1 dX1_partner_120 hl rfl (Nat.le_of_ble_eq_true rfl) rfl (fun ls hl => ?_)
          refine lv_goto (tgt := 5) hx hb dX1_partner_123 (by decide) ?_
          exact ih_4 (q + 1) (by omega) (by omega) (by rw [hpr, show N - q = (N - (q + 1)) + 1 by omega, fstq, if_neg (by simp [prS, c_6, c_7, c_8, c_10, c_11, c_12])]) ls (lv_sub hl [0, 2, 3, 4, 5, 6] rfl)
        · refine lv_goto (tgt := 64) hx hb dX1_partner_48 (by decide) ?_
          refine lv_iconst (v := 1) hx hb dX1_partner_64 (by decide) ?_
          refine lv_goto (tgt := 69) hx hb dX1_partner_65 (by decide) ?_
          refine lv_istore (lv' := [(6, .int 1), (5, .int (nI q)), (0, .ref h), (1, .int (nI mo)), (2, .int (nI z9)), (3, .int (nI p)), (4, .int (bI true))]) hx hb dX1_partner_69 hl (Nat.le_of_ble_eq_true rfl) rfl (fun ls hl => ?_)
          refine lv_iload hx hb dX1_partner_71 (lv_at hl 0 rfl) ?_
          refine lv_if_eq (x := 1) (tgt := 120) hx hb dX1_partner_73 (by decide) (fun c_13 => absurd c_13 (by decide)) (fun c_13 => ?_)
          refine lv_iload hx hb dX1_partner_76 (lv_at hl 6 rfl) ?_
          refine n_if_eqB (b := true) (tgt := 93) hx hb dX1_partner_78 (by decide) (fun c_14 => absurd c_14 (by decide)) (fun c_14 => ?_)
          refine lv_aload_n hx hb dX1_partner_81 rfl (lv_at hl 2 rfl) ?_
          refine lv_iload_n hx hb dX1_partner_82 rfl (lv_at hl 3 rfl) ?_
          refine lv_iload_n hx hb dX1_partner_83 rfl (lv_at hl 4 rfl) ?_
          refine lv_iload_n hx hb dX1_partner_84 rfl (lv_at hl 5 rfl) ?_
          refine lv_iload hx hb dX1_partner_85 (lv_at hl 1 rfl) ?_
          refine c_Vk (rest := []) C (metX1_pairValue l G h xa xi fn gm wh r N vv mo z9 p q (tn (sJoy r p q)) (xV r N (mo - 1) (wo z9 p q)) (by omega) (hr) (hwk) (by omega) (by omega) (by omega) (by omega) (j1.1) (hV (mo - 1) _ (by omega) (Nat.lt_of_le_of_lt (wo_le _ _ _) (by omega)))) 4 (lw_V q599 q601 qs12 q39 q602) (by decide +kernel) ⟨rfl, rfl⟩ ⟨(Nat.le_of_ble_eq_true rfl), (Nat.le_of_ble_eq_true rfl)⟩ (KG.call) (va_recv hK.1 hP (ci := 1) (q0 := 0) rfl rfl) hP (KG.at hK hGP) hl rfl rfl (Nat.le_of_ble_eq_true rfl) ⟨(Nat.le_of_ble_eq_true rfl), (Nat.le_of_ble_eq_true rfl)⟩ dX1_partner_87 ?_
          refine lv_goto (tgt := 102) hx hb dX1_partner_90 (by decide) ?_
          refine lv_aload_n hx hb dX1_partner_102 rfl (lv_at hl 2 rfl) ?_
          refine va_get (D := gD G) (ci := 1) (v := .ref (xa 5)) (C := RX1) (T := TX1) (N := 9) hx hb hts in_X1 hown hK.1 hP 0 rfl rfl 5 (by decide) (hts _ q843) (fun _ h9 => h9) rfl dX1_partner_103 ?_
          refine lv_sipush (v := 256) hx hb dX1_partner_106 (by decide) ?_
          refine lv_iload_n hx hb dX1_partner_109 rfl (lv_at hl 3 rfl) ?_
          refine n_imul hx hb 256 mo dX1_partner_110 ?_
          refine lv_iload_n hx hb dX1_partner_111 rfl (lv_at hl 4 rfl) ?_
          refine n_iadd hx hb (256 * mo) z9 dX1_partner_112 ?_
          refine n_iald C hK.1 hP 7 ((256 * mo) + z9) rfl (by omega) (by omega) dX1_partner_113 ?_
          refine n_eqi (hV mo z9 hm hz) ?_
          refine n_ic_ne (x := (tn (sJoy r p q)) + (xV r N (mo - 1) (wo z9 p q))) (y := xV r N mo z9) (tgt := 120) hx hb (by omega) (by omega) dX1_partner_114 (by decide) (fun c_15 => ?_) (fun c_15 => ?_)
          · have zc_15 : ¬ nI ((tn (sJoy r p q)) + (xV r N (mo - 1) (wo z9 p q))) = nI (xV r N mo z9) := fun q => c_15 ((nI_eq (by omega) (by omega)).mp q)
            refine n_iinc (k := 1) (lv' := [(5, .int (nI (q + 1))), (6, .int 1), (0, .ref h), (1, .int (nI mo)), (2, .int (nI z9)), (3, .int (nI p)), (4, .int (bI true))]) hx hb q 1 dX1_partner_120 hl rfl (Nat.le_of_ble_eq_true rfl) rfl (fun ls hl => ?_)
            refine lv_goto (tgt := 5) hx hb dX1_partner_123 (by decide) ?_
            exact ih_4 (q + 1) (by omega) (by omega) (by rw [hpr, show N - q = (N - (q + 1)) + 1 by omega, fstq, if_neg (by simp [prS, c_6, c_7, c_8, c_10, c_11, c_13, c_14, c_15])]) ls (lv_sub hl [0, 2, 3, 4, 5, 6] rfl)
          · have zc_15 : nI ((tn (sJoy r p q)) + (xV r N (mo - 1) (wo z9 p q))) = nI (xV r N mo z9) := congrArg nI c_15
            refine lv_iload hx hb dX1_partner_117 (lv_at hl 1 rfl) ?_
            exact n_iret (v := nI q) C (by rw [prt, if_neg m1, hpr, show N - q = (N - (q + 1)) + 1 by omega, fstq, if_pos (by simp [prS, c_6, c_7, c_8, c_10, c_11, c_13, c_14, c_15])]; rfl) dX1_partner_119

set_option maxHeartbeats 4000000 in
set_option maxRecDepth 100000 in
theorem metX1_partner_false (l : Launch) (G : GG) (h : Nat) (xa : Nat → Nat) (xi : Nat → Int32) (fn : Nat → Nat) (gm : GM) (wh : Nat → Option Nat) (r : Nat → Int32) (N : Nat) (vv : Nat → Int32) (mo z9 p : Nat) (hN : N ≤ 8) (hr : r 0 = nI N) (hwk : WK gm wh r N) (hri : RI r N) (hm : mo ≤ 4) (hz : z9 < 2 ^ N) (hp : p < N) (hV : ∀ m s, m ≤ 4 → s < 2 ^ N → vv (256 * m + s) = nI (xV r N m s)) : MR l yX1_partner cX1_partner 7 (some .int) ({ frames := 10, cells := 0, slots := 0, locals := 289 }) [.ref h, .int (nI mo), .int (nI z9), .int (nI p), .int (bI false)] [(h, xO xa xi), (xa 0, fO fn r), (fn 0, qA G 3 9 wh), (fn 1, iA G 9 (fA r 2)), (fn 2, iA G 9 (fA r 3)), (fn 3, iA G 9 (fA r 4)), (fn 4, iA G 9 (fA r 5)), (xa 5, iA G 1280 vv)] G (KG G gm) (encL (prt r N mo z9 p false)) := by
  -- rows printed by wip/tools/gen.py
  refine mr_mk RX1 (by decide) rfl (Nat.le_of_ble_eq_true rfl) ?_
  intro p0_ e0_ s m args below meth c C hP hK ls hl
  have hGP := hK.2
  have hK := hK.1
  have hx := C.1
  have hb := C.2.1
  have hml := C.2.2.2.2.1
  have hown := C.2.2.2.2.2.1
  have hts := C.2.2.2.2.2.2
  have hl : lv_has ls 7 [(0, .ref h), (1, .int (nI mo)), (2, .int (nI z9)), (3, .int (nI p)), (4, .int (bI false))] := hl
  have h28 := p28 hN
  refine lv_iload_n hx hb dX1_partner_0 rfl (lv_at hl 3 rfl) ?_
  refine lv_iconst (v := 1) hx hb dX1_partner_1 (by decide) ?_
  refine n_iadd hx hb p 1 dX1_partner_2 ?_
  rcases Nat.eq_zero_or_pos mo with m0 | m0
  · subst m0
    refine lv_istore (lv' := [(5, .int (nI (p + 1))), (0, .ref h), (1, .int (nI 0)), (2, .int (nI z9)), (3, .int (nI p)), (4, .int (bI false))]) hx hb dX1_partner_3 hl (Nat.le_of_ble_eq_true rfl) rfl (fun ls hl => ?_)
    refine lv_iload hx hb dX1_partner_5 (lv_at hl 0 rfl) ?_
    refine lv_aload_n hx hb dX1_partner_7 rfl (lv_at hl 1 rfl) ?_
    refine va_get (D := gD G) (ci := 1) (v := .ref (xa 0)) (C := RX1) (T := TX1) (N := 9) hx hb hts in_X1 hown hK.1 hP 0 rfl rfl 0 (by decide) (hts _ q838) (fun _ h9 => h9) rfl dX1_partner_8 ?_
    refine va_get (D := gD G) (ci := 2) (v := .int (r 0)) (C := RX2) (T := TX2) (N := 8) hx hb hts in_X2 hown hK.1 hP 1 rfl rfl 5 (by decide) (hts _ q803) (fun _ h9 => h9) rfl dX1_partner_11 ?_
    refine n_eqi (hr) ?_
    refine n_ic_ge (x := p + 1) (y := N) (tgt := 126) hx hb (by omega) (by omega) dX1_partner_14 (by decide) (fun c_2 => ?_) (fun c_2 => ?_)
    · have zc_2 : ¬ p + 1 < N := Nat.not_lt.mpr c_2
      refine lv_bipush (v := (-4)) hx hb dX1_partner_126 (by decide) ?_
      exact n_iret (v := (-4)) C (by rw [prt, if_pos rfl]; rfl) dX1_partner_128
    · have zc_2 : ¬ N ≤ p + 1 := Nat.not_le.mpr c_2
      refine lv_iload_n hx hb dX1_partner_17 rfl (lv_at hl 2 rfl) ?_
      refine n_if_le (x := 0) (tgt := 126) hx hb (by omega) dX1_partner_18 (by decide) (fun c_3 => ?_) (fun c_3 => absurd c_3 (by omega))
      refine lv_bipush (v := (-4)) hx hb dX1_partner_126 (by decide) ?_
      exact n_iret (v := (-4)) C (by rw [prt, if_pos rfl]; rfl) dX1_partner_128
  · have m1 : mo ≠ 0 := by omega
    refine lv_istore (lv' := [(5, .int (nI (p + 1))), (0, .ref h), (1, .int (nI mo)), (2, .int (nI z9)), (3, .int (nI p)), (4, .int (bI false))]) hx hb dX1_partner_3 hl (Nat.le_of_ble_eq_true rfl) rfl (fun ls hl => ?_)
    suffices hlp_4 : (∀ (n q : Nat), q + n = N → p + 1 ≤ q → (fstq (prS r N mo z9 p false) (N - (p + 1)) (p + 1) = fstq (prS r N mo z9 p false) (N - q) q) → ∀ (ls : Array Slot), lv_has ls 7 [(5, .int (nI q)), (0, .ref h), (1, .int (nI mo)), (2, .int (nI z9)), (3, .int (nI p)), (4, .int (bI false))] → W p0_ l e0_ ({ frames := 10, cells := 0, slots := 0, locals := 289 } : Room) s m args below meth c s.heap [] (0) (0) (MQ below (vp_Si (fun rr9 => rr9 = encL (prt r N mo z9 p false))) args s 0 0 (fun _ => False)) (F0 m 5 ls [])) by
      exact hlp_4 (N - (p + 1)) (p + 1) (by omega) (Nat.le_refl _) (rfl) ls (lv_sub hl [0, 1, 2, 3, 4, 5] rfl)
    have hend_4 : (fstq (prS r N mo z9 p false) (N - (p + 1)) (p + 1) = fstq (prS r N mo z9 p false) (N - N) N) → ∀ (ls : Array Slot), lv_has ls 7 [(5, .int (nI N)), (0, .ref h), (1, .int (nI mo)), (2, .int (nI z9)), (3, .int (nI p)), (4, .int (bI false))] → W p0_ l e0_ ({ frames := 10, cells := 0, slots := 0, locals := 289 } : Room) s m args below meth c s.heap [] (0) (0) (MQ below (vp_Si (fun rr9 => rr9 = encL (prt r N mo z9 p false))) args s 0 0 (fun _ => False)) (F0 m 5 ls []) := by
      intro hpr ls hl
      refine lv_iload hx hb dX1_partner_5 (lv_at hl 0 rfl) ?_
      refine lv_aload_n hx hb dX1_partner_7 rfl (lv_at hl 1 rfl) ?_
      refine va_get (D := gD G) (ci := 1) (v := .ref (xa 0)) (C := RX1) (T := TX1) (N := 9) hx hb hts in_X1 hown hK.1 hP 0 rfl rfl 0 (by decide) (hts _ q838) (fun _ h9 => h9) rfl dX1_partner_8 ?_
      refine va_get (D := gD G) (ci := 2) (v := .int (r 0)) (C := RX2) (T := TX2) (N := 8) hx hb hts in_X2 hown hK.1 hP 1 rfl rfl 5 (by decide) (hts _ q803) (fun _ h9 => h9) rfl dX1_partner_11 ?_
      refine n_eqi (hr) ?_
      refine n_ic_ge (x := N) (y := N) (tgt := 126) hx hb (by omega) (by omega) dX1_partner_14 (by decide) (fun c_5 => ?_) (fun c_5 => absurd c_5 (by omega))
      refine lv_bipush (v := (-4)) hx hb dX1_partner_126 (by decide) ?_
      exact n_iret (v := (-4)) C (by rw [prt, if_neg m1, hpr, Nat.sub_self]; rfl) dX1_partner_128
    intro n
    induction n with
    | zero =>
      intro q hi_4 hs_4 hpr ls hl
      obtain e_4 : q = N := by omega
      first | (subst e_4; exact hend_4 hpr ls hl) | (rw [e_4] at hl; exact hend_4 hpr ls hl)
    | succ n ih_4 =>
      intro q hi_4 hs_4 hpr ls hl
      have j1 := hri.jn (p := p) (q := q) hp (by omega)
      have j2 := hri.jn (p := q) (q := p) (by omega) hp
      have w1 := wo_le z9 p q
      have w2 := wo_le z9 q p
      have v1 := xV_le (m := mo - 1) (s := wo z9 p q) hri hN (by omega)
      have v2 := xV_le (m := mo - 1) (s := wo z9 q p) hri hN (by omega)
      have v3 := xV_le (m := mo) (s := z9) hri hN hz
      refine lv_iload hx hb dX1_partner_5 (lv_at hl 0 rfl) ?_
      refine lv_aload_n hx hb dX1_partner_7 rfl (lv_at hl 1 rfl) ?_
      refine va_get (D := gD G) (ci := 1) (v := .ref (xa 0)) (C := RX1) (T := TX1) (N := 9) hx hb hts in_X1 hown hK.1 hP 0 rfl rfl 0 (by decide) (hts _ q838) (fun _ h9 => h9) rfl dX1_partner_8 ?_
      refine va_get (D := gD G) (ci := 2) (v := .int (r 0)) (C := RX2) (T := TX2) (N := 8) hx hb hts in_X2 hown hK.1 hP 1 rfl rfl 5 (by decide) (hts _ q803) (fun _ h9 => h9) rfl dX1_partner_11 ?_
      refine n_eqi (hr) ?_
      refine n_ic_ge (x := q) (y := N) (tgt := 126) hx hb (by omega) (by omega) dX1_partner_14 (by decide) (fun c_6 => absurd c_6 (by omega)) (fun c_6 => ?_)
      refine lv_iload_n hx hb dX1_partner_17 rfl (lv_at hl 2 rfl) ?_
      refine n_if_le (x := mo) (tgt := 126) hx hb (by omega) dX1_partner_18 (by decide) (fun c_7 => absurd c_7 (by omega)) (fun c_7 => ?_)
      refine lv_iload_n hx hb dX1_partner_21 rfl (lv_at hl 3 rfl) ?_
      refine lv_iload hx hb dX1_partner_22 (lv_at hl 0 rfl) ?_
      refine c_S (rest := []) C (metX1_hasN l G (nI z9) q) 2 (lw_S q596 q597 q39 q598) (by decide +kernel) ⟨rfl, rfl⟩ ⟨(Nat.le_of_ble_eq_true rfl), (Nat.le_of_ble_eq_true rfl)⟩ (KM_mv G) (hP.sub (ws' := []) [] rfl) hK.1 hl rfl rfl (Nat.le_of_ble_eq_true rfl) ⟨(Nat.le_of_ble_eq_true rfl), (Nat.le_of_ble_eq_true rfl)⟩ dX1_partner_24 ?_
      refine n_if_eqB (b := (sBt (nI z9) q)) (tgt := 68) hx hb dX1_partner_27 (by decide) (fun c_8 => ?_) (fun c_8 => ?_)
      · refine lv_iconst (v := 0) hx hb dX1_partner_68 (by decide) ?_
        refine lv_istore (lv' := [(6, .int 0), (5, .int (nI q)), (0, .ref h), (1, .int (nI mo)), (2, .int (nI z9)), (3, .int (nI p)), (4, .int (bI false))]) hx hb dX1_partner_69 hl (Nat.le_of_ble_eq_true rfl) rfl (fun ls hl => ?_)
        refine lv_iload hx hb dX1_partner_71 (lv_at hl 0 rfl) ?_
        refine lv_if_eq (x := 0) (tgt := 120) hx hb dX1_partner_73 (by decide) (fun c_9 => ?_) (fun c_9 => absurd c_9 (by decide))
        refine n_iinc (k := 1) (lv' := [(5, .int (nI (q + 1))), (6, .int 0), (0, .ref h), (1, .int (nI mo)), (2, .int (nI z9)), (3, .int (nI p)), (4, .int (bI false))]) hx hb q 1 dX1_partner_120 hl rfl (Nat.le_of_ble_eq_true rfl) rfl (fun ls hl => ?_)
        refine lv_goto (tgt := 5) hx hb dX1_partner_123 (by decide) ?_
        exact ih_4 (q + 1) (by omega) (by omega) (by rw [hpr, show N - q = (N - (q + 1)) + 1 by omega, fstq, if_neg (by simp [prS, c_6, c_7, c_8, c_9])]) ls (lv_sub hl [0, 2, 3, 4, 5, 6] rfl)
      · refine lv_iload hx hb dX1_partner_30 (lv_at hl 5 rfl) ?_
        refine n_if_eqB (b := false) (tgt := 51) hx hb dX1_partner_32 (by decide) (fun c_10 => ?_) (fun c_10 => absurd c_10 (by decide))
        refine lv_aload_n hx hb dX1_partner_51 rfl (lv_at hl 1 rfl) ?_
        refine va_get (D := gD G) (ci := 1) (v := .ref (xa 0)) (C := RX1) (T := TX1) (N := 9) hx hb hts in_X1 hown hK.1 hP 0 rfl rfl 0 (by decide) (hts _ q838) (fun _ h9 => h9) rfl dX1_partner_52 ?_
        refine lv_iload hx hb dX1_partner_55 (lv_at hl 0 rfl) ?_
        refine lv_iload_n hx hb dX1_partner_57 rfl (lv_at hl 4 rfl) ?_
        refine c_Vk (rest := []) C (metX2_canEatN l G (xa 0) fn gm wh r N q p (by omega) (hr) (hwk) (by omega) (by omega)) 2 (lw_V q367 q368 q369 q40 q370) (by decide +kernel) ⟨rfl, rfl⟩ ⟨(Nat.le_of_ble_eq_true rfl), (Nat.le_of_ble_eq_true rfl)⟩ (KG.call) (va_recv hK.1 hP (ci := 2) (q0 := 1) rfl rfl) (hP.sub (ws' := [(xa 0, fO fn r), (fn 0, qA G 3 9 wh), (fn 1, iA G 9 (fA r 2)), (fn 2, iA G 9 (fA r 3)), (fn 3, iA G 9 (fA r 4)), (fn 4, iA G 9 (fA r 5))]) [1, 2, 3, 4, 5, 6] rfl) (KG.at hK hGP) hl rfl rfl (Nat.le_of_ble_eq_true rfl) ⟨(Nat.le_of_ble_eq_true rfl), (Nat.le_of_ble_eq_true rfl)⟩ dX1_partner_58 ?_
        refine n_if_eqB (b := (sEat r q p)) (tgt := 68) hx hb dX1_partner_61 (by decide) (fun c_11 => ?_) (fun c_11 => ?_)
        · refine lv_iconst (v := 0) hx hb dX1_partner_68 (by decide) ?_
          refine lv_istore (lv' := [(6, .int 0), (5, .int (nI q)), (0, .ref h), (1, .int (nI mo)), (2, .int (nI z9)), (3, .int (nI p)), (4, .int (bI false))]) hx hb dX1_partner_69 hl (Nat.le_of_ble_eq_true rfl) rfl (fun ls hl => ?_)
          refine lv_iload hx hb dX1_partner_71 (lv_at hl 0 rfl) ?_
          refine lv_if_eq (x := 0) (tgt := 120) hx hb dX1_partner_73 (by decide) (fun c_12 => ?_) (fun c_12 => absurd c_12 (by decide))
          refine n_iinc (k := 1) (lv' := [(5, .int (nI (q + 1))), (6, .int 0), (0, .ref h), (1, .int (nI mo)), (2, .int (nI z9)), (3, .int (nI p)), (4, .int (bI false))]) hx hb q 1 dX1_partner_120 hl rfl (Nat.le_of_ble_eq_true rfl) rfl (fun ls hl => ?_)
          refine lv_goto (tgt := 5) hx hb dX1_partner_123 (by decide) ?_
          exact ih_4 (q + 1) (by omega) (by omega) (by rw [hpr, show N - q = (N - (q + 1)) + 1 by omega, fstq, if_neg (by simp [prS, c_6, c_7, c_8, c_10, c_11, c_12])]) ls (lv_sub hl [0, 2, 3, 4, 5, 6] rfl)
        · refine lv_iconst (v := 1) hx hb dX1_partner_64 (by decide) ?_
          refine lv_goto (tgt := 69) hx hb dX1_partner_65 (by decide) ?_
          refine lv_istore (lv' := [(6, .int 1), (5, .int (nI q)), (0, .ref h), (1, .int (nI mo)), (2, .int (nI z9)), (3, .int (nI p)), (4, .int (bI false))]) hx hb dX1_partner_69 hl (Nat.le_of_ble_eq_true rfl) rfl (fun ls hl => ?_)
          refine lv_iload hx hb dX1_partner_71 (lv_at hl 0 rfl) ?_
          refine lv_if_eq (x := 1) (tgt := 120) hx hb dX1_partner_73 (by decide) (fun c_13 => absurd c_13 (by decide)) (fun c_13 => ?_)
          refine lv_iload hx hb dX1_partner_76 (lv_at hl 6 rfl) ?_
          refine n_if_eqB (b := false) (tgt := 93) hx hb dX1_partner_78 (by decide) (fun c_14 => ?_) (fun c_14 => absurd c_14 (by decide))
          refine lv_aload_n hx hb dX1_partner_93 rfl (lv_at hl 2 rfl) ?_
          refine lv_iload_n hx hb dX1_partner_94 rfl (lv_at hl 3 rfl) ?_
          refine lv_iload_n hx hb dX1_partner_95 rfl (lv_at hl 4 rfl) ?_
          refine lv_iload hx hb dX1_partner_96 (lv_at hl 1 rfl) ?_
          refine lv_iload_n hx hb dX1_partner_98 rfl (lv_at hl 5 rfl) ?_
          refine c_Vk (rest := []) C (metX1_pairValue l G h xa xi fn gm wh r N vv mo z9 q p (tn (sJoy r q p)) (xV r N (mo - 1) (wo z9 q p)) (by omega) (hr) (hwk) (by omega) (by omega) (by omega) (by omega) (j2.1) (hV (mo - 1) _ (by omega) (Nat.lt_of_le_of_lt (wo_le _ _ _) (by omega)))) 4 (lw_V q599 q601 qs12 q39 q602) (by decide +kernel) ⟨rfl, rfl⟩ ⟨(Nat.le_of_ble_eq_true rfl), (Nat.le_of_ble_eq_true rfl)⟩ (KG.call) (va_recv hK.1 hP (ci := 1) (q0 := 0) rfl rfl) hP (KG.at hK hGP) hl rfl rfl (Nat.le_of_ble_eq_true rfl) ⟨(Nat.le_of_ble_eq_true rfl), (Nat.le_of_ble_eq_true rfl)⟩ dX1_partner_99 ?_
          refine lv_aload_n hx hb dX1_partner_102 rfl (lv_at hl 2 rfl) ?_
          refine va_get (D := gD G) (ci := 1) (v := .ref (xa 5)) (C := RX1) (T := TX1) (N := 9) hx hb hts in_X1 hown hK.1 hP 0 rfl rfl 5 (by decide) (hts _ q843) (fun _ h9 => h9) rfl dX1_partner_103 ?_
          refine lv_sipush (v := 256) hx hb dX1_partner_106 (by decide) ?_
          refine lv_iload_n hx hb dX1_partner_109 rfl (lv_at hl 3 rfl) ?_
          refine n_imul hx hb 256 mo dX1_partner_110 ?_
          refine lv_iload_n hx hb dX1_partner_111 rfl (lv_at hl 4 rfl) ?_
          refine n_iadd hx hb (256 * mo) z9 dX1_partner_112 ?_
          refine n_iald C hK.1 hP 7 ((256 * mo) + z9) rfl (by omega) (by omega) dX1_partner_113 ?_
          refine n_eqi (hV mo z9 hm hz) ?_
          refine n_ic_ne (x := (tn (sJoy r q p)) + (xV r N (mo - 1) (wo z9 q p))) (y := xV r N mo z9) (tgt := 120) hx hb (by omega) (by omega) dX1_partner_114 (by decide) (fun c_15 => ?_) (fun c_15 => ?_)
          · have zc_15 : ¬ nI ((tn (sJoy r q p)) + (xV r N (mo - 1) (wo z9 q p))) = nI (xV r N mo z9) := fun q => c_15 ((nI_eq (by omega) (by omega)).mp q)
            refine n_iinc (k := 1) (lv' := [(5, .int (nI (q + 1))), (6, .int 1), (0, .ref h), (1, .int (nI mo)), (2, .int (nI z9)), (3, .int (nI p)), (4, .int (bI false))]) hx hb q 1 dX1_partner_120 hl rfl (Nat.le_of_ble_eq_true rfl) rfl (fun ls hl => ?_)
            refine lv_goto (tgt := 5) hx hb dX1_partner_123 (by decide) ?_
            exact ih_4 (q + 1) (by omega) (by omega) (by rw [hpr, show N - q = (N - (q + 1)) + 1 by omega, fstq, if_neg (by simp [prS, c_6, c_7, c_8, c_10, c_11, c_13, c_14, c_15])]) ls (lv_sub hl [0, 2, 3, 4, 5, 6] rfl)
          · have zc_15 : nI ((tn (sJoy r q p)) + (xV r N (mo - 1) (wo z9 q p))) = nI (xV r N mo z9) := congrArg nI c_15
            refine lv_iload hx hb dX1_partner_117 (lv_at hl 1 rfl) ?_
            exact n_iret (v := nI q) C (by rw [prt, if_neg m1, hpr, show N - q = (N - (q + 1)) + 1 by omega, fstq, if_pos (by simp [prS, c_6, c_7, c_8, c_10, c_11, c_13, c_14, c_15])]; rfl) dX1_partner_119

set_option maxHeartbeats 4000000 in
set_option maxRecDepth 100000 in
theorem metX1_pairs (l : Launch) (G : GG) (h : Nat) (xa : Nat → Nat) (xi : Nat → Int32) (fn : Nat → Nat) (gm : GM) (wh : Nat → Option Nat) (r : Nat → Int32) (N : Nat) (vv by0 : Nat → Int32) (sl : Nat) (i : Int32) (hN : N ≤ 8) (hr : r 0 = nI N) (hwk : WK gm wh r N) (hri : RI r N) (hsl : r 1 = nI sl) (hsl2 : sl ≤ 99) (hng : NG gm [(h, xO xa xi), (xa 0, fO fn r), (fn 0, qA G 3 9 wh), (fn 1, iA G 9 (fA r 2)), (fn 2, iA G 9 (fA r 3)), (fn 3, iA G 9 (fA r 4)), (fn 4, iA G 9 (fA r 5)), (xa 5, iA G 1280 vv), (xa 6, iA G 8 by0)]) : MW l yX1_pairs cX1_pairs 9 (some .int) ({ frames := 11, cells := 0, slots := 0, locals := 315 }) [.ref h, .int i] [(h, xO xa xi), (xa 0, fO fn r), (fn 0, qA G 3 9 wh), (fn 1, iA G 9 (fA r 2)), (fn 2, iA G 9 (fA r 3)), (fn 3, iA G 9 (fA r 4)), (fn 4, iA G 9 (fA r 5)), (xa 5, iA G 1280 vv), (xa 6, iA G 8 by0)] G (KG G gm) 0 0 (fun rv w1 => rv = sPairsX2 r N sl i ∧ ∃ (g1 g2 : Nat → Int32), w1 = [(h, xO xa xi), (xa 0, fO fn r), (fn 0, qA G 3 9 wh), (fn 1, iA G 9 (fA r 2)), (fn 2, iA G 9 (fA r 3)), (fn 3, iA G 9 (fA r 4)), (fn 4, iA G 9 (fA r 5)), (xa 5, iA G 1280 g1), (xa 6, iA G 8 g2)]) := by
  -- rows printed by wip/tools/gen.py
  refine mw_mkg RX1 (by decide) rfl (Nat.le_of_ble_eq_true rfl) ?_
  intro p0_ e0_ s m args below meth c A C hA hAx hP hK hD ls hl
  have hGP := hK.2
  have hK := hK.1
  have hGA := GA.of hng hGP hAx
  have hx := C.1
  have hb := C.2.1
  have hml := C.2.2.2.2.1
  have hown := C.2.2.2.2.2.1
  have hts := C.2.2.2.2.2.2
  have hS : va_S A s.heap s.heap [] := va_S.rf
  have hl : lv_has ls 9 [(0, .ref h), (1, .int i)] := hl
  have h28 := p28 hN
  refine lv_iload_n hx hb dX1_pairs_0 rfl (lv_at hl 1 rfl) ?_
  refine lv_iconst (v := (-1)) hx hb dX1_pairs_1 (by decide) ?_
  refine lv_icmp_lt (x := i) (y := (-1)) (tgt := 16) hx hb dX1_pairs_2 (by decide) (fun c_1 => ?_) (fun c_1 => ?_)
  · have zc_1 : ¬ (-1) ≤ i := Int32.not_le.mpr c_1
    have k_2 := shr_lt (N := N) c_1
    refine lv_iconst (v := (-1)) hx hb dX1_pairs_16 (by decide) ?_
    exact n_iretW (v := (-1)) (w1 := [(h, xO xa xi), (xa 0, fO fn r), (fn 0, qA G 3 9 wh), (fn 1, iA G 9 (fA r 2)), (fn 2, iA G 9 (fA r 3)), (fn 3, iA G 9 (fA r 4)), (fn 4, iA G 9 (fA r 5)), (xa 5, iA G 1280 vv), (xa 6, iA G 8 by0)]) C (⟨by first | (simp [sPairsX2, c_1, zc_1, k_2]; done) | (simp [sPairsX2, hg, c_1, zc_1, k_2]; done), _, _, rfl⟩) hP hD hS (by first | omega | decide) (by first | omega | decide) dX1_pairs_17
  · have zc_1 : (-1) ≤ i := Int32.not_lt.mp c_1
    refine lv_iload_n hx hb dX1_pairs_5 rfl (lv_at hl 1 rfl) ?_
    refine lv_aload_n hx hb dX1_pairs_6 rfl (lv_at hl 0 rfl) ?_
    refine va_get (D := gD G) (ci := 1) (v := .ref (xa 0)) (C := RX1) (T := TX1) (N := 9) hx hb hts in_X1 hown hK.1 hP 0 rfl rfl 0 (by decide) (hts _ q838) (fun _ h9 => h9) rfl dX1_pairs_7 ?_
    refine va_get (D := gD G) (ci := 2) (v := .int (r 0)) (C := RX2) (T := TX2) (N := 8) hx hb hts in_X2 hown hK.1 hP 1 rfl rfl 5 (by decide) (hts _ q803) (fun _ h9 => h9) rfl dX1_pairs_10 ?_
    refine n_eqi (hr) ?_
    refine lv_icmp_lt (x := i) (y := nI N) (tgt := 18) hx hb dX1_pairs_13 (by decide) (fun c_3 => ?_) (fun c_3 => ?_)
    · have zc_3 : ¬ (nI N) ≤ i := Int32.not_le.mpr c_3
      refine lv_aload_n hx hb dX1_pairs_18 rfl (lv_at hl 0 rfl) ?_
      refine c_VWvk (wr := [(xa 6, iA G 8 by0)]) (rest := []) C (metX1_findPairs l G h xa xi fn gm wh r N vv (by omega) (hr) (hwk) (hri) (NG.of hGA hD [0, 1, 2, 3, 4, 5, 6, 7] rfl)) 0 (lw_V q588 q590 qs11 q39 q591) (by decide +kernel) ⟨rfl, rfl⟩ ⟨(Nat.le_of_ble_eq_true rfl), (Nat.le_of_ble_eq_true rfl)⟩ (KG.call) (KG.at hK (hGP.kept hGA hS)) (va_recv hK.1 hP (ci := 1) (q0 := 0) rfl rfl) hA hP hD hS [0, 1, 2, 3, 4, 5, 6, 7] [8] rfl rfl rfl rfl (by decide) hl rfl rfl (Nat.le_of_ble_eq_true rfl) ⟨(Nat.le_of_ble_eq_true rfl), (Nat.le_of_ble_eq_true rfl)⟩ dX1_pairs_19 (fun w1 H locs hq_5 hP hD hS => ?_)
      obtain ⟨gv, hgv, rfl⟩ := hq_5
      have hP : PP G [(xa 6, iA G 8 by0), (h, xO xa xi), (xa 0, fO fn r), (fn 0, qA G 3 9 wh), (fn 1, iA G 9 (fA r 2)), (fn 2, iA G 9 (fA r 3)), (fn 3, iA G 9 (fA r 4)), (fn 4, iA G 9 (fA r 5)), (xa 5, iA G 1280 gv)] H := hP
      have hD : va_D A [(xa 6, iA G 8 by0), (h, xO xa xi), (xa 0, fO fn r), (fn 0, qA G 3 9 wh), (fn 1, iA G 9 (fA r 2)), (fn 2, iA G 9 (fA r 3)), (fn 3, iA G 9 (fA r 4)), (fn 4, iA G 9 (fA r 5)), (xa 5, iA G 1280 gv)] := hD
      refine lv_iconst (v := 4) hx hb dX1_pairs_22 (by decide) ?_
      refine lv_aload_n hx hb dX1_pairs_23 rfl (lv_at hl 0 rfl) ?_
      refine va_get (D := gD G) (ci := 1) (v := .ref (xa 0)) (C := RX1) (T := TX1) (N := 9) hx hb hts in_X1 hown hK.1 hP 1 rfl rfl 0 (by decide) (hts _ q838) (fun _ h9 => h9) rfl dX1_pairs_24 ?_
      refine va_get (D := gD G) (ci := 2) (v := .int (r 1)) (C := RX2) (T := TX2) (N := 8) hx hb hts in_X2 hown hK.1 hP 2 rfl rfl 6 (by decide) (hts _ q805) (fun _ h9 => h9) rfl dX1_pairs_27 ?_
      refine n_eqi (hsl) ?_
      refine n_mmin (x := 4) (y := nI sl) C q606 q441 q60 q442 hl ⟨(Nat.le_of_ble_eq_true rfl), (Nat.le_of_ble_eq_true rfl)⟩ (Nat.le_of_ble_eq_true rfl) ⟨(Nat.le_of_ble_eq_true rfl), (Nat.le_of_ble_eq_true rfl)⟩ dX1_pairs_30 ?_
      refine n_eqi (mn_n (a := 4) (b := sl) (by omega) (by omega)) ?_
      refine lv_istore_n (lv' := [(2, .int (nI (min 4 sl))), (0, .ref h), (1, .int i)]) hx hb dX1_pairs_33 rfl hl (Nat.le_of_ble_eq_true rfl) rfl (fun ls hl => ?_)
      refine lv_iconst (v := 1) hx hb dX1_pairs_34 (by decide) ?_
      refine lv_aload_n hx hb dX1_pairs_35 rfl (lv_at hl 1 rfl) ?_
      refine va_get (D := gD G) (ci := 1) (v := .ref (xa 0)) (C := RX1) (T := TX1) (N := 9) hx hb hts in_X1 hown hK.1 hP 1 rfl rfl 0 (by decide) (hts _ q838) (fun _ h9 => h9) rfl dX1_pairs_36 ?_
      refine va_get (D := gD G) (ci := 2) (v := .int (r 0)) (C := RX2) (T := TX2) (N := 8) hx hb hts in_X2 hown hK.1 hP 2 rfl rfl 5 (by decide) (hts _ q803) (fun _ h9 => h9) rfl dX1_pairs_39 ?_
      refine n_eqi (hr) ?_
      refine lv_ishl (x := 1) (y := nI N) hx hb dX1_pairs_42 ?_
      refine n_eqi (shl1 N (by omega)) ?_
      refine lv_iconst (v := 1) hx hb dX1_pairs_43 (by decide) ?_
      refine n_isub hx hb (2 ^ N) 1 (by omega) dX1_pairs_44 ?_
      refine lv_istore_n (lv' := [(3, .int (nI ((2 ^ N) - 1))), (2, .int (nI (min 4 sl))), (0, .ref h), (1, .int i)]) hx hb dX1_pairs_45 rfl hl (Nat.le_of_ble_eq_true rfl) rfl (fun ls hl => ?_)
      refine lv_aload_n hx hb dX1_pairs_46 rfl (lv_at hl 2 rfl) ?_
      refine va_get (D := gD G) (ci := 1) (v := .ref (xa 5)) (C := RX1) (T := TX1) (N := 9) hx hb hts in_X1 hown hK.1 hP 1 rfl rfl 5 (by decide) (hts _ q843) (fun _ h9 => h9) rfl dX1_pairs_47 ?_
      refine lv_sipush (v := 256) hx hb dX1_pairs_50 (by decide) ?_
      refine lv_iload_n hx hb dX1_pairs_53 rfl (lv_at hl 1 rfl) ?_
      refine n_imul hx hb 256 (min 4 sl) dX1_pairs_54 ?_
      refine lv_iload_n hx hb dX1_pairs_55 rfl (lv_at hl 0 rfl) ?_
      refine n_iadd hx hb (256 * (min 4 sl)) ((2 ^ N) - 1) dX1_pairs_56 ?_
      refine n_iald C hK.1 hP 8 ((256 * (min 4 sl)) + ((2 ^ N) - 1)) rfl (by omega) (by omega) dX1_pairs_57 ?_
      refine n_eqi (hgv _ _ (by omega) (by omega)) ?_
      refine lv_istore (lv' := [(4, .int (nI (xV r N (min 4 sl) (2 ^ N - 1)))), (3, .int (nI ((2 ^ N) - 1))), (2, .int (nI (min 4 sl))), (0, .ref h), (1, .int i)]) hx hb dX1_pairs_58 hl (Nat.le_of_ble_eq_true rfl) rfl (fun ls hl => ?_)
      refine lv_aload_n hx hb dX1_pairs_60 rfl (lv_at hl 3 rfl) ?_
      refine va_get (D := gD G) (ci := 1) (v := .ref (xa 6)) (C := RX1) (T := TX1) (N := 9) hx hb hts in_X1 hown hK.1 hP 1 rfl rfl 6 (by decide) (hts _ q844) (fun _ h9 => h9) rfl dX1_pairs_61 ?_
      refine lv_bipush (v := 9) hx hb dX1_pairs_64 (by decide) ?_
      refine c_SWv (wr := [(h, xO xa xi), (xa 0, fO fn r), (fn 0, qA G 3 9 wh), (fn 1, iA G 9 (fA r 2)), (fn 2, iA G 9 (fA r 3)), (fn 3, iA G 9 (fA r 4)), (fn 4, iA G 9 (fA r 5)), (xa 5, iA G 1280 gv)]) (rest := []) C (metJ7_fill l G (xa 6) by0 9) 2 (lw_S q607 q608 q62 q609) (by decide +kernel) ⟨rfl, rfl⟩ ⟨(Nat.le_of_ble_eq_true rfl), (Nat.le_of_ble_eq_true rfl)⟩ (KM_mv G) hK.1 hA hP hD hS [0] [1, 2, 3, 4, 5, 6, 7, 8] rfl rfl rfl rfl (by decide) hl rfl rfl (Nat.le_of_ble_eq_true rfl) ⟨(Nat.le_of_ble_eq_true rfl), (Nat.le_of_ble_eq_true rfl)⟩ dX1_pairs_66 (fun w1 H locs hq_7 hP hD hS => ?_)
      obtain rfl := hq_7
      have hP : PP G [(h, xO xa xi), (xa 0, fO fn r), (fn 0, qA G 3 9 wh), (fn 1, iA G 9 (fA r 2)), (fn 2, iA G 9 (fA r 3)), (fn 3, iA G 9 (fA r 4)), (fn 4, iA G 9 (fA r 5)), (xa 5, iA G 1280 gv), (xa 6, iA G 8 (fun _ => 9))] H := hP
      have hD : va_D A [(h, xO xa xi), (xa 0, fO fn r), (fn 0, qA G 3 9 wh), (fn 1, iA G 9 (fA r 2)), (fn 2, iA G 9 (fA r 3)), (fn 3, iA G 9 (fA r 4)), (fn 4, iA G 9 (fA r 5)), (xa 5, iA G 1280 gv), (xa 6, iA G 8 (fun _ => 9))] := hD
      suffices hlp_8 : ∀ (n : Nat) (f9 : Nat) (mo : Nat) (se : Nat) (b9 : Nat → Int32), se < n → ∀ (H : Heap) (locs : List Loc), PP G [(h, xO xa xi), (xa 0, fO fn r), (fn 0, qA G 3 9 wh), (fn 1, iA G 9 (fA r 2)), (fn 2, iA G 9 (fA r 3)), (fn 3, iA G 9 (fA r 4)), (fn 4, iA G 9 (fA r 5)), (xa 5, iA G 1280 gv), (xa 6, iA G 8 b9)] H → va_D A [(h, xO xa xi), (xa 0, fO fn r), (fn 0, qA G 3 9 wh), (fn 1, iA G 9 (fA r 2)), (fn 2, iA G 9 (fA r 3)), (fn 3, iA G 9 (fA r 4)), (fn 4, iA G 9 (fA r 5)), (xa 5, iA G 1280 gv), (xa 6, iA G 8 b9)] → va_S A s.heap H locs → (se < 2 ^ N) → (mo ≤ 4) → (se ≤ f9) → (pB r N (2 ^ N - 1) (min 4 sl) (2 ^ N - 1) (fun _ => 9) = pB r N f9 mo se b9) → ∀ (ls : Array Slot), lv_has ls 9 [(4, .int (nI (xV r N (min 4 sl) (2 ^ N - 1)))), (3, .int (nI se)), (2, .int (nI mo)), (0, .ref h), (1, .int i)] → W p0_ l e0_ ({ frames := 11, cells := 0, slots := 0, locals := 315 } : Room) s m args below meth c H locs (0) (0) (MQ below (va_Qi (S := va_W) (fun rv w1 => rv = sPairsX2 r N sl i ∧ ∃ (g1 g2 : Nat → Int32), w1 = [(h, xO xa xi), (xa 0, fO fn r), (fn 0, qA G 3 9 wh), (fn 1, iA G 9 (fA r 2)), (fn 2, iA G 9 (fA r 3)), (fn 3, iA G 9 (fA r 4)), (fn 4, iA G 9 (fA r 5)), (xa 5, iA G 1280 g1), (xa 6, iA G 8 g2)]) (fun w1 t => PP G w1 t.heap ∧ va_D A w1) A) args s 0 0 A) (F0 m 69 ls []) by
        exact hlp_8 ((2 ^ N - 1) + 1) (2 ^ N - 1) (min 4 sl) (2 ^ N - 1) (fun _ => 9) (Nat.lt_succ_self _) _ _ (hP.sub [0, 1, 2, 3, 4, 5, 6, 7, 8] rfl) (hD.sub [0, 1, 2, 3, 4, 5, 6, 7, 8] (by decide) rfl) hS (by omega) (by omega) (by omega) (rfl) ls (lv_sub hl [0, 1, 2, 3, 4] rfl)
      intro n
      induction n with
      | zero => intro f9 mo se b9 hmu_8 H locs hP hD hS hse hmo hf9 hg ls hl; exact absurd hmu_8 (Nat.not_lt_zero _)
      | succ n ih_8 =>
        intro f9 mo se b9 hmu_8 H locs hP hD hS hse hmo hf9 hg ls hl
        have hx9 := hf9
        refine lv_iload_n hx hb dX1_pairs_69 rfl (lv_at hl 1 rfl) ?_
        refine n_if_eq (x := se) (tgt := 186) hx hb (by omega) dX1_pairs_70 (by decide) (fun c_9 => ?_) (fun c_9 => ?_)
        · obtain rfl := c_9
          have zc_9 : (nI 0 = 0) = True := eq_true rfl
          refine lv_iload_n hx hb dX1_pairs_186 rfl (lv_at hl 4 rfl) ?_
          refine lv_if_ge (x := i) (tgt := 195) hx hb dX1_pairs_187 (by decide) (fun c_10 => ?_) (fun c_10 => ?_)
          · have zc_10 : ¬ i < 0 := Int32.not_lt.mpr c_10
            obtain ⟨p_11, hp_11, rfl⟩ := shr_in (N := N) (by omega) (Int32.not_lt.mpr c_10) c_3
            have tp_11 : tn (nI p_11) = p_11 := nI_clamp (by omega)
            have up_11 := sPer_i (N := N) (by omega) hp_11
            have vp_11 : ¬ (nI p_11 = -1) := fun e9 => absurd (show nI p_11 < 0 by rw [e9]; decide) (nI_pos (by omega))
            rw [pB_0] at hg
            refine lv_aload_n hx hb dX1_pairs_195 rfl (lv_at hl 3 rfl) ?_
            refine va_get (D := gD G) (ci := 1) (v := .ref (xa 6)) (C := RX1) (T := TX1) (N := 9) hx hb hts in_X1 hown hK.1 hP 0 rfl rfl 6 (by decide) (hts _ q844) (fun _ h9 => h9) rfl dX1_pairs_196 ?_
            refine lv_iload_n hx hb dX1_pairs_199 rfl (lv_at hl 4 rfl) ?_
            refine n_iald C hK.1 hP 8 p_11 rfl (by omega) (by omega) dX1_pairs_200 ?_
            exact n_iretW (v := b9 p_11) (w1 := [(h, xO xa xi), (xa 0, fO fn r), (fn 0, qA G 3 9 wh), (fn 1, iA G 9 (fA r 2)), (fn 2, iA G 9 (fA r 3)), (fn 3, iA G 9 (fA r 4)), (fn 4, iA G 9 (fA r 5)), (xa 5, iA G 1280 gv), (xa 6, iA G 8 b9)]) C (⟨by first | (simp [sPairsX2, tp_11, up_11, vp_11]; done) | (simp [sPairsX2, hg, tp_11, up_11, vp_11]; done), _, _, rfl⟩) hP hD hS (by first | omega | decide) (by first | omega | decide) dX1_pairs_201
          · have zc_10 : i < 0 := Int32.not_le.mp c_10
            obtain rfl := shr_m1 c_1 zc_10
            refine lv_iload hx hb dX1_pairs_190 (lv_at hl 0 rfl) ?_
            refine lv_goto (tgt := 201) hx hb dX1_pairs_192 (by decide) ?_
            exact n_iretW (v := nI (xV r N (min 4 sl) (2 ^ N - 1))) (w1 := [(h, xO xa xi), (xa 0, fO fn r), (fn 0, qA G 3 9 wh), (fn 1, iA G 9 (fA r 2)), (fn 2, iA G 9 (fA r 3)), (fn 3, iA G 9 (fA r 4)), (fn 4, iA G 9 (fA r 5)), (xa 5, iA G 1280 gv), (xa 6, iA G 8 b9)]) C (⟨by first | (simp [sPairsX2, hN]; done) | (simp [sPairsX2, hg, hN]; done), _, _, rfl⟩) hP hD hS (by first | omega | decide) (by first | omega | decide) dX1_pairs_201
        · have zc_9 : ¬ nI se = 0 := nI_ne0 c_9 (by omega)
          have yc_9 : ¬ se = 0 := Nat.ne_of_gt c_9
          have h0 : se ≠ 0 := by omega
          have e9 : f9 = (f9 - 1) + 1 := by omega
          have hs8 : se < 256 := by omega
          have hz8 := ntz_lt (N := N) hse hN h0
          have hr8 := rmv_lt hs8 h0
          refine lv_iload_n hx hb dX1_pairs_73 rfl (lv_at hl 1 rfl) ?_
          refine c_S (rest := []) C (metJ6_numberOfTrailingZeros l G se (by omega)) 1 (lw_S q592 q593 q61 q594) (by decide +kernel) ⟨rfl, rfl⟩ ⟨(Nat.le_of_ble_eq_true rfl), (Nat.le_of_ble_eq_true rfl)⟩ (KM_mv G) (hP.sub (ws' := []) [] rfl) hK.1 hl rfl rfl (Nat.le_of_ble_eq_true rfl) ⟨(Nat.le_of_ble_eq_true rfl), (Nat.le_of_ble_eq_true rfl)⟩ dX1_pairs_74 ?_
          refine n_eqi (congrArg nI (tzX_s h0)) ?_
          refine lv_istore (lv' := [(5, .int (nI (ntz se))), (4, .int (nI (xV r N (min 4 sl) (2 ^ N - 1)))), (3, .int (nI se)), (2, .int (nI mo)), (0, .ref h), (1, .int i)]) hx hb dX1_pairs_77 hl (Nat.le_of_ble_eq_true rfl) rfl (fun ls hl => ?_)
          refine lv_aload_n hx hb dX1_pairs_79 rfl (lv_at hl 4 rfl) ?_
          refine lv_iload_n hx hb dX1_pairs_80 rfl (lv_at hl 3 rfl) ?_
          refine lv_iload_n hx hb dX1_pairs_81 rfl (lv_at hl 2 rfl) ?_
          refine lv_iload hx hb dX1_pairs_82 (lv_at hl 0 rfl) ?_
          refine lv_iconst (v := 1) hx hb dX1_pairs_84 (by decide) ?_
          refine c_Vk (rest := []) C (metX1_partner_true l G h xa xi fn gm wh r N gv mo se (ntz se) (by omega) (hr) (hwk) (hri) (by omega) (by omega) (by omega) (hgv)) 4 (lw_V q610 q612 qs13 q39 q613) (by decide +kernel) ⟨rfl, rfl⟩ ⟨(Nat.le_of_ble_eq_true rfl), (Nat.le_of_ble_eq_true rfl)⟩ (KG.call) (va_recv hK.1 hP (ci := 1) (q0 := 0) rfl rfl) (hP.sub (ws' := [(h, xO xa xi), (xa 0, fO fn r), (fn 0, qA G 3 9 wh), (fn 1, iA G 9 (fA r 2)), (fn 2, iA G 9 (fA r 3)), (fn 3, iA G 9 (fA r 4)), (fn 4, iA G 9 (fA r 5)), (xa 5, iA G 1280 gv)]) [0, 1, 2, 3, 4, 5, 6, 7] rfl) (KG.at hK (hGP.kept hGA hS)) hl rfl rfl (Nat.le_of_ble_eq_true rfl) ⟨(Nat.le_of_ble_eq_true rfl), (Nat.le_of_ble_eq_true rfl)⟩ dX1_pairs_85 ?_
          refine lv_istore (lv' := [(6, .int (encL (prt r N mo se (ntz se) true))), (5, .int (nI (ntz se))), (4, .int (nI (xV r N (min 4 sl) (2 ^ N - 1)))), (3, .int (nI se)), (2, .int (nI mo)), (0, .ref h), (1, .int i)]) hx hb dX1_pairs_88 hl (Nat.le_of_ble_eq_true rfl) rfl (fun ls hl => ?_)
          rcases ho_12 : prt r N mo se (ntz se) true with _ | bo_12
          · rw [ho_12] at hl
            have hl : lv_has ls 9 [(6, .int (-4)), (5, .int (nI (ntz se))), (4, .int (nI (xV r N (min 4 sl) (2 ^ N - 1)))), (3, .int (nI se)), (2, .int (nI mo)), (0, .ref h), (1, .int i)] := hl
            refine lv_iload hx hb dX1_pairs_90 (lv_at hl 0 rfl) ?_
            refine lv_if_ge (x := (-4)) (tgt := 107) hx hb dX1_pairs_92 (by decide) (fun c_13 => absurd c_13 (by decide)) (fun c_13 => ?_)
            refine lv_aload_n hx hb dX1_pairs_95 rfl (lv_at hl 5 rfl) ?_
            refine lv_iload_n hx hb dX1_pairs_96 rfl (lv_at hl 4 rfl) ?_
            refine lv_iload_n hx hb dX1_pairs_97 rfl (lv_at hl 3 rfl) ?_
            refine lv_iload hx hb dX1_pairs_98 (lv_at hl 1 rfl) ?_
            refine lv_iconst (v := 0) hx hb dX1_pairs_100 (by decide) ?_
            refine c_Vk (rest := []) C (metX1_partner_false l G h xa xi fn gm wh r N gv mo se (ntz se) (by omega) (hr) (hwk) (hri) (by omega) (by omega) (by omega) (hgv)) 4 (lw_V q610 q612 qs13 q39 q613) (by decide +kernel) ⟨rfl, rfl⟩ ⟨(Nat.le_of_ble_eq_true rfl), (Nat.le_of_ble_eq_true rfl)⟩ (KG.call) (va_recv hK.1 hP (ci := 1) (q0 := 0) rfl rfl) (hP.sub (ws' := [(h, xO xa xi), (xa 0, fO fn r), (fn 0, qA G 3 9 wh), (fn 1, iA G 9 (fA r 2)), (fn 2, iA G 9 (fA r 3)), (fn 3, iA G 9 (fA r 4)), (fn 4, iA G 9 (fA r 5)), (xa 5, iA G 1280 gv)]) [0, 1, 2, 3, 4, 5, 6, 7] rfl) (KG.at hK (hGP.kept hGA hS)) hl rfl rfl (Nat.le_of_ble_eq_true rfl) ⟨(Nat.le_of_ble_eq_true rfl), (Nat.le_of_ble_eq_true rfl)⟩ dX1_pairs_101 ?_
            refine lv_goto (tgt := 109) hx hb dX1_pairs_104 (by decide) ?_
            refine lv_istore (lv' := [(7, .int (encL (prt r N mo se (ntz se) false))), (6, .int (-4)), (5, .int (nI (ntz se))), (4, .int (nI (xV r N (min 4 sl) (2 ^ N - 1)))), (3, .int (nI se)), (2, .int (nI mo)), (0, .ref h), (1, .int i)]) hx hb dX1_pairs_109 hl (Nat.le_of_ble_eq_true rfl) rfl (fun ls hl => ?_)
            rcases ho_14 : prt r N mo se (ntz se) false with _ | bo_14
            · rw [ho_14] at hl
              have hl : lv_has ls 9 [(7, .int (-4)), (6, .int (-4)), (5, .int (nI (ntz se))), (4, .int (nI (xV r N (min 4 sl) (2 ^ N - 1)))), (3, .int (nI se)), (2, .int (nI mo)), (0, .ref h), (1, .int i)] := hl
              refine lv_iload hx hb dX1_pairs_111 (lv_at hl 1 rfl) ?_
              refine lv_if_lt (x := (-4)) (tgt := 125) hx hb dX1_pairs_113 (by decide) (fun c_15 => ?_) (fun c_15 => absurd c_15 (by decide))
              refine lv_iload hx hb dX1_pairs_125 (lv_at hl 0 rfl) ?_
              refine lv_if_lt (x := (-4)) (tgt := 139) hx hb dX1_pairs_127 (by decide) (fun c_16 => ?_) (fun c_16 => absurd c_16 (by decide))
              refine lv_iload hx hb dX1_pairs_139 (lv_at hl 1 rfl) ?_
              refine lv_iload hx hb dX1_pairs_141 (lv_at hl 0 rfl) ?_
              refine n_mmax (x := (-4)) (y := (-4)) C q583 q463 q60 q464 hl ⟨(Nat.le_of_ble_eq_true rfl), (Nat.le_of_ble_eq_true rfl)⟩ (Nat.le_of_ble_eq_true rfl) ⟨(Nat.le_of_ble_eq_true rfl), (Nat.le_of_ble_eq_true rfl)⟩ dX1_pairs_143 ?_
              refine n_eqi (y := (-4)) (by decide) ?_
              refine lv_istore (lv' := [(8, .int (-4)), (7, .int (-4)), (6, .int (-4)), (5, .int (nI (ntz se))), (4, .int (nI (xV r N (min 4 sl) (2 ^ N - 1)))), (3, .int (nI se)), (2, .int (nI mo)), (0, .ref h), (1, .int i)]) hx hb dX1_pairs_146 hl (Nat.le_of_ble_eq_true rfl) rfl (fun ls hl => ?_)
              refine lv_iload hx hb dX1_pairs_148 (lv_at hl 0 rfl) ?_
              refine lv_if_ge (x := (-4)) (tgt := 161) hx hb dX1_pairs_150 (by decide) (fun c_17 => absurd c_17 (by decide)) (fun c_17 => ?_)
              refine lv_iload_n hx hb dX1_pairs_153 rfl (lv_at hl 5 rfl) ?_
              refine lv_iload_n hx hb dX1_pairs_154 rfl (lv_at hl 5 rfl) ?_
              refine lv_iconst (v := 1) hx hb dX1_pairs_155 (by decide) ?_
              refine lv_isub (x := nI se) (y := 1) hx hb dX1_pairs_156 ?_
              refine lv_iand (x := nI se) (y := (nI se) - 1) hx hb dX1_pairs_157 ?_
              refine n_eqi (low_n se hs8 h0) ?_
              refine lv_goto (tgt := 169) hx hb dX1_pairs_158 (by decide) ?_
              refine lv_istore_n (lv' := [(3, .int (nI (rmv se (ntz se)))), (8, .int (-4)), (7, .int (-4)), (6, .int (-4)), (5, .int (nI (ntz se))), (4, .int (nI (xV r N (min 4 sl) (2 ^ N - 1)))), (2, .int (nI mo)), (0, .ref h), (1, .int i)]) hx hb dX1_pairs_169 rfl hl (Nat.le_of_ble_eq_true rfl) rfl (fun ls hl => ?_)
              refine lv_iload_n hx hb dX1_pairs_170 rfl (lv_at hl 6 rfl) ?_
              refine lv_iload hx hb dX1_pairs_171 (lv_at hl 1 rfl) ?_
              refine lv_if_ge (x := (-4)) (tgt := 180) hx hb dX1_pairs_173 (by decide) (fun c_18 => absurd c_18 (by decide)) (fun c_18 => ?_)
              refine lv_iconst (v := 0) hx hb dX1_pairs_176 (by decide) ?_
              refine lv_goto (tgt := 181) hx hb dX1_pairs_177 (by decide) ?_
              refine n_isub hx hb mo 0 (by omega) dX1_pairs_181 ?_
              refine lv_istore_n (lv' := [(2, .int (nI (mo - 0))), (3, .int (nI (rmv se (ntz se)))), (8, .int (-4)), (7, .int (-4)), (6, .int (-4)), (5, .int (nI (ntz se))), (4, .int (nI (xV r N (min 4 sl) (2 ^ N - 1)))), (0, .ref h), (1, .int i)]) hx hb dX1_pairs_182 rfl hl (Nat.le_of_ble_eq_true rfl) rfl (fun ls hl => ?_)
              refine lv_goto (tgt := 69) hx hb dX1_pairs_183 (by decide) ?_
              exact ih_8 (f9 - 1) (mo - 0) (rmv se (ntz se)) b9 (by omega) _ _ (hP.sub [0, 1, 2, 3, 4, 5, 6, 7, 8] rfl) (hD.sub [0, 1, 2, 3, 4, 5, 6, 7, 8] (by decide) rfl) hS (by omega) (by omega) (by omega) (by rw [hg, e9, pB, if_neg h0]; simp [c_9, yc_9, zc_9, ho_12, c_13, ho_14, c_15, c_16, c_17, c_18]) ls (lv_sub hl [6, 1, 0, 7, 8] rfl)
            · rw [ho_14] at hl
              have hl : lv_has ls 9 [(7, .int (nI bo_14)), (6, .int (-4)), (5, .int (nI (ntz se))), (4, .int (nI (xV r N (min 4 sl) (2 ^ N - 1)))), (3, .int (nI se)), (2, .int (nI mo)), (0, .ref h), (1, .int i)] := hl
              have go_14 := prt_in ho_14
              refine lv_iload hx hb dX1_pairs_111 (lv_at hl 1 rfl) ?_
              refine lv_if_lt (x := (-4)) (tgt := 125) hx hb dX1_pairs_113 (by decide) (fun c_19 => ?_) (fun c_19 => absurd c_19 (by decide))
              refine lv_iload hx hb dX1_pairs_125 (lv_at hl 0 rfl) ?_
              refine n_if_lt (x := bo_14) (tgt := 139) hx hb (by omega) dX1_pairs_127 (by decide) ?_
              refine lv_aload_n hx hb dX1_pairs_130 rfl (lv_at hl 6 rfl) ?_
              refine va_get (D := gD G) (ci := 1) (v := .ref (xa 6)) (C := RX1) (T := TX1) (N := 9) hx hb hts in_X1 hown hK.1 hP 0 rfl rfl 6 (by decide) (hts _ q844) (fun _ h9 => h9) rfl dX1_pairs_131 ?_
              refine lv_iload hx hb dX1_pairs_134 (lv_at hl 0 rfl) ?_
              refine lv_iload hx hb dX1_pairs_136 (lv_at hl 2 rfl) ?_
              refine n_iast (x := nI (ntz se)) C hK.1 hP hD hS 8 bo_14 rfl (by omega) (by omega) dX1_pairs_138 (fun H locs hP hD hS => ?_)
              have hP : PP G [(h, xO xa xi), (xa 0, fO fn r), (fn 0, qA G 3 9 wh), (fn 1, iA G 9 (fA r 2)), (fn 2, iA G 9 (fA r 3)), (fn 3, iA G 9 (fA r 4)), (fn 4, iA G 9 (fA r 5)), (xa 5, iA G 1280 gv), (xa 6, iA G 8 (upd b9 bo_14 (nI (ntz se))))] H := hP
              have hD : va_D A [(h, xO xa xi), (xa 0, fO fn r), (fn 0, qA G 3 9 wh), (fn 1, iA G 9 (fA r 2)), (fn 2, iA G 9 (fA r 3)), (fn 3, iA G 9 (fA r 4)), (fn 4, iA G 9 (fA r 5)), (xa 5, iA G 1280 gv), (xa 6, iA G 8 (upd b9 bo_14 (nI (ntz se))))] := hD
              refine lv_iload hx hb dX1_pairs_139 (lv_at hl 1 rfl) ?_
              refine lv_iload hx hb dX1_pairs_141 (lv_at hl 0 rfl) ?_
              refine n_mmax (x := (-4)) (y := nI bo_14) C q583 q463 q60 q464 hl ⟨(Nat.le_of_ble_eq_true rfl), (Nat.le_of_ble_eq_true rfl)⟩ (Nat.le_of_ble_eq_true rfl) ⟨(Nat.le_of_ble_eq_true rfl), (Nat.le_of_ble_eq_true rfl)⟩ dX1_pairs_143 ?_
              refine n_eqi (mx_r (a := bo_14) (by omega)) ?_
              refine lv_istore (lv' := [(8, .int (nI bo_14)), (7, .int (nI bo_14)), (6, .int (-4)), (5, .int (nI (ntz se))), (4, .int (nI (xV r N (min 4 sl) (2 ^ N - 1)))), (3, .int (nI se)), (2, .int (nI mo)), (0, .ref h), (1, .int i)]) hx hb dX1_pairs_146 hl (Nat.le_of_ble_eq_true rfl) rfl (fun ls hl => ?_)
              have hw8 : wo se (ntz se) bo_14 < se := wo_lt hs8 h0
              refine lv_iload hx hb dX1_pairs_148 (lv_at hl 0 rfl) ?_
              refine n_if_ge (x := bo_14) (tgt := 161) hx hb (by omega) dX1_pairs_150 (by decide) ?_
              refine lv_iload_n hx hb dX1_pairs_161 rfl (lv_at hl 5 rfl) ?_
              refine lv_iload hx hb dX1_pairs_162 (lv_at hl 3 rfl) ?_
              refine lv_iload hx hb dX1_pairs_164 (lv_at hl 0 rfl) ?_
              refine c_S (rest := []) C (metX1_without l G se (ntz se) bo_14 (by omega) (by omega) (by omega)) 3 (lw_S q603 q604 q39 q605) (by decide +kernel) ⟨rfl, rfl⟩ ⟨(Nat.le_of_ble_eq_true rfl), (Nat.le_of_ble_eq_true rfl)⟩ (KM_mv G) (hP.sub (ws' := []) [] rfl) hK.1 hl rfl rfl (Nat.le_of_ble_eq_true rfl) ⟨(Nat.le_of_ble_eq_true rfl), (Nat.le_of_ble_eq_true rfl)⟩ dX1_pairs_166 ?_
              refine lv_istore_n (lv' := [(3, .int (nI (wo se (ntz se) bo_14))), (8, .int (nI bo_14)), (7, .int (nI bo_14)), (6, .int (-4)), (5, .int (nI (ntz se))), (4, .int (nI (xV r N (min 4 sl) (2 ^ N - 1)))), (2, .int (nI mo)), (0, .ref h), (1, .int i)]) hx hb dX1_pairs_169 rfl hl (Nat.le_of_ble_eq_true rfl) rfl (fun ls hl => ?_)
              refine lv_iload_n hx hb dX1_pairs_170 rfl (lv_at hl 6 rfl) ?_
              refine lv_iload hx hb dX1_pairs_171 (lv_at hl 1 rfl) ?_
              refine n_if_ge (x := bo_14) (tgt := 180) hx hb (by omega) dX1_pairs_173 (by decide) ?_
              refine lv_iconst (v := 1) hx hb dX1_pairs_180 (by decide) ?_
              refine n_isub hx hb mo 1 (by omega) dX1_pairs_181 ?_
              refine lv_istore_n (lv' := [(2, .int (nI (mo - 1))), (3, .int (nI (wo se (ntz se) bo_14))), (8, .int (nI bo_14)), (7, .int (nI bo_14)), (6, .int (-4)), (5, .int (nI (ntz se))), (4, .int (nI (xV r N (min 4 sl) (2 ^ N - 1)))), (0, .ref h), (1, .int i)]) hx hb dX1_pairs_182 rfl hl (Nat.le_of_ble_eq_true rfl) rfl (fun ls hl => ?_)
              refine lv_goto (tgt := 69) hx hb dX1_pairs_183 (by decide) ?_
              exact ih_8 (f9 - 1) (mo - 1) (wo se (ntz se) bo_14) (upd b9 bo_14 (nI (ntz se))) (by omega) _ _ (hP.sub [0, 1, 2, 3, 4, 5, 6, 7, 8] rfl) (hD.sub [0, 1, 2, 3, 4, 5, 6, 7, 8] (by decide) rfl) hS (by omega) (by omega) (by omega) (by rw [hg, e9, pB, if_neg h0]; simp [c_9, yc_9, zc_9, ho_12, c_13, ho_14, c_19]) ls (lv_sub hl [6, 1, 0, 7, 8] rfl)
          · rw [ho_12] at hl
            have hl : lv_has ls 9 [(6, .int (nI bo_12)), (5, .int (nI (ntz se))), (4, .int (nI (xV r N (min 4 sl) (2 ^ N - 1)))), (3, .int (nI se)), (2, .int (nI mo)), (0, .ref h), (1, .int i)] := hl
            have go_12 := prt_in ho_12
            refine lv_iload hx hb dX1_pairs_90 (lv_at hl 0 rfl) ?_
            refine n_if_ge (x := bo_12) (tgt := 107) hx hb (by omega) dX1_pairs_92 (by decide) ?_
            refine lv_bipush (v := (-4)) hx hb dX1_pairs_107 (by decide) ?_
            refine lv_istore (lv' := [(7, .int (-4)), (6, .int (nI bo_12)), (5, .int (nI (ntz se))), (4, .int (nI (xV r N (min 4 sl) (2 ^ N - 1)))), (3, .int (nI se)), (2, .int (nI mo)), (0, .ref h), (1, .int i)]) hx hb dX1_pairs_109 hl (Nat.le_of_ble_eq_true rfl) rfl (fun ls hl => ?_)
            refine lv_iload hx hb dX1_pairs_111 (lv_at hl 1 rfl) ?_
            refine n_if_lt (x := bo_12) (tgt := 125) hx hb (by omega) dX1_pairs_113 (by decide) ?_
            refine lv_aload_n hx hb dX1_pairs_116 rfl (lv_at hl 6 rfl) ?_
            refine va_get (D := gD G) (ci := 1) (v := .ref (xa 6)) (C := RX1) (T := TX1) (N := 9) hx hb hts in_X1 hown hK.1 hP 0 rfl rfl 6 (by decide) (hts _ q844) (fun _ h9 => h9) rfl dX1_pairs_117 ?_
            refine lv_iload hx hb dX1_pairs_120 (lv_at hl 2 rfl) ?_
            refine lv_iload hx hb dX1_pairs_122 (lv_at hl 1 rfl) ?_
            refine n_iast (x := nI bo_12) C hK.1 hP hD hS 8 (ntz se) rfl (by omega) (by omega) dX1_pairs_124 (fun H locs hP hD hS => ?_)
            have hP : PP G [(h, xO xa xi), (xa 0, fO fn r), (fn 0, qA G 3 9 wh), (fn 1, iA G 9 (fA r 2)), (fn 2, iA G 9 (fA r 3)), (fn 3, iA G 9 (fA r 4)), (fn 4, iA G 9 (fA r 5)), (xa 5, iA G 1280 gv), (xa 6, iA G 8 (upd b9 (ntz se) (nI bo_12)))] H := hP
            have hD : va_D A [(h, xO xa xi), (xa 0, fO fn r), (fn 0, qA G 3 9 wh), (fn 1, iA G 9 (fA r 2)), (fn 2, iA G 9 (fA r 3)), (fn 3, iA G 9 (fA r 4)), (fn 4, iA G 9 (fA r 5)), (xa 5, iA G 1280 gv), (xa 6, iA G 8 (upd b9 (ntz se) (nI bo_12)))] := hD
            refine lv_iload hx hb dX1_pairs_125 (lv_at hl 0 rfl) ?_
            refine lv_if_lt (x := (-4)) (tgt := 139) hx hb dX1_pairs_127 (by decide) (fun c_20 => ?_) (fun c_20 => absurd c_20 (by decide))
            refine lv_iload hx hb dX1_pairs_139 (lv_at hl 1 rfl) ?_
            refine lv_iload hx hb dX1_pairs_141 (lv_at hl 0 rfl) ?_
            refine n_mmax (x := nI bo_12) (y := (-4)) C q583 q463 q60 q464 hl ⟨(Nat.le_of_ble_eq_true rfl), (Nat.le_of_ble_eq_true rfl)⟩ (Nat.le_of_ble_eq_true rfl) ⟨(Nat.le_of_ble_eq_true rfl), (Nat.le_of_ble_eq_true rfl)⟩ dX1_pairs_143 ?_
            refine n_eqi (mx_l (a := bo_12) (by omega)) ?_
            refine lv_istore (lv' := [(8, .int (nI bo_12)), (7, .int (-4)), (6, .int (nI bo_12)), (5, .int (nI (ntz se))), (4, .int (nI (xV r N (min 4 sl) (2 ^ N - 1)))), (3, .int (nI se)), (2, .int (nI mo)), (0, .ref h), (1, .int i)]) hx hb dX1_pairs_146 hl (Nat.le_of_ble_eq_true rfl) rfl (fun ls hl => ?_)
            have hw8 : wo se (ntz se) bo_12 < se := wo_lt hs8 h0
            refine lv_iload hx hb dX1_pairs_148 (lv_at hl 0 rfl) ?_
            refine n_if_ge (x := bo_12) (tgt := 161) hx hb (by omega) dX1_pairs_150 (by decide) ?_
            refine lv_iload_n hx hb dX1_pairs_161 rfl (lv_at hl 5 rfl) ?_
            refine lv_iload hx hb dX1_pairs_162 (lv_at hl 3 rfl) ?_
            refine lv_iload hx hb dX1_pairs_164 (lv_at hl 0 rfl) ?_
            refine c_S (rest := []) C (metX1_without l G se (ntz se) bo_12 (by omega) (by omega) (by omega)) 3 (lw_S q603 q604 q39 q605) (by decide +kernel) ⟨rfl, rfl⟩ ⟨(Nat.le_of_ble_eq_true rfl), (Nat.le_of_ble_eq_true rfl)⟩ (KM_mv G) (hP.sub (ws' := []) [] rfl) hK.1 hl rfl rfl (Nat.le_of_ble_eq_true rfl) ⟨(Nat.le_of_ble_eq_true rfl), (Nat.le_of_ble_eq_true rfl)⟩ dX1_pairs_166 ?_
            refine lv_istore_n (lv' := [(3, .int (nI (wo se (ntz se) bo_12))), (8, .int (nI bo_12)), (7, .int (-4)), (6, .int (nI bo_12)), (5, .int (nI (ntz se))), (4, .int (nI (xV r N (min 4 sl) (2 ^ N - 1)))), (2, .int (nI mo)), (0, .ref h), (1, .int i)]) hx hb dX1_pairs_169 rfl hl (Nat.le_of_ble_eq_true rfl) rfl (fun ls hl => ?_)
            refine lv_iload_n hx hb dX1_pairs_170 rfl (lv_at hl 6 rfl) ?_
            refine lv_iload hx hb dX1_pairs_171 (lv_at hl 1 rfl) ?_
            refine n_if_ge (x := bo_12) (tgt := 180) hx hb (by omega) dX1_pairs_173 (by decide) ?_
            refine lv_iconst (v := 1) hx hb dX1_pairs_180 (by decide) ?_
            refine n_isub hx hb mo 1 (by omega) dX1_pairs_181 ?_
            refine lv_istore_n (lv' := [(2, .int (nI (mo - 1))), (3, .int (nI (wo se (ntz se) bo_12))), (8, .int (nI bo_12)), (7, .int (-4)), (6, .int (nI bo_12)), (5, .int (nI (ntz se))), (4, .int (nI (xV r N (min 4 sl) (2 ^ N - 1)))), (0, .ref h), (1, .int i)]) hx hb dX1_pairs_182 rfl hl (Nat.le_of_ble_eq_true rfl) rfl (fun ls hl => ?_)
            refine lv_goto (tgt := 69) hx hb dX1_pairs_183 (by decide) ?_
            exact ih_8 (f9 - 1) (mo - 1) (wo se (ntz se) bo_12) (upd b9 (ntz se) (nI bo_12)) (by omega) _ _ (hP.sub [0, 1, 2, 3, 4, 5, 6, 7, 8] rfl) (hD.sub [0, 1, 2, 3, 4, 5, 6, 7, 8] (by decide) rfl) hS (by omega) (by omega) (by omega) (by rw [hg, e9, pB, if_neg h0]; simp [c_9, yc_9, zc_9, ho_12, c_20]) ls (lv_sub hl [6, 1, 0, 7, 8] rfl)
    · have zc_3 : (nI N) ≤ i := Int32.not_lt.mp c_3
      have k_21 := shr_ge (N := N) (by omega) (Int32.not_lt.mp c_3)
      refine lv_iconst (v := (-1)) hx hb dX1_pairs_16 (by decide) ?_
      exact n_iretW (v := (-1)) (w1 := [(h, xO xa xi), (xa 0, fO fn r), (fn 0, qA G 3 9 wh), (fn 1, iA G 9 (fA r 2)), (fn 2, iA G 9 (fA r 3)), (fn 3, iA G 9 (fA r 4)), (fn 4, iA G 9 (fA r 5)), (xa 5, iA G 1280 vv), (xa 6, iA G 8 by0)]) C (⟨by first | (simp [sPairsX2, c_1, zc_1, c_3, zc_3, k_21]; done) | (simp [sPairsX2, hg, c_1, zc_1, c_3, zc_3, k_21]; done), _, _, rfl⟩) hP hD hS (by first | omega | decide) (by first | omega | decide) dX1_pairs_17
