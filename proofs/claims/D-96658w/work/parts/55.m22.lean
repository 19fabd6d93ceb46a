set_option maxHeartbeats 4000000 in
set_option maxRecDepth 100000 in
theorem metX1_notPairs_r (l : Launch) (G : GG) (h : Nat) (xa : Nat → Nat) (xi : Nat → Int32) (fn : Nat → Nat) (gm : GM) (wh : Nat → Option Nat) (r : Nat → Int32) (N : Nat) (sh : Nat → Nat) (dn : Nat) (t ra z8 : Nat) (rf : Nat → Int32) (hN : N ≤ 8) (hr : r 0 = nI N) (hwk : WK gm wh r N) (hdn : dn ≤ 7) (ht : t < 3) (hz8 : z8 ≤ 100) : MR l yX1_notPairs cX1_notPairs 6 (some .int) ({ frames := 12, cells := 0, slots := 0, locals := 500 }) [.ref h, .int (nI dn)] [(h, xO xa xi), (xa 8, qA G 5 8 (shf sh)), (sh dn, .inr (3, [.ref ra])), (xa 0, fO fn r), (fn 0, qA G 3 9 wh), (fn 1, iA G 9 (fA r 2)), (fn 2, iA G 9 (fA r 3)), (fn 3, iA G 9 (fA r 4)), (fn 4, iA G 9 (fA r 5)), (ra, tA G t z8 rf)] G (KG G gm) (sNPX r N z8 rf) := by
  -- rows printed by wip/tools/gen.py
  refine mr_mk RX1 (by decide) rfl (Nat.le_of_ble_eq_true rfl) ?_
  intro p0_ e0_ s m args below meth c C hP hK ls hl
  have hGP := hK.2
  have hK := hK.1
  have hx := C.1
  have hb := C.2.1
  have hml := C.2.2.2.2.1
  have hown := C.2.2.2.2.2.1
  have hts := C.2.2.2.2.2.2
  have hl : lv_has ls 6 [(0, .ref h), (1, .int (nI dn))] := hl
  refine lv_aload_n hx hb dX1_notPairs_0 rfl (lv_at hl 0 rfl) ?_
  refine lv_iload_n hx hb dX1_notPairs_1 rfl (lv_at hl 1 rfl) ?_
  refine c_V (rest := []) C (metX1_notRow_r l G h xa xi sh dn t ra z8 rf (by omega) (by omega) (by omega)) 1 (lw_V q667 q669 qs18 q39 q670) (by decide +kernel) ⟨rfl, rfl⟩ ⟨(by dsimp only; omega), (by dsimp only; omega)⟩ (KX_mv G) (va_recv hK.1 hP (ci := 1) (q0 := 0) rfl rfl) (hP.sub (ws' := [(h, xO xa xi), (xa 8, qA G 5 8 (shf sh)), (sh dn, .inr (3, [.ref ra])), (ra, tA G t z8 rf)]) [0, 1, 2, 9] rfl) hK hl rfl rfl (Nat.le_of_ble_eq_true rfl) ⟨(Nat.le_of_ble_eq_true rfl), (Nat.le_of_ble_eq_true rfl)⟩ dX1_notPairs_2 ?_
  refine lv_istore_n (lv' := [(2, .int 0), (0, .ref h), (1, .int (nI dn))]) hx hb dX1_notPairs_5 rfl hl (Nat.le_of_ble_eq_true rfl) rfl (fun ls hl => ?_)
  refine lv_iload_n hx hb dX1_notPairs_6 rfl (lv_at hl 0 rfl) ?_
  refine lv_if_eq (x := 0) (tgt := 12) hx hb dX1_notPairs_7 (by decide) (fun c_1 => ?_) (fun c_1 => absurd c_1 (by decide))
  refine lv_aload_n hx hb dX1_notPairs_12 rfl (lv_at hl 1 rfl) ?_
  refine va_get (D := gD G) (ci := 1) (v := .ref (xa 8)) (C := RX1) (T := TX1) (N := 9) hx hb hts in_X1 hown hK.1 hP 0 rfl rfl 8 (by decide) (hts _ q846) (fun _ h9 => h9) rfl dX1_notPairs_13 ?_
  refine lv_iload_n hx hb dX1_notPairs_16 rfl (lv_at hl 2 rfl) ?_
  refine n_aldqS (y := sh dn) C hK.1 hP 1 5 dn rfl rfl (by omega) (by omega) rfl dX1_notPairs_17 ?_
  refine va_get (D := gD G) (ci := 3) (v := .ref ra) (C := RX3) (T := TX3) (N := 1) hx hb hts in_X3 hown hK.1 hP 2 rfl rfl 0 (by decide) (hts _ q834) (fun _ h9 => h9) rfl dX1_notPairs_18 ?_
  refine lv_astore_n (lv' := [(3, .ref ra), (2, .int 0), (0, .ref h), (1, .int (nI dn))]) hx hb dX1_notPairs_21 rfl hl (Nat.le_of_ble_eq_true rfl) rfl (fun ls hl => ?_)
  refine lv_aload_n hx hb dX1_notPairs_22 rfl (lv_at hl 0 rfl) ?_
  refine c_S (rest := []) C (metX1_sizeOf l G t ra z8 rf (by omega) (by omega)) 1 (lw_S q676 q677 q39 q678) (by decide +kernel) ⟨rfl, rfl⟩ ⟨(by dsimp only; omega), (by dsimp only; omega)⟩ (KX_mv G) (hP.sub (ws' := [(ra, tA G t z8 rf)]) [9] rfl) hK hl rfl rfl (Nat.le_of_ble_eq_true rfl) ⟨(Nat.le_of_ble_eq_true rfl), (Nat.le_of_ble_eq_true rfl)⟩ dX1_notPairs_23 ?_
  refine lv_iconst (v := 2) hx hb dX1_notPairs_26 (by decide) ?_
  refine n_irem hx hb z8 2 (by omega) (by omega) (by omega) dX1_notPairs_27 ?_
  refine lv_iconst (v := 1) hx hb dX1_notPairs_28 (by decide) ?_
  refine n_ic_eq (x := z8 % 2) (y := 1) (tgt := 41) hx hb (by omega) (by omega) dX1_notPairs_29 (by decide) (fun c_2 => ?_) (fun c_2 => ?_)
  · have zc_2 : nI (z8 % 2) = 1 := congrArg nI c_2
    refine lv_bipush (v := (-13)) hx hb dX1_notPairs_41 (by decide) ?_
    exact n_iret (v := (-13)) C (by first | (simp [sNPX, hnp, c_1, c_2, zc_2]; done) | (simp [sNPX, c_1, c_2, zc_2]; done)) dX1_notPairs_43
  · have zc_2 : ¬ nI (z8 % 2) = 1 := fun q => c_2 ((nI_eq (by omega) (by omega)).mp q)
    refine lv_aload_n hx hb dX1_notPairs_32 rfl (lv_at hl 0 rfl) ?_
    refine c_S (rest := []) C (metX1_sizeOf l G t ra z8 rf (by omega) (by omega)) 1 (lw_S q676 q677 q39 q678) (by decide +kernel) ⟨rfl, rfl⟩ ⟨(by dsimp only; omega), (by dsimp only; omega)⟩ (KX_mv G) (hP.sub (ws' := [(ra, tA G t z8 rf)]) [9] rfl) hK hl rfl rfl (Nat.le_of_ble_eq_true rfl) ⟨(Nat.le_of_ble_eq_true rfl), (Nat.le_of_ble_eq_true rfl)⟩ dX1_notPairs_33 ?_
    refine lv_bipush (v := 8) hx hb dX1_notPairs_36 (by decide) ?_
    refine n_ic_le (x := z8) (y := 8) (tgt := 44) hx hb (by omega) (by omega) dX1_notPairs_38 (by decide) (fun c_3 => ?_) (fun c_3 => ?_)
    · have zc_3 : ¬ 8 < z8 := Nat.not_lt.mpr c_3
      refine lv_iconst (v := 0) hx hb dX1_notPairs_44 (by decide) ?_
      refine lv_istore (lv' := [(4, .int 0), (3, .ref ra), (2, .int 0), (0, .ref h), (1, .int (nI dn))]) hx hb dX1_notPairs_45 hl (Nat.le_of_ble_eq_true rfl) rfl (fun ls hl => ?_)
      refine lv_iconst (v := 0) hx hb dX1_notPairs_47 (by decide) ?_
      refine lv_istore (lv' := [(5, .int 0), (4, .int 0), (3, .ref ra), (2, .int 0), (0, .ref h), (1, .int (nI dn))]) hx hb dX1_notPairs_48 hl (Nat.le_of_ble_eq_true rfl) rfl (fun ls hl => ?_)
      suffices hlp_4 : (∀ (n q : Nat), q + n = z8 → (npX r N rf q = true) → ∀ (ls : Array Slot), lv_has ls 6 [(5, .int (nI q)), (4, .int (wpSeen rf 0 q)), (3, .ref ra), (2, .int 0), (0, .ref h), (1, .int (nI dn))] → W p0_ l e0_ ({ frames := 12, cells := 0, slots := 0, locals := 500 } : Room) s m args below meth c s.heap [] (0) (0) (MQ below (vp_Si (fun rr9 => rr9 = sNPX r N z8 rf)) args s 0 0 (fun _ => False)) (F0 m 50 ls [])) by
        exact hlp_4 (z8) 0 (by omega) (rfl) ls (lv_sub hl [0, 1, 2, 3, 4, 5] rfl)
      have hend_4 : (npX r N rf z8 = true) → ∀ (ls : Array Slot), lv_has ls 6 [(5, .int (nI z8)), (4, .int (wpSeen rf 0 z8)), (3, .ref ra), (2, .int 0), (0, .ref h), (1, .int (nI dn))] → W p0_ l e0_ ({ frames := 12, cells := 0, slots := 0, locals := 500 } : Room) s m args below meth c s.heap [] (0) (0) (MQ below (vp_Si (fun rr9 => rr9 = sNPX r N z8 rf)) args s 0 0 (fun _ => False)) (F0 m 50 ls []) := by
        intro hnp ls hl
        refine lv_iload hx hb dX1_notPairs_50 (lv_at hl 0 rfl) ?_
        refine lv_aload_n hx hb dX1_notPairs_52 rfl (lv_at hl 2 rfl) ?_
        refine c_S (rest := [.int (nI z8)]) C (metX1_sizeOf l G t ra z8 rf (by omega) (by omega)) 1 (lw_S q676 q677 q39 q678) (by decide +kernel) ⟨rfl, rfl⟩ ⟨(by dsimp only; omega), (by dsimp only; omega)⟩ (KX_mv G) (hP.sub (ws' := [(ra, tA G t z8 rf)]) [9] rfl) hK hl rfl rfl (Nat.le_of_ble_eq_true rfl) ⟨(Nat.le_of_ble_eq_true rfl), (Nat.le_of_ble_eq_true rfl)⟩ dX1_notPairs_53 ?_
        refine n_ic_ge (x := z8) (y := z8) (tgt := 146) hx hb (by omega) (by omega) dX1_notPairs_56 (by decide) (fun c_5 => ?_) (fun c_5 => absurd c_5 (by omega))
        refine lv_iconst (v := 0) hx hb dX1_notPairs_146 (by decide) ?_
        exact n_iret (v := 0) C (by first | (simp [sNPX, hnp, c_1, c_2, zc_2, c_3, zc_3, c_5]; done) | (simp [sNPX, c_1, c_2, zc_2, c_3, zc_3, c_5]; done)) dX1_notPairs_147
      intro n
      induction n with
      | zero =>
        intro q hi_4 hnp ls hl
        obtain e_4 : q = z8 := by omega
        first | (subst e_4; exact hend_4 hnp ls hl) | (rw [e_4] at hl; exact hend_4 hnp ls hl)
      | succ n ih_4 =>
        intro q hi_4 hnp ls hl
        refine lv_iload hx hb dX1_notPairs_50 (lv_at hl 0 rfl) ?_
        refine lv_aload_n hx hb dX1_notPairs_52 rfl (lv_at hl 2 rfl) ?_
        refine c_S (rest := [.int (nI q)]) C (metX1_sizeOf l G t ra z8 rf (by omega) (by omega)) 1 (lw_S q676 q677 q39 q678) (by decide +kernel) ⟨rfl, rfl⟩ ⟨(by dsimp only; omega), (by dsimp only; omega)⟩ (KX_mv G) (hP.sub (ws' := [(ra, tA G t z8 rf)]) [9] rfl) hK hl rfl rfl (Nat.le_of_ble_eq_true rfl) ⟨(Nat.le_of_ble_eq_true rfl), (Nat.le_of_ble_eq_true rfl)⟩ dX1_notPairs_53 ?_
        refine n_ic_ge (x := q) (y := z8) (tgt := 146) hx hb (by omega) (by omega) dX1_notPairs_56 (by decide) (fun c_6 => absurd c_6 (by omega)) (fun c_6 => ?_)
        refine lv_aload_n hx hb dX1_notPairs_59 rfl (lv_at hl 4 rfl) ?_
        refine va_get (D := gD G) (ci := 1) (v := .ref (xa 0)) (C := RX1) (T := TX1) (N := 9) hx hb hts in_X1 hown hK.1 hP 0 rfl rfl 0 (by decide) (hts _ q838) (fun _ h9 => h9) rfl dX1_notPairs_60 ?_
        refine lv_aload_n hx hb dX1_notPairs_63 rfl (lv_at hl 2 rfl) ?_
        refine lv_iload hx hb dX1_notPairs_64 (lv_at hl 0 rfl) ?_
        refine c_S (rest := [.ref (xa 0)]) C (metX1_elementOf l G t ra z8 rf q (by omega) (by omega) (by omega)) 2 (lw_S q679 q680 q39 q681) (by decide +kernel) ⟨rfl, rfl⟩ ⟨(by dsimp only; omega), (by dsimp only; omega)⟩ (KX_mv G) (hP.sub (ws' := [(ra, tA G t z8 rf)]) [9] rfl) hK hl rfl rfl (Nat.le_of_ble_eq_true rfl) ⟨(Nat.le_of_ble_eq_true rfl), (Nat.le_of_ble_eq_true rfl)⟩ dX1_notPairs_66 ?_
        refine c_V (rest := []) C (metX2_isOne l G (xa 0) fn r N (rf q) (hr)) 1 (lw_V q497 q376 q377 q40 q378) (by decide +kernel) ⟨rfl, rfl⟩ ⟨(by dsimp only; omega), (by dsimp only; omega)⟩ (KX_mv G) (va_recv hK.1 hP (ci := 2) (q0 := 3) rfl rfl) (hP.sub (ws' := [(xa 0, fO fn r)]) [3] rfl) hK hl rfl rfl (Nat.le_of_ble_eq_true rfl) ⟨(Nat.le_of_ble_eq_true rfl), (Nat.le_of_ble_eq_true rfl)⟩ dX1_notPairs_69 ?_
        refine n_if_eqB (b := (sPer N (rf q))) (tgt := 89) hx hb dX1_notPairs_72 (by decide) (fun c_7 => ?_) (fun c_7 => ?_)
        · refine lv_bipush (v := (-13)) hx hb dX1_notPairs_89 (by decide) ?_
          exact n_iret (v := (-13)) C (by have hno : npX r N rf z8 = false := npX_no (j := q + 1) (by omega) (by simp [npX, hnp, c_1, c_2, zc_2, c_3, zc_3, c_6, c_7]); simp [sNPX, hno]) dX1_notPairs_91
        · obtain ⟨rf_q_8, hrf_q_8, qrf_q_8⟩ := sPer_t (by omega) c_7
          have urf_q_8 : sPer N (nI rf_q_8) = true := by rw [← qrf_q_8]; exact c_7
          have trf_q_8 : tn (nI rf_q_8) = rf_q_8 := nI_clamp (by omega)
          refine lv_iload hx hb dX1_notPairs_75 (lv_at hl 1 rfl) ?_
          refine lv_aload_n hx hb dX1_notPairs_77 rfl (lv_at hl 2 rfl) ?_
          refine lv_iload hx hb dX1_notPairs_78 (lv_at hl 0 rfl) ?_
          refine c_S (rest := [.int (wpSeen rf 0 q)]) C (metX1_elementOf l G t ra z8 rf q (by omega) (by omega) (by omega)) 2 (lw_S q679 q680 q39 q681) (by decide +kernel) ⟨rfl, rfl⟩ ⟨(by dsimp only; omega), (by dsimp only; omega)⟩ (KX_mv G) (hP.sub (ws' := [(ra, tA G t z8 rf)]) [9] rfl) hK hl rfl rfl (Nat.le_of_ble_eq_true rfl) ⟨(Nat.le_of_ble_eq_true rfl), (Nat.le_of_ble_eq_true rfl)⟩ dX1_notPairs_80 ?_
          refine n_eqi (qrf_q_8) ?_
          refine c_S (rest := []) C (metX1_has l G (wpSeen rf 0 q) (nI rf_q_8)) 2 (lw_S q596 q597 q39 q598) (by decide +kernel) ⟨rfl, rfl⟩ ⟨(by dsimp only; omega), (by dsimp only; omega)⟩ (KM_mv G) (hP.sub (ws' := []) [] rfl) hK.1 hl rfl rfl (Nat.le_of_ble_eq_true rfl) ⟨(Nat.le_of_ble_eq_true rfl), (Nat.le_of_ble_eq_true rfl)⟩ dX1_notPairs_83 ?_
          refine n_if_eqB (b := (decide (bitX (wpSeen rf 0 q) (nI rf_q_8) = 1))) (tgt := 92) hx hb dX1_notPairs_86 (by decide) (fun c_9 => ?_) (fun c_9 => ?_)
          · refine lv_iload hx hb dX1_notPairs_92 (lv_at hl 1 rfl) ?_
            refine lv_iconst (v := 1) hx hb dX1_notPairs_94 (by decide) ?_
            refine lv_aload_n hx hb dX1_notPairs_95 rfl (lv_at hl 2 rfl) ?_
            refine lv_iload hx hb dX1_notPairs_96 (lv_at hl 0 rfl) ?_
            refine c_S (rest := [.int 1, .int (wpSeen rf 0 q)]) C (metX1_elementOf l G t ra z8 rf q (by omega) (by omega) (by omega)) 2 (lw_S q679 q680 q39 q681) (by decide +kernel) ⟨rfl, rfl⟩ ⟨(by dsimp only; omega), (by dsimp only; omega)⟩ (KX_mv G) (hP.sub (ws' := [(ra, tA G t z8 rf)]) [9] rfl) hK hl rfl rfl (Nat.le_of_ble_eq_true rfl) ⟨(Nat.le_of_ble_eq_true rfl), (Nat.le_of_ble_eq_true rfl)⟩ dX1_notPairs_98 ?_
            refine n_eqi (qrf_q_8) ?_
            refine lv_ishl (x := 1) (y := nI rf_q_8) hx hb dX1_notPairs_101 ?_
            refine lv_ior (x := wpSeen rf 0 q) (y := 1 <<< ((nI rf_q_8) &&& 31)) hx hb dX1_notPairs_102 ?_
            refine lv_istore (lv' := [(4, .int ((wpSeen rf 0 q) ||| (1 <<< ((nI rf_q_8) &&& 31)))), (5, .int (nI q)), (3, .ref ra), (2, .int 0), (0, .ref h), (1, .int (nI dn))]) hx hb dX1_notPairs_103 hl (Nat.le_of_ble_eq_true rfl) rfl (fun ls hl => ?_)
            refine lv_iload hx hb dX1_notPairs_105 (lv_at hl 1 rfl) ?_
            refine lv_iconst (v := 2) hx hb dX1_notPairs_107 (by decide) ?_
            refine n_irem hx hb q 2 (by omega) (by omega) (by omega) dX1_notPairs_108 ?_
            refine lv_iconst (v := 1) hx hb dX1_notPairs_109 (by decide) ?_
            refine n_ic_ne (x := q % 2) (y := 1) (tgt := 140) hx hb (by omega) (by omega) dX1_notPairs_110 (by decide) (fun c_10 => ?_) (fun c_10 => ?_)
            · have zc_10 : ¬ nI (q % 2) = 1 := fun q => c_10 ((nI_eq (by omega) (by omega)).mp q)
              refine n_iinc (k := 1) (lv' := [(5, .int (nI (q + 1))), (4, .int ((wpSeen rf 0 q) ||| (1 <<< ((nI rf_q_8) &&& 31)))), (3, .ref ra), (2, .int 0), (0, .ref h), (1, .int (nI dn))]) hx hb q 1 dX1_notPairs_140 hl rfl (Nat.le_of_ble_eq_true rfl) rfl (fun ls hl => ?_)
              refine lv_goto (tgt := 50) hx hb dX1_notPairs_143 (by decide) ?_
              have e_11 : wpSeen rf 0 (q + 1) = (wpSeen rf 0 q) ||| (1 <<< ((nI rf_q_8) &&& 31)) := by rw [wpSeen]; simp [Nat.zero_add, c_6, c_7, qrf_q_8, urf_q_8, trf_q_8, c_9, c_10, zc_10]
              exact ih_4 (q + 1) (by omega) (by simp [npX, hnp, c_6, c_7, qrf_q_8, urf_q_8, trf_q_8, c_9, c_10, zc_10]) ls (by rw [e_11]; exact lv_sub hl [0, 1, 2, 3, 4, 5] rfl)
            · have zc_10 : nI (q % 2) = 1 := congrArg nI c_10
              refine lv_aload_n hx hb dX1_notPairs_113 rfl (lv_at hl 4 rfl) ?_
              refine va_get (D := gD G) (ci := 1) (v := .ref (xa 0)) (C := RX1) (T := TX1) (N := 9) hx hb hts in_X1 hown hK.1 hP 0 rfl rfl 0 (by decide) (hts _ q838) (fun _ h9 => h9) rfl dX1_notPairs_114 ?_
              refine lv_aload_n hx hb dX1_notPairs_117 rfl (lv_at hl 2 rfl) ?_
              refine lv_iload hx hb dX1_notPairs_118 (lv_at hl 1 rfl) ?_
              refine lv_iconst (v := 1) hx hb dX1_notPairs_120 (by decide) ?_
              refine n_isub hx hb q 1 (by omega) dX1_notPairs_121 ?_
              refine c_S (rest := [.ref (xa 0)]) C (metX1_elementOf l G t ra z8 rf (q - 1) (by omega) (by omega) (by omega)) 2 (lw_S q679 q680 q39 q681) (by decide +kernel) ⟨rfl, rfl⟩ ⟨(by dsimp only; omega), (by dsimp only; omega)⟩ (KX_mv G) (hP.sub (ws' := [(ra, tA G t z8 rf)]) [9] rfl) hK hl rfl rfl (Nat.le_of_ble_eq_true rfl) ⟨(Nat.le_of_ble_eq_true rfl), (Nat.le_of_ble_eq_true rfl)⟩ dX1_notPairs_122 ?_
              refine lv_aload_n hx hb dX1_notPairs_125 rfl (lv_at hl 2 rfl) ?_
              refine lv_iload hx hb dX1_notPairs_126 (lv_at hl 1 rfl) ?_
              refine c_S (rest := [.int (rf (q - 1)), .ref (xa 0)]) C (metX1_elementOf l G t ra z8 rf q (by omega) (by omega) (by omega)) 2 (lw_S q679 q680 q39 q681) (by decide +kernel) ⟨rfl, rfl⟩ ⟨(by dsimp only; omega), (by dsimp only; omega)⟩ (KX_mv G) (hP.sub (ws' := [(ra, tA G t z8 rf)]) [9] rfl) hK hl rfl rfl (Nat.le_of_ble_eq_true rfl) ⟨(Nat.le_of_ble_eq_true rfl), (Nat.le_of_ble_eq_true rfl)⟩ dX1_notPairs_128 ?_
              refine n_eqi (qrf_q_8) ?_
              refine c_Vk (rest := []) C (metX2_canEat l G (xa 0) fn gm wh r N (rf (q - 1)) (nI rf_q_8) (by omega) (hr) (hwk)) 2 (lw_V q367 q368 q369 q40 q370) (by decide +kernel) ⟨rfl, rfl⟩ ⟨(by dsimp only; omega), (by dsimp only; omega)⟩ (KG.call) (va_recv hK.1 hP (ci := 2) (q0 := 3) rfl rfl) (hP.sub (ws' := [(xa 0, fO fn r), (fn 0, qA G 3 9 wh), (fn 1, iA G 9 (fA r 2)), (fn 2, iA G 9 (fA r 3)), (fn 3, iA G 9 (fA r 4)), (fn 4, iA G 9 (fA r 5))]) [3, 4, 5, 6, 7, 8] rfl) (KG.at hK hGP) hl rfl rfl (Nat.le_of_ble_eq_true rfl) ⟨(Nat.le_of_ble_eq_true rfl), (Nat.le_of_ble_eq_true rfl)⟩ dX1_notPairs_131 ?_
              refine n_if_neB (b := (sEatP r N (rf (q - 1)) (nI rf_q_8))) (tgt := 140) hx hb dX1_notPairs_134 (by decide) (fun c_12 => ?_) (fun c_12 => ?_)
              · obtain ⟨rf_q_1_13, nI_rf_q__14, hrf_q_1_13, hnI_rf_q__14, nrf_q_1_13, erf_q_1_13, qrf_q_1_13, qnI_rf_q__14⟩ := sEatP_t (by omega) c_12
                have trf_q_1_13 : tn (nI rf_q_1_13) = rf_q_1_13 := nI_clamp (by omega)
                have tnI_rf_q__14 : tn (nI nI_rf_q__14) = nI_rf_q__14 := nI_clamp (by omega)
                have urf_q_1_13 : sEatP r N (nI rf_q_1_13) (nI rf_q_8) = true := by first | exact c_12 | (rw [← qrf_q_1_13]; exact c_12) | (simpa [qrf_q_1_13] using c_12)
                refine n_iinc (k := 1) (lv' := [(5, .int (nI (q + 1))), (4, .int ((wpSeen rf 0 q) ||| (1 <<< ((nI rf_q_8) &&& 31)))), (3, .ref ra), (2, .int 0), (0, .ref h), (1, .int (nI dn))]) hx hb q 1 dX1_notPairs_140 hl rfl (Nat.le_of_ble_eq_true rfl) rfl (fun ls hl => ?_)
                refine lv_goto (tgt := 50) hx hb dX1_notPairs_143 (by decide) ?_
                have e_15 : wpSeen rf 0 (q + 1) = (wpSeen rf 0 q) ||| (1 <<< ((nI rf_q_8) &&& 31)) := by rw [wpSeen]; simp [Nat.zero_add, c_6, c_7, qrf_q_8, urf_q_8, trf_q_8, c_9, c_10, zc_10, c_12, nrf_q_1_13, erf_q_1_13, qrf_q_1_13, trf_q_1_13, tnI_rf_q__14, urf_q_1_13]
                exact ih_4 (q + 1) (by omega) (by simp [npX, hnp, c_6, c_7, qrf_q_8, urf_q_8, trf_q_8, c_9, c_10, zc_10, c_12, nrf_q_1_13, erf_q_1_13, qrf_q_1_13, trf_q_1_13, tnI_rf_q__14, urf_q_1_13]) ls (by rw [e_15]; exact lv_sub hl [0, 1, 2, 3, 4, 5] rfl)
              · refine lv_bipush (v := (-13)) hx hb dX1_notPairs_137 (by decide) ?_
                exact n_iret (v := (-13)) C (by have hno : npX r N rf z8 = false := npX_no (j := q + 1) (by omega) (by simp [npX, hnp, c_1, c_2, zc_2, c_3, zc_3, c_6, c_7, qrf_q_8, urf_q_8, trf_q_8, c_9, c_10, zc_10, c_12]); simp [sNPX, hno]) dX1_notPairs_139
          · refine lv_bipush (v := (-13)) hx hb dX1_notPairs_89 (by decide) ?_
            exact n_iret (v := (-13)) C (by have hno : npX r N rf z8 = false := npX_no (j := q + 1) (by omega) (by simp [npX, hnp, c_1, c_2, zc_2, c_3, zc_3, c_6, c_7, qrf_q_8, urf_q_8, trf_q_8, c_9]); simp [sNPX, hno]) dX1_notPairs_91
    · have zc_3 : ¬ z8 ≤ 8 := Nat.not_le.mpr c_3
      refine lv_bipush (v := (-13)) hx hb dX1_notPairs_41 (by decide) ?_
      exact n_iret (v := (-13)) C (by first | (simp [sNPX, hnp, c_1, c_2, zc_2, c_3, zc_3]; done) | (simp [sNPX, c_1, c_2, zc_2, c_3, zc_3]; done)) dX1_notPairs_43

set_option maxHeartbeats 4000000 in
set_option maxRecDepth 100000 in
theorem metX1_joysIn (l : Launch) (G : GG) (h : Nat) (xa : Nat → Nat) (xi : Nat → Int32) (fn : Nat → Nat) (gm : GM) (wh : Nat → Option Nat) (r : Nat → Int32) (N : Nat) (t ra z8 : Nat) (rf : Nat → Int32) (a9 b9 x y : Nat) (hN : N ≤ 8) (hr : r 0 = nI N) (hwk : WK gm wh r N) (ht : t < 3) (hz8 : z8 ≤ 100) (ha9 : 2 * a9 < z8) (hb9 : 2 * b9 + 1 < z8) (hx9 : rf (2 * a9) = nI x) (hy9 : rf (2 * b9 + 1) = nI y) (hxN : x < N) (hyN : y < N) : MR l yX1_joysIn cX1_joysIn 4 (some .int) ({ frames := 9, cells := 0, slots := 0, locals := 265 }) [.ref h, .ref ra, .int (nI a9), .int (nI b9)] [(h, xO xa xi), (xa 0, fO fn r), (fn 0, qA G 3 9 wh), (fn 1, iA G 9 (fA r 2)), (fn 2, iA G 9 (fA r 3)), (fn 3, iA G 9 (fA r 4)), (fn 4, iA G 9 (fA r 5)), (ra, tA G t z8 rf)] G (KG G gm) (sJoy r x y) := by
  -- rows printed by wip/tools/gen.py
  refine mr_mk RX1 (by decide) rfl (Nat.le_of_ble_eq_true rfl) ?_
  intro p0_ e0_ s m args below meth c C hP hK ls hl
  have hGP := hK.2
  have hK := hK.1
  have hx := C.1
  have hb := C.2.1
  have hml := C.2.2.2.2.1
  have hown := C.2.2.2.2.2.1
  have hts := C.2.2.2.2.2.2
  have hl : lv_has ls 4 [(0, .ref h), (1, .ref ra), (2, .int (nI a9)), (3, .int (nI b9))] := hl
  refine lv_aload_n hx hb dX1_joysIn_0 rfl (lv_at hl 0 rfl) ?_
  refine va_get (D := gD G) (ci := 1) (v := .ref (xa 0)) (C := RX1) (T := TX1) (N := 9) hx hb hts in_X1 hown hK.1 hP 0 rfl rfl 0 (by decide) (hts _ q838) (fun _ h9 => h9) rfl dX1_joysIn_1 ?_
  refine lv_aload_n hx hb dX1_joysIn_4 rfl (lv_at hl 1 rfl) ?_
  refine lv_iconst (v := 2) hx hb dX1_joysIn_5 (by decide) ?_
  refine lv_iload_n hx hb dX1_joysIn_6 rfl (lv_at hl 2 rfl) ?_
  refine n_imul hx hb 2 a9 dX1_joysIn_7 ?_
  refine c_S (rest := [.ref (xa 0)]) C (metX1_elementOf l G t ra z8 rf (2 * a9) (by omega) (by omega) (by omega)) 2 (lw_S q679 q680 q39 q681) (by decide +kernel) ⟨rfl, rfl⟩ ⟨(Nat.le_of_ble_eq_true rfl), (Nat.le_of_ble_eq_true rfl)⟩ (KX_mv G) (hP.sub (ws' := [(ra, tA G t z8 rf)]) [7] rfl) hK hl rfl rfl (Nat.le_of_ble_eq_true rfl) ⟨(Nat.le_of_ble_eq_true rfl), (Nat.le_of_ble_eq_true rfl)⟩ dX1_joysIn_8 ?_
  refine n_eqi (hx9) ?_
  refine lv_aload_n hx hb dX1_joysIn_11 rfl (lv_at hl 1 rfl) ?_
  refine lv_iconst (v := 2) hx hb dX1_joysIn_12 (by decide) ?_
  refine lv_iload_n hx hb dX1_joysIn_13 rfl (lv_at hl 3 rfl) ?_
  refine n_imul hx hb 2 b9 dX1_joysIn_14 ?_
  refine lv_iconst (v := 1) hx hb dX1_joysIn_15 (by decide) ?_
  refine n_iadd hx hb (2 * b9) 1 dX1_joysIn_16 ?_
  refine c_S (rest := [.int (nI x), .ref (xa 0)]) C (metX1_elementOf l G t ra z8 rf ((2 * b9) + 1) (by omega) (by omega) (by omega)) 2 (lw_S q679 q680 q39 q681) (by decide +kernel) ⟨rfl, rfl⟩ ⟨(Nat.le_of_ble_eq_true rfl), (Nat.le_of_ble_eq_true rfl)⟩ (KX_mv G) (hP.sub (ws' := [(ra, tA G t z8 rf)]) [7] rfl) hK hl rfl rfl (Nat.le_of_ble_eq_true rfl) ⟨(Nat.le_of_ble_eq_true rfl), (Nat.le_of_ble_eq_true rfl)⟩ dX1_joysIn_17 ?_
  refine n_eqi (hy9) ?_
  refine c_Vk (rest := []) C (metX2_joys l G (xa 0) fn gm wh r N x y (by omega) (hr) (hwk) (by omega) (by omega)) 2 (lw_V q550 q403 q404 q40 q405) (by decide +kernel) ⟨rfl, rfl⟩ ⟨(Nat.le_of_ble_eq_true rfl), (Nat.le_of_ble_eq_true rfl)⟩ (KG.call) (va_recv hK.1 hP (ci := 2) (q0 := 1) rfl rfl) (hP.sub (ws' := [(xa 0, fO fn r), (fn 0, qA G 3 9 wh), (fn 1, iA G 9 (fA r 2)), (fn 2, iA G 9 (fA r 3)), (fn 3, iA G 9 (fA r 4)), (fn 4, iA G 9 (fA r 5))]) [1, 2, 3, 4, 5, 6] rfl) (KG.at hK hGP) hl rfl rfl (Nat.le_of_ble_eq_true rfl) ⟨(Nat.le_of_ble_eq_true rfl), (Nat.le_of_ble_eq_true rfl)⟩ dX1_joysIn_20 ?_
  exact n_iret (v := sJoy r x y) C (rfl) dX1_joysIn_23

set_option maxHeartbeats 4000000 in
set_option maxRecDepth 100000 in
theorem metX1_swap_r (l : Launch) (G : GG) (h : Nat) (xa : Nat → Nat) (xi : Nat → Int32) (fn : Nat → Nat) (gm : GM) (wh : Nat → Option Nat) (r : Nat → Int32) (N : Nat) (sh : Nat → Nat) (dn : Nat) (t ra z8 : Nat) (rf : Nat → Int32) (hN : N ≤ 8) (hr : r 0 = nI N) (hwk : WK gm wh r N) (hdn : dn ≤ 7) (ht : t < 3) (hz8 : z8 ≤ 100) : MR l yX1_swap cX1_swap 9 (some .int) ({ frames := 13, cells := 0, slots := 0, locals := 525 }) [.ref h, .int (nI dn)] [(h, xO xa xi), (xa 8, qA G 5 8 (shf sh)), (sh dn, .inr (3, [.ref ra])), (xa 0, fO fn r), (fn 0, qA G 3 9 wh), (fn 1, iA G 9 (fA r 2)), (fn 2, iA G 9 (fA r 3)), (fn 3, iA G 9 (fA r 4)), (fn 4, iA G 9 (fA r 5)), (ra, tA G t z8 rf)] G (KG G gm) (sSwapX r N z8 rf) := by
  -- rows printed by wip/tools/gen.py
  refine mr_mk RX1 (by decide) rfl (Nat.le_of_ble_eq_true rfl) ?_
  intro p0_ e0_ s m args below meth c C hP hK ls hl
  have hGP := hK.2
  have hK := hK.1
  have hx := C.1
  have hb := C.2.1
  have hml := C.2.2.2.2.1
  have hown := C.2.2.2.2.2.1
  have hts := C.2.2.2.2.2.2
  have hl : lv_has ls 9 [(0, .ref h), (1, .int (nI dn))] := hl
  refine lv_aload_n hx hb dX1_swap_0 rfl (lv_at hl 0 rfl) ?_
  refine lv_iload_n hx hb dX1_swap_1 rfl (lv_at hl 1 rfl) ?_
  refine c_Vk (rest := []) C (metX1_notPairs_r l G h xa xi fn gm wh r N sh dn t ra z8 rf (by omega) (hr) (hwk) (by omega) (by omega) (by omega)) 1 (lw_V q663 q665 qs17 q39 q666) (by decide +kernel) ⟨rfl, rfl⟩ ⟨(Nat.le_of_ble_eq_true rfl), (Nat.le_of_ble_eq_true rfl)⟩ (KG.call) (va_recv hK.1 hP (ci := 1) (q0 := 0) rfl rfl) hP (KG.at hK hGP) hl rfl rfl (Nat.le_of_ble_eq_true rfl) ⟨(Nat.le_of_ble_eq_true rfl), (Nat.le_of_ble_eq_true rfl)⟩ dX1_swap_2 ?_
  refine lv_istore_n (lv' := [(2, .int (sNPX r N z8 rf)), (0, .ref h), (1, .int (nI dn))]) hx hb dX1_swap_5 rfl hl (Nat.le_of_ble_eq_true rfl) rfl (fun ls hl => ?_)
  refine lv_iload_n hx hb dX1_swap_6 rfl (lv_at hl 0 rfl) ?_
  refine lv_if_eq (x := sNPX r N z8 rf) (tgt := 12) hx hb dX1_swap_7 (by decide) (fun c_1 => ?_) (fun c_1 => ?_)
  · obtain ⟨k1, k2, hnp⟩ := sNPX_0 c_1
    refine lv_aload_n hx hb dX1_swap_12 rfl (lv_at hl 1 rfl) ?_
    refine va_get (D := gD G) (ci := 1) (v := .ref (xa 8)) (C := RX1) (T := TX1) (N := 9) hx hb hts in_X1 hown hK.1 hP 0 rfl rfl 8 (by decide) (hts _ q846) (fun _ h9 => h9) rfl dX1_swap_13 ?_
    refine lv_iload_n hx hb dX1_swap_16 rfl (lv_at hl 2 rfl) ?_
    refine n_aldqS (y := sh dn) C hK.1 hP 1 5 dn rfl rfl (by omega) (by omega) rfl dX1_swap_17 ?_
    refine va_get (D := gD G) (ci := 3) (v := .ref ra) (C := RX3) (T := TX3) (N := 1) hx hb hts in_X3 hown hK.1 hP 2 rfl rfl 0 (by decide) (hts _ q834) (fun _ h9 => h9) rfl dX1_swap_18 ?_
    refine lv_astore_n (lv' := [(3, .ref ra), (2, .int (sNPX r N z8 rf)), (0, .ref h), (1, .int (nI dn))]) hx hb dX1_swap_21 rfl hl (Nat.le_of_ble_eq_true rfl) rfl (fun ls hl => ?_)
    refine lv_bipush (v := (-4)) hx hb dX1_swap_22 (by decide) ?_
    refine lv_istore (lv' := [(4, .int (-4)), (3, .ref ra), (2, .int (sNPX r N z8 rf)), (0, .ref h), (1, .int (nI dn))]) hx hb dX1_swap_24 hl (Nat.le_of_ble_eq_true rfl) rfl (fun ls hl => ?_)
    refine lv_iconst (v := 0) hx hb dX1_swap_26 (by decide) ?_
    refine lv_istore (lv' := [(5, .int 0), (4, .int (-4)), (3, .ref ra), (2, .int (sNPX r N z8 rf)), (0, .ref h), (1, .int (nI dn))]) hx hb dX1_swap_27 hl (Nat.le_of_ble_eq_true rfl) rfl (fun ls hl => ?_)
    refine lv_iconst (v := 0) hx hb dX1_swap_29 (by decide) ?_
    refine lv_istore (lv' := [(6, .int 0), (5, .int 0), (4, .int (-4)), (3, .ref ra), (2, .int (sNPX r N z8 rf)), (0, .ref h), (1, .int (nI dn))]) hx hb dX1_swap_30 hl (Nat.le_of_ble_eq_true rfl) rfl (fun ls hl => ?_)
    suffices hlp_2 : (∀ (n i : Nat), i + n = z8 / 2 → ∀ (ls : Array Slot), lv_has ls 9 [(6, .int (nI i)), (5, .int (swB r rf 0 (swO r rf 0 (z8 / 2) i))), (4, .int (enc (swO r rf 0 (z8 / 2) i))), (3, .ref ra), (2, .int (sNPX r N z8 rf)), (0, .ref h), (1, .int (nI dn))] → W p0_ l e0_ ({ frames := 13, cells := 0, slots := 0, locals := 525 } : Room) s m args below meth c s.heap [] (0) (0) (MQ below (vp_Si (fun rr9 => rr9 = sSwapX r N z8 rf)) args s 0 0 (fun _ => False)) (F0 m 32 ls [])) by
      exact hlp_2 (z8 / 2) 0 (by omega) ls (lv_sub hl [0, 1, 2, 3, 4, 5, 6] rfl)
    have hend_2 : ∀ (ls : Array Slot), lv_has ls 9 [(6, .int (nI (z8 / 2))), (5, .int (swB r rf 0 (swO r rf 0 (z8 / 2) (z8 / 2)))), (4, .int (enc (swO r rf 0 (z8 / 2) (z8 / 2)))), (3, .ref ra), (2, .int (sNPX r N z8 rf)), (0, .ref h), (1, .int (nI dn))] → W p0_ l e0_ ({ frames := 13, cells := 0, slots := 0, locals := 525 } : Room) s m args below meth c s.heap [] (0) (0) (MQ below (vp_Si (fun rr9 => rr9 = sSwapX r N z8 rf)) args s 0 0 (fun _ => False)) (F0 m 32 ls []) := by
      intro ls hl
      refine lv_iconst (v := 2) hx hb dX1_swap_32 (by decide) ?_
      refine lv_iload hx hb dX1_swap_33 (lv_at hl 0 rfl) ?_
      refine n_imul hx hb 2 (z8 / 2) dX1_swap_35 ?_
      refine lv_aload_n hx hb dX1_swap_36 rfl (lv_at hl 3 rfl) ?_
      refine c_S (rest := [.int (nI (2 * (z8 / 2)))]) C (metX1_sizeOf l G t ra z8 rf (by omega) (by omega)) 1 (lw_S q676 q677 q39 q678) (by decide +kernel) ⟨rfl, rfl⟩ ⟨(Nat.le_of_ble_eq_true rfl), (Nat.le_of_ble_eq_true rfl)⟩ (KX_mv G) (hP.sub (ws' := [(ra, tA G t z8 rf)]) [9] rfl) hK hl rfl rfl (Nat.le_of_ble_eq_true rfl) ⟨(Nat.le_of_ble_eq_true rfl), (Nat.le_of_ble_eq_true rfl)⟩ dX1_swap_37 ?_
      refine n_ic_ge (x := 2 * (z8 / 2)) (y := z8) (tgt := 137) hx hb (by omega) (by omega) dX1_swap_40 (by decide) (fun c_3 => ?_) (fun c_3 => absurd c_3 (by omega))
      refine lv_iload hx hb dX1_swap_137 (lv_at hl 2 rfl) ?_
      exact n_iret (v := enc (swO r rf 0 (z8 / 2) (z8 / 2))) C (by simp [sSwapX, c_1, c_3]) dX1_swap_139
    intro n
    induction n with
    | zero =>
      intro i hi_2 ls hl
      obtain e_2 : i = z8 / 2 := by omega
      first | (subst e_2; exact hend_2 ls hl) | (rw [e_2] at hl; exact hend_2 ls hl)
    | succ n ih_2 =>
      intro i hi_2 ls hl
      refine lv_iconst (v := 2) hx hb dX1_swap_32 (by decide) ?_
      refine lv_iload hx hb dX1_swap_33 (lv_at hl 0 rfl) ?_
      refine n_imul hx hb 2 i dX1_swap_35 ?_
      refine lv_aload_n hx hb dX1_swap_36 rfl (lv_at hl 3 rfl) ?_
      refine c_S (rest := [.int (nI (2 * i))]) C (metX1_sizeOf l G t ra z8 rf (by omega) (by omega)) 1 (lw_S q676 q677 q39 q678) (by decide +kernel) ⟨rfl, rfl⟩ ⟨(Nat.le_of_ble_eq_true rfl), (Nat.le_of_ble_eq_true rfl)⟩ (KX_mv G) (hP.sub (ws' := [(ra, tA G t z8 rf)]) [9] rfl) hK hl rfl rfl (Nat.le_of_ble_eq_true rfl) ⟨(Nat.le_of_ble_eq_true rfl), (Nat.le_of_ble_eq_true rfl)⟩ dX1_swap_37 ?_
      refine n_ic_ge (x := 2 * i) (y := z8) (tgt := 137) hx hb (by omega) (by omega) dX1_swap_40 (by decide) (fun c_4 => absurd c_4 (by omega)) (fun c_4 => ?_)
      refine lv_iload hx hb dX1_swap_43 (lv_at hl 0 rfl) ?_
      refine lv_iconst (v := 1) hx hb dX1_swap_45 (by decide) ?_
      refine n_iadd hx hb i 1 dX1_swap_46 ?_
      refine lv_istore (lv' := [(7, .int (nI (i + 1))), (6, .int (nI i)), (5, .int (swB r rf 0 (swO r rf 0 (z8 / 2) i))), (4, .int (enc (swO r rf 0 (z8 / 2) i))), (3, .ref ra), (2, .int (sNPX r N z8 rf)), (0, .ref h), (1, .int (nI dn))]) hx hb dX1_swap_47 hl (Nat.le_of_ble_eq_true rfl) rfl (fun ls hl => ?_)
      suffices hlp_5 : (∀ (n j : Nat), j + n = z8 / 2 → i + 1 ≤ j → ∀ (ls : Array Slot), lv_has ls 9 [(7, .int (nI j)), (6, .int (nI i)), (5, .int (swB r rf 0 (swI r rf 0 i (swO r rf 0 (z8 / 2) i) j))), (4, .int (enc (swI r rf 0 i (swO r rf 0 (z8 / 2) i) j))), (3, .ref ra), (2, .int (sNPX r N z8 rf)), (0, .ref h), (1, .int (nI dn))] → W p0_ l e0_ ({ frames := 13, cells := 0, slots := 0, locals := 525 } : Room) s m args below meth c s.heap [] (0) (0) (MQ below (vp_Si (fun rr9 => rr9 = sSwapX r N z8 rf)) args s 0 0 (fun _ => False)) (F0 m 49 ls [])) by
        exact hlp_5 ((z8 / 2) - (i + 1)) (i + 1) (by omega) (Nat.le_refl _) ls (lv_sub hl [0, 1, 2, 3, 4, 5, 6, 7] (by rw [swI_0 _ _ _ _ _ _ (Nat.le_refl _)]; rfl))
      have hend_5 : ∀ (ls : Array Slot), lv_has ls 9 [(7, .int (nI (z8 / 2))), (6, .int (nI i)), (5, .int (swB r rf 0 (swI r rf 0 i (swO r rf 0 (z8 / 2) i) (z8 / 2)))), (4, .int (enc (swI r rf 0 i (swO r rf 0 (z8 / 2) i) (z8 / 2)))), (3, .ref ra), (2, .int (sNPX r N z8 rf)), (0, .ref h), (1, .int (nI dn))] → W p0_ l e0_ ({ frames := 13, cells := 0, slots := 0, locals := 525 } : Room) s m args below meth c s.heap [] (0) (0) (MQ below (vp_Si (fun rr9 => rr9 = sSwapX r N z8 rf)) args s 0 0 (fun _ => False)) (F0 m 49 ls []) := by
        intro ls hl
        refine lv_iconst (v := 2) hx hb dX1_swap_49 (by decide) ?_
        refine lv_iload hx hb dX1_swap_50 (lv_at hl 0 rfl) ?_
        refine n_imul hx hb 2 (z8 / 2) dX1_swap_52 ?_
        refine lv_aload_n hx hb dX1_swap_53 rfl (lv_at hl 4 rfl) ?_
        refine c_S (rest := [.int (nI (2 * (z8 / 2)))]) C (metX1_sizeOf l G t ra z8 rf (by omega) (by omega)) 1 (lw_S q676 q677 q39 q678) (by decide +kernel) ⟨rfl, rfl⟩ ⟨(Nat.le_of_ble_eq_true rfl), (Nat.le_of_ble_eq_true rfl)⟩ (KX_mv G) (hP.sub (ws' := [(ra, tA G t z8 rf)]) [9] rfl) hK hl rfl rfl (Nat.le_of_ble_eq_true rfl) ⟨(Nat.le_of_ble_eq_true rfl), (Nat.le_of_ble_eq_true rfl)⟩ dX1_swap_54 ?_
        refine n_ic_ge (x := 2 * (z8 / 2)) (y := z8) (tgt := 131) hx hb (by omega) (by omega) dX1_swap_57 (by decide) (fun c_6 => ?_) (fun c_6 => absurd c_6 (by omega))
        refine n_iinc (k := 1) (lv' := [(6, .int (nI (i + 1))), (7, .int (nI (z8 / 2))), (5, .int (swB r rf 0 (swI r rf 0 i (swO r rf 0 (z8 / 2) i) (z8 / 2)))), (4, .int (enc (swI r rf 0 i (swO r rf 0 (z8 / 2) i) (z8 / 2)))), (3, .ref ra), (2, .int (sNPX r N z8 rf)), (0, .ref h), (1, .int (nI dn))]) hx hb i 1 dX1_swap_131 hl rfl (Nat.le_of_ble_eq_true rfl) rfl (fun ls hl => ?_)
        refine lv_goto (tgt := 32) hx hb dX1_swap_134 (by decide) ?_
        have e_7 : swB r rf 0 (swO r rf 0 (z8 / 2) (i + 1)) = swB r rf 0 (swI r rf 0 i (swO r rf 0 (z8 / 2) i) (z8 / 2)) := by rw [swO, if_pos (by omega)]
        have e_8 : enc (swO r rf 0 (z8 / 2) (i + 1)) = enc (swI r rf 0 i (swO r rf 0 (z8 / 2) i) (z8 / 2)) := by rw [swO, if_pos (by omega)]
        exact ih_2 (i + 1) (by omega) ls (by rw [e_7, e_8]; exact lv_sub hl [0, 2, 3, 4, 5, 6, 7] rfl)
      intro n
      induction n with
      | zero =>
        intro j hi_5 hs_5 ls hl
        obtain e_5 : j = z8 / 2 := by omega
        first | (subst e_5; exact hend_5 ls hl) | (rw [e_5] at hl; exact hend_5 ls hl)
      | succ n ih_5 =>
        intro j hi_5 hs_5 ls hl
        obtain ⟨x1, hx1, qx1⟩ := npX_at (j := 2 * i) (by omega) (by omega) hnp
        obtain ⟨x2, hx2, qx2⟩ := npX_at (j := 2 * i + 1) (by omega) (by omega) hnp
        obtain ⟨x3, hx3, qx3⟩ := npX_at (j := 2 * j) (by omega) (by omega) hnp
        obtain ⟨x4, hx4, qx4⟩ := npX_at (j := 2 * j + 1) (by omega) (by omega) hnp
        have y1 : tn (rf (2 * i)) = x1 := by rw [qx1]; exact nI_clamp (by omega)
        have y2 : tn (rf (2 * i + 1)) = x2 := by rw [qx2]; exact nI_clamp (by omega)
        have y3 : tn (rf (2 * j)) = x3 := by rw [qx3]; exact nI_clamp (by omega)
        have y4 : tn (rf (2 * j + 1)) = x4 := by rw [qx4]; exact nI_clamp (by omega)
        refine lv_iconst (v := 2) hx hb dX1_swap_49 (by decide) ?_
        refine lv_iload hx hb dX1_swap_50 (lv_at hl 0 rfl) ?_
        refine n_imul hx hb 2 j dX1_swap_52 ?_
        refine lv_aload_n hx hb dX1_swap_53 rfl (lv_at hl 4 rfl) ?_
        refine c_S (rest := [.int (nI (2 * j))]) C (metX1_sizeOf l G t ra z8 rf (by omega) (by omega)) 1 (lw_S q676 q677 q39 q678) (by decide +kernel) ⟨rfl, rfl⟩ ⟨(Nat.le_of_ble_eq_true rfl), (Nat.le_of_ble_eq_true rfl)⟩ (KX_mv G) (hP.sub (ws' := [(ra, tA G t z8 rf)]) [9] rfl) hK hl rfl rfl (Nat.le_of_ble_eq_true rfl) ⟨(Nat.le_of_ble_eq_true rfl), (Nat.le_of_ble_eq_true rfl)⟩ dX1_swap_54 ?_
        refine n_ic_ge (x := 2 * j) (y := z8) (tgt := 131) hx hb (by omega) (by omega) dX1_swap_57 (by decide) (fun c_9 => absurd c_9 (by omega)) (fun c_9 => ?_)
        refine lv_aload_n hx hb dX1_swap_60 rfl (lv_at hl 6 rfl) ?_
        refine lv_aload_n hx hb dX1_swap_61 rfl (lv_at hl 4 rfl) ?_
        refine lv_iload hx hb dX1_swap_62 (lv_at hl 1 rfl) ?_
        refine lv_iload hx hb dX1_swap_64 (lv_at hl 0 rfl) ?_
        refine c_Vk (rest := []) C (metX1_joysIn l G h xa xi fn gm wh r N t ra z8 rf i j x1 x4 (by omega) (hr) (hwk) (by omega) (by omega) (by omega) (by omega) (qx1) (qx4) (by omega) (by omega)) 3 (lw_V q682 q684 qs19 q39 q685) (by decide +kernel) ⟨rfl, rfl⟩ ⟨(Nat.le_of_ble_eq_true rfl), (Nat.le_of_ble_eq_true rfl)⟩ (KG.call) (va_recv hK.1 hP (ci := 1) (q0 := 0) rfl rfl) (hP.sub (ws' := [(h, xO xa xi), (xa 0, fO fn r), (fn 0, qA G 3 9 wh), (fn 1, iA G 9 (fA r 2)), (fn 2, iA G 9 (fA r 3)), (fn 3, iA G 9 (fA r 4)), (fn 4, iA G 9 (fA r 5)), (ra, tA G t z8 rf)]) [0, 3, 4, 5, 6, 7, 8, 9] rfl) (KG.at hK hGP) hl rfl rfl (Nat.le_of_ble_eq_true rfl) ⟨(Nat.le_of_ble_eq_true rfl), (Nat.le_of_ble_eq_true rfl)⟩ dX1_swap_66 ?_
        refine lv_aload_n hx hb dX1_swap_69 rfl (lv_at hl 6 rfl) ?_
        refine lv_aload_n hx hb dX1_swap_70 rfl (lv_at hl 4 rfl) ?_
        refine lv_iload hx hb dX1_swap_71 (lv_at hl 0 rfl) ?_
        refine lv_iload hx hb dX1_swap_73 (lv_at hl 1 rfl) ?_
        refine c_Vk (rest := [.int (sJoy r x1 x4)]) C (metX1_joysIn l G h xa xi fn gm wh r N t ra z8 rf j i x3 x2 (by omega) (hr) (hwk) (by omega) (by omega) (by omega) (by omega) (qx3) (qx2) (by omega) (by omega)) 3 (lw_V q682 q684 qs19 q39 q685) (by decide +kernel) ⟨rfl, rfl⟩ ⟨(Nat.le_of_ble_eq_true rfl), (Nat.le_of_ble_eq_true rfl)⟩ (KG.call) (va_recv hK.1 hP (ci := 1) (q0 := 0) rfl rfl) (hP.sub (ws' := [(h, xO xa xi), (xa 0, fO fn r), (fn 0, qA G 3 9 wh), (fn 1, iA G 9 (fA r 2)), (fn 2, iA G 9 (fA r 3)), (fn 3, iA G 9 (fA r 4)), (fn 4, iA G 9 (fA r 5)), (ra, tA G t z8 rf)]) [0, 3, 4, 5, 6, 7, 8, 9] rfl) (KG.at hK hGP) hl rfl rfl (Nat.le_of_ble_eq_true rfl) ⟨(Nat.le_of_ble_eq_true rfl), (Nat.le_of_ble_eq_true rfl)⟩ dX1_swap_75 ?_
        refine lv_iadd (x := sJoy r x1 x4) (y := sJoy r x3 x2) hx hb dX1_swap_78 ?_
        refine lv_aload_n hx hb dX1_swap_79 rfl (lv_at hl 6 rfl) ?_
        refine lv_aload_n hx hb dX1_swap_80 rfl (lv_at hl 4 rfl) ?_
        refine lv_iload hx hb dX1_swap_81 (lv_at hl 1 rfl) ?_
        refine lv_iload hx hb dX1_swap_83 (lv_at hl 1 rfl) ?_
        refine c_Vk (rest := [.int ((sJoy r x1 x4) + (sJoy r x3 x2))]) C (metX1_joysIn l G h xa xi fn gm wh r N t ra z8 rf i i x1 x2 (by omega) (hr) (hwk) (by omega) (by omega) (by omega) (by omega) (qx1) (qx2) (by omega) (by omega)) 3 (lw_V q682 q684 qs19 q39 q685) (by decide +kernel) ⟨rfl, rfl⟩ ⟨(Nat.le_of_ble_eq_true rfl), (Nat.le_of_ble_eq_true rfl)⟩ (KG.call) (va_recv hK.1 hP (ci := 1) (q0 := 0) rfl rfl) (hP.sub (ws' := [(h, xO xa xi), (xa 0, fO fn r), (fn 0, qA G 3 9 wh), (fn 1, iA G 9 (fA r 2)), (fn 2, iA G 9 (fA r 3)), (fn 3, iA G 9 (fA r 4)), (fn 4, iA G 9 (fA r 5)), (ra, tA G t z8 rf)]) [0, 3, 4, 5, 6, 7, 8, 9] rfl) (KG.at hK hGP) hl rfl rfl (Nat.le_of_ble_eq_true rfl) ⟨(Nat.le_of_ble_eq_true rfl), (Nat.le_of_ble_eq_true rfl)⟩ dX1_swap_85 ?_
        refine lv_isub (x := (sJoy r x1 x4) + (sJoy r x3 x2)) (y := sJoy r x1 x2) hx hb dX1_swap_88 ?_
        refine lv_aload_n hx hb dX1_swap_89 rfl (lv_at hl 6 rfl) ?_
        refine lv_aload_n hx hb dX1_swap_90 rfl (lv_at hl 4 rfl) ?_
        refine lv_iload hx hb dX1_swap_91 (lv_at hl 0 rfl) ?_
        refine lv_iload hx hb dX1_swap_93 (lv_at hl 0 rfl) ?_
        refine c_Vk (rest := [.int (((sJoy r x1 x4) + (sJoy r x3 x2)) - (sJoy r x1 x2))]) C (metX1_joysIn l G h xa xi fn gm wh r N t ra z8 rf j j x3 x4 (by omega) (hr) (hwk) (by omega) (by omega) (by omega) (by omega) (qx3) (qx4) (by omega) (by omega)) 3 (lw_V q682 q684 qs19 q39 q685) (by decide +kernel) ⟨rfl, rfl⟩ ⟨(Nat.le_of_ble_eq_true rfl), (Nat.le_of_ble_eq_true rfl)⟩ (KG.call) (va_recv hK.1 hP (ci := 1) (q0 := 0) rfl rfl) (hP.sub (ws' := [(h, xO xa xi), (xa 0, fO fn r), (fn 0, qA G 3 9 wh), (fn 1, iA G 9 (fA r 2)), (fn 2, iA G 9 (fA r 3)), (fn 3, iA G 9 (fA r 4)), (fn 4, iA G 9 (fA r 5)), (ra, tA G t z8 rf)]) [0, 3, 4, 5, 6, 7, 8, 9] rfl) (KG.at hK hGP) hl rfl rfl (Nat.le_of_ble_eq_true rfl) ⟨(Nat.le_of_ble_eq_true rfl), (Nat.le_of_ble_eq_true rfl)⟩ dX1_swap_95 ?_
        refine lv_isub (x := ((sJoy r x1 x4) + (sJoy r x3 x2)) - (sJoy r x1 x2)) (y := sJoy r x3 x4) hx hb dX1_swap_98 ?_
        refine lv_istore (lv' := [(8, .int ((((sJoy r x1 x4) + (sJoy r x3 x2)) - (sJoy r x1 x2)) - (sJoy r x3 x4))), (7, .int (nI j)), (6, .int (nI i)), (5, .int (swB r rf 0 (swI r rf 0 i (swO r rf 0 (z8 / 2) i) j))), (4, .int (enc (swI r rf 0 i (swO r rf 0 (z8 / 2) i) j))), (3, .ref ra), (2, .int (sNPX r N z8 rf)), (0, .ref h), (1, .int (nI dn))]) hx hb dX1_swap_99 hl (Nat.le_of_ble_eq_true rfl) rfl (fun ls hl => ?_)
        refine lv_iload hx hb dX1_swap_101 (lv_at hl 0 rfl) ?_
        refine lv_iload hx hb dX1_swap_103 (lv_at hl 3 rfl) ?_
        refine lv_icmp_gt (x := (((sJoy r x1 x4) + (sJoy r x3 x2)) - (sJoy r x1 x2)) - (sJoy r x3 x4)) (y := swB r rf 0 (swI r rf 0 i (swO r rf 0 (z8 / 2) i) j)) (tgt := 111) hx hb dX1_swap_105 (by decide) (fun c_10 => ?_) (fun c_10 => ?_)
        · have zc_10 : ¬ ((((sJoy r x1 x4) + (sJoy r x3 x2)) - (sJoy r x1 x2)) - (sJoy r x3 x4)) ≤ (swB r rf 0 (swI r rf 0 i (swO r rf 0 (z8 / 2) i) j)) := Int32.not_le.mpr c_10
          refine lv_bipush (v := 10) hx hb dX1_swap_111 (by decide) ?_
          refine lv_iload hx hb dX1_swap_113 (lv_at hl 2 rfl) ?_
          refine n_imul hx hb 10 i dX1_swap_115 ?_
          refine lv_iload hx hb dX1_swap_116 (lv_at hl 1 rfl) ?_
          refine n_iadd hx hb (10 * i) j dX1_swap_118 ?_
          refine lv_istore (lv' := [(4, .int (nI ((10 * i) + j))), (8, .int ((((sJoy r x1 x4) + (sJoy r x3 x2)) - (sJoy r x1 x2)) - (sJoy r x3 x4))), (7, .int (nI j)), (6, .int (nI i)), (5, .int (swB r rf 0 (swI r rf 0 i (swO r rf 0 (z8 / 2) i) j))), (3, .ref ra), (2, .int (sNPX r N z8 rf)), (0, .ref h), (1, .int (nI dn))]) hx hb dX1_swap_119 hl (Nat.le_of_ble_eq_true rfl) rfl (fun ls hl => ?_)
          refine lv_iload hx hb dX1_swap_121 (lv_at hl 1 rfl) ?_
          refine lv_istore (lv' := [(5, .int ((((sJoy r x1 x4) + (sJoy r x3 x2)) - (sJoy r x1 x2)) - (sJoy r x3 x4))), (4, .int (nI ((10 * i) + j))), (8, .int ((((sJoy r x1 x4) + (sJoy r x3 x2)) - (sJoy r x1 x2)) - (sJoy r x3 x4))), (7, .int (nI j)), (6, .int (nI i)), (3, .ref ra), (2, .int (sNPX r N z8 rf)), (0, .ref h), (1, .int (nI dn))]) hx hb dX1_swap_123 hl (Nat.le_of_ble_eq_true rfl) rfl (fun ls hl => ?_)
          refine n_iinc (k := 3) (lv' := [(7, .int (nI (j + 1))), (5, .int ((((sJoy r x1 x4) + (sJoy r x3 x2)) - (sJoy r x1 x2)) - (sJoy r x3 x4))), (4, .int (nI ((10 * i) + j))), (8, .int ((((sJoy r x1 x4) + (sJoy r x3 x2)) - (sJoy r x1 x2)) - (sJoy r x3 x4))), (6, .int (nI i)), (3, .ref ra), (2, .int (sNPX r N z8 rf)), (0, .ref h), (1, .int (nI dn))]) hx hb j 1 dX1_swap_125 hl rfl (Nat.le_of_ble_eq_true rfl) rfl (fun ls hl => ?_)
          refine lv_goto (tgt := 49) hx hb dX1_swap_128 (by decide) ?_
          have e_11 : swB r rf 0 (swI r rf 0 i (swO r rf 0 (z8 / 2) i) (j + 1)) = (((sJoy r x1 x4) + (sJoy r x3 x2)) - (sJoy r x1 x2)) - (sJoy r x3 x4) := by rw [swI, if_pos (by omega)]; simp [swS, swBS, swV, encS, Nat.zero_add, y1, y2, y3, y4, c_9, c_10, zc_10]
          have e_12 : enc (swI r rf 0 i (swO r rf 0 (z8 / 2) i) (j + 1)) = nI ((10 * i) + j) := by rw [swI, if_pos (by omega)]; simp [swS, swBS, swV, encS, Nat.zero_add, y1, y2, y3, y4, c_9, c_10, zc_10]
          exact ih_5 (j + 1) (by omega) (by omega) ls (by rw [e_11, e_12]; exact lv_sub hl [0, 4, 1, 2, 5, 6, 7, 8] rfl)
        · have zc_10 : ((((sJoy r x1 x4) + (sJoy r x3 x2)) - (sJoy r x1 x2)) - (sJoy r x3 x4)) ≤ (swB r rf 0 (swI r rf 0 i (swO r rf 0 (z8 / 2) i) j)) := Int32.not_lt.mp c_10
          refine lv_goto (tgt := 125) hx hb dX1_swap_108 (by decide) ?_
          refine n_iinc (k := 1) (lv' := [(7, .int (nI (j + 1))), (8, .int ((((sJoy r x1 x4) + (sJoy r x3 x2)) - (sJoy r x1 x2)) - (sJoy r x3 x4))), (6, .int (nI i)), (5, .int (swB r rf 0 (swI r rf 0 i (swO r rf 0 (z8 / 2) i) j))), (4, .int (enc (swI r rf 0 i (swO r rf 0 (z8 / 2) i) j))), (3, .ref ra), (2, .int (sNPX r N z8 rf)), (0, .ref h), (1, .int (nI dn))]) hx hb j 1 dX1_swap_125 hl rfl (Nat.le_of_ble_eq_true rfl) rfl (fun ls hl => ?_)
          refine lv_goto (tgt := 49) hx hb dX1_swap_128 (by decide) ?_
          have e_13 : swB r rf 0 (swI r rf 0 i (swO r rf 0 (z8 / 2) i) (j + 1)) = swB r rf 0 (swI r rf 0 i (swO r rf 0 (z8 / 2) i) j) := by rw [swI, if_pos (by omega)]; simp [swS, swBS, swV, encS, Nat.zero_add, y1, y2, y3, y4, c_9, c_10, zc_10]
          have e_14 : enc (swI r rf 0 i (swO r rf 0 (z8 / 2) i) (j + 1)) = enc (swI r rf 0 i (swO r rf 0 (z8 / 2) i) j) := by rw [swI, if_pos (by omega)]; simp [swS, swBS, swV, encS, Nat.zero_add, y1, y2, y3, y4, c_9, c_10, zc_10]
          exact ih_5 (j + 1) (by omega) (by omega) ls (by rw [e_13, e_14]; exact lv_sub hl [0, 2, 3, 4, 5, 6, 7, 8] rfl)
  · refine lv_iload_n hx hb dX1_swap_10 rfl (lv_at hl 0 rfl) ?_
    exact n_iret (v := sNPX r N z8 rf) C (by simp [sSwapX, c_1]) dX1_swap_11

set_option maxHeartbeats 4000000 in
set_option maxRecDepth 100000 in
theorem metX1_isThroat (l : Launch) (G : GG) (t ra z8 : Nat) (rf : Nat → Int32) (u w : Int32) (ht : t < 3) (hz8 : z8 ≤ 100) : MR l yX1_isThroat cX1_isThroat 6 (some .boolean) ({ frames := 1, cells := 0, slots := 0, locals := 30 }) [.ref ra, .int u, .int w] [(ra, tA G t z8 rf)] G (KX G) (bI (tk rf 0 u w z8)) := by
  -- rows printed by wip/tools/gen.py
  refine mr_mk RX1 (by decide) rfl (Nat.le_of_ble_eq_true rfl) ?_
  intro p0_ e0_ s m args below meth c C hP hK ls hl
  have hx := C.1
  have hb := C.2.1
  have hml := C.2.2.2.2.1
  have hown := C.2.2.2.2.2.1
  have hts := C.2.2.2.2.2.2
  have hl : lv_has ls 6 [(0, .ref ra), (1, .int u), (2, .int w)] := hl
  refine lv_iload_n hx hb dX1_isThroat_0 rfl (lv_at hl 1 rfl) ?_
  refine lv_istore_n (lv' := [(3, .int u), (0, .ref ra), (1, .int u), (2, .int w)]) hx hb dX1_isThroat_1 rfl hl (Nat.le_of_ble_eq_true rfl) rfl (fun ls hl => ?_)
  refine lv_iconst (v := 0) hx hb dX1_isThroat_2 (by decide) ?_
  refine lv_istore (lv' := [(4, .int 0), (3, .int u), (0, .ref ra), (1, .int u), (2, .int w)]) hx hb dX1_isThroat_3 hl (Nat.le_of_ble_eq_true rfl) rfl (fun ls hl => ?_)
  suffices hlp_1 : (∀ (n i : Nat), i + n = z8 → (tk rf 0 u w i = true) → ∀ (ls : Array Slot), lv_has ls 6 [(4, .int (nI i)), (3, .int (tl u w i)), (0, .ref ra), (1, .int u), (2, .int w)] → W p0_ l e0_ ({ frames := 1, cells := 0, slots := 0, locals := 30 } : Room) s m args below meth c s.heap [] (0) (0) (MQ below (vp_Si (fun rr9 => rr9 = bI (tk rf 0 u w z8))) args s 0 0 (fun _ => False)) (F0 m 5 ls [])) by
    exact hlp_1 (z8) 0 (by omega) (rfl) ls (lv_sub hl [0, 1, 2, 3, 4] rfl)
  have hend_1 : (tk rf 0 u w z8 = true) → ∀ (ls : Array Slot), lv_has ls 6 [(4, .int (nI z8)), (3, .int (tl u w z8)), (0, .ref ra), (1, .int u), (2, .int w)] → W p0_ l e0_ ({ frames := 1, cells := 0, slots := 0, locals := 30 } : Room) s m args below meth c s.heap [] (0) (0) (MQ below (vp_Si (fun rr9 => rr9 = bI (tk rf 0 u w z8))) args s 0 0 (fun _ => False)) (F0 m 5 ls []) := by
    intro hk9 ls hl
    refine lv_iload hx hb dX1_isThroat_5 (lv_at hl 0 rfl) ?_
    refine lv_aload_n hx hb dX1_isThroat_7 rfl (lv_at hl 2 rfl) ?_
    refine c_S (rest := [.int (nI z8)]) C (metX1_sizeOf l G t ra z8 rf (by omega) (by omega)) 1 (lw_S q676 q677 q39 q678) (by decide +kernel) ⟨rfl, rfl⟩ ⟨(Nat.le_of_ble_eq_true rfl), (Nat.le_of_ble_eq_true rfl)⟩ (KX_mv G) hP hK hl rfl rfl (Nat.le_of_ble_eq_true rfl) ⟨(Nat.le_of_ble_eq_true rfl), (Nat.le_of_ble_eq_true rfl)⟩ dX1_isThroat_8 ?_
    refine n_ic_ge (x := z8) (y := z8) (tgt := 45) hx hb (by omega) (by omega) dX1_isThroat_11 (by decide) (fun c_2 => ?_) (fun c_2 => absurd c_2 (by omega))
    refine lv_iconst (v := 1) hx hb dX1_isThroat_45 (by decide) ?_
    exact n_zret (v := true) C (by rw [hk9]) dX1_isThroat_46
  intro n
  induction n with
  | zero =>
    intro i hi_1 hk9 ls hl
    obtain e_1 : i = z8 := by omega
    first | (subst e_1; exact hend_1 hk9 ls hl) | (rw [e_1] at hl; exact hend_1 hk9 ls hl)
  | succ n ih_1 =>
    intro i hi_1 hk9 ls hl
    refine lv_iload hx hb dX1_isThroat_5 (lv_at hl 0 rfl) ?_
    refine lv_aload_n hx hb dX1_isThroat_7 rfl (lv_at hl 2 rfl) ?_
    refine c_S (rest := [.int (nI i)]) C (metX1_sizeOf l G t ra z8 rf (by omega) (by omega)) 1 (lw_S q676 q677 q39 q678) (by decide +kernel) ⟨rfl, rfl⟩ ⟨(Nat.le_of_ble_eq_true rfl), (Nat.le_of_ble_eq_true rfl)⟩ (KX_mv G) hP hK hl rfl rfl (Nat.le_of_ble_eq_true rfl) ⟨(Nat.le_of_ble_eq_true rfl), (Nat.le_of_ble_eq_true rfl)⟩ dX1_isThroat_8 ?_
    refine n_ic_ge (x := i) (y := z8) (tgt := 45) hx hb (by omega) (by omega) dX1_isThroat_11 (by decide) (fun c_3 => absurd c_3 (by omega)) (fun c_3 => ?_)
    refine lv_iload_n hx hb dX1_isThroat_14 rfl (lv_at hl 1 rfl) ?_
    refine lv_iload_n hx hb dX1_isThroat_15 rfl (lv_at hl 4 rfl) ?_
    refine n_mmin (x := tl u w i) (y := w) C q606 q441 q60 q442 hl ⟨(Nat.le_of_ble_eq_true rfl), (Nat.le_of_ble_eq_true rfl)⟩ (Nat.le_of_ble_eq_true rfl) ⟨(Nat.le_of_ble_eq_true rfl), (Nat.le_of_ble_eq_true rfl)⟩ dX1_isThroat_16 ?_
    refine lv_istore (lv' := [(5, .int (mn (tl u w i) w)), (4, .int (nI i)), (3, .int (tl u w i)), (0, .ref ra), (1, .int u), (2, .int w)]) hx hb dX1_isThroat_19 hl (Nat.le_of_ble_eq_true rfl) rfl (fun ls hl => ?_)
    refine lv_aload_n hx hb dX1_isThroat_21 rfl (lv_at hl 3 rfl) ?_
    refine lv_iload hx hb dX1_isThroat_22 (lv_at hl 1 rfl) ?_
    refine c_S (rest := []) C (metX1_elementOf l G t ra z8 rf i (by omega) (by omega) (by omega)) 2 (lw_S q679 q680 q39 q681) (by decide +kernel) ⟨rfl, rfl⟩ ⟨(Nat.le_of_ble_eq_true rfl), (Nat.le_of_ble_eq_true rfl)⟩ (KX_mv G) hP hK hl rfl rfl (Nat.le_of_ble_eq_true rfl) ⟨(Nat.le_of_ble_eq_true rfl), (Nat.le_of_ble_eq_true rfl)⟩ dX1_isThroat_24 ?_
    refine lv_iload hx hb dX1_isThroat_27 (lv_at hl 0 rfl) ?_
    refine lv_icmp_eq (x := rf i) (y := mn (tl u w i) w) (tgt := 34) hx hb dX1_isThroat_29 (by decide) (fun c_4 => ?_) (fun c_4 => ?_)
    · refine lv_iload_n hx hb dX1_isThroat_34 rfl (lv_at hl 2 rfl) ?_
      refine lv_iload hx hb dX1_isThroat_35 (lv_at hl 0 rfl) ?_
      refine lv_isub (x := tl u w i) (y := mn (tl u w i) w) hx hb dX1_isThroat_37 ?_
      refine lv_istore_n (lv' := [(3, .int ((tl u w i) - (mn (tl u w i) w))), (5, .int (mn (tl u w i) w)), (4, .int (nI i)), (0, .ref ra), (1, .int u), (2, .int w)]) hx hb dX1_isThroat_38 rfl hl (Nat.le_of_ble_eq_true rfl) rfl (fun ls hl => ?_)
      refine n_iinc (k := 2) (lv' := [(4, .int (nI (i + 1))), (3, .int ((tl u w i) - (mn (tl u w i) w))), (5, .int (mn (tl u w i) w)), (0, .ref ra), (1, .int u), (2, .int w)]) hx hb i 1 dX1_isThroat_39 hl rfl (Nat.le_of_ble_eq_true rfl) rfl (fun ls hl => ?_)
      refine lv_goto (tgt := 5) hx hb dX1_isThroat_42 (by decide) ?_
      have e_5 : tl u w (i + 1) = (tl u w i) - (mn (tl u w i) w) := by rfl
      exact ih_1 (i + 1) (by omega) (by simp [tk, Nat.zero_add, hk9, c_3, c_4]) ls (by rw [e_5]; exact lv_sub hl [0, 1, 3, 4, 5] rfl)
    · refine lv_iconst (v := 0) hx hb dX1_isThroat_32 (by decide) ?_
      exact n_zret (v := false) C (by rw [tk_no (j := i + 1) (by omega) (by simp [tk, Nat.zero_add, hk9, c_3, c_4])]) dX1_isThroat_33

set_option maxHeartbeats 4000000 in
set_option maxRecDepth 100000 in
theorem metJ6_bitCount (l : Launch) (G : GG) (v : Int32) : MR l yJ6_bitCount cJ6_bitCount 1 (some .int) ({ frames := 0, cells := 0, slots := 0, locals := 0 }) [.int v] [] G (KM G) (bcX v) := by
  -- rows printed by wip/tools/gen.py
  refine mr_mk RJ6 (by decide) rfl (Nat.le_of_ble_eq_true rfl) ?_
  intro p0_ e0_ s m args below meth c C hP hK ls hl
  have hx := C.1
  have hb := C.2.1
  have hml := C.2.2.2.2.1
  have hown := C.2.2.2.2.2.1
  have hts := C.2.2.2.2.2.2
  have hl : lv_has ls 1 [(0, .int v)] := hl
  refine lv_iload_n hx hb dJ6_bitCount_0 rfl (lv_at hl 0 rfl) ?_
  refine lv_iload_n hx hb dJ6_bitCount_1 rfl (lv_at hl 0 rfl) ?_
  refine lv_iconst (v := 1) hx hb dJ6_bitCount_2 (by decide) ?_
  refine lv_iushr (x := v) (y := 1) (v := (v.toUInt32 >>> (Int32.toUInt32 1 &&& Int32.toUInt32 31)).toInt32) hx hb dJ6_bitCount_3 rfl ?_
  refine lv_ldcw (own := RJ6) (v := 1431655765) hx hb hown (hts _ q696) dJ6_bitCount_4 ?_
  refine lv_iand (x := (v.toUInt32 >>> (Int32.toUInt32 1 &&& Int32.toUInt32 31)).toInt32) (y := 1431655765) hx hb dJ6_bitCount_7 ?_
  refine lv_isub (x := v) (y := ((v.toUInt32 >>> (Int32.toUInt32 1 &&& Int32.toUInt32 31)).toInt32) &&& 1431655765) hx hb dJ6_bitCount_8 ?_
  refine n_eqi (rfl) ?_
  refine lv_istore_n (lv' := [(0, .int (bc1 v))]) hx hb dJ6_bitCount_9 rfl hl (Nat.le_of_ble_eq_true rfl) rfl (fun ls hl => ?_)
  refine lv_iload_n hx hb dJ6_bitCount_10 rfl (lv_at hl 0 rfl) ?_
  refine lv_ldcw (own := RJ6) (v := 858993459) hx hb hown (hts _ q697) dJ6_bitCount_11 ?_
  refine lv_iand (x := bc1 v) (y := 858993459) hx hb dJ6_bitCount_14 ?_
  refine lv_iload_n hx hb dJ6_bitCount_15 rfl (lv_at hl 0 rfl) ?_
  refine lv_iconst (v := 2) hx hb dJ6_bitCount_16 (by decide) ?_
  refine lv_iushr (x := bc1 v) (y := 2) (v := ((bc1 v).toUInt32 >>> (Int32.toUInt32 2 &&& Int32.toUInt32 31)).toInt32) hx hb dJ6_bitCount_17 rfl ?_
  refine lv_ldcw (own := RJ6) (v := 858993459) hx hb hown (hts _ q697) dJ6_bitCount_18 ?_
  refine lv_iand (x := ((bc1 v).toUInt32 >>> (Int32.toUInt32 2 &&& Int32.toUInt32 31)).toInt32) (y := 858993459) hx hb dJ6_bitCount_21 ?_
  refine lv_iadd (x := (bc1 v) &&& 858993459) (y := (((bc1 v).toUInt32 >>> (Int32.toUInt32 2 &&& Int32.toUInt32 31)).toInt32) &&& 858993459) hx hb dJ6_bitCount_22 ?_
  refine n_eqi (rfl) ?_
  refine lv_istore_n (lv' := [(0, .int (bc2 (bc1 v)))]) hx hb dJ6_bitCount_23 rfl hl (Nat.le_of_ble_eq_true rfl) rfl (fun ls hl => ?_)
  refine lv_iload_n hx hb dJ6_bitCount_24 rfl (lv_at hl 0 rfl) ?_
  refine lv_iload_n hx hb dJ6_bitCount_25 rfl (lv_at hl 0 rfl) ?_
  refine lv_iconst (v := 4) hx hb dJ6_bitCount_26 (by decide) ?_
  refine lv_iushr (x := bc2 (bc1 v)) (y := 4) (v := ((bc2 (bc1 v)).toUInt32 >>> (Int32.toUInt32 4 &&& Int32.toUInt32 31)).toInt32) hx hb dJ6_bitCount_27 rfl ?_
  refine lv_iadd (x := bc2 (bc1 v)) (y := ((bc2 (bc1 v)).toUInt32 >>> (Int32.toUInt32 4 &&& Int32.toUInt32 31)).toInt32) hx hb dJ6_bitCount_28 ?_
  refine lv_ldcw (own := RJ6) (v := 252645135) hx hb hown (hts _ q698) dJ6_bitCount_29 ?_
  refine lv_iand (x := (bc2 (bc1 v)) + (((bc2 (bc1 v)).toUInt32 >>> (Int32.toUInt32 4 &&& Int32.toUInt32 31)).toInt32)) (y := 252645135) hx hb dJ6_bitCount_32 ?_
  refine n_eqi (rfl) ?_
  refine lv_istore_n (lv' := [(0, .int (bc3 (bc2 (bc1 v))))]) hx hb dJ6_bitCount_33 rfl hl (Nat.le_of_ble_eq_true rfl) rfl (fun ls hl => ?_)
  refine lv_iload_n hx hb dJ6_bitCount_34 rfl (lv_at hl 0 rfl) ?_
  refine lv_iload_n hx hb dJ6_bitCount_35 rfl (lv_at hl 0 rfl) ?_
  refine lv_bipush (v := 8) hx hb dJ6_bitCount_36 (by decide) ?_
  refine lv_iushr (x := bc3 (bc2 (bc1 v))) (y := 8) (v := ((bc3 (bc2 (bc1 v))).toUInt32 >>> (Int32.toUInt32 8 &&& Int32.toUInt32 31)).toInt32) hx hb dJ6_bitCount_38 rfl ?_
  refine lv_iadd (x := bc3 (bc2 (bc1 v))) (y := ((bc3 (bc2 (bc1 v))).toUInt32 >>> (Int32.toUInt32 8 &&& Int32.toUInt32 31)).toInt32) hx hb dJ6_bitCount_39 ?_
  refine n_eqi (rfl) ?_
  refine lv_istore_n (lv' := [(0, .int (bc4 (bc3 (bc2 (bc1 v)))))]) hx hb dJ6_bitCount_40 rfl hl (Nat.le_of_ble_eq_true rfl) rfl (fun ls hl => ?_)
  refine lv_iload_n hx hb dJ6_bitCount_41 rfl (lv_at hl 0 rfl) ?_
  refine lv_iload_n hx hb dJ6_bitCount_42 rfl (lv_at hl 0 rfl) ?_
  refine lv_bipush (v := 16) hx hb dJ6_bitCount_43 (by decide) ?_
  refine lv_iushr (x := bc4 (bc3 (bc2 (bc1 v)))) (y := 16) (v := ((bc4 (bc3 (bc2 (bc1 v)))).toUInt32 >>> (Int32.toUInt32 16 &&& Int32.toUInt32 31)).toInt32) hx hb dJ6_bitCount_45 rfl ?_
  refine lv_iadd (x := bc4 (bc3 (bc2 (bc1 v)))) (y := ((bc4 (bc3 (bc2 (bc1 v)))).toUInt32 >>> (Int32.toUInt32 16 &&& Int32.toUInt32 31)).toInt32) hx hb dJ6_bitCount_46 ?_
  refine n_eqi (rfl) ?_
  refine lv_istore_n (lv' := [(0, .int (bc5 (bc4 (bc3 (bc2 (bc1 v))))))]) hx hb dJ6_bitCount_47 rfl hl (Nat.le_of_ble_eq_true rfl) rfl (fun ls hl => ?_)
  refine lv_iload_n hx hb dJ6_bitCount_48 rfl (lv_at hl 0 rfl) ?_
  refine lv_bipush (v := 63) hx hb dJ6_bitCount_49 (by decide) ?_
  refine lv_iand (x := bc5 (bc4 (bc3 (bc2 (bc1 v))))) (y := 63) hx hb dJ6_bitCount_51 ?_
  exact n_iret (v := (bc5 (bc4 (bc3 (bc2 (bc1 v))))) &&& 63) C (rfl) dJ6_bitCount_52
