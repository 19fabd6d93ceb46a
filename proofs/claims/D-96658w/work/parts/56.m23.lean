def sThW (u f what why : Int32) : Int32 := if sIn u 0 30 = false then -1 else if sIn f 0 9 = false then -1 else if sIn what 0 1 = false then -1 else why
set_option maxHeartbeats 4000000 in
set_option maxRecDepth 100000 in
theorem metX1_throat_r (l : Launch) (G : GG) (h : Nat) (xa : Nat → Nat) (xi : Nat → Int32) (sh : Nat → Nat) (dn : Nat) (t ra z8 : Nat) (rf : Nat → Int32) (u f what : Int32) (hdn : dn ≤ 7) (ht : t < 3) (hz8 : z8 ≤ 100) : MW l yX1_throat cX1_throat 8 (some .int) ({ frames := 6, cells := 8, slots := 8, locals := 200 }) [.ref h, .int (nI dn), .int u, .int f, .int what] [(h, xO xa xi), (xa 8, qA G 5 8 (shf sh)), (sh dn, .inr (3, [.ref ra])), (ra, tA G t z8 rf)] G (KX G) 8 8 (fun rv w1 => rv = sThroatX z8 rf u f what ∧ w1 = [(h, xO xa xi), (xa 8, qA G 5 8 (shf sh)), (sh dn, .inr (3, [.ref ra])), (ra, tA G t z8 rf)]) := by
  -- rows printed by wip/tools/gen.py
  refine mw_mk RX1 (by decide) rfl (Nat.le_of_ble_eq_true rfl) ?_
  intro p0_ e0_ s m args below meth c A C hA hP hK hD ls hl
  have hx := C.1
  have hb := C.2.1
  have hml := C.2.2.2.2.1
  have hown := C.2.2.2.2.2.1
  have hts := C.2.2.2.2.2.2
  have hS : va_S A s.heap s.heap [] := va_S.rf
  have hl : lv_has ls 8 [(0, .ref h), (1, .int (nI dn)), (2, .int u), (3, .int f), (4, .int what)] := hl
  refine lv_iload_n hx hb dX1_throat_0 rfl (lv_at hl 2 rfl) ?_
  refine c_S (rest := []) C (metX1_isFeeling l G u) 1 (lw_S q281 q282 q39 q283) (by decide +kernel) ⟨rfl, rfl⟩ ⟨(Nat.le_of_ble_eq_true rfl), (Nat.le_of_ble_eq_true rfl)⟩ (KM_mv G) (hP.sub (ws' := []) [] rfl) hK.1 hl rfl rfl (Nat.le_of_ble_eq_true rfl) ⟨(Nat.le_of_ble_eq_true rfl), (Nat.le_of_ble_eq_true rfl)⟩ dX1_throat_1 ?_
  refine n_if_eqB (b := (sIn u 0 30)) (tgt := 24) hx hb dX1_throat_4 (by decide) (fun c_1 => ?_) (fun c_1 => ?_)
  · refine lv_iconst (v := (-1)) hx hb dX1_throat_24 (by decide) ?_
    exact n_iretW (v := (-1)) (w1 := [(h, xO xa xi), (xa 8, qA G 5 8 (shf sh)), (sh dn, .inr (3, [.ref ra])), (ra, tA G t z8 rf)]) C (⟨by simp [sThroatX, c_1], rfl⟩) hP hD hS (by first | omega | decide) (by first | omega | decide) dX1_throat_25
  · obtain ⟨u_2, hu_2, gu_2, rfl⟩ := sIn_t (a := 0) (b := 30) (by omega) (by omega) c_1
    have tu_2 : tn (nI u_2) = u_2 := nI_clamp (by omega)
    refine lv_iload_n hx hb dX1_throat_7 rfl (lv_at hl 3 rfl) ?_
    refine c_S (rest := []) C (metX1_isNine l G f) 1 (lw_S q635 q636 q39 q637) (by decide +kernel) ⟨rfl, rfl⟩ ⟨(Nat.le_of_ble_eq_true rfl), (Nat.le_of_ble_eq_true rfl)⟩ (KM_mv G) (hP.sub (ws' := []) [] rfl) hK.1 hl rfl rfl (Nat.le_of_ble_eq_true rfl) ⟨(Nat.le_of_ble_eq_true rfl), (Nat.le_of_ble_eq_true rfl)⟩ dX1_throat_8 ?_
    refine n_if_eqB (b := (sIn f 0 9)) (tgt := 24) hx hb dX1_throat_11 (by decide) (fun c_3 => ?_) (fun c_3 => ?_)
    · refine lv_iconst (v := (-1)) hx hb dX1_throat_24 (by decide) ?_
      exact n_iretW (v := (-1)) (w1 := [(h, xO xa xi), (xa 8, qA G 5 8 (shf sh)), (sh dn, .inr (3, [.ref ra])), (ra, tA G t z8 rf)]) C (⟨by simp [sThroatX, c_1, tu_2, c_3], rfl⟩) hP hD hS (by first | omega | decide) (by first | omega | decide) dX1_throat_25
    · obtain ⟨f_4, hf_4, gf_4, rfl⟩ := sIn_t (a := 0) (b := 9) (by omega) (by omega) c_3
      have tf_4 : tn (nI f_4) = f_4 := nI_clamp (by omega)
      refine lv_iload hx hb dX1_throat_14 (lv_at hl 4 rfl) ?_
      refine lv_iconst (v := 0) hx hb dX1_throat_16 (by decide) ?_
      refine lv_iconst (v := 1) hx hb dX1_throat_17 (by decide) ?_
      refine c_S (rest := []) C (metX1_isIn l G what 0 1) 3 (lw_S q171 q172 q39 q173) (by decide +kernel) ⟨rfl, rfl⟩ ⟨(Nat.le_of_ble_eq_true rfl), (Nat.le_of_ble_eq_true rfl)⟩ (KM_mv G) (hP.sub (ws' := []) [] rfl) hK.1 hl rfl rfl (Nat.le_of_ble_eq_true rfl) ⟨(Nat.le_of_ble_eq_true rfl), (Nat.le_of_ble_eq_true rfl)⟩ dX1_throat_18 ?_
      refine n_if_neB (b := (sIn what 0 1)) (tgt := 26) hx hb dX1_throat_21 (by decide) (fun c_5 => ?_) (fun c_5 => ?_)
      · obtain ⟨what_6, hwhat_6, gwhat_6, rfl⟩ := sIn_t (a := 0) (b := 1) (by omega) (by omega) c_5
        have twhat_6 : tn (nI what_6) = what_6 := nI_clamp (by omega)
        refine lv_aload_n hx hb dX1_throat_26 rfl (lv_at hl 0 rfl) ?_
        refine lv_iload_n hx hb dX1_throat_27 rfl (lv_at hl 1 rfl) ?_
        refine c_V (rest := []) C (metX1_notRow_r l G h xa xi sh dn t ra z8 rf (by omega) (by omega) (by omega)) 1 (lw_V q667 q669 qs18 q39 q670) (by decide +kernel) ⟨rfl, rfl⟩ ⟨(Nat.le_of_ble_eq_true rfl), (Nat.le_of_ble_eq_true rfl)⟩ (KX_mv G) (va_recv hK.1 hP (ci := 1) (q0 := 0) rfl rfl) hP hK hl rfl rfl (Nat.le_of_ble_eq_true rfl) ⟨(Nat.le_of_ble_eq_true rfl), (Nat.le_of_ble_eq_true rfl)⟩ dX1_throat_28 ?_
        refine lv_istore (lv' := [(5, .int 0), (0, .ref h), (1, .int (nI dn)), (2, .int (nI u_2)), (3, .int (nI f_4)), (4, .int (nI what_6))]) hx hb dX1_throat_31 hl (Nat.le_of_ble_eq_true rfl) rfl (fun ls hl => ?_)
        refine lv_iload hx hb dX1_throat_33 (lv_at hl 0 rfl) ?_
        refine lv_if_eq (x := 0) (tgt := 41) hx hb dX1_throat_35 (by decide) (fun c_7 => ?_) (fun c_7 => absurd c_7 (by decide))
        refine lv_iconst (v := 0) hx hb dX1_throat_41 (by decide) ?_
        refine lv_istore (lv' := [(6, .int 0), (5, .int 0), (0, .ref h), (1, .int (nI dn)), (2, .int (nI u_2)), (3, .int (nI f_4)), (4, .int (nI what_6))]) hx hb dX1_throat_42 hl (Nat.le_of_ble_eq_true rfl) rfl (fun ls hl => ?_)
        refine lv_iconst (v := 0) hx hb dX1_throat_44 (by decide) ?_
        refine lv_istore (lv' := [(7, .int 0), (6, .int 0), (5, .int 0), (0, .ref h), (1, .int (nI dn)), (2, .int (nI u_2)), (3, .int (nI f_4)), (4, .int (nI what_6))]) hx hb dX1_throat_45 hl (Nat.le_of_ble_eq_true rfl) rfl (fun ls hl => ?_)
        suffices hlp_8 : (∀ (n k : Nat), k + n = 8 → ∀ (H : Heap) (locs : List Loc), PP G [(h, xO xa xi), (xa 8, qA G 5 8 (shf sh)), (sh dn, .inr (3, [.ref ra])), (ra, tA G t z8 rf)] H → va_D A [(h, xO xa xi), (xa 8, qA G 5 8 (shf sh)), (sh dn, .inr (3, [.ref ra])), (ra, tA G t z8 rf)] → va_S A s.heap H locs → ∀ (ls : Array Slot), lv_has ls 8 [(7, .int (nI k)), (6, .int (thS rf 0 z8 (nI u_2) (nI f_4) k)), (5, .int 0), (0, .ref h), (1, .int (nI dn)), (2, .int (nI u_2)), (3, .int (nI f_4)), (4, .int (nI what_6))] → W p0_ l e0_ ({ frames := 6, cells := 8, slots := 8, locals := 200 } : Room) s m args below meth c H locs (k) (k) (MQ below (va_Qi (S := va_W) (fun rv w1 => rv = sThroatX z8 rf (nI u_2) (nI f_4) (nI what_6) ∧ w1 = [(h, xO xa xi), (xa 8, qA G 5 8 (shf sh)), (sh dn, .inr (3, [.ref ra])), (ra, tA G t z8 rf)]) (fun w1 t => PP G w1 t.heap ∧ va_D A w1) A) args s 8 8 A) (F0 m 47 ls [])) by
          exact hlp_8 (8) 0 (by omega) _ _ (hP.sub [0, 1, 2, 3] rfl) (hD.sub [0, 1, 2, 3] (by decide) rfl) hS ls (lv_sub hl [0, 1, 2, 3, 4, 5, 6, 7] rfl)
        have hend_8 : ∀ (H : Heap) (locs : List Loc), PP G [(h, xO xa xi), (xa 8, qA G 5 8 (shf sh)), (sh dn, .inr (3, [.ref ra])), (ra, tA G t z8 rf)] H → va_D A [(h, xO xa xi), (xa 8, qA G 5 8 (shf sh)), (sh dn, .inr (3, [.ref ra])), (ra, tA G t z8 rf)] → va_S A s.heap H locs → ∀ (ls : Array Slot), lv_has ls 8 [(7, .int (nI 8)), (6, .int (thS rf 0 z8 (nI u_2) (nI f_4) 8)), (5, .int 0), (0, .ref h), (1, .int (nI dn)), (2, .int (nI u_2)), (3, .int (nI f_4)), (4, .int (nI what_6))] → W p0_ l e0_ ({ frames := 6, cells := 8, slots := 8, locals := 200 } : Room) s m args below meth c H locs (8) (8) (MQ below (va_Qi (S := va_W) (fun rv w1 => rv = sThroatX z8 rf (nI u_2) (nI f_4) (nI what_6) ∧ w1 = [(h, xO xa xi), (xa 8, qA G 5 8 (shf sh)), (sh dn, .inr (3, [.ref ra])), (ra, tA G t z8 rf)]) (fun w1 t => PP G w1 t.heap ∧ va_D A w1) A) args s 8 8 A) (F0 m 47 ls []) := by
          intro H locs hP hD hS ls hl
          refine lv_iload hx hb dX1_throat_47 (lv_at hl 0 rfl) ?_
          refine lv_bipush (v := 8) hx hb dX1_throat_49 (by decide) ?_
          refine n_ic_ge (x := 8) (y := 8) (tgt := 98) hx hb (by omega) (by omega) dX1_throat_51 (by decide) (fun c_9 => ?_) (fun c_9 => absurd c_9 (by omega))
          refine lv_iload hx hb dX1_throat_98 (lv_at hl 7 rfl) ?_
          refine n_if_ne (x := what_6) (tgt := 108) hx hb (by omega) dX1_throat_100 (by decide) (fun c_10 => ?_) (fun c_10 => ?_)
          · have zc_10 : ¬ nI what_6 = 0 := nI_ne0 c_10 (by omega)
            have yc_10 : ¬ what_6 = 0 := Nat.ne_of_gt c_10
            refine lv_iload hx hb dX1_throat_108 (lv_at hl 1 rfl) ?_
            refine c_S (rest := []) C (metJ6_bitCount l G (thS rf 0 z8 (nI u_2) (nI f_4) 8)) 1 (lw_S q693 q694 q61 q695) (by decide +kernel) ⟨rfl, rfl⟩ ⟨(Nat.le_of_ble_eq_true rfl), (Nat.le_of_ble_eq_true rfl)⟩ (KM_mv G) (hP.sub (ws' := []) [] rfl) hK.1 hl rfl rfl (Nat.le_of_ble_eq_true rfl) ⟨(Nat.le_of_ble_eq_true rfl), (Nat.le_of_ble_eq_true rfl)⟩ dX1_throat_110 ?_
            exact n_iretW (v := bcX (thS rf 0 z8 (nI u_2) (nI f_4) 8)) (w1 := [(h, xO xa xi), (xa 8, qA G 5 8 (shf sh)), (sh dn, .inr (3, [.ref ra])), (ra, tA G t z8 rf)]) C (⟨by simp [sThroatX, c_1, tu_2, c_3, tf_4, c_5, twhat_6, c_7, c_9, c_10, yc_10, zc_10], rfl⟩) hP hD hS (by first | omega | decide) (by first | omega | decide) dX1_throat_113
          · obtain rfl := c_10
            have zc_10 : (nI 0 = 0) = True := eq_true rfl
            refine lv_iload hx hb dX1_throat_103 (lv_at hl 1 rfl) ?_
            refine lv_goto (tgt := 113) hx hb dX1_throat_105 (by decide) ?_
            exact n_iretW (v := thS rf 0 z8 (nI u_2) (nI f_4) 8) (w1 := [(h, xO xa xi), (xa 8, qA G 5 8 (shf sh)), (sh dn, .inr (3, [.ref ra])), (ra, tA G t z8 rf)]) C (⟨by simp [sThroatX, c_1, tu_2, c_3, tf_4, c_5, twhat_6, c_7, c_9, zc_10], rfl⟩) hP hD hS (by first | omega | decide) (by first | omega | decide) dX1_throat_113
        intro n
        induction n with
        | zero =>
          intro k hi_8 H locs hP hD hS ls hl
          obtain e_8 : k = 8 := by omega
          first | (subst e_8; exact hend_8 H locs hP hD hS ls hl) | (rw [e_8] at hl hP hD; exact hend_8 H locs hP hD hS ls hl)
        | succ n ih_8 =>
          intro k hi_8 H locs hP hD hS ls hl
          refine lv_iload hx hb dX1_throat_47 (lv_at hl 0 rfl) ?_
          refine lv_bipush (v := 8) hx hb dX1_throat_49 (by decide) ?_
          refine n_ic_ge (x := k) (y := 8) (tgt := 98) hx hb (by omega) (by omega) dX1_throat_51 (by decide) (fun c_11 => absurd c_11 (by omega)) (fun c_11 => ?_)
          refine lv_iload hx hb dX1_throat_54 (lv_at hl 1 rfl) ?_
          refine lv_aload_n hx hb dX1_throat_56 rfl (lv_at hl 3 rfl) ?_
          refine va_get (D := gD G) (ci := 1) (v := .ref (xa 8)) (C := RX1) (T := TX1) (N := 9) hx hb hts in_X1 hown hK.1 hP 0 rfl rfl 8 (by decide) (hts _ q846) (fun _ h9 => h9) rfl dX1_throat_57 ?_
          refine lv_iload_n hx hb dX1_throat_60 rfl (lv_at hl 4 rfl) ?_
          refine n_aldqS (y := sh dn) C hK.1 hP 1 5 dn rfl rfl (by omega) (by omega) rfl dX1_throat_61 ?_
          refine va_get (D := gD G) (ci := 3) (v := .ref ra) (C := RX3) (T := TX3) (N := 1) hx hb hts in_X3 hown hK.1 hP 2 rfl rfl 0 (by decide) (hts _ q834) (fun _ h9 => h9) rfl dX1_throat_62 ?_
          refine lv_iload_n hx hb dX1_throat_65 rfl (lv_at hl 5 rfl) ?_
          refine lv_iload hx hb dX1_throat_66 (lv_at hl 0 rfl) ?_
          refine lv_iload_n hx hb dX1_throat_68 rfl (lv_at hl 6 rfl) ?_
          refine c_SWqk (wr := [(h, xO xa xi), (xa 8, qA G 5 8 (shf sh)), (sh dn, .inr (3, [.ref ra])), (ra, tA G t z8 rf)]) (rest := [.int (nI u_2), .ref ra, .int (thS rf 0 z8 (nI u_2) (nI f_4) k)]) C (metX1_guestOf l G k (nI f_4) (by omega)) 2 (lw_S q284 q285 q39 q286) (by decide +kernel) ⟨rfl, rfl⟩ ⟨(Nat.le_of_ble_eq_true rfl), (Nat.le_of_ble_eq_true rfl)⟩ ((fun _ _ _ _ h => (KM_mv G).2 _ _ _ _ h)) (fun _ _ hW => (KM_mv G).1 _ _ hW hK.1) hA hP hD hS [] [0, 1, 2, 3] rfl rfl rfl rfl (by decide) hl rfl rfl (Nat.le_of_ble_eq_true rfl) ⟨(by dsimp only; omega), (by dsimp only; omega)⟩ dX1_throat_69 (fun r_12 w1 H locs hq_13 hP hD hS => ?_)
          obtain ⟨qg_14, rfl, rfl⟩ := hq_13
          have hP : PP G [(h, xO xa xi), (xa 8, qA G 5 8 (shf sh)), (sh dn, .inr (3, [.ref ra])), (ra, tA G t z8 rf), (qg_14, .inr (6 + k, [.int (nI f_4)]))] H := hP
          have hD : va_D A [(h, xO xa xi), (xa 8, qA G 5 8 (shf sh)), (sh dn, .inr (3, [.ref ra])), (ra, tA G t z8 rf), (qg_14, .inr (6 + k, [.int (nI f_4)]))] := hD
          refine g_bite (k := k) (q0 := 4) C hK (by omega) rfl hP (by decide +kernel) ⟨(Nat.le_of_ble_eq_true rfl), (Nat.le_of_ble_eq_true rfl)⟩ hl (Nat.le_of_ble_eq_true rfl) ⟨(by dsimp only; omega), (by dsimp only; omega)⟩ dX1_throat_72 ?_
          refine c_S (rest := [.int (thS rf 0 z8 (nI u_2) (nI f_4) k)]) C (metX1_isThroat l G t ra z8 rf (nI u_2) (sBite (nI k) (nI f_4)) (by omega) (by omega)) 3 (lw_S q690 q691 q39 q692) (by decide +kernel) ⟨rfl, rfl⟩ ⟨(Nat.le_of_ble_eq_true rfl), (Nat.le_of_ble_eq_true rfl)⟩ (KX_mv G) (hP.sub (ws' := [(ra, tA G t z8 rf)]) [3] rfl) hK hl rfl rfl (Nat.le_of_ble_eq_true rfl) ⟨(by dsimp only; omega), (by dsimp only; omega)⟩ dX1_throat_75 ?_
          refine n_if_eqB (b := (tk rf 0 (nI u_2) (sBite (nI k) (nI f_4)) z8)) (tgt := 88) hx hb dX1_throat_78 (by decide) (fun c_15 => ?_) (fun c_15 => ?_)
          · refine lv_iconst (v := 0) hx hb dX1_throat_88 (by decide) ?_
            refine lv_ior (x := thS rf 0 z8 (nI u_2) (nI f_4) k) (y := 0) hx hb dX1_throat_89 ?_
            refine lv_istore (lv' := [(6, .int ((thS rf 0 z8 (nI u_2) (nI f_4) k) ||| 0)), (7, .int (nI k)), (5, .int 0), (0, .ref h), (1, .int (nI dn)), (2, .int (nI u_2)), (3, .int (nI f_4)), (4, .int (nI what_6))]) hx hb dX1_throat_90 hl (Nat.le_of_ble_eq_true rfl) rfl (fun ls hl => ?_)
            refine n_iinc (k := 1) (lv' := [(7, .int (nI (k + 1))), (6, .int ((thS rf 0 z8 (nI u_2) (nI f_4) k) ||| 0)), (5, .int 0), (0, .ref h), (1, .int (nI dn)), (2, .int (nI u_2)), (3, .int (nI f_4)), (4, .int (nI what_6))]) hx hb k 1 dX1_throat_92 hl rfl (Nat.le_of_ble_eq_true rfl) rfl (fun ls hl => ?_)
            refine lv_goto (tgt := 47) hx hb dX1_throat_95 (by decide) ?_
            have e_16 : thS rf 0 z8 (nI u_2) (nI f_4) (k + 1) = (thS rf 0 z8 (nI u_2) (nI f_4) k) ||| 0 := by rw [thS]; simp [tu_2, tf_4, twhat_6, c_11, c_15]
            exact ih_8 (k + 1) (by omega) _ _ (by exact hP.sub [0, 1, 2, 3] rfl) (by exact hD.sub [0, 1, 2, 3] (by decide) rfl) hS ls (by rw [e_16]; exact lv_sub hl [0, 1, 2, 3, 4, 5, 6, 7] rfl)
          · refine lv_iconst (v := 1) hx hb dX1_throat_81 (by decide) ?_
            refine lv_iload hx hb dX1_throat_82 (lv_at hl 0 rfl) ?_
            refine lv_ishl (x := 1) (y := nI k) hx hb dX1_throat_84 ?_
            refine lv_goto (tgt := 89) hx hb dX1_throat_85 (by decide) ?_
            refine lv_ior (x := thS rf 0 z8 (nI u_2) (nI f_4) k) (y := 1 <<< ((nI k) &&& 31)) hx hb dX1_throat_89 ?_
            refine lv_istore (lv' := [(6, .int ((thS rf 0 z8 (nI u_2) (nI f_4) k) ||| (1 <<< ((nI k) &&& 31)))), (7, .int (nI k)), (5, .int 0), (0, .ref h), (1, .int (nI dn)), (2, .int (nI u_2)), (3, .int (nI f_4)), (4, .int (nI what_6))]) hx hb dX1_throat_90 hl (Nat.le_of_ble_eq_true rfl) rfl (fun ls hl => ?_)
            refine n_iinc (k := 1) (lv' := [(7, .int (nI (k + 1))), (6, .int ((thS rf 0 z8 (nI u_2) (nI f_4) k) ||| (1 <<< ((nI k) &&& 31)))), (5, .int 0), (0, .ref h), (1, .int (nI dn)), (2, .int (nI u_2)), (3, .int (nI f_4)), (4, .int (nI what_6))]) hx hb k 1 dX1_throat_92 hl rfl (Nat.le_of_ble_eq_true rfl) rfl (fun ls hl => ?_)
            refine lv_goto (tgt := 47) hx hb dX1_throat_95 (by decide) ?_
            have e_17 : thS rf 0 z8 (nI u_2) (nI f_4) (k + 1) = (thS rf 0 z8 (nI u_2) (nI f_4) k) ||| (1 <<< ((nI k) &&& 31)) := by rw [thS]; simp [tu_2, tf_4, twhat_6, c_11, c_15]
            exact ih_8 (k + 1) (by omega) _ _ (by exact hP.sub [0, 1, 2, 3] rfl) (by exact hD.sub [0, 1, 2, 3] (by decide) rfl) hS ls (by rw [e_17]; exact lv_sub hl [0, 1, 2, 3, 4, 5, 6, 7] rfl)
      · refine lv_iconst (v := (-1)) hx hb dX1_throat_24 (by decide) ?_
        exact n_iretW (v := (-1)) (w1 := [(h, xO xa xi), (xa 8, qA G 5 8 (shf sh)), (sh dn, .inr (3, [.ref ra])), (ra, tA G t z8 rf)]) C (⟨by simp [sThroatX, c_1, tu_2, c_3, tf_4, c_5], rfl⟩) hP hD hS (by first | omega | decide) (by first | omega | decide) dX1_throat_25

set_option maxHeartbeats 4000000 in
set_option maxRecDepth 100000 in
theorem metX1_forged_r (l : Launch) (G : GG) (h : Nat) (xa : Nat → Nat) (xi : Nat → Int32) (fn : Nat → Nat) (gm : GM) (wh : Nat → Option Nat) (r : Nat → Int32) (N : Nat) (fm : Nat → Nat) (j_w : Nat → Option Nat) (j_a2 j_a3 j_a4 j_a5 : Nat → Int32) (j_0 j_1 j_2 : Int32) (sh : Nat → Nat) (dn : Nat) (t ra z8 : Nat) (rf : Nat → Int32) (hN : N ≤ 8) (hr : r 0 = nI N) (hwk : WK gm wh r N) (hdn : dn ≤ 7) (ht : t < 3) (hz8 : z8 ≤ 100) (hri : RI r N) (hng : NG gm [(h, xO xa xi), (xa 8, qA G 5 8 (shf sh)), (sh dn, .inr (3, [.ref ra])), (xa 0, fO fn r), (fn 0, qA G 3 9 wh), (fn 1, iA G 9 (fA r 2)), (fn 2, iA G 9 (fA r 3)), (fn 3, iA G 9 (fA r 4)), (fn 4, iA G 9 (fA r 5)), (xa 2, fR fm j_0 j_1 j_2), (fm 0, qA G 3 9 j_w), (fm 1, iA G 9 j_a2), (fm 2, iA G 9 j_a3), (fm 3, iA G 9 j_a4), (fm 4, iA G 9 j_a5), (ra, tA G t z8 rf)]) : MW l yX1_forged cX1_forged 7 (some .int) ({ frames := 10, cells := 0, slots := 0, locals := 288 }) [.ref h, .int (nI dn)] [(h, xO xa xi), (xa 8, qA G 5 8 (shf sh)), (sh dn, .inr (3, [.ref ra])), (xa 0, fO fn r), (fn 0, qA G 3 9 wh), (fn 1, iA G 9 (fA r 2)), (fn 2, iA G 9 (fA r 3)), (fn 3, iA G 9 (fA r 4)), (fn 4, iA G 9 (fA r 5)), (xa 2, fR fm j_0 j_1 j_2), (fm 0, qA G 3 9 j_w), (fm 1, iA G 9 j_a2), (fm 2, iA G 9 j_a3), (fm 3, iA G 9 j_a4), (fm 4, iA G 9 j_a5), (ra, tA G t z8 rf)] G (KG G gm) 0 0 (fun rv w1 => rv = sForgX r N z8 rf ∧ ∃ (g_w : Nat → Option Nat) (g_a2 g_a3 g_a4 g_a5 : Nat → Int32) (g_0 g_1 g_2 : Int32), w1 = [(h, xO xa xi), (xa 8, qA G 5 8 (shf sh)), (sh dn, .inr (3, [.ref ra])), (xa 0, fO fn r), (fn 0, qA G 3 9 wh), (fn 1, iA G 9 (fA r 2)), (fn 2, iA G 9 (fA r 3)), (fn 3, iA G 9 (fA r 4)), (fn 4, iA G 9 (fA r 5)), (ra, tA G t z8 rf), (xa 2, fR fm g_0 g_1 g_2), (fm 0, qA G 3 9 g_w), (fm 1, iA G 9 g_a2), (fm 2, iA G 9 g_a3), (fm 3, iA G 9 g_a4), (fm 4, iA G 9 g_a5)]) := by
  -- rows printed by wip/tools/gen.py
  refine mw_mkg RX1 (by decide) rfl (Nat.le_of_ble_eq_true rfl) ?_
  intro p0_ e0_ s m args below meth c A C hA hAx hP hK hD ls hl
  have hGP := hK.2
  have hK := hK.1
  have hGA := GA.of hng hGP hAx
  have hx := C.1
  have hb := C.2.1
  have hml := C.2.2.2.2.1
  have hown := C.2.2.2.2.2.1
  have hts := C.2.2.2.2.2.2
  have hS : va_S A s.heap s.heap [] := va_S.rf
  have hl : lv_has ls 7 [(0, .ref h), (1, .int (nI dn))] := hl
  refine lv_aload_n hx hb dX1_forged_0 rfl (lv_at hl 0 rfl) ?_
  refine lv_iload_n hx hb dX1_forged_1 rfl (lv_at hl 1 rfl) ?_
  refine c_V (rest := []) C (metX1_notRow_r l G h xa xi sh dn t ra z8 rf (by omega) (by omega) (by omega)) 1 (lw_V q667 q669 qs18 q39 q670) (by decide +kernel) ⟨rfl, rfl⟩ ⟨(Nat.le_of_ble_eq_true rfl), (Nat.le_of_ble_eq_true rfl)⟩ (KX_mv G) (va_recv hK.1 hP (ci := 1) (q0 := 0) rfl rfl) (hP.sub (ws' := [(h, xO xa xi), (xa 8, qA G 5 8 (shf sh)), (sh dn, .inr (3, [.ref ra])), (ra, tA G t z8 rf)]) [0, 1, 2, 15] rfl) hK hl rfl rfl (Nat.le_of_ble_eq_true rfl) ⟨(Nat.le_of_ble_eq_true rfl), (Nat.le_of_ble_eq_true rfl)⟩ dX1_forged_2 ?_
  refine lv_istore_n (lv' := [(2, .int 0), (0, .ref h), (1, .int (nI dn))]) hx hb dX1_forged_5 rfl hl (Nat.le_of_ble_eq_true rfl) rfl (fun ls hl => ?_)
  refine lv_iload_n hx hb dX1_forged_6 rfl (lv_at hl 0 rfl) ?_
  refine lv_if_eq (x := 0) (tgt := 12) hx hb dX1_forged_7 (by decide) (fun c_1 => ?_) (fun c_1 => absurd c_1 (by decide))
  refine lv_aload_n hx hb dX1_forged_12 rfl (lv_at hl 1 rfl) ?_
  refine va_get (D := gD G) (ci := 1) (v := .ref (xa 8)) (C := RX1) (T := TX1) (N := 9) hx hb hts in_X1 hown hK.1 hP 0 rfl rfl 8 (by decide) (hts _ q846) (fun _ h9 => h9) rfl dX1_forged_13 ?_
  refine lv_iload_n hx hb dX1_forged_16 rfl (lv_at hl 2 rfl) ?_
  refine n_aldqS (y := sh dn) C hK.1 hP 1 5 dn rfl rfl (by omega) (by omega) rfl dX1_forged_17 ?_
  refine va_get (D := gD G) (ci := 3) (v := .ref ra) (C := RX3) (T := TX3) (N := 1) hx hb hts in_X3 hown hK.1 hP 2 rfl rfl 0 (by decide) (hts _ q834) (fun _ h9 => h9) rfl dX1_forged_18 ?_
  refine lv_astore_n (lv' := [(3, .ref ra), (2, .int 0), (0, .ref h), (1, .int (nI dn))]) hx hb dX1_forged_21 rfl hl (Nat.le_of_ble_eq_true rfl) rfl (fun ls hl => ?_)
  refine lv_aload_n hx hb dX1_forged_22 rfl (lv_at hl 0 rfl) ?_
  refine c_S (rest := []) C (metX1_sizeOf l G t ra z8 rf (by omega) (by omega)) 1 (lw_S q676 q677 q39 q678) (by decide +kernel) ⟨rfl, rfl⟩ ⟨(Nat.le_of_ble_eq_true rfl), (Nat.le_of_ble_eq_true rfl)⟩ (KX_mv G) (hP.sub (ws' := [(ra, tA G t z8 rf)]) [15] rfl) hK hl rfl rfl (Nat.le_of_ble_eq_true rfl) ⟨(Nat.le_of_ble_eq_true rfl), (Nat.le_of_ble_eq_true rfl)⟩ dX1_forged_23 ?_
  refine lv_iconst (v := 2) hx hb dX1_forged_26 (by decide) ?_
  refine n_irem hx hb z8 2 (by omega) (by omega) (by omega) dX1_forged_27 ?_
  refine lv_iconst (v := 1) hx hb dX1_forged_28 (by decide) ?_
  refine n_ic_ne (x := z8 % 2) (y := 1) (tgt := 35) hx hb (by omega) (by omega) dX1_forged_29 (by decide) (fun c_2 => ?_) (fun c_2 => ?_)
  · have zc_2 : ¬ nI (z8 % 2) = 1 := fun q => c_2 ((nI_eq (by omega) (by omega)).mp q)
    refine lv_aload_n hx hb dX1_forged_35 rfl (lv_at hl 2 rfl) ?_
    refine c_VWvk (wr := [(xa 8, qA G 5 8 (shf sh)), (sh dn, .inr (3, [.ref ra])), (ra, tA G t z8 rf)]) (rest := []) C (metX1_minds l G h xa xi fn gm wh r N fm j_w j_a2 j_a3 j_a4 j_a5 j_0 j_1 j_2 (by omega) (hr) (hwk) (NG.of hGA hD [0, 3, 4, 5, 6, 7, 8, 9, 10, 11, 12, 13, 14] rfl)) 0 (lw_V q579 q581 qs10 q39 q582) (by decide +kernel) ⟨rfl, rfl⟩ ⟨(Nat.le_of_ble_eq_true rfl), (Nat.le_of_ble_eq_true rfl)⟩ (KG.call) (KG.at hK (hGP.kept hGA hS)) (va_recv hK.1 hP (ci := 1) (q0 := 0) rfl rfl) hA hP hD hS [0, 3, 4, 5, 6, 7, 8, 9, 10, 11, 12, 13, 14] [1, 2, 15] rfl rfl rfl rfl (by decide) hl rfl rfl (Nat.le_of_ble_eq_true rfl) ⟨(Nat.le_of_ble_eq_true rfl), (Nat.le_of_ble_eq_true rfl)⟩ dX1_forged_36 (fun w1 H locs hq_4 hP hD hS => ?_)
    obtain rfl := hq_4
    have hP : PP G [(xa 8, qA G 5 8 (shf sh)), (sh dn, .inr (3, [.ref ra])), (ra, tA G t z8 rf), (h, xO xa xi), (xa 0, fO fn r), (fn 0, qA G 3 9 wh), (fn 1, iA G 9 (fA r 2)), (fn 2, iA G 9 (fA r 3)), (fn 3, iA G 9 (fA r 4)), (fn 4, iA G 9 (fA r 5)), (xa 2, fO fm r), (fm 0, qA G 3 9 wh), (fm 1, iA G 9 (fA r 2)), (fm 2, iA G 9 (fA r 3)), (fm 3, iA G 9 (fA r 4)), (fm 4, iA G 9 (fA r 5))] H := hP
    have hD : va_D A [(xa 8, qA G 5 8 (shf sh)), (sh dn, .inr (3, [.ref ra])), (ra, tA G t z8 rf), (h, xO xa xi), (xa 0, fO fn r), (fn 0, qA G 3 9 wh), (fn 1, iA G 9 (fA r 2)), (fn 2, iA G 9 (fA r 3)), (fn 3, iA G 9 (fA r 4)), (fn 4, iA G 9 (fA r 5)), (xa 2, fO fm r), (fm 0, qA G 3 9 wh), (fm 1, iA G 9 (fA r 2)), (fm 2, iA G 9 (fA r 3)), (fm 3, iA G 9 (fA r 4)), (fm 4, iA G 9 (fA r 5))] := hD
    have hw_5 : WK gm wh r N := hwk
    have hr_6 : r 0 = nI N := hr
    refine lv_iconst (v := 0) hx hb dX1_forged_39 (by decide) ?_
    refine lv_istore (lv' := [(4, .int 0), (3, .ref ra), (2, .int 0), (0, .ref h), (1, .int (nI dn))]) hx hb dX1_forged_40 hl (Nat.le_of_ble_eq_true rfl) rfl (fun ls hl => ?_)
    suffices hlp_7 : (∀ (n i : Nat), i + n = z8 / 2 → ∀ (rm : Nat → Int32), ∀ (H : Heap) (locs : List Loc), PP G [(h, xO xa xi), (xa 8, qA G 5 8 (shf sh)), (sh dn, .inr (3, [.ref ra])), (xa 0, fO fn r), (fn 0, qA G 3 9 wh), (fn 1, iA G 9 (fA r 2)), (fn 2, iA G 9 (fA r 3)), (fn 3, iA G 9 (fA r 4)), (fn 4, iA G 9 (fA r 5)), (xa 2, fO fm rm), (fm 0, qA G 3 9 wh), (fm 1, iA G 9 (fA rm 2)), (fm 2, iA G 9 (fA rm 3)), (fm 3, iA G 9 (fA rm 4)), (fm 4, iA G 9 (fA rm 5)), (ra, tA G t z8 rf)] H → va_D A [(h, xO xa xi), (xa 8, qA G 5 8 (shf sh)), (sh dn, .inr (3, [.ref ra])), (xa 0, fO fn r), (fn 0, qA G 3 9 wh), (fn 1, iA G 9 (fA r 2)), (fn 2, iA G 9 (fA r 3)), (fn 3, iA G 9 (fA r 4)), (fn 4, iA G 9 (fA r 5)), (xa 2, fO fm rm), (fm 0, qA G 3 9 wh), (fm 1, iA G 9 (fA rm 2)), (fm 2, iA G 9 (fA rm 3)), (fm 3, iA G 9 (fA rm 4)), (fm 4, iA G 9 (fA rm 5)), (ra, tA G t z8 rf)] → va_S A s.heap H locs → (frgX N rf (z8 / 2) r 0 = frgX N rf (z8 / 2 - i) rm i) → (rm 0 = nI N) → (WK gm wh rm N) → ∀ (ls : Array Slot), lv_has ls 7 [(4, .int (nI i)), (3, .ref ra), (2, .int 0), (0, .ref h), (1, .int (nI dn))] → W p0_ l e0_ ({ frames := 10, cells := 0, slots := 0, locals := 288 } : Room) s m args below meth c H locs (0) (0) (MQ below (va_Qi (S := va_W) (fun rv w1 => rv = sForgX r N z8 rf ∧ ∃ (g_w : Nat → Option Nat) (g_a2 g_a3 g_a4 g_a5 : Nat → Int32) (g_0 g_1 g_2 : Int32), w1 = [(h, xO xa xi), (xa 8, qA G 5 8 (shf sh)), (sh dn, .inr (3, [.ref ra])), (xa 0, fO fn r), (fn 0, qA G 3 9 wh), (fn 1, iA G 9 (fA r 2)), (fn 2, iA G 9 (fA r 3)), (fn 3, iA G 9 (fA r 4)), (fn 4, iA G 9 (fA r 5)), (ra, tA G t z8 rf), (xa 2, fR fm g_0 g_1 g_2), (fm 0, qA G 3 9 g_w), (fm 1, iA G 9 g_a2), (fm 2, iA G 9 g_a3), (fm 3, iA G 9 g_a4), (fm 4, iA G 9 g_a5)]) (fun w1 t => PP G w1 t.heap ∧ va_D A w1) A) args s 0 0 A) (F0 m 42 ls [])) by
      exact hlp_7 (z8 / 2) 0 (by omega) (r) _ _ (hP.sub [3, 0, 1, 4, 5, 6, 7, 8, 9, 10, 11, 12, 13, 14, 15, 2] rfl) (hD.sub [3, 0, 1, 4, 5, 6, 7, 8, 9, 10, 11, 12, 13, 14, 15, 2] (by decide) rfl) hS (rfl) (hr_6) (hw_5) ls (lv_sub hl [0, 1, 2, 3, 4] rfl)
    have hend_7 : ∀ (rm : Nat → Int32), ∀ (H : Heap) (locs : List Loc), PP G [(h, xO xa xi), (xa 8, qA G 5 8 (shf sh)), (sh dn, .inr (3, [.ref ra])), (xa 0, fO fn r), (fn 0, qA G 3 9 wh), (fn 1, iA G 9 (fA r 2)), (fn 2, iA G 9 (fA r 3)), (fn 3, iA G 9 (fA r 4)), (fn 4, iA G 9 (fA r 5)), (xa 2, fO fm rm), (fm 0, qA G 3 9 wh), (fm 1, iA G 9 (fA rm 2)), (fm 2, iA G 9 (fA rm 3)), (fm 3, iA G 9 (fA rm 4)), (fm 4, iA G 9 (fA rm 5)), (ra, tA G t z8 rf)] H → va_D A [(h, xO xa xi), (xa 8, qA G 5 8 (shf sh)), (sh dn, .inr (3, [.ref ra])), (xa 0, fO fn r), (fn 0, qA G 3 9 wh), (fn 1, iA G 9 (fA r 2)), (fn 2, iA G 9 (fA r 3)), (fn 3, iA G 9 (fA r 4)), (fn 4, iA G 9 (fA r 5)), (xa 2, fO fm rm), (fm 0, qA G 3 9 wh), (fm 1, iA G 9 (fA rm 2)), (fm 2, iA G 9 (fA rm 3)), (fm 3, iA G 9 (fA rm 4)), (fm 4, iA G 9 (fA rm 5)), (ra, tA G t z8 rf)] → va_S A s.heap H locs → (frgX N rf (z8 / 2) r 0 = frgX N rf (z8 / 2 - (z8 / 2)) rm (z8 / 2)) → (rm 0 = nI N) → (WK gm wh rm N) → ∀ (ls : Array Slot), lv_has ls 7 [(4, .int (nI (z8 / 2))), (3, .ref ra), (2, .int 0), (0, .ref h), (1, .int (nI dn))] → W p0_ l e0_ ({ frames := 10, cells := 0, slots := 0, locals := 288 } : Room) s m args below meth c H locs (0) (0) (MQ below (va_Qi (S := va_W) (fun rv w1 => rv = sForgX r N z8 rf ∧ ∃ (g_w : Nat → Option Nat) (g_a2 g_a3 g_a4 g_a5 : Nat → Int32) (g_0 g_1 g_2 : Int32), w1 = [(h, xO xa xi), (xa 8, qA G 5 8 (shf sh)), (sh dn, .inr (3, [.ref ra])), (xa 0, fO fn r), (fn 0, qA G 3 9 wh), (fn 1, iA G 9 (fA r 2)), (fn 2, iA G 9 (fA r 3)), (fn 3, iA G 9 (fA r 4)), (fn 4, iA G 9 (fA r 5)), (ra, tA G t z8 rf), (xa 2, fR fm g_0 g_1 g_2), (fm 0, qA G 3 9 g_w), (fm 1, iA G 9 g_a2), (fm 2, iA G 9 g_a3), (fm 3, iA G 9 g_a4), (fm 4, iA G 9 g_a5)]) (fun w1 t => PP G w1 t.heap ∧ va_D A w1) A) args s 0 0 A) (F0 m 42 ls []) := by
      intro rm H locs hP hD hS hg h0 hw ls hl
      refine lv_iconst (v := 2) hx hb dX1_forged_42 (by decide) ?_
      refine lv_iload hx hb dX1_forged_43 (lv_at hl 0 rfl) ?_
      refine n_imul hx hb 2 (z8 / 2) dX1_forged_45 ?_
      refine lv_aload_n hx hb dX1_forged_46 rfl (lv_at hl 1 rfl) ?_
      refine c_S (rest := [.int (nI (2 * (z8 / 2)))]) C (metX1_sizeOf l G t ra z8 rf (by omega) (by omega)) 1 (lw_S q676 q677 q39 q678) (by decide +kernel) ⟨rfl, rfl⟩ ⟨(Nat.le_of_ble_eq_true rfl), (Nat.le_of_ble_eq_true rfl)⟩ (KX_mv G) (hP.sub (ws' := [(ra, tA G t z8 rf)]) [15] rfl) hK hl rfl rfl (Nat.le_of_ble_eq_true rfl) ⟨(Nat.le_of_ble_eq_true rfl), (Nat.le_of_ble_eq_true rfl)⟩ dX1_forged_47 ?_
      refine n_ic_ge (x := 2 * (z8 / 2)) (y := z8) (tgt := 110) hx hb (by omega) (by omega) dX1_forged_50 (by decide) (fun c_8 => ?_) (fun c_8 => absurd c_8 (by omega))
      refine lv_bipush (v := (-4)) hx hb dX1_forged_110 (by decide) ?_
      exact n_iretW (v := (-4)) (w1 := [(h, xO xa xi), (xa 8, qA G 5 8 (shf sh)), (sh dn, .inr (3, [.ref ra])), (xa 0, fO fn r), (fn 0, qA G 3 9 wh), (fn 1, iA G 9 (fA r 2)), (fn 2, iA G 9 (fA r 3)), (fn 3, iA G 9 (fA r 4)), (fn 4, iA G 9 (fA r 5)), (ra, tA G t z8 rf), (xa 2, fO fm rm), (fm 0, qA G 3 9 wh), (fm 1, iA G 9 (fA rm 2)), (fm 2, iA G 9 (fA rm 3)), (fm 3, iA G 9 (fA rm 4)), (fm 4, iA G 9 (fA rm 5))]) C (⟨by first | (simp [sForgX, c_1, c_2, zc_2, c_8]; done) | (simp [sForgX, sForgX, c_1, c_2, zc_2, c_8, hg, frgX]; done) | (simp [sForgX, sForgX, c_1, c_2, zc_2, c_8, hg, e9, frgX]; done), _, _, _, _, _, _, _, _, rfl⟩) (hP.sub (ws' := [(h, xO xa xi), (xa 8, qA G 5 8 (shf sh)), (sh dn, .inr (3, [.ref ra])), (xa 0, fO fn r), (fn 0, qA G 3 9 wh), (fn 1, iA G 9 (fA r 2)), (fn 2, iA G 9 (fA r 3)), (fn 3, iA G 9 (fA r 4)), (fn 4, iA G 9 (fA r 5)), (ra, tA G t z8 rf), (xa 2, fO fm rm), (fm 0, qA G 3 9 wh), (fm 1, iA G 9 (fA rm 2)), (fm 2, iA G 9 (fA rm 3)), (fm 3, iA G 9 (fA rm 4)), (fm 4, iA G 9 (fA rm 5))]) [0, 1, 2, 3, 4, 5, 6, 7, 8, 15, 9, 10, 11, 12, 13, 14] rfl) (hD.sub (ws' := [(h, xO xa xi), (xa 8, qA G 5 8 (shf sh)), (sh dn, .inr (3, [.ref ra])), (xa 0, fO fn r), (fn 0, qA G 3 9 wh), (fn 1, iA G 9 (fA r 2)), (fn 2, iA G 9 (fA r 3)), (fn 3, iA G 9 (fA r 4)), (fn 4, iA G 9 (fA r 5)), (ra, tA G t z8 rf), (xa 2, fO fm rm), (fm 0, qA G 3 9 wh), (fm 1, iA G 9 (fA rm 2)), (fm 2, iA G 9 (fA rm 3)), (fm 3, iA G 9 (fA rm 4)), (fm 4, iA G 9 (fA rm 5))]) [0, 1, 2, 3, 4, 5, 6, 7, 8, 15, 9, 10, 11, 12, 13, 14] (by decide) rfl) hS (by first | omega | decide) (by first | omega | decide) dX1_forged_112
    intro n
    induction n with
    | zero =>
      intro i hi_7 rm H locs hP hD hS hg h0 hw ls hl
      obtain e_7 : i = z8 / 2 := by omega
      first | (subst e_7; exact hend_7 rm H locs hP hD hS hg h0 hw ls hl) | (rw [e_7] at hl hP hD; exact hend_7 rm H locs hP hD hS hg h0 hw ls hl)
    | succ n ih_7 =>
      intro i hi_7 rm H locs hP hD hS hg h0 hw ls hl
      have e9 : z8 / 2 - i = (z8 / 2 - (i + 1)) + 1 := by omega
      refine lv_iconst (v := 2) hx hb dX1_forged_42 (by decide) ?_
      refine lv_iload hx hb dX1_forged_43 (lv_at hl 0 rfl) ?_
      refine n_imul hx hb 2 i dX1_forged_45 ?_
      refine lv_aload_n hx hb dX1_forged_46 rfl (lv_at hl 1 rfl) ?_
      refine c_S (rest := [.int (nI (2 * i))]) C (metX1_sizeOf l G t ra z8 rf (by omega) (by omega)) 1 (lw_S q676 q677 q39 q678) (by decide +kernel) ⟨rfl, rfl⟩ ⟨(Nat.le_of_ble_eq_true rfl), (Nat.le_of_ble_eq_true rfl)⟩ (KX_mv G) (hP.sub (ws' := [(ra, tA G t z8 rf)]) [15] rfl) hK hl rfl rfl (Nat.le_of_ble_eq_true rfl) ⟨(Nat.le_of_ble_eq_true rfl), (Nat.le_of_ble_eq_true rfl)⟩ dX1_forged_47 ?_
      refine n_ic_ge (x := 2 * i) (y := z8) (tgt := 110) hx hb (by omega) (by omega) dX1_forged_50 (by decide) (fun c_9 => absurd c_9 (by omega)) (fun c_9 => ?_)
      refine lv_aload_n hx hb dX1_forged_53 rfl (lv_at hl 1 rfl) ?_
      refine lv_iconst (v := 2) hx hb dX1_forged_54 (by decide) ?_
      refine lv_iload hx hb dX1_forged_55 (lv_at hl 0 rfl) ?_
      refine n_imul hx hb 2 i dX1_forged_57 ?_
      refine c_S (rest := []) C (metX1_elementOf l G t ra z8 rf (2 * i) (by omega) (by omega) (by omega)) 2 (lw_S q679 q680 q39 q681) (by decide +kernel) ⟨rfl, rfl⟩ ⟨(Nat.le_of_ble_eq_true rfl), (Nat.le_of_ble_eq_true rfl)⟩ (KX_mv G) (hP.sub (ws' := [(ra, tA G t z8 rf)]) [15] rfl) hK hl rfl rfl (Nat.le_of_ble_eq_true rfl) ⟨(Nat.le_of_ble_eq_true rfl), (Nat.le_of_ble_eq_true rfl)⟩ dX1_forged_58 ?_
      refine lv_istore (lv' := [(5, .int (rf (2 * i))), (4, .int (nI i)), (3, .ref ra), (2, .int 0), (0, .ref h), (1, .int (nI dn))]) hx hb dX1_forged_61 hl (Nat.le_of_ble_eq_true rfl) rfl (fun ls hl => ?_)
      refine lv_aload_n hx hb dX1_forged_63 rfl (lv_at hl 2 rfl) ?_
      refine lv_iconst (v := 2) hx hb dX1_forged_64 (by decide) ?_
      refine lv_iload hx hb dX1_forged_65 (lv_at hl 1 rfl) ?_
      refine n_imul hx hb 2 i dX1_forged_67 ?_
      refine lv_iconst (v := 1) hx hb dX1_forged_68 (by decide) ?_
      refine n_iadd hx hb (2 * i) 1 dX1_forged_69 ?_
      refine c_S (rest := []) C (metX1_elementOf l G t ra z8 rf ((2 * i) + 1) (by omega) (by omega) (by omega)) 2 (lw_S q679 q680 q39 q681) (by decide +kernel) ⟨rfl, rfl⟩ ⟨(Nat.le_of_ble_eq_true rfl), (Nat.le_of_ble_eq_true rfl)⟩ (KX_mv G) (hP.sub (ws' := [(ra, tA G t z8 rf)]) [15] rfl) hK hl rfl rfl (Nat.le_of_ble_eq_true rfl) ⟨(Nat.le_of_ble_eq_true rfl), (Nat.le_of_ble_eq_true rfl)⟩ dX1_forged_70 ?_
      refine lv_istore (lv' := [(6, .int (rf ((2 * i) + 1))), (5, .int (rf (2 * i))), (4, .int (nI i)), (3, .ref ra), (2, .int 0), (0, .ref h), (1, .int (nI dn))]) hx hb dX1_forged_73 hl (Nat.le_of_ble_eq_true rfl) rfl (fun ls hl => ?_)
      refine lv_aload_n hx hb dX1_forged_75 rfl (lv_at hl 5 rfl) ?_
      refine va_get (D := gD G) (ci := 1) (v := .ref (xa 2)) (C := RX1) (T := TX1) (N := 9) hx hb hts in_X1 hown hK.1 hP 0 rfl rfl 2 (by decide) (hts _ q840) (fun _ h9 => h9) rfl dX1_forged_76 ?_
      refine lv_iload hx hb dX1_forged_79 (lv_at hl 1 rfl) ?_
      refine lv_iload hx hb dX1_forged_81 (lv_at hl 0 rfl) ?_
      refine c_Vk (rest := []) C (metX2_canEat l G (xa 2) fm gm wh rm N (rf (2 * i)) (rf ((2 * i) + 1)) (by omega) (h0) (hw)) 2 (lw_V q367 q368 q369 q40 q370) (by decide +kernel) ⟨rfl, rfl⟩ ⟨(Nat.le_of_ble_eq_true rfl), (Nat.le_of_ble_eq_true rfl)⟩ (KG.call) (va_recv hK.1 hP (ci := 2) (q0 := 9) rfl rfl) (hP.sub (ws' := [(xa 2, fO fm rm), (fm 0, qA G 3 9 wh), (fm 1, iA G 9 (fA rm 2)), (fm 2, iA G 9 (fA rm 3)), (fm 3, iA G 9 (fA rm 4)), (fm 4, iA G 9 (fA rm 5))]) [9, 10, 11, 12, 13, 14] rfl) (KG.at hK (hGP.kept hGA hS)) hl rfl rfl (Nat.le_of_ble_eq_true rfl) ⟨(Nat.le_of_ble_eq_true rfl), (Nat.le_of_ble_eq_true rfl)⟩ dX1_forged_83 ?_
      refine n_if_neB (b := (sEatP rm N (rf (2 * i)) (rf ((2 * i) + 1)))) (tgt := 92) hx hb dX1_forged_86 (by decide) (fun c_10 => ?_) (fun c_10 => ?_)
      · obtain ⟨rf_2_i_11, rf_2_i_1_12, hrf_2_i_11, hrf_2_i_1_12, nrf_2_i_11, erf_2_i_11, qrf_2_i_11, qrf_2_i_1_12⟩ := sEatP_t (by omega) c_10
        have trf_2_i_11 : tn (nI rf_2_i_11) = rf_2_i_11 := nI_clamp (by omega)
        have trf_2_i_1_12 : tn (nI rf_2_i_1_12) = rf_2_i_1_12 := nI_clamp (by omega)
        have urf_2_i_11 : sEatP rm N (nI rf_2_i_11) (nI rf_2_i_1_12) = true := by first | exact c_10 | (rw [← qrf_2_i_11, ← qrf_2_i_1_12]; exact c_10) | (simpa [qrf_2_i_11, qrf_2_i_1_12] using c_10)
        refine lv_aload_n hx hb dX1_forged_92 rfl (lv_at hl 5 rfl) ?_
        refine va_get (D := gD G) (ci := 1) (v := .ref (xa 2)) (C := RX1) (T := TX1) (N := 9) hx hb hts in_X1 hown hK.1 hP 0 rfl rfl 2 (by decide) (hts _ q840) (fun _ h9 => h9) rfl dX1_forged_93 ?_
        refine lv_iload hx hb dX1_forged_96 (lv_at hl 1 rfl) ?_
        refine n_eqi (qrf_2_i_11) ?_
        refine lv_iload hx hb dX1_forged_98 (lv_at hl 0 rfl) ?_
        refine n_eqi (qrf_2_i_1_12) ?_
        refine c_VWk (wr := [(h, xO xa xi), (xa 8, qA G 5 8 (shf sh)), (sh dn, .inr (3, [.ref ra])), (xa 0, fO fn r), (fn 0, qA G 3 9 wh), (fn 1, iA G 9 (fA r 2)), (fn 2, iA G 9 (fA r 3)), (fn 3, iA G 9 (fA r 4)), (fn 4, iA G 9 (fA r 5)), (ra, tA G t z8 rf)]) (rest := []) C (metX2_eats l G (xa 2) fm gm wh rm N rf_2_i_11 rf_2_i_1_12 (by omega) (h0) (hw) (by omega) (by omega) (NG.of hGA hD [9, 10, 11, 12, 13, 14] rfl)) 2 (lw_V q398 q399 q400 q40 q401) (by decide +kernel) ⟨rfl, rfl⟩ ⟨(Nat.le_of_ble_eq_true rfl), (Nat.le_of_ble_eq_true rfl)⟩ (KG.call) (KG.at hK (hGP.kept hGA hS)) (va_recv hK.1 hP (ci := 2) (q0 := 9) rfl rfl) hA hP hD hS [9, 10, 11, 12, 13, 14] [0, 1, 2, 3, 4, 5, 6, 7, 8, 15] rfl rfl rfl rfl (by decide) hl rfl rfl (Nat.le_of_ble_eq_true rfl) ⟨(Nat.le_of_ble_eq_true rfl), (Nat.le_of_ble_eq_true rfl)⟩ dX1_forged_100 (fun r_13 w1 H locs hq_14 hP hD hS => ?_)
        obtain ⟨rfl, rfl⟩ := hq_14
        have hP : PP G [(h, xO xa xi), (xa 8, qA G 5 8 (shf sh)), (sh dn, .inr (3, [.ref ra])), (xa 0, fO fn r), (fn 0, qA G 3 9 wh), (fn 1, iA G 9 (fA r 2)), (fn 2, iA G 9 (fA r 3)), (fn 3, iA G 9 (fA r 4)), (fn 4, iA G 9 (fA r 5)), (ra, tA G t z8 rf), (xa 2, fO fm (sTurn rm rf_2_i_11 rf_2_i_1_12)), (fm 0, qA G 3 9 wh), (fm 1, iA G 9 (fA (sTurn rm rf_2_i_11 rf_2_i_1_12) 2)), (fm 2, iA G 9 (fA (sTurn rm rf_2_i_11 rf_2_i_1_12) 3)), (fm 3, iA G 9 (fA (sTurn rm rf_2_i_11 rf_2_i_1_12) 4)), (fm 4, iA G 9 (fA (sTurn rm rf_2_i_11 rf_2_i_1_12) 5))] H := hP
        have hD : va_D A [(h, xO xa xi), (xa 8, qA G 5 8 (shf sh)), (sh dn, .inr (3, [.ref ra])), (xa 0, fO fn r), (fn 0, qA G 3 9 wh), (fn 1, iA G 9 (fA r 2)), (fn 2, iA G 9 (fA r 3)), (fn 3, iA G 9 (fA r 4)), (fn 4, iA G 9 (fA r 5)), (ra, tA G t z8 rf), (xa 2, fO fm (sTurn rm rf_2_i_11 rf_2_i_1_12)), (fm 0, qA G 3 9 wh), (fm 1, iA G 9 (fA (sTurn rm rf_2_i_11 rf_2_i_1_12) 2)), (fm 2, iA G 9 (fA (sTurn rm rf_2_i_11 rf_2_i_1_12) 3)), (fm 3, iA G 9 (fA (sTurn rm rf_2_i_11 rf_2_i_1_12) 4)), (fm 4, iA G 9 (fA (sTurn rm rf_2_i_11 rf_2_i_1_12) 5))] := hD
        have hw_15 : WK gm wh (sTurn rm rf_2_i_11 rf_2_i_1_12) N := WK.turn hw
        have hr_16 : (sTurn rm rf_2_i_11 rf_2_i_1_12) 0 = nI N := (sTurn_0 rm rf_2_i_11 rf_2_i_1_12).trans h0
        refine lv_pop hx hb dX1_forged_103 rfl ?_
        refine n_iinc (k := 2) (lv' := [(4, .int (nI (i + 1))), (6, .int (rf ((2 * i) + 1))), (5, .int (rf (2 * i))), (3, .ref ra), (2, .int 0), (0, .ref h), (1, .int (nI dn))]) hx hb i 1 dX1_forged_104 hl rfl (Nat.le_of_ble_eq_true rfl) rfl (fun ls hl => ?_)
        refine lv_goto (tgt := 42) hx hb dX1_forged_107 (by decide) ?_
        exact ih_7 (i + 1) (by omega) (sTurn rm rf_2_i_11 rf_2_i_1_12) _ _ (by exact hP.sub [0, 1, 2, 3, 4, 5, 6, 7, 8, 10, 11, 12, 13, 14, 15, 9] rfl) (by exact hD.sub [0, 1, 2, 3, 4, 5, 6, 7, 8, 10, 11, 12, 13, 14, 15, 9] (by decide) rfl) hS (by rw [hg, e9]; simp [frgX, c_9, c_10, nrf_2_i_11, erf_2_i_11, qrf_2_i_11, trf_2_i_11, qrf_2_i_1_12, trf_2_i_1_12, urf_2_i_11]) (hr_16) (hw_15) ls (lv_sub hl [0, 3, 4, 5, 6] rfl)
      · refine lv_iload hx hb dX1_forged_89 (lv_at hl 2 rfl) ?_
        exact n_iretW (v := nI i) (w1 := [(h, xO xa xi), (xa 8, qA G 5 8 (shf sh)), (sh dn, .inr (3, [.ref ra])), (xa 0, fO fn r), (fn 0, qA G 3 9 wh), (fn 1, iA G 9 (fA r 2)), (fn 2, iA G 9 (fA r 3)), (fn 3, iA G 9 (fA r 4)), (fn 4, iA G 9 (fA r 5)), (ra, tA G t z8 rf), (xa 2, fO fm rm), (fm 0, qA G 3 9 wh), (fm 1, iA G 9 (fA rm 2)), (fm 2, iA G 9 (fA rm 3)), (fm 3, iA G 9 (fA rm 4)), (fm 4, iA G 9 (fA rm 5))]) C (⟨by first | (simp [sForgX, c_1, c_2, zc_2, c_9, c_10]; done) | (simp [sForgX, sForgX, c_1, c_2, zc_2, c_9, c_10, hg, frgX]; done) | (simp [sForgX, sForgX, c_1, c_2, zc_2, c_9, c_10, hg, e9, frgX]; done), _, _, _, _, _, _, _, _, rfl⟩) (hP.sub (ws' := [(h, xO xa xi), (xa 8, qA G 5 8 (shf sh)), (sh dn, .inr (3, [.ref ra])), (xa 0, fO fn r), (fn 0, qA G 3 9 wh), (fn 1, iA G 9 (fA r 2)), (fn 2, iA G 9 (fA r 3)), (fn 3, iA G 9 (fA r 4)), (fn 4, iA G 9 (fA r 5)), (ra, tA G t z8 rf), (xa 2, fO fm rm), (fm 0, qA G 3 9 wh), (fm 1, iA G 9 (fA rm 2)), (fm 2, iA G 9 (fA rm 3)), (fm 3, iA G 9 (fA rm 4)), (fm 4, iA G 9 (fA rm 5))]) [0, 1, 2, 3, 4, 5, 6, 7, 8, 15, 9, 10, 11, 12, 13, 14] rfl) (hD.sub (ws' := [(h, xO xa xi), (xa 8, qA G 5 8 (shf sh)), (sh dn, .inr (3, [.ref ra])), (xa 0, fO fn r), (fn 0, qA G 3 9 wh), (fn 1, iA G 9 (fA r 2)), (fn 2, iA G 9 (fA r 3)), (fn 3, iA G 9 (fA r 4)), (fn 4, iA G 9 (fA r 5)), (ra, tA G t z8 rf), (xa 2, fO fm rm), (fm 0, qA G 3 9 wh), (fm 1, iA G 9 (fA rm 2)), (fm 2, iA G 9 (fA rm 3)), (fm 3, iA G 9 (fA rm 4)), (fm 4, iA G 9 (fA rm 5))]) [0, 1, 2, 3, 4, 5, 6, 7, 8, 15, 9, 10, 11, 12, 13, 14] (by decide) rfl) hS (by first | omega | decide) (by first | omega | decide) dX1_forged_91
  · have zc_2 : nI (z8 % 2) = 1 := congrArg nI c_2
    refine lv_bipush (v := (-13)) hx hb dX1_forged_32 (by decide) ?_
    exact n_iretW (v := (-13)) (w1 := [(h, xO xa xi), (xa 8, qA G 5 8 (shf sh)), (sh dn, .inr (3, [.ref ra])), (xa 0, fO fn r), (fn 0, qA G 3 9 wh), (fn 1, iA G 9 (fA r 2)), (fn 2, iA G 9 (fA r 3)), (fn 3, iA G 9 (fA r 4)), (fn 4, iA G 9 (fA r 5)), (ra, tA G t z8 rf), (xa 2, fR fm j_0 j_1 j_2), (fm 0, qA G 3 9 j_w), (fm 1, iA G 9 j_a2), (fm 2, iA G 9 j_a3), (fm 3, iA G 9 j_a4), (fm 4, iA G 9 j_a5)]) C (⟨by first | (simp [sForgX, c_1, c_2, zc_2]; done) | (simp [sForgX, sForgX, c_1, c_2, zc_2, hg, frgX]; done) | (simp [sForgX, sForgX, c_1, c_2, zc_2, hg, e9, frgX]; done), _, _, _, _, _, _, _, _, rfl⟩) (hP.sub (ws' := [(h, xO xa xi), (xa 8, qA G 5 8 (shf sh)), (sh dn, .inr (3, [.ref ra])), (xa 0, fO fn r), (fn 0, qA G 3 9 wh), (fn 1, iA G 9 (fA r 2)), (fn 2, iA G 9 (fA r 3)), (fn 3, iA G 9 (fA r 4)), (fn 4, iA G 9 (fA r 5)), (ra, tA G t z8 rf), (xa 2, fR fm j_0 j_1 j_2), (fm 0, qA G 3 9 j_w), (fm 1, iA G 9 j_a2), (fm 2, iA G 9 j_a3), (fm 3, iA G 9 j_a4), (fm 4, iA G 9 j_a5)]) [0, 1, 2, 3, 4, 5, 6, 7, 8, 15, 9, 10, 11, 12, 13, 14] rfl) (hD.sub (ws' := [(h, xO xa xi), (xa 8, qA G 5 8 (shf sh)), (sh dn, .inr (3, [.ref ra])), (xa 0, fO fn r), (fn 0, qA G 3 9 wh), (fn 1, iA G 9 (fA r 2)), (fn 2, iA G 9 (fA r 3)), (fn 3, iA G 9 (fA r 4)), (fn 4, iA G 9 (fA r 5)), (ra, tA G t z8 rf), (xa 2, fR fm j_0 j_1 j_2), (fm 0, qA G 3 9 j_w), (fm 1, iA G 9 j_a2), (fm 2, iA G 9 j_a3), (fm 3, iA G 9 j_a4), (fm 4, iA G 9 j_a5)]) [0, 1, 2, 3, 4, 5, 6, 7, 8, 15, 9, 10, 11, 12, 13, 14] (by decide) rfl) hS (by first | omega | decide) (by first | omega | decide) dX1_forged_34

set_option maxHeartbeats 4000000 in
set_option maxRecDepth 100000 in
theorem metX1_judge_r (l : Launch) (G : GG) (h : Nat) (xa : Nat → Nat) (xi : Nat → Int32) (fn : Nat → Nat) (gm : GM) (wh : Nat → Option Nat) (r : Nat → Int32) (N : Nat) (fm : Nat → Nat) (j_w : Nat → Option Nat) (j_a2 j_a3 j_a4 j_a5 : Nat → Int32) (j_0 j_1 j_2 : Int32) (sh : Nat → Nat) (dn : Nat) (t ra z8 : Nat) (rf : Nat → Int32) (hN : N ≤ 8) (hr : r 0 = nI N) (hwk : WK gm wh r N) (hdn : dn ≤ 7) (ht : t < 3) (hz8 : z8 ≤ 100) (hri : RI r N) (hng : NG gm [(h, xO xa xi), (xa 8, qA G 5 8 (shf sh)), (sh dn, .inr (3, [.ref ra])), (xa 0, fO fn r), (fn 0, qA G 3 9 wh), (fn 1, iA G 9 (fA r 2)), (fn 2, iA G 9 (fA r 3)), (fn 3, iA G 9 (fA r 4)), (fn 4, iA G 9 (fA r 5)), (xa 2, fR fm j_0 j_1 j_2), (fm 0, qA G 3 9 j_w), (fm 1, iA G 9 j_a2), (fm 2, iA G 9 j_a3), (fm 3, iA G 9 j_a4), (fm 4, iA G 9 j_a5), (ra, tA G t z8 rf)]) : MW l yX1_judge cX1_judge 7 (some .int) ({ frames := 10, cells := 0, slots := 0, locals := 288 }) [.ref h, .int (nI dn)] [(h, xO xa xi), (xa 8, qA G 5 8 (shf sh)), (sh dn, .inr (3, [.ref ra])), (xa 0, fO fn r), (fn 0, qA G 3 9 wh), (fn 1, iA G 9 (fA r 2)), (fn 2, iA G 9 (fA r 3)), (fn 3, iA G 9 (fA r 4)), (fn 4, iA G 9 (fA r 5)), (xa 2, fR fm j_0 j_1 j_2), (fm 0, qA G 3 9 j_w), (fm 1, iA G 9 j_a2), (fm 2, iA G 9 j_a3), (fm 3, iA G 9 j_a4), (fm 4, iA G 9 j_a5), (ra, tA G t z8 rf)] G (KG G gm) 0 0 (fun rv w1 => rv = jdgX N rf (sLst t) z8 r 0 ∧ ∃ (g_w : Nat → Option Nat) (g_a2 g_a3 g_a4 g_a5 : Nat → Int32) (g_0 g_1 g_2 : Int32), w1 = [(h, xO xa xi), (xa 8, qA G 5 8 (shf sh)), (sh dn, .inr (3, [.ref ra])), (xa 0, fO fn r), (fn 0, qA G 3 9 wh), (fn 1, iA G 9 (fA r 2)), (fn 2, iA G 9 (fA r 3)), (fn 3, iA G 9 (fA r 4)), (fn 4, iA G 9 (fA r 5)), (ra, tA G t z8 rf), (xa 2, fR fm g_0 g_1 g_2), (fm 0, qA G 3 9 g_w), (fm 1, iA G 9 g_a2), (fm 2, iA G 9 g_a3), (fm 3, iA G 9 g_a4), (fm 4, iA G 9 g_a5)]) := by
  -- rows printed by wip/tools/gen.py
  refine mw_mkg RX1 (by decide) rfl (Nat.le_of_ble_eq_true rfl) ?_
  intro p0_ e0_ s m args below meth c A C hA hAx hP hK hD ls hl
  have hGP := hK.2
  have hK := hK.1
  have hGA := GA.of hng hGP hAx
  have hx := C.1
  have hb := C.2.1
  have hml := C.2.2.2.2.1
  have hown := C.2.2.2.2.2.1
  have hts := C.2.2.2.2.2.2
  have hS : va_S A s.heap s.heap [] := va_S.rf
  have hl : lv_has ls 7 [(0, .ref h), (1, .int (nI dn))] := hl
  refine lv_aload_n hx hb dX1_judge_0 rfl (lv_at hl 0 rfl) ?_
  refine lv_iload_n hx hb dX1_judge_1 rfl (lv_at hl 1 rfl) ?_
  refine c_V (rest := []) C (metX1_notRow_r l G h xa xi sh dn t ra z8 rf (by omega) (by omega) (by omega)) 1 (lw_V q667 q669 qs18 q39 q670) (by decide +kernel) ⟨rfl, rfl⟩ ⟨(Nat.le_of_ble_eq_true rfl), (Nat.le_of_ble_eq_true rfl)⟩ (KX_mv G) (va_recv hK.1 hP (ci := 1) (q0 := 0) rfl rfl) (hP.sub (ws' := [(h, xO xa xi), (xa 8, qA G 5 8 (shf sh)), (sh dn, .inr (3, [.ref ra])), (ra, tA G t z8 rf)]) [0, 1, 2, 15] rfl) hK hl rfl rfl (Nat.le_of_ble_eq_true rfl) ⟨(Nat.le_of_ble_eq_true rfl), (Nat.le_of_ble_eq_true rfl)⟩ dX1_judge_2 ?_
  refine lv_istore_n (lv' := [(2, .int 0), (0, .ref h), (1, .int (nI dn))]) hx hb dX1_judge_5 rfl hl (Nat.le_of_ble_eq_true rfl) rfl (fun ls hl => ?_)
  refine lv_iload_n hx hb dX1_judge_6 rfl (lv_at hl 0 rfl) ?_
  refine lv_if_eq (x := 0) (tgt := 12) hx hb dX1_judge_7 (by decide) (fun c_1 => ?_) (fun c_1 => absurd c_1 (by decide))
  refine lv_aload_n hx hb dX1_judge_12 rfl (lv_at hl 1 rfl) ?_
  refine va_get (D := gD G) (ci := 1) (v := .ref (xa 8)) (C := RX1) (T := TX1) (N := 9) hx hb hts in_X1 hown hK.1 hP 0 rfl rfl 8 (by decide) (hts _ q846) (fun _ h9 => h9) rfl dX1_judge_13 ?_
  refine lv_iload_n hx hb dX1_judge_16 rfl (lv_at hl 2 rfl) ?_
  refine n_aldqS (y := sh dn) C hK.1 hP 1 5 dn rfl rfl (by omega) (by omega) rfl dX1_judge_17 ?_
  refine va_get (D := gD G) (ci := 3) (v := .ref ra) (C := RX3) (T := TX3) (N := 1) hx hb hts in_X3 hown hK.1 hP 2 rfl rfl 0 (by decide) (hts _ q834) (fun _ h9 => h9) rfl dX1_judge_18 ?_
  refine lv_astore_n (lv' := [(3, .ref ra), (2, .int 0), (0, .ref h), (1, .int (nI dn))]) hx hb dX1_judge_21 rfl hl (Nat.le_of_ble_eq_true rfl) rfl (fun ls hl => ?_)
  refine lv_aload_n hx hb dX1_judge_22 rfl (lv_at hl 2 rfl) ?_
  refine c_VWvk (wr := [(xa 8, qA G 5 8 (shf sh)), (sh dn, .inr (3, [.ref ra])), (ra, tA G t z8 rf)]) (rest := []) C (metX1_minds l G h xa xi fn gm wh r N fm j_w j_a2 j_a3 j_a4 j_a5 j_0 j_1 j_2 (by omega) (hr) (hwk) (NG.of hGA hD [0, 3, 4, 5, 6, 7, 8, 9, 10, 11, 12, 13, 14] rfl)) 0 (lw_V q579 q581 qs10 q39 q582) (by decide +kernel) ⟨rfl, rfl⟩ ⟨(Nat.le_of_ble_eq_true rfl), (Nat.le_of_ble_eq_true rfl)⟩ (KG.call) (KG.at hK (hGP.kept hGA hS)) (va_recv hK.1 hP (ci := 1) (q0 := 0) rfl rfl) hA hP hD hS [0, 3, 4, 5, 6, 7, 8, 9, 10, 11, 12, 13, 14] [1, 2, 15] rfl rfl rfl rfl (by decide) hl rfl rfl (Nat.le_of_ble_eq_true rfl) ⟨(Nat.le_of_ble_eq_true rfl), (Nat.le_of_ble_eq_true rfl)⟩ dX1_judge_23 (fun w1 H locs hq_3 hP hD hS => ?_)
  obtain rfl := hq_3
  have hP : PP G [(xa 8, qA G 5 8 (shf sh)), (sh dn, .inr (3, [.ref ra])), (ra, tA G t z8 rf), (h, xO xa xi), (xa 0, fO fn r), (fn 0, qA G 3 9 wh), (fn 1, iA G 9 (fA r 2)), (fn 2, iA G 9 (fA r 3)), (fn 3, iA G 9 (fA r 4)), (fn 4, iA G 9 (fA r 5)), (xa 2, fO fm r), (fm 0, qA G 3 9 wh), (fm 1, iA G 9 (fA r 2)), (fm 2, iA G 9 (fA r 3)), (fm 3, iA G 9 (fA r 4)), (fm 4, iA G 9 (fA r 5))] H := hP
  have hD : va_D A [(xa 8, qA G 5 8 (shf sh)), (sh dn, .inr (3, [.ref ra])), (ra, tA G t z8 rf), (h, xO xa xi), (xa 0, fO fn r), (fn 0, qA G 3 9 wh), (fn 1, iA G 9 (fA r 2)), (fn 2, iA G 9 (fA r 3)), (fn 3, iA G 9 (fA r 4)), (fn 4, iA G 9 (fA r 5)), (xa 2, fO fm r), (fm 0, qA G 3 9 wh), (fm 1, iA G 9 (fA r 2)), (fm 2, iA G 9 (fA r 3)), (fm 3, iA G 9 (fA r 4)), (fm 4, iA G 9 (fA r 5))] := hD
  have hw_4 : WK gm wh r N := hwk
  have hr_5 : r 0 = nI N := hr
  refine lv_iconst (v := 0) hx hb dX1_judge_26 (by decide) ?_
  refine lv_istore (lv' := [(4, .int 0), (3, .ref ra), (2, .int 0), (0, .ref h), (1, .int (nI dn))]) hx hb dX1_judge_27 hl (Nat.le_of_ble_eq_true rfl) rfl (fun ls hl => ?_)
  suffices hlp_6 : (∀ (n i : Nat), i + n = z8 → ∀ (rm : Nat → Int32), ∀ (H : Heap) (locs : List Loc), PP G [(h, xO xa xi), (xa 8, qA G 5 8 (shf sh)), (sh dn, .inr (3, [.ref ra])), (xa 0, fO fn r), (fn 0, qA G 3 9 wh), (fn 1, iA G 9 (fA r 2)), (fn 2, iA G 9 (fA r 3)), (fn 3, iA G 9 (fA r 4)), (fn 4, iA G 9 (fA r 5)), (xa 2, fO fm rm), (fm 0, qA G 3 9 wh), (fm 1, iA G 9 (fA rm 2)), (fm 2, iA G 9 (fA rm 3)), (fm 3, iA G 9 (fA rm 4)), (fm 4, iA G 9 (fA rm 5)), (ra, tA G t z8 rf)] H → va_D A [(h, xO xa xi), (xa 8, qA G 5 8 (shf sh)), (sh dn, .inr (3, [.ref ra])), (xa 0, fO fn r), (fn 0, qA G 3 9 wh), (fn 1, iA G 9 (fA r 2)), (fn 2, iA G 9 (fA r 3)), (fn 3, iA G 9 (fA r 4)), (fn 4, iA G 9 (fA r 5)), (xa 2, fO fm rm), (fm 0, qA G 3 9 wh), (fm 1, iA G 9 (fA rm 2)), (fm 2, iA G 9 (fA rm 3)), (fm 3, iA G 9 (fA rm 4)), (fm 4, iA G 9 (fA rm 5)), (ra, tA G t z8 rf)] → va_S A s.heap H locs → (jdgX N rf (sLst t) z8 r 0 = jdgX N rf (sLst t) (z8 - i) rm i) → (rm 0 = nI N) → (WK gm wh rm N) → (RI rm N) → ∀ (ls : Array Slot), lv_has ls 7 [(4, .int (nI i)), (3, .ref ra), (2, .int 0), (0, .ref h), (1, .int (nI dn))] → W p0_ l e0_ ({ frames := 10, cells := 0, slots := 0, locals := 288 } : Room) s m args below meth c H locs (0) (0) (MQ below (va_Qi (S := va_W) (fun rv w1 => rv = jdgX N rf (sLst t) z8 r 0 ∧ ∃ (g_w : Nat → Option Nat) (g_a2 g_a3 g_a4 g_a5 : Nat → Int32) (g_0 g_1 g_2 : Int32), w1 = [(h, xO xa xi), (xa 8, qA G 5 8 (shf sh)), (sh dn, .inr (3, [.ref ra])), (xa 0, fO fn r), (fn 0, qA G 3 9 wh), (fn 1, iA G 9 (fA r 2)), (fn 2, iA G 9 (fA r 3)), (fn 3, iA G 9 (fA r 4)), (fn 4, iA G 9 (fA r 5)), (ra, tA G t z8 rf), (xa 2, fR fm g_0 g_1 g_2), (fm 0, qA G 3 9 g_w), (fm 1, iA G 9 g_a2), (fm 2, iA G 9 g_a3), (fm 3, iA G 9 g_a4), (fm 4, iA G 9 g_a5)]) (fun w1 t => PP G w1 t.heap ∧ va_D A w1) A) args s 0 0 A) (F0 m 29 ls [])) by
    exact hlp_6 (z8) 0 (by omega) (r) _ _ (hP.sub [3, 0, 1, 4, 5, 6, 7, 8, 9, 10, 11, 12, 13, 14, 15, 2] rfl) (hD.sub [3, 0, 1, 4, 5, 6, 7, 8, 9, 10, 11, 12, 13, 14, 15, 2] (by decide) rfl) hS (rfl) (hr_5) (hw_4) (hri) ls (lv_sub hl [0, 1, 2, 3, 4] rfl)
  have hend_6 : ∀ (rm : Nat → Int32), ∀ (H : Heap) (locs : List Loc), PP G [(h, xO xa xi), (xa 8, qA G 5 8 (shf sh)), (sh dn, .inr (3, [.ref ra])), (xa 0, fO fn r), (fn 0, qA G 3 9 wh), (fn 1, iA G 9 (fA r 2)), (fn 2, iA G 9 (fA r 3)), (fn 3, iA G 9 (fA r 4)), (fn 4, iA G 9 (fA r 5)), (xa 2, fO fm rm), (fm 0, qA G 3 9 wh), (fm 1, iA G 9 (fA rm 2)), (fm 2, iA G 9 (fA rm 3)), (fm 3, iA G 9 (fA rm 4)), (fm 4, iA G 9 (fA rm 5)), (ra, tA G t z8 rf)] H → va_D A [(h, xO xa xi), (xa 8, qA G 5 8 (shf sh)), (sh dn, .inr (3, [.ref ra])), (xa 0, fO fn r), (fn 0, qA G 3 9 wh), (fn 1, iA G 9 (fA r 2)), (fn 2, iA G 9 (fA r 3)), (fn 3, iA G 9 (fA r 4)), (fn 4, iA G 9 (fA r 5)), (xa 2, fO fm rm), (fm 0, qA G 3 9 wh), (fm 1, iA G 9 (fA rm 2)), (fm 2, iA G 9 (fA rm 3)), (fm 3, iA G 9 (fA rm 4)), (fm 4, iA G 9 (fA rm 5)), (ra, tA G t z8 rf)] → va_S A s.heap H locs → (jdgX N rf (sLst t) z8 r 0 = jdgX N rf (sLst t) (z8 - z8) rm z8) → (rm 0 = nI N) → (WK gm wh rm N) → (RI rm N) → ∀ (ls : Array Slot), lv_has ls 7 [(4, .int (nI z8)), (3, .ref ra), (2, .int 0), (0, .ref h), (1, .int (nI dn))] → W p0_ l e0_ ({ frames := 10, cells := 0, slots := 0, locals := 288 } : Room) s m args below meth c H locs (0) (0) (MQ below (va_Qi (S := va_W) (fun rv w1 => rv = jdgX N rf (sLst t) z8 r 0 ∧ ∃ (g_w : Nat → Option Nat) (g_a2 g_a3 g_a4 g_a5 : Nat → Int32) (g_0 g_1 g_2 : Int32), w1 = [(h, xO xa xi), (xa 8, qA G 5 8 (shf sh)), (sh dn, .inr (3, [.ref ra])), (xa 0, fO fn r), (fn 0, qA G 3 9 wh), (fn 1, iA G 9 (fA r 2)), (fn 2, iA G 9 (fA r 3)), (fn 3, iA G 9 (fA r 4)), (fn 4, iA G 9 (fA r 5)), (ra, tA G t z8 rf), (xa 2, fR fm g_0 g_1 g_2), (fm 0, qA G 3 9 g_w), (fm 1, iA G 9 g_a2), (fm 2, iA G 9 g_a3), (fm 3, iA G 9 g_a4), (fm 4, iA G 9 g_a5)]) (fun w1 t => PP G w1 t.heap ∧ va_D A w1) A) args s 0 0 A) (F0 m 29 ls []) := by
    intro rm H locs hP hD hS hg h0 hw hr2 ls hl
    refine lv_iload hx hb dX1_judge_29 (lv_at hl 0 rfl) ?_
    refine lv_aload_n hx hb dX1_judge_31 rfl (lv_at hl 1 rfl) ?_
    refine c_S (rest := [.int (nI z8)]) C (metX1_sizeOf l G t ra z8 rf (by omega) (by omega)) 1 (lw_S q676 q677 q39 q678) (by decide +kernel) ⟨rfl, rfl⟩ ⟨(Nat.le_of_ble_eq_true rfl), (Nat.le_of_ble_eq_true rfl)⟩ (KX_mv G) (hP.sub (ws' := [(ra, tA G t z8 rf)]) [15] rfl) hK hl rfl rfl (Nat.le_of_ble_eq_true rfl) ⟨(Nat.le_of_ble_eq_true rfl), (Nat.le_of_ble_eq_true rfl)⟩ dX1_judge_32 ?_
    refine n_ic_ge (x := z8) (y := z8) (tgt := 114) hx hb (by omega) (by omega) dX1_judge_35 (by decide) (fun c_7 => ?_) (fun c_7 => absurd c_7 (by omega))
    refine lv_bipush (v := (-4)) hx hb dX1_judge_114 (by decide) ?_
    exact n_iretW (v := (-4)) (w1 := [(h, xO xa xi), (xa 8, qA G 5 8 (shf sh)), (sh dn, .inr (3, [.ref ra])), (xa 0, fO fn r), (fn 0, qA G 3 9 wh), (fn 1, iA G 9 (fA r 2)), (fn 2, iA G 9 (fA r 3)), (fn 3, iA G 9 (fA r 4)), (fn 4, iA G 9 (fA r 5)), (ra, tA G t z8 rf), (xa 2, fO fm rm), (fm 0, qA G 3 9 wh), (fm 1, iA G 9 (fA rm 2)), (fm 2, iA G 9 (fA rm 3)), (fm 3, iA G 9 (fA rm 4)), (fm 4, iA G 9 (fA rm 5))]) C (⟨by first | (simp [jdgX, c_1, c_7]; done) | (simp [jdgX, c_1, c_7, hg, jdgX]; done) | (simp [jdgX, c_1, c_7, hg, e9, jdgX]; done), _, _, _, _, _, _, _, _, rfl⟩) (hP.sub (ws' := [(h, xO xa xi), (xa 8, qA G 5 8 (shf sh)), (sh dn, .inr (3, [.ref ra])), (xa 0, fO fn r), (fn 0, qA G 3 9 wh), (fn 1, iA G 9 (fA r 2)), (fn 2, iA G 9 (fA r 3)), (fn 3, iA G 9 (fA r 4)), (fn 4, iA G 9 (fA r 5)), (ra, tA G t z8 rf), (xa 2, fO fm rm), (fm 0, qA G 3 9 wh), (fm 1, iA G 9 (fA rm 2)), (fm 2, iA G 9 (fA rm 3)), (fm 3, iA G 9 (fA rm 4)), (fm 4, iA G 9 (fA rm 5))]) [0, 1, 2, 3, 4, 5, 6, 7, 8, 15, 9, 10, 11, 12, 13, 14] rfl) (hD.sub (ws' := [(h, xO xa xi), (xa 8, qA G 5 8 (shf sh)), (sh dn, .inr (3, [.ref ra])), (xa 0, fO fn r), (fn 0, qA G 3 9 wh), (fn 1, iA G 9 (fA r 2)), (fn 2, iA G 9 (fA r 3)), (fn 3, iA G 9 (fA r 4)), (fn 4, iA G 9 (fA r 5)), (ra, tA G t z8 rf), (xa 2, fO fm rm), (fm 0, qA G 3 9 wh), (fm 1, iA G 9 (fA rm 2)), (fm 2, iA G 9 (fA rm 3)), (fm 3, iA G 9 (fA rm 4)), (fm 4, iA G 9 (fA rm 5))]) [0, 1, 2, 3, 4, 5, 6, 7, 8, 15, 9, 10, 11, 12, 13, 14] (by decide) rfl) hS (by first | omega | decide) (by first | omega | decide) dX1_judge_116
  intro n
  induction n with
  | zero =>
    intro i hi_6 rm H locs hP hD hS hg h0 hw hr2 ls hl
    obtain e_6 : i = z8 := by omega
    first | (subst e_6; exact hend_6 rm H locs hP hD hS hg h0 hw hr2 ls hl) | (rw [e_6] at hl hP hD; exact hend_6 rm H locs hP hD hS hg h0 hw hr2 ls hl)
  | succ n ih_6 =>
    intro i hi_6 rm H locs hP hD hS hg h0 hw hr2 ls hl
    have e9 : z8 - i = (z8 - (i + 1)) + 1 := by omega
    refine lv_iload hx hb dX1_judge_29 (lv_at hl 0 rfl) ?_
    refine lv_aload_n hx hb dX1_judge_31 rfl (lv_at hl 1 rfl) ?_
    refine c_S (rest := [.int (nI i)]) C (metX1_sizeOf l G t ra z8 rf (by omega) (by omega)) 1 (lw_S q676 q677 q39 q678) (by decide +kernel) ⟨rfl, rfl⟩ ⟨(Nat.le_of_ble_eq_true rfl), (Nat.le_of_ble_eq_true rfl)⟩ (KX_mv G) (hP.sub (ws' := [(ra, tA G t z8 rf)]) [15] rfl) hK hl rfl rfl (Nat.le_of_ble_eq_true rfl) ⟨(Nat.le_of_ble_eq_true rfl), (Nat.le_of_ble_eq_true rfl)⟩ dX1_judge_32 ?_
    refine n_ic_ge (x := i) (y := z8) (tgt := 114) hx hb (by omega) (by omega) dX1_judge_35 (by decide) (fun c_8 => absurd c_8 (by omega)) (fun c_8 => ?_)
    refine lv_aload_n hx hb dX1_judge_38 rfl (lv_at hl 3 rfl) ?_
    refine va_get (D := gD G) (ci := 1) (v := .ref (xa 2)) (C := RX1) (T := TX1) (N := 9) hx hb hts in_X1 hown hK.1 hP 0 rfl rfl 2 (by decide) (hts _ q840) (fun _ h9 => h9) rfl dX1_judge_39 ?_
    refine c_Vk (rest := []) C (metX2_best l G (xa 2) fm gm wh rm N (by omega) (h0) (hw) (hr2.JN)) 0 (lw_V q561 q562 q563 q40 q564) (by decide +kernel) ⟨rfl, rfl⟩ ⟨(Nat.le_of_ble_eq_true rfl), (Nat.le_of_ble_eq_true rfl)⟩ (KG.call) (va_recv hK.1 hP (ci := 2) (q0 := 9) rfl rfl) (hP.sub (ws' := [(xa 2, fO fm rm), (fm 0, qA G 3 9 wh), (fm 1, iA G 9 (fA rm 2)), (fm 2, iA G 9 (fA rm 3)), (fm 3, iA G 9 (fA rm 4)), (fm 4, iA G 9 (fA rm 5))]) [9, 10, 11, 12, 13, 14] rfl) (KG.at hK (hGP.kept hGA hS)) hl rfl rfl (Nat.le_of_ble_eq_true rfl) ⟨(Nat.le_of_ble_eq_true rfl), (Nat.le_of_ble_eq_true rfl)⟩ dX1_judge_42 ?_
    rcases ho_9 : sBestO rm N with _ | qo_9
    · have eo_9 : sBest rm N = -4 := by rw [sBest, ho_9]; rfl
      refine n_eqi eo_9 ?_
      refine lv_istore (lv' := [(5, .int (-4)), (4, .int (nI i)), (3, .ref ra), (2, .int 0), (0, .ref h), (1, .int (nI dn))]) hx hb dX1_judge_45 hl (Nat.le_of_ble_eq_true rfl) rfl (fun ls hl => ?_)
      refine lv_iload hx hb dX1_judge_47 (lv_at hl 0 rfl) ?_
      refine lv_if_ge (x := (-4)) (tgt := 57) hx hb dX1_judge_49 (by decide) (fun c_10 => absurd c_10 (by decide)) (fun c_10 => ?_)
      refine lv_bipush (v := (-4)) hx hb dX1_judge_52 (by decide) ?_
      refine lv_goto (tgt := 74) hx hb dX1_judge_54 (by decide) ?_
      refine lv_istore (lv' := [(6, .int (-4)), (5, .int (-4)), (4, .int (nI i)), (3, .ref ra), (2, .int 0), (0, .ref h), (1, .int (nI dn))]) hx hb dX1_judge_74 hl (Nat.le_of_ble_eq_true rfl) rfl (fun ls hl => ?_)
      refine lv_aload_n hx hb dX1_judge_76 rfl (lv_at hl 3 rfl) ?_
      refine lv_iload hx hb dX1_judge_77 (lv_at hl 2 rfl) ?_
      refine c_S (rest := []) C (metX1_elementOf l G t ra z8 rf i (by omega) (by omega) (by omega)) 2 (lw_S q679 q680 q39 q681) (by decide +kernel) ⟨rfl, rfl⟩ ⟨(Nat.le_of_ble_eq_true rfl), (Nat.le_of_ble_eq_true rfl)⟩ (KX_mv G) (hP.sub (ws' := [(ra, tA G t z8 rf)]) [15] rfl) hK hl rfl rfl (Nat.le_of_ble_eq_true rfl) ⟨(Nat.le_of_ble_eq_true rfl), (Nat.le_of_ble_eq_true rfl)⟩ dX1_judge_79 ?_
      refine lv_aload_n hx hb dX1_judge_82 rfl (lv_at hl 3 rfl) ?_
      refine c_S (rest := [.int (rf i)]) C (metX1_leastElement l G t ra z8 rf (by omega) (by omega)) 1 (lw_S q752 q753 q39 q754) (by decide +kernel) ⟨rfl, rfl⟩ ⟨(Nat.le_of_ble_eq_true rfl), (Nat.le_of_ble_eq_true rfl)⟩ (KX_mv G) (hP.sub (ws' := [(ra, tA G t z8 rf)]) [15] rfl) hK hl rfl rfl (Nat.le_of_ble_eq_true rfl) ⟨(Nat.le_of_ble_eq_true rfl), (Nat.le_of_ble_eq_true rfl)⟩ dX1_judge_83 ?_
      refine lv_icmp_eq (x := rf i) (y := sLst t) (tgt := 108) hx hb dX1_judge_86 (by decide) (fun c_11 => ?_) (fun c_11 => ?_)
      · refine n_iinc (k := 2) (lv' := [(4, .int (nI (i + 1))), (6, .int (-4)), (5, .int (-4)), (3, .ref ra), (2, .int 0), (0, .ref h), (1, .int (nI dn))]) hx hb i 1 dX1_judge_108 hl rfl (Nat.le_of_ble_eq_true rfl) rfl (fun ls hl => ?_)
        refine lv_goto (tgt := 29) hx hb dX1_judge_111 (by decide) ?_
        exact ih_6 (i + 1) (by omega) rm _ _ (by exact hP.sub [0, 1, 2, 3, 4, 5, 6, 7, 8, 9, 10, 11, 12, 13, 14, 15] rfl) (by exact hD.sub [0, 1, 2, 3, 4, 5, 6, 7, 8, 9, 10, 11, 12, 13, 14, 15] (by decide) rfl) hS (by rw [hg, e9]; simp [jdgX, c_8, ho_9, eo_9, c_10, c_11]) (h0) (hw) (hr2) ls (lv_sub hl [0, 3, 4, 5, 6] rfl)
      · refine lv_iload hx hb dX1_judge_89 (lv_at hl 1 rfl) ?_
        refine lv_if_lt (x := (-4)) (tgt := 105) hx hb dX1_judge_91 (by decide) (fun c_12 => ?_) (fun c_12 => absurd c_12 (by decide))
        refine lv_iload hx hb dX1_judge_105 (lv_at hl 2 rfl) ?_
        exact n_iretW (v := nI i) (w1 := [(h, xO xa xi), (xa 8, qA G 5 8 (shf sh)), (sh dn, .inr (3, [.ref ra])), (xa 0, fO fn r), (fn 0, qA G 3 9 wh), (fn 1, iA G 9 (fA r 2)), (fn 2, iA G 9 (fA r 3)), (fn 3, iA G 9 (fA r 4)), (fn 4, iA G 9 (fA r 5)), (ra, tA G t z8 rf), (xa 2, fO fm rm), (fm 0, qA G 3 9 wh), (fm 1, iA G 9 (fA rm 2)), (fm 2, iA G 9 (fA rm 3)), (fm 3, iA G 9 (fA rm 4)), (fm 4, iA G 9 (fA rm 5))]) C (⟨by first | (simp [jdgX, c_1, c_8, ho_9, eo_9, c_10, c_11, c_12]; done) | (simp [jdgX, c_1, c_8, ho_9, eo_9, c_10, c_11, c_12, hg, jdgX]; done) | (simp [jdgX, c_1, c_8, ho_9, eo_9, c_10, c_11, c_12, hg, e9, jdgX]; done), _, _, _, _, _, _, _, _, rfl⟩) (hP.sub (ws' := [(h, xO xa xi), (xa 8, qA G 5 8 (shf sh)), (sh dn, .inr (3, [.ref ra])), (xa 0, fO fn r), (fn 0, qA G 3 9 wh), (fn 1, iA G 9 (fA r 2)), (fn 2, iA G 9 (fA r 3)), (fn 3, iA G 9 (fA r 4)), (fn 4, iA G 9 (fA r 5)), (ra, tA G t z8 rf), (xa 2, fO fm rm), (fm 0, qA G 3 9 wh), (fm 1, iA G 9 (fA rm 2)), (fm 2, iA G 9 (fA rm 3)), (fm 3, iA G 9 (fA rm 4)), (fm 4, iA G 9 (fA rm 5))]) [0, 1, 2, 3, 4, 5, 6, 7, 8, 15, 9, 10, 11, 12, 13, 14] rfl) (hD.sub (ws' := [(h, xO xa xi), (xa 8, qA G 5 8 (shf sh)), (sh dn, .inr (3, [.ref ra])), (xa 0, fO fn r), (fn 0, qA G 3 9 wh), (fn 1, iA G 9 (fA r 2)), (fn 2, iA G 9 (fA r 3)), (fn 3, iA G 9 (fA r 4)), (fn 4, iA G 9 (fA r 5)), (ra, tA G t z8 rf), (xa 2, fO fm rm), (fm 0, qA G 3 9 wh), (fm 1, iA G 9 (fA rm 2)), (fm 2, iA G 9 (fA rm 3)), (fm 3, iA G 9 (fA rm 4)), (fm 4, iA G 9 (fA rm 5))]) [0, 1, 2, 3, 4, 5, 6, 7, 8, 15, 9, 10, 11, 12, 13, 14] (by decide) rfl) hS (by first | omega | decide) (by first | omega | decide) dX1_judge_107
    · have eo_9 : sBest rm N = nI (10 * qo_9.1 + qo_9.2) := by rw [sBest, ho_9]; rfl
      have go_9 := sBestO_in ho_9
      have uo_9 : (10 * qo_9.1 + qo_9.2) / 10 = qo_9.1 := by omega
      have vo_9 : (10 * qo_9.1 + qo_9.2) % 10 = qo_9.2 := by omega
      refine n_eqi eo_9 ?_
      refine lv_istore (lv' := [(5, .int (nI (10 * qo_9.1 + qo_9.2))), (4, .int (nI i)), (3, .ref ra), (2, .int 0), (0, .ref h), (1, .int (nI dn))]) hx hb dX1_judge_45 hl (Nat.le_of_ble_eq_true rfl) rfl (fun ls hl => ?_)
      refine lv_iload hx hb dX1_judge_47 (lv_at hl 0 rfl) ?_
      refine n_if_ge (x := 10 * qo_9.1 + qo_9.2) (tgt := 57) hx hb (by omega) dX1_judge_49 (by decide) ?_
      refine lv_aload_n hx hb dX1_judge_57 rfl (lv_at hl 4 rfl) ?_
      refine va_get (D := gD G) (ci := 1) (v := .ref (xa 2)) (C := RX1) (T := TX1) (N := 9) hx hb hts in_X1 hown hK.1 hP 0 rfl rfl 2 (by decide) (hts _ q840) (fun _ h9 => h9) rfl dX1_judge_58 ?_
      refine lv_iload hx hb dX1_judge_61 (lv_at hl 0 rfl) ?_
      refine lv_bipush (v := 10) hx hb dX1_judge_63 (by decide) ?_
      refine n_idiv hx hb (10 * qo_9.1 + qo_9.2) 10 (by omega) (by omega) (by omega) dX1_judge_65 ?_
      refine n_eqi (congrArg nI (show (10 * qo_9.1 + qo_9.2) / 10 = qo_9.1 from uo_9)) ?_
      refine lv_iload hx hb dX1_judge_66 (lv_at hl 0 rfl) ?_
      refine lv_bipush (v := 10) hx hb dX1_judge_68 (by decide) ?_
      refine n_irem hx hb (10 * qo_9.1 + qo_9.2) 10 (by omega) (by omega) (by omega) dX1_judge_70 ?_
      refine n_eqi (congrArg nI (show (10 * qo_9.1 + qo_9.2) % 10 = qo_9.2 from vo_9)) ?_
      refine c_VWk (wr := [(h, xO xa xi), (xa 8, qA G 5 8 (shf sh)), (sh dn, .inr (3, [.ref ra])), (xa 0, fO fn r), (fn 0, qA G 3 9 wh), (fn 1, iA G 9 (fA r 2)), (fn 2, iA G 9 (fA r 3)), (fn 3, iA G 9 (fA r 4)), (fn 4, iA G 9 (fA r 5)), (ra, tA G t z8 rf)]) (rest := []) C (metX2_eats l G (xa 2) fm gm wh rm N qo_9.1 qo_9.2 (by omega) (h0) (hw) (by omega) (by omega) (NG.of hGA hD [9, 10, 11, 12, 13, 14] rfl)) 2 (lw_V q398 q399 q400 q40 q401) (by decide +kernel) ⟨rfl, rfl⟩ ⟨(Nat.le_of_ble_eq_true rfl), (Nat.le_of_ble_eq_true rfl)⟩ (KG.call) (KG.at hK (hGP.kept hGA hS)) (va_recv hK.1 hP (ci := 2) (q0 := 9) rfl rfl) hA hP hD hS [9, 10, 11, 12, 13, 14] [0, 1, 2, 3, 4, 5, 6, 7, 8, 15] rfl rfl rfl rfl (by decide) hl rfl rfl (Nat.le_of_ble_eq_true rfl) ⟨(Nat.le_of_ble_eq_true rfl), (Nat.le_of_ble_eq_true rfl)⟩ dX1_judge_71 (fun r_13 w1 H locs hq_14 hP hD hS => ?_)
      obtain ⟨rfl, rfl⟩ := hq_14
      have hP : PP G [(h, xO xa xi), (xa 8, qA G 5 8 (shf sh)), (sh dn, .inr (3, [.ref ra])), (xa 0, fO fn r), (fn 0, qA G 3 9 wh), (fn 1, iA G 9 (fA r 2)), (fn 2, iA G 9 (fA r 3)), (fn 3, iA G 9 (fA r 4)), (fn 4, iA G 9 (fA r 5)), (ra, tA G t z8 rf), (xa 2, fO fm (sTurn rm qo_9.1 qo_9.2)), (fm 0, qA G 3 9 wh), (fm 1, iA G 9 (fA (sTurn rm qo_9.1 qo_9.2) 2)), (fm 2, iA G 9 (fA (sTurn rm qo_9.1 qo_9.2) 3)), (fm 3, iA G 9 (fA (sTurn rm qo_9.1 qo_9.2) 4)), (fm 4, iA G 9 (fA (sTurn rm qo_9.1 qo_9.2) 5))] H := hP
      have hD : va_D A [(h, xO xa xi), (xa 8, qA G 5 8 (shf sh)), (sh dn, .inr (3, [.ref ra])), (xa 0, fO fn r), (fn 0, qA G 3 9 wh), (fn 1, iA G 9 (fA r 2)), (fn 2, iA G 9 (fA r 3)), (fn 3, iA G 9 (fA r 4)), (fn 4, iA G 9 (fA r 5)), (ra, tA G t z8 rf), (xa 2, fO fm (sTurn rm qo_9.1 qo_9.2)), (fm 0, qA G 3 9 wh), (fm 1, iA G 9 (fA (sTurn rm qo_9.1 qo_9.2) 2)), (fm 2, iA G 9 (fA (sTurn rm qo_9.1 qo_9.2) 3)), (fm 3, iA G 9 (fA (sTurn rm qo_9.1 qo_9.2) 4)), (fm 4, iA G 9 (fA (sTurn rm qo_9.1 qo_9.2) 5))] := hD
      have hw_15 : WK gm wh (sTurn rm qo_9.1 qo_9.2) N := WK.turn hw
      have hr_16 : (sTurn rm qo_9.1 qo_9.2) 0 = nI N := (sTurn_0 rm qo_9.1 qo_9.2).trans h0
      refine lv_istore (lv' := [(6, .int (sJoy rm qo_9.1 qo_9.2)), (5, .int (nI (10 * qo_9.1 + qo_9.2))), (4, .int (nI i)), (3, .ref ra), (2, .int 0), (0, .ref h), (1, .int (nI dn))]) hx hb dX1_judge_74 hl (Nat.le_of_ble_eq_true rfl) rfl (fun ls hl => ?_)
      refine lv_aload_n hx hb dX1_judge_76 rfl (lv_at hl 3 rfl) ?_
      refine lv_iload hx hb dX1_judge_77 (lv_at hl 2 rfl) ?_
      refine c_S (rest := []) C (metX1_elementOf l G t ra z8 rf i (by omega) (by omega) (by omega)) 2 (lw_S q679 q680 q39 q681) (by decide +kernel) ⟨rfl, rfl⟩ ⟨(Nat.le_of_ble_eq_true rfl), (Nat.le_of_ble_eq_true rfl)⟩ (KX_mv G) (hP.sub (ws' := [(ra, tA G t z8 rf)]) [9] rfl) hK hl rfl rfl (Nat.le_of_ble_eq_true rfl) ⟨(Nat.le_of_ble_eq_true rfl), (Nat.le_of_ble_eq_true rfl)⟩ dX1_judge_79 ?_
      refine lv_aload_n hx hb dX1_judge_82 rfl (lv_at hl 3 rfl) ?_
      refine c_S (rest := [.int (rf i)]) C (metX1_leastElement l G t ra z8 rf (by omega) (by omega)) 1 (lw_S q752 q753 q39 q754) (by decide +kernel) ⟨rfl, rfl⟩ ⟨(Nat.le_of_ble_eq_true rfl), (Nat.le_of_ble_eq_true rfl)⟩ (KX_mv G) (hP.sub (ws' := [(ra, tA G t z8 rf)]) [9] rfl) hK hl rfl rfl (Nat.le_of_ble_eq_true rfl) ⟨(Nat.le_of_ble_eq_true rfl), (Nat.le_of_ble_eq_true rfl)⟩ dX1_judge_83 ?_
      refine lv_icmp_eq (x := rf i) (y := sLst t) (tgt := 108) hx hb dX1_judge_86 (by decide) (fun c_17 => ?_) (fun c_17 => ?_)
      · refine n_iinc (k := 2) (lv' := [(4, .int (nI (i + 1))), (6, .int (sJoy rm qo_9.1 qo_9.2)), (5, .int (nI (10 * qo_9.1 + qo_9.2))), (3, .ref ra), (2, .int 0), (0, .ref h), (1, .int (nI dn))]) hx hb i 1 dX1_judge_108 hl rfl (Nat.le_of_ble_eq_true rfl) rfl (fun ls hl => ?_)
        refine lv_goto (tgt := 29) hx hb dX1_judge_111 (by decide) ?_
        exact ih_6 (i + 1) (by omega) (sTurn rm qo_9.1 qo_9.2) _ _ (by exact hP.sub [0, 1, 2, 3, 4, 5, 6, 7, 8, 10, 11, 12, 13, 14, 15, 9] rfl) (by exact hD.sub [0, 1, 2, 3, 4, 5, 6, 7, 8, 10, 11, 12, 13, 14, 15, 9] (by decide) rfl) hS (by rw [hg, e9]; simp [jdgX, c_8, ho_9, eo_9, c_17]) (hr_16) (hw_15) (hr2.turn (by omega) (by omega) (sBestO_eat ho_9)) ls (lv_sub hl [0, 3, 4, 5, 6] rfl)
      · refine lv_iload hx hb dX1_judge_89 (lv_at hl 1 rfl) ?_
        refine n_if_lt (x := 10 * qo_9.1 + qo_9.2) (tgt := 105) hx hb (by omega) dX1_judge_91 (by decide) ?_
        refine lv_aload_n hx hb dX1_judge_94 rfl (lv_at hl 3 rfl) ?_
        refine lv_iload hx hb dX1_judge_95 (lv_at hl 2 rfl) ?_
        refine c_S (rest := []) C (metX1_elementOf l G t ra z8 rf i (by omega) (by omega) (by omega)) 2 (lw_S q679 q680 q39 q681) (by decide +kernel) ⟨rfl, rfl⟩ ⟨(Nat.le_of_ble_eq_true rfl), (Nat.le_of_ble_eq_true rfl)⟩ (KX_mv G) (hP.sub (ws' := [(ra, tA G t z8 rf)]) [9] rfl) hK hl rfl rfl (Nat.le_of_ble_eq_true rfl) ⟨(Nat.le_of_ble_eq_true rfl), (Nat.le_of_ble_eq_true rfl)⟩ dX1_judge_97 ?_
        refine lv_iload hx hb dX1_judge_100 (lv_at hl 0 rfl) ?_
        refine lv_icmp_eq (x := rf i) (y := sJoy rm qo_9.1 qo_9.2) (tgt := 108) hx hb dX1_judge_102 (by decide) (fun c_18 => ?_) (fun c_18 => ?_)
        · refine n_iinc (k := 2) (lv' := [(4, .int (nI (i + 1))), (6, .int (sJoy rm qo_9.1 qo_9.2)), (5, .int (nI (10 * qo_9.1 + qo_9.2))), (3, .ref ra), (2, .int 0), (0, .ref h), (1, .int (nI dn))]) hx hb i 1 dX1_judge_108 hl rfl (Nat.le_of_ble_eq_true rfl) rfl (fun ls hl => ?_)
          refine lv_goto (tgt := 29) hx hb dX1_judge_111 (by decide) ?_
          exact ih_6 (i + 1) (by omega) (sTurn rm qo_9.1 qo_9.2) _ _ (by exact hP.sub [0, 1, 2, 3, 4, 5, 6, 7, 8, 10, 11, 12, 13, 14, 15, 9] rfl) (by exact hD.sub [0, 1, 2, 3, 4, 5, 6, 7, 8, 10, 11, 12, 13, 14, 15, 9] (by decide) rfl) hS (by rw [hg, e9]; simp [jdgX, c_8, ho_9, eo_9, c_17, c_18]) (hr_16) (hw_15) (hr2.turn (by omega) (by omega) (sBestO_eat ho_9)) ls (lv_sub hl [0, 3, 4, 5, 6] rfl)
        · refine lv_iload hx hb dX1_judge_105 (lv_at hl 2 rfl) ?_
          exact n_iretW (v := nI i) (w1 := [(h, xO xa xi), (xa 8, qA G 5 8 (shf sh)), (sh dn, .inr (3, [.ref ra])), (xa 0, fO fn r), (fn 0, qA G 3 9 wh), (fn 1, iA G 9 (fA r 2)), (fn 2, iA G 9 (fA r 3)), (fn 3, iA G 9 (fA r 4)), (fn 4, iA G 9 (fA r 5)), (ra, tA G t z8 rf), (xa 2, fO fm (sTurn rm qo_9.1 qo_9.2)), (fm 0, qA G 3 9 wh), (fm 1, iA G 9 (fA (sTurn rm qo_9.1 qo_9.2) 2)), (fm 2, iA G 9 (fA (sTurn rm qo_9.1 qo_9.2) 3)), (fm 3, iA G 9 (fA (sTurn rm qo_9.1 qo_9.2) 4)), (fm 4, iA G 9 (fA (sTurn rm qo_9.1 qo_9.2) 5))]) C (⟨by first | (simp [jdgX, c_1, c_8, ho_9, eo_9, c_17, c_18]; done) | (simp [jdgX, c_1, c_8, ho_9, eo_9, c_17, c_18, hg, jdgX]; done) | (simp [jdgX, c_1, c_8, ho_9, eo_9, c_17, c_18, hg, e9, jdgX]; done), _, _, _, _, _, _, _, _, rfl⟩) hP hD hS (by first | omega | decide) (by first | omega | decide) dX1_judge_107

set_option maxHeartbeats 4000000 in
set_option maxRecDepth 100000 in
theorem metX1_notPairs_w (l : Launch) (G : GG) (h : Nat) (xa : Nat → Nat) (xi : Nat → Int32) (gm : GM) (W0 : va_W) (d why : Int32) (hnr : MR l yX1_notRow cX1_notRow 3 (some .int) ({ frames := 4, cells := 0, slots := 0, locals := 80 }) [.ref h, .int d] ([(h, xO xa xi)] ++ W0) G (KG G gm) why) (hwy : ¬ why = 0) : MR l yX1_notPairs cX1_notPairs 6 (some .int) ({ frames := 12, cells := 0, slots := 0, locals := 500 }) [.ref h, .int d] ([(h, xO xa xi)] ++ W0) G (KG G gm) why := by
  -- rows printed by wip/tools/gen.py
  refine mr_mk RX1 (by decide) rfl (Nat.le_of_ble_eq_true rfl) ?_
  intro p0_ e0_ s m args below meth c C hP hK ls hl
  have hGP := hK.2
  have hK := hK.1
  have hx := C.1
  have hb := C.2.1
  have hml := C.2.2.2.2.1
  have hown := C.2.2.2.2.2.1
  have hts := C.2.2.2.2.2.2
  have hl : lv_has ls 6 [(0, .ref h), (1, .int d)] := hl
  refine lv_aload_n hx hb dX1_notPairs_0 rfl (lv_at hl 0 rfl) ?_
  refine lv_iload_n hx hb dX1_notPairs_1 rfl (lv_at hl 1 rfl) ?_
  refine c_Vk (rest := []) C hnr 1 (lw_V q667 q669 qs18 q39 q670) (by decide +kernel) ⟨rfl, rfl⟩ ⟨(by dsimp only; omega), (by dsimp only; omega)⟩ (KG.call) (va_recv hK.1 hP (ci := 1) (q0 := 0) rfl rfl) hP (KG.at hK hGP) hl rfl rfl (Nat.le_of_ble_eq_true rfl) ⟨(Nat.le_of_ble_eq_true rfl), (Nat.le_of_ble_eq_true rfl)⟩ dX1_notPairs_2 ?_
  refine lv_istore_n (lv' := [(2, .int why), (0, .ref h), (1, .int d)]) hx hb dX1_notPairs_5 rfl hl (Nat.le_of_ble_eq_true rfl) rfl (fun ls hl => ?_)
  refine lv_iload_n hx hb dX1_notPairs_6 rfl (lv_at hl 0 rfl) ?_
  refine lv_if_eq (x := why) (tgt := 12) hx hb dX1_notPairs_7 (by decide) (fun c_1 => absurd c_1 (hwy)) (fun c_1 => ?_)
  refine lv_iload_n hx hb dX1_notPairs_10 rfl (lv_at hl 0 rfl) ?_
  exact n_iret (v := why) C (rfl) dX1_notPairs_11

set_option maxHeartbeats 4000000 in
set_option maxRecDepth 100000 in
theorem metX1_swap_w (l : Launch) (G : GG) (h : Nat) (xa : Nat → Nat) (xi : Nat → Int32) (gm : GM) (W0 : va_W) (d why : Int32) (hnp : MR l yX1_notPairs cX1_notPairs 6 (some .int) ({ frames := 12, cells := 0, slots := 0, locals := 500 }) [.ref h, .int d] ([(h, xO xa xi)] ++ W0) G (KG G gm) why) (hwy : ¬ why = 0) : MR l yX1_swap cX1_swap 9 (some .int) ({ frames := 13, cells := 0, slots := 0, locals := 525 }) [.ref h, .int d] ([(h, xO xa xi)] ++ W0) G (KG G gm) why := by
  -- rows printed by wip/tools/gen.py
  refine mr_mk RX1 (by decide) rfl (Nat.le_of_ble_eq_true rfl) ?_
  intro p0_ e0_ s m args below meth c C hP hK ls hl
  have hGP := hK.2
  have hK := hK.1
  have hx := C.1
  have hb := C.2.1
  have hml := C.2.2.2.2.1
  have hown := C.2.2.2.2.2.1
  have hts := C.2.2.2.2.2.2
  have hl : lv_has ls 9 [(0, .ref h), (1, .int d)] := hl
  refine lv_aload_n hx hb dX1_swap_0 rfl (lv_at hl 0 rfl) ?_
  refine lv_iload_n hx hb dX1_swap_1 rfl (lv_at hl 1 rfl) ?_
  refine c_Vk (rest := []) C hnp 1 (lw_V q663 q665 qs17 q39 q666) (by decide +kernel) ⟨rfl, rfl⟩ ⟨(Nat.le_of_ble_eq_true rfl), (Nat.le_of_ble_eq_true rfl)⟩ (KG.call) (va_recv hK.1 hP (ci := 1) (q0 := 0) rfl rfl) hP (KG.at hK hGP) hl rfl rfl (Nat.le_of_ble_eq_true rfl) ⟨(Nat.le_of_ble_eq_true rfl), (Nat.le_of_ble_eq_true rfl)⟩ dX1_swap_2 ?_
  refine lv_istore_n (lv' := [(2, .int why), (0, .ref h), (1, .int d)]) hx hb dX1_swap_5 rfl hl (Nat.le_of_ble_eq_true rfl) rfl (fun ls hl => ?_)
  refine lv_iload_n hx hb dX1_swap_6 rfl (lv_at hl 0 rfl) ?_
  refine lv_if_eq (x := why) (tgt := 12) hx hb dX1_swap_7 (by decide) (fun c_1 => absurd c_1 (hwy)) (fun c_1 => ?_)
  refine lv_iload_n hx hb dX1_swap_10 rfl (lv_at hl 0 rfl) ?_
  exact n_iret (v := why) C (rfl) dX1_swap_11

set_option maxHeartbeats 4000000 in
set_option maxRecDepth 100000 in
theorem metX1_throat_w (l : Launch) (G : GG) (h : Nat) (xa : Nat → Nat) (xi : Nat → Int32) (gm : GM) (W0 : va_W) (d why : Int32) (u f what : Int32) (hnr : MR l yX1_notRow cX1_notRow 3 (some .int) ({ frames := 4, cells := 0, slots := 0, locals := 80 }) [.ref h, .int d] ([(h, xO xa xi)] ++ W0) G (KG G gm) why) (hwy : ¬ why = 0) : MR l yX1_throat cX1_throat 8 (some .int) ({ frames := 5, cells := 0, slots := 0, locals := 102 }) [.ref h, .int d, .int u, .int f, .int what] ([(h, xO xa xi)] ++ W0) G (KG G gm) (sThW u f what why) := by
  -- rows printed by wip/tools/gen.py
  refine mr_mk RX1 (by decide) rfl (Nat.le_of_ble_eq_true rfl) ?_
  intro p0_ e0_ s m args below meth c C hP hK ls hl
  have hGP := hK.2
  have hK := hK.1
  have hx := C.1
  have hb := C.2.1
  have hml := C.2.2.2.2.1
  have hown := C.2.2.2.2.2.1
  have hts := C.2.2.2.2.2.2
  have hl : lv_has ls 8 [(0, .ref h), (1, .int d), (2, .int u), (3, .int f), (4, .int what)] := hl
  refine lv_iload_n hx hb dX1_throat_0 rfl (lv_at hl 2 rfl) ?_
  refine c_S (rest := []) C (metX1_isFeeling l G u) 1 (lw_S q281 q282 q39 q283) (by decide +kernel) ⟨rfl, rfl⟩ ⟨(Nat.le_of_ble_eq_true rfl), (Nat.le_of_ble_eq_true rfl)⟩ (KM_mv G) (hP.sub (ws' := []) [] rfl) hK.1 hl rfl rfl (Nat.le_of_ble_eq_true rfl) ⟨(Nat.le_of_ble_eq_true rfl), (Nat.le_of_ble_eq_true rfl)⟩ dX1_throat_1 ?_
  refine n_if_eqB (b := (sIn u 0 30)) (tgt := 24) hx hb dX1_throat_4 (by decide) (fun c_1 => ?_) (fun c_1 => ?_)
  · refine lv_iconst (v := (-1)) hx hb dX1_throat_24 (by decide) ?_
    exact n_iret (v := (-1)) C (by simp [sThW, c_1]) dX1_throat_25
  · obtain ⟨u_2, hu_2, gu_2, rfl⟩ := sIn_t (a := 0) (b := 30) (by omega) (by omega) c_1
    have tu_2 : tn (nI u_2) = u_2 := nI_clamp (by omega)
    refine lv_iload_n hx hb dX1_throat_7 rfl (lv_at hl 3 rfl) ?_
    refine c_S (rest := []) C (metX1_isNine l G f) 1 (lw_S q635 q636 q39 q637) (by decide +kernel) ⟨rfl, rfl⟩ ⟨(Nat.le_of_ble_eq_true rfl), (Nat.le_of_ble_eq_true rfl)⟩ (KM_mv G) (hP.sub (ws' := []) [] rfl) hK.1 hl rfl rfl (Nat.le_of_ble_eq_true rfl) ⟨(Nat.le_of_ble_eq_true rfl), (Nat.le_of_ble_eq_true rfl)⟩ dX1_throat_8 ?_
    refine n_if_eqB (b := (sIn f 0 9)) (tgt := 24) hx hb dX1_throat_11 (by decide) (fun c_3 => ?_) (fun c_3 => ?_)
    · refine lv_iconst (v := (-1)) hx hb dX1_throat_24 (by decide) ?_
      exact n_iret (v := (-1)) C (by simp [sThW, c_1, tu_2, c_3]) dX1_throat_25
    · obtain ⟨f_4, hf_4, gf_4, rfl⟩ := sIn_t (a := 0) (b := 9) (by omega) (by omega) c_3
      have tf_4 : tn (nI f_4) = f_4 := nI_clamp (by omega)
      refine lv_iload hx hb dX1_throat_14 (lv_at hl 4 rfl) ?_
      refine lv_iconst (v := 0) hx hb dX1_throat_16 (by decide) ?_
      refine lv_iconst (v := 1) hx hb dX1_throat_17 (by decide) ?_
      refine c_S (rest := []) C (metX1_isIn l G what 0 1) 3 (lw_S q171 q172 q39 q173) (by decide +kernel) ⟨rfl, rfl⟩ ⟨(Nat.le_of_ble_eq_true rfl), (Nat.le_of_ble_eq_true rfl)⟩ (KM_mv G) (hP.sub (ws' := []) [] rfl) hK.1 hl rfl rfl (Nat.le_of_ble_eq_true rfl) ⟨(Nat.le_of_ble_eq_true rfl), (Nat.le_of_ble_eq_true rfl)⟩ dX1_throat_18 ?_
      refine n_if_neB (b := (sIn what 0 1)) (tgt := 26) hx hb dX1_throat_21 (by decide) (fun c_5 => ?_) (fun c_5 => ?_)
      · obtain ⟨what_6, hwhat_6, gwhat_6, rfl⟩ := sIn_t (a := 0) (b := 1) (by omega) (by omega) c_5
        have twhat_6 : tn (nI what_6) = what_6 := nI_clamp (by omega)
        refine lv_aload_n hx hb dX1_throat_26 rfl (lv_at hl 0 rfl) ?_
        refine lv_iload_n hx hb dX1_throat_27 rfl (lv_at hl 1 rfl) ?_
        refine c_Vk (rest := []) C hnr 1 (lw_V q667 q669 qs18 q39 q670) (by decide +kernel) ⟨rfl, rfl⟩ ⟨(Nat.le_of_ble_eq_true rfl), (Nat.le_of_ble_eq_true rfl)⟩ (KG.call) (va_recv hK.1 hP (ci := 1) (q0 := 0) rfl rfl) hP (KG.at hK hGP) hl rfl rfl (Nat.le_of_ble_eq_true rfl) ⟨(Nat.le_of_ble_eq_true rfl), (Nat.le_of_ble_eq_true rfl)⟩ dX1_throat_28 ?_
        refine lv_istore (lv' := [(5, .int why), (0, .ref h), (1, .int d), (2, .int (nI u_2)), (3, .int (nI f_4)), (4, .int (nI what_6))]) hx hb dX1_throat_31 hl (Nat.le_of_ble_eq_true rfl) rfl (fun ls hl => ?_)
        refine lv_iload hx hb dX1_throat_33 (lv_at hl 0 rfl) ?_
        refine lv_if_eq (x := why) (tgt := 41) hx hb dX1_throat_35 (by decide) (fun c_7 => absurd c_7 (hwy)) (fun c_7 => ?_)
        refine lv_iload hx hb dX1_throat_38 (lv_at hl 0 rfl) ?_
        exact n_iret (v := why) C (by simp [sThW, c_1, tu_2, c_3, tf_4, c_5, twhat_6, c_7]) dX1_throat_40
      · refine lv_iconst (v := (-1)) hx hb dX1_throat_24 (by decide) ?_
        exact n_iret (v := (-1)) C (by simp [sThW, c_1, tu_2, c_3, tf_4, c_5]) dX1_throat_25

set_option maxHeartbeats 4000000 in
set_option maxRecDepth 100000 in
theorem metX1_forged_w (l : Launch) (G : GG) (h : Nat) (xa : Nat → Nat) (xi : Nat → Int32) (gm : GM) (W0 : va_W) (d why : Int32) (hnr : MR l yX1_notRow cX1_notRow 3 (some .int) ({ frames := 4, cells := 0, slots := 0, locals := 80 }) [.ref h, .int d] ([(h, xO xa xi)] ++ W0) G (KG G gm) why) (hwy : ¬ why = 0) : MR l yX1_forged cX1_forged 7 (some .int) ({ frames := 5, cells := 0, slots := 0, locals := 102 }) [.ref h, .int d] ([(h, xO xa xi)] ++ W0) G (KG G gm) why := by
  -- rows printed by wip/tools/gen.py
  refine mr_mk RX1 (by decide) rfl (Nat.le_of_ble_eq_true rfl) ?_
  intro p0_ e0_ s m args below meth c C hP hK ls hl
  have hGP := hK.2
  have hK := hK.1
  have hx := C.1
  have hb := C.2.1
  have hml := C.2.2.2.2.1
  have hown := C.2.2.2.2.2.1
  have hts := C.2.2.2.2.2.2
  have hl : lv_has ls 7 [(0, .ref h), (1, .int d)] := hl
  refine lv_aload_n hx hb dX1_forged_0 rfl (lv_at hl 0 rfl) ?_
  refine lv_iload_n hx hb dX1_forged_1 rfl (lv_at hl 1 rfl) ?_
  refine c_Vk (rest := []) C hnr 1 (lw_V q667 q669 qs18 q39 q670) (by decide +kernel) ⟨rfl, rfl⟩ ⟨(Nat.le_of_ble_eq_true rfl), (Nat.le_of_ble_eq_true rfl)⟩ (KG.call) (va_recv hK.1 hP (ci := 1) (q0 := 0) rfl rfl) hP (KG.at hK hGP) hl rfl rfl (Nat.le_of_ble_eq_true rfl) ⟨(Nat.le_of_ble_eq_true rfl), (Nat.le_of_ble_eq_true rfl)⟩ dX1_forged_2 ?_
  refine lv_istore_n (lv' := [(2, .int why), (0, .ref h), (1, .int d)]) hx hb dX1_forged_5 rfl hl (Nat.le_of_ble_eq_true rfl) rfl (fun ls hl => ?_)
  refine lv_iload_n hx hb dX1_forged_6 rfl (lv_at hl 0 rfl) ?_
  refine lv_if_eq (x := why) (tgt := 12) hx hb dX1_forged_7 (by decide) (fun c_1 => absurd c_1 (hwy)) (fun c_1 => ?_)
  refine lv_iload_n hx hb dX1_forged_10 rfl (lv_at hl 0 rfl) ?_
  exact n_iret (v := why) C (rfl) dX1_forged_11

set_option maxHeartbeats 4000000 in
set_option maxRecDepth 100000 in
theorem metX1_judge_w (l : Launch) (G : GG) (h : Nat) (xa : Nat → Nat) (xi : Nat → Int32) (gm : GM) (W0 : va_W) (d why : Int32) (hnr : MR l yX1_notRow cX1_notRow 3 (some .int) ({ frames := 4, cells := 0, slots := 0, locals := 80 }) [.ref h, .int d] ([(h, xO xa xi)] ++ W0) G (KG G gm) why) (hwy : ¬ why = 0) : MR l yX1_judge cX1_judge 7 (some .int) ({ frames := 5, cells := 0, slots := 0, locals := 102 }) [.ref h, .int d] ([(h, xO xa xi)] ++ W0) G (KG G gm) why := by
  -- rows printed by wip/tools/gen.py
  refine mr_mk RX1 (by decide) rfl (Nat.le_of_ble_eq_true rfl) ?_
  intro p0_ e0_ s m args below meth c C hP hK ls hl
  have hGP := hK.2
  have hK := hK.1
  have hx := C.1
  have hb := C.2.1
  have hml := C.2.2.2.2.1
  have hown := C.2.2.2.2.2.1
  have hts := C.2.2.2.2.2.2
  have hl : lv_has ls 7 [(0, .ref h), (1, .int d)] := hl
  refine lv_aload_n hx hb dX1_judge_0 rfl (lv_at hl 0 rfl) ?_
  refine lv_iload_n hx hb dX1_judge_1 rfl (lv_at hl 1 rfl) ?_
  refine c_Vk (rest := []) C hnr 1 (lw_V q667 q669 qs18 q39 q670) (by decide +kernel) ⟨rfl, rfl⟩ ⟨(Nat.le_of_ble_eq_true rfl), (Nat.le_of_ble_eq_true rfl)⟩ (KG.call) (va_recv hK.1 hP (ci := 1) (q0 := 0) rfl rfl) hP (KG.at hK hGP) hl rfl rfl (Nat.le_of_ble_eq_true rfl) ⟨(Nat.le_of_ble_eq_true rfl), (Nat.le_of_ble_eq_true rfl)⟩ dX1_judge_2 ?_
  refine lv_istore_n (lv' := [(2, .int why), (0, .ref h), (1, .int d)]) hx hb dX1_judge_5 rfl hl (Nat.le_of_ble_eq_true rfl) rfl (fun ls hl => ?_)
  refine lv_iload_n hx hb dX1_judge_6 rfl (lv_at hl 0 rfl) ?_
  refine lv_if_eq (x := why) (tgt := 12) hx hb dX1_judge_7 (by decide) (fun c_1 => absurd c_1 (hwy)) (fun c_1 => ?_)
  refine lv_iload_n hx hb dX1_judge_10 rfl (lv_at hl 0 rfl) ?_
  exact n_iret (v := why) C (rfl) dX1_judge_11
