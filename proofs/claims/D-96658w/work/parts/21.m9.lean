/-- the search's contract at depth f -/
def PFC (f : Nat) : Prop := ∀ (l : Launch) (G : GG) (h : Nat) (ad : Nat → Nat) (iv r : Nat → Int32) (N p : Nat) (tk lf v bo : Int32) (bb wb : Nat → Int32) (hN : N ≤ 8) (hr : r 0 = nI N) (hp : p + f = N), MWv l yX4_pairsFrom cX4_pairsFrom 9 none ({ frames := 20 + f, cells := 0, slots := 0, locals := 300 + 40 * f }) [.ref h, .int (nI p), .int tk, .int lf, .int v] [(h, mO ad (upd iv 11 bo)), (ad 0, iA G 57 r), (ad 9, iA G 8 wb), (ad 10, iA G 8 bb)] G (KM G) 0 0 (fun w1 => w1 = [(h, mO ad (upd iv 11 ((pf r N f p tk lf v (bo, bb, wb)).1))), (ad 0, iA G 57 r), (ad 9, iA G 8 ((pf r N f p tk lf v (bo, bb, wb)).2.2)), (ad 10, iA G 8 ((pf r N f p tk lf v (bo, bb, wb)).2.1))])
set_option maxHeartbeats 4000000 in
set_option maxRecDepth 100000 in
theorem pfc_0 (l : Launch) (G : GG) (h : Nat) (ad : Nat → Nat) (iv r : Nat → Int32) (N p : Nat) (tk lf v bo : Int32) (bb wb : Nat → Int32) (hN : N ≤ 8) (hr : r 0 = nI N) (hp : p + 0 = N) : MWv l yX4_pairsFrom cX4_pairsFrom 9 none ({ frames := 20 + 0, cells := 0, slots := 0, locals := 300 + 40 * 0 }) [.ref h, .int (nI p), .int tk, .int lf, .int v] [(h, mO ad (upd iv 11 bo)), (ad 0, iA G 57 r), (ad 9, iA G 8 wb), (ad 10, iA G 8 bb)] G (KM G) 0 0 (fun w1 => w1 = [(h, mO ad (upd iv 11 ((pf r N 0 p tk lf v (bo, bb, wb)).1))), (ad 0, iA G 57 r), (ad 9, iA G 8 ((pf r N 0 p tk lf v (bo, bb, wb)).2.2)), (ad 10, iA G 8 ((pf r N 0 p tk lf v (bo, bb, wb)).2.1))]) := by
  -- rows printed by wip/tools/gen.py
  refine mwv_mk RX4 (by decide) rfl (Nat.le_of_ble_eq_true rfl) ?_
  intro p0_ e0_ s m args below meth c A C hname hA hP hK hD ls hl
  have hx := C.1
  have hb := C.2.1
  have hml := C.2.2.2.2.1
  have hown := C.2.2.2.2.2.1
  have hts := C.2.2.2.2.2.2
  have hS : va_S A s.heap s.heap [] := va_S.rf
  have hl : lv_has ls 9 [(0, .ref h), (1, .int (nI p)), (2, .int tk), (3, .int lf), (4, .int v)] := hl
  refine lv_iload_n hx hb dX4_pairsFrom_0 rfl (lv_at hl 1 rfl) ?_
  refine lv_aload_n hx hb dX4_pairsFrom_1 rfl (lv_at hl 0 rfl) ?_
  refine va_get (D := gD G) (ci := 0) (v := .ref (ad 0)) (C := RX4) (T := TX4) (N := 20) hx hb hts in_X4 hown hK hP 0 rfl rfl 0 (by decide) (hts _ q1073) (fun _ h9 => h9) rfl dX4_pairsFrom_2 ?_
  refine lv_iconst (v := 0) hx hb dX4_pairsFrom_5 (by decide) ?_
  refine n_iald C hK hP 1 0 rfl (by omega) (by omega) dX4_pairsFrom_6 ?_
  refine n_eqi (hr) ?_
  refine n_ic_ne (x := p) (y := N) (tgt := 63) hx hb (by omega) (by omega) dX4_pairsFrom_7 (by decide) (fun c_1 => absurd c_1 (by omega)) (fun c_1 => ?_)
  refine lv_iload hx hb dX4_pairsFrom_10 (lv_at hl 4 rfl) ?_
  refine lv_aload_n hx hb dX4_pairsFrom_12 rfl (lv_at hl 0 rfl) ?_
  refine va_get (D := gD G) (ci := 0) (v := .int bo) (C := RX4) (T := TX4) (N := 20) hx hb hts in_X4 hown hK hP 0 rfl rfl 11 (by decide) (hts _ q1084) (fun _ h9 => h9) rfl dX4_pairsFrom_13 ?_
  refine lv_icmp_le (x := v) (y := bo) (tgt := 49) hx hb dX4_pairsFrom_16 (by decide) (fun c_2 => ?_) (fun c_2 => ?_)
  · have zc_2 : ¬ bo < v := Int32.not_lt.mpr c_2
    refine lv_aload_n hx hb dX4_pairsFrom_49 rfl (lv_at hl 0 rfl) ?_
    refine lv_aload_n hx hb dX4_pairsFrom_50 rfl (lv_at hl 0 rfl) ?_
    refine va_get (D := gD G) (ci := 0) (v := .int bo) (C := RX4) (T := TX4) (N := 20) hx hb hts in_X4 hown hK hP 0 rfl rfl 11 (by decide) (hts _ q1084) (fun _ h9 => h9) rfl dX4_pairsFrom_51 ?_
    refine lv_iload hx hb dX4_pairsFrom_54 (lv_at hl 4 rfl) ?_
    refine c_S (rest := [.ref h]) C (metX4_most l G bo v) 2 (lw_S q1204 q1205 q42 q1206) (by decide +kernel) ⟨rfl, rfl⟩ ⟨(by dsimp only; omega), (by dsimp only; omega)⟩ (KM_mv G) (hP.sub (ws' := []) [] rfl) hK hl rfl rfl (Nat.le_of_ble_eq_true rfl) ⟨(Nat.le_of_ble_eq_true rfl), (Nat.le_of_ble_eq_true rfl)⟩ dX4_pairsFrom_56 ?_
    refine lv_topi (fun yv_3 eyv_3 => ?_)
    refine va_put (D := gD G) (ci := 0) (v := .int yv_3) (ty := .int) (C := RX4) (T := TX4) (N := 20) hx hb hts in_X4 tyX4 tyX4_ok nmX4 hown hK hP hD hS 0 rfl rfl 11 (by decide) (hts _ q1084) (fun _ h9 => h9) rfl (by decide +kernel) rfl rfl (Nat.le_of_ble_eq_true rfl) dX4_pairsFrom_59 (fun H locs hP hD hS => ?_)
    have hP : PP G [(h, mO ad (upd iv 11 yv_3)), (ad 0, iA G 57 r), (ad 9, iA G 8 wb), (ad 10, iA G 8 bb)] H := hP
    have hD : va_D A [(h, mO ad (upd iv 11 yv_3)), (ad 0, iA G 57 r), (ad 9, iA G 8 wb), (ad 10, iA G 8 bb)] := hD
    subst eyv_3
    exact n_vretW (w1 := [(h, mO ad (upd iv 11 (mx bo v))), (ad 0, iA G 57 r), (ad 9, iA G 8 wb), (ad 10, iA G 8 bb)]) C (by simp [pf, pfE, c_1, c_2, zc_2]) hP hD hS (by first | omega | decide) (by first | omega | decide) dX4_pairsFrom_62
  · have zc_2 : bo < v := Int32.not_le.mp c_2
    refine lv_iconst (v := 0) hx hb dX4_pairsFrom_19 (by decide) ?_
    refine lv_istore (lv' := [(5, .int 0), (0, .ref h), (1, .int (nI p)), (2, .int tk), (3, .int lf), (4, .int v)]) hx hb dX4_pairsFrom_20 hl (Nat.le_of_ble_eq_true rfl) rfl (fun ls hl => ?_)
    suffices hlp_4 : (∀ (n i : Nat), i + n = 8 → ∀ (H : Heap) (locs : List Loc), PP G [(h, mO ad (upd iv 11 bo)), (ad 0, iA G 57 r), (ad 9, iA G 8 wb), (ad 10, iA G 8 (cpf wb bb i))] H → va_D A [(h, mO ad (upd iv 11 bo)), (ad 0, iA G 57 r), (ad 9, iA G 8 wb), (ad 10, iA G 8 (cpf wb bb i))] → va_S A s.heap H locs → ∀ (ls : Array Slot), lv_has ls 9 [(5, .int (nI i)), (0, .ref h), (1, .int (nI p)), (2, .int tk), (3, .int lf), (4, .int v)] → W p0_ l e0_ ({ frames := 20 + 0, cells := 0, slots := 0, locals := 300 + 40 * 0 } : Room) s m args below meth c H locs (0) (0) (MQ below (va_Qv (S := va_W) (fun w1 => w1 = [(h, mO ad (upd iv 11 ((pf r N 0 p tk lf v (bo, bb, wb)).1))), (ad 0, iA G 57 r), (ad 9, iA G 8 ((pf r N 0 p tk lf v (bo, bb, wb)).2.2)), (ad 10, iA G 8 ((pf r N 0 p tk lf v (bo, bb, wb)).2.1))]) (fun w1 t => PP G w1 t.heap ∧ va_D A w1) A) args s 0 0 A) (F0 m 22 ls [])) by
      exact hlp_4 (8) 0 (by omega) _ _ (hP.sub [0, 1, 2, 3] (by rw [cpf_0]; rfl)) (hD.sub [0, 1, 2, 3] (by decide) (by rw [cpf_0]; rfl)) hS ls (lv_sub hl [0, 1, 2, 3, 4, 5] rfl)
    have hend_4 : ∀ (H : Heap) (locs : List Loc), PP G [(h, mO ad (upd iv 11 bo)), (ad 0, iA G 57 r), (ad 9, iA G 8 wb), (ad 10, iA G 8 (cpf wb bb 8))] H → va_D A [(h, mO ad (upd iv 11 bo)), (ad 0, iA G 57 r), (ad 9, iA G 8 wb), (ad 10, iA G 8 (cpf wb bb 8))] → va_S A s.heap H locs → ∀ (ls : Array Slot), lv_has ls 9 [(5, .int (nI 8)), (0, .ref h), (1, .int (nI p)), (2, .int tk), (3, .int lf), (4, .int v)] → W p0_ l e0_ ({ frames := 20 + 0, cells := 0, slots := 0, locals := 300 + 40 * 0 } : Room) s m args below meth c H locs (0) (0) (MQ below (va_Qv (S := va_W) (fun w1 => w1 = [(h, mO ad (upd iv 11 ((pf r N 0 p tk lf v (bo, bb, wb)).1))), (ad 0, iA G 57 r), (ad 9, iA G 8 ((pf r N 0 p tk lf v (bo, bb, wb)).2.2)), (ad 10, iA G 8 ((pf r N 0 p tk lf v (bo, bb, wb)).2.1))]) (fun w1 t => PP G w1 t.heap ∧ va_D A w1) A) args s 0 0 A) (F0 m 22 ls []) := by
      intro H locs hP hD hS ls hl
      refine lv_iload hx hb dX4_pairsFrom_22 (lv_at hl 0 rfl) ?_
      refine lv_bipush (v := 8) hx hb dX4_pairsFrom_24 (by decide) ?_
      refine n_ic_ge (x := 8) (y := 8) (tgt := 49) hx hb (by omega) (by omega) dX4_pairsFrom_26 (by decide) (fun c_5 => ?_) (fun c_5 => absurd c_5 (by omega))
      refine lv_aload_n hx hb dX4_pairsFrom_49 rfl (lv_at hl 1 rfl) ?_
      refine lv_aload_n hx hb dX4_pairsFrom_50 rfl (lv_at hl 1 rfl) ?_
      refine va_get (D := gD G) (ci := 0) (v := .int bo) (C := RX4) (T := TX4) (N := 20) hx hb hts in_X4 hown hK hP 0 rfl rfl 11 (by decide) (hts _ q1084) (fun _ h9 => h9) rfl dX4_pairsFrom_51 ?_
      refine lv_iload hx hb dX4_pairsFrom_54 (lv_at hl 5 rfl) ?_
      refine c_S (rest := [.ref h]) C (metX4_most l G bo v) 2 (lw_S q1204 q1205 q42 q1206) (by decide +kernel) ⟨rfl, rfl⟩ ⟨(by dsimp only; omega), (by dsimp only; omega)⟩ (KM_mv G) (hP.sub (ws' := []) [] rfl) hK hl rfl rfl (Nat.le_of_ble_eq_true rfl) ⟨(Nat.le_of_ble_eq_true rfl), (Nat.le_of_ble_eq_true rfl)⟩ dX4_pairsFrom_56 ?_
      refine lv_topi (fun yv_6 eyv_6 => ?_)
      refine va_put (D := gD G) (ci := 0) (v := .int yv_6) (ty := .int) (C := RX4) (T := TX4) (N := 20) hx hb hts in_X4 tyX4 tyX4_ok nmX4 hown hK hP hD hS 0 rfl rfl 11 (by decide) (hts _ q1084) (fun _ h9 => h9) rfl (by decide +kernel) rfl rfl (Nat.le_of_ble_eq_true rfl) dX4_pairsFrom_59 (fun H locs hP hD hS => ?_)
      have hP : PP G [(h, mO ad (upd iv 11 yv_6)), (ad 0, iA G 57 r), (ad 9, iA G 8 wb), (ad 10, iA G 8 (cpf wb bb 8))] H := hP
      have hD : va_D A [(h, mO ad (upd iv 11 yv_6)), (ad 0, iA G 57 r), (ad 9, iA G 8 wb), (ad 10, iA G 8 (cpf wb bb 8))] := hD
      subst eyv_6
      exact n_vretW (w1 := [(h, mO ad (upd iv 11 (mx bo v))), (ad 0, iA G 57 r), (ad 9, iA G 8 wb), (ad 10, iA G 8 (cpf wb bb 8))]) C (by simp [pf, pfE, c_1, c_2, zc_2, c_5]) hP hD hS (by first | omega | decide) (by first | omega | decide) dX4_pairsFrom_62
    intro n
    induction n with
    | zero =>
      intro i hi_4 H locs hP hD hS ls hl
      obtain e_4 : i = 8 := by omega
      first | (subst e_4; exact hend_4 H locs hP hD hS ls hl) | (rw [e_4] at hl hP hD; exact hend_4 H locs hP hD hS ls hl)
    | succ n ih_4 =>
      intro i hi_4 H locs hP hD hS ls hl
      refine lv_iload hx hb dX4_pairsFrom_22 (lv_at hl 0 rfl) ?_
      refine lv_bipush (v := 8) hx hb dX4_pairsFrom_24 (by decide) ?_
      refine n_ic_ge (x := i) (y := 8) (tgt := 49) hx hb (by omega) (by omega) dX4_pairsFrom_26 (by decide) (fun c_7 => absurd c_7 (by omega)) (fun c_7 => ?_)
      refine lv_aload_n hx hb dX4_pairsFrom_29 rfl (lv_at hl 1 rfl) ?_
      refine va_get (D := gD G) (ci := 0) (v := .ref (ad 10)) (C := RX4) (T := TX4) (N := 20) hx hb hts in_X4 hown hK hP 0 rfl rfl 10 (by decide) (hts _ q1083) (fun _ h9 => h9) rfl dX4_pairsFrom_30 ?_
      refine lv_iload hx hb dX4_pairsFrom_33 (lv_at hl 0 rfl) ?_
      refine lv_aload_n hx hb dX4_pairsFrom_35 rfl (lv_at hl 1 rfl) ?_
      refine va_get (D := gD G) (ci := 0) (v := .ref (ad 9)) (C := RX4) (T := TX4) (N := 20) hx hb hts in_X4 hown hK hP 0 rfl rfl 9 (by decide) (hts _ q1082) (fun _ h9 => h9) rfl dX4_pairsFrom_36 ?_
      refine lv_iload hx hb dX4_pairsFrom_39 (lv_at hl 0 rfl) ?_
      refine n_iald C hK hP 2 i rfl (by omega) (by omega) dX4_pairsFrom_41 ?_
      refine n_iast (x := wb i) C hK hP hD hS 3 i rfl (by omega) (by omega) dX4_pairsFrom_42 (fun H locs hP hD hS => ?_)
      have hP : PP G [(h, mO ad (upd iv 11 bo)), (ad 0, iA G 57 r), (ad 9, iA G 8 wb), (ad 10, iA G 8 (upd (cpf wb bb i) i (wb i)))] H := hP
      have hD : va_D A [(h, mO ad (upd iv 11 bo)), (ad 0, iA G 57 r), (ad 9, iA G 8 wb), (ad 10, iA G 8 (upd (cpf wb bb i) i (wb i)))] := hD
      refine n_iinc (k := 0) (lv' := [(5, .int (nI (i + 1))), (0, .ref h), (1, .int (nI p)), (2, .int tk), (3, .int lf), (4, .int v)]) hx hb i 1 dX4_pairsFrom_43 hl rfl (Nat.le_of_ble_eq_true rfl) rfl (fun ls hl => ?_)
      refine lv_goto (tgt := 22) hx hb dX4_pairsFrom_46 (by decide) ?_
      have e_8 : (iA G 8 (cpf wb bb (i + 1)) : va_E) = iA G 8 (upd (cpf wb bb i) i (wb i)) := by rw [cpf_s]
      exact ih_4 (i + 1) (by omega) _ _ (by rw [e_8]; exact hP.sub [0, 1, 2, 3] rfl) (by rw [e_8]; exact hD.sub [0, 1, 2, 3] (by decide) rfl) hS ls (lv_sub hl [0, 1, 2, 3, 4, 5] rfl)

set_option maxHeartbeats 4000000 in
set_option maxRecDepth 100000 in
theorem pfc_s (l : Launch) (G : GG) (f : Nat) (ih : PFC f) (h : Nat) (ad : Nat → Nat) (iv r : Nat → Int32) (N p : Nat) (tk lf v bo : Int32) (bb wb : Nat → Int32) (hN : N ≤ 8) (hr : r 0 = nI N) (hp : p + (f + 1) = N) : MWv l yX4_pairsFrom cX4_pairsFrom 9 none ({ frames := 20 + (f + 1), cells := 0, slots := 0, locals := 300 + 40 * (f + 1) }) [.ref h, .int (nI p), .int tk, .int lf, .int v] [(h, mO ad (upd iv 11 bo)), (ad 0, iA G 57 r), (ad 9, iA G 8 wb), (ad 10, iA G 8 bb)] G (KM G) 0 0 (fun w1 => w1 = [(h, mO ad (upd iv 11 ((pf r N (f + 1) p tk lf v (bo, bb, wb)).1))), (ad 0, iA G 57 r), (ad 9, iA G 8 ((pf r N (f + 1) p tk lf v (bo, bb, wb)).2.2)), (ad 10, iA G 8 ((pf r N (f + 1) p tk lf v (bo, bb, wb)).2.1))]) := by
  -- rows printed by wip/tools/gen.py
  refine mwv_mk RX4 (by decide) rfl (Nat.le_of_ble_eq_true rfl) ?_
  intro p0_ e0_ s m args below meth c A C hname hA hP hK hD ls hl
  have hx := C.1
  have hb := C.2.1
  have hml := C.2.2.2.2.1
  have hown := C.2.2.2.2.2.1
  have hts := C.2.2.2.2.2.2
  have hS : va_S A s.heap s.heap [] := va_S.rf
  have hl : lv_has ls 9 [(0, .ref h), (1, .int (nI p)), (2, .int tk), (3, .int lf), (4, .int v)] := hl
  refine lv_iload_n hx hb dX4_pairsFrom_0 rfl (lv_at hl 1 rfl) ?_
  refine lv_aload_n hx hb dX4_pairsFrom_1 rfl (lv_at hl 0 rfl) ?_
  refine va_get (D := gD G) (ci := 0) (v := .ref (ad 0)) (C := RX4) (T := TX4) (N := 20) hx hb hts in_X4 hown hK hP 0 rfl rfl 0 (by decide) (hts _ q1073) (fun _ h9 => h9) rfl dX4_pairsFrom_2 ?_
  refine lv_iconst (v := 0) hx hb dX4_pairsFrom_5 (by decide) ?_
  refine n_iald C hK hP 1 0 rfl (by omega) (by omega) dX4_pairsFrom_6 ?_
  refine n_eqi (hr) ?_
  refine n_ic_ne (x := p) (y := N) (tgt := 63) hx hb (by omega) (by omega) dX4_pairsFrom_7 (by decide) (fun c_1 => ?_) (fun c_1 => absurd c_1 (by omega))
  refine lv_iload_n hx hb dX4_pairsFrom_63 rfl (lv_at hl 2 rfl) ?_
  refine lv_iload_n hx hb dX4_pairsFrom_64 rfl (lv_at hl 1 rfl) ?_
  refine lv_ishr (x := tk) (y := nI p) hx hb dX4_pairsFrom_65 ?_
  refine lv_iconst (v := 1) hx hb dX4_pairsFrom_66 (by decide) ?_
  refine lv_iand (x := tk >>> ((nI p) &&& 31)) (y := 1) hx hb dX4_pairsFrom_67 ?_
  refine lv_iconst (v := 1) hx hb dX4_pairsFrom_68 (by decide) ?_
  refine lv_icmp_ne (x := (tk >>> ((nI p) &&& 31)) &&& 1) (y := 1) (tgt := 84) hx hb dX4_pairsFrom_69 (by decide) (fun c_2 => ?_) (fun c_2 => ?_)
  · refine lv_iconst (v := 0) hx hb dX4_pairsFrom_84 (by decide) ?_
    refine lv_istore (lv' := [(5, .int 0), (0, .ref h), (1, .int (nI p)), (2, .int tk), (3, .int lf), (4, .int v)]) hx hb dX4_pairsFrom_85 hl (Nat.le_of_ble_eq_true rfl) rfl (fun ls hl => ?_)
    suffices hlp_3 : (∀ (n t : Nat), t + n = 2 → ∀ (H : Heap) (locs : List Loc), PP G [(h, mO ad (upd iv 11 ((pfT (pf r N f (p + 1)) r N p tk lf v (bo, bb, wb) t).1))), (ad 0, iA G 57 r), (ad 9, iA G 8 ((pfT (pf r N f (p + 1)) r N p tk lf v (bo, bb, wb) t).2.2)), (ad 10, iA G 8 ((pfT (pf r N f (p + 1)) r N p tk lf v (bo, bb, wb) t).2.1))] H → va_D A [(h, mO ad (upd iv 11 ((pfT (pf r N f (p + 1)) r N p tk lf v (bo, bb, wb) t).1))), (ad 0, iA G 57 r), (ad 9, iA G 8 ((pfT (pf r N f (p + 1)) r N p tk lf v (bo, bb, wb) t).2.2)), (ad 10, iA G 8 ((pfT (pf r N f (p + 1)) r N p tk lf v (bo, bb, wb) t).2.1))] → va_S A s.heap H locs → ∀ (ls : Array Slot), lv_has ls 9 [(5, .int (nI t)), (0, .ref h), (1, .int (nI p)), (2, .int tk), (3, .int lf), (4, .int v)] → W p0_ l e0_ ({ frames := 20 + (f + 1), cells := 0, slots := 0, locals := 300 + 40 * (f + 1) } : Room) s m args below meth c H locs (0) (0) (MQ below (va_Qv (S := va_W) (fun w1 => w1 = [(h, mO ad (upd iv 11 ((pf r N (f + 1) p tk lf v (bo, bb, wb)).1))), (ad 0, iA G 57 r), (ad 9, iA G 8 ((pf r N (f + 1) p tk lf v (bo, bb, wb)).2.2)), (ad 10, iA G 8 ((pf r N (f + 1) p tk lf v (bo, bb, wb)).2.1))]) (fun w1 t => PP G w1 t.heap ∧ va_D A w1) A) args s 0 0 A) (F0 m 87 ls [])) by
      exact hlp_3 (2) 0 (by omega) _ _ (hP.sub [0, 1, 2, 3] rfl) (hD.sub [0, 1, 2, 3] (by decide) rfl) hS ls (lv_sub hl [0, 1, 2, 3, 4, 5] rfl)
    have hend_3 : ∀ (H : Heap) (locs : List Loc), PP G [(h, mO ad (upd iv 11 ((pfT (pf r N f (p + 1)) r N p tk lf v (bo, bb, wb) 2).1))), (ad 0, iA G 57 r), (ad 9, iA G 8 ((pfT (pf r N f (p + 1)) r N p tk lf v (bo, bb, wb) 2).2.2)), (ad 10, iA G 8 ((pfT (pf r N f (p + 1)) r N p tk lf v (bo, bb, wb) 2).2.1))] H → va_D A [(h, mO ad (upd iv 11 ((pfT (pf r N f (p + 1)) r N p tk lf v (bo, bb, wb) 2).1))), (ad 0, iA G 57 r), (ad 9, iA G 8 ((pfT (pf r N f (p + 1)) r N p tk lf v (bo, bb, wb) 2).2.2)), (ad 10, iA G 8 ((pfT (pf r N f (p + 1)) r N p tk lf v (bo, bb, wb) 2).2.1))] → va_S A s.heap H locs → ∀ (ls : Array Slot), lv_has ls 9 [(5, .int (nI 2)), (0, .ref h), (1, .int (nI p)), (2, .int tk), (3, .int lf), (4, .int v)] → W p0_ l e0_ ({ frames := 20 + (f + 1), cells := 0, slots := 0, locals := 300 + 40 * (f + 1) } : Room) s m args below meth c H locs (0) (0) (MQ below (va_Qv (S := va_W) (fun w1 => w1 = [(h, mO ad (upd iv 11 ((pf r N (f + 1) p tk lf v (bo, bb, wb)).1))), (ad 0, iA G 57 r), (ad 9, iA G 8 ((pf r N (f + 1) p tk lf v (bo, bb, wb)).2.2)), (ad 10, iA G 8 ((pf r N (f + 1) p tk lf v (bo, bb, wb)).2.1))]) (fun w1 t => PP G w1 t.heap ∧ va_D A w1) A) args s 0 0 A) (F0 m 87 ls []) := by
      intro H locs hP hD hS ls hl
      refine lv_iload hx hb dX4_pairsFrom_87 (lv_at hl 0 rfl) ?_
      refine lv_iconst (v := 2) hx hb dX4_pairsFrom_89 (by decide) ?_
      refine n_ic_ge (x := 2) (y := 2) (tgt := 230) hx hb (by omega) (by omega) dX4_pairsFrom_90 (by decide) (fun c_4 => ?_) (fun c_4 => absurd c_4 (by omega))
      refine lv_aload_n hx hb dX4_pairsFrom_230 rfl (lv_at hl 1 rfl) ?_
      refine lv_iload_n hx hb dX4_pairsFrom_231 rfl (lv_at hl 2 rfl) ?_
      refine lv_iconst (v := 1) hx hb dX4_pairsFrom_232 (by decide) ?_
      refine n_iadd hx hb p 1 dX4_pairsFrom_233 ?_
      refine lv_iload_n hx hb dX4_pairsFrom_234 rfl (lv_at hl 3 rfl) ?_
      refine lv_iload_n hx hb dX4_pairsFrom_235 rfl (lv_at hl 4 rfl) ?_
      refine lv_iload hx hb dX4_pairsFrom_236 (lv_at hl 5 rfl) ?_
      refine c_VWv (wr := []) (rest := []) C (ih l G h ad iv r N (p + 1) tk lf v ((pfT (pf r N f (p + 1)) r N p tk lf v (bo, bb, wb) 2).1) ((pfT (pf r N f (p + 1)) r N p tk lf v (bo, bb, wb) 2).2.1) ((pfT (pf r N f (p + 1)) r N p tk lf v (bo, bb, wb) 2).2.2) (by omega) (hr) (by omega)) 4 (lw_V q1271 q1273 qs31 q42 q1274) (by decide +kernel) ⟨rfl, rfl⟩ ⟨(by dsimp only; omega), (by dsimp only; omega)⟩ (KM_mv G) hK (va_recv hK hP (ci := 0) (q0 := 0) rfl rfl) hA hP hD hS [0, 1, 2, 3] [] rfl rfl rfl rfl (by decide) hl rfl rfl (Nat.le_of_ble_eq_true rfl) ⟨(Nat.le_of_ble_eq_true rfl), (Nat.le_of_ble_eq_true rfl)⟩ dX4_pairsFrom_238 (fun w1 H locs hq_6 hP hD hS => ?_)
      obtain rfl := hq_6
      have hP : PP G [(h, mO ad (upd iv 11 ((pf r N f (p + 1) tk lf v (((pfT (pf r N f (p + 1)) r N p tk lf v (bo, bb, wb) 2).1), ((pfT (pf r N f (p + 1)) r N p tk lf v (bo, bb, wb) 2).2.1), ((pfT (pf r N f (p + 1)) r N p tk lf v (bo, bb, wb) 2).2.2))).1))), (ad 0, iA G 57 r), (ad 9, iA G 8 ((pf r N f (p + 1) tk lf v (((pfT (pf r N f (p + 1)) r N p tk lf v (bo, bb, wb) 2).1), ((pfT (pf r N f (p + 1)) r N p tk lf v (bo, bb, wb) 2).2.1), ((pfT (pf r N f (p + 1)) r N p tk lf v (bo, bb, wb) 2).2.2))).2.2)), (ad 10, iA G 8 ((pf r N f (p + 1) tk lf v (((pfT (pf r N f (p + 1)) r N p tk lf v (bo, bb, wb) 2).1), ((pfT (pf r N f (p + 1)) r N p tk lf v (bo, bb, wb) 2).2.1), ((pfT (pf r N f (p + 1)) r N p tk lf v (bo, bb, wb) 2).2.2))).2.1))] H := hP
      have hD : va_D A [(h, mO ad (upd iv 11 ((pf r N f (p + 1) tk lf v (((pfT (pf r N f (p + 1)) r N p tk lf v (bo, bb, wb) 2).1), ((pfT (pf r N f (p + 1)) r N p tk lf v (bo, bb, wb) 2).2.1), ((pfT (pf r N f (p + 1)) r N p tk lf v (bo, bb, wb) 2).2.2))).1))), (ad 0, iA G 57 r), (ad 9, iA G 8 ((pf r N f (p + 1) tk lf v (((pfT (pf r N f (p + 1)) r N p tk lf v (bo, bb, wb) 2).1), ((pfT (pf r N f (p + 1)) r N p tk lf v (bo, bb, wb) 2).2.1), ((pfT (pf r N f (p + 1)) r N p tk lf v (bo, bb, wb) 2).2.2))).2.2)), (ad 10, iA G 8 ((pf r N f (p + 1) tk lf v (((pfT (pf r N f (p + 1)) r N p tk lf v (bo, bb, wb) 2).1), ((pfT (pf r N f (p + 1)) r N p tk lf v (bo, bb, wb) 2).2.1), ((pfT (pf r N f (p + 1)) r N p tk lf v (bo, bb, wb) 2).2.2))).2.1))] := hD
      exact n_vretW (w1 := [(h, mO ad (upd iv 11 ((pf r N f (p + 1) tk lf v (((pfT (pf r N f (p + 1)) r N p tk lf v (bo, bb, wb) 2).1), ((pfT (pf r N f (p + 1)) r N p tk lf v (bo, bb, wb) 2).2.1), ((pfT (pf r N f (p + 1)) r N p tk lf v (bo, bb, wb) 2).2.2))).1))), (ad 0, iA G 57 r), (ad 9, iA G 8 ((pf r N f (p + 1) tk lf v (((pfT (pf r N f (p + 1)) r N p tk lf v (bo, bb, wb) 2).1), ((pfT (pf r N f (p + 1)) r N p tk lf v (bo, bb, wb) 2).2.1), ((pfT (pf r N f (p + 1)) r N p tk lf v (bo, bb, wb) 2).2.2))).2.2)), (ad 10, iA G 8 ((pf r N f (p + 1) tk lf v (((pfT (pf r N f (p + 1)) r N p tk lf v (bo, bb, wb) 2).1), ((pfT (pf r N f (p + 1)) r N p tk lf v (bo, bb, wb) 2).2.1), ((pfT (pf r N f (p + 1)) r N p tk lf v (bo, bb, wb) 2).2.2))).2.1))]) C (by first | (simp [pf, bitI, c_1, c_2, c_4]; done) | (rw [pf, if_neg (by assumption), pfT_0 _ _ _ _ _ _ _ _ (by assumption), pfT_0 _ _ _ _ _ _ _ _ (by assumption)])) hP hD hS (by first | omega | decide) (by first | omega | decide) dX4_pairsFrom_241
    intro n
    induction n with
    | zero =>
      intro t hi_3 H locs hP hD hS ls hl
      obtain e_3 : t = 2 := by omega
      first | (subst e_3; exact hend_3 H locs hP hD hS ls hl) | (rw [e_3] at hl hP hD; exact hend_3 H locs hP hD hS ls hl)
    | succ n ih_3 =>
      intro t hi_3 H locs hP hD hS ls hl
      refine lv_iload hx hb dX4_pairsFrom_87 (lv_at hl 0 rfl) ?_
      refine lv_iconst (v := 2) hx hb dX4_pairsFrom_89 (by decide) ?_
      refine n_ic_ge (x := t) (y := 2) (tgt := 230) hx hb (by omega) (by omega) dX4_pairsFrom_90 (by decide) (fun c_7 => absurd c_7 (by omega)) (fun c_7 => ?_)
      refine lv_iload_n hx hb dX4_pairsFrom_93 rfl (lv_at hl 4 rfl) ?_
      refine lv_if_le (x := lf) (tgt := 230) hx hb dX4_pairsFrom_94 (by decide) (fun c_8 => ?_) (fun c_8 => ?_)
      · have zc_8 : ¬ 0 < lf := Int32.not_lt.mpr c_8
        refine lv_aload_n hx hb dX4_pairsFrom_230 rfl (lv_at hl 1 rfl) ?_
        refine lv_iload_n hx hb dX4_pairsFrom_231 rfl (lv_at hl 2 rfl) ?_
        refine lv_iconst (v := 1) hx hb dX4_pairsFrom_232 (by decide) ?_
        refine n_iadd hx hb p 1 dX4_pairsFrom_233 ?_
        refine lv_iload_n hx hb dX4_pairsFrom_234 rfl (lv_at hl 3 rfl) ?_
        refine lv_iload_n hx hb dX4_pairsFrom_235 rfl (lv_at hl 4 rfl) ?_
        refine lv_iload hx hb dX4_pairsFrom_236 (lv_at hl 5 rfl) ?_
        refine c_VWv (wr := []) (rest := []) C (ih l G h ad iv r N (p + 1) tk lf v ((pfT (pf r N f (p + 1)) r N p tk lf v (bo, bb, wb) t).1) ((pfT (pf r N f (p + 1)) r N p tk lf v (bo, bb, wb) t).2.1) ((pfT (pf r N f (p + 1)) r N p tk lf v (bo, bb, wb) t).2.2) (by omega) (hr) (by omega)) 4 (lw_V q1271 q1273 qs31 q42 q1274) (by decide +kernel) ⟨rfl, rfl⟩ ⟨(by dsimp only; omega), (by dsimp only; omega)⟩ (KM_mv G) hK (va_recv hK hP (ci := 0) (q0 := 0) rfl rfl) hA hP hD hS [0, 1, 2, 3] [] rfl rfl rfl rfl (by decide) hl rfl rfl (Nat.le_of_ble_eq_true rfl) ⟨(Nat.le_of_ble_eq_true rfl), (Nat.le_of_ble_eq_true rfl)⟩ dX4_pairsFrom_238 (fun w1 H locs hq_10 hP hD hS => ?_)
        obtain rfl := hq_10
        have hP : PP G [(h, mO ad (upd iv 11 ((pf r N f (p + 1) tk lf v (((pfT (pf r N f (p + 1)) r N p tk lf v (bo, bb, wb) t).1), ((pfT (pf r N f (p + 1)) r N p tk lf v (bo, bb, wb) t).2.1), ((pfT (pf r N f (p + 1)) r N p tk lf v (bo, bb, wb) t).2.2))).1))), (ad 0, iA G 57 r), (ad 9, iA G 8 ((pf r N f (p + 1) tk lf v (((pfT (pf r N f (p + 1)) r N p tk lf v (bo, bb, wb) t).1), ((pfT (pf r N f (p + 1)) r N p tk lf v (bo, bb, wb) t).2.1), ((pfT (pf r N f (p + 1)) r N p tk lf v (bo, bb, wb) t).2.2))).2.2)), (ad 10, iA G 8 ((pf r N f (p + 1) tk lf v (((pfT (pf r N f (p + 1)) r N p tk lf v (bo, bb, wb) t).1), ((pfT (pf r N f (p + 1)) r N p tk lf v (bo, bb, wb) t).2.1), ((pfT (pf r N f (p + 1)) r N p tk lf v (bo, bb, wb) t).2.2))).2.1))] H := hP
        have hD : va_D A [(h, mO ad (upd iv 11 ((pf r N f (p + 1) tk lf v (((pfT (pf r N f (p + 1)) r N p tk lf v (bo, bb, wb) t).1), ((pfT (pf r N f (p + 1)) r N p tk lf v (bo, bb, wb) t).2.1), ((pfT (pf r N f (p + 1)) r N p tk lf v (bo, bb, wb) t).2.2))).1))), (ad 0, iA G 57 r), (ad 9, iA G 8 ((pf r N f (p + 1) tk lf v (((pfT (pf r N f (p + 1)) r N p tk lf v (bo, bb, wb) t).1), ((pfT (pf r N f (p + 1)) r N p tk lf v (bo, bb, wb) t).2.1), ((pfT (pf r N f (p + 1)) r N p tk lf v (bo, bb, wb) t).2.2))).2.2)), (ad 10, iA G 8 ((pf r N f (p + 1) tk lf v (((pfT (pf r N f (p + 1)) r N p tk lf v (bo, bb, wb) t).1), ((pfT (pf r N f (p + 1)) r N p tk lf v (bo, bb, wb) t).2.1), ((pfT (pf r N f (p + 1)) r N p tk lf v (bo, bb, wb) t).2.2))).2.1))] := hD
        exact n_vretW (w1 := [(h, mO ad (upd iv 11 ((pf r N f (p + 1) tk lf v (((pfT (pf r N f (p + 1)) r N p tk lf v (bo, bb, wb) t).1), ((pfT (pf r N f (p + 1)) r N p tk lf v (bo, bb, wb) t).2.1), ((pfT (pf r N f (p + 1)) r N p tk lf v (bo, bb, wb) t).2.2))).1))), (ad 0, iA G 57 r), (ad 9, iA G 8 ((pf r N f (p + 1) tk lf v (((pfT (pf r N f (p + 1)) r N p tk lf v (bo, bb, wb) t).1), ((pfT (pf r N f (p + 1)) r N p tk lf v (bo, bb, wb) t).2.1), ((pfT (pf r N f (p + 1)) r N p tk lf v (bo, bb, wb) t).2.2))).2.2)), (ad 10, iA G 8 ((pf r N f (p + 1) tk lf v (((pfT (pf r N f (p + 1)) r N p tk lf v (bo, bb, wb) t).1), ((pfT (pf r N f (p + 1)) r N p tk lf v (bo, bb, wb) t).2.1), ((pfT (pf r N f (p + 1)) r N p tk lf v (bo, bb, wb) t).2.2))).2.1))]) C (by first | (simp [pf, bitI, c_1, c_2, c_7, c_8, zc_8]; done) | (rw [pf, if_neg (by assumption), pfT_0 _ _ _ _ _ _ _ _ (by assumption), pfT_0 _ _ _ _ _ _ _ _ (by assumption)])) hP hD hS (by first | omega | decide) (by first | omega | decide) dX4_pairsFrom_241
      · have zc_8 : 0 < lf := Int32.not_le.mp c_8
        refine lv_iload_n hx hb dX4_pairsFrom_97 rfl (lv_at hl 2 rfl) ?_
        refine lv_iconst (v := 1) hx hb dX4_pairsFrom_98 (by decide) ?_
        refine n_iadd hx hb p 1 dX4_pairsFrom_99 ?_
        refine lv_istore (lv' := [(6, .int (nI (p + 1))), (5, .int (nI t)), (0, .ref h), (1, .int (nI p)), (2, .int tk), (3, .int lf), (4, .int v)]) hx hb dX4_pairsFrom_100 hl (Nat.le_of_ble_eq_true rfl) rfl (fun ls hl => ?_)
        suffices hlp_11 : (∀ (n q : Nat), q + n = N → p + 1 ≤ q → ∀ (H : Heap) (locs : List Loc), PP G [(h, mO ad (upd iv 11 ((pfQ (pf r N f (p + 1)) r p tk lf v t (pfT (pf r N f (p + 1)) r N p tk lf v (bo, bb, wb) t) q).1))), (ad 0, iA G 57 r), (ad 9, iA G 8 ((pfQ (pf r N f (p + 1)) r p tk lf v t (pfT (pf r N f (p + 1)) r N p tk lf v (bo, bb, wb) t) q).2.2)), (ad 10, iA G 8 ((pfQ (pf r N f (p + 1)) r p tk lf v t (pfT (pf r N f (p + 1)) r N p tk lf v (bo, bb, wb) t) q).2.1))] H → va_D A [(h, mO ad (upd iv 11 ((pfQ (pf r N f (p + 1)) r p tk lf v t (pfT (pf r N f (p + 1)) r N p tk lf v (bo, bb, wb) t) q).1))), (ad 0, iA G 57 r), (ad 9, iA G 8 ((pfQ (pf r N f (p + 1)) r p tk lf v t (pfT (pf r N f (p + 1)) r N p tk lf v (bo, bb, wb) t) q).2.2)), (ad 10, iA G 8 ((pfQ (pf r N f (p + 1)) r p tk lf v t (pfT (pf r N f (p + 1)) r N p tk lf v (bo, bb, wb) t) q).2.1))] → va_S A s.heap H locs → ∀ (ls : Array Slot), lv_has ls 9 [(6, .int (nI q)), (5, .int (nI t)), (0, .ref h), (1, .int (nI p)), (2, .int tk), (3, .int lf), (4, .int v)] → W p0_ l e0_ ({ frames := 20 + (f + 1), cells := 0, slots := 0, locals := 300 + 40 * (f + 1) } : Room) s m args below meth c H locs (0) (0) (MQ below (va_Qv (S := va_W) (fun w1 => w1 = [(h, mO ad (upd iv 11 ((pf r N (f + 1) p tk lf v (bo, bb, wb)).1))), (ad 0, iA G 57 r), (ad 9, iA G 8 ((pf r N (f + 1) p tk lf v (bo, bb, wb)).2.2)), (ad 10, iA G 8 ((pf r N (f + 1) p tk lf v (bo, bb, wb)).2.1))]) (fun w1 t => PP G w1 t.heap ∧ va_D A w1) A) args s 0 0 A) (F0 m 102 ls [])) by
          exact hlp_11 (N - (p + 1)) (p + 1) (by omega) (Nat.le_refl _) _ _ (hP.sub [0, 1, 2, 3] (by rw [pfQ_0 _ _ _ _ _ _ _ _ _ (Nat.le_refl _)]; rfl)) (hD.sub [0, 1, 2, 3] (by decide) (by rw [pfQ_0 _ _ _ _ _ _ _ _ _ (Nat.le_refl _)]; rfl)) hS ls (lv_sub hl [0, 1, 2, 3, 4, 5, 6] rfl)
        have hend_11 : ∀ (H : Heap) (locs : List Loc), PP G [(h, mO ad (upd iv 11 ((pfQ (pf r N f (p + 1)) r p tk lf v t (pfT (pf r N f (p + 1)) r N p tk lf v (bo, bb, wb) t) N).1))), (ad 0, iA G 57 r), (ad 9, iA G 8 ((pfQ (pf r N f (p + 1)) r p tk lf v t (pfT (pf r N f (p + 1)) r N p tk lf v (bo, bb, wb) t) N).2.2)), (ad 10, iA G 8 ((pfQ (pf r N f (p + 1)) r p tk lf v t (pfT (pf r N f (p + 1)) r N p tk lf v (bo, bb, wb) t) N).2.1))] H → va_D A [(h, mO ad (upd iv 11 ((pfQ (pf r N f (p + 1)) r p tk lf v t (pfT (pf r N f (p + 1)) r N p tk lf v (bo, bb, wb) t) N).1))), (ad 0, iA G 57 r), (ad 9, iA G 8 ((pfQ (pf r N f (p + 1)) r p tk lf v t (pfT (pf r N f (p + 1)) r N p tk lf v (bo, bb, wb) t) N).2.2)), (ad 10, iA G 8 ((pfQ (pf r N f (p + 1)) r p tk lf v t (pfT (pf r N f (p + 1)) r N p tk lf v (bo, bb, wb) t) N).2.1))] → va_S A s.heap H locs → ∀ (ls : Array Slot), lv_has ls 9 [(6, .int (nI N)), (5, .int (nI t)), (0, .ref h), (1, .int (nI p)), (2, .int tk), (3, .int lf), (4, .int v)] → W p0_ l e0_ ({ frames := 20 + (f + 1), cells := 0, slots := 0, locals := 300 + 40 * (f + 1) } : Room) s m args below meth c H locs (0) (0) (MQ below (va_Qv (S := va_W) (fun w1 => w1 = [(h, mO ad (upd iv 11 ((pf r N (f + 1) p tk lf v (bo, bb, wb)).1))), (ad 0, iA G 57 r), (ad 9, iA G 8 ((pf r N (f + 1) p tk lf v (bo, bb, wb)).2.2)), (ad 10, iA G 8 ((pf r N (f + 1) p tk lf v (bo, bb, wb)).2.1))]) (fun w1 t => PP G w1 t.heap ∧ va_D A w1) A) args s 0 0 A) (F0 m 102 ls []) := by
          intro H locs hP hD hS ls hl
          refine lv_iload hx hb dX4_pairsFrom_102 (lv_at hl 0 rfl) ?_
          refine lv_aload_n hx hb dX4_pairsFrom_104 rfl (lv_at hl 2 rfl) ?_
          refine va_get (D := gD G) (ci := 0) (v := .ref (ad 0)) (C := RX4) (T := TX4) (N := 20) hx hb hts in_X4 hown hK hP 0 rfl rfl 0 (by decide) (hts _ q1073) (fun _ h9 => h9) rfl dX4_pairsFrom_105 ?_
          refine lv_iconst (v := 0) hx hb dX4_pairsFrom_108 (by decide) ?_
          refine n_iald C hK hP 1 0 rfl (by omega) (by omega) dX4_pairsFrom_109 ?_
          refine n_eqi (hr) ?_
          refine n_ic_ge (x := N) (y := N) (tgt := 224) hx hb (by omega) (by omega) dX4_pairsFrom_110 (by decide) (fun c_12 => ?_) (fun c_12 => absurd c_12 (by omega))
          refine n_iinc (k := 1) (lv' := [(5, .int (nI (t + 1))), (6, .int (nI N)), (0, .ref h), (1, .int (nI p)), (2, .int tk), (3, .int lf), (4, .int v)]) hx hb t 1 dX4_pairsFrom_224 hl rfl (Nat.le_of_ble_eq_true rfl) rfl (fun ls hl => ?_)
          refine lv_goto (tgt := 87) hx hb dX4_pairsFrom_227 (by decide) ?_
          have e_13 : (mO ad (upd iv 11 ((pfT (pf r N f (p + 1)) r N p tk lf v (bo, bb, wb) (t + 1)).1)) : va_E) = mO ad (upd iv 11 ((pfQ (pf r N f (p + 1)) r p tk lf v t (pfT (pf r N f (p + 1)) r N p tk lf v (bo, bb, wb) t) N).1)) := by rw [pfT, if_neg (by assumption)]
          have e_14 : (iA G 8 ((pfT (pf r N f (p + 1)) r N p tk lf v (bo, bb, wb) (t + 1)).2.2) : va_E) = iA G 8 ((pfQ (pf r N f (p + 1)) r p tk lf v t (pfT (pf r N f (p + 1)) r N p tk lf v (bo, bb, wb) t) N).2.2) := by rw [pfT, if_neg (by assumption)]
          have e_15 : (iA G 8 ((pfT (pf r N f (p + 1)) r N p tk lf v (bo, bb, wb) (t + 1)).2.1) : va_E) = iA G 8 ((pfQ (pf r N f (p + 1)) r p tk lf v t (pfT (pf r N f (p + 1)) r N p tk lf v (bo, bb, wb) t) N).2.1) := by rw [pfT, if_neg (by assumption)]
          exact ih_3 (t + 1) (by omega) _ _ (by rw [e_13, e_14, e_15]; exact hP.sub [0, 1, 2, 3] rfl) (by rw [e_13, e_14, e_15]; exact hD.sub [0, 1, 2, 3] (by decide) rfl) hS ls (lv_sub hl [0, 2, 3, 4, 5, 6] rfl)
        intro n
        induction n with
        | zero =>
          intro q hi_11 hs_11 H locs hP hD hS ls hl
          obtain e_11 : q = N := by omega
          first | (subst e_11; exact hend_11 H locs hP hD hS ls hl) | (rw [e_11] at hl hP hD; exact hend_11 H locs hP hD hS ls hl)
        | succ n ih_11 =>
          intro q hi_11 hs_11 H locs hP hD hS ls hl
          refine lv_iload hx hb dX4_pairsFrom_102 (lv_at hl 0 rfl) ?_
          refine lv_aload_n hx hb dX4_pairsFrom_104 rfl (lv_at hl 2 rfl) ?_
          refine va_get (D := gD G) (ci := 0) (v := .ref (ad 0)) (C := RX4) (T := TX4) (N := 20) hx hb hts in_X4 hown hK hP 0 rfl rfl 0 (by decide) (hts _ q1073) (fun _ h9 => h9) rfl dX4_pairsFrom_105 ?_
          refine lv_iconst (v := 0) hx hb dX4_pairsFrom_108 (by decide) ?_
          refine n_iald C hK hP 1 0 rfl (by omega) (by omega) dX4_pairsFrom_109 ?_
          refine n_eqi (hr) ?_
          refine n_ic_ge (x := q) (y := N) (tgt := 224) hx hb (by omega) (by omega) dX4_pairsFrom_110 (by decide) (fun c_16 => absurd c_16 (by omega)) (fun c_16 => ?_)
          refine lv_iload hx hb dX4_pairsFrom_113 (lv_at hl 1 rfl) ?_
          refine n_if_ne (x := t) (tgt := 122) hx hb (by omega) dX4_pairsFrom_115 (by decide) (fun c_17 => ?_) (fun c_17 => ?_)
          · have zc_17 : ¬ nI t = 0 := nI_ne0 c_17 (by omega)
            have yc_17 : ¬ t = 0 := Nat.ne_of_gt c_17
            refine lv_iload hx hb dX4_pairsFrom_122 (lv_at hl 0 rfl) ?_
            refine lv_istore (lv' := [(7, .int (nI q)), (6, .int (nI q)), (5, .int (nI t)), (0, .ref h), (1, .int (nI p)), (2, .int tk), (3, .int lf), (4, .int v)]) hx hb dX4_pairsFrom_124 hl (Nat.le_of_ble_eq_true rfl) rfl (fun ls hl => ?_)
            refine lv_iload hx hb dX4_pairsFrom_126 (lv_at hl 2 rfl) ?_
            refine n_if_ne (x := t) (tgt := 136) hx hb (by omega) dX4_pairsFrom_128 (by decide) (fun c_18 => ?_) (fun c_18 => absurd c_18 (by omega))
            refine lv_iload_n hx hb dX4_pairsFrom_136 rfl (lv_at hl 4 rfl) ?_
            refine lv_istore (lv' := [(8, .int (nI p)), (7, .int (nI q)), (6, .int (nI q)), (5, .int (nI t)), (0, .ref h), (1, .int (nI p)), (2, .int tk), (3, .int lf), (4, .int v)]) hx hb dX4_pairsFrom_137 hl (Nat.le_of_ble_eq_true rfl) rfl (fun ls hl => ?_)
            refine lv_iload_n hx hb dX4_pairsFrom_139 rfl (lv_at hl 6 rfl) ?_
            refine lv_iload hx hb dX4_pairsFrom_140 (lv_at hl 2 rfl) ?_
            refine lv_ishr (x := tk) (y := nI q) hx hb dX4_pairsFrom_142 ?_
            refine lv_iconst (v := 1) hx hb dX4_pairsFrom_143 (by decide) ?_
            refine lv_iand (x := tk >>> ((nI q) &&& 31)) (y := 1) hx hb dX4_pairsFrom_144 ?_
            refine lv_iconst (v := 1) hx hb dX4_pairsFrom_145 (by decide) ?_
            refine lv_icmp_eq (x := (tk >>> ((nI q) &&& 31)) &&& 1) (y := 1) (tgt := 218) hx hb dX4_pairsFrom_146 (by decide) (fun c_19 => ?_) (fun c_19 => ?_)
            · refine n_iinc (k := 2) (lv' := [(6, .int (nI (q + 1))), (8, .int (nI p)), (7, .int (nI q)), (5, .int (nI t)), (0, .ref h), (1, .int (nI p)), (2, .int tk), (3, .int lf), (4, .int v)]) hx hb q 1 dX4_pairsFrom_218 hl rfl (Nat.le_of_ble_eq_true rfl) rfl (fun ls hl => ?_)
              refine lv_goto (tgt := 102) hx hb dX4_pairsFrom_221 (by decide) ?_
              have e_20 : (mO ad (upd iv 11 ((pfQ (pf r N f (p + 1)) r p tk lf v t (pfT (pf r N f (p + 1)) r N p tk lf v (bo, bb, wb) t) (q + 1)).1)) : va_E) = mO ad (upd iv 11 ((pfQ (pf r N f (p + 1)) r p tk lf v t (pfT (pf r N f (p + 1)) r N p tk lf v (bo, bb, wb) t) q).1)) := by rw [pfQ, if_pos (by omega)]; simp [pfS, bitI, c_16, c_17, yc_17, zc_17, c_18, c_19]
              have e_21 : (iA G 8 ((pfQ (pf r N f (p + 1)) r p tk lf v t (pfT (pf r N f (p + 1)) r N p tk lf v (bo, bb, wb) t) (q + 1)).2.2) : va_E) = iA G 8 ((pfQ (pf r N f (p + 1)) r p tk lf v t (pfT (pf r N f (p + 1)) r N p tk lf v (bo, bb, wb) t) q).2.2) := by rw [pfQ, if_pos (by omega)]; simp [pfS, bitI, c_16, c_17, yc_17, zc_17, c_18, c_19]
              have e_22 : (iA G 8 ((pfQ (pf r N f (p + 1)) r p tk lf v t (pfT (pf r N f (p + 1)) r N p tk lf v (bo, bb, wb) t) (q + 1)).2.1) : va_E) = iA G 8 ((pfQ (pf r N f (p + 1)) r p tk lf v t (pfT (pf r N f (p + 1)) r N p tk lf v (bo, bb, wb) t) q).2.1) := by rw [pfQ, if_pos (by omega)]; simp [pfS, bitI, c_16, c_17, yc_17, zc_17, c_18, c_19]
              exact ih_11 (q + 1) (by omega) (by omega) _ _ (by rw [e_20, e_21, e_22]; exact hP.sub [0, 1, 2, 3] rfl) (by rw [e_20, e_21, e_22]; exact hD.sub [0, 1, 2, 3] (by decide) rfl) hS ls (lv_sub hl [0, 3, 4, 5, 6, 7, 8] rfl)
            · refine lv_aload_n hx hb dX4_pairsFrom_149 rfl (lv_at hl 4 rfl) ?_
              refine va_get (D := gD G) (ci := 0) (v := .ref (ad 0)) (C := RX4) (T := TX4) (N := 20) hx hb hts in_X4 hown hK hP 0 rfl rfl 0 (by decide) (hts _ q1073) (fun _ h9 => h9) rfl dX4_pairsFrom_150 ?_
              refine lv_iload hx hb dX4_pairsFrom_153 (lv_at hl 1 rfl) ?_
              refine lv_iload hx hb dX4_pairsFrom_155 (lv_at hl 0 rfl) ?_
              refine c_S (rest := []) C (metX4_canEat l G (ad 0) r q p (by omega) (by omega)) 3 (lw_S q1177 q1178 q42 q1179) (by decide +kernel) ⟨rfl, rfl⟩ ⟨(by dsimp only; omega), (by dsimp only; omega)⟩ (KM_mv G) (hP.sub (ws' := [(ad 0, iA G 57 r)]) [1] rfl) hK hl rfl rfl (Nat.le_of_ble_eq_true rfl) ⟨(Nat.le_of_ble_eq_true rfl), (Nat.le_of_ble_eq_true rfl)⟩ dX4_pairsFrom_157 ?_
              refine n_if_neB (b := (sEat r q p)) (tgt := 166) hx hb dX4_pairsFrom_160 (by decide) (fun c_23 => ?_) (fun c_23 => ?_)
              · refine lv_aload_n hx hb dX4_pairsFrom_166 rfl (lv_at hl 4 rfl) ?_
                refine va_get (D := gD G) (ci := 0) (v := .ref (ad 9)) (C := RX4) (T := TX4) (N := 20) hx hb hts in_X4 hown hK hP 0 rfl rfl 9 (by decide) (hts _ q1082) (fun _ h9 => h9) rfl dX4_pairsFrom_167 ?_
                refine lv_iload hx hb dX4_pairsFrom_170 (lv_at hl 1 rfl) ?_
                refine lv_iload hx hb dX4_pairsFrom_172 (lv_at hl 0 rfl) ?_
                refine n_iast (x := nI p) C hK hP hD hS 2 q rfl (by omega) (by omega) dX4_pairsFrom_174 (fun H locs hP hD hS => ?_)
                have hP : PP G [(h, mO ad (upd iv 11 ((pfQ (pf r N f (p + 1)) r p tk lf v t (pfT (pf r N f (p + 1)) r N p tk lf v (bo, bb, wb) t) q).1))), (ad 0, iA G 57 r), (ad 9, iA G 8 (upd ((pfQ (pf r N f (p + 1)) r p tk lf v t (pfT (pf r N f (p + 1)) r N p tk lf v (bo, bb, wb) t) q).2.2) q (nI p))), (ad 10, iA G 8 ((pfQ (pf r N f (p + 1)) r p tk lf v t (pfT (pf r N f (p + 1)) r N p tk lf v (bo, bb, wb) t) q).2.1))] H := hP
                have hD : va_D A [(h, mO ad (upd iv 11 ((pfQ (pf r N f (p + 1)) r p tk lf v t (pfT (pf r N f (p + 1)) r N p tk lf v (bo, bb, wb) t) q).1))), (ad 0, iA G 57 r), (ad 9, iA G 8 (upd ((pfQ (pf r N f (p + 1)) r p tk lf v t (pfT (pf r N f (p + 1)) r N p tk lf v (bo, bb, wb) t) q).2.2) q (nI p))), (ad 10, iA G 8 ((pfQ (pf r N f (p + 1)) r p tk lf v t (pfT (pf r N f (p + 1)) r N p tk lf v (bo, bb, wb) t) q).2.1))] := hD
                refine lv_aload_n hx hb dX4_pairsFrom_175 rfl (lv_at hl 4 rfl) ?_
                refine lv_iload_n hx hb dX4_pairsFrom_176 rfl (lv_at hl 5 rfl) ?_
                refine lv_iconst (v := 1) hx hb dX4_pairsFrom_177 (by decide) ?_
                refine n_iadd hx hb p 1 dX4_pairsFrom_178 ?_
                refine lv_iload_n hx hb dX4_pairsFrom_179 rfl (lv_at hl 6 rfl) ?_
                refine lv_iconst (v := 1) hx hb dX4_pairsFrom_180 (by decide) ?_
                refine lv_iload_n hx hb dX4_pairsFrom_181 rfl (lv_at hl 5 rfl) ?_
                refine lv_ishl (x := 1) (y := nI p) hx hb dX4_pairsFrom_182 ?_
                refine lv_ior (x := tk) (y := 1 <<< ((nI p) &&& 31)) hx hb dX4_pairsFrom_183 ?_
                refine lv_iconst (v := 1) hx hb dX4_pairsFrom_184 (by decide) ?_
                refine lv_iload hx hb dX4_pairsFrom_185 (lv_at hl 2 rfl) ?_
                refine lv_ishl (x := 1) (y := nI q) hx hb dX4_pairsFrom_187 ?_
                refine lv_ior (x := tk ||| (1 <<< ((nI p) &&& 31))) (y := 1 <<< ((nI q) &&& 31)) hx hb dX4_pairsFrom_188 ?_
                refine lv_iload_n hx hb dX4_pairsFrom_189 rfl (lv_at hl 7 rfl) ?_
                refine lv_iconst (v := 1) hx hb dX4_pairsFrom_190 (by decide) ?_
                refine lv_isub (x := lf) (y := 1) hx hb dX4_pairsFrom_191 ?_
                refine lv_iload hx hb dX4_pairsFrom_192 (lv_at hl 8 rfl) ?_
                refine lv_aload_n hx hb dX4_pairsFrom_194 rfl (lv_at hl 4 rfl) ?_
                refine va_get (D := gD G) (ci := 0) (v := .ref (ad 0)) (C := RX4) (T := TX4) (N := 20) hx hb hts in_X4 hown hK hP 0 rfl rfl 0 (by decide) (hts _ q1073) (fun _ h9 => h9) rfl dX4_pairsFrom_195 ?_
                refine lv_iload hx hb dX4_pairsFrom_198 (lv_at hl 1 rfl) ?_
                refine lv_iload hx hb dX4_pairsFrom_200 (lv_at hl 0 rfl) ?_
                refine c_S (rest := [.int v, .int (lf - 1), .int ((tk ||| (1 <<< ((nI p) &&& 31))) ||| (1 <<< ((nI q) &&& 31))), .int (nI (p + 1)), .ref h]) C (metX4_joysOf l G (ad 0) r q p (by omega) (by omega)) 3 (lw_S q1186 q1187 q42 q1188) (by decide +kernel) ⟨rfl, rfl⟩ ⟨(by dsimp only; omega), (by dsimp only; omega)⟩ (KM_mv G) (hP.sub (ws' := [(ad 0, iA G 57 r)]) [1] rfl) hK hl rfl rfl (Nat.le_of_ble_eq_true rfl) ⟨(Nat.le_of_ble_eq_true rfl), (Nat.le_of_ble_eq_true rfl)⟩ dX4_pairsFrom_202 ?_
                refine lv_iadd (x := v) (y := sJoy r q p) hx hb dX4_pairsFrom_205 ?_
                refine c_VWv (wr := []) (rest := []) C (ih l G h ad iv r N (p + 1) ((tk ||| (1 <<< ((nI p) &&& 31))) ||| (1 <<< ((nI q) &&& 31))) (lf - 1) (v + (sJoy r q p)) ((pfQ (pf r N f (p + 1)) r p tk lf v t (pfT (pf r N f (p + 1)) r N p tk lf v (bo, bb, wb) t) q).1) ((pfQ (pf r N f (p + 1)) r p tk lf v t (pfT (pf r N f (p + 1)) r N p tk lf v (bo, bb, wb) t) q).2.1) (upd ((pfQ (pf r N f (p + 1)) r p tk lf v t (pfT (pf r N f (p + 1)) r N p tk lf v (bo, bb, wb) t) q).2.2) q (nI p)) (by omega) (hr) (by omega)) 4 (lw_V q1271 q1273 qs31 q42 q1274) (by decide +kernel) ⟨rfl, rfl⟩ ⟨(by dsimp only; omega), (by dsimp only; omega)⟩ (KM_mv G) hK (va_recv hK hP (ci := 0) (q0 := 0) rfl rfl) hA hP hD hS [0, 1, 2, 3] [] rfl rfl rfl rfl (by decide) hl rfl rfl (Nat.le_of_ble_eq_true rfl) ⟨(Nat.le_of_ble_eq_true rfl), (Nat.le_of_ble_eq_true rfl)⟩ dX4_pairsFrom_206 (fun w1 H locs hq_25 hP hD hS => ?_)
                obtain rfl := hq_25
                have hP : PP G [(h, mO ad (upd iv 11 ((pf r N f (p + 1) ((tk ||| (1 <<< ((nI p) &&& 31))) ||| (1 <<< ((nI q) &&& 31))) (lf - 1) (v + (sJoy r q p)) (((pfQ (pf r N f (p + 1)) r p tk lf v t (pfT (pf r N f (p + 1)) r N p tk lf v (bo, bb, wb) t) q).1), ((pfQ (pf r N f (p + 1)) r p tk lf v t (pfT (pf r N f (p + 1)) r N p tk lf v (bo, bb, wb) t) q).2.1), (upd ((pfQ (pf r N f (p + 1)) r p tk lf v t (pfT (pf r N f (p + 1)) r N p tk lf v (bo, bb, wb) t) q).2.2) q (nI p)))).1))), (ad 0, iA G 57 r), (ad 9, iA G 8 ((pf r N f (p + 1) ((tk ||| (1 <<< ((nI p) &&& 31))) ||| (1 <<< ((nI q) &&& 31))) (lf - 1) (v + (sJoy r q p)) (((pfQ (pf r N f (p + 1)) r p tk lf v t (pfT (pf r N f (p + 1)) r N p tk lf v (bo, bb, wb) t) q).1), ((pfQ (pf r N f (p + 1)) r p tk lf v t (pfT (pf r N f (p + 1)) r N p tk lf v (bo, bb, wb) t) q).2.1), (upd ((pfQ (pf r N f (p + 1)) r p tk lf v t (pfT (pf r N f (p + 1)) r N p tk lf v (bo, bb, wb) t) q).2.2) q (nI p)))).2.2)), (ad 10, iA G 8 ((pf r N f (p + 1) ((tk ||| (1 <<< ((nI p) &&& 31))) ||| (1 <<< ((nI q) &&& 31))) (lf - 1) (v + (sJoy r q p)) (((pfQ (pf r N f (p + 1)) r p tk lf v t (pfT (pf r N f (p + 1)) r N p tk lf v (bo, bb, wb) t) q).1), ((pfQ (pf r N f (p + 1)) r p tk lf v t (pfT (pf r N f (p + 1)) r N p tk lf v (bo, bb, wb) t) q).2.1), (upd ((pfQ (pf r N f (p + 1)) r p tk lf v t (pfT (pf r N f (p + 1)) r N p tk lf v (bo, bb, wb) t) q).2.2) q (nI p)))).2.1))] H := hP
                have hD : va_D A [(h, mO ad (upd iv 11 ((pf r N f (p + 1) ((tk ||| (1 <<< ((nI p) &&& 31))) ||| (1 <<< ((nI q) &&& 31))) (lf - 1) (v + (sJoy r q p)) (((pfQ (pf r N f (p + 1)) r p tk lf v t (pfT (pf r N f (p + 1)) r N p tk lf v (bo, bb, wb) t) q).1), ((pfQ (pf r N f (p + 1)) r p tk lf v t (pfT (pf r N f (p + 1)) r N p tk lf v (bo, bb, wb) t) q).2.1), (upd ((pfQ (pf r N f (p + 1)) r p tk lf v t (pfT (pf r N f (p + 1)) r N p tk lf v (bo, bb, wb) t) q).2.2) q (nI p)))).1))), (ad 0, iA G 57 r), (ad 9, iA G 8 ((pf r N f (p + 1) ((tk ||| (1 <<< ((nI p) &&& 31))) ||| (1 <<< ((nI q) &&& 31))) (lf - 1) (v + (sJoy r q p)) (((pfQ (pf r N f (p + 1)) r p tk lf v t (pfT (pf r N f (p + 1)) r N p tk lf v (bo, bb, wb) t) q).1), ((pfQ (pf r N f (p + 1)) r p tk lf v t (pfT (pf r N f (p + 1)) r N p tk lf v (bo, bb, wb) t) q).2.1), (upd ((pfQ (pf r N f (p + 1)) r p tk lf v t (pfT (pf r N f (p + 1)) r N p tk lf v (bo, bb, wb) t) q).2.2) q (nI p)))).2.2)), (ad 10, iA G 8 ((pf r N f (p + 1) ((tk ||| (1 <<< ((nI p) &&& 31))) ||| (1 <<< ((nI q) &&& 31))) (lf - 1) (v + (sJoy r q p)) (((pfQ (pf r N f (p + 1)) r p tk lf v t (pfT (pf r N f (p + 1)) r N p tk lf v (bo, bb, wb) t) q).1), ((pfQ (pf r N f (p + 1)) r p tk lf v t (pfT (pf r N f (p + 1)) r N p tk lf v (bo, bb, wb) t) q).2.1), (upd ((pfQ (pf r N f (p + 1)) r p tk lf v t (pfT (pf r N f (p + 1)) r N p tk lf v (bo, bb, wb) t) q).2.2) q (nI p)))).2.1))] := hD
                refine lv_aload_n hx hb dX4_pairsFrom_209 rfl (lv_at hl 4 rfl) ?_
                refine va_get (D := gD G) (ci := 0) (v := .ref (ad 9)) (C := RX4) (T := TX4) (N := 20) hx hb hts in_X4 hown hK hP 0 rfl rfl 9 (by decide) (hts _ q1082) (fun _ h9 => h9) rfl dX4_pairsFrom_210 ?_
                refine lv_iload hx hb dX4_pairsFrom_213 (lv_at hl 1 rfl) ?_
                refine lv_bipush (v := 9) hx hb dX4_pairsFrom_215 (by decide) ?_
                refine n_iast (x := 9) C hK hP hD hS 2 q rfl (by omega) (by omega) dX4_pairsFrom_217 (fun H locs hP hD hS => ?_)
                have hP : PP G [(h, mO ad (upd iv 11 ((pf r N f (p + 1) ((tk ||| (1 <<< ((nI p) &&& 31))) ||| (1 <<< ((nI q) &&& 31))) (lf - 1) (v + (sJoy r q p)) (((pfQ (pf r N f (p + 1)) r p tk lf v t (pfT (pf r N f (p + 1)) r N p tk lf v (bo, bb, wb) t) q).1), ((pfQ (pf r N f (p + 1)) r p tk lf v t (pfT (pf r N f (p + 1)) r N p tk lf v (bo, bb, wb) t) q).2.1), (upd ((pfQ (pf r N f (p + 1)) r p tk lf v t (pfT (pf r N f (p + 1)) r N p tk lf v (bo, bb, wb) t) q).2.2) q (nI p)))).1))), (ad 0, iA G 57 r), (ad 9, iA G 8 (upd ((pf r N f (p + 1) ((tk ||| (1 <<< ((nI p) &&& 31))) ||| (1 <<< ((nI q) &&& 31))) (lf - 1) (v + (sJoy r q p)) (((pfQ (pf r N f (p + 1)) r p tk lf v t (pfT (pf r N f (p + 1)) r N p tk lf v (bo, bb, wb) t) q).1), ((pfQ (pf r N f (p + 1)) r p tk lf v t (pfT (pf r N f (p + 1)) r N p tk lf v (bo, bb, wb) t) q).2.1), (upd ((pfQ (pf r N f (p + 1)) r p tk lf v t (pfT (pf r N f (p + 1)) r N p tk lf v (bo, bb, wb) t) q).2.2) q (nI p)))).2.2) q 9)), (ad 10, iA G 8 ((pf r N f (p + 1) ((tk ||| (1 <<< ((nI p) &&& 31))) ||| (1 <<< ((nI q) &&& 31))) (lf - 1) (v + (sJoy r q p)) (((pfQ (pf r N f (p + 1)) r p tk lf v t (pfT (pf r N f (p + 1)) r N p tk lf v (bo, bb, wb) t) q).1), ((pfQ (pf r N f (p + 1)) r p tk lf v t (pfT (pf r N f (p + 1)) r N p tk lf v (bo, bb, wb) t) q).2.1), (upd ((pfQ (pf r N f (p + 1)) r p tk lf v t (pfT (pf r N f (p + 1)) r N p tk lf v (bo, bb, wb) t) q).2.2) q (nI p)))).2.1))] H := hP
                have hD : va_D A [(h, mO ad (upd iv 11 ((pf r N f (p + 1) ((tk ||| (1 <<< ((nI p) &&& 31))) ||| (1 <<< ((nI q) &&& 31))) (lf - 1) (v + (sJoy r q p)) (((pfQ (pf r N f (p + 1)) r p tk lf v t (pfT (pf r N f (p + 1)) r N p tk lf v (bo, bb, wb) t) q).1), ((pfQ (pf r N f (p + 1)) r p tk lf v t (pfT (pf r N f (p + 1)) r N p tk lf v (bo, bb, wb) t) q).2.1), (upd ((pfQ (pf r N f (p + 1)) r p tk lf v t (pfT (pf r N f (p + 1)) r N p tk lf v (bo, bb, wb) t) q).2.2) q (nI p)))).1))), (ad 0, iA G 57 r), (ad 9, iA G 8 (upd ((pf r N f (p + 1) ((tk ||| (1 <<< ((nI p) &&& 31))) ||| (1 <<< ((nI q) &&& 31))) (lf - 1) (v + (sJoy r q p)) (((pfQ (pf r N f (p + 1)) r p tk lf v t (pfT (pf r N f (p + 1)) r N p tk lf v (bo, bb, wb) t) q).1), ((pfQ (pf r N f (p + 1)) r p tk lf v t (pfT (pf r N f (p + 1)) r N p tk lf v (bo, bb, wb) t) q).2.1), (upd ((pfQ (pf r N f (p + 1)) r p tk lf v t (pfT (pf r N f (p + 1)) r N p tk lf v (bo, bb, wb) t) q).2.2) q (nI p)))).2.2) q 9)), (ad 10, iA G 8 ((pf r N f (p + 1) ((tk ||| (1 <<< ((nI p) &&& 31))) ||| (1 <<< ((nI q) &&& 31))) (lf - 1) (v + (sJoy r q p)) (((pfQ (pf r N f (p + 1)) r p tk lf v t (pfT (pf r N f (p + 1)) r N p tk lf v (bo, bb, wb) t) q).1), ((pfQ (pf r N f (p + 1)) r p tk lf v t (pfT (pf r N f (p + 1)) r N p tk lf v (bo, bb, wb) t) q).2.1), (upd ((pfQ (pf r N f (p + 1)) r p tk lf v t (pfT (pf r N f (p + 1)) r N p tk lf v (bo, bb, wb) t) q).2.2) q (nI p)))).2.1))] := hD
                refine n_iinc (k := 2) (lv' := [(6, .int (nI (q + 1))), (8, .int (nI p)), (7, .int (nI q)), (5, .int (nI t)), (0, .ref h), (1, .int (nI p)), (2, .int tk), (3, .int lf), (4, .int v)]) hx hb q 1 dX4_pairsFrom_218 hl rfl (Nat.le_of_ble_eq_true rfl) rfl (fun ls hl => ?_)
                refine lv_goto (tgt := 102) hx hb dX4_pairsFrom_221 (by decide) ?_
                have e_26 : (mO ad (upd iv 11 ((pfQ (pf r N f (p + 1)) r p tk lf v t (pfT (pf r N f (p + 1)) r N p tk lf v (bo, bb, wb) t) (q + 1)).1)) : va_E) = mO ad (upd iv 11 ((pf r N f (p + 1) ((tk ||| (1 <<< ((nI p) &&& 31))) ||| (1 <<< ((nI q) &&& 31))) (lf - 1) (v + (sJoy r q p)) (((pfQ (pf r N f (p + 1)) r p tk lf v t (pfT (pf r N f (p + 1)) r N p tk lf v (bo, bb, wb) t) q).1), ((pfQ (pf r N f (p + 1)) r p tk lf v t (pfT (pf r N f (p + 1)) r N p tk lf v (bo, bb, wb) t) q).2.1), (upd ((pfQ (pf r N f (p + 1)) r p tk lf v t (pfT (pf r N f (p + 1)) r N p tk lf v (bo, bb, wb) t) q).2.2) q (nI p)))).1)) := by rw [pfQ, if_pos (by omega)]; simp [pfS, bitI, c_16, c_17, yc_17, zc_17, c_18, c_19, c_23]
                have e_27 : (iA G 8 ((pfQ (pf r N f (p + 1)) r p tk lf v t (pfT (pf r N f (p + 1)) r N p tk lf v (bo, bb, wb) t) (q + 1)).2.2) : va_E) = iA G 8 (upd ((pf r N f (p + 1) ((tk ||| (1 <<< ((nI p) &&& 31))) ||| (1 <<< ((nI q) &&& 31))) (lf - 1) (v + (sJoy r q p)) (((pfQ (pf r N f (p + 1)) r p tk lf v t (pfT (pf r N f (p + 1)) r N p tk lf v (bo, bb, wb) t) q).1), ((pfQ (pf r N f (p + 1)) r p tk lf v t (pfT (pf r N f (p + 1)) r N p tk lf v (bo, bb, wb) t) q).2.1), (upd ((pfQ (pf r N f (p + 1)) r p tk lf v t (pfT (pf r N f (p + 1)) r N p tk lf v (bo, bb, wb) t) q).2.2) q (nI p)))).2.2) q 9) := by rw [pfQ, if_pos (by omega)]; simp [pfS, bitI, c_16, c_17, yc_17, zc_17, c_18, c_19, c_23]
                have e_28 : (iA G 8 ((pfQ (pf r N f (p + 1)) r p tk lf v t (pfT (pf r N f (p + 1)) r N p tk lf v (bo, bb, wb) t) (q + 1)).2.1) : va_E) = iA G 8 ((pf r N f (p + 1) ((tk ||| (1 <<< ((nI p) &&& 31))) ||| (1 <<< ((nI q) &&& 31))) (lf - 1) (v + (sJoy r q p)) (((pfQ (pf r N f (p + 1)) r p tk lf v t (pfT (pf r N f (p + 1)) r N p tk lf v (bo, bb, wb) t) q).1), ((pfQ (pf r N f (p + 1)) r p tk lf v t (pfT (pf r N f (p + 1)) r N p tk lf v (bo, bb, wb) t) q).2.1), (upd ((pfQ (pf r N f (p + 1)) r p tk lf v t (pfT (pf r N f (p + 1)) r N p tk lf v (bo, bb, wb) t) q).2.2) q (nI p)))).2.1) := by rw [pfQ, if_pos (by omega)]; simp [pfS, bitI, c_16, c_17, yc_17, zc_17, c_18, c_19, c_23]
                exact ih_11 (q + 1) (by omega) (by omega) _ _ (by rw [e_26, e_27, e_28]; exact hP.sub [0, 1, 2, 3] rfl) (by rw [e_26, e_27, e_28]; exact hD.sub [0, 1, 2, 3] (by decide) rfl) hS ls (lv_sub hl [0, 3, 4, 5, 6, 7, 8] rfl)
              · refine lv_goto (tgt := 218) hx hb dX4_pairsFrom_163 (by decide) ?_
                refine n_iinc (k := 2) (lv' := [(6, .int (nI (q + 1))), (8, .int (nI p)), (7, .int (nI q)), (5, .int (nI t)), (0, .ref h), (1, .int (nI p)), (2, .int tk), (3, .int lf), (4, .int v)]) hx hb q 1 dX4_pairsFrom_218 hl rfl (Nat.le_of_ble_eq_true rfl) rfl (fun ls hl => ?_)
                refine lv_goto (tgt := 102) hx hb dX4_pairsFrom_221 (by decide) ?_
                have e_29 : (mO ad (upd iv 11 ((pfQ (pf r N f (p + 1)) r p tk lf v t (pfT (pf r N f (p + 1)) r N p tk lf v (bo, bb, wb) t) (q + 1)).1)) : va_E) = mO ad (upd iv 11 ((pfQ (pf r N f (p + 1)) r p tk lf v t (pfT (pf r N f (p + 1)) r N p tk lf v (bo, bb, wb) t) q).1)) := by rw [pfQ, if_pos (by omega)]; simp [pfS, bitI, c_16, c_17, yc_17, zc_17, c_18, c_19, c_23]
                have e_30 : (iA G 8 ((pfQ (pf r N f (p + 1)) r p tk lf v t (pfT (pf r N f (p + 1)) r N p tk lf v (bo, bb, wb) t) (q + 1)).2.2) : va_E) = iA G 8 ((pfQ (pf r N f (p + 1)) r p tk lf v t (pfT (pf r N f (p + 1)) r N p tk lf v (bo, bb, wb) t) q).2.2) := by rw [pfQ, if_pos (by omega)]; simp [pfS, bitI, c_16, c_17, yc_17, zc_17, c_18, c_19, c_23]
                have e_31 : (iA G 8 ((pfQ (pf r N f (p + 1)) r p tk lf v t (pfT (pf r N f (p + 1)) r N p tk lf v (bo, bb, wb) t) (q + 1)).2.1) : va_E) = iA G 8 ((pfQ (pf r N f (p + 1)) r p tk lf v t (pfT (pf r N f (p + 1)) r N p tk lf v (bo, bb, wb) t) q).2.1) := by rw [pfQ, if_pos (by omega)]; simp [pfS, bitI, c_16, c_17, yc_17, zc_17, c_18, c_19, c_23]
                exact ih_11 (q + 1) (by omega) (by omega) _ _ (by rw [e_29, e_30, e_31]; exact hP.sub [0, 1, 2, 3] rfl) (by rw [e_29, e_30, e_31]; exact hD.sub [0, 1, 2, 3] (by decide) rfl) hS ls (lv_sub hl [0, 3, 4, 5, 6, 7, 8] rfl)
          · obtain rfl := c_17
            have zc_17 : (nI 0 = 0) = True := eq_true rfl
            refine lv_iload_n hx hb dX4_pairsFrom_118 rfl (lv_at hl 3 rfl) ?_
            refine lv_goto (tgt := 124) hx hb dX4_pairsFrom_119 (by decide) ?_
            refine lv_istore (lv' := [(7, .int (nI p)), (6, .int (nI q)), (5, .int (nI 0)), (0, .ref h), (1, .int (nI p)), (2, .int tk), (3, .int lf), (4, .int v)]) hx hb dX4_pairsFrom_124 hl (Nat.le_of_ble_eq_true rfl) rfl (fun ls hl => ?_)
            refine lv_iload hx hb dX4_pairsFrom_126 (lv_at hl 2 rfl) ?_
            refine n_if_ne (x := 0) (tgt := 136) hx hb (by omega) dX4_pairsFrom_128 (by decide) (fun c_32 => absurd c_32 (by omega)) (fun c_32 => ?_)
            refine lv_iload hx hb dX4_pairsFrom_131 (lv_at hl 1 rfl) ?_
            refine lv_goto (tgt := 137) hx hb dX4_pairsFrom_133 (by decide) ?_
            refine lv_istore (lv' := [(8, .int (nI q)), (7, .int (nI p)), (6, .int (nI q)), (5, .int (nI 0)), (0, .ref h), (1, .int (nI p)), (2, .int tk), (3, .int lf), (4, .int v)]) hx hb dX4_pairsFrom_137 hl (Nat.le_of_ble_eq_true rfl) rfl (fun ls hl => ?_)
            refine lv_iload_n hx hb dX4_pairsFrom_139 rfl (lv_at hl 6 rfl) ?_
            refine lv_iload hx hb dX4_pairsFrom_140 (lv_at hl 2 rfl) ?_
            refine lv_ishr (x := tk) (y := nI q) hx hb dX4_pairsFrom_142 ?_
            refine lv_iconst (v := 1) hx hb dX4_pairsFrom_143 (by decide) ?_
            refine lv_iand (x := tk >>> ((nI q) &&& 31)) (y := 1) hx hb dX4_pairsFrom_144 ?_
            refine lv_iconst (v := 1) hx hb dX4_pairsFrom_145 (by decide) ?_
            refine lv_icmp_eq (x := (tk >>> ((nI q) &&& 31)) &&& 1) (y := 1) (tgt := 218) hx hb dX4_pairsFrom_146 (by decide) (fun c_33 => ?_) (fun c_33 => ?_)
            · refine n_iinc (k := 2) (lv' := [(6, .int (nI (q + 1))), (8, .int (nI q)), (7, .int (nI p)), (5, .int (nI 0)), (0, .ref h), (1, .int (nI p)), (2, .int tk), (3, .int lf), (4, .int v)]) hx hb q 1 dX4_pairsFrom_218 hl rfl (Nat.le_of_ble_eq_true rfl) rfl (fun ls hl => ?_)
              refine lv_goto (tgt := 102) hx hb dX4_pairsFrom_221 (by decide) ?_
              have e_34 : (mO ad (upd iv 11 ((pfQ (pf r N f (p + 1)) r p tk lf v 0 (pfT (pf r N f (p + 1)) r N p tk lf v (bo, bb, wb) 0) (q + 1)).1)) : va_E) = mO ad (upd iv 11 ((pfQ (pf r N f (p + 1)) r p tk lf v 0 (pfT (pf r N f (p + 1)) r N p tk lf v (bo, bb, wb) 0) q).1)) := by rw [pfQ, if_pos (by omega)]; simp [pfS, bitI, c_16, zc_17, c_32, c_33]
              have e_35 : (iA G 8 ((pfQ (pf r N f (p + 1)) r p tk lf v 0 (pfT (pf r N f (p + 1)) r N p tk lf v (bo, bb, wb) 0) (q + 1)).2.2) : va_E) = iA G 8 ((pfQ (pf r N f (p + 1)) r p tk lf v 0 (pfT (pf r N f (p + 1)) r N p tk lf v (bo, bb, wb) 0) q).2.2) := by rw [pfQ, if_pos (by omega)]; simp [pfS, bitI, c_16, zc_17, c_32, c_33]
              have e_36 : (iA G 8 ((pfQ (pf r N f (p + 1)) r p tk lf v 0 (pfT (pf r N f (p + 1)) r N p tk lf v (bo, bb, wb) 0) (q + 1)).2.1) : va_E) = iA G 8 ((pfQ (pf r N f (p + 1)) r p tk lf v 0 (pfT (pf r N f (p + 1)) r N p tk lf v (bo, bb, wb) 0) q).2.1) := by rw [pfQ, if_pos (by omega)]; simp [pfS, bitI, c_16, zc_17, c_32, c_33]
              exact ih_11 (q + 1) (by omega) (by omega) _ _ (by rw [e_34, e_35, e_36]; exact hP.sub [0, 1, 2, 3] rfl) (by rw [e_34, e_35, e_36]; exact hD.sub [0, 1, 2, 3] (by decide) rfl) hS ls (lv_sub hl [0, 3, 4, 5, 6, 7, 8] rfl)
            · refine lv_aload_n hx hb dX4_pairsFrom_149 rfl (lv_at hl 4 rfl) ?_
              refine va_get (D := gD G) (ci := 0) (v := .ref (ad 0)) (C := RX4) (T := TX4) (N := 20) hx hb hts in_X4 hown hK hP 0 rfl rfl 0 (by decide) (hts _ q1073) (fun _ h9 => h9) rfl dX4_pairsFrom_150 ?_
              refine lv_iload hx hb dX4_pairsFrom_153 (lv_at hl 1 rfl) ?_
              refine lv_iload hx hb dX4_pairsFrom_155 (lv_at hl 0 rfl) ?_
              refine c_S (rest := []) C (metX4_canEat l G (ad 0) r p q (by omega) (by omega)) 3 (lw_S q1177 q1178 q42 q1179) (by decide +kernel) ⟨rfl, rfl⟩ ⟨(by dsimp only; omega), (by dsimp only; omega)⟩ (KM_mv G) (hP.sub (ws' := [(ad 0, iA G 57 r)]) [1] rfl) hK hl rfl rfl (Nat.le_of_ble_eq_true rfl) ⟨(Nat.le_of_ble_eq_true rfl), (Nat.le_of_ble_eq_true rfl)⟩ dX4_pairsFrom_157 ?_
              refine n_if_neB (b := (sEat r p q)) (tgt := 166) hx hb dX4_pairsFrom_160 (by decide) (fun c_37 => ?_) (fun c_37 => ?_)
              · refine lv_aload_n hx hb dX4_pairsFrom_166 rfl (lv_at hl 4 rfl) ?_
                refine va_get (D := gD G) (ci := 0) (v := .ref (ad 9)) (C := RX4) (T := TX4) (N := 20) hx hb hts in_X4 hown hK hP 0 rfl rfl 9 (by decide) (hts _ q1082) (fun _ h9 => h9) rfl dX4_pairsFrom_167 ?_
                refine lv_iload hx hb dX4_pairsFrom_170 (lv_at hl 1 rfl) ?_
                refine lv_iload hx hb dX4_pairsFrom_172 (lv_at hl 0 rfl) ?_
                refine n_iast (x := nI q) C hK hP hD hS 2 p rfl (by omega) (by omega) dX4_pairsFrom_174 (fun H locs hP hD hS => ?_)
                have hP : PP G [(h, mO ad (upd iv 11 ((pfQ (pf r N f (p + 1)) r p tk lf v 0 (pfT (pf r N f (p + 1)) r N p tk lf v (bo, bb, wb) 0) q).1))), (ad 0, iA G 57 r), (ad 9, iA G 8 (upd ((pfQ (pf r N f (p + 1)) r p tk lf v 0 (pfT (pf r N f (p + 1)) r N p tk lf v (bo, bb, wb) 0) q).2.2) p (nI q))), (ad 10, iA G 8 ((pfQ (pf r N f (p + 1)) r p tk lf v 0 (pfT (pf r N f (p + 1)) r N p tk lf v (bo, bb, wb) 0) q).2.1))] H := hP
                have hD : va_D A [(h, mO ad (upd iv 11 ((pfQ (pf r N f (p + 1)) r p tk lf v 0 (pfT (pf r N f (p + 1)) r N p tk lf v (bo, bb, wb) 0) q).1))), (ad 0, iA G 57 r), (ad 9, iA G 8 (upd ((pfQ (pf r N f (p + 1)) r p tk lf v 0 (pfT (pf r N f (p + 1)) r N p tk lf v (bo, bb, wb) 0) q).2.2) p (nI q))), (ad 10, iA G 8 ((pfQ (pf r N f (p + 1)) r p tk lf v 0 (pfT (pf r N f (p + 1)) r N p tk lf v (bo, bb, wb) 0) q).2.1))] := hD
                refine lv_aload_n hx hb dX4_pairsFrom_175 rfl (lv_at hl 4 rfl) ?_
                refine lv_iload_n hx hb dX4_pairsFrom_176 rfl (lv_at hl 5 rfl) ?_
                refine lv_iconst (v := 1) hx hb dX4_pairsFrom_177 (by decide) ?_
                refine n_iadd hx hb p 1 dX4_pairsFrom_178 ?_
                refine lv_iload_n hx hb dX4_pairsFrom_179 rfl (lv_at hl 6 rfl) ?_
                refine lv_iconst (v := 1) hx hb dX4_pairsFrom_180 (by decide) ?_
                refine lv_iload_n hx hb dX4_pairsFrom_181 rfl (lv_at hl 5 rfl) ?_
                refine lv_ishl (x := 1) (y := nI p) hx hb dX4_pairsFrom_182 ?_
                refine lv_ior (x := tk) (y := 1 <<< ((nI p) &&& 31)) hx hb dX4_pairsFrom_183 ?_
                refine lv_iconst (v := 1) hx hb dX4_pairsFrom_184 (by decide) ?_
                refine lv_iload hx hb dX4_pairsFrom_185 (lv_at hl 2 rfl) ?_
                refine lv_ishl (x := 1) (y := nI q) hx hb dX4_pairsFrom_187 ?_
                refine lv_ior (x := tk ||| (1 <<< ((nI p) &&& 31))) (y := 1 <<< ((nI q) &&& 31)) hx hb dX4_pairsFrom_188 ?_
                refine lv_iload_n hx hb dX4_pairsFrom_189 rfl (lv_at hl 7 rfl) ?_
                refine lv_iconst (v := 1) hx hb dX4_pairsFrom_190 (by decide) ?_
                refine lv_isub (x := lf) (y := 1) hx hb dX4_pairsFrom_191 ?_
                refine lv_iload hx hb dX4_pairsFrom_192 (lv_at hl 8 rfl) ?_
                refine lv_aload_n hx hb dX4_pairsFrom_194 rfl (lv_at hl 4 rfl) ?_
                refine va_get (D := gD G) (ci := 0) (v := .ref (ad 0)) (C := RX4) (T := TX4) (N := 20) hx hb hts in_X4 hown hK hP 0 rfl rfl 0 (by decide) (hts _ q1073) (fun _ h9 => h9) rfl dX4_pairsFrom_195 ?_
                refine lv_iload hx hb dX4_pairsFrom_198 (lv_at hl 1 rfl) ?_
                refine lv_iload hx hb dX4_pairsFrom_200 (lv_at hl 0 rfl) ?_
                refine c_S (rest := [.int v, .int (lf - 1), .int ((tk ||| (1 <<< ((nI p) &&& 31))) ||| (1 <<< ((nI q) &&& 31))), .int (nI (p + 1)), .ref h]) C (metX4_joysOf l G (ad 0) r p q (by omega) (by omega)) 3 (lw_S q1186 q1187 q42 q1188) (by decide +kernel) ⟨rfl, rfl⟩ ⟨(by dsimp only; omega), (by dsimp only; omega)⟩ (KM_mv G) (hP.sub (ws' := [(ad 0, iA G 57 r)]) [1] rfl) hK hl rfl rfl (Nat.le_of_ble_eq_true rfl) ⟨(Nat.le_of_ble_eq_true rfl), (Nat.le_of_ble_eq_true rfl)⟩ dX4_pairsFrom_202 ?_
                refine lv_iadd (x := v) (y := sJoy r p q) hx hb dX4_pairsFrom_205 ?_
                refine c_VWv (wr := []) (rest := []) C (ih l G h ad iv r N (p + 1) ((tk ||| (1 <<< ((nI p) &&& 31))) ||| (1 <<< ((nI q) &&& 31))) (lf - 1) (v + (sJoy r p q)) ((pfQ (pf r N f (p + 1)) r p tk lf v 0 (pfT (pf r N f (p + 1)) r N p tk lf v (bo, bb, wb) 0) q).1) ((pfQ (pf r N f (p + 1)) r p tk lf v 0 (pfT (pf r N f (p + 1)) r N p tk lf v (bo, bb, wb) 0) q).2.1) (upd ((pfQ (pf r N f (p + 1)) r p tk lf v 0 (pfT (pf r N f (p + 1)) r N p tk lf v (bo, bb, wb) 0) q).2.2) p (nI q)) (by omega) (hr) (by omega)) 4 (lw_V q1271 q1273 qs31 q42 q1274) (by decide +kernel) ⟨rfl, rfl⟩ ⟨(by dsimp only; omega), (by dsimp only; omega)⟩ (KM_mv G) hK (va_recv hK hP (ci := 0) (q0 := 0) rfl rfl) hA hP hD hS [0, 1, 2, 3] [] rfl rfl rfl rfl (by decide) hl rfl rfl (Nat.le_of_ble_eq_true rfl) ⟨(Nat.le_of_ble_eq_true rfl), (Nat.le_of_ble_eq_true rfl)⟩ dX4_pairsFrom_206 (fun w1 H locs hq_39 hP hD hS => ?_)
                obtain rfl := hq_39
                have hP : PP G [(h, mO ad (upd iv 11 ((pf r N f (p + 1) ((tk ||| (1 <<< ((nI p) &&& 31))) ||| (1 <<< ((nI q) &&& 31))) (lf - 1) (v + (sJoy r p q)) (((pfQ (pf r N f (p + 1)) r p tk lf v 0 (pfT (pf r N f (p + 1)) r N p tk lf v (bo, bb, wb) 0) q).1), ((pfQ (pf r N f (p + 1)) r p tk lf v 0 (pfT (pf r N f (p + 1)) r N p tk lf v (bo, bb, wb) 0) q).2.1), (upd ((pfQ (pf r N f (p + 1)) r p tk lf v 0 (pfT (pf r N f (p + 1)) r N p tk lf v (bo, bb, wb) 0) q).2.2) p (nI q)))).1))), (ad 0, iA G 57 r), (ad 9, iA G 8 ((pf r N f (p + 1) ((tk ||| (1 <<< ((nI p) &&& 31))) ||| (1 <<< ((nI q) &&& 31))) (lf - 1) (v + (sJoy r p q)) (((pfQ (pf r N f (p + 1)) r p tk lf v 0 (pfT (pf r N f (p + 1)) r N p tk lf v (bo, bb, wb) 0) q).1), ((pfQ (pf r N f (p + 1)) r p tk lf v 0 (pfT (pf r N f (p + 1)) r N p tk lf v (bo, bb, wb) 0) q).2.1), (upd ((pfQ (pf r N f (p + 1)) r p tk lf v 0 (pfT (pf r N f (p + 1)) r N p tk lf v (bo, bb, wb) 0) q).2.2) p (nI q)))).2.2)), (ad 10, iA G 8 ((pf r N f (p + 1) ((tk ||| (1 <<< ((nI p) &&& 31))) ||| (1 <<< ((nI q) &&& 31))) (lf - 1) (v + (sJoy r p q)) (((pfQ (pf r N f (p + 1)) r p tk lf v 0 (pfT (pf r N f (p + 1)) r N p tk lf v (bo, bb, wb) 0) q).1), ((pfQ (pf r N f (p + 1)) r p tk lf v 0 (pfT (pf r N f (p + 1)) r N p tk lf v (bo, bb, wb) 0) q).2.1), (upd ((pfQ (pf r N f (p + 1)) r p tk lf v 0 (pfT (pf r N f (p + 1)) r N p tk lf v (bo, bb, wb) 0) q).2.2) p (nI q)))).2.1))] H := hP
                have hD : va_D A [(h, mO ad (upd iv 11 ((pf r N f (p + 1) ((tk ||| (1 <<< ((nI p) &&& 31))) ||| (1 <<< ((nI q) &&& 31))) (lf - 1) (v + (sJoy r p q)) (((pfQ (pf r N f (p + 1)) r p tk lf v 0 (pfT (pf r N f (p + 1)) r N p tk lf v (bo, bb, wb) 0) q).1), ((pfQ (pf r N f (p + 1)) r p tk lf v 0 (pfT (pf r N f (p + 1)) r N p tk lf v (bo, bb, wb) 0) q).2.1), (upd ((pfQ (pf r N f (p + 1)) r p tk lf v 0 (pfT (pf r N f (p + 1)) r N p tk lf v (bo, bb, wb) 0) q).2.2) p (nI q)))).1))), (ad 0, iA G 57 r), (ad 9, iA G 8 ((pf r N f (p + 1) ((tk ||| (1 <<< ((nI p) &&& 31))) ||| (1 <<< ((nI q) &&& 31))) (lf - 1) (v + (sJoy r p q)) (((pfQ (pf r N f (p + 1)) r p tk lf v 0 (pfT (pf r N f (p + 1)) r N p tk lf v (bo, bb, wb) 0) q).1), ((pfQ (pf r N f (p + 1)) r p tk lf v 0 (pfT (pf r N f (p + 1)) r N p tk lf v (bo, bb, wb) 0) q).2.1), (upd ((pfQ (pf r N f (p + 1)) r p tk lf v 0 (pfT (pf r N f (p + 1)) r N p tk lf v (bo, bb, wb) 0) q).2.2) p (nI q)))).2.2)), (ad 10, iA G 8 ((pf r N f (p + 1) ((tk ||| (1 <<< ((nI p) &&& 31))) ||| (1 <<< ((nI q) &&& 31))) (lf - 1) (v + (sJoy r p q)) (((pfQ (pf r N f (p + 1)) r p tk lf v 0 (pfT (pf r N f (p + 1)) r N p tk lf v (bo, bb, wb) 0) q).1), ((pfQ (pf r N f (p + 1)) r p tk lf v 0 (pfT (pf r N f (p + 1)) r N p tk lf v (bo, bb, wb) 0) q).2.1), (upd ((pfQ (pf r N f (p + 1)) r p tk lf v 0 (pfT (pf r N f (p + 1)) r N p tk lf v (bo, bb, wb) 0) q).2.2) p (nI q)))).2.1))] := hD
                refine lv_aload_n hx hb dX4_pairsFrom_209 rfl (lv_at hl 4 rfl) ?_
                refine va_get (D := gD G) (ci := 0) (v := .ref (ad 9)) (C := RX4) (T := TX4) (N := 20) hx hb hts in_X4 hown hK hP 0 rfl rfl 9 (by decide) (hts _ q1082) (fun _ h9 => h9) rfl dX4_pairsFrom_210 ?_
                refine lv_iload hx hb dX4_pairsFrom_213 (lv_at hl 1 rfl) ?_
                refine lv_bipush (v := 9) hx hb dX4_pairsFrom_215 (by decide) ?_
                refine n_iast (x := 9) C hK hP hD hS 2 p rfl (by omega) (by omega) dX4_pairsFrom_217 (fun H locs hP hD hS => ?_)
                have hP : PP G [(h, mO ad (upd iv 11 ((pf r N f (p + 1) ((tk ||| (1 <<< ((nI p) &&& 31))) ||| (1 <<< ((nI q) &&& 31))) (lf - 1) (v + (sJoy r p q)) (((pfQ (pf r N f (p + 1)) r p tk lf v 0 (pfT (pf r N f (p + 1)) r N p tk lf v (bo, bb, wb) 0) q).1), ((pfQ (pf r N f (p + 1)) r p tk lf v 0 (pfT (pf r N f (p + 1)) r N p tk lf v (bo, bb, wb) 0) q).2.1), (upd ((pfQ (pf r N f (p + 1)) r p tk lf v 0 (pfT (pf r N f (p + 1)) r N p tk lf v (bo, bb, wb) 0) q).2.2) p (nI q)))).1))), (ad 0, iA G 57 r), (ad 9, iA G 8 (upd ((pf r N f (p + 1) ((tk ||| (1 <<< ((nI p) &&& 31))) ||| (1 <<< ((nI q) &&& 31))) (lf - 1) (v + (sJoy r p q)) (((pfQ (pf r N f (p + 1)) r p tk lf v 0 (pfT (pf r N f (p + 1)) r N p tk lf v (bo, bb, wb) 0) q).1), ((pfQ (pf r N f (p + 1)) r p tk lf v 0 (pfT (pf r N f (p + 1)) r N p tk lf v (bo, bb, wb) 0) q).2.1), (upd ((pfQ (pf r N f (p + 1)) r p tk lf v 0 (pfT (pf r N f (p + 1)) r N p tk lf v (bo, bb, wb) 0) q).2.2) p (nI q)))).2.2) p 9)), (ad 10, iA G 8 ((pf r N f (p + 1) ((tk ||| (1 <<< ((nI p) &&& 31))) ||| (1 <<< ((nI q) &&& 31))) (lf - 1) (v + (sJoy r p q)) (((pfQ (pf r N f (p + 1)) r p tk lf v 0 (pfT (pf r N f (p + 1)) r N p tk lf v (bo, bb, wb) 0) q).1), ((pfQ (pf r N f (p + 1)) r p tk lf v 0 (pfT (pf r N f (p + 1)) r N p tk lf v (bo, bb, wb) 0) q).2.1), (upd ((pfQ (pf r N f (p + 1)) r p tk lf v 0 (pfT (pf r N f (p + 1)) r N p tk lf v (bo, bb, wb) 0) q).2.2) p (nI q)))).2.1))] H := hP
                have hD : va_D A [(h, mO ad (upd iv 11 ((pf r N f (p + 1) ((tk ||| (1 <<< ((nI p) &&& 31))) ||| (1 <<< ((nI q) &&& 31))) (lf - 1) (v + (sJoy r p q)) (((pfQ (pf r N f (p + 1)) r p tk lf v 0 (pfT (pf r N f (p + 1)) r N p tk lf v (bo, bb, wb) 0) q).1), ((pfQ (pf r N f (p + 1)) r p tk lf v 0 (pfT (pf r N f (p + 1)) r N p tk lf v (bo, bb, wb) 0) q).2.1), (upd ((pfQ (pf r N f (p + 1)) r p tk lf v 0 (pfT (pf r N f (p + 1)) r N p tk lf v (bo, bb, wb) 0) q).2.2) p (nI q)))).1))), (ad 0, iA G 57 r), (ad 9, iA G 8 (upd ((pf r N f (p + 1) ((tk ||| (1 <<< ((nI p) &&& 31))) ||| (1 <<< ((nI q) &&& 31))) (lf - 1) (v + (sJoy r p q)) (((pfQ (pf r N f (p + 1)) r p tk lf v 0 (pfT (pf r N f (p + 1)) r N p tk lf v (bo, bb, wb) 0) q).1), ((pfQ (pf r N f (p + 1)) r p tk lf v 0 (pfT (pf r N f (p + 1)) r N p tk lf v (bo, bb, wb) 0) q).2.1), (upd ((pfQ (pf r N f (p + 1)) r p tk lf v 0 (pfT (pf r N f (p + 1)) r N p tk lf v (bo, bb, wb) 0) q).2.2) p (nI q)))).2.2) p 9)), (ad 10, iA G 8 ((pf r N f (p + 1) ((tk ||| (1 <<< ((nI p) &&& 31))) ||| (1 <<< ((nI q) &&& 31))) (lf - 1) (v + (sJoy r p q)) (((pfQ (pf r N f (p + 1)) r p tk lf v 0 (pfT (pf r N f (p + 1)) r N p tk lf v (bo, bb, wb) 0) q).1), ((pfQ (pf r N f (p + 1)) r p tk lf v 0 (pfT (pf r N f (p + 1)) r N p tk lf v (bo, bb, wb) 0) q).2.1), (upd ((pfQ (pf r N f (p + 1)) r p tk lf v 0 (pfT (pf r N f (p + 1)) r N p tk lf v (bo, bb, wb) 0) q).2.2) p (nI q)))).2.1))] := hD
                refine n_iinc (k := 2) (lv' := [(6, .int (nI (q + 1))), (8, .int (nI q)), (7, .int (nI p)), (5, .int (nI 0)), (0, .ref h), (1, .int (nI p)), (2, .int tk), (3, .int lf), (4, .int v)]) hx hb q 1 dX4_pairsFrom_218 hl rfl (Nat.le_of_ble_eq_true rfl) rfl (fun ls hl => ?_)
                refine lv_goto (tgt := 102) hx hb dX4_pairsFrom_221 (by decide) ?_
                have e_40 : (mO ad (upd iv 11 ((pfQ (pf r N f (p + 1)) r p tk lf v 0 (pfT (pf r N f (p + 1)) r N p tk lf v (bo, bb, wb) 0) (q + 1)).1)) : va_E) = mO ad (upd iv 11 ((pf r N f (p + 1) ((tk ||| (1 <<< ((nI p) &&& 31))) ||| (1 <<< ((nI q) &&& 31))) (lf - 1) (v + (sJoy r p q)) (((pfQ (pf r N f (p + 1)) r p tk lf v 0 (pfT (pf r N f (p + 1)) r N p tk lf v (bo, bb, wb) 0) q).1), ((pfQ (pf r N f (p + 1)) r p tk lf v 0 (pfT (pf r N f (p + 1)) r N p tk lf v (bo, bb, wb) 0) q).2.1), (upd ((pfQ (pf r N f (p + 1)) r p tk lf v 0 (pfT (pf r N f (p + 1)) r N p tk lf v (bo, bb, wb) 0) q).2.2) p (nI q)))).1)) := by rw [pfQ, if_pos (by omega)]; simp [pfS, bitI, c_16, zc_17, c_32, c_33, c_37]
                have e_41 : (iA G 8 ((pfQ (pf r N f (p + 1)) r p tk lf v 0 (pfT (pf r N f (p + 1)) r N p tk lf v (bo, bb, wb) 0) (q + 1)).2.2) : va_E) = iA G 8 (upd ((pf r N f (p + 1) ((tk ||| (1 <<< ((nI p) &&& 31))) ||| (1 <<< ((nI q) &&& 31))) (lf - 1) (v + (sJoy r p q)) (((pfQ (pf r N f (p + 1)) r p tk lf v 0 (pfT (pf r N f (p + 1)) r N p tk lf v (bo, bb, wb) 0) q).1), ((pfQ (pf r N f (p + 1)) r p tk lf v 0 (pfT (pf r N f (p + 1)) r N p tk lf v (bo, bb, wb) 0) q).2.1), (upd ((pfQ (pf r N f (p + 1)) r p tk lf v 0 (pfT (pf r N f (p + 1)) r N p tk lf v (bo, bb, wb) 0) q).2.2) p (nI q)))).2.2) p 9) := by rw [pfQ, if_pos (by omega)]; simp [pfS, bitI, c_16, zc_17, c_32, c_33, c_37]
                have e_42 : (iA G 8 ((pfQ (pf r N f (p + 1)) r p tk lf v 0 (pfT (pf r N f (p + 1)) r N p tk lf v (bo, bb, wb) 0) (q + 1)).2.1) : va_E) = iA G 8 ((pf r N f (p + 1) ((tk ||| (1 <<< ((nI p) &&& 31))) ||| (1 <<< ((nI q) &&& 31))) (lf - 1) (v + (sJoy r p q)) (((pfQ (pf r N f (p + 1)) r p tk lf v 0 (pfT (pf r N f (p + 1)) r N p tk lf v (bo, bb, wb) 0) q).1), ((pfQ (pf r N f (p + 1)) r p tk lf v 0 (pfT (pf r N f (p + 1)) r N p tk lf v (bo, bb, wb) 0) q).2.1), (upd ((pfQ (pf r N f (p + 1)) r p tk lf v 0 (pfT (pf r N f (p + 1)) r N p tk lf v (bo, bb, wb) 0) q).2.2) p (nI q)))).2.1) := by rw [pfQ, if_pos (by omega)]; simp [pfS, bitI, c_16, zc_17, c_32, c_33, c_37]
                exact ih_11 (q + 1) (by omega) (by omega) _ _ (by rw [e_40, e_41, e_42]; exact hP.sub [0, 1, 2, 3] rfl) (by rw [e_40, e_41, e_42]; exact hD.sub [0, 1, 2, 3] (by decide) rfl) hS ls (lv_sub hl [0, 3, 4, 5, 6, 7, 8] rfl)
              · refine lv_goto (tgt := 218) hx hb dX4_pairsFrom_163 (by decide) ?_
                refine n_iinc (k := 2) (lv' := [(6, .int (nI (q + 1))), (8, .int (nI q)), (7, .int (nI p)), (5, .int (nI 0)), (0, .ref h), (1, .int (nI p)), (2, .int tk), (3, .int lf), (4, .int v)]) hx hb q 1 dX4_pairsFrom_218 hl rfl (Nat.le_of_ble_eq_true rfl) rfl (fun ls hl => ?_)
                refine lv_goto (tgt := 102) hx hb dX4_pairsFrom_221 (by decide) ?_
                have e_43 : (mO ad (upd iv 11 ((pfQ (pf r N f (p + 1)) r p tk lf v 0 (pfT (pf r N f (p + 1)) r N p tk lf v (bo, bb, wb) 0) (q + 1)).1)) : va_E) = mO ad (upd iv 11 ((pfQ (pf r N f (p + 1)) r p tk lf v 0 (pfT (pf r N f (p + 1)) r N p tk lf v (bo, bb, wb) 0) q).1)) := by rw [pfQ, if_pos (by omega)]; simp [pfS, bitI, c_16, zc_17, c_32, c_33, c_37]
                have e_44 : (iA G 8 ((pfQ (pf r N f (p + 1)) r p tk lf v 0 (pfT (pf r N f (p + 1)) r N p tk lf v (bo, bb, wb) 0) (q + 1)).2.2) : va_E) = iA G 8 ((pfQ (pf r N f (p + 1)) r p tk lf v 0 (pfT (pf r N f (p + 1)) r N p tk lf v (bo, bb, wb) 0) q).2.2) := by rw [pfQ, if_pos (by omega)]; simp [pfS, bitI, c_16, zc_17, c_32, c_33, c_37]
                have e_45 : (iA G 8 ((pfQ (pf r N f (p + 1)) r p tk lf v 0 (pfT (pf r N f (p + 1)) r N p tk lf v (bo, bb, wb) 0) (q + 1)).2.1) : va_E) = iA G 8 ((pfQ (pf r N f (p + 1)) r p tk lf v 0 (pfT (pf r N f (p + 1)) r N p tk lf v (bo, bb, wb) 0) q).2.1) := by rw [pfQ, if_pos (by omega)]; simp [pfS, bitI, c_16, zc_17, c_32, c_33, c_37]
                exact ih_11 (q + 1) (by omega) (by omega) _ _ (by rw [e_43, e_44, e_45]; exact hP.sub [0, 1, 2, 3] rfl) (by rw [e_43, e_44, e_45]; exact hD.sub [0, 1, 2, 3] (by decide) rfl) hS ls (lv_sub hl [0, 3, 4, 5, 6, 7, 8] rfl)
  · refine lv_aload_n hx hb dX4_pairsFrom_72 rfl (lv_at hl 0 rfl) ?_
    refine lv_iload_n hx hb dX4_pairsFrom_73 rfl (lv_at hl 1 rfl) ?_
    refine lv_iconst (v := 1) hx hb dX4_pairsFrom_74 (by decide) ?_
    refine n_iadd hx hb p 1 dX4_pairsFrom_75 ?_
    refine lv_iload_n hx hb dX4_pairsFrom_76 rfl (lv_at hl 2 rfl) ?_
    refine lv_iload_n hx hb dX4_pairsFrom_77 rfl (lv_at hl 3 rfl) ?_
    refine lv_iload hx hb dX4_pairsFrom_78 (lv_at hl 4 rfl) ?_
    refine c_VWv (wr := []) (rest := []) C (ih l G h ad iv r N (p + 1) tk lf v bo bb wb (by omega) (hr) (by omega)) 4 (lw_V q1271 q1273 qs31 q42 q1274) (by decide +kernel) ⟨rfl, rfl⟩ ⟨(by dsimp only; omega), (by dsimp only; omega)⟩ (KM_mv G) hK (va_recv hK hP (ci := 0) (q0 := 0) rfl rfl) hA hP hD hS [0, 1, 2, 3] [] rfl rfl rfl rfl (by decide) hl rfl rfl (Nat.le_of_ble_eq_true rfl) ⟨(Nat.le_of_ble_eq_true rfl), (Nat.le_of_ble_eq_true rfl)⟩ dX4_pairsFrom_80 (fun w1 H locs hq_47 hP hD hS => ?_)
    obtain rfl := hq_47
    have hP : PP G [(h, mO ad (upd iv 11 ((pf r N f (p + 1) tk lf v (bo, bb, wb)).1))), (ad 0, iA G 57 r), (ad 9, iA G 8 ((pf r N f (p + 1) tk lf v (bo, bb, wb)).2.2)), (ad 10, iA G 8 ((pf r N f (p + 1) tk lf v (bo, bb, wb)).2.1))] H := hP
    have hD : va_D A [(h, mO ad (upd iv 11 ((pf r N f (p + 1) tk lf v (bo, bb, wb)).1))), (ad 0, iA G 57 r), (ad 9, iA G 8 ((pf r N f (p + 1) tk lf v (bo, bb, wb)).2.2)), (ad 10, iA G 8 ((pf r N f (p + 1) tk lf v (bo, bb, wb)).2.1))] := hD
    exact n_vretW (w1 := [(h, mO ad (upd iv 11 ((pf r N f (p + 1) tk lf v (bo, bb, wb)).1))), (ad 0, iA G 57 r), (ad 9, iA G 8 ((pf r N f (p + 1) tk lf v (bo, bb, wb)).2.2)), (ad 10, iA G 8 ((pf r N f (p + 1) tk lf v (bo, bb, wb)).2.1))]) C (by first | (simp [pf, bitI, c_1, c_2]; done) | (rw [pf, if_neg (by assumption), pfT_0 _ _ _ _ _ _ _ _ (by assumption), pfT_0 _ _ _ _ _ _ _ _ (by assumption)])) hP hD hS (by first | omega | decide) (by first | omega | decide) dX4_pairsFrom_83

theorem pfc_s' (f : Nat) (ih : PFC f) : PFC (f + 1) := fun l G => pfc_s l G f ih
theorem pfc : ∀ f, PFC f := by
  intro f
  induction f with
  | zero => exact pfc_0
  | succ f ih => exact pfc_s' f ih