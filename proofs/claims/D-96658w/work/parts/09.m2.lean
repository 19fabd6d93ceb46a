set_option maxHeartbeats 4000000 in
set_option maxRecDepth 100000 in
theorem metX4_bestJoys (l : Launch) (G : GG) (a : Nat) (r : Nat → Int32) (N : Nat) (hN : N ≤ 9) (hr : r 0 = nI N) : MR l yX4_bestJoys cX4_bestJoys 2 (some .int) ({ frames := 5, cells := 0, slots := 0, locals := 110 }) [.ref a] [(a, iA G 57 r)] G (KM G) (sBJ r N) := by
  -- rows printed by wip/tools/gen.py
  refine mr_mk RX4 (by decide) rfl (Nat.le_of_ble_eq_true rfl) ?_
  intro p0_ e0_ s m args below meth c C hP hK ls hl
  have hx := C.1
  have hb := C.2.1
  have hml := C.2.2.2.2.1
  have hown := C.2.2.2.2.2.1
  have hts := C.2.2.2.2.2.2
  have hl : lv_has ls 2 [(0, .ref a)] := hl
  refine lv_aload_n hx hb dX4_bestJoys_0 rfl (lv_at hl 0 rfl) ?_
  refine c_S (rest := []) C (metX4_bestIn l G a r N (by omega) (hr)) 1 (lw_S q1253 q1254 q42 q1255) (by decide +kernel) ⟨rfl, rfl⟩ ⟨(Nat.le_of_ble_eq_true rfl), (Nat.le_of_ble_eq_true rfl)⟩ (KM_mv G) hP hK hl rfl rfl (Nat.le_of_ble_eq_true rfl) ⟨(Nat.le_of_ble_eq_true rfl), (Nat.le_of_ble_eq_true rfl)⟩ dX4_bestJoys_1 ?_
  rcases ho_1 : sBestO r N with _ | qo_1
  · have eo_1 : sBest r N = -4 := by rw [sBest, ho_1]; rfl
    refine n_eqi eo_1 ?_
    refine lv_istore_n (lv' := [(1, .int (-4)), (0, .ref a)]) hx hb dX4_bestJoys_4 rfl hl (Nat.le_of_ble_eq_true rfl) rfl (fun ls hl => ?_)
    refine lv_iload_n hx hb dX4_bestJoys_5 rfl (lv_at hl 0 rfl) ?_
    refine lv_if_ge (x := (-4)) (tgt := 13) hx hb dX4_bestJoys_6 (by decide) (fun c_2 => absurd c_2 (by decide)) (fun c_2 => ?_)
    refine lv_iconst (v := 0) hx hb dX4_bestJoys_9 (by decide) ?_
    refine lv_goto (tgt := 25) hx hb dX4_bestJoys_10 (by decide) ?_
    exact n_iret (v := 0) C (by simp [sBJ, ho_1, eo_1, c_2]) dX4_bestJoys_25
  · have eo_1 : sBest r N = nI (10 * qo_1.1 + qo_1.2) := by rw [sBest, ho_1]; rfl
    have go_1 := sBestO_in ho_1
    have uo_1 : (10 * qo_1.1 + qo_1.2) / 10 = qo_1.1 := by omega
    have vo_1 : (10 * qo_1.1 + qo_1.2) % 10 = qo_1.2 := by omega
    refine n_eqi eo_1 ?_
    refine lv_istore_n (lv' := [(1, .int (nI (10 * qo_1.1 + qo_1.2))), (0, .ref a)]) hx hb dX4_bestJoys_4 rfl hl (Nat.le_of_ble_eq_true rfl) rfl (fun ls hl => ?_)
    refine lv_iload_n hx hb dX4_bestJoys_5 rfl (lv_at hl 0 rfl) ?_
    refine n_if_ge (x := 10 * qo_1.1 + qo_1.2) (tgt := 13) hx hb (by omega) dX4_bestJoys_6 (by decide) ?_
    refine lv_aload_n hx hb dX4_bestJoys_13 rfl (lv_at hl 1 rfl) ?_
    refine lv_iload_n hx hb dX4_bestJoys_14 rfl (lv_at hl 0 rfl) ?_
    refine lv_bipush (v := 10) hx hb dX4_bestJoys_15 (by decide) ?_
    refine n_idiv hx hb (10 * qo_1.1 + qo_1.2) 10 (by omega) (by omega) (by omega) dX4_bestJoys_17 ?_
    refine n_eqi (congrArg nI (show (10 * qo_1.1 + qo_1.2) / 10 = qo_1.1 from uo_1)) ?_
    refine lv_iload_n hx hb dX4_bestJoys_18 rfl (lv_at hl 0 rfl) ?_
    refine lv_bipush (v := 10) hx hb dX4_bestJoys_19 (by decide) ?_
    refine n_irem hx hb (10 * qo_1.1 + qo_1.2) 10 (by omega) (by omega) (by omega) dX4_bestJoys_21 ?_
    refine n_eqi (congrArg nI (show (10 * qo_1.1 + qo_1.2) % 10 = qo_1.2 from vo_1)) ?_
    refine c_S (rest := []) C (metX4_joysOf l G a r qo_1.1 qo_1.2 (by omega) (by omega)) 3 (lw_S q1186 q1187 q42 q1188) (by decide +kernel) ⟨rfl, rfl⟩ ⟨(Nat.le_of_ble_eq_true rfl), (Nat.le_of_ble_eq_true rfl)⟩ (KM_mv G) hP hK hl rfl rfl (Nat.le_of_ble_eq_true rfl) ⟨(Nat.le_of_ble_eq_true rfl), (Nat.le_of_ble_eq_true rfl)⟩ dX4_bestJoys_22 ?_
    exact n_iret (v := sJoy r qo_1.1 qo_1.2) C (by simp [sBJ, ho_1, eo_1]) dX4_bestJoys_25

set_option maxHeartbeats 4000000 in
set_option maxRecDepth 100000 in
theorem metX4_copies (l : Launch) (G : GG) (a b : Nat) (f g : Nat → Int32) : MWv l yX4_copies cX4_copies 3 none ({ frames := 0, cells := 0, slots := 0, locals := 0 }) [.ref a, .ref b] [(a, iA G 57 f), (b, iA G 57 g)] G (KM G) 0 0 (fun w1 => w1 = [(a, iA G 57 f), (b, iA G 57 f)]) := by
  -- rows printed by wip/tools/gen.py
  refine mwv_mk RX4 (by decide) rfl (Nat.le_of_ble_eq_true rfl) ?_
  intro p0_ e0_ s m args below meth c A C hname hA hP hK hD ls hl
  have hx := C.1
  have hb := C.2.1
  have hml := C.2.2.2.2.1
  have hown := C.2.2.2.2.2.1
  have hts := C.2.2.2.2.2.2
  have hS : va_S A s.heap s.heap [] := va_S.rf
  have hl : lv_has ls 3 [(0, .ref a), (1, .ref b)] := hl
  refine lv_iconst (v := 0) hx hb dX4_copies_0 (by decide) ?_
  refine lv_istore_n (lv' := [(2, .int 0), (0, .ref a), (1, .ref b)]) hx hb dX4_copies_1 rfl hl (Nat.le_of_ble_eq_true rfl) rfl (fun ls hl => ?_)
  suffices hlp_1 : (∀ (n i : Nat), i + n = 57 → ∀ (H : Heap) (locs : List Loc), PP G [(a, iA G 57 f), (b, iA G 57 (cpf f g i))] H → va_D A [(a, iA G 57 f), (b, iA G 57 (cpf f g i))] → va_S A s.heap H locs → ∀ (ls : Array Slot), lv_has ls 3 [(2, .int (nI i)), (0, .ref a), (1, .ref b)] → W p0_ l e0_ ({ frames := 0, cells := 0, slots := 0, locals := 0 } : Room) s m args below meth c H locs (0) (0) (MQ below (va_Qv (S := va_W) (fun w1 => w1 = [(a, iA G 57 f), (b, iA G 57 f)]) (fun w1 t => PP G w1 t.heap ∧ va_D A w1) A) args s 0 0 A) (F0 m 2 ls [])) by
    exact hlp_1 (57) 0 (by omega) _ _ (hP.sub [0, 1] (by rw [cpf_0]; rfl)) (hD.sub [0, 1] (by decide) (by rw [cpf_0]; rfl)) hS ls (lv_sub hl [0, 1, 2] rfl)
  have hend_1 : ∀ (H : Heap) (locs : List Loc), PP G [(a, iA G 57 f), (b, iA G 57 (cpf f g 57))] H → va_D A [(a, iA G 57 f), (b, iA G 57 (cpf f g 57))] → va_S A s.heap H locs → ∀ (ls : Array Slot), lv_has ls 3 [(2, .int (nI 57)), (0, .ref a), (1, .ref b)] → W p0_ l e0_ ({ frames := 0, cells := 0, slots := 0, locals := 0 } : Room) s m args below meth c H locs (0) (0) (MQ below (va_Qv (S := va_W) (fun w1 => w1 = [(a, iA G 57 f), (b, iA G 57 f)]) (fun w1 t => PP G w1 t.heap ∧ va_D A w1) A) args s 0 0 A) (F0 m 2 ls []) := by
    intro H locs hP hD hS ls hl
    refine lv_iload_n hx hb dX4_copies_2 rfl (lv_at hl 0 rfl) ?_
    refine lv_bipush (v := 57) hx hb dX4_copies_3 (by decide) ?_
    refine n_ic_ge (x := 57) (y := 57) (tgt := 20) hx hb (by omega) (by omega) dX4_copies_5 (by decide) (fun c_2 => ?_) (fun c_2 => absurd c_2 (by omega))
    have hP := pp_ext hP 1 rfl (fun j hj => cpf_lt (f := f) (g := g) hj)
    have hD : va_D A [(a, iA G 57 f), (b, iA G 57 f)] := hD.set (p := 1) (e := iA G 57 f) rfl
    have hP : PP G [(a, iA G 57 f), (b, iA G 57 f)] H := hP
    have hD : va_D A [(a, iA G 57 f), (b, iA G 57 f)] := hD
    exact n_vretW (w1 := [(a, iA G 57 f), (b, iA G 57 f)]) C (rfl) hP hD hS (by first | omega | decide) (by first | omega | decide) dX4_copies_20
  intro n
  induction n with
  | zero =>
    intro i hi_1 H locs hP hD hS ls hl
    obtain e_1 : i = 57 := by omega
    first | (subst e_1; exact hend_1 H locs hP hD hS ls hl) | (rw [e_1] at hl hP hD; exact hend_1 H locs hP hD hS ls hl)
  | succ n ih_1 =>
    intro i hi_1 H locs hP hD hS ls hl
    refine lv_iload_n hx hb dX4_copies_2 rfl (lv_at hl 0 rfl) ?_
    refine lv_bipush (v := 57) hx hb dX4_copies_3 (by decide) ?_
    refine n_ic_ge (x := i) (y := 57) (tgt := 20) hx hb (by omega) (by omega) dX4_copies_5 (by decide) (fun c_3 => absurd c_3 (by omega)) (fun c_3 => ?_)
    refine lv_aload_n hx hb dX4_copies_8 rfl (lv_at hl 2 rfl) ?_
    refine lv_iload_n hx hb dX4_copies_9 rfl (lv_at hl 0 rfl) ?_
    refine lv_aload_n hx hb dX4_copies_10 rfl (lv_at hl 1 rfl) ?_
    refine lv_iload_n hx hb dX4_copies_11 rfl (lv_at hl 0 rfl) ?_
    refine n_iald C hK hP 0 i rfl (by omega) (by omega) dX4_copies_12 ?_
    refine n_iast (x := f i) C hK hP hD hS 1 i rfl (by omega) (by omega) dX4_copies_13 (fun H locs hP hD hS => ?_)
    have hP : PP G [(a, iA G 57 f), (b, iA G 57 (upd (cpf f g i) i (f i)))] H := hP
    have hD : va_D A [(a, iA G 57 f), (b, iA G 57 (upd (cpf f g i) i (f i)))] := hD
    refine n_iinc (k := 0) (lv' := [(2, .int (nI (i + 1))), (0, .ref a), (1, .ref b)]) hx hb i 1 dX4_copies_14 hl rfl (Nat.le_of_ble_eq_true rfl) rfl (fun ls hl => ?_)
    refine lv_goto (tgt := 2) hx hb dX4_copies_17 (by decide) ?_
    have e_4 : (iA G 57 (cpf f g (i + 1)) : va_E) = iA G 57 (upd (cpf f g i) i (f i)) := by rw [cpf_s]
    exact ih_1 (i + 1) (by omega) _ _ (by rw [e_4]; exact hP.sub [0, 1] rfl) (by rw [e_4]; exact hD.sub [0, 1] (by decide) rfl) hS ls (lv_sub hl [0, 1, 2] rfl)

set_option maxHeartbeats 4000000 in
set_option maxRecDepth 100000 in
theorem metX4_turn (l : Launch) (G : GG) (a : Nat) (r : Nat → Int32) (p q : Nat) (hp : p < 9) (hq : q < 9) : MW l yX4_turn cX4_turn 4 (some .int) ({ frames := 4, cells := 0, slots := 0, locals := 86 }) [.ref a, .int (nI p), .int (nI q)] [(a, iA G 57 r)] G (KM G) 0 0 (fun rv w1 => rv = sJoy r p q ∧ w1 = [(a, iA G 57 (sTurn r p q))]) := by
  -- rows printed by wip/tools/gen.py
  refine mw_mk RX4 (by decide) rfl (Nat.le_of_ble_eq_true rfl) ?_
  intro p0_ e0_ s m args below meth c A C hA hP hK hD ls hl
  have hx := C.1
  have hb := C.2.1
  have hml := C.2.2.2.2.1
  have hown := C.2.2.2.2.2.1
  have hts := C.2.2.2.2.2.2
  have hS : va_S A s.heap s.heap [] := va_S.rf
  have hl : lv_has ls 4 [(0, .ref a), (1, .int (nI p)), (2, .int (nI q))] := hl
  refine lv_aload_n hx hb dX4_turn_0 rfl (lv_at hl 0 rfl) ?_
  refine lv_iload_n hx hb dX4_turn_1 rfl (lv_at hl 1 rfl) ?_
  refine lv_iload_n hx hb dX4_turn_2 rfl (lv_at hl 2 rfl) ?_
  refine c_S (rest := []) C (metX4_joysOf l G a r p q (by omega) (by omega)) 3 (lw_S q1186 q1187 q42 q1188) (by decide +kernel) ⟨rfl, rfl⟩ ⟨(Nat.le_of_ble_eq_true rfl), (Nat.le_of_ble_eq_true rfl)⟩ (KM_mv G) hP hK hl rfl rfl (Nat.le_of_ble_eq_true rfl) ⟨(Nat.le_of_ble_eq_true rfl), (Nat.le_of_ble_eq_true rfl)⟩ dX4_turn_3 ?_
  refine lv_istore_n (lv' := [(3, .int (sJoy r p q)), (0, .ref a), (1, .int (nI p)), (2, .int (nI q))]) hx hb dX4_turn_6 rfl hl (Nat.le_of_ble_eq_true rfl) rfl (fun ls hl => ?_)
  refine lv_aload_n hx hb dX4_turn_7 rfl (lv_at hl 1 rfl) ?_
  refine lv_iload_n hx hb dX4_turn_8 rfl (lv_at hl 2 rfl) ?_
  refine lv_iconst (v := 2) hx hb dX4_turn_9 (by decide) ?_
  refine c_S (rest := [.ref a]) C (metX4_of l G p 2) 2 (lw_S q1170 q1171 q42 q1172) (by decide +kernel) ⟨rfl, rfl⟩ ⟨(Nat.le_of_ble_eq_true rfl), (Nat.le_of_ble_eq_true rfl)⟩ (KM_mv G) (hP.sub (ws' := []) [] rfl) hK hl rfl rfl (Nat.le_of_ble_eq_true rfl) ⟨(Nat.le_of_ble_eq_true rfl), (Nat.le_of_ble_eq_true rfl)⟩ dX4_turn_10 ?_
  refine lv_dup2_11 hx hb dX4_turn_13 rfl rfl ?_
  refine n_iald C hK hP 0 (3 + 6 * p + 2) rfl (by omega) (by omega) dX4_turn_14 ?_
  refine lv_aload_n hx hb dX4_turn_15 rfl (lv_at hl 1 rfl) ?_
  refine lv_iload_n hx hb dX4_turn_16 rfl (lv_at hl 2 rfl) ?_
  refine c_S (rest := [.int (r (3 + 6 * p + 2)), .int (nI (3 + 6 * p + 2)), .ref a]) C (metX4_bites l G a r p (by omega)) 2 (lw_S q1192 q1193 q42 q1194) (by decide +kernel) ⟨rfl, rfl⟩ ⟨(Nat.le_of_ble_eq_true rfl), (Nat.le_of_ble_eq_true rfl)⟩ (KM_mv G) hP hK hl rfl rfl (Nat.le_of_ble_eq_true rfl) ⟨(Nat.le_of_ble_eq_true rfl), (Nat.le_of_ble_eq_true rfl)⟩ dX4_turn_17 ?_
  refine lv_isub (x := r (3 + 6 * p + 2)) (y := sBites r p) hx hb dX4_turn_20 ?_
  refine n_iast (x := (r (3 + 6 * p + 2)) - (sBites r p)) C hK hP hD hS 0 (3 + 6 * p + 2) rfl (by omega) (by omega) dX4_turn_21 (fun H locs hP hD hS => ?_)
  have hP : PP G [(a, iA G 57 (sT1 r p))] H := hP
  have hD : va_D A [(a, iA G 57 (sT1 r p))] := hD
  refine lv_aload_n hx hb dX4_turn_22 rfl (lv_at hl 1 rfl) ?_
  refine lv_iload_n hx hb dX4_turn_23 rfl (lv_at hl 3 rfl) ?_
  refine lv_iconst (v := 3) hx hb dX4_turn_24 (by decide) ?_
  refine c_S (rest := [.ref a]) C (metX4_of l G q 3) 2 (lw_S q1170 q1171 q42 q1172) (by decide +kernel) ⟨rfl, rfl⟩ ⟨(Nat.le_of_ble_eq_true rfl), (Nat.le_of_ble_eq_true rfl)⟩ (KM_mv G) (hP.sub (ws' := []) [] rfl) hK hl rfl rfl (Nat.le_of_ble_eq_true rfl) ⟨(Nat.le_of_ble_eq_true rfl), (Nat.le_of_ble_eq_true rfl)⟩ dX4_turn_25 ?_
  refine lv_dup2_11 hx hb dX4_turn_28 rfl rfl ?_
  refine n_iald C hK hP 0 (3 + 6 * q + 3) rfl (by omega) (by omega) dX4_turn_29 ?_
  refine lv_aload_n hx hb dX4_turn_30 rfl (lv_at hl 1 rfl) ?_
  refine lv_iload_n hx hb dX4_turn_31 rfl (lv_at hl 3 rfl) ?_
  refine c_S (rest := [.int ((sT1 r p) (3 + 6 * q + 3)), .int (nI (3 + 6 * q + 3)), .ref a]) C (metX4_gazes l G a (sT1 r p) q (by omega)) 2 (lw_S q1207 q1208 q42 q1209) (by decide +kernel) ⟨rfl, rfl⟩ ⟨(Nat.le_of_ble_eq_true rfl), (Nat.le_of_ble_eq_true rfl)⟩ (KM_mv G) hP hK hl rfl rfl (Nat.le_of_ble_eq_true rfl) ⟨(Nat.le_of_ble_eq_true rfl), (Nat.le_of_ble_eq_true rfl)⟩ dX4_turn_32 ?_
  refine lv_isub (x := (sT1 r p) (3 + 6 * q + 3)) (y := sGazes (sT1 r p) q) hx hb dX4_turn_35 ?_
  refine n_iast (x := ((sT1 r p) (3 + 6 * q + 3)) - (sGazes (sT1 r p) q)) C hK hP hD hS 0 (3 + 6 * q + 3) rfl (by omega) (by omega) dX4_turn_36 (fun H locs hP hD hS => ?_)
  have hP : PP G [(a, iA G 57 (sT2 r p q))] H := hP
  have hD : va_D A [(a, iA G 57 (sT2 r p q))] := hD
  refine lv_aload_n hx hb dX4_turn_37 rfl (lv_at hl 1 rfl) ?_
  refine lv_iload_n hx hb dX4_turn_38 rfl (lv_at hl 2 rfl) ?_
  refine lv_iconst (v := 4) hx hb dX4_turn_39 (by decide) ?_
  refine c_S (rest := [.ref a]) C (metX4_of l G p 4) 2 (lw_S q1170 q1171 q42 q1172) (by decide +kernel) ⟨rfl, rfl⟩ ⟨(Nat.le_of_ble_eq_true rfl), (Nat.le_of_ble_eq_true rfl)⟩ (KM_mv G) (hP.sub (ws' := []) [] rfl) hK hl rfl rfl (Nat.le_of_ble_eq_true rfl) ⟨(Nat.le_of_ble_eq_true rfl), (Nat.le_of_ble_eq_true rfl)⟩ dX4_turn_40 ?_
  refine lv_bipush (v := 99) hx hb dX4_turn_43 (by decide) ?_
  refine lv_aload_n hx hb dX4_turn_45 rfl (lv_at hl 1 rfl) ?_
  refine lv_iload_n hx hb dX4_turn_46 rfl (lv_at hl 2 rfl) ?_
  refine lv_iconst (v := 4) hx hb dX4_turn_47 (by decide) ?_
  refine c_S (rest := [.ref a, .int 99, .int (nI (3 + 6 * p + 4)), .ref a]) C (metX4_of l G p 4) 2 (lw_S q1170 q1171 q42 q1172) (by decide +kernel) ⟨rfl, rfl⟩ ⟨(Nat.le_of_ble_eq_true rfl), (Nat.le_of_ble_eq_true rfl)⟩ (KM_mv G) (hP.sub (ws' := []) [] rfl) hK hl rfl rfl (Nat.le_of_ble_eq_true rfl) ⟨(Nat.le_of_ble_eq_true rfl), (Nat.le_of_ble_eq_true rfl)⟩ dX4_turn_48 ?_
  refine n_iald C hK hP 0 (3 + 6 * p + 4) rfl (by omega) (by omega) dX4_turn_51 ?_
  refine lv_iconst (v := 1) hx hb dX4_turn_52 (by decide) ?_
  refine lv_iadd (x := (sT2 r p q) (3 + 6 * p + 4)) (y := 1) hx hb dX4_turn_53 ?_
  refine c_S (rest := [.int (nI (3 + 6 * p + 4)), .ref a]) C (metX4_least l G 99 (((sT2 r p q) (3 + 6 * p + 4)) + 1)) 2 (lw_S q1198 q1199 q42 q1200) (by decide +kernel) ⟨rfl, rfl⟩ ⟨(Nat.le_of_ble_eq_true rfl), (Nat.le_of_ble_eq_true rfl)⟩ (KM_mv G) (hP.sub (ws' := []) [] rfl) hK hl rfl rfl (Nat.le_of_ble_eq_true rfl) ⟨(Nat.le_of_ble_eq_true rfl), (Nat.le_of_ble_eq_true rfl)⟩ dX4_turn_54 ?_
  refine n_iast (x := mn 99 (((sT2 r p q) (3 + 6 * p + 4)) + 1)) C hK hP hD hS 0 (3 + 6 * p + 4) rfl (by omega) (by omega) dX4_turn_57 (fun H locs hP hD hS => ?_)
  have hP : PP G [(a, iA G 57 (sT3 r p q))] H := hP
  have hD : va_D A [(a, iA G 57 (sT3 r p q))] := hD
  refine lv_aload_n hx hb dX4_turn_58 rfl (lv_at hl 1 rfl) ?_
  refine lv_iload_n hx hb dX4_turn_59 rfl (lv_at hl 3 rfl) ?_
  refine lv_iconst (v := 5) hx hb dX4_turn_60 (by decide) ?_
  refine c_S (rest := [.ref a]) C (metX4_of l G q 5) 2 (lw_S q1170 q1171 q42 q1172) (by decide +kernel) ⟨rfl, rfl⟩ ⟨(Nat.le_of_ble_eq_true rfl), (Nat.le_of_ble_eq_true rfl)⟩ (KM_mv G) (hP.sub (ws' := []) [] rfl) hK hl rfl rfl (Nat.le_of_ble_eq_true rfl) ⟨(Nat.le_of_ble_eq_true rfl), (Nat.le_of_ble_eq_true rfl)⟩ dX4_turn_61 ?_
  refine lv_bipush (v := 99) hx hb dX4_turn_64 (by decide) ?_
  refine lv_aload_n hx hb dX4_turn_66 rfl (lv_at hl 1 rfl) ?_
  refine lv_iload_n hx hb dX4_turn_67 rfl (lv_at hl 3 rfl) ?_
  refine lv_iconst (v := 5) hx hb dX4_turn_68 (by decide) ?_
  refine c_S (rest := [.ref a, .int 99, .int (nI (3 + 6 * q + 5)), .ref a]) C (metX4_of l G q 5) 2 (lw_S q1170 q1171 q42 q1172) (by decide +kernel) ⟨rfl, rfl⟩ ⟨(Nat.le_of_ble_eq_true rfl), (Nat.le_of_ble_eq_true rfl)⟩ (KM_mv G) (hP.sub (ws' := []) [] rfl) hK hl rfl rfl (Nat.le_of_ble_eq_true rfl) ⟨(Nat.le_of_ble_eq_true rfl), (Nat.le_of_ble_eq_true rfl)⟩ dX4_turn_69 ?_
  refine n_iald C hK hP 0 (3 + 6 * q + 5) rfl (by omega) (by omega) dX4_turn_72 ?_
  refine lv_iconst (v := 1) hx hb dX4_turn_73 (by decide) ?_
  refine lv_iadd (x := (sT3 r p q) (3 + 6 * q + 5)) (y := 1) hx hb dX4_turn_74 ?_
  refine c_S (rest := [.int (nI (3 + 6 * q + 5)), .ref a]) C (metX4_least l G 99 (((sT3 r p q) (3 + 6 * q + 5)) + 1)) 2 (lw_S q1198 q1199 q42 q1200) (by decide +kernel) ⟨rfl, rfl⟩ ⟨(Nat.le_of_ble_eq_true rfl), (Nat.le_of_ble_eq_true rfl)⟩ (KM_mv G) (hP.sub (ws' := []) [] rfl) hK hl rfl rfl (Nat.le_of_ble_eq_true rfl) ⟨(Nat.le_of_ble_eq_true rfl), (Nat.le_of_ble_eq_true rfl)⟩ dX4_turn_75 ?_
  refine n_iast (x := mn 99 (((sT3 r p q) (3 + 6 * q + 5)) + 1)) C hK hP hD hS 0 (3 + 6 * q + 5) rfl (by omega) (by omega) dX4_turn_78 (fun H locs hP hD hS => ?_)
  have hP : PP G [(a, iA G 57 (sT4 r p q))] H := hP
  have hD : va_D A [(a, iA G 57 (sT4 r p q))] := hD
  refine lv_aload_n hx hb dX4_turn_79 rfl (lv_at hl 1 rfl) ?_
  refine lv_iconst (v := 1) hx hb dX4_turn_80 (by decide) ?_
  refine lv_dup2_11 hx hb dX4_turn_81 rfl rfl ?_
  refine n_iald C hK hP 0 1 rfl (by omega) (by omega) dX4_turn_82 ?_
  refine lv_iconst (v := 1) hx hb dX4_turn_83 (by decide) ?_
  refine lv_isub (x := (sT4 r p q) 1) (y := 1) hx hb dX4_turn_84 ?_
  refine n_iast (x := ((sT4 r p q) 1) - 1) C hK hP hD hS 0 1 rfl (by omega) (by omega) dX4_turn_85 (fun H locs hP hD hS => ?_)
  have hP : PP G [(a, iA G 57 (sT5 r p q))] H := hP
  have hD : va_D A [(a, iA G 57 (sT5 r p q))] := hD
  refine lv_aload_n hx hb dX4_turn_86 rfl (lv_at hl 1 rfl) ?_
  refine lv_iconst (v := 2) hx hb dX4_turn_87 (by decide) ?_
  refine lv_dup2_11 hx hb dX4_turn_88 rfl rfl ?_
  refine n_iald C hK hP 0 2 rfl (by omega) (by omega) dX4_turn_89 ?_
  refine lv_iconst (v := 1) hx hb dX4_turn_90 (by decide) ?_
  refine lv_iadd (x := (sT5 r p q) 2) (y := 1) hx hb dX4_turn_91 ?_
  refine n_iast (x := ((sT5 r p q) 2) + 1) C hK hP hD hS 0 2 rfl (by omega) (by omega) dX4_turn_92 (fun H locs hP hD hS => ?_)
  have hP : PP G [(a, iA G 57 (sTurn r p q))] H := hP
  have hD : va_D A [(a, iA G 57 (sTurn r p q))] := hD
  refine lv_iload_n hx hb dX4_turn_93 rfl (lv_at hl 0 rfl) ?_
  exact n_iretW (v := sJoy r p q) (w1 := [(a, iA G 57 (sTurn r p q))]) C (⟨rfl, rfl⟩) hP hD hS (by first | omega | decide) (by first | omega | decide) dX4_turn_94

set_option maxHeartbeats 4000000 in
set_option maxRecDepth 100000 in
theorem metX4_adds (l : Launch) (G : GG) (a : Nat) (r : Nat → Int32) (N : Nat) (k f u w : Int32) (hN : N ≤ 8) (hr : r 0 = nI N) : MWv l yX4_adds cX4_adds 6 none ({ frames := 1, cells := 0, slots := 0, locals := 21 }) [.ref a, .int k, .int f, .int u, .int w] [(a, iA G 57 r)] G (KM G) 0 0 (fun w1 => w1 = [(a, iA G 57 (sAdds r N k f u w))]) := by
  -- rows printed by wip/tools/gen.py
  refine mwv_mk RX4 (by decide) rfl (Nat.le_of_ble_eq_true rfl) ?_
  intro p0_ e0_ s m args below meth c A C hname hA hP hK hD ls hl
  have hx := C.1
  have hb := C.2.1
  have hml := C.2.2.2.2.1
  have hown := C.2.2.2.2.2.1
  have hts := C.2.2.2.2.2.2
  have hS : va_S A s.heap s.heap [] := va_S.rf
  have hl : lv_has ls 6 [(0, .ref a), (1, .int k), (2, .int f), (3, .int u), (4, .int w)] := hl
  refine lv_aload_n hx hb dX4_adds_0 rfl (lv_at hl 0 rfl) ?_
  refine lv_iconst (v := 0) hx hb dX4_adds_1 (by decide) ?_
  refine n_iald C hK hP 0 0 rfl (by omega) (by omega) dX4_adds_2 ?_
  refine n_eqi (hr) ?_
  refine lv_istore (lv' := [(5, .int (nI N)), (0, .ref a), (1, .int k), (2, .int f), (3, .int u), (4, .int w)]) hx hb dX4_adds_3 hl (Nat.le_of_ble_eq_true rfl) rfl (fun ls hl => ?_)
  refine lv_aload_n hx hb dX4_adds_5 rfl (lv_at hl 1 rfl) ?_
  refine lv_iload hx hb dX4_adds_6 (lv_at hl 0 rfl) ?_
  refine lv_iconst (v := 0) hx hb dX4_adds_8 (by decide) ?_
  refine c_S (rest := [.ref a]) C (metX4_of l G N 0) 2 (lw_S q1170 q1171 q42 q1172) (by decide +kernel) ⟨rfl, rfl⟩ ⟨(Nat.le_of_ble_eq_true rfl), (Nat.le_of_ble_eq_true rfl)⟩ (KM_mv G) (hP.sub (ws' := []) [] rfl) hK hl rfl rfl (Nat.le_of_ble_eq_true rfl) ⟨(Nat.le_of_ble_eq_true rfl), (Nat.le_of_ble_eq_true rfl)⟩ dX4_adds_9 ?_
  refine lv_iload_n hx hb dX4_adds_12 rfl (lv_at hl 2 rfl) ?_
  refine n_iast (x := k) C hK hP hD hS 0 (3 + 6 * N) rfl (by omega) (by omega) dX4_adds_13 (fun H locs hP hD hS => ?_)
  have hP : PP G [(a, iA G 57 (upd r (3 + 6 * N) k))] H := hP
  have hD : va_D A [(a, iA G 57 (upd r (3 + 6 * N) k))] := hD
  refine lv_aload_n hx hb dX4_adds_14 rfl (lv_at hl 1 rfl) ?_
  refine lv_iload hx hb dX4_adds_15 (lv_at hl 0 rfl) ?_
  refine lv_iconst (v := 1) hx hb dX4_adds_17 (by decide) ?_
  refine c_S (rest := [.ref a]) C (metX4_of l G N 1) 2 (lw_S q1170 q1171 q42 q1172) (by decide +kernel) ⟨rfl, rfl⟩ ⟨(Nat.le_of_ble_eq_true rfl), (Nat.le_of_ble_eq_true rfl)⟩ (KM_mv G) (hP.sub (ws' := []) [] rfl) hK hl rfl rfl (Nat.le_of_ble_eq_true rfl) ⟨(Nat.le_of_ble_eq_true rfl), (Nat.le_of_ble_eq_true rfl)⟩ dX4_adds_18 ?_
  refine lv_iload_n hx hb dX4_adds_21 rfl (lv_at hl 3 rfl) ?_
  refine n_iast (x := f) C hK hP hD hS 0 (3 + 6 * N + 1) rfl (by omega) (by omega) dX4_adds_22 (fun H locs hP hD hS => ?_)
  have hP : PP G [(a, iA G 57 (upd (upd r (3 + 6 * N) k) (3 + 6 * N + 1) f))] H := hP
  have hD : va_D A [(a, iA G 57 (upd (upd r (3 + 6 * N) k) (3 + 6 * N + 1) f))] := hD
  refine lv_aload_n hx hb dX4_adds_23 rfl (lv_at hl 1 rfl) ?_
  refine lv_iload hx hb dX4_adds_24 (lv_at hl 0 rfl) ?_
  refine lv_iconst (v := 2) hx hb dX4_adds_26 (by decide) ?_
  refine c_S (rest := [.ref a]) C (metX4_of l G N 2) 2 (lw_S q1170 q1171 q42 q1172) (by decide +kernel) ⟨rfl, rfl⟩ ⟨(Nat.le_of_ble_eq_true rfl), (Nat.le_of_ble_eq_true rfl)⟩ (KM_mv G) (hP.sub (ws' := []) [] rfl) hK hl rfl rfl (Nat.le_of_ble_eq_true rfl) ⟨(Nat.le_of_ble_eq_true rfl), (Nat.le_of_ble_eq_true rfl)⟩ dX4_adds_27 ?_
  refine lv_iload_n hx hb dX4_adds_30 rfl (lv_at hl 4 rfl) ?_
  refine n_iast (x := u) C hK hP hD hS 0 (3 + 6 * N + 2) rfl (by omega) (by omega) dX4_adds_31 (fun H locs hP hD hS => ?_)
  have hP : PP G [(a, iA G 57 (upd (upd (upd r (3 + 6 * N) k) (3 + 6 * N + 1) f) (3 + 6 * N + 2) u))] H := hP
  have hD : va_D A [(a, iA G 57 (upd (upd (upd r (3 + 6 * N) k) (3 + 6 * N + 1) f) (3 + 6 * N + 2) u))] := hD
  refine lv_aload_n hx hb dX4_adds_32 rfl (lv_at hl 1 rfl) ?_
  refine lv_iload hx hb dX4_adds_33 (lv_at hl 0 rfl) ?_
  refine lv_iconst (v := 3) hx hb dX4_adds_35 (by decide) ?_
  refine c_S (rest := [.ref a]) C (metX4_of l G N 3) 2 (lw_S q1170 q1171 q42 q1172) (by decide +kernel) ⟨rfl, rfl⟩ ⟨(Nat.le_of_ble_eq_true rfl), (Nat.le_of_ble_eq_true rfl)⟩ (KM_mv G) (hP.sub (ws' := []) [] rfl) hK hl rfl rfl (Nat.le_of_ble_eq_true rfl) ⟨(Nat.le_of_ble_eq_true rfl), (Nat.le_of_ble_eq_true rfl)⟩ dX4_adds_36 ?_
  refine lv_iload hx hb dX4_adds_39 (lv_at hl 5 rfl) ?_
  refine n_iast (x := w) C hK hP hD hS 0 (3 + 6 * N + 3) rfl (by omega) (by omega) dX4_adds_41 (fun H locs hP hD hS => ?_)
  have hP : PP G [(a, iA G 57 (upd (upd (upd (upd r (3 + 6 * N) k) (3 + 6 * N + 1) f) (3 + 6 * N + 2) u) (3 + 6 * N + 3) w))] H := hP
  have hD : va_D A [(a, iA G 57 (upd (upd (upd (upd r (3 + 6 * N) k) (3 + 6 * N + 1) f) (3 + 6 * N + 2) u) (3 + 6 * N + 3) w))] := hD
  refine lv_aload_n hx hb dX4_adds_42 rfl (lv_at hl 1 rfl) ?_
  refine lv_iload hx hb dX4_adds_43 (lv_at hl 0 rfl) ?_
  refine lv_iconst (v := 4) hx hb dX4_adds_45 (by decide) ?_
  refine c_S (rest := [.ref a]) C (metX4_of l G N 4) 2 (lw_S q1170 q1171 q42 q1172) (by decide +kernel) ⟨rfl, rfl⟩ ⟨(Nat.le_of_ble_eq_true rfl), (Nat.le_of_ble_eq_true rfl)⟩ (KM_mv G) (hP.sub (ws' := []) [] rfl) hK hl rfl rfl (Nat.le_of_ble_eq_true rfl) ⟨(Nat.le_of_ble_eq_true rfl), (Nat.le_of_ble_eq_true rfl)⟩ dX4_adds_46 ?_
  refine lv_iconst (v := 0) hx hb dX4_adds_49 (by decide) ?_
  refine n_iast (x := 0) C hK hP hD hS 0 (3 + 6 * N + 4) rfl (by omega) (by omega) dX4_adds_50 (fun H locs hP hD hS => ?_)
  have hP : PP G [(a, iA G 57 (upd (upd (upd (upd (upd r (3 + 6 * N) k) (3 + 6 * N + 1) f) (3 + 6 * N + 2) u) (3 + 6 * N + 3) w) (3 + 6 * N + 4) 0))] H := hP
  have hD : va_D A [(a, iA G 57 (upd (upd (upd (upd (upd r (3 + 6 * N) k) (3 + 6 * N + 1) f) (3 + 6 * N + 2) u) (3 + 6 * N + 3) w) (3 + 6 * N + 4) 0))] := hD
  refine lv_aload_n hx hb dX4_adds_51 rfl (lv_at hl 1 rfl) ?_
  refine lv_iload hx hb dX4_adds_52 (lv_at hl 0 rfl) ?_
  refine lv_iconst (v := 5) hx hb dX4_adds_54 (by decide) ?_
  refine c_S (rest := [.ref a]) C (metX4_of l G N 5) 2 (lw_S q1170 q1171 q42 q1172) (by decide +kernel) ⟨rfl, rfl⟩ ⟨(Nat.le_of_ble_eq_true rfl), (Nat.le_of_ble_eq_true rfl)⟩ (KM_mv G) (hP.sub (ws' := []) [] rfl) hK hl rfl rfl (Nat.le_of_ble_eq_true rfl) ⟨(Nat.le_of_ble_eq_true rfl), (Nat.le_of_ble_eq_true rfl)⟩ dX4_adds_55 ?_
  refine lv_iconst (v := 0) hx hb dX4_adds_58 (by decide) ?_
  refine n_iast (x := 0) C hK hP hD hS 0 (3 + 6 * N + 5) rfl (by omega) (by omega) dX4_adds_59 (fun H locs hP hD hS => ?_)
  have hP : PP G [(a, iA G 57 (sA6 r N k f u w))] H := hP
  have hD : va_D A [(a, iA G 57 (sA6 r N k f u w))] := hD
  refine lv_aload_n hx hb dX4_adds_60 rfl (lv_at hl 1 rfl) ?_
  refine lv_iconst (v := 0) hx hb dX4_adds_61 (by decide) ?_
  refine lv_dup2_11 hx hb dX4_adds_62 rfl rfl ?_
  refine n_iald C hK hP 0 0 rfl (by omega) (by omega) dX4_adds_63 ?_
  refine n_eqi ((sA6_0 _ _ _ _ _ _).trans hr) ?_
  refine lv_iconst (v := 1) hx hb dX4_adds_64 (by decide) ?_
  refine n_iadd hx hb N 1 dX4_adds_65 ?_
  refine n_iast (x := nI (N + 1)) C hK hP hD hS 0 0 rfl (by omega) (by omega) dX4_adds_66 (fun H locs hP hD hS => ?_)
  have hP : PP G [(a, iA G 57 (upd (sA6 r N k f u w) 0 (nI (N + 1))))] H := hP
  have hD : va_D A [(a, iA G 57 (upd (sA6 r N k f u w) 0 (nI (N + 1))))] := hD
  exact n_vretW (w1 := [(a, iA G 57 (upd (sA6 r N k f u w) 0 (nI (N + 1))))]) C (rfl) hP hD hS (by first | omega | decide) (by first | omega | decide) dX4_adds_67

set_option maxHeartbeats 4000000 in
set_option maxRecDepth 100000 in
theorem metX4_isPerson (l : Launch) (G : GG) (h : Nat) (ad : Nat → Nat) (iv : Nat → Int32) (r : Nat → Int32) (N : Nat) (p : Int32) (hr : r 0 = nI N) : MR l yX4_isPerson cX4_isPerson 2 (some .boolean) ({ frames := 1, cells := 0, slots := 0, locals := 22 }) [.ref h, .int p] [(h, mO ad iv), (ad 0, iA G 57 r)] G (KM G) (bI (sPer N p)) := by
  -- rows printed by wip/tools/gen.py
  refine mr_mk RX4 (by decide) rfl (Nat.le_of_ble_eq_true rfl) ?_
  intro p0_ e0_ s m args below meth c C hP hK ls hl
  have hx := C.1
  have hb := C.2.1
  have hml := C.2.2.2.2.1
  have hown := C.2.2.2.2.2.1
  have hts := C.2.2.2.2.2.2
  have hl : lv_has ls 2 [(0, .ref h), (1, .int p)] := hl
  refine lv_iload_n hx hb dX4_isPerson_0 rfl (lv_at hl 1 rfl) ?_
  refine lv_iconst (v := 0) hx hb dX4_isPerson_1 (by decide) ?_
  refine lv_aload_n hx hb dX4_isPerson_2 rfl (lv_at hl 0 rfl) ?_
  refine va_get (D := gD G) (ci := 0) (v := .ref (ad 0)) (C := RX4) (T := TX4) (N := 20) hx hb hts in_X4 hown hK hP 0 rfl rfl 0 (by decide) (hts _ q1073) (fun _ h9 => h9) rfl dX4_isPerson_3 ?_
  refine lv_iconst (v := 0) hx hb dX4_isPerson_6 (by decide) ?_
  refine n_iald C hK hP 1 0 rfl (by omega) (by omega) dX4_isPerson_7 ?_
  refine n_eqi (hr) ?_
  refine lv_iconst (v := 1) hx hb dX4_isPerson_8 (by decide) ?_
  refine lv_isub (x := nI N) (y := 1) hx hb dX4_isPerson_9 ?_
  refine c_S (rest := []) C (metX4_isIn l G p 0 ((nI N) - 1)) 3 (lw_S q1145 q1146 q42 q1147) (by decide +kernel) ⟨rfl, rfl⟩ ⟨(Nat.le_of_ble_eq_true rfl), (Nat.le_of_ble_eq_true rfl)⟩ (KM_mv G) (hP.sub (ws' := []) [] rfl) hK hl rfl rfl (Nat.le_of_ble_eq_true rfl) ⟨(Nat.le_of_ble_eq_true rfl), (Nat.le_of_ble_eq_true rfl)⟩ dX4_isPerson_10 ?_
  exact n_zret (v := (sIn p 0 ((nI N) - 1))) C (rfl) dX4_isPerson_13

set_option maxHeartbeats 4000000 in
set_option maxRecDepth 100000 in
theorem metX4_isShelf (l : Launch) (G : GG) (d : Int32) : MR l yX4_isShelf cX4_isShelf 1 (some .boolean) ({ frames := 1, cells := 0, slots := 0, locals := 22 }) [.int d] [] G (KM G) (bI (sIn d 0 7)) := by
  -- rows printed by wip/tools/gen.py
  refine mr_mk RX4 (by decide) rfl (Nat.le_of_ble_eq_true rfl) ?_
  intro p0_ e0_ s m args below meth c C hP hK ls hl
  have hx := C.1
  have hb := C.2.1
  have hml := C.2.2.2.2.1
  have hown := C.2.2.2.2.2.1
  have hts := C.2.2.2.2.2.2
  have hl : lv_has ls 1 [(0, .int d)] := hl
  refine lv_iload_n hx hb dX4_isShelf_0 rfl (lv_at hl 0 rfl) ?_
  refine lv_iconst (v := 0) hx hb dX4_isShelf_1 (by decide) ?_
  refine lv_bipush (v := 7) hx hb dX4_isShelf_2 (by decide) ?_
  refine c_S (rest := []) C (metX4_isIn l G d 0 7) 3 (lw_S q1145 q1146 q42 q1147) (by decide +kernel) ⟨rfl, rfl⟩ ⟨(Nat.le_of_ble_eq_true rfl), (Nat.le_of_ble_eq_true rfl)⟩ (KM_mv G) hP hK hl rfl rfl (Nat.le_of_ble_eq_true rfl) ⟨(Nat.le_of_ble_eq_true rfl), (Nat.le_of_ble_eq_true rfl)⟩ dX4_isShelf_4 ?_
  exact n_zret (v := (sIn d 0 7)) C (rfl) dX4_isShelf_7

set_option maxHeartbeats 4000000 in
set_option maxRecDepth 100000 in
theorem metX4_wrongRow (l : Launch) (G : GG) (h : Nat) (ad : Nat → Nat) (iv : Nat → Int32) (ke so : Nat → Int32) (d w : Int32) : MR l yX4_wrongRow cX4_wrongRow 3 (some .int) ({ frames := 2, cells := 0, slots := 0, locals := 42 }) [.ref h, .int d, .int w] [(h, mO ad iv), (ad 13, iA G 8 ke), (ad 16, iA G 8 so)] G (KM G) (sWR ke so d w) := by
  -- rows printed by wip/tools/gen.py
  refine mr_mk RX4 (by decide) rfl (Nat.le_of_ble_eq_true rfl) ?_
  intro p0_ e0_ s m args below meth c C hP hK ls hl
  have hx := C.1
  have hb := C.2.1
  have hml := C.2.2.2.2.1
  have hown := C.2.2.2.2.2.1
  have hts := C.2.2.2.2.2.2
  have hl : lv_has ls 3 [(0, .ref h), (1, .int d), (2, .int w)] := hl
  refine lv_iload_n hx hb dX4_wrongRow_0 rfl (lv_at hl 1 rfl) ?_
  refine c_S (rest := []) C (metX4_isShelf l G d) 1 (lw_S q1142 q1143 q42 q1144) (by decide +kernel) ⟨rfl, rfl⟩ ⟨(Nat.le_of_ble_eq_true rfl), (Nat.le_of_ble_eq_true rfl)⟩ (KM_mv G) (hP.sub (ws' := []) [] rfl) hK hl rfl rfl (Nat.le_of_ble_eq_true rfl) ⟨(Nat.le_of_ble_eq_true rfl), (Nat.le_of_ble_eq_true rfl)⟩ dX4_wrongRow_1 ?_
  refine n_if_neB (b := (sIn d 0 7)) (tgt := 11) hx hb dX4_wrongRow_4 (by decide) (fun c_1 => ?_) (fun c_1 => ?_)
  · obtain ⟨d_2, hd_2, gd_2, rfl⟩ := sIn_t (a := 0) (b := 7) (by omega) (by omega) c_1
    have td_2 : tn (nI d_2) = d_2 := nI_clamp (by omega)
    refine lv_aload_n hx hb dX4_wrongRow_11 rfl (lv_at hl 0 rfl) ?_
    refine va_get (D := gD G) (ci := 0) (v := .ref (ad 13)) (C := RX4) (T := TX4) (N := 20) hx hb hts in_X4 hown hK hP 0 rfl rfl 13 (by decide) (hts _ q1086) (fun _ h9 => h9) rfl dX4_wrongRow_12 ?_
    refine lv_iload_n hx hb dX4_wrongRow_15 rfl (lv_at hl 1 rfl) ?_
    refine n_iald C hK hP 1 d_2 rfl (by omega) (by omega) dX4_wrongRow_16 ?_
    refine lv_if_ne (x := ke d_2) (tgt := 25) hx hb dX4_wrongRow_17 (by decide) (fun c_3 => ?_) (fun c_3 => ?_)
    · refine lv_aload_n hx hb dX4_wrongRow_25 rfl (lv_at hl 0 rfl) ?_
      refine va_get (D := gD G) (ci := 0) (v := .ref (ad 13)) (C := RX4) (T := TX4) (N := 20) hx hb hts in_X4 hown hK hP 0 rfl rfl 13 (by decide) (hts _ q1086) (fun _ h9 => h9) rfl dX4_wrongRow_26 ?_
      refine lv_iload_n hx hb dX4_wrongRow_29 rfl (lv_at hl 1 rfl) ?_
      refine n_iald C hK hP 1 d_2 rfl (by omega) (by omega) dX4_wrongRow_30 ?_
      refine lv_iconst (v := 2) hx hb dX4_wrongRow_31 (by decide) ?_
      refine lv_icmp_ne (x := ke d_2) (y := 2) (tgt := 49) hx hb dX4_wrongRow_32 (by decide) (fun c_4 => ?_) (fun c_4 => ?_)
      · refine lv_bipush (v := (-12)) hx hb dX4_wrongRow_49 (by decide) ?_
        refine lv_goto (tgt := 55) hx hb dX4_wrongRow_51 (by decide) ?_
        exact n_iret (v := (-12)) C (by simp [sWR, c_1, td_2, c_3, c_4]) dX4_wrongRow_55
      · refine lv_iload_n hx hb dX4_wrongRow_35 rfl (lv_at hl 2 rfl) ?_
        refine lv_if_lt (x := w) (tgt := 54) hx hb dX4_wrongRow_36 (by decide) (fun c_5 => ?_) (fun c_5 => ?_)
        · have zc_5 : ¬ 0 ≤ w := Int32.not_le.mpr c_5
          refine lv_iconst (v := 0) hx hb dX4_wrongRow_54 (by decide) ?_
          exact n_iret (v := 0) C (by simp [sWR, c_1, td_2, c_3, c_4, c_5, zc_5]) dX4_wrongRow_55
        · have zc_5 : 0 ≤ w := Int32.not_lt.mp c_5
          refine lv_aload_n hx hb dX4_wrongRow_39 rfl (lv_at hl 0 rfl) ?_
          refine va_get (D := gD G) (ci := 0) (v := .ref (ad 16)) (C := RX4) (T := TX4) (N := 20) hx hb hts in_X4 hown hK hP 0 rfl rfl 16 (by decide) (hts _ q1089) (fun _ h9 => h9) rfl dX4_wrongRow_40 ?_
          refine lv_iload_n hx hb dX4_wrongRow_43 rfl (lv_at hl 1 rfl) ?_
          refine n_iald C hK hP 2 d_2 rfl (by omega) (by omega) dX4_wrongRow_44 ?_
          refine lv_iload_n hx hb dX4_wrongRow_45 rfl (lv_at hl 2 rfl) ?_
          refine lv_icmp_eq (x := so d_2) (y := w) (tgt := 54) hx hb dX4_wrongRow_46 (by decide) (fun c_6 => ?_) (fun c_6 => ?_)
          · refine lv_iconst (v := 0) hx hb dX4_wrongRow_54 (by decide) ?_
            exact n_iret (v := 0) C (by simp [sWR, c_1, td_2, c_3, c_4, c_5, zc_5, c_6]) dX4_wrongRow_55
          · refine lv_bipush (v := (-12)) hx hb dX4_wrongRow_49 (by decide) ?_
            refine lv_goto (tgt := 55) hx hb dX4_wrongRow_51 (by decide) ?_
            exact n_iret (v := (-12)) C (by simp [sWR, c_1, td_2, c_3, c_4, c_5, zc_5, c_6]) dX4_wrongRow_55
    · refine lv_bipush (v := (-11)) hx hb dX4_wrongRow_20 (by decide) ?_
      refine lv_goto (tgt := 55) hx hb dX4_wrongRow_22 (by decide) ?_
      exact n_iret (v := (-11)) C (by simp [sWR, c_1, td_2, c_3]) dX4_wrongRow_55
  · refine lv_iconst (v := (-1)) hx hb dX4_wrongRow_7 (by decide) ?_
    refine lv_goto (tgt := 55) hx hb dX4_wrongRow_8 (by decide) ?_
    exact n_iret (v := (-1)) C (by simp [sWR, c_1]) dX4_wrongRow_55

set_option maxHeartbeats 4000000 in
set_option maxRecDepth 100000 in
theorem metX4_wrongKept (l : Launch) (G : GG) (h : Nat) (ad : Nat → Nat) (iv : Nat → Int32) (ke : Nat → Int32) (d : Int32) : MR l yX4_wrongKept cX4_wrongKept 2 (some .int) ({ frames := 2, cells := 0, slots := 0, locals := 42 }) [.ref h, .int d] [(h, mO ad iv), (ad 13, iA G 8 ke)] G (KM G) (sWK ke d) := by
  -- rows printed by wip/tools/gen.py
  refine mr_mk RX4 (by decide) rfl (Nat.le_of_ble_eq_true rfl) ?_
  intro p0_ e0_ s m args below meth c C hP hK ls hl
  have hx := C.1
  have hb := C.2.1
  have hml := C.2.2.2.2.1
  have hown := C.2.2.2.2.2.1
  have hts := C.2.2.2.2.2.2
  have hl : lv_has ls 2 [(0, .ref h), (1, .int d)] := hl
  refine lv_iload_n hx hb dX4_wrongKept_0 rfl (lv_at hl 1 rfl) ?_
  refine c_S (rest := []) C (metX4_isShelf l G d) 1 (lw_S q1142 q1143 q42 q1144) (by decide +kernel) ⟨rfl, rfl⟩ ⟨(Nat.le_of_ble_eq_true rfl), (Nat.le_of_ble_eq_true rfl)⟩ (KM_mv G) (hP.sub (ws' := []) [] rfl) hK hl rfl rfl (Nat.le_of_ble_eq_true rfl) ⟨(Nat.le_of_ble_eq_true rfl), (Nat.le_of_ble_eq_true rfl)⟩ dX4_wrongKept_1 ?_
  refine n_if_neB (b := (sIn d 0 7)) (tgt := 11) hx hb dX4_wrongKept_4 (by decide) (fun c_1 => ?_) (fun c_1 => ?_)
  · obtain ⟨d_2, hd_2, gd_2, rfl⟩ := sIn_t (a := 0) (b := 7) (by omega) (by omega) c_1
    have td_2 : tn (nI d_2) = d_2 := nI_clamp (by omega)
    refine lv_aload_n hx hb dX4_wrongKept_11 rfl (lv_at hl 0 rfl) ?_
    refine va_get (D := gD G) (ci := 0) (v := .ref (ad 13)) (C := RX4) (T := TX4) (N := 20) hx hb hts in_X4 hown hK hP 0 rfl rfl 13 (by decide) (hts _ q1086) (fun _ h9 => h9) rfl dX4_wrongKept_12 ?_
    refine lv_iload_n hx hb dX4_wrongKept_15 rfl (lv_at hl 1 rfl) ?_
    refine n_iald C hK hP 1 d_2 rfl (by omega) (by omega) dX4_wrongKept_16 ?_
    refine lv_if_ne (x := ke d_2) (tgt := 25) hx hb dX4_wrongKept_17 (by decide) (fun c_3 => ?_) (fun c_3 => ?_)
    · refine lv_aload_n hx hb dX4_wrongKept_25 rfl (lv_at hl 0 rfl) ?_
      refine va_get (D := gD G) (ci := 0) (v := .ref (ad 13)) (C := RX4) (T := TX4) (N := 20) hx hb hts in_X4 hown hK hP 0 rfl rfl 13 (by decide) (hts _ q1086) (fun _ h9 => h9) rfl dX4_wrongKept_26 ?_
      refine lv_iload_n hx hb dX4_wrongKept_29 rfl (lv_at hl 1 rfl) ?_
      refine n_iald C hK hP 1 d_2 rfl (by omega) (by omega) dX4_wrongKept_30 ?_
      refine lv_iconst (v := 2) hx hb dX4_wrongKept_31 (by decide) ?_
      refine lv_icmp_ne (x := ke d_2) (y := 2) (tgt := 40) hx hb dX4_wrongKept_32 (by decide) (fun c_4 => ?_) (fun c_4 => ?_)
      · refine lv_iconst (v := 0) hx hb dX4_wrongKept_40 (by decide) ?_
        exact n_iret (v := 0) C (by simp [sWK, c_1, td_2, c_3, c_4]) dX4_wrongKept_41
      · refine lv_bipush (v := (-12)) hx hb dX4_wrongKept_35 (by decide) ?_
        refine lv_goto (tgt := 41) hx hb dX4_wrongKept_37 (by decide) ?_
        exact n_iret (v := (-12)) C (by simp [sWK, c_1, td_2, c_3, c_4]) dX4_wrongKept_41
    · refine lv_bipush (v := (-11)) hx hb dX4_wrongKept_20 (by decide) ?_
      refine lv_goto (tgt := 41) hx hb dX4_wrongKept_22 (by decide) ?_
      exact n_iret (v := (-11)) C (by simp [sWK, c_1, td_2, c_3]) dX4_wrongKept_41
  · refine lv_iconst (v := (-1)) hx hb dX4_wrongKept_7 (by decide) ?_
    refine lv_goto (tgt := 41) hx hb dX4_wrongKept_8 (by decide) ?_
    exact n_iret (v := (-1)) C (by simp [sWK, c_1]) dX4_wrongKept_41

set_option maxHeartbeats 4000000 in
set_option maxRecDepth 100000 in
theorem metX4_wrongTurn (l : Launch) (G : GG) (h : Nat) (ad : Nat → Nat) (iv : Nat → Int32) (r : Nat → Int32) (N : Nat) (p q : Int32) (hN : N ≤ 9) (hr : r 0 = nI N) : MR l yX4_wrongTurn cX4_wrongTurn 3 (some .int) ({ frames := 3, cells := 0, slots := 0, locals := 64 }) [.ref h, .int p, .int q] [(h, mO ad iv), (ad 0, iA G 57 r)] G (KM G) (sWT r N p q) := by
  -- rows printed by wip/tools/gen.py
  refine mr_mk RX4 (by decide) rfl (Nat.le_of_ble_eq_true rfl) ?_
  intro p0_ e0_ s m args below meth c C hP hK ls hl
  have hx := C.1
  have hb := C.2.1
  have hml := C.2.2.2.2.1
  have hown := C.2.2.2.2.2.1
  have hts := C.2.2.2.2.2.2
  have hl : lv_has ls 3 [(0, .ref h), (1, .int p), (2, .int q)] := hl
  refine lv_aload_n hx hb dX4_wrongTurn_0 rfl (lv_at hl 0 rfl) ?_
  refine lv_iload_n hx hb dX4_wrongTurn_1 rfl (lv_at hl 1 rfl) ?_
  refine c_V (rest := []) C (metX4_isPerson l G h ad iv r N p (hr)) 1 (lw_V q1173 q1175 qs28 q42 q1176) (by decide +kernel) ⟨rfl, rfl⟩ ⟨(Nat.le_of_ble_eq_true rfl), (Nat.le_of_ble_eq_true rfl)⟩ (KM_mv G) (va_recv hK hP (ci := 0) (q0 := 0) rfl rfl) hP hK hl rfl rfl (Nat.le_of_ble_eq_true rfl) ⟨(Nat.le_of_ble_eq_true rfl), (Nat.le_of_ble_eq_true rfl)⟩ dX4_wrongTurn_2 ?_
  refine n_if_eqB (b := (sPer N p)) (tgt := 21) hx hb dX4_wrongTurn_5 (by decide) (fun c_1 => ?_) (fun c_1 => ?_)
  · refine lv_iconst (v := (-1)) hx hb dX4_wrongTurn_21 (by decide) ?_
    refine lv_goto (tgt := 43) hx hb dX4_wrongTurn_22 (by decide) ?_
    exact n_iret (v := (-1)) C (by simp [sWT, c_1]) dX4_wrongTurn_43
  · obtain ⟨p_2, hp_2, rfl⟩ := sPer_t (by omega) c_1
    have tp_2 : tn (nI p_2) = p_2 := nI_clamp (by omega)
    refine lv_aload_n hx hb dX4_wrongTurn_8 rfl (lv_at hl 0 rfl) ?_
    refine lv_iload_n hx hb dX4_wrongTurn_9 rfl (lv_at hl 2 rfl) ?_
    refine c_V (rest := []) C (metX4_isPerson l G h ad iv r N q (hr)) 1 (lw_V q1173 q1175 qs28 q42 q1176) (by decide +kernel) ⟨rfl, rfl⟩ ⟨(Nat.le_of_ble_eq_true rfl), (Nat.le_of_ble_eq_true rfl)⟩ (KM_mv G) (va_recv hK hP (ci := 0) (q0 := 0) rfl rfl) hP hK hl rfl rfl (Nat.le_of_ble_eq_true rfl) ⟨(Nat.le_of_ble_eq_true rfl), (Nat.le_of_ble_eq_true rfl)⟩ dX4_wrongTurn_10 ?_
    refine n_if_eqB (b := (sPer N q)) (tgt := 21) hx hb dX4_wrongTurn_13 (by decide) (fun c_3 => ?_) (fun c_3 => ?_)
    · refine lv_iconst (v := (-1)) hx hb dX4_wrongTurn_21 (by decide) ?_
      refine lv_goto (tgt := 43) hx hb dX4_wrongTurn_22 (by decide) ?_
      exact n_iret (v := (-1)) C (by simp [sWT, c_1, tp_2, c_3]) dX4_wrongTurn_43
    · obtain ⟨q_4, hq_4, rfl⟩ := sPer_t (by omega) c_3
      have tq_4 : tn (nI q_4) = q_4 := nI_clamp (by omega)
      refine lv_iload_n hx hb dX4_wrongTurn_16 rfl (lv_at hl 1 rfl) ?_
      refine lv_iload_n hx hb dX4_wrongTurn_17 rfl (lv_at hl 2 rfl) ?_
      refine n_ic_ne (x := p_2) (y := q_4) (tgt := 25) hx hb (by omega) (by omega) dX4_wrongTurn_18 (by decide) (fun c_5 => ?_) (fun c_5 => ?_)
      · have zc_5 : ¬ nI p_2 = nI q_4 := fun q => c_5 ((nI_eq (by omega) (by omega)).mp q)
        refine lv_aload_n hx hb dX4_wrongTurn_25 rfl (lv_at hl 0 rfl) ?_
        refine va_get (D := gD G) (ci := 0) (v := .ref (ad 0)) (C := RX4) (T := TX4) (N := 20) hx hb hts in_X4 hown hK hP 0 rfl rfl 0 (by decide) (hts _ q1073) (fun _ h9 => h9) rfl dX4_wrongTurn_26 ?_
        refine lv_iload_n hx hb dX4_wrongTurn_29 rfl (lv_at hl 1 rfl) ?_
        refine lv_iload_n hx hb dX4_wrongTurn_30 rfl (lv_at hl 2 rfl) ?_
        refine c_S (rest := []) C (metX4_canEat l G (ad 0) r p_2 q_4 (by omega) (by omega)) 3 (lw_S q1177 q1178 q42 q1179) (by decide +kernel) ⟨rfl, rfl⟩ ⟨(Nat.le_of_ble_eq_true rfl), (Nat.le_of_ble_eq_true rfl)⟩ (KM_mv G) (hP.sub (ws' := [(ad 0, iA G 57 r)]) [1] rfl) hK hl rfl rfl (Nat.le_of_ble_eq_true rfl) ⟨(Nat.le_of_ble_eq_true rfl), (Nat.le_of_ble_eq_true rfl)⟩ dX4_wrongTurn_31 ?_
        refine n_if_eqB (b := (sEat r p_2 q_4)) (tgt := 41) hx hb dX4_wrongTurn_34 (by decide) (fun c_6 => ?_) (fun c_6 => ?_)
        · refine lv_bipush (v := (-3)) hx hb dX4_wrongTurn_41 (by decide) ?_
          exact n_iret (v := (-3)) C (by simp [sWT, c_1, tp_2, c_3, tq_4, c_5, zc_5, c_6]) dX4_wrongTurn_43
        · refine lv_iconst (v := 0) hx hb dX4_wrongTurn_37 (by decide) ?_
          refine lv_goto (tgt := 43) hx hb dX4_wrongTurn_38 (by decide) ?_
          exact n_iret (v := 0) C (by simp [sWT, c_1, tp_2, c_3, tq_4, c_5, zc_5, c_6]) dX4_wrongTurn_43
      · have zc_5 : nI p_2 = nI q_4 := congrArg nI c_5
        refine lv_iconst (v := (-1)) hx hb dX4_wrongTurn_21 (by decide) ?_
        refine lv_goto (tgt := 43) hx hb dX4_wrongTurn_22 (by decide) ?_
        exact n_iret (v := (-1)) C (by simp [sWT, c_1, tp_2, c_3, tq_4, c_5, zc_5]) dX4_wrongTurn_43

set_option maxHeartbeats 4000000 in
set_option maxRecDepth 100000 in
theorem metX4_person (l : Launch) (G : GG) (h : Nat) (ad : Nat → Nat) (iv : Nat → Int32) (r : Nat → Int32) (N : Nat) (p what : Int32) (hN : N ≤ 9) (hr : r 0 = nI N) : MR l yX4_person cX4_person 5 (some .int) ({ frames := 2, cells := 0, slots := 0, locals := 43 }) [.ref h, .int p, .int what] [(h, mO ad iv), (ad 0, iA G 57 r)] G (KM G) (sPerson r N p what) := by
  -- rows printed by wip/tools/gen.py
  refine mr_mk RX4 (by decide) rfl (Nat.le_of_ble_eq_true rfl) ?_
  intro p0_ e0_ s m args below meth c C hP hK ls hl
  have hx := C.1
  have hb := C.2.1
  have hml := C.2.2.2.2.1
  have hown := C.2.2.2.2.2.1
  have hts := C.2.2.2.2.2.2
  have hl : lv_has ls 5 [(0, .ref h), (1, .int p), (2, .int what)] := hl
  refine lv_aload_n hx hb dX4_person_0 rfl (lv_at hl 0 rfl) ?_
  refine lv_iload_n hx hb dX4_person_1 rfl (lv_at hl 1 rfl) ?_
  refine c_V (rest := []) C (metX4_isPerson l G h ad iv r N p (hr)) 1 (lw_V q1173 q1175 qs28 q42 q1176) (by decide +kernel) ⟨rfl, rfl⟩ ⟨(Nat.le_of_ble_eq_true rfl), (Nat.le_of_ble_eq_true rfl)⟩ (KM_mv G) (va_recv hK hP (ci := 0) (q0 := 0) rfl rfl) hP hK hl rfl rfl (Nat.le_of_ble_eq_true rfl) ⟨(Nat.le_of_ble_eq_true rfl), (Nat.le_of_ble_eq_true rfl)⟩ dX4_person_2 ?_
  refine n_if_eqB (b := (sPer N p)) (tgt := 18) hx hb dX4_person_5 (by decide) (fun c_1 => ?_) (fun c_1 => ?_)
  · refine lv_iconst (v := (-1)) hx hb dX4_person_18 (by decide) ?_
    exact n_iret (v := (-1)) C (by simp [sPerson, c_1]) dX4_person_19
  · obtain ⟨p_2, hp_2, rfl⟩ := sPer_t (by omega) c_1
    have tp_2 : tn (nI p_2) = p_2 := nI_clamp (by omega)
    refine lv_iload_n hx hb dX4_person_8 rfl (lv_at hl 2 rfl) ?_
    refine lv_iconst (v := 0) hx hb dX4_person_9 (by decide) ?_
    refine lv_bipush (v := 8) hx hb dX4_person_10 (by decide) ?_
    refine c_S (rest := []) C (metX4_isIn l G what 0 8) 3 (lw_S q1145 q1146 q42 q1147) (by decide +kernel) ⟨rfl, rfl⟩ ⟨(Nat.le_of_ble_eq_true rfl), (Nat.le_of_ble_eq_true rfl)⟩ (KM_mv G) (hP.sub (ws' := []) [] rfl) hK hl rfl rfl (Nat.le_of_ble_eq_true rfl) ⟨(Nat.le_of_ble_eq_true rfl), (Nat.le_of_ble_eq_true rfl)⟩ dX4_person_12 ?_
    refine n_if_neB (b := (sIn what 0 8)) (tgt := 20) hx hb dX4_person_15 (by decide) (fun c_3 => ?_) (fun c_3 => ?_)
    · obtain ⟨what_4, hwhat_4, gwhat_4, rfl⟩ := sIn_t (a := 0) (b := 8) (by omega) (by omega) c_3
      have twhat_4 : tn (nI what_4) = what_4 := nI_clamp (by omega)
      refine lv_aload_n hx hb dX4_person_20 rfl (lv_at hl 0 rfl) ?_
      refine va_get (D := gD G) (ci := 0) (v := .ref (ad 0)) (C := RX4) (T := TX4) (N := 20) hx hb hts in_X4 hown hK hP 0 rfl rfl 0 (by decide) (hts _ q1073) (fun _ h9 => h9) rfl dX4_person_21 ?_
      refine lv_iload_n hx hb dX4_person_24 rfl (lv_at hl 1 rfl) ?_
      refine lv_iconst (v := 0) hx hb dX4_person_25 (by decide) ?_
      refine c_S (rest := [.ref (ad 0)]) C (metX4_of l G p_2 0) 2 (lw_S q1170 q1171 q42 q1172) (by decide +kernel) ⟨rfl, rfl⟩ ⟨(Nat.le_of_ble_eq_true rfl), (Nat.le_of_ble_eq_true rfl)⟩ (KM_mv G) (hP.sub (ws' := []) [] rfl) hK hl rfl rfl (Nat.le_of_ble_eq_true rfl) ⟨(Nat.le_of_ble_eq_true rfl), (Nat.le_of_ble_eq_true rfl)⟩ dX4_person_26 ?_
      refine n_iald C hK hP 1 (3 + 6 * p_2) rfl (by omega) (by omega) dX4_person_29 ?_
      refine lv_istore_n (lv' := [(3, .int (r (3 + 6 * p_2))), (0, .ref h), (1, .int (nI p_2)), (2, .int (nI what_4))]) hx hb dX4_person_30 rfl hl (Nat.le_of_ble_eq_true rfl) rfl (fun ls hl => ?_)
      refine lv_aload_n hx hb dX4_person_31 rfl (lv_at hl 1 rfl) ?_
      refine va_get (D := gD G) (ci := 0) (v := .ref (ad 0)) (C := RX4) (T := TX4) (N := 20) hx hb hts in_X4 hown hK hP 0 rfl rfl 0 (by decide) (hts _ q1073) (fun _ h9 => h9) rfl dX4_person_32 ?_
      refine lv_iload_n hx hb dX4_person_35 rfl (lv_at hl 2 rfl) ?_
      refine lv_iconst (v := 1) hx hb dX4_person_36 (by decide) ?_
      refine c_S (rest := [.ref (ad 0)]) C (metX4_of l G p_2 1) 2 (lw_S q1170 q1171 q42 q1172) (by decide +kernel) ⟨rfl, rfl⟩ ⟨(Nat.le_of_ble_eq_true rfl), (Nat.le_of_ble_eq_true rfl)⟩ (KM_mv G) (hP.sub (ws' := []) [] rfl) hK hl rfl rfl (Nat.le_of_ble_eq_true rfl) ⟨(Nat.le_of_ble_eq_true rfl), (Nat.le_of_ble_eq_true rfl)⟩ dX4_person_37 ?_
      refine n_iald C hK hP 1 (3 + 6 * p_2 + 1) rfl (by omega) (by omega) dX4_person_40 ?_
      refine lv_istore (lv' := [(4, .int (r (3 + 6 * p_2 + 1))), (3, .int (r (3 + 6 * p_2))), (0, .ref h), (1, .int (nI p_2)), (2, .int (nI what_4))]) hx hb dX4_person_41 hl (Nat.le_of_ble_eq_true rfl) rfl (fun ls hl => ?_)
      refine lv_iload_n hx hb dX4_person_43 rfl (lv_at hl 4 rfl) ?_
      refine lv_bipush (v := 6) hx hb dX4_person_44 (by decide) ?_
      refine n_ic_ge (x := what_4) (y := 6) (tgt := 62) hx hb (by omega) (by omega) dX4_person_46 (by decide) (fun c_5 => ?_) (fun c_5 => ?_)
      · have zc_5 : ¬ what_4 < 6 := Nat.not_lt.mpr c_5
        refine lv_iload_n hx hb dX4_person_62 rfl (lv_at hl 4 rfl) ?_
        refine lv_bipush (v := 6) hx hb dX4_person_63 (by decide) ?_
        refine n_ic_ne (x := what_4) (y := 6) (tgt := 77) hx hb (by omega) (by omega) dX4_person_65 (by decide) (fun c_6 => ?_) (fun c_6 => ?_)
        · have zc_6 : ¬ nI what_4 = 6 := fun q => c_6 ((nI_eq (by omega) (by omega)).mp q)
          refine lv_iload_n hx hb dX4_person_77 rfl (lv_at hl 4 rfl) ?_
          refine lv_bipush (v := 7) hx hb dX4_person_78 (by decide) ?_
          refine n_ic_ne (x := what_4) (y := 7) (tgt := 92) hx hb (by omega) (by omega) dX4_person_80 (by decide) (fun c_7 => ?_) (fun c_7 => ?_)
          · have zc_7 : ¬ nI what_4 = 7 := fun q => c_7 ((nI_eq (by omega) (by omega)).mp q)
            refine lv_iload_n hx hb dX4_person_92 rfl (lv_at hl 1 rfl) ?_
            refine c_S (rest := []) C (metX4_shy l G (r (3 + 6 * p_2))) 1 (lw_S q1201 q1202 q42 q1203) (by decide +kernel) ⟨rfl, rfl⟩ ⟨(Nat.le_of_ble_eq_true rfl), (Nat.le_of_ble_eq_true rfl)⟩ (KM_mv G) (hP.sub (ws' := []) [] rfl) hK hl rfl rfl (Nat.le_of_ble_eq_true rfl) ⟨(Nat.le_of_ble_eq_true rfl), (Nat.le_of_ble_eq_true rfl)⟩ dX4_person_93 ?_
            exact n_iret (v := sShy (r (3 + 6 * p_2))) C (by simp [sPerson, c_1, tp_2, c_3, twhat_4, c_5, zc_5, c_6, zc_6, c_7, zc_7]) dX4_person_96
          · obtain rfl := c_7
            have zc_7 : (nI 7 = 7) = True := eq_true rfl
            refine lv_iload_n hx hb dX4_person_83 rfl (lv_at hl 1 rfl) ?_
            refine lv_iload hx hb dX4_person_84 (lv_at hl 0 rfl) ?_
            refine c_S (rest := []) C (metX4_gaze l G (r (3 + 6 * p_2)) (r (3 + 6 * p_2 + 1))) 2 (lw_S q1210 q1211 q42 q1212) (by decide +kernel) ⟨rfl, rfl⟩ ⟨(Nat.le_of_ble_eq_true rfl), (Nat.le_of_ble_eq_true rfl)⟩ (KM_mv G) (hP.sub (ws' := []) [] rfl) hK hl rfl rfl (Nat.le_of_ble_eq_true rfl) ⟨(Nat.le_of_ble_eq_true rfl), (Nat.le_of_ble_eq_true rfl)⟩ dX4_person_86 ?_
            refine lv_goto (tgt := 96) hx hb dX4_person_89 (by decide) ?_
            exact n_iret (v := sGaze (r (3 + 6 * p_2)) (r (3 + 6 * p_2 + 1))) C (by simp [sPerson, c_1, tp_2, c_3, twhat_4, c_5, zc_5, c_6, zc_6, zc_7]) dX4_person_96
        · obtain rfl := c_6
          have zc_6 : (nI 6 = 6) = True := eq_true rfl
          refine lv_iload_n hx hb dX4_person_68 rfl (lv_at hl 1 rfl) ?_
          refine lv_iload hx hb dX4_person_69 (lv_at hl 0 rfl) ?_
          refine c_S (rest := []) C (metX4_bite l G (r (3 + 6 * p_2)) (r (3 + 6 * p_2 + 1))) 2 (lw_S q1195 q1196 q42 q1197) (by decide +kernel) ⟨rfl, rfl⟩ ⟨(Nat.le_of_ble_eq_true rfl), (Nat.le_of_ble_eq_true rfl)⟩ (KM_mv G) (hP.sub (ws' := []) [] rfl) hK hl rfl rfl (Nat.le_of_ble_eq_true rfl) ⟨(Nat.le_of_ble_eq_true rfl), (Nat.le_of_ble_eq_true rfl)⟩ dX4_person_71 ?_
          refine lv_goto (tgt := 96) hx hb dX4_person_74 (by decide) ?_
          exact n_iret (v := sBite (r (3 + 6 * p_2)) (r (3 + 6 * p_2 + 1))) C (by simp [sPerson, c_1, tp_2, c_3, twhat_4, c_5, zc_5, zc_6]) dX4_person_96
      · have zc_5 : ¬ 6 ≤ what_4 := Nat.not_le.mpr c_5
        refine lv_aload_n hx hb dX4_person_49 rfl (lv_at hl 2 rfl) ?_
        refine va_get (D := gD G) (ci := 0) (v := .ref (ad 0)) (C := RX4) (T := TX4) (N := 20) hx hb hts in_X4 hown hK hP 0 rfl rfl 0 (by decide) (hts _ q1073) (fun _ h9 => h9) rfl dX4_person_50 ?_
        refine lv_iload_n hx hb dX4_person_53 rfl (lv_at hl 3 rfl) ?_
        refine lv_iload_n hx hb dX4_person_54 rfl (lv_at hl 4 rfl) ?_
        refine c_S (rest := [.ref (ad 0)]) C (metX4_of l G p_2 what_4) 2 (lw_S q1170 q1171 q42 q1172) (by decide +kernel) ⟨rfl, rfl⟩ ⟨(Nat.le_of_ble_eq_true rfl), (Nat.le_of_ble_eq_true rfl)⟩ (KM_mv G) (hP.sub (ws' := []) [] rfl) hK hl rfl rfl (Nat.le_of_ble_eq_true rfl) ⟨(Nat.le_of_ble_eq_true rfl), (Nat.le_of_ble_eq_true rfl)⟩ dX4_person_55 ?_
        refine n_iald C hK hP 1 (3 + 6 * p_2 + what_4) rfl (by omega) (by omega) dX4_person_58 ?_
        refine lv_goto (tgt := 96) hx hb dX4_person_59 (by decide) ?_
        exact n_iret (v := r (3 + 6 * p_2 + what_4)) C (by simp [sPerson, c_1, tp_2, c_3, twhat_4, c_5, zc_5]) dX4_person_96
    · refine lv_iconst (v := (-1)) hx hb dX4_person_18 (by decide) ?_
      exact n_iret (v := (-1)) C (by simp [sPerson, c_1, tp_2, c_3]) dX4_person_19

set_option maxHeartbeats 4000000 in
set_option maxRecDepth 100000 in
theorem metX4_comes (l : Launch) (G : GG) (h : Nat) (ad : Nat → Nat) (iv : Nat → Int32) (r : Nat → Int32) (N : Nat) (ke kk kf : Nat → Int32) (d u w : Int32) (hN : N ≤ 8) (hr : r 0 = nI N) : MW l yX4_comes cX4_comes 5 (some .int) ({ frames := 3, cells := 0, slots := 0, locals := 63 }) [.ref h, .int d, .int u, .int w] [(h, mO ad iv), (ad 0, iA G 57 r), (ad 13, iA G 8 ke), (ad 14, iA G 8 kk), (ad 15, iA G 8 kf)] G (KM G) 0 0 (fun rv w1 => rv = sComesA ke N d u w ∧ w1 = [(h, mO ad iv), (ad 0, iA G 57 (sComesS ke kk kf r N d u w)), (ad 13, iA G 8 ke), (ad 14, iA G 8 kk), (ad 15, iA G 8 kf)]) := by
  -- rows printed by wip/tools/gen.py
  refine mw_mk RX4 (by decide) rfl (Nat.le_of_ble_eq_true rfl) ?_
  intro p0_ e0_ s m args below meth c A C hA hP hK hD ls hl
  have hx := C.1
  have hb := C.2.1
  have hml := C.2.2.2.2.1
  have hown := C.2.2.2.2.2.1
  have hts := C.2.2.2.2.2.2
  have hS : va_S A s.heap s.heap [] := va_S.rf
  have hl : lv_has ls 5 [(0, .ref h), (1, .int d), (2, .int u), (3, .int w)] := hl
  refine lv_iload_n hx hb dX4_comes_0 rfl (lv_at hl 2 rfl) ?_
  refine lv_iconst (v := 0) hx hb dX4_comes_1 (by decide) ?_
  refine lv_bipush (v := 30) hx hb dX4_comes_2 (by decide) ?_
  refine c_S (rest := []) C (metX4_isIn l G u 0 30) 3 (lw_S q1145 q1146 q42 q1147) (by decide +kernel) ⟨rfl, rfl⟩ ⟨(Nat.le_of_ble_eq_true rfl), (Nat.le_of_ble_eq_true rfl)⟩ (KM_mv G) (hP.sub (ws' := []) [] rfl) hK hl rfl rfl (Nat.le_of_ble_eq_true rfl) ⟨(Nat.le_of_ble_eq_true rfl), (Nat.le_of_ble_eq_true rfl)⟩ dX4_comes_4 ?_
  refine n_if_eqB (b := (sIn u 0 30)) (tgt := 20) hx hb dX4_comes_7 (by decide) (fun c_1 => ?_) (fun c_1 => ?_)
  · refine lv_iconst (v := (-1)) hx hb dX4_comes_20 (by decide) ?_
    exact n_iretW (v := (-1)) (w1 := [(h, mO ad iv), (ad 0, iA G 57 r), (ad 13, iA G 8 ke), (ad 14, iA G 8 kk), (ad 15, iA G 8 kf)]) C (⟨by simp [sComesA, sComesS, sComesOk, c_1], by simp [sComesA, sComesS, sComesOk, c_1]⟩) hP hD hS (by first | omega | decide) (by first | omega | decide) dX4_comes_21
  · obtain ⟨u_2, hu_2, gu_2, rfl⟩ := sIn_t (a := 0) (b := 30) (by omega) (by omega) c_1
    have tu_2 : tn (nI u_2) = u_2 := nI_clamp (by omega)
    refine lv_iload_n hx hb dX4_comes_10 rfl (lv_at hl 3 rfl) ?_
    refine lv_iconst (v := 0) hx hb dX4_comes_11 (by decide) ?_
    refine lv_bipush (v := 30) hx hb dX4_comes_12 (by decide) ?_
    refine c_S (rest := []) C (metX4_isIn l G w 0 30) 3 (lw_S q1145 q1146 q42 q1147) (by decide +kernel) ⟨rfl, rfl⟩ ⟨(Nat.le_of_ble_eq_true rfl), (Nat.le_of_ble_eq_true rfl)⟩ (KM_mv G) (hP.sub (ws' := []) [] rfl) hK hl rfl rfl (Nat.le_of_ble_eq_true rfl) ⟨(Nat.le_of_ble_eq_true rfl), (Nat.le_of_ble_eq_true rfl)⟩ dX4_comes_14 ?_
    refine n_if_neB (b := (sIn w 0 30)) (tgt := 22) hx hb dX4_comes_17 (by decide) (fun c_3 => ?_) (fun c_3 => ?_)
    · obtain ⟨w_4, hw_4, gw_4, rfl⟩ := sIn_t (a := 0) (b := 30) (by omega) (by omega) c_3
      have tw_4 : tn (nI w_4) = w_4 := nI_clamp (by omega)
      refine lv_aload_n hx hb dX4_comes_22 rfl (lv_at hl 0 rfl) ?_
      refine lv_iload_n hx hb dX4_comes_23 rfl (lv_at hl 1 rfl) ?_
      refine c_V (rest := []) C (metX4_wrongKept l G h ad iv ke d) 1 (lw_V q1221 q1223 qs29 q42 q1224) (by decide +kernel) ⟨rfl, rfl⟩ ⟨(Nat.le_of_ble_eq_true rfl), (Nat.le_of_ble_eq_true rfl)⟩ (KM_mv G) (va_recv hK hP (ci := 0) (q0 := 0) rfl rfl) (hP.sub (ws' := [(h, mO ad iv), (ad 13, iA G 8 ke)]) [0, 2] rfl) hK hl rfl rfl (Nat.le_of_ble_eq_true rfl) ⟨(Nat.le_of_ble_eq_true rfl), (Nat.le_of_ble_eq_true rfl)⟩ dX4_comes_24 ?_
      refine lv_istore (lv' := [(4, .int (sWK ke d)), (0, .ref h), (1, .int d), (2, .int (nI u_2)), (3, .int (nI w_4))]) hx hb dX4_comes_27 hl (Nat.le_of_ble_eq_true rfl) rfl (fun ls hl => ?_)
      refine lv_iload hx hb dX4_comes_29 (lv_at hl 0 rfl) ?_
      refine lv_if_eq (x := sWK ke d) (tgt := 37) hx hb dX4_comes_31 (by decide) (fun c_5 => ?_) (fun c_5 => ?_)
      · obtain ⟨dn, gd, k1, k2, rfl⟩ := sWK_0 c_5
        have t_dn : tn (nI dn) = dn := nI_clamp (by omega)
        refine lv_aload_n hx hb dX4_comes_37 rfl (lv_at hl 1 rfl) ?_
        refine va_get (D := gD G) (ci := 0) (v := .ref (ad 0)) (C := RX4) (T := TX4) (N := 20) hx hb hts in_X4 hown hK hP 0 rfl rfl 0 (by decide) (hts _ q1073) (fun _ h9 => h9) rfl dX4_comes_38 ?_
        refine lv_iconst (v := 0) hx hb dX4_comes_41 (by decide) ?_
        refine n_iald C hK hP 1 0 rfl (by omega) (by omega) dX4_comes_42 ?_
        refine n_eqi (hr) ?_
        refine lv_bipush (v := 8) hx hb dX4_comes_43 (by decide) ?_
        refine n_ic_ne (x := N) (y := 8) (tgt := 51) hx hb (by omega) (by omega) dX4_comes_45 (by decide) (fun c_6 => ?_) (fun c_6 => ?_)
        · have zc_6 : ¬ nI N = 8 := fun q => c_6 ((nI_eq (by omega) (by omega)).mp q)
          refine lv_aload_n hx hb dX4_comes_51 rfl (lv_at hl 1 rfl) ?_
          refine va_get (D := gD G) (ci := 0) (v := .ref (ad 0)) (C := RX4) (T := TX4) (N := 20) hx hb hts in_X4 hown hK hP 0 rfl rfl 0 (by decide) (hts _ q1073) (fun _ h9 => h9) rfl dX4_comes_52 ?_
          refine lv_aload_n hx hb dX4_comes_55 rfl (lv_at hl 1 rfl) ?_
          refine va_get (D := gD G) (ci := 0) (v := .ref (ad 14)) (C := RX4) (T := TX4) (N := 20) hx hb hts in_X4 hown hK hP 0 rfl rfl 14 (by decide) (hts _ q1087) (fun _ h9 => h9) rfl dX4_comes_56 ?_
          refine lv_iload_n hx hb dX4_comes_59 rfl (lv_at hl 2 rfl) ?_
          refine n_iald C hK hP 3 dn rfl (by omega) (by omega) dX4_comes_60 ?_
          refine lv_aload_n hx hb dX4_comes_61 rfl (lv_at hl 1 rfl) ?_
          refine va_get (D := gD G) (ci := 0) (v := .ref (ad 15)) (C := RX4) (T := TX4) (N := 20) hx hb hts in_X4 hown hK hP 0 rfl rfl 15 (by decide) (hts _ q1088) (fun _ h9 => h9) rfl dX4_comes_62 ?_
          refine lv_iload_n hx hb dX4_comes_65 rfl (lv_at hl 2 rfl) ?_
          refine n_iald C hK hP 4 dn rfl (by omega) (by omega) dX4_comes_66 ?_
          refine lv_iload_n hx hb dX4_comes_67 rfl (lv_at hl 3 rfl) ?_
          refine lv_iload_n hx hb dX4_comes_68 rfl (lv_at hl 4 rfl) ?_
          refine c_SWv (wr := [(h, mO ad iv), (ad 13, iA G 8 ke), (ad 14, iA G 8 kk), (ad 15, iA G 8 kf)]) (rest := []) C (metX4_adds l G (ad 0) r N (kk dn) (kf dn) (nI u_2) (nI w_4) (by omega) (hr)) 5 (lw_S q1167 q1168 q42 q1169) (by decide +kernel) ⟨rfl, rfl⟩ ⟨(Nat.le_of_ble_eq_true rfl), (Nat.le_of_ble_eq_true rfl)⟩ (KM_mv G) hK hA hP hD hS [1] [0, 2, 3, 4] rfl rfl rfl rfl (by decide) hl rfl rfl (Nat.le_of_ble_eq_true rfl) ⟨(Nat.le_of_ble_eq_true rfl), (Nat.le_of_ble_eq_true rfl)⟩ dX4_comes_69 (fun w1 H locs hq_8 hP hD hS => ?_)
          obtain rfl := hq_8
          have hP : PP G [(h, mO ad iv), (ad 13, iA G 8 ke), (ad 14, iA G 8 kk), (ad 15, iA G 8 kf), (ad 0, iA G 57 (sAdds r N (kk dn) (kf dn) (nI u_2) (nI w_4)))] H := hP
          have hD : va_D A [(h, mO ad iv), (ad 13, iA G 8 ke), (ad 14, iA G 8 kk), (ad 15, iA G 8 kf), (ad 0, iA G 57 (sAdds r N (kk dn) (kf dn) (nI u_2) (nI w_4)))] := hD
          refine lv_aload_n hx hb dX4_comes_72 rfl (lv_at hl 1 rfl) ?_
          refine va_get (D := gD G) (ci := 0) (v := .ref (ad 0)) (C := RX4) (T := TX4) (N := 20) hx hb hts in_X4 hown hK hP 0 rfl rfl 0 (by decide) (hts _ q1073) (fun _ h9 => h9) rfl dX4_comes_73 ?_
          refine lv_iconst (v := 0) hx hb dX4_comes_76 (by decide) ?_
          refine n_iald C hK hP 4 0 rfl (by omega) (by omega) dX4_comes_77 ?_
          refine n_eqi (y := nI (N + 1)) rfl ?_
          refine lv_iconst (v := 1) hx hb dX4_comes_78 (by decide) ?_
          refine n_isub hx hb (N + 1) 1 (by omega) dX4_comes_79 ?_
          exact n_iretW (v := nI ((N + 1) - 1)) (w1 := [(h, mO ad iv), (ad 0, iA G 57 (sAdds r N (kk dn) (kf dn) (nI u_2) (nI w_4))), (ad 13, iA G 8 ke), (ad 14, iA G 8 kk), (ad 15, iA G 8 kf)]) C (⟨by simp [sComesA, sComesS, sComesOk, c_1, tu_2, c_3, tw_4, c_5, t_dn, k1, k2, c_6, zc_6], by simp [sComesA, sComesS, sComesOk, c_1, tu_2, c_3, tw_4, c_5, t_dn, k1, k2, c_6, zc_6]⟩) (hP.sub (ws' := [(h, mO ad iv), (ad 0, iA G 57 (sAdds r N (kk dn) (kf dn) (nI u_2) (nI w_4))), (ad 13, iA G 8 ke), (ad 14, iA G 8 kk), (ad 15, iA G 8 kf)]) [0, 4, 1, 2, 3] rfl) (hD.sub (ws' := [(h, mO ad iv), (ad 0, iA G 57 (sAdds r N (kk dn) (kf dn) (nI u_2) (nI w_4))), (ad 13, iA G 8 ke), (ad 14, iA G 8 kk), (ad 15, iA G 8 kf)]) [0, 4, 1, 2, 3] (by decide) rfl) hS (by first | omega | decide) (by first | omega | decide) dX4_comes_80
        · obtain rfl := c_6
          have zc_6 : (nI 8 = 8) = True := eq_true rfl
          refine lv_bipush (v := (-2)) hx hb dX4_comes_48 (by decide) ?_
          exact n_iretW (v := (-2)) (w1 := [(h, mO ad iv), (ad 0, iA G 57 r), (ad 13, iA G 8 ke), (ad 14, iA G 8 kk), (ad 15, iA G 8 kf)]) C (⟨by simp [sComesA, sComesS, sComesOk, c_1, tu_2, c_3, tw_4, c_5, t_dn, k1, k2, zc_6], by simp [sComesA, sComesS, sComesOk, c_1, tu_2, c_3, tw_4, c_5, t_dn, k1, k2, zc_6]⟩) hP hD hS (by first | omega | decide) (by first | omega | decide) dX4_comes_50
      · refine lv_iload hx hb dX4_comes_34 (lv_at hl 0 rfl) ?_
        exact n_iretW (v := sWK ke d) (w1 := [(h, mO ad iv), (ad 0, iA G 57 r), (ad 13, iA G 8 ke), (ad 14, iA G 8 kk), (ad 15, iA G 8 kf)]) C (⟨by simp [sComesA, sComesS, sComesOk, c_1, tu_2, c_3, tw_4, c_5], by simp [sComesA, sComesS, sComesOk, c_1, tu_2, c_3, tw_4, c_5]⟩) hP hD hS (by first | omega | decide) (by first | omega | decide) dX4_comes_36
    · refine lv_iconst (v := (-1)) hx hb dX4_comes_20 (by decide) ?_
      exact n_iretW (v := (-1)) (w1 := [(h, mO ad iv), (ad 0, iA G 57 r), (ad 13, iA G 8 ke), (ad 14, iA G 8 kk), (ad 15, iA G 8 kf)]) C (⟨by simp [sComesA, sComesS, sComesOk, c_1, tu_2, c_3], by simp [sComesA, sComesS, sComesOk, c_1, tu_2, c_3]⟩) hP hD hS (by first | omega | decide) (by first | omega | decide) dX4_comes_21

set_option maxHeartbeats 4000000 in
set_option maxRecDepth 100000 in
theorem metX4_feels (l : Launch) (G : GG) (h : Nat) (ad : Nat → Nat) (iv : Nat → Int32) (r : Nat → Int32) (N : Nat) (p what v : Int32) (hN : N ≤ 9) (hr : r 0 = nI N) : MW l yX4_feels cX4_feels 6 (some .int) ({ frames := 2, cells := 0, slots := 0, locals := 43 }) [.ref h, .int p, .int what, .int v] [(h, mO ad iv), (ad 0, iA G 57 r)] G (KM G) 0 0 (fun rv w1 => rv = sFeelsA r N p what v ∧ w1 = [(h, mO ad iv), (ad 0, iA G 57 (sFeelsS r N p what v))]) := by
  -- rows printed by wip/tools/gen.py
  refine mw_mk RX4 (by decide) rfl (Nat.le_of_ble_eq_true rfl) ?_
  intro p0_ e0_ s m args below meth c A C hA hP hK hD ls hl
  have hx := C.1
  have hb := C.2.1
  have hml := C.2.2.2.2.1
  have hown := C.2.2.2.2.2.1
  have hts := C.2.2.2.2.2.2
  have hS : va_S A s.heap s.heap [] := va_S.rf
  have hl : lv_has ls 6 [(0, .ref h), (1, .int p), (2, .int what), (3, .int v)] := hl
  refine lv_aload_n hx hb dX4_feels_0 rfl (lv_at hl 0 rfl) ?_
  refine lv_iload_n hx hb dX4_feels_1 rfl (lv_at hl 1 rfl) ?_
  refine c_V (rest := []) C (metX4_isPerson l G h ad iv r N p (hr)) 1 (lw_V q1173 q1175 qs28 q42 q1176) (by decide +kernel) ⟨rfl, rfl⟩ ⟨(Nat.le_of_ble_eq_true rfl), (Nat.le_of_ble_eq_true rfl)⟩ (KM_mv G) (va_recv hK hP (ci := 0) (q0 := 0) rfl rfl) hP hK hl rfl rfl (Nat.le_of_ble_eq_true rfl) ⟨(Nat.le_of_ble_eq_true rfl), (Nat.le_of_ble_eq_true rfl)⟩ dX4_feels_2 ?_
  refine n_if_eqB (b := (sPer N p)) (tgt := 27) hx hb dX4_feels_5 (by decide) (fun c_1 => ?_) (fun c_1 => ?_)
  · refine lv_iconst (v := (-1)) hx hb dX4_feels_27 (by decide) ?_
    exact n_iretW (v := (-1)) (w1 := [(h, mO ad iv), (ad 0, iA G 57 r)]) C (⟨by simp [sFeelsA, sFeelsS, sFeelsOk, sFeelsAt, c_1], by simp [sFeelsA, sFeelsS, sFeelsOk, sFeelsAt, c_1]⟩) hP hD hS (by first | omega | decide) (by first | omega | decide) dX4_feels_28
  · obtain ⟨p_2, hp_2, rfl⟩ := sPer_t (by omega) c_1
    have tp_2 : tn (nI p_2) = p_2 := nI_clamp (by omega)
    refine lv_iload_n hx hb dX4_feels_8 rfl (lv_at hl 2 rfl) ?_
    refine lv_iconst (v := 0) hx hb dX4_feels_9 (by decide) ?_
    refine lv_iconst (v := 1) hx hb dX4_feels_10 (by decide) ?_
    refine c_S (rest := []) C (metX4_isIn l G what 0 1) 3 (lw_S q1145 q1146 q42 q1147) (by decide +kernel) ⟨rfl, rfl⟩ ⟨(Nat.le_of_ble_eq_true rfl), (Nat.le_of_ble_eq_true rfl)⟩ (KM_mv G) (hP.sub (ws' := []) [] rfl) hK hl rfl rfl (Nat.le_of_ble_eq_true rfl) ⟨(Nat.le_of_ble_eq_true rfl), (Nat.le_of_ble_eq_true rfl)⟩ dX4_feels_11 ?_
    refine n_if_eqB (b := (sIn what 0 1)) (tgt := 27) hx hb dX4_feels_14 (by decide) (fun c_3 => ?_) (fun c_3 => ?_)
    · refine lv_iconst (v := (-1)) hx hb dX4_feels_27 (by decide) ?_
      exact n_iretW (v := (-1)) (w1 := [(h, mO ad iv), (ad 0, iA G 57 r)]) C (⟨by simp [sFeelsA, sFeelsS, sFeelsOk, sFeelsAt, c_1, tp_2, c_3], by simp [sFeelsA, sFeelsS, sFeelsOk, sFeelsAt, c_1, tp_2, c_3]⟩) hP hD hS (by first | omega | decide) (by first | omega | decide) dX4_feels_28
    · obtain ⟨what_4, hwhat_4, gwhat_4, rfl⟩ := sIn_t (a := 0) (b := 1) (by omega) (by omega) c_3
      have twhat_4 : tn (nI what_4) = what_4 := nI_clamp (by omega)
      refine lv_iload_n hx hb dX4_feels_17 rfl (lv_at hl 3 rfl) ?_
      refine lv_iconst (v := 0) hx hb dX4_feels_18 (by decide) ?_
      refine lv_bipush (v := 30) hx hb dX4_feels_19 (by decide) ?_
      refine c_S (rest := []) C (metX4_isIn l G v 0 30) 3 (lw_S q1145 q1146 q42 q1147) (by decide +kernel) ⟨rfl, rfl⟩ ⟨(Nat.le_of_ble_eq_true rfl), (Nat.le_of_ble_eq_true rfl)⟩ (KM_mv G) (hP.sub (ws' := []) [] rfl) hK hl rfl rfl (Nat.le_of_ble_eq_true rfl) ⟨(Nat.le_of_ble_eq_true rfl), (Nat.le_of_ble_eq_true rfl)⟩ dX4_feels_21 ?_
      refine n_if_neB (b := (sIn v 0 30)) (tgt := 29) hx hb dX4_feels_24 (by decide) (fun c_5 => ?_) (fun c_5 => ?_)
      · obtain ⟨v_6, hv_6, gv_6, rfl⟩ := sIn_t (a := 0) (b := 30) (by omega) (by omega) c_5
        have tv_6 : tn (nI v_6) = v_6 := nI_clamp (by omega)
        refine lv_iload_n hx hb dX4_feels_29 rfl (lv_at hl 1 rfl) ?_
        refine lv_iload_n hx hb dX4_feels_30 rfl (lv_at hl 2 rfl) ?_
        refine n_if_ne (x := what_4) (tgt := 38) hx hb (by omega) dX4_feels_31 (by decide) (fun c_7 => ?_) (fun c_7 => ?_)
        · have zc_7 : ¬ nI what_4 = 0 := nI_ne0 c_7 (by omega)
          have yc_7 : ¬ what_4 = 0 := Nat.ne_of_gt c_7
          refine lv_iconst (v := 3) hx hb dX4_feels_38 (by decide) ?_
          refine c_S (rest := []) C (metX4_of l G p_2 3) 2 (lw_S q1170 q1171 q42 q1172) (by decide +kernel) ⟨rfl, rfl⟩ ⟨(Nat.le_of_ble_eq_true rfl), (Nat.le_of_ble_eq_true rfl)⟩ (KM_mv G) (hP.sub (ws' := []) [] rfl) hK hl rfl rfl (Nat.le_of_ble_eq_true rfl) ⟨(Nat.le_of_ble_eq_true rfl), (Nat.le_of_ble_eq_true rfl)⟩ dX4_feels_39 ?_
          refine lv_istore (lv' := [(4, .int (nI (3 + 6 * p_2 + 3))), (0, .ref h), (1, .int (nI p_2)), (2, .int (nI what_4)), (3, .int (nI v_6))]) hx hb dX4_feels_42 hl (Nat.le_of_ble_eq_true rfl) rfl (fun ls hl => ?_)
          refine lv_aload_n hx hb dX4_feels_44 rfl (lv_at hl 1 rfl) ?_
          refine va_get (D := gD G) (ci := 0) (v := .ref (ad 0)) (C := RX4) (T := TX4) (N := 20) hx hb hts in_X4 hown hK hP 0 rfl rfl 0 (by decide) (hts _ q1073) (fun _ h9 => h9) rfl dX4_feels_45 ?_
          refine lv_iload hx hb dX4_feels_48 (lv_at hl 0 rfl) ?_
          refine n_iald C hK hP 1 (3 + 6 * p_2 + 3) rfl (by omega) (by omega) dX4_feels_50 ?_
          refine lv_istore (lv' := [(5, .int (r (3 + 6 * p_2 + 3))), (4, .int (nI (3 + 6 * p_2 + 3))), (0, .ref h), (1, .int (nI p_2)), (2, .int (nI what_4)), (3, .int (nI v_6))]) hx hb dX4_feels_51 hl (Nat.le_of_ble_eq_true rfl) rfl (fun ls hl => ?_)
          refine lv_aload_n hx hb dX4_feels_53 rfl (lv_at hl 2 rfl) ?_
          refine va_get (D := gD G) (ci := 0) (v := .ref (ad 0)) (C := RX4) (T := TX4) (N := 20) hx hb hts in_X4 hown hK hP 0 rfl rfl 0 (by decide) (hts _ q1073) (fun _ h9 => h9) rfl dX4_feels_54 ?_
          refine lv_iload hx hb dX4_feels_57 (lv_at hl 1 rfl) ?_
          refine lv_iload_n hx hb dX4_feels_59 rfl (lv_at hl 5 rfl) ?_
          refine n_iast (x := nI v_6) C hK hP hD hS 1 (3 + 6 * p_2 + 3) rfl (by omega) (by omega) dX4_feels_60 (fun H locs hP hD hS => ?_)
          have hP : PP G [(h, mO ad iv), (ad 0, iA G 57 (upd r (3 + 6 * p_2 + 3) (nI v_6)))] H := hP
          have hD : va_D A [(h, mO ad iv), (ad 0, iA G 57 (upd r (3 + 6 * p_2 + 3) (nI v_6)))] := hD
          refine lv_iload hx hb dX4_feels_61 (lv_at hl 0 rfl) ?_
          exact n_iretW (v := r (3 + 6 * p_2 + 3)) (w1 := [(h, mO ad iv), (ad 0, iA G 57 (upd r (3 + 6 * p_2 + 3) (nI v_6)))]) C (⟨by simp [sFeelsA, sFeelsS, sFeelsOk, sFeelsAt, c_1, tp_2, c_3, twhat_4, c_5, tv_6, c_7, yc_7, zc_7], by simp [sFeelsA, sFeelsS, sFeelsOk, sFeelsAt, c_1, tp_2, c_3, twhat_4, c_5, tv_6, c_7, yc_7, zc_7]⟩) hP hD hS (by first | omega | decide) (by first | omega | decide) dX4_feels_63
        · obtain rfl := c_7
          have zc_7 : (nI 0 = 0) = True := eq_true rfl
          refine lv_iconst (v := 2) hx hb dX4_feels_34 (by decide) ?_
          refine lv_goto (tgt := 39) hx hb dX4_feels_35 (by decide) ?_
          refine c_S (rest := []) C (metX4_of l G p_2 2) 2 (lw_S q1170 q1171 q42 q1172) (by decide +kernel) ⟨rfl, rfl⟩ ⟨(Nat.le_of_ble_eq_true rfl), (Nat.le_of_ble_eq_true rfl)⟩ (KM_mv G) (hP.sub (ws' := []) [] rfl) hK hl rfl rfl (Nat.le_of_ble_eq_true rfl) ⟨(Nat.le_of_ble_eq_true rfl), (Nat.le_of_ble_eq_true rfl)⟩ dX4_feels_39 ?_
          refine lv_istore (lv' := [(4, .int (nI (3 + 6 * p_2 + 2))), (0, .ref h), (1, .int (nI p_2)), (2, .int (nI 0)), (3, .int (nI v_6))]) hx hb dX4_feels_42 hl (Nat.le_of_ble_eq_true rfl) rfl (fun ls hl => ?_)
          refine lv_aload_n hx hb dX4_feels_44 rfl (lv_at hl 1 rfl) ?_
          refine va_get (D := gD G) (ci := 0) (v := .ref (ad 0)) (C := RX4) (T := TX4) (N := 20) hx hb hts in_X4 hown hK hP 0 rfl rfl 0 (by decide) (hts _ q1073) (fun _ h9 => h9) rfl dX4_feels_45 ?_
          refine lv_iload hx hb dX4_feels_48 (lv_at hl 0 rfl) ?_
          refine n_iald C hK hP 1 (3 + 6 * p_2 + 2) rfl (by omega) (by omega) dX4_feels_50 ?_
          refine lv_istore (lv' := [(5, .int (r (3 + 6 * p_2 + 2))), (4, .int (nI (3 + 6 * p_2 + 2))), (0, .ref h), (1, .int (nI p_2)), (2, .int (nI 0)), (3, .int (nI v_6))]) hx hb dX4_feels_51 hl (Nat.le_of_ble_eq_true rfl) rfl (fun ls hl => ?_)
          refine lv_aload_n hx hb dX4_feels_53 rfl (lv_at hl 2 rfl) ?_
          refine va_get (D := gD G) (ci := 0) (v := .ref (ad 0)) (C := RX4) (T := TX4) (N := 20) hx hb hts in_X4 hown hK hP 0 rfl rfl 0 (by decide) (hts _ q1073) (fun _ h9 => h9) rfl dX4_feels_54 ?_
          refine lv_iload hx hb dX4_feels_57 (lv_at hl 1 rfl) ?_
          refine lv_iload_n hx hb dX4_feels_59 rfl (lv_at hl 5 rfl) ?_
          refine n_iast (x := nI v_6) C hK hP hD hS 1 (3 + 6 * p_2 + 2) rfl (by omega) (by omega) dX4_feels_60 (fun H locs hP hD hS => ?_)
          have hP : PP G [(h, mO ad iv), (ad 0, iA G 57 (upd r (3 + 6 * p_2 + 2) (nI v_6)))] H := hP
          have hD : va_D A [(h, mO ad iv), (ad 0, iA G 57 (upd r (3 + 6 * p_2 + 2) (nI v_6)))] := hD
          refine lv_iload hx hb dX4_feels_61 (lv_at hl 0 rfl) ?_
          exact n_iretW (v := r (3 + 6 * p_2 + 2)) (w1 := [(h, mO ad iv), (ad 0, iA G 57 (upd r (3 + 6 * p_2 + 2) (nI v_6)))]) C (⟨by simp [sFeelsA, sFeelsS, sFeelsOk, sFeelsAt, c_1, tp_2, c_3, twhat_4, c_5, tv_6, zc_7], by simp [sFeelsA, sFeelsS, sFeelsOk, sFeelsAt, c_1, tp_2, c_3, twhat_4, c_5, tv_6, zc_7]⟩) hP hD hS (by first | omega | decide) (by first | omega | decide) dX4_feels_63
      · refine lv_iconst (v := (-1)) hx hb dX4_feels_27 (by decide) ?_
        exact n_iretW (v := (-1)) (w1 := [(h, mO ad iv), (ad 0, iA G 57 r)]) C (⟨by simp [sFeelsA, sFeelsS, sFeelsOk, sFeelsAt, c_1, tp_2, c_3, twhat_4, c_5], by simp [sFeelsA, sFeelsS, sFeelsOk, sFeelsAt, c_1, tp_2, c_3, twhat_4, c_5]⟩) hP hD hS (by first | omega | decide) (by first | omega | decide) dX4_feels_28

set_option maxHeartbeats 4000000 in
set_option maxRecDepth 100000 in
theorem metX4_slices (l : Launch) (G : GG) (h : Nat) (ad : Nat → Nat) (iv : Nat → Int32) (r : Nat → Int32) (v : Int32) : MW l yX4_slices cX4_slices 3 (some .int) ({ frames := 1, cells := 0, slots := 0, locals := 22 }) [.ref h, .int v] [(h, mO ad iv), (ad 0, iA G 57 r)] G (KM G) 0 0 (fun rv w1 => rv = sSlicesA r v ∧ w1 = [(h, mO ad iv), (ad 0, iA G 57 (sSlicesS r v))]) := by
  -- rows printed by wip/tools/gen.py
  refine mw_mk RX4 (by decide) rfl (Nat.le_of_ble_eq_true rfl) ?_
  intro p0_ e0_ s m args below meth c A C hA hP hK hD ls hl
  have hx := C.1
  have hb := C.2.1
  have hml := C.2.2.2.2.1
  have hown := C.2.2.2.2.2.1
  have hts := C.2.2.2.2.2.2
  have hS : va_S A s.heap s.heap [] := va_S.rf
  have hl : lv_has ls 3 [(0, .ref h), (1, .int v)] := hl
  refine lv_iload_n hx hb dX4_slices_0 rfl (lv_at hl 1 rfl) ?_
  refine lv_iconst (v := 0) hx hb dX4_slices_1 (by decide) ?_
  refine lv_bipush (v := 99) hx hb dX4_slices_2 (by decide) ?_
  refine c_S (rest := []) C (metX4_isIn l G v 0 99) 3 (lw_S q1145 q1146 q42 q1147) (by decide +kernel) ⟨rfl, rfl⟩ ⟨(Nat.le_of_ble_eq_true rfl), (Nat.le_of_ble_eq_true rfl)⟩ (KM_mv G) (hP.sub (ws' := []) [] rfl) hK hl rfl rfl (Nat.le_of_ble_eq_true rfl) ⟨(Nat.le_of_ble_eq_true rfl), (Nat.le_of_ble_eq_true rfl)⟩ dX4_slices_4 ?_
  refine n_if_neB (b := (sIn v 0 99)) (tgt := 12) hx hb dX4_slices_7 (by decide) (fun c_1 => ?_) (fun c_1 => ?_)
  · obtain ⟨v_2, hv_2, gv_2, rfl⟩ := sIn_t (a := 0) (b := 99) (by omega) (by omega) c_1
    have tv_2 : tn (nI v_2) = v_2 := nI_clamp (by omega)
    refine lv_aload_n hx hb dX4_slices_12 rfl (lv_at hl 0 rfl) ?_
    refine va_get (D := gD G) (ci := 0) (v := .ref (ad 0)) (C := RX4) (T := TX4) (N := 20) hx hb hts in_X4 hown hK hP 0 rfl rfl 0 (by decide) (hts _ q1073) (fun _ h9 => h9) rfl dX4_slices_13 ?_
    refine lv_iconst (v := 1) hx hb dX4_slices_16 (by decide) ?_
    refine n_iald C hK hP 1 1 rfl (by omega) (by omega) dX4_slices_17 ?_
    refine lv_istore_n (lv' := [(2, .int (r 1)), (0, .ref h), (1, .int (nI v_2))]) hx hb dX4_slices_18 rfl hl (Nat.le_of_ble_eq_true rfl) rfl (fun ls hl => ?_)
    refine lv_aload_n hx hb dX4_slices_19 rfl (lv_at hl 1 rfl) ?_
    refine va_get (D := gD G) (ci := 0) (v := .ref (ad 0)) (C := RX4) (T := TX4) (N := 20) hx hb hts in_X4 hown hK hP 0 rfl rfl 0 (by decide) (hts _ q1073) (fun _ h9 => h9) rfl dX4_slices_20 ?_
    refine lv_iconst (v := 1) hx hb dX4_slices_23 (by decide) ?_
    refine lv_iload_n hx hb dX4_slices_24 rfl (lv_at hl 2 rfl) ?_
    refine n_iast (x := nI v_2) C hK hP hD hS 1 1 rfl (by omega) (by omega) dX4_slices_25 (fun H locs hP hD hS => ?_)
    have hP : PP G [(h, mO ad iv), (ad 0, iA G 57 (upd r 1 (nI v_2)))] H := hP
    have hD : va_D A [(h, mO ad iv), (ad 0, iA G 57 (upd r 1 (nI v_2)))] := hD
    refine lv_iload_n hx hb dX4_slices_26 rfl (lv_at hl 0 rfl) ?_
    exact n_iretW (v := r 1) (w1 := [(h, mO ad iv), (ad 0, iA G 57 (upd r 1 (nI v_2)))]) C (⟨by simp [sSlicesA, sSlicesS, c_1, tv_2], by simp [sSlicesA, sSlicesS, c_1, tv_2]⟩) hP hD hS (by first | omega | decide) (by first | omega | decide) dX4_slices_27
  · refine lv_iconst (v := (-1)) hx hb dX4_slices_10 (by decide) ?_
    exact n_iretW (v := (-1)) (w1 := [(h, mO ad iv), (ad 0, iA G 57 r)]) C (⟨by simp [sSlicesA, sSlicesS, c_1], by simp [sSlicesA, sSlicesS, c_1]⟩) hP hD hS (by first | omega | decide) (by first | omega | decide) dX4_slices_11

set_option maxHeartbeats 4000000 in
set_option maxRecDepth 100000 in
theorem metX4_eats (l : Launch) (G : GG) (h : Nat) (ad : Nat → Nat) (iv : Nat → Int32) (r : Nat → Int32) (N : Nat) (p q : Int32) (hN : N ≤ 9) (hr : r 0 = nI N) : MW l yX4_eats cX4_eats 4 (some .int) ({ frames := 5, cells := 0, slots := 0, locals := 109 }) [.ref h, .int p, .int q] [(h, mO ad iv), (ad 0, iA G 57 r)] G (KM G) 0 0 (fun rv w1 => rv = sEatsA r N p q ∧ w1 = [(h, mO ad iv), (ad 0, iA G 57 (sEatsS r N p q))]) := by
  -- rows printed by wip/tools/gen.py
  refine mw_mk RX4 (by decide) rfl (Nat.le_of_ble_eq_true rfl) ?_
  intro p0_ e0_ s m args below meth c A C hA hP hK hD ls hl
  have hx := C.1
  have hb := C.2.1
  have hml := C.2.2.2.2.1
  have hown := C.2.2.2.2.2.1
  have hts := C.2.2.2.2.2.2
  have hS : va_S A s.heap s.heap [] := va_S.rf
  have hl : lv_has ls 4 [(0, .ref h), (1, .int p), (2, .int q)] := hl
  refine lv_aload_n hx hb dX4_eats_0 rfl (lv_at hl 0 rfl) ?_
  refine lv_iload_n hx hb dX4_eats_1 rfl (lv_at hl 1 rfl) ?_
  refine lv_iload_n hx hb dX4_eats_2 rfl (lv_at hl 2 rfl) ?_
  refine c_V (rest := []) C (metX4_wrongTurn l G h ad iv r N p q (by omega) (hr)) 2 (lw_V q1237 q1239 qs30 q42 q1240) (by decide +kernel) ⟨rfl, rfl⟩ ⟨(Nat.le_of_ble_eq_true rfl), (Nat.le_of_ble_eq_true rfl)⟩ (KM_mv G) (va_recv hK hP (ci := 0) (q0 := 0) rfl rfl) hP hK hl rfl rfl (Nat.le_of_ble_eq_true rfl) ⟨(Nat.le_of_ble_eq_true rfl), (Nat.le_of_ble_eq_true rfl)⟩ dX4_eats_3 ?_
  refine lv_istore_n (lv' := [(3, .int (sWT r N p q)), (0, .ref h), (1, .int p), (2, .int q)]) hx hb dX4_eats_6 rfl hl (Nat.le_of_ble_eq_true rfl) rfl (fun ls hl => ?_)
  refine lv_iload_n hx hb dX4_eats_7 rfl (lv_at hl 0 rfl) ?_
  refine lv_if_ne (x := sWT r N p q) (tgt := 26) hx hb dX4_eats_8 (by decide) (fun c_1 => ?_) (fun c_1 => ?_)
  · refine lv_iload_n hx hb dX4_eats_26 rfl (lv_at hl 0 rfl) ?_
    refine lv_if_eq (x := sWT r N p q) (tgt := 34) hx hb dX4_eats_27 (by decide) (fun c_2 => absurd c_2 (c_1)) (fun c_2 => ?_)
    refine lv_iload_n hx hb dX4_eats_30 rfl (lv_at hl 0 rfl) ?_
    refine lv_goto (tgt := 43) hx hb dX4_eats_31 (by decide) ?_
    exact n_iretW (v := sWT r N p q) (w1 := [(h, mO ad iv), (ad 0, iA G 57 r)]) C (⟨by simp [sEatsA, sEatsS, c_1, c_2], by simp [sEatsA, sEatsS, c_1, c_2]⟩) hP hD hS (by first | omega | decide) (by first | omega | decide) dX4_eats_43
  · rw [c_1] at hl
    obtain ⟨pn, qn, gp, gq, k1, k2, rfl, rfl⟩ := sWT_0 (by omega) c_1
    have t_pn : tn (nI pn) = pn := nI_clamp (by omega)
    have t_qn : tn (nI qn) = qn := nI_clamp (by omega)
    refine lv_aload_n hx hb dX4_eats_11 rfl (lv_at hl 1 rfl) ?_
    refine va_get (D := gD G) (ci := 0) (v := .ref (ad 0)) (C := RX4) (T := TX4) (N := 20) hx hb hts in_X4 hown hK hP 0 rfl rfl 0 (by decide) (hts _ q1073) (fun _ h9 => h9) rfl dX4_eats_12 ?_
    refine lv_iconst (v := 2) hx hb dX4_eats_15 (by decide) ?_
    refine n_iald C hK hP 1 2 rfl (by omega) (by omega) dX4_eats_16 ?_
    refine lv_sipush (v := 999) hx hb dX4_eats_17 (by decide) ?_
    refine lv_icmp_ne (x := r 2) (y := 999) (tgt := 26) hx hb dX4_eats_20 (by decide) (fun c_3 => ?_) (fun c_3 => ?_)
    · refine lv_iload_n hx hb dX4_eats_26 rfl (lv_at hl 0 rfl) ?_
      refine lv_if_eq (x := 0) (tgt := 34) hx hb dX4_eats_27 (by decide) (fun c_4 => ?_) (fun c_4 => absurd c_4 (by decide))
      refine lv_aload_n hx hb dX4_eats_34 rfl (lv_at hl 1 rfl) ?_
      refine va_get (D := gD G) (ci := 0) (v := .ref (ad 0)) (C := RX4) (T := TX4) (N := 20) hx hb hts in_X4 hown hK hP 0 rfl rfl 0 (by decide) (hts _ q1073) (fun _ h9 => h9) rfl dX4_eats_35 ?_
      refine lv_iload_n hx hb dX4_eats_38 rfl (lv_at hl 2 rfl) ?_
      refine lv_iload_n hx hb dX4_eats_39 rfl (lv_at hl 3 rfl) ?_
      refine c_SW (wr := [(h, mO ad iv)]) (rest := []) C (metX4_turn l G (ad 0) r pn qn (by omega) (by omega)) 3 (lw_S q1183 q1184 q42 q1185) (by decide +kernel) ⟨rfl, rfl⟩ ⟨(Nat.le_of_ble_eq_true rfl), (Nat.le_of_ble_eq_true rfl)⟩ (KM_mv G) hK hA hP hD hS [1] [0] rfl rfl rfl rfl (by decide) hl rfl rfl (Nat.le_of_ble_eq_true rfl) ⟨(Nat.le_of_ble_eq_true rfl), (Nat.le_of_ble_eq_true rfl)⟩ dX4_eats_40 (fun r_5 w1 H locs hq_6 hP hD hS => ?_)
      obtain ⟨rfl, rfl⟩ := hq_6
      have hP : PP G [(h, mO ad iv), (ad 0, iA G 57 (sTurn r pn qn))] H := hP
      have hD : va_D A [(h, mO ad iv), (ad 0, iA G 57 (sTurn r pn qn))] := hD
      exact n_iretW (v := sJoy r pn qn) (w1 := [(h, mO ad iv), (ad 0, iA G 57 (sTurn r pn qn))]) C (⟨by simp [sEatsA, sEatsS, c_1, t_pn, t_qn, k1, k2, c_3, c_4], by simp [sEatsA, sEatsS, c_1, t_pn, t_qn, k1, k2, c_3, c_4]⟩) hP hD hS (by first | omega | decide) (by first | omega | decide) dX4_eats_43
    · refine lv_bipush (v := (-3)) hx hb dX4_eats_23 (by decide) ?_
      refine lv_istore_n (lv' := [(3, .int (-3)), (0, .ref h), (1, .int (nI pn)), (2, .int (nI qn))]) hx hb dX4_eats_25 rfl hl (Nat.le_of_ble_eq_true rfl) rfl (fun ls hl => ?_)
      refine lv_iload_n hx hb dX4_eats_26 rfl (lv_at hl 0 rfl) ?_
      refine lv_if_eq (x := (-3)) (tgt := 34) hx hb dX4_eats_27 (by decide) (fun c_7 => absurd c_7 (by decide)) (fun c_7 => ?_)
      refine lv_iload_n hx hb dX4_eats_30 rfl (lv_at hl 0 rfl) ?_
      refine lv_goto (tgt := 43) hx hb dX4_eats_31 (by decide) ?_
      exact n_iretW (v := (-3)) (w1 := [(h, mO ad iv), (ad 0, iA G 57 r)]) C (⟨by simp [sEatsA, sEatsS, c_1, t_pn, t_qn, k1, k2, c_3, c_7], by simp [sEatsA, sEatsS, c_1, t_pn, t_qn, k1, k2, c_3, c_7]⟩) hP hD hS (by first | omega | decide) (by first | omega | decide) dX4_eats_43

set_option maxHeartbeats 4000000 in
set_option maxRecDepth 100000 in
theorem metX4_joys (l : Launch) (G : GG) (h : Nat) (ad : Nat → Nat) (iv : Nat → Int32) (r : Nat → Int32) (N : Nat) (p q what : Int32) (hN : N ≤ 9) (hr : r 0 = nI N) : MR l yX4_joys cX4_joys 5 (some .int) ({ frames := 4, cells := 0, slots := 0, locals := 86 }) [.ref h, .int p, .int q, .int what] [(h, mO ad iv), (ad 0, iA G 57 r)] G (KM G) (sJoysA r N p q what) := by
  -- rows printed by wip/tools/gen.py
  refine mr_mk RX4 (by decide) rfl (Nat.le_of_ble_eq_true rfl) ?_
  intro p0_ e0_ s m args below meth c C hP hK ls hl
  have hx := C.1
  have hb := C.2.1
  have hml := C.2.2.2.2.1
  have hown := C.2.2.2.2.2.1
  have hts := C.2.2.2.2.2.2
  have hl : lv_has ls 5 [(0, .ref h), (1, .int p), (2, .int q), (3, .int what)] := hl
  refine lv_iload_n hx hb dX4_joys_0 rfl (lv_at hl 3 rfl) ?_
  refine lv_iconst (v := 0) hx hb dX4_joys_1 (by decide) ?_
  refine lv_iconst (v := 2) hx hb dX4_joys_2 (by decide) ?_
  refine c_S (rest := []) C (metX4_isIn l G what 0 2) 3 (lw_S q1145 q1146 q42 q1147) (by decide +kernel) ⟨rfl, rfl⟩ ⟨(Nat.le_of_ble_eq_true rfl), (Nat.le_of_ble_eq_true rfl)⟩ (KM_mv G) (hP.sub (ws' := []) [] rfl) hK hl rfl rfl (Nat.le_of_ble_eq_true rfl) ⟨(Nat.le_of_ble_eq_true rfl), (Nat.le_of_ble_eq_true rfl)⟩ dX4_joys_3 ?_
  refine n_if_neB (b := (sIn what 0 2)) (tgt := 11) hx hb dX4_joys_6 (by decide) (fun c_1 => ?_) (fun c_1 => ?_)
  · obtain ⟨what_2, hwhat_2, gwhat_2, rfl⟩ := sIn_t (a := 0) (b := 2) (by omega) (by omega) c_1
    have twhat_2 : tn (nI what_2) = what_2 := nI_clamp (by omega)
    refine lv_aload_n hx hb dX4_joys_11 rfl (lv_at hl 0 rfl) ?_
    refine lv_iload_n hx hb dX4_joys_12 rfl (lv_at hl 1 rfl) ?_
    refine lv_iload_n hx hb dX4_joys_13 rfl (lv_at hl 2 rfl) ?_
    refine c_V (rest := []) C (metX4_wrongTurn l G h ad iv r N p q (by omega) (hr)) 2 (lw_V q1237 q1239 qs30 q42 q1240) (by decide +kernel) ⟨rfl, rfl⟩ ⟨(Nat.le_of_ble_eq_true rfl), (Nat.le_of_ble_eq_true rfl)⟩ (KM_mv G) (va_recv hK hP (ci := 0) (q0 := 0) rfl rfl) hP hK hl rfl rfl (Nat.le_of_ble_eq_true rfl) ⟨(Nat.le_of_ble_eq_true rfl), (Nat.le_of_ble_eq_true rfl)⟩ dX4_joys_14 ?_
    refine lv_istore (lv' := [(4, .int (sWT r N p q)), (0, .ref h), (1, .int p), (2, .int q), (3, .int (nI what_2))]) hx hb dX4_joys_17 hl (Nat.le_of_ble_eq_true rfl) rfl (fun ls hl => ?_)
    refine lv_iload hx hb dX4_joys_19 (lv_at hl 0 rfl) ?_
    refine lv_if_eq (x := sWT r N p q) (tgt := 27) hx hb dX4_joys_21 (by decide) (fun c_3 => ?_) (fun c_3 => ?_)
    · obtain ⟨pn, qn, gp, gq, k1, k2, rfl, rfl⟩ := sWT_0 (by omega) c_3
      have t_pn : tn (nI pn) = pn := nI_clamp (by omega)
      have t_qn : tn (nI qn) = qn := nI_clamp (by omega)
      refine lv_iload_n hx hb dX4_joys_27 rfl (lv_at hl 4 rfl) ?_
      refine n_if_ne (x := what_2) (tgt := 43) hx hb (by omega) dX4_joys_28 (by decide) (fun c_4 => ?_) (fun c_4 => ?_)
      · have zc_4 : ¬ nI what_2 = 0 := nI_ne0 c_4 (by omega)
        have yc_4 : ¬ what_2 = 0 := Nat.ne_of_gt c_4
        refine lv_iload_n hx hb dX4_joys_43 rfl (lv_at hl 4 rfl) ?_
        refine lv_iconst (v := 1) hx hb dX4_joys_44 (by decide) ?_
        refine n_ic_ne (x := what_2) (y := 1) (tgt := 60) hx hb (by omega) (by omega) dX4_joys_45 (by decide) (fun c_5 => ?_) (fun c_5 => ?_)
        · have zc_5 : ¬ nI what_2 = 1 := fun q => c_5 ((nI_eq (by omega) (by omega)).mp q)
          refine lv_aload_n hx hb dX4_joys_60 rfl (lv_at hl 1 rfl) ?_
          refine va_get (D := gD G) (ci := 0) (v := .ref (ad 0)) (C := RX4) (T := TX4) (N := 20) hx hb hts in_X4 hown hK hP 0 rfl rfl 0 (by decide) (hts _ q1073) (fun _ h9 => h9) rfl dX4_joys_61 ?_
          refine lv_iload_n hx hb dX4_joys_64 rfl (lv_at hl 3 rfl) ?_
          refine c_S (rest := []) C (metX4_gazes l G (ad 0) r qn (by omega)) 2 (lw_S q1207 q1208 q42 q1209) (by decide +kernel) ⟨rfl, rfl⟩ ⟨(Nat.le_of_ble_eq_true rfl), (Nat.le_of_ble_eq_true rfl)⟩ (KM_mv G) (hP.sub (ws' := [(ad 0, iA G 57 r)]) [1] rfl) hK hl rfl rfl (Nat.le_of_ble_eq_true rfl) ⟨(Nat.le_of_ble_eq_true rfl), (Nat.le_of_ble_eq_true rfl)⟩ dX4_joys_65 ?_
          exact n_iret (v := sGazes r qn) C (by simp [sJoysA, c_1, twhat_2, c_3, t_pn, t_qn, k1, k2, c_4, yc_4, zc_4, c_5, zc_5]) dX4_joys_68
        · obtain rfl := c_5
          have zc_5 : (nI 1 = 1) = True := eq_true rfl
          refine lv_aload_n hx hb dX4_joys_48 rfl (lv_at hl 1 rfl) ?_
          refine va_get (D := gD G) (ci := 0) (v := .ref (ad 0)) (C := RX4) (T := TX4) (N := 20) hx hb hts in_X4 hown hK hP 0 rfl rfl 0 (by decide) (hts _ q1073) (fun _ h9 => h9) rfl dX4_joys_49 ?_
          refine lv_iload_n hx hb dX4_joys_52 rfl (lv_at hl 2 rfl) ?_
          refine lv_iload_n hx hb dX4_joys_53 rfl (lv_at hl 3 rfl) ?_
          refine c_S (rest := []) C (metX4_eaterJoy l G (ad 0) r pn qn (by omega) (by omega)) 3 (lw_S q1189 q1190 q42 q1191) (by decide +kernel) ⟨rfl, rfl⟩ ⟨(Nat.le_of_ble_eq_true rfl), (Nat.le_of_ble_eq_true rfl)⟩ (KM_mv G) (hP.sub (ws' := [(ad 0, iA G 57 r)]) [1] rfl) hK hl rfl rfl (Nat.le_of_ble_eq_true rfl) ⟨(Nat.le_of_ble_eq_true rfl), (Nat.le_of_ble_eq_true rfl)⟩ dX4_joys_54 ?_
          refine lv_goto (tgt := 68) hx hb dX4_joys_57 (by decide) ?_
          exact n_iret (v := sJoyE r pn qn) C (by simp [sJoysA, c_1, twhat_2, c_3, t_pn, t_qn, k1, k2, c_4, yc_4, zc_4, zc_5]) dX4_joys_68
      · obtain rfl := c_4
        have zc_4 : (nI 0 = 0) = True := eq_true rfl
        refine lv_aload_n hx hb dX4_joys_31 rfl (lv_at hl 1 rfl) ?_
        refine va_get (D := gD G) (ci := 0) (v := .ref (ad 0)) (C := RX4) (T := TX4) (N := 20) hx hb hts in_X4 hown hK hP 0 rfl rfl 0 (by decide) (hts _ q1073) (fun _ h9 => h9) rfl dX4_joys_32 ?_
        refine lv_iload_n hx hb dX4_joys_35 rfl (lv_at hl 2 rfl) ?_
        refine lv_iload_n hx hb dX4_joys_36 rfl (lv_at hl 3 rfl) ?_
        refine c_S (rest := []) C (metX4_joysOf l G (ad 0) r pn qn (by omega) (by omega)) 3 (lw_S q1186 q1187 q42 q1188) (by decide +kernel) ⟨rfl, rfl⟩ ⟨(Nat.le_of_ble_eq_true rfl), (Nat.le_of_ble_eq_true rfl)⟩ (KM_mv G) (hP.sub (ws' := [(ad 0, iA G 57 r)]) [1] rfl) hK hl rfl rfl (Nat.le_of_ble_eq_true rfl) ⟨(Nat.le_of_ble_eq_true rfl), (Nat.le_of_ble_eq_true rfl)⟩ dX4_joys_37 ?_
        refine lv_goto (tgt := 68) hx hb dX4_joys_40 (by decide) ?_
        exact n_iret (v := sJoy r pn qn) C (by simp [sJoysA, c_1, twhat_2, c_3, t_pn, t_qn, k1, k2, zc_4]) dX4_joys_68
    · refine lv_iload hx hb dX4_joys_24 (lv_at hl 0 rfl) ?_
      exact n_iret (v := sWT r N p q) C (by simp [sJoysA, c_1, twhat_2, c_3]) dX4_joys_26
  · refine lv_iconst (v := (-1)) hx hb dX4_joys_9 (by decide) ?_
    exact n_iret (v := (-1)) C (by simp [sJoysA, c_1]) dX4_joys_10

set_option maxHeartbeats 4000000 in
set_option maxRecDepth 100000 in
theorem metX4_who (l : Launch) (G : GG) (h : Nat) (ad : Nat → Nat) (iv : Nat → Int32) (r : Nat → Int32) (N : Nat) (what : Int32) (hN : N ≤ 9) (hr : r 0 = nI N) : MR l yX4_who cX4_who 5 (some .int) ({ frames := 3, cells := 0, slots := 0, locals := 64 }) [.ref h, .int what] [(h, mO ad iv), (ad 0, iA G 57 r)] G (KM G) (sWhoA r N what) := by
  -- rows printed by wip/tools/gen.py
  refine mr_mk RX4 (by decide) rfl (Nat.le_of_ble_eq_true rfl) ?_
  intro p0_ e0_ s m args below meth c C hP hK ls hl
  have hx := C.1
  have hb := C.2.1
  have hml := C.2.2.2.2.1
  have hown := C.2.2.2.2.2.1
  have hts := C.2.2.2.2.2.2
  have hl : lv_has ls 5 [(0, .ref h), (1, .int what)] := hl
  refine lv_iload_n hx hb dX4_who_0 rfl (lv_at hl 1 rfl) ?_
  refine lv_iconst (v := 0) hx hb dX4_who_1 (by decide) ?_
  refine lv_iconst (v := 1) hx hb dX4_who_2 (by decide) ?_
  refine c_S (rest := []) C (metX4_isIn l G what 0 1) 3 (lw_S q1145 q1146 q42 q1147) (by decide +kernel) ⟨rfl, rfl⟩ ⟨(Nat.le_of_ble_eq_true rfl), (Nat.le_of_ble_eq_true rfl)⟩ (KM_mv G) (hP.sub (ws' := []) [] rfl) hK hl rfl rfl (Nat.le_of_ble_eq_true rfl) ⟨(Nat.le_of_ble_eq_true rfl), (Nat.le_of_ble_eq_true rfl)⟩ dX4_who_3 ?_
  refine n_if_neB (b := (sIn what 0 1)) (tgt := 11) hx hb dX4_who_6 (by decide) (fun c_1 => ?_) (fun c_1 => ?_)
  · obtain ⟨what_2, hwhat_2, gwhat_2, rfl⟩ := sIn_t (a := 0) (b := 1) (by omega) (by omega) c_1
    have twhat_2 : tn (nI what_2) = what_2 := nI_clamp (by omega)
    refine lv_iconst (v := 0) hx hb dX4_who_11 (by decide) ?_
    refine lv_istore_n (lv' := [(2, .int 0), (0, .ref h), (1, .int (nI what_2))]) hx hb dX4_who_12 rfl hl (Nat.le_of_ble_eq_true rfl) rfl (fun ls hl => ?_)
    refine lv_iconst (v := 0) hx hb dX4_who_13 (by decide) ?_
    refine lv_istore_n (lv' := [(3, .int 0), (2, .int 0), (0, .ref h), (1, .int (nI what_2))]) hx hb dX4_who_14 rfl hl (Nat.le_of_ble_eq_true rfl) rfl (fun ls hl => ?_)
    suffices hlp_3 : (∀ (n i : Nat), i + n = N → ∀ (ls : Array Slot), lv_has ls 5 [(3, .int (nI i)), (2, .int (whO r (nI what_2) N i)), (0, .ref h), (1, .int (nI what_2))] → W p0_ l e0_ ({ frames := 3, cells := 0, slots := 0, locals := 64 } : Room) s m args below meth c s.heap [] (0) (0) (MQ below (vp_Si (fun rr9 => rr9 = sWhoA r N (nI what_2))) args s 0 0 (fun _ => False)) (F0 m 15 ls [])) by
      exact hlp_3 (N) 0 (by omega) ls (lv_sub hl [0, 1, 2, 3] rfl)
    have hend_3 : ∀ (ls : Array Slot), lv_has ls 5 [(3, .int (nI N)), (2, .int (whO r (nI what_2) N N)), (0, .ref h), (1, .int (nI what_2))] → W p0_ l e0_ ({ frames := 3, cells := 0, slots := 0, locals := 64 } : Room) s m args below meth c s.heap [] (0) (0) (MQ below (vp_Si (fun rr9 => rr9 = sWhoA r N (nI what_2))) args s 0 0 (fun _ => False)) (F0 m 15 ls []) := by
      intro ls hl
      refine lv_iload_n hx hb dX4_who_15 rfl (lv_at hl 0 rfl) ?_
      refine lv_aload_n hx hb dX4_who_16 rfl (lv_at hl 2 rfl) ?_
      refine va_get (D := gD G) (ci := 0) (v := .ref (ad 0)) (C := RX4) (T := TX4) (N := 20) hx hb hts in_X4 hown hK hP 0 rfl rfl 0 (by decide) (hts _ q1073) (fun _ h9 => h9) rfl dX4_who_17 ?_
      refine lv_iconst (v := 0) hx hb dX4_who_20 (by decide) ?_
      refine n_iald C hK hP 1 0 rfl (by omega) (by omega) dX4_who_21 ?_
      refine n_eqi (hr) ?_
      refine n_ic_ge (x := N) (y := N) (tgt := 83) hx hb (by omega) (by omega) dX4_who_22 (by decide) (fun c_4 => ?_) (fun c_4 => absurd c_4 (by omega))
      refine lv_iload_n hx hb dX4_who_83 rfl (lv_at hl 1 rfl) ?_
      exact n_iret (v := whO r (nI what_2) N N) C (by simp [sWhoA, c_1, twhat_2, c_4]) dX4_who_84
    intro n
    induction n with
    | zero =>
      intro i hi_3 ls hl
      obtain e_3 : i = N := by omega
      first | (subst e_3; exact hend_3 ls hl) | (rw [e_3] at hl; exact hend_3 ls hl)
    | succ n ih_3 =>
      intro i hi_3 ls hl
      refine lv_iload_n hx hb dX4_who_15 rfl (lv_at hl 0 rfl) ?_
      refine lv_aload_n hx hb dX4_who_16 rfl (lv_at hl 2 rfl) ?_
      refine va_get (D := gD G) (ci := 0) (v := .ref (ad 0)) (C := RX4) (T := TX4) (N := 20) hx hb hts in_X4 hown hK hP 0 rfl rfl 0 (by decide) (hts _ q1073) (fun _ h9 => h9) rfl dX4_who_17 ?_
      refine lv_iconst (v := 0) hx hb dX4_who_20 (by decide) ?_
      refine n_iald C hK hP 1 0 rfl (by omega) (by omega) dX4_who_21 ?_
      refine n_eqi (hr) ?_
      refine n_ic_ge (x := i) (y := N) (tgt := 83) hx hb (by omega) (by omega) dX4_who_22 (by decide) (fun c_5 => absurd c_5 (by omega)) (fun c_5 => ?_)
      refine lv_iconst (v := 0) hx hb dX4_who_25 (by decide) ?_
      refine lv_istore (lv' := [(4, .int 0), (3, .int (nI i)), (2, .int (whO r (nI what_2) N i)), (0, .ref h), (1, .int (nI what_2))]) hx hb dX4_who_26 hl (Nat.le_of_ble_eq_true rfl) rfl (fun ls hl => ?_)
      suffices hlp_6 : (∀ (n j : Nat), j + n = N → ∀ (ls : Array Slot), lv_has ls 5 [(4, .int (nI j)), (3, .int (nI i)), (2, .int (whI r (nI what_2) i (whO r (nI what_2) N i) j)), (0, .ref h), (1, .int (nI what_2))] → W p0_ l e0_ ({ frames := 3, cells := 0, slots := 0, locals := 64 } : Room) s m args below meth c s.heap [] (0) (0) (MQ below (vp_Si (fun rr9 => rr9 = sWhoA r N (nI what_2))) args s 0 0 (fun _ => False)) (F0 m 28 ls [])) by
        exact hlp_6 (N) 0 (by omega) ls (lv_sub hl [0, 1, 2, 3, 4] rfl)
      have hend_6 : ∀ (ls : Array Slot), lv_has ls 5 [(4, .int (nI N)), (3, .int (nI i)), (2, .int (whI r (nI what_2) i (whO r (nI what_2) N i) N)), (0, .ref h), (1, .int (nI what_2))] → W p0_ l e0_ ({ frames := 3, cells := 0, slots := 0, locals := 64 } : Room) s m args below meth c s.heap [] (0) (0) (MQ below (vp_Si (fun rr9 => rr9 = sWhoA r N (nI what_2))) args s 0 0 (fun _ => False)) (F0 m 28 ls []) := by
        intro ls hl
        refine lv_iload hx hb dX4_who_28 (lv_at hl 0 rfl) ?_
        refine lv_aload_n hx hb dX4_who_30 rfl (lv_at hl 3 rfl) ?_
        refine va_get (D := gD G) (ci := 0) (v := .ref (ad 0)) (C := RX4) (T := TX4) (N := 20) hx hb hts in_X4 hown hK hP 0 rfl rfl 0 (by decide) (hts _ q1073) (fun _ h9 => h9) rfl dX4_who_31 ?_
        refine lv_iconst (v := 0) hx hb dX4_who_34 (by decide) ?_
        refine n_iald C hK hP 1 0 rfl (by omega) (by omega) dX4_who_35 ?_
        refine n_eqi (hr) ?_
        refine n_ic_ge (x := N) (y := N) (tgt := 77) hx hb (by omega) (by omega) dX4_who_36 (by decide) (fun c_7 => ?_) (fun c_7 => absurd c_7 (by omega))
        refine n_iinc (k := 1) (lv' := [(3, .int (nI (i + 1))), (4, .int (nI N)), (2, .int (whI r (nI what_2) i (whO r (nI what_2) N i) N)), (0, .ref h), (1, .int (nI what_2))]) hx hb i 1 dX4_who_77 hl rfl (Nat.le_of_ble_eq_true rfl) rfl (fun ls hl => ?_)
        refine lv_goto (tgt := 15) hx hb dX4_who_80 (by decide) ?_
        have e_8 : whO r (nI what_2) N (i + 1) = whI r (nI what_2) i (whO r (nI what_2) N i) N := by rfl
        exact ih_3 (i + 1) (by omega) ls (by rw [e_8]; exact lv_sub hl [0, 2, 3, 4] rfl)
      intro n
      induction n with
      | zero =>
        intro j hi_6 ls hl
        obtain e_6 : j = N := by omega
        first | (subst e_6; exact hend_6 ls hl) | (rw [e_6] at hl; exact hend_6 ls hl)
      | succ n ih_6 =>
        intro j hi_6 ls hl
        refine lv_iload hx hb dX4_who_28 (lv_at hl 0 rfl) ?_
        refine lv_aload_n hx hb dX4_who_30 rfl (lv_at hl 3 rfl) ?_
        refine va_get (D := gD G) (ci := 0) (v := .ref (ad 0)) (C := RX4) (T := TX4) (N := 20) hx hb hts in_X4 hown hK hP 0 rfl rfl 0 (by decide) (hts _ q1073) (fun _ h9 => h9) rfl dX4_who_31 ?_
        refine lv_iconst (v := 0) hx hb dX4_who_34 (by decide) ?_
        refine n_iald C hK hP 1 0 rfl (by omega) (by omega) dX4_who_35 ?_
        refine n_eqi (hr) ?_
        refine n_ic_ge (x := j) (y := N) (tgt := 77) hx hb (by omega) (by omega) dX4_who_36 (by decide) (fun c_9 => absurd c_9 (by omega)) (fun c_9 => ?_)
        refine lv_iload_n hx hb dX4_who_39 rfl (lv_at hl 2 rfl) ?_
        refine lv_aload_n hx hb dX4_who_40 rfl (lv_at hl 3 rfl) ?_
        refine va_get (D := gD G) (ci := 0) (v := .ref (ad 0)) (C := RX4) (T := TX4) (N := 20) hx hb hts in_X4 hown hK hP 0 rfl rfl 0 (by decide) (hts _ q1073) (fun _ h9 => h9) rfl dX4_who_41 ?_
        refine lv_iload_n hx hb dX4_who_44 rfl (lv_at hl 1 rfl) ?_
        refine lv_iload hx hb dX4_who_45 (lv_at hl 0 rfl) ?_
        refine c_S (rest := [.int (whI r (nI what_2) i (whO r (nI what_2) N i) j)]) C (metX4_canEat l G (ad 0) r i j (by omega) (by omega)) 3 (lw_S q1177 q1178 q42 q1179) (by decide +kernel) ⟨rfl, rfl⟩ ⟨(Nat.le_of_ble_eq_true rfl), (Nat.le_of_ble_eq_true rfl)⟩ (KM_mv G) (hP.sub (ws' := [(ad 0, iA G 57 r)]) [1] rfl) hK hl rfl rfl (Nat.le_of_ble_eq_true rfl) ⟨(Nat.le_of_ble_eq_true rfl), (Nat.le_of_ble_eq_true rfl)⟩ dX4_who_47 ?_
        refine n_if_eqB (b := (sEat r i j)) (tgt := 68) hx hb dX4_who_50 (by decide) (fun c_10 => ?_) (fun c_10 => ?_)
        · refine lv_iconst (v := 0) hx hb dX4_who_68 (by decide) ?_
          refine lv_ior (x := whI r (nI what_2) i (whO r (nI what_2) N i) j) (y := 0) hx hb dX4_who_69 ?_
          refine lv_istore_n (lv' := [(2, .int ((whI r (nI what_2) i (whO r (nI what_2) N i) j) ||| 0)), (4, .int (nI j)), (3, .int (nI i)), (0, .ref h), (1, .int (nI what_2))]) hx hb dX4_who_70 rfl hl (Nat.le_of_ble_eq_true rfl) rfl (fun ls hl => ?_)
          refine n_iinc (k := 1) (lv' := [(4, .int (nI (j + 1))), (2, .int ((whI r (nI what_2) i (whO r (nI what_2) N i) j) ||| 0)), (3, .int (nI i)), (0, .ref h), (1, .int (nI what_2))]) hx hb j 1 dX4_who_71 hl rfl (Nat.le_of_ble_eq_true rfl) rfl (fun ls hl => ?_)
          refine lv_goto (tgt := 28) hx hb dX4_who_74 (by decide) ?_
          have e_11 : whI r (nI what_2) i (whO r (nI what_2) N i) (j + 1) = (whI r (nI what_2) i (whO r (nI what_2) N i) j) ||| 0 := by simp [whI, whS, twhat_2, c_9, c_10]
          exact ih_6 (j + 1) (by omega) ls (by rw [e_11]; exact lv_sub hl [0, 2, 1, 3, 4] rfl)
        · refine lv_iconst (v := 1) hx hb dX4_who_53 (by decide) ?_
          refine lv_iload_n hx hb dX4_who_54 rfl (lv_at hl 4 rfl) ?_
          refine n_if_ne (x := what_2) (tgt := 62) hx hb (by omega) dX4_who_55 (by decide) (fun c_12 => ?_) (fun c_12 => ?_)
          · have zc_12 : ¬ nI what_2 = 0 := nI_ne0 c_12 (by omega)
            have yc_12 : ¬ what_2 = 0 := Nat.ne_of_gt c_12
            refine lv_iload hx hb dX4_who_62 (lv_at hl 0 rfl) ?_
            refine lv_ishl (x := 1) (y := nI j) hx hb dX4_who_64 ?_
            refine lv_goto (tgt := 69) hx hb dX4_who_65 (by decide) ?_
            refine lv_ior (x := whI r (nI what_2) i (whO r (nI what_2) N i) j) (y := 1 <<< ((nI j) &&& 31)) hx hb dX4_who_69 ?_
            refine lv_istore_n (lv' := [(2, .int ((whI r (nI what_2) i (whO r (nI what_2) N i) j) ||| (1 <<< ((nI j) &&& 31)))), (4, .int (nI j)), (3, .int (nI i)), (0, .ref h), (1, .int (nI what_2))]) hx hb dX4_who_70 rfl hl (Nat.le_of_ble_eq_true rfl) rfl (fun ls hl => ?_)
            refine n_iinc (k := 1) (lv' := [(4, .int (nI (j + 1))), (2, .int ((whI r (nI what_2) i (whO r (nI what_2) N i) j) ||| (1 <<< ((nI j) &&& 31)))), (3, .int (nI i)), (0, .ref h), (1, .int (nI what_2))]) hx hb j 1 dX4_who_71 hl rfl (Nat.le_of_ble_eq_true rfl) rfl (fun ls hl => ?_)
            refine lv_goto (tgt := 28) hx hb dX4_who_74 (by decide) ?_
            have e_13 : whI r (nI what_2) i (whO r (nI what_2) N i) (j + 1) = (whI r (nI what_2) i (whO r (nI what_2) N i) j) ||| (1 <<< ((nI j) &&& 31)) := by simp [whI, whS, twhat_2, c_9, c_10, c_12, yc_12, zc_12]
            exact ih_6 (j + 1) (by omega) ls (by rw [e_13]; exact lv_sub hl [0, 2, 1, 3, 4] rfl)
          · obtain rfl := c_12
            have zc_12 : (nI 0 = 0) = True := eq_true rfl
            refine lv_iload_n hx hb dX4_who_58 rfl (lv_at hl 1 rfl) ?_
            refine lv_goto (tgt := 64) hx hb dX4_who_59 (by decide) ?_
            refine lv_ishl (x := 1) (y := nI i) hx hb dX4_who_64 ?_
            refine lv_goto (tgt := 69) hx hb dX4_who_65 (by decide) ?_
            refine lv_ior (x := whI r (nI 0) i (whO r (nI 0) N i) j) (y := 1 <<< ((nI i) &&& 31)) hx hb dX4_who_69 ?_
            refine lv_istore_n (lv' := [(2, .int ((whI r (nI 0) i (whO r (nI 0) N i) j) ||| (1 <<< ((nI i) &&& 31)))), (4, .int (nI j)), (3, .int (nI i)), (0, .ref h), (1, .int (nI 0))]) hx hb dX4_who_70 rfl hl (Nat.le_of_ble_eq_true rfl) rfl (fun ls hl => ?_)
            refine n_iinc (k := 1) (lv' := [(4, .int (nI (j + 1))), (2, .int ((whI r (nI 0) i (whO r (nI 0) N i) j) ||| (1 <<< ((nI i) &&& 31)))), (3, .int (nI i)), (0, .ref h), (1, .int (nI 0))]) hx hb j 1 dX4_who_71 hl rfl (Nat.le_of_ble_eq_true rfl) rfl (fun ls hl => ?_)
            refine lv_goto (tgt := 28) hx hb dX4_who_74 (by decide) ?_
            have e_14 : whI r (nI 0) i (whO r (nI 0) N i) (j + 1) = (whI r (nI 0) i (whO r (nI 0) N i) j) ||| (1 <<< ((nI i) &&& 31)) := by simp [whI, whS, twhat_2, c_9, c_10, zc_12]
            exact ih_6 (j + 1) (by omega) ls (by rw [e_14]; exact lv_sub hl [0, 2, 1, 3, 4] rfl)
  · refine lv_iconst (v := (-1)) hx hb dX4_who_9 (by decide) ?_
    exact n_iret (v := (-1)) C (by simp [sWhoA, c_1]) dX4_who_10

set_option maxHeartbeats 4000000 in
set_option maxRecDepth 100000 in
theorem metX4_bestPair (l : Launch) (G : GG) (h : Nat) (ad : Nat → Nat) (iv : Nat → Int32) (r : Nat → Int32) (N : Nat) (what : Int32) (hN : N ≤ 9) (hr : r 0 = nI N) : MR l yX4_bestPair cX4_bestPair 3 (some .int) ({ frames := 6, cells := 0, slots := 0, locals := 131 }) [.ref h, .int what] [(h, mO ad iv), (ad 0, iA G 57 r)] G (KM G) (sBPA r N what) := by
  -- rows printed by wip/tools/gen.py
  refine mr_mk RX4 (by decide) rfl (Nat.le_of_ble_eq_true rfl) ?_
  intro p0_ e0_ s m args below meth c C hP hK ls hl
  have hx := C.1
  have hb := C.2.1
  have hml := C.2.2.2.2.1
  have hown := C.2.2.2.2.2.1
  have hts := C.2.2.2.2.2.2
  have hl : lv_has ls 3 [(0, .ref h), (1, .int what)] := hl
  refine lv_iload_n hx hb dX4_bestPair_0 rfl (lv_at hl 1 rfl) ?_
  refine lv_iconst (v := 0) hx hb dX4_bestPair_1 (by decide) ?_
  refine lv_iconst (v := 1) hx hb dX4_bestPair_2 (by decide) ?_
  refine c_S (rest := []) C (metX4_isIn l G what 0 1) 3 (lw_S q1145 q1146 q42 q1147) (by decide +kernel) ⟨rfl, rfl⟩ ⟨(Nat.le_of_ble_eq_true rfl), (Nat.le_of_ble_eq_true rfl)⟩ (KM_mv G) (hP.sub (ws' := []) [] rfl) hK hl rfl rfl (Nat.le_of_ble_eq_true rfl) ⟨(Nat.le_of_ble_eq_true rfl), (Nat.le_of_ble_eq_true rfl)⟩ dX4_bestPair_3 ?_
  refine n_if_neB (b := (sIn what 0 1)) (tgt := 11) hx hb dX4_bestPair_6 (by decide) (fun c_1 => ?_) (fun c_1 => ?_)
  · obtain ⟨what_2, hwhat_2, gwhat_2, rfl⟩ := sIn_t (a := 0) (b := 1) (by omega) (by omega) c_1
    have twhat_2 : tn (nI what_2) = what_2 := nI_clamp (by omega)
    refine lv_aload_n hx hb dX4_bestPair_11 rfl (lv_at hl 0 rfl) ?_
    refine va_get (D := gD G) (ci := 0) (v := .ref (ad 0)) (C := RX4) (T := TX4) (N := 20) hx hb hts in_X4 hown hK hP 0 rfl rfl 0 (by decide) (hts _ q1073) (fun _ h9 => h9) rfl dX4_bestPair_12 ?_
    refine c_S (rest := []) C (metX4_bestIn l G (ad 0) r N (by omega) (hr)) 1 (lw_S q1253 q1254 q42 q1255) (by decide +kernel) ⟨rfl, rfl⟩ ⟨(Nat.le_of_ble_eq_true rfl), (Nat.le_of_ble_eq_true rfl)⟩ (KM_mv G) (hP.sub (ws' := [(ad 0, iA G 57 r)]) [1] rfl) hK hl rfl rfl (Nat.le_of_ble_eq_true rfl) ⟨(Nat.le_of_ble_eq_true rfl), (Nat.le_of_ble_eq_true rfl)⟩ dX4_bestPair_15 ?_
    rcases ho_3 : sBestO r N with _ | qo_3
    · have eo_3 : sBest r N = -4 := by rw [sBest, ho_3]; rfl
      refine n_eqi eo_3 ?_
      refine lv_istore_n (lv' := [(2, .int (-4)), (0, .ref h), (1, .int (nI what_2))]) hx hb dX4_bestPair_18 rfl hl (Nat.le_of_ble_eq_true rfl) rfl (fun ls hl => ?_)
      refine lv_iload_n hx hb dX4_bestPair_19 rfl (lv_at hl 0 rfl) ?_
      refine lv_if_lt (x := (-4)) (tgt := 27) hx hb dX4_bestPair_20 (by decide) (fun c_4 => ?_) (fun c_4 => absurd c_4 (by decide))
      refine lv_iload_n hx hb dX4_bestPair_27 rfl (lv_at hl 0 rfl) ?_
      refine lv_goto (tgt := 38) hx hb dX4_bestPair_28 (by decide) ?_
      exact n_iret (v := (-4)) C (by simp [sBPA, sBest, encS, encN, sBJ, c_1, twhat_2, ho_3, eo_3, c_4]) dX4_bestPair_38
    · have eo_3 : sBest r N = nI (10 * qo_3.1 + qo_3.2) := by rw [sBest, ho_3]; rfl
      have go_3 := sBestO_in ho_3
      have uo_3 : (10 * qo_3.1 + qo_3.2) / 10 = qo_3.1 := by omega
      have vo_3 : (10 * qo_3.1 + qo_3.2) % 10 = qo_3.2 := by omega
      refine n_eqi eo_3 ?_
      refine lv_istore_n (lv' := [(2, .int (nI (10 * qo_3.1 + qo_3.2))), (0, .ref h), (1, .int (nI what_2))]) hx hb dX4_bestPair_18 rfl hl (Nat.le_of_ble_eq_true rfl) rfl (fun ls hl => ?_)
      refine lv_iload_n hx hb dX4_bestPair_19 rfl (lv_at hl 0 rfl) ?_
      refine n_if_lt (x := 10 * qo_3.1 + qo_3.2) (tgt := 27) hx hb (by omega) dX4_bestPair_20 (by decide) ?_
      refine lv_iload_n hx hb dX4_bestPair_23 rfl (lv_at hl 2 rfl) ?_
      refine n_if_ne (x := what_2) (tgt := 31) hx hb (by omega) dX4_bestPair_24 (by decide) (fun c_5 => ?_) (fun c_5 => ?_)
      · have zc_5 : ¬ nI what_2 = 0 := nI_ne0 c_5 (by omega)
        have yc_5 : ¬ what_2 = 0 := Nat.ne_of_gt c_5
        refine lv_aload_n hx hb dX4_bestPair_31 rfl (lv_at hl 1 rfl) ?_
        refine va_get (D := gD G) (ci := 0) (v := .ref (ad 0)) (C := RX4) (T := TX4) (N := 20) hx hb hts in_X4 hown hK hP 0 rfl rfl 0 (by decide) (hts _ q1073) (fun _ h9 => h9) rfl dX4_bestPair_32 ?_
        refine c_S (rest := []) C (metX4_bestJoys l G (ad 0) r N (by omega) (hr)) 1 (lw_S q1256 q1257 q42 q1258) (by decide +kernel) ⟨rfl, rfl⟩ ⟨(Nat.le_of_ble_eq_true rfl), (Nat.le_of_ble_eq_true rfl)⟩ (KM_mv G) (hP.sub (ws' := [(ad 0, iA G 57 r)]) [1] rfl) hK hl rfl rfl (Nat.le_of_ble_eq_true rfl) ⟨(Nat.le_of_ble_eq_true rfl), (Nat.le_of_ble_eq_true rfl)⟩ dX4_bestPair_35 ?_
        exact n_iret (v := sBJ r N) C (by simp [sBPA, sBest, encS, encN, sBJ, c_1, twhat_2, ho_3, eo_3, c_5, yc_5, zc_5]) dX4_bestPair_38
      · obtain rfl := c_5
        have zc_5 : (nI 0 = 0) = True := eq_true rfl
        refine lv_iload_n hx hb dX4_bestPair_27 rfl (lv_at hl 0 rfl) ?_
        refine lv_goto (tgt := 38) hx hb dX4_bestPair_28 (by decide) ?_
        exact n_iret (v := nI (10 * qo_3.1 + qo_3.2)) C (by simp [sBPA, sBest, encS, encN, sBJ, c_1, twhat_2, ho_3, eo_3, zc_5]) dX4_bestPair_38
  · refine lv_iconst (v := (-1)) hx hb dX4_bestPair_9 (by decide) ?_
    exact n_iret (v := (-1)) C (by simp [sBPA, sBest, encS, encN, sBJ, c_1]) dX4_bestPair_10

set_option maxHeartbeats 4000000 in
set_option maxRecDepth 100000 in
theorem metX4_bestLooker (l : Launch) (G : GG) (h : Nat) (ad : Nat → Nat) (iv : Nat → Int32) (r : Nat → Int32) (N : Nat) (p : Int32) (hN : N ≤ 9) (hr : r 0 = nI N) : MR l yX4_bestLooker cX4_bestLooker 4 (some .int) ({ frames := 4, cells := 0, slots := 0, locals := 86 }) [.ref h, .int p] [(h, mO ad iv), (ad 0, iA G 57 r)] G (KM G) (sBLA r N p) := by
  -- rows printed by wip/tools/gen.py
  refine mr_mk RX4 (by decide) rfl (Nat.le_of_ble_eq_true rfl) ?_
  intro p0_ e0_ s m args below meth c C hP hK ls hl
  have hx := C.1
  have hb := C.2.1
  have hml := C.2.2.2.2.1
  have hown := C.2.2.2.2.2.1
  have hts := C.2.2.2.2.2.2
  have hl : lv_has ls 4 [(0, .ref h), (1, .int p)] := hl
  refine lv_aload_n hx hb dX4_bestLooker_0 rfl (lv_at hl 0 rfl) ?_
  refine lv_iload_n hx hb dX4_bestLooker_1 rfl (lv_at hl 1 rfl) ?_
  refine c_V (rest := []) C (metX4_isPerson l G h ad iv r N p (hr)) 1 (lw_V q1173 q1175 qs28 q42 q1176) (by decide +kernel) ⟨rfl, rfl⟩ ⟨(Nat.le_of_ble_eq_true rfl), (Nat.le_of_ble_eq_true rfl)⟩ (KM_mv G) (va_recv hK hP (ci := 0) (q0 := 0) rfl rfl) hP hK hl rfl rfl (Nat.le_of_ble_eq_true rfl) ⟨(Nat.le_of_ble_eq_true rfl), (Nat.le_of_ble_eq_true rfl)⟩ dX4_bestLooker_2 ?_
  refine n_if_neB (b := (sPer N p)) (tgt := 10) hx hb dX4_bestLooker_5 (by decide) (fun c_1 => ?_) (fun c_1 => ?_)
  · obtain ⟨p_2, hp_2, rfl⟩ := sPer_t (by omega) c_1
    have tp_2 : tn (nI p_2) = p_2 := nI_clamp (by omega)
    refine lv_bipush (v := (-4)) hx hb dX4_bestLooker_10 (by decide) ?_
    refine lv_istore_n (lv' := [(2, .int (-4)), (0, .ref h), (1, .int (nI p_2))]) hx hb dX4_bestLooker_12 rfl hl (Nat.le_of_ble_eq_true rfl) rfl (fun ls hl => ?_)
    refine lv_iconst (v := 0) hx hb dX4_bestLooker_13 (by decide) ?_
    refine lv_istore_n (lv' := [(3, .int 0), (2, .int (-4)), (0, .ref h), (1, .int (nI p_2))]) hx hb dX4_bestLooker_14 rfl hl (Nat.le_of_ble_eq_true rfl) rfl (fun ls hl => ?_)
    suffices hlp_3 : (∀ (n i : Nat), i + n = N → ∀ (ls : Array Slot), lv_has ls 4 [(3, .int (nI i)), (2, .int (encL (blO r p_2 i))), (0, .ref h), (1, .int (nI p_2))] → W p0_ l e0_ ({ frames := 4, cells := 0, slots := 0, locals := 86 } : Room) s m args below meth c s.heap [] (0) (0) (MQ below (vp_Si (fun rr9 => rr9 = sBLA r N (nI p_2))) args s 0 0 (fun _ => False)) (F0 m 15 ls [])) by
      exact hlp_3 (N) 0 (by omega) ls (lv_sub hl [0, 1, 2, 3] rfl)
    have hend_3 : ∀ (ls : Array Slot), lv_has ls 4 [(3, .int (nI N)), (2, .int (encL (blO r p_2 N))), (0, .ref h), (1, .int (nI p_2))] → W p0_ l e0_ ({ frames := 4, cells := 0, slots := 0, locals := 86 } : Room) s m args below meth c s.heap [] (0) (0) (MQ below (vp_Si (fun rr9 => rr9 = sBLA r N (nI p_2))) args s 0 0 (fun _ => False)) (F0 m 15 ls []) := by
      intro ls hl
      refine lv_iload_n hx hb dX4_bestLooker_15 rfl (lv_at hl 0 rfl) ?_
      refine lv_aload_n hx hb dX4_bestLooker_16 rfl (lv_at hl 2 rfl) ?_
      refine va_get (D := gD G) (ci := 0) (v := .ref (ad 0)) (C := RX4) (T := TX4) (N := 20) hx hb hts in_X4 hown hK hP 0 rfl rfl 0 (by decide) (hts _ q1073) (fun _ h9 => h9) rfl dX4_bestLooker_17 ?_
      refine lv_iconst (v := 0) hx hb dX4_bestLooker_20 (by decide) ?_
      refine n_iald C hK hP 1 0 rfl (by omega) (by omega) dX4_bestLooker_21 ?_
      refine n_eqi (hr) ?_
      refine n_ic_ge (x := N) (y := N) (tgt := 70) hx hb (by omega) (by omega) dX4_bestLooker_22 (by decide) (fun c_4 => ?_) (fun c_4 => absurd c_4 (by omega))
      refine lv_iload_n hx hb dX4_bestLooker_70 rfl (lv_at hl 1 rfl) ?_
      exact n_iret (v := encL (blO r p_2 N)) C (by simp [sBLA, c_1, tp_2, c_4]) dX4_bestLooker_71
    intro n
    induction n with
    | zero =>
      intro i hi_3 ls hl
      obtain e_3 : i = N := by omega
      first | (subst e_3; exact hend_3 ls hl) | (rw [e_3] at hl; exact hend_3 ls hl)
    | succ n ih_3 =>
      intro i hi_3 ls hl
      refine lv_iload_n hx hb dX4_bestLooker_15 rfl (lv_at hl 0 rfl) ?_
      refine lv_aload_n hx hb dX4_bestLooker_16 rfl (lv_at hl 2 rfl) ?_
      refine va_get (D := gD G) (ci := 0) (v := .ref (ad 0)) (C := RX4) (T := TX4) (N := 20) hx hb hts in_X4 hown hK hP 0 rfl rfl 0 (by decide) (hts _ q1073) (fun _ h9 => h9) rfl dX4_bestLooker_17 ?_
      refine lv_iconst (v := 0) hx hb dX4_bestLooker_20 (by decide) ?_
      refine n_iald C hK hP 1 0 rfl (by omega) (by omega) dX4_bestLooker_21 ?_
      refine n_eqi (hr) ?_
      refine n_ic_ge (x := i) (y := N) (tgt := 70) hx hb (by omega) (by omega) dX4_bestLooker_22 (by decide) (fun c_5 => absurd c_5 (by omega)) (fun c_5 => ?_)
      refine lv_aload_n hx hb dX4_bestLooker_25 rfl (lv_at hl 2 rfl) ?_
      refine va_get (D := gD G) (ci := 0) (v := .ref (ad 0)) (C := RX4) (T := TX4) (N := 20) hx hb hts in_X4 hown hK hP 0 rfl rfl 0 (by decide) (hts _ q1073) (fun _ h9 => h9) rfl dX4_bestLooker_26 ?_
      refine lv_iload_n hx hb dX4_bestLooker_29 rfl (lv_at hl 3 rfl) ?_
      refine lv_iload_n hx hb dX4_bestLooker_30 rfl (lv_at hl 0 rfl) ?_
      refine c_S (rest := []) C (metX4_canEat l G (ad 0) r p_2 i (by omega) (by omega)) 3 (lw_S q1177 q1178 q42 q1179) (by decide +kernel) ⟨rfl, rfl⟩ ⟨(Nat.le_of_ble_eq_true rfl), (Nat.le_of_ble_eq_true rfl)⟩ (KM_mv G) (hP.sub (ws' := [(ad 0, iA G 57 r)]) [1] rfl) hK hl rfl rfl (Nat.le_of_ble_eq_true rfl) ⟨(Nat.le_of_ble_eq_true rfl), (Nat.le_of_ble_eq_true rfl)⟩ dX4_bestLooker_31 ?_
      refine n_if_eqB (b := (sEat r p_2 i)) (tgt := 64) hx hb dX4_bestLooker_34 (by decide) (fun c_6 => ?_) (fun c_6 => ?_)
      · refine n_iinc (k := 0) (lv' := [(3, .int (nI (i + 1))), (2, .int (encL (blO r p_2 i))), (0, .ref h), (1, .int (nI p_2))]) hx hb i 1 dX4_bestLooker_64 hl rfl (Nat.le_of_ble_eq_true rfl) rfl (fun ls hl => ?_)
        refine lv_goto (tgt := 15) hx hb dX4_bestLooker_67 (by decide) ?_
        have e_7 : encL (blO r p_2 (i + 1)) = encL (blO r p_2 i) := by simp [blO, blS, encLS, encLN, tp_2, c_5, c_6]
        exact ih_3 (i + 1) (by omega) ls (by rw [e_7]; exact lv_sub hl [0, 1, 2, 3] rfl)
      · rcases ho_8 : blO r p_2 i with _ | bo_8
        · rw [ho_8] at hl
          have hl : lv_has ls 4 [(3, .int (nI i)), (2, .int (-4)), (0, .ref h), (1, .int (nI p_2))] := hl
          refine lv_iload_n hx hb dX4_bestLooker_37 rfl (lv_at hl 1 rfl) ?_
          refine lv_if_lt (x := (-4)) (tgt := 62) hx hb dX4_bestLooker_38 (by decide) (fun c_9 => ?_) (fun c_9 => absurd c_9 (by decide))
          refine lv_iload_n hx hb dX4_bestLooker_62 rfl (lv_at hl 0 rfl) ?_
          refine lv_istore_n (lv' := [(2, .int (nI i)), (3, .int (nI i)), (0, .ref h), (1, .int (nI p_2))]) hx hb dX4_bestLooker_63 rfl hl (Nat.le_of_ble_eq_true rfl) rfl (fun ls hl => ?_)
          refine n_iinc (k := 1) (lv' := [(3, .int (nI (i + 1))), (2, .int (nI i)), (0, .ref h), (1, .int (nI p_2))]) hx hb i 1 dX4_bestLooker_64 hl rfl (Nat.le_of_ble_eq_true rfl) rfl (fun ls hl => ?_)
          refine lv_goto (tgt := 15) hx hb dX4_bestLooker_67 (by decide) ?_
          have e_10 : encL (blO r p_2 (i + 1)) = nI i := by simp [blO, blS, encLS, encLN, tp_2, c_5, c_6, ho_8, c_9]
          exact ih_3 (i + 1) (by omega) ls (by rw [e_10]; exact lv_sub hl [0, 1, 2, 3] rfl)
        · rw [ho_8] at hl
          have hl : lv_has ls 4 [(3, .int (nI i)), (2, .int (nI bo_8)), (0, .ref h), (1, .int (nI p_2))] := hl
          have go_8 := blO_in _ _ ho_8
          refine lv_iload_n hx hb dX4_bestLooker_37 rfl (lv_at hl 1 rfl) ?_
          refine n_if_lt (x := bo_8) (tgt := 62) hx hb (by omega) dX4_bestLooker_38 (by decide) ?_
          refine lv_aload_n hx hb dX4_bestLooker_41 rfl (lv_at hl 2 rfl) ?_
          refine va_get (D := gD G) (ci := 0) (v := .ref (ad 0)) (C := RX4) (T := TX4) (N := 20) hx hb hts in_X4 hown hK hP 0 rfl rfl 0 (by decide) (hts _ q1073) (fun _ h9 => h9) rfl dX4_bestLooker_42 ?_
          refine lv_iload_n hx hb dX4_bestLooker_45 rfl (lv_at hl 3 rfl) ?_
          refine lv_iload_n hx hb dX4_bestLooker_46 rfl (lv_at hl 0 rfl) ?_
          refine c_S (rest := []) C (metX4_joysOf l G (ad 0) r p_2 i (by omega) (by omega)) 3 (lw_S q1186 q1187 q42 q1188) (by decide +kernel) ⟨rfl, rfl⟩ ⟨(Nat.le_of_ble_eq_true rfl), (Nat.le_of_ble_eq_true rfl)⟩ (KM_mv G) (hP.sub (ws' := [(ad 0, iA G 57 r)]) [1] rfl) hK hl rfl rfl (Nat.le_of_ble_eq_true rfl) ⟨(Nat.le_of_ble_eq_true rfl), (Nat.le_of_ble_eq_true rfl)⟩ dX4_bestLooker_47 ?_
          refine lv_aload_n hx hb dX4_bestLooker_50 rfl (lv_at hl 2 rfl) ?_
          refine va_get (D := gD G) (ci := 0) (v := .ref (ad 0)) (C := RX4) (T := TX4) (N := 20) hx hb hts in_X4 hown hK hP 0 rfl rfl 0 (by decide) (hts _ q1073) (fun _ h9 => h9) rfl dX4_bestLooker_51 ?_
          refine lv_iload_n hx hb dX4_bestLooker_54 rfl (lv_at hl 3 rfl) ?_
          refine lv_iload_n hx hb dX4_bestLooker_55 rfl (lv_at hl 1 rfl) ?_
          refine c_S (rest := [.int (sJoy r p_2 i)]) C (metX4_joysOf l G (ad 0) r p_2 bo_8 (by omega) (by omega)) 3 (lw_S q1186 q1187 q42 q1188) (by decide +kernel) ⟨rfl, rfl⟩ ⟨(Nat.le_of_ble_eq_true rfl), (Nat.le_of_ble_eq_true rfl)⟩ (KM_mv G) (hP.sub (ws' := [(ad 0, iA G 57 r)]) [1] rfl) hK hl rfl rfl (Nat.le_of_ble_eq_true rfl) ⟨(Nat.le_of_ble_eq_true rfl), (Nat.le_of_ble_eq_true rfl)⟩ dX4_bestLooker_56 ?_
          refine lv_icmp_le (x := sJoy r p_2 i) (y := sJoy r p_2 bo_8) (tgt := 64) hx hb dX4_bestLooker_59 (by decide) (fun c_11 => ?_) (fun c_11 => ?_)
          · have zc_11 : ¬ (sJoy r p_2 bo_8) < (sJoy r p_2 i) := Int32.not_lt.mpr c_11
            refine n_iinc (k := 0) (lv' := [(3, .int (nI (i + 1))), (2, .int (nI bo_8)), (0, .ref h), (1, .int (nI p_2))]) hx hb i 1 dX4_bestLooker_64 hl rfl (Nat.le_of_ble_eq_true rfl) rfl (fun ls hl => ?_)
            refine lv_goto (tgt := 15) hx hb dX4_bestLooker_67 (by decide) ?_
            have e_12 : encL (blO r p_2 (i + 1)) = nI bo_8 := by simp [blO, blS, encLS, encLN, tp_2, c_5, c_6, ho_8, c_11, zc_11]
            exact ih_3 (i + 1) (by omega) ls (by rw [e_12]; exact lv_sub hl [0, 1, 2, 3] rfl)
          · have zc_11 : (sJoy r p_2 bo_8) < (sJoy r p_2 i) := Int32.not_le.mp c_11
            refine lv_iload_n hx hb dX4_bestLooker_62 rfl (lv_at hl 0 rfl) ?_
            refine lv_istore_n (lv' := [(2, .int (nI i)), (3, .int (nI i)), (0, .ref h), (1, .int (nI p_2))]) hx hb dX4_bestLooker_63 rfl hl (Nat.le_of_ble_eq_true rfl) rfl (fun ls hl => ?_)
            refine n_iinc (k := 1) (lv' := [(3, .int (nI (i + 1))), (2, .int (nI i)), (0, .ref h), (1, .int (nI p_2))]) hx hb i 1 dX4_bestLooker_64 hl rfl (Nat.le_of_ble_eq_true rfl) rfl (fun ls hl => ?_)
            refine lv_goto (tgt := 15) hx hb dX4_bestLooker_67 (by decide) ?_
            have e_13 : encL (blO r p_2 (i + 1)) = nI i := by simp [blO, blS, encLS, encLN, tp_2, c_5, c_6, ho_8, c_11, zc_11]
            exact ih_3 (i + 1) (by omega) ls (by rw [e_13]; exact lv_sub hl [0, 1, 2, 3] rfl)
  · refine lv_iconst (v := (-1)) hx hb dX4_bestLooker_8 (by decide) ?_
    exact n_iret (v := (-1)) C (by simp [sBLA, c_1]) dX4_bestLooker_9
