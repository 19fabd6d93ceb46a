theorem pvI_xle {r : Nat → Int32} {N m s p b : Nat} (hri : RI r N) (hN : N ≤ 8) (hp : p < N) (hs : s < 2 ^ N) (hb : b ≤ 60 * (m - 1) + 60) (q : Nat) (hq : q ≤ N) : pvI r (xV r N) m s p b q ≤ 60 * (m - 1) + 60 := by
  have h3 : pvI r (fun m' s' => if s' < 2 ^ N then xV r N m' s' else 0) m s p b q ≤ 60 * (m - 1) + 60 := by
    refine pvI_le hri hp (fun t => ?_) hb q hq
    split
    · rename_i ht; exact xV_le hri hN ht
    · omega
  have h4 : pvI r (xV r N) m s p b q = pvI r (fun m' s' => if s' < 2 ^ N then xV r N m' s' else 0) m s p b q := by
    refine pvI_congr fun j _ _ => ⟨?_, fun _ => ?_⟩
    · rw [if_pos (Nat.lt_of_le_of_lt (wo_le _ _ _) hs)]
    · rw [if_pos (Nat.lt_of_le_of_lt (wo_le _ _ _) hs)]
  rw [h4]; exact h3
set_option maxHeartbeats 4000000 in
set_option maxRecDepth 100000 in
theorem metJ6_numberOfTrailingZeros (l : Launch) (G : GG) (z9 : Nat) (hz : z9 < 256) : MR l yJ6_numberOfTrailingZeros cJ6_numberOfTrailingZeros 2 (some .int) ({ frames := 0, cells := 0, slots := 0, locals := 0 }) [.int (nI z9)] [] G (KM G) (nI (tzX z9)) := by
  -- rows printed by wip/tools/gen.py
  refine mr_mk RJ6 (by decide) rfl (Nat.le_of_ble_eq_true rfl) ?_
  intro p0_ e0_ s m args below meth c C hP hK ls hl
  have hx := C.1
  have hb := C.2.1
  have hml := C.2.2.2.2.1
  have hown := C.2.2.2.2.2.1
  have hts := C.2.2.2.2.2.2
  have hl : lv_has ls 2 [(0, .int (nI z9))] := hl
  rcases Nat.eq_zero_or_pos z9 with h0 | h0
  · subst h0
    refine lv_iload_n hx hb dJ6_numberOfTrailingZeros_0 rfl (lv_at hl 0 rfl) ?_
    refine lv_iconst (v := (-1)) hx hb dJ6_numberOfTrailingZeros_1 (by decide) ?_
    refine lv_ixor (x := nI 0) (y := (-1)) hx hb dJ6_numberOfTrailingZeros_2 ?_
    refine lv_iload_n hx hb dJ6_numberOfTrailingZeros_3 rfl (lv_at hl 0 rfl) ?_
    refine lv_iconst (v := 1) hx hb dJ6_numberOfTrailingZeros_4 (by decide) ?_
    refine lv_isub (x := nI 0) (y := 1) hx hb dJ6_numberOfTrailingZeros_5 ?_
    refine lv_iand (x := (nI 0) ^^^ (-1)) (y := (nI 0) - 1) hx hb dJ6_numberOfTrailingZeros_6 ?_
    refine n_eqi (tzm_0) ?_
    refine lv_istore_n (lv' := [(0, .int (-1))]) hx hb dJ6_numberOfTrailingZeros_7 rfl hl (Nat.le_of_ble_eq_true rfl) rfl (fun ls hl => ?_)
    refine lv_iload_n hx hb dJ6_numberOfTrailingZeros_8 rfl (lv_at hl 0 rfl) ?_
    refine lv_if_gt (x := (-1)) (tgt := 17) hx hb dJ6_numberOfTrailingZeros_9 (by decide) (fun c_1 => absurd c_1 (by decide)) (fun c_1 => ?_)
    refine lv_iload_n hx hb dJ6_numberOfTrailingZeros_12 rfl (lv_at hl 0 rfl) ?_
    refine lv_bipush (v := 32) hx hb dJ6_numberOfTrailingZeros_13 (by decide) ?_
    refine lv_iand (x := (-1)) (y := 32) hx hb dJ6_numberOfTrailingZeros_15 ?_
    exact n_iret (v := (-1) &&& 32) C (by decide +kernel) dJ6_numberOfTrailingZeros_16
  · have h0 : z9 ≠ 0 := Nat.ne_of_gt h0
    have hlt := tzm_lt z9 hz
    refine lv_iload_n hx hb dJ6_numberOfTrailingZeros_0 rfl (lv_at hl 0 rfl) ?_
    refine lv_iconst (v := (-1)) hx hb dJ6_numberOfTrailingZeros_1 (by decide) ?_
    refine lv_ixor (x := nI z9) (y := (-1)) hx hb dJ6_numberOfTrailingZeros_2 ?_
    refine lv_iload_n hx hb dJ6_numberOfTrailingZeros_3 rfl (lv_at hl 0 rfl) ?_
    refine lv_iconst (v := 1) hx hb dJ6_numberOfTrailingZeros_4 (by decide) ?_
    refine lv_isub (x := nI z9) (y := 1) hx hb dJ6_numberOfTrailingZeros_5 ?_
    refine lv_iand (x := (nI z9) ^^^ (-1)) (y := (nI z9) - 1) hx hb dJ6_numberOfTrailingZeros_6 ?_
    refine n_eqi (tzm_n z9 hz h0) ?_
    refine lv_istore_n (lv' := [(0, .int (nI (tzm z9)))]) hx hb dJ6_numberOfTrailingZeros_7 rfl hl (Nat.le_of_ble_eq_true rfl) rfl (fun ls hl => ?_)
    refine lv_iload_n hx hb dJ6_numberOfTrailingZeros_8 rfl (lv_at hl 0 rfl) ?_
    refine n_if_gt (x := tzm z9) (tgt := 17) hx hb (by omega) dJ6_numberOfTrailingZeros_9 (by decide) (fun c_2 => ?_) (fun c_2 => ?_)
    · have zc_2 : ¬ nI (tzm z9) = 0 := nI_ne0 c_2 (by omega)
      have yc_2 : ¬ tzm z9 = 0 := Nat.ne_of_gt c_2
      refine lv_iconst (v := 1) hx hb dJ6_numberOfTrailingZeros_17 (by decide) ?_
      refine lv_istore_n (lv' := [(1, .int 1), (0, .int (nI (tzm z9)))]) hx hb dJ6_numberOfTrailingZeros_18 rfl hl (Nat.le_of_ble_eq_true rfl) rfl (fun ls hl => ?_)
      refine lv_iload_n hx hb dJ6_numberOfTrailingZeros_19 rfl (lv_at hl 1 rfl) ?_
      refine lv_ldcw (own := RJ6) (v := 65536) hx hb hown (hts _ q595) dJ6_numberOfTrailingZeros_20 ?_
      refine n_ic_le (x := tzm z9) (y := 65536) (tgt := 34) hx hb (by omega) (by omega) dJ6_numberOfTrailingZeros_23 (by decide) (fun c_3 => ?_) (fun c_3 => absurd c_3 (by omega))
      refine lv_iload_n hx hb dJ6_numberOfTrailingZeros_34 rfl (lv_at hl 1 rfl) ?_
      refine lv_sipush (v := 256) hx hb dJ6_numberOfTrailingZeros_35 (by decide) ?_
      refine n_ic_le (x := tzm z9) (y := 256) (tgt := 49) hx hb (by omega) (by omega) dJ6_numberOfTrailingZeros_38 (by decide) (fun c_4 => ?_) (fun c_4 => absurd c_4 (by omega))
      refine lv_iload_n hx hb dJ6_numberOfTrailingZeros_49 rfl (lv_at hl 1 rfl) ?_
      refine lv_bipush (v := 16) hx hb dJ6_numberOfTrailingZeros_50 (by decide) ?_
      refine n_ic_le (x := tzm z9) (y := 16) (tgt := 62) hx hb (by omega) (by omega) dJ6_numberOfTrailingZeros_52 (by decide) (fun c_5 => ?_) (fun c_5 => ?_)
      · have zc_5 : ¬ 16 < tzm z9 := Nat.not_lt.mpr c_5
        refine lv_iload_n hx hb dJ6_numberOfTrailingZeros_62 rfl (lv_at hl 1 rfl) ?_
        refine lv_iconst (v := 4) hx hb dJ6_numberOfTrailingZeros_63 (by decide) ?_
        refine n_ic_le (x := tzm z9) (y := 4) (tgt := 74) hx hb (by omega) (by omega) dJ6_numberOfTrailingZeros_64 (by decide) (fun c_6 => ?_) (fun c_6 => ?_)
        · have zc_6 : ¬ 4 < tzm z9 := Nat.not_lt.mpr c_6
          refine lv_iload_n hx hb dJ6_numberOfTrailingZeros_74 rfl (lv_at hl 0 rfl) ?_
          refine lv_iload_n hx hb dJ6_numberOfTrailingZeros_75 rfl (lv_at hl 1 rfl) ?_
          refine lv_iconst (v := 1) hx hb dJ6_numberOfTrailingZeros_76 (by decide) ?_
          refine lv_iushr (x := nI (tzm z9)) (y := 1) (v := nI ((tzm z9) / 2)) hx hb dJ6_numberOfTrailingZeros_77 (pk_ushrN (by omega) 1 1 rfl) ?_
          refine n_iadd hx hb 1 ((tzm z9) / 2) dJ6_numberOfTrailingZeros_78 ?_
          exact n_iret (v := nI (1 + ((tzm z9) / 2))) C (congrArg nI (by rw [tzX, if_neg h0, tz_2 z9 hz h0 (by omega)]; repeat (first | rw [if_pos (by omega)] | rw [if_neg (by omega)]))) dJ6_numberOfTrailingZeros_79
        · have zc_6 : ¬ tzm z9 ≤ 4 := Nat.not_le.mpr c_6
          refine n_iinc (k := 0) (lv' := [(1, .int (nI (1 + 2))), (0, .int (nI (tzm z9)))]) hx hb 1 2 dJ6_numberOfTrailingZeros_67 hl rfl (Nat.le_of_ble_eq_true rfl) rfl (fun ls hl => ?_)
          refine lv_iload_n hx hb dJ6_numberOfTrailingZeros_70 rfl (lv_at hl 1 rfl) ?_
          refine lv_iconst (v := 2) hx hb dJ6_numberOfTrailingZeros_71 (by decide) ?_
          refine lv_iushr (x := nI (tzm z9)) (y := 2) (v := nI ((tzm z9) / 4)) hx hb dJ6_numberOfTrailingZeros_72 (pk_ushrN (by omega) 2 2 rfl) ?_
          refine lv_istore_n (lv' := [(0, .int (nI ((tzm z9) / 4))), (1, .int (nI (1 + 2)))]) hx hb dJ6_numberOfTrailingZeros_73 rfl hl (Nat.le_of_ble_eq_true rfl) rfl (fun ls hl => ?_)
          refine lv_iload_n hx hb dJ6_numberOfTrailingZeros_74 rfl (lv_at hl 1 rfl) ?_
          refine lv_iload_n hx hb dJ6_numberOfTrailingZeros_75 rfl (lv_at hl 0 rfl) ?_
          refine lv_iconst (v := 1) hx hb dJ6_numberOfTrailingZeros_76 (by decide) ?_
          refine lv_iushr (x := nI ((tzm z9) / 4)) (y := 1) (v := nI (((tzm z9) / 4) / 2)) hx hb dJ6_numberOfTrailingZeros_77 (pk_ushrN (by omega) 1 1 rfl) ?_
          refine n_iadd hx hb (1 + 2) (((tzm z9) / 4) / 2) dJ6_numberOfTrailingZeros_78 ?_
          exact n_iret (v := nI ((1 + 2) + (((tzm z9) / 4) / 2))) C (congrArg nI (by rw [tzX, if_neg h0, tz_2 z9 hz h0 (by omega)]; repeat (first | rw [if_pos (by omega)] | rw [if_neg (by omega)]))) dJ6_numberOfTrailingZeros_79
      · have zc_5 : ¬ tzm z9 ≤ 16 := Nat.not_le.mpr c_5
        refine n_iinc (k := 0) (lv' := [(1, .int (nI (1 + 4))), (0, .int (nI (tzm z9)))]) hx hb 1 4 dJ6_numberOfTrailingZeros_55 hl rfl (Nat.le_of_ble_eq_true rfl) rfl (fun ls hl => ?_)
        refine lv_iload_n hx hb dJ6_numberOfTrailingZeros_58 rfl (lv_at hl 1 rfl) ?_
        refine lv_iconst (v := 4) hx hb dJ6_numberOfTrailingZeros_59 (by decide) ?_
        refine lv_iushr (x := nI (tzm z9)) (y := 4) (v := nI ((tzm z9) / 16)) hx hb dJ6_numberOfTrailingZeros_60 (pk_ushrN (by omega) 4 4 rfl) ?_
        refine lv_istore_n (lv' := [(0, .int (nI ((tzm z9) / 16))), (1, .int (nI (1 + 4)))]) hx hb dJ6_numberOfTrailingZeros_61 rfl hl (Nat.le_of_ble_eq_true rfl) rfl (fun ls hl => ?_)
        refine lv_iload_n hx hb dJ6_numberOfTrailingZeros_62 rfl (lv_at hl 0 rfl) ?_
        refine lv_iconst (v := 4) hx hb dJ6_numberOfTrailingZeros_63 (by decide) ?_
        refine n_ic_le (x := (tzm z9) / 16) (y := 4) (tgt := 74) hx hb (by omega) (by omega) dJ6_numberOfTrailingZeros_64 (by decide) (fun c_7 => ?_) (fun c_7 => ?_)
        · have zc_7 : ¬ 4 < (tzm z9) / 16 := Nat.not_lt.mpr c_7
          refine lv_iload_n hx hb dJ6_numberOfTrailingZeros_74 rfl (lv_at hl 1 rfl) ?_
          refine lv_iload_n hx hb dJ6_numberOfTrailingZeros_75 rfl (lv_at hl 0 rfl) ?_
          refine lv_iconst (v := 1) hx hb dJ6_numberOfTrailingZeros_76 (by decide) ?_
          refine lv_iushr (x := nI ((tzm z9) / 16)) (y := 1) (v := nI (((tzm z9) / 16) / 2)) hx hb dJ6_numberOfTrailingZeros_77 (pk_ushrN (by omega) 1 1 rfl) ?_
          refine n_iadd hx hb (1 + 4) (((tzm z9) / 16) / 2) dJ6_numberOfTrailingZeros_78 ?_
          exact n_iret (v := nI ((1 + 4) + (((tzm z9) / 16) / 2))) C (congrArg nI (by rw [tzX, if_neg h0, tz_2 z9 hz h0 (by omega)]; repeat (first | rw [if_pos (by omega)] | rw [if_neg (by omega)]))) dJ6_numberOfTrailingZeros_79
        · have zc_7 : ¬ (tzm z9) / 16 ≤ 4 := Nat.not_le.mpr c_7
          refine n_iinc (k := 1) (lv' := [(1, .int (nI (1 + 4 + 2))), (0, .int (nI ((tzm z9) / 16)))]) hx hb (1 + 4) 2 dJ6_numberOfTrailingZeros_67 hl rfl (Nat.le_of_ble_eq_true rfl) rfl (fun ls hl => ?_)
          refine lv_iload_n hx hb dJ6_numberOfTrailingZeros_70 rfl (lv_at hl 1 rfl) ?_
          refine lv_iconst (v := 2) hx hb dJ6_numberOfTrailingZeros_71 (by decide) ?_
          refine lv_iushr (x := nI ((tzm z9) / 16)) (y := 2) (v := nI (((tzm z9) / 16) / 4)) hx hb dJ6_numberOfTrailingZeros_72 (pk_ushrN (by omega) 2 2 rfl) ?_
          refine lv_istore_n (lv' := [(0, .int (nI (((tzm z9) / 16) / 4))), (1, .int (nI (1 + 4 + 2)))]) hx hb dJ6_numberOfTrailingZeros_73 rfl hl (Nat.le_of_ble_eq_true rfl) rfl (fun ls hl => ?_)
          refine lv_iload_n hx hb dJ6_numberOfTrailingZeros_74 rfl (lv_at hl 1 rfl) ?_
          refine lv_iload_n hx hb dJ6_numberOfTrailingZeros_75 rfl (lv_at hl 0 rfl) ?_
          refine lv_iconst (v := 1) hx hb dJ6_numberOfTrailingZeros_76 (by decide) ?_
          refine lv_iushr (x := nI (((tzm z9) / 16) / 4)) (y := 1) (v := nI ((((tzm z9) / 16) / 4) / 2)) hx hb dJ6_numberOfTrailingZeros_77 (pk_ushrN (by omega) 1 1 rfl) ?_
          refine n_iadd hx hb (1 + 4 + 2) ((((tzm z9) / 16) / 4) / 2) dJ6_numberOfTrailingZeros_78 ?_
          exact n_iret (v := nI ((1 + 4 + 2) + ((((tzm z9) / 16) / 4) / 2))) C (congrArg nI (by rw [tzX, if_neg h0, tz_2 z9 hz h0 (by omega)]; repeat (first | rw [if_pos (by omega)] | rw [if_neg (by omega)]))) dJ6_numberOfTrailingZeros_79
    · have zc_2 : nI (tzm z9) = 0 := congrArg nI c_2
      refine lv_iload_n hx hb dJ6_numberOfTrailingZeros_12 rfl (lv_at hl 0 rfl) ?_
      refine lv_bipush (v := 32) hx hb dJ6_numberOfTrailingZeros_13 (by decide) ?_
      refine lv_iand (x := nI (tzm z9)) (y := 32) hx hb dJ6_numberOfTrailingZeros_15 ?_
      exact n_iret (v := (nI (tzm z9)) &&& 32) C (by rw [c_2, tzX, if_neg h0, tz_1 z9 hz h0 c_2]; rfl) dJ6_numberOfTrailingZeros_16

set_option maxHeartbeats 4000000 in
set_option maxRecDepth 100000 in
theorem metJ7_fill (l : Launch) (G : GG) (a : Nat) (f : Nat → Int32) (v : Int32) : MWv l yJ7_fill cJ7_fill 4 none ({ frames := 0, cells := 0, slots := 0, locals := 0 }) [.ref a, .int v] [(a, iA G 8 f)] G (KM G) 0 0 (fun w1 => w1 = [(a, iA G 8 (fun _ => v))]) := by
  -- rows printed by wip/tools/gen.py
  refine mwv_mk RJ7 (by decide) rfl (Nat.le_of_ble_eq_true rfl) ?_
  intro p0_ e0_ s m args below meth c A C hname hA hP hK hD ls hl
  have hx := C.1
  have hb := C.2.1
  have hml := C.2.2.2.2.1
  have hown := C.2.2.2.2.2.1
  have hts := C.2.2.2.2.2.2
  have hS : va_S A s.heap s.heap [] := va_S.rf
  have hl : lv_has ls 4 [(0, .ref a), (1, .int v)] := hl
  refine lv_iconst (v := 0) hx hb dJ7_fill_0 (by decide) ?_
  refine lv_istore_n (lv' := [(2, .int 0), (0, .ref a), (1, .int v)]) hx hb dJ7_fill_1 rfl hl (Nat.le_of_ble_eq_true rfl) rfl (fun ls hl => ?_)
  refine lv_aload_n hx hb dJ7_fill_2 rfl (lv_at hl 1 rfl) ?_
  refine va_alen C.1 C.2.1 hK hP 0 0 (v := nI 8) rfl rfl rfl dJ7_fill_3 ?_
  refine lv_istore_n (lv' := [(3, .int (nI 8)), (2, .int 0), (0, .ref a), (1, .int v)]) hx hb dJ7_fill_4 rfl hl (Nat.le_of_ble_eq_true rfl) rfl (fun ls hl => ?_)
  suffices hlp_1 : (∀ (n i : Nat), i + n = 8 → ∀ (H : Heap) (locs : List Loc), PP G [(a, iA G 8 (cpf (fun _ => v) f i))] H → va_D A [(a, iA G 8 (cpf (fun _ => v) f i))] → va_S A s.heap H locs → ∀ (ls : Array Slot), lv_has ls 4 [(3, .int (nI 8)), (2, .int (nI i)), (0, .ref a), (1, .int v)] → W p0_ l e0_ ({ frames := 0, cells := 0, slots := 0, locals := 0 } : Room) s m args below meth c H locs (0) (0) (MQ below (va_Qv (S := va_W) (fun w1 => w1 = [(a, iA G 8 (fun _ => v))]) (fun w1 t => PP G w1 t.heap ∧ va_D A w1) A) args s 0 0 A) (F0 m 5 ls [])) by
    exact hlp_1 (8) 0 (by omega) _ _ (hP.sub [0] (by rw [cpf_0]; rfl)) (hD.sub [0] (by decide) (by rw [cpf_0]; rfl)) hS ls (lv_sub hl [0, 1, 2, 3] rfl)
  have hend_1 : ∀ (H : Heap) (locs : List Loc), PP G [(a, iA G 8 (cpf (fun _ => v) f 8))] H → va_D A [(a, iA G 8 (cpf (fun _ => v) f 8))] → va_S A s.heap H locs → ∀ (ls : Array Slot), lv_has ls 4 [(3, .int (nI 8)), (2, .int (nI 8)), (0, .ref a), (1, .int v)] → W p0_ l e0_ ({ frames := 0, cells := 0, slots := 0, locals := 0 } : Room) s m args below meth c H locs (0) (0) (MQ below (va_Qv (S := va_W) (fun w1 => w1 = [(a, iA G 8 (fun _ => v))]) (fun w1 t => PP G w1 t.heap ∧ va_D A w1) A) args s 0 0 A) (F0 m 5 ls []) := by
    intro H locs hP hD hS ls hl
    refine lv_iload_n hx hb dJ7_fill_5 rfl (lv_at hl 1 rfl) ?_
    refine lv_iload_n hx hb dJ7_fill_6 rfl (lv_at hl 0 rfl) ?_
    refine n_ic_ge (x := 8) (y := 8) (tgt := 20) hx hb (by omega) (by omega) dJ7_fill_7 (by decide) (fun c_2 => ?_) (fun c_2 => absurd c_2 (by omega))
    have hP := pp_ext hP 0 rfl (g := fun _ => v) (fun j hj => cpf_lt (f := fun _ => v) (g := f) hj)
    have hD : va_D A [(a, iA G 8 (fun _ => v))] := hD.set (p := 0) (e := iA G 8 (fun _ => v)) rfl
    have hP : PP G [(a, iA G 8 (fun _ => v))] H := hP
    have hD : va_D A [(a, iA G 8 (fun _ => v))] := hD
    exact n_vretW (w1 := [(a, iA G 8 (fun _ => v))]) C (rfl) hP hD hS (by first | omega | decide) (by first | omega | decide) dJ7_fill_20
  intro n
  induction n with
  | zero =>
    intro i hi_1 H locs hP hD hS ls hl
    obtain e_1 : i = 8 := by omega
    first | (subst e_1; exact hend_1 H locs hP hD hS ls hl) | (rw [e_1] at hl hP hD; exact hend_1 H locs hP hD hS ls hl)
  | succ n ih_1 =>
    intro i hi_1 H locs hP hD hS ls hl
    refine lv_iload_n hx hb dJ7_fill_5 rfl (lv_at hl 1 rfl) ?_
    refine lv_iload_n hx hb dJ7_fill_6 rfl (lv_at hl 0 rfl) ?_
    refine n_ic_ge (x := i) (y := 8) (tgt := 20) hx hb (by omega) (by omega) dJ7_fill_7 (by decide) (fun c_3 => absurd c_3 (by omega)) (fun c_3 => ?_)
    refine lv_aload_n hx hb dJ7_fill_10 rfl (lv_at hl 2 rfl) ?_
    refine lv_iload_n hx hb dJ7_fill_11 rfl (lv_at hl 1 rfl) ?_
    refine lv_iload_n hx hb dJ7_fill_12 rfl (lv_at hl 3 rfl) ?_
    refine n_iast (x := v) C hK hP hD hS 0 i rfl (by omega) (by omega) dJ7_fill_13 (fun H locs hP hD hS => ?_)
    have hP : PP G [(a, iA G 8 (upd (cpf (fun _ => v) f i) i v))] H := hP
    have hD : va_D A [(a, iA G 8 (upd (cpf (fun _ => v) f i) i v))] := hD
    refine n_iinc (k := 1) (lv' := [(2, .int (nI (i + 1))), (3, .int (nI 8)), (0, .ref a), (1, .int v)]) hx hb i 1 dJ7_fill_14 hl rfl (Nat.le_of_ble_eq_true rfl) rfl (fun ls hl => ?_)
    refine lv_goto (tgt := 5) hx hb dJ7_fill_17 (by decide) ?_
    have e_4 : (iA G 8 (cpf (fun _ => v) f (i + 1)) : va_E) = iA G 8 (upd (cpf (fun _ => v) f i) i v) := by rw [cpf_s]
    exact ih_1 (i + 1) (by omega) _ _ (by rw [e_4]; exact hP.sub [0] rfl) (by rw [e_4]; exact hD.sub [0] (by decide) rfl) hS ls (lv_sub hl [1, 0, 2, 3] rfl)

set_option maxHeartbeats 4000000 in
set_option maxRecDepth 100000 in
theorem metX1_without (l : Launch) (G : GG) (z9 p q : Nat) (hz : z9 < 256) (hp : p < 8) (hq : q < 8) : MR l yX1_without cX1_without 3 (some .int) ({ frames := 0, cells := 0, slots := 0, locals := 0 }) [.int (nI z9), .int (nI p), .int (nI q)] [] G (KM G) (nI (wo z9 p q)) := by
  -- rows printed by wip/tools/gen.py
  refine mr_mk RX1 (by decide) rfl (Nat.le_of_ble_eq_true rfl) ?_
  intro p0_ e0_ s m args below meth c C hP hK ls hl
  have hx := C.1
  have hb := C.2.1
  have hml := C.2.2.2.2.1
  have hown := C.2.2.2.2.2.1
  have hts := C.2.2.2.2.2.2
  have hl : lv_has ls 3 [(0, .int (nI z9)), (1, .int (nI p)), (2, .int (nI q))] := hl
  refine lv_iload_n hx hb dX1_without_0 rfl (lv_at hl 0 rfl) ?_
  refine lv_iconst (v := 1) hx hb dX1_without_1 (by decide) ?_
  refine lv_iload_n hx hb dX1_without_2 rfl (lv_at hl 1 rfl) ?_
  refine lv_ishl (x := 1) (y := nI p) hx hb dX1_without_3 ?_
  refine lv_iconst (v := (-1)) hx hb dX1_without_4 (by decide) ?_
  refine lv_ixor (x := 1 <<< ((nI p) &&& 31)) (y := (-1)) hx hb dX1_without_5 ?_
  refine lv_iand (x := nI z9) (y := (1 <<< ((nI p) &&& 31)) ^^^ (-1)) hx hb dX1_without_6 ?_
  refine lv_iconst (v := 1) hx hb dX1_without_7 (by decide) ?_
  refine lv_iload_n hx hb dX1_without_8 rfl (lv_at hl 2 rfl) ?_
  refine lv_ishl (x := 1) (y := nI q) hx hb dX1_without_9 ?_
  refine lv_iconst (v := (-1)) hx hb dX1_without_10 (by decide) ?_
  refine lv_ixor (x := 1 <<< ((nI q) &&& 31)) (y := (-1)) hx hb dX1_without_11 ?_
  refine lv_iand (x := (nI z9) &&& ((1 <<< ((nI p) &&& 31)) ^^^ (-1))) (y := (1 <<< ((nI q) &&& 31)) ^^^ (-1)) hx hb dX1_without_12 ?_
  refine n_eqi (wo_n z9 hz p hp q hq) ?_
  exact n_iret (v := nI (wo z9 p q)) C (rfl) dX1_without_13

set_option maxHeartbeats 4000000 in
set_option maxRecDepth 100000 in
theorem metX1_pairValue (l : Launch) (G : GG) (h : Nat) (xa : Nat → Nat) (xi : Nat → Int32) (fn : Nat → Nat) (gm : GM) (wh : Nat → Option Nat) (r : Nat → Int32) (N : Nat) (vv : Nat → Int32) (mo z9 p q j x : Nat) (hN : N ≤ 8) (hr : r 0 = nI N) (hwk : WK gm wh r N) (hm : 1 ≤ mo ∧ mo ≤ 4) (hz : z9 < 256) (hp : p < N) (hq : q < N) (hj : sJoy r p q = nI j) (hxv : vv (256 * (mo - 1) + wo z9 p q) = nI x) : MR l yX1_pairValue cX1_pairValue 5 (some .int) ({ frames := 9, cells := 0, slots := 0, locals := 265 }) [.ref h, .int (nI mo), .int (nI z9), .int (nI p), .int (nI q)] [(h, xO xa xi), (xa 0, fO fn r), (fn 0, qA G 3 9 wh), (fn 1, iA G 9 (fA r 2)), (fn 2, iA G 9 (fA r 3)), (fn 3, iA G 9 (fA r 4)), (fn 4, iA G 9 (fA r 5)), (xa 5, iA G 1280 vv)] G (KG G gm) (nI (j + x)) := by
  -- rows printed by wip/tools/gen.py
  refine mr_mk RX1 (by decide) rfl (Nat.le_of_ble_eq_true rfl) ?_
  intro p0_ e0_ s m args below meth c C hP hK ls hl
  have hGP := hK.2
  have hK := hK.1
  have hx := C.1
  have hb := C.2.1
  have hml := C.2.2.2.2.1
  have hown := C.2.2.2.2.2.1
  have hts := C.2.2.2.2.2.2
  have hl : lv_has ls 5 [(0, .ref h), (1, .int (nI mo)), (2, .int (nI z9)), (3, .int (nI p)), (4, .int (nI q))] := hl
  have hw9 := wo_le z9 p q
  have hxx := hxv
  refine lv_aload_n hx hb dX1_pairValue_0 rfl (lv_at hl 0 rfl) ?_
  refine va_get (D := gD G) (ci := 1) (v := .ref (xa 0)) (C := RX1) (T := TX1) (N := 9) hx hb hts in_X1 hown hK.1 hP 0 rfl rfl 0 (by decide) (hts _ q838) (fun _ h9 => h9) rfl dX1_pairValue_1 ?_
  refine lv_iload_n hx hb dX1_pairValue_4 rfl (lv_at hl 3 rfl) ?_
  refine lv_iload hx hb dX1_pairValue_5 (lv_at hl 4 rfl) ?_
  refine c_Vk (rest := []) C (metX2_joys l G (xa 0) fn gm wh r N p q (by omega) (hr) (hwk) (by omega) (by omega)) 2 (lw_V q550 q403 q404 q40 q405) (by decide +kernel) ⟨rfl, rfl⟩ ⟨(Nat.le_of_ble_eq_true rfl), (Nat.le_of_ble_eq_true rfl)⟩ (KG.call) (va_recv hK.1 hP (ci := 2) (q0 := 1) rfl rfl) (hP.sub (ws' := [(xa 0, fO fn r), (fn 0, qA G 3 9 wh), (fn 1, iA G 9 (fA r 2)), (fn 2, iA G 9 (fA r 3)), (fn 3, iA G 9 (fA r 4)), (fn 4, iA G 9 (fA r 5))]) [1, 2, 3, 4, 5, 6] rfl) (KG.at hK hGP) hl rfl rfl (Nat.le_of_ble_eq_true rfl) ⟨(Nat.le_of_ble_eq_true rfl), (Nat.le_of_ble_eq_true rfl)⟩ dX1_pairValue_7 ?_
  refine n_eqi (hj) ?_
  refine lv_aload_n hx hb dX1_pairValue_10 rfl (lv_at hl 0 rfl) ?_
  refine va_get (D := gD G) (ci := 1) (v := .ref (xa 5)) (C := RX1) (T := TX1) (N := 9) hx hb hts in_X1 hown hK.1 hP 0 rfl rfl 5 (by decide) (hts _ q843) (fun _ h9 => h9) rfl dX1_pairValue_11 ?_
  refine lv_sipush (v := 256) hx hb dX1_pairValue_14 (by decide) ?_
  refine lv_iload_n hx hb dX1_pairValue_17 rfl (lv_at hl 1 rfl) ?_
  refine lv_iconst (v := 1) hx hb dX1_pairValue_18 (by decide) ?_
  refine n_isub hx hb mo 1 (by omega) dX1_pairValue_19 ?_
  refine n_imul hx hb 256 (mo - 1) dX1_pairValue_20 ?_
  refine lv_iload_n hx hb dX1_pairValue_21 rfl (lv_at hl 2 rfl) ?_
  refine lv_iload_n hx hb dX1_pairValue_22 rfl (lv_at hl 3 rfl) ?_
  refine lv_iload hx hb dX1_pairValue_23 (lv_at hl 4 rfl) ?_
  refine c_S (rest := [.int (nI (256 * (mo - 1))), .ref (xa 5), .int (nI j)]) C (metX1_without l G z9 p q (by omega) (by omega) (by omega)) 3 (lw_S q603 q604 q39 q605) (by decide +kernel) ⟨rfl, rfl⟩ ⟨(Nat.le_of_ble_eq_true rfl), (Nat.le_of_ble_eq_true rfl)⟩ (KM_mv G) (hP.sub (ws' := []) [] rfl) hK.1 hl rfl rfl (Nat.le_of_ble_eq_true rfl) ⟨(Nat.le_of_ble_eq_true rfl), (Nat.le_of_ble_eq_true rfl)⟩ dX1_pairValue_25 ?_
  refine n_iadd hx hb (256 * (mo - 1)) (wo z9 p q) dX1_pairValue_28 ?_
  refine n_iald C hK.1 hP 7 ((256 * (mo - 1)) + (wo z9 p q)) rfl (by omega) (by omega) dX1_pairValue_29 ?_
  refine n_eqi (hxx) ?_
  refine n_iadd hx hb j x dX1_pairValue_30 ?_
  exact n_iret (v := nI (j + x)) C (rfl) dX1_pairValue_31

set_option maxHeartbeats 4000000 in
set_option maxRecDepth 100000 in
theorem metX1_findPairs (l : Launch) (G : GG) (h : Nat) (xa : Nat → Nat) (xi : Nat → Int32) (fn : Nat → Nat) (gm : GM) (wh : Nat → Option Nat) (r : Nat → Int32) (N : Nat) (vv : Nat → Int32) (hN : N ≤ 8) (hr : r 0 = nI N) (hwk : WK gm wh r N) (hri : RI r N) (hng : NG gm [(h, xO xa xi), (xa 0, fO fn r), (fn 0, qA G 3 9 wh), (fn 1, iA G 9 (fA r 2)), (fn 2, iA G 9 (fA r 3)), (fn 3, iA G 9 (fA r 4)), (fn 4, iA G 9 (fA r 5)), (xa 5, iA G 1280 vv)]) : MWv l yX1_findPairs cX1_findPairs 6 none ({ frames := 10, cells := 0, slots := 0, locals := 289 }) [.ref h] [(h, xO xa xi), (xa 0, fO fn r), (fn 0, qA G 3 9 wh), (fn 1, iA G 9 (fA r 2)), (fn 2, iA G 9 (fA r 3)), (fn 3, iA G 9 (fA r 4)), (fn 4, iA G 9 (fA r 5)), (xa 5, iA G 1280 vv)] G (KG G gm) 0 0 (fun w1 => ∃ g : Nat → Int32, (∀ m s, m ≤ 4 → s < 2 ^ N → g (256 * m + s) = nI (xV r N m s)) ∧ w1 = [(h, xO xa xi), (xa 0, fO fn r), (fn 0, qA G 3 9 wh), (fn 1, iA G 9 (fA r 2)), (fn 2, iA G 9 (fA r 3)), (fn 3, iA G 9 (fA r 4)), (fn 4, iA G 9 (fA r 5)), (xa 5, iA G 1280 g)]) := by
  -- rows printed by wip/tools/gen.py
  refine mwv_mkg RX1 (by decide) rfl (Nat.le_of_ble_eq_true rfl) ?_
  intro p0_ e0_ s m args below meth c A C hname hA hAx hP hK hD ls hl
  have hGP := hK.2
  have hK := hK.1
  have hGA := GA.of hng hGP hAx
  have hx := C.1
  have hb := C.2.1
  have hml := C.2.2.2.2.1
  have hown := C.2.2.2.2.2.1
  have hts := C.2.2.2.2.2.2
  have hS : va_S A s.heap s.heap [] := va_S.rf
  have hl : lv_has ls 6 [(0, .ref h)] := hl
  have h28 := p28 hN
  refine lv_iconst (v := 0) hx hb dX1_findPairs_0 (by decide) ?_
  refine lv_istore_n (lv' := [(1, .int 0), (0, .ref h)]) hx hb dX1_findPairs_1 rfl hl (Nat.le_of_ble_eq_true rfl) rfl (fun ls hl => ?_)
  suffices hlp_1 : (∀ (n mm : Nat), mm + n = 5 → ∀ (vv : Nat → Int32), ∀ (H : Heap) (locs : List Loc), PP G [(h, xO xa xi), (xa 0, fO fn r), (fn 0, qA G 3 9 wh), (fn 1, iA G 9 (fA r 2)), (fn 2, iA G 9 (fA r 3)), (fn 3, iA G 9 (fA r 4)), (fn 4, iA G 9 (fA r 5)), (xa 5, iA G 1280 vv)] H → va_D A [(h, xO xa xi), (xa 0, fO fn r), (fn 0, qA G 3 9 wh), (fn 1, iA G 9 (fA r 2)), (fn 2, iA G 9 (fA r 3)), (fn 3, iA G 9 (fA r 4)), (fn 4, iA G 9 (fA r 5)), (xa 5, iA G 1280 vv)] → va_S A s.heap H locs → (∀ m s, m < mm → s < 2 ^ N → vv (256 * m + s) = nI (xV r N m s)) → ∀ (ls : Array Slot), lv_has ls 6 [(1, .int (nI mm)), (0, .ref h)] → W p0_ l e0_ ({ frames := 10, cells := 0, slots := 0, locals := 289 } : Room) s m args below meth c H locs (0) (0) (MQ below (va_Qv (S := va_W) (fun w1 => ∃ g : Nat → Int32, (∀ m s, m ≤ 4 → s < 2 ^ N → g (256 * m + s) = nI (xV r N m s)) ∧ w1 = [(h, xO xa xi), (xa 0, fO fn r), (fn 0, qA G 3 9 wh), (fn 1, iA G 9 (fA r 2)), (fn 2, iA G 9 (fA r 3)), (fn 3, iA G 9 (fA r 4)), (fn 4, iA G 9 (fA r 5)), (xa 5, iA G 1280 g)]) (fun w1 t => PP G w1 t.heap ∧ va_D A w1) A) args s 0 0 A) (F0 m 2 ls [])) by
    exact hlp_1 (5) 0 (by omega) (vv) _ _ (hP.sub [0, 1, 2, 3, 4, 5, 6, 7] rfl) (hD.sub [0, 1, 2, 3, 4, 5, 6, 7] (by decide) rfl) hS (by intro m s h; omega) ls (lv_sub hl [0, 1] rfl)
  have hend_1 : ∀ (vv : Nat → Int32), ∀ (H : Heap) (locs : List Loc), PP G [(h, xO xa xi), (xa 0, fO fn r), (fn 0, qA G 3 9 wh), (fn 1, iA G 9 (fA r 2)), (fn 2, iA G 9 (fA r 3)), (fn 3, iA G 9 (fA r 4)), (fn 4, iA G 9 (fA r 5)), (xa 5, iA G 1280 vv)] H → va_D A [(h, xO xa xi), (xa 0, fO fn r), (fn 0, qA G 3 9 wh), (fn 1, iA G 9 (fA r 2)), (fn 2, iA G 9 (fA r 3)), (fn 3, iA G 9 (fA r 4)), (fn 4, iA G 9 (fA r 5)), (xa 5, iA G 1280 vv)] → va_S A s.heap H locs → (∀ m s, m < 5 → s < 2 ^ N → vv (256 * m + s) = nI (xV r N m s)) → ∀ (ls : Array Slot), lv_has ls 6 [(1, .int (nI 5)), (0, .ref h)] → W p0_ l e0_ ({ frames := 10, cells := 0, slots := 0, locals := 289 } : Room) s m args below meth c H locs (0) (0) (MQ below (va_Qv (S := va_W) (fun w1 => ∃ g : Nat → Int32, (∀ m s, m ≤ 4 → s < 2 ^ N → g (256 * m + s) = nI (xV r N m s)) ∧ w1 = [(h, xO xa xi), (xa 0, fO fn r), (fn 0, qA G 3 9 wh), (fn 1, iA G 9 (fA r 2)), (fn 2, iA G 9 (fA r 3)), (fn 3, iA G 9 (fA r 4)), (fn 4, iA G 9 (fA r 5)), (xa 5, iA G 1280 g)]) (fun w1 t => PP G w1 t.heap ∧ va_D A w1) A) args s 0 0 A) (F0 m 2 ls []) := by
    intro vv H locs hP hD hS hI ls hl
    refine lv_iload_n hx hb dX1_findPairs_2 rfl (lv_at hl 0 rfl) ?_
    refine lv_iconst (v := 4) hx hb dX1_findPairs_3 (by decide) ?_
    refine n_ic_gt (x := 5) (y := 4) (tgt := 176) hx hb (by omega) (by omega) dX1_findPairs_4 (by decide) (fun c_2 => ?_) (fun c_2 => absurd c_2 (by omega))
    exact n_vretW (w1 := [(h, xO xa xi), (xa 0, fO fn r), (fn 0, qA G 3 9 wh), (fn 1, iA G 9 (fA r 2)), (fn 2, iA G 9 (fA r 3)), (fn 3, iA G 9 (fA r 4)), (fn 4, iA G 9 (fA r 5)), (xa 5, iA G 1280 vv)]) C (⟨_, fun m s h1 h2 => hI m s (by omega) h2, rfl⟩) hP hD hS (by first | omega | decide) (by first | omega | decide) dX1_findPairs_176
  intro n
  induction n with
  | zero =>
    intro mm hi_1 vv H locs hP hD hS hI ls hl
    obtain e_1 : mm = 5 := by omega
    first | (subst e_1; exact hend_1 vv H locs hP hD hS hI ls hl) | (rw [e_1] at hl hP hD; exact hend_1 vv H locs hP hD hS hI ls hl)
  | succ n ih_1 =>
    intro mm hi_1 vv H locs hP hD hS hI ls hl
    refine lv_iload_n hx hb dX1_findPairs_2 rfl (lv_at hl 0 rfl) ?_
    refine lv_iconst (v := 4) hx hb dX1_findPairs_3 (by decide) ?_
    refine n_ic_gt (x := mm) (y := 4) (tgt := 176) hx hb (by omega) (by omega) dX1_findPairs_4 (by decide) (fun c_3 => absurd c_3 (by omega)) (fun c_3 => ?_)
    refine lv_iconst (v := 0) hx hb dX1_findPairs_7 (by decide) ?_
    refine lv_istore_n (lv' := [(2, .int 0), (1, .int (nI mm)), (0, .ref h)]) hx hb dX1_findPairs_8 rfl hl (Nat.le_of_ble_eq_true rfl) rfl (fun ls hl => ?_)
    suffices hlp_4 : (∀ (n ss : Nat), ss + n = 2 ^ N → ∀ (vv : Nat → Int32), ∀ (H : Heap) (locs : List Loc), PP G [(h, xO xa xi), (xa 0, fO fn r), (fn 0, qA G 3 9 wh), (fn 1, iA G 9 (fA r 2)), (fn 2, iA G 9 (fA r 3)), (fn 3, iA G 9 (fA r 4)), (fn 4, iA G 9 (fA r 5)), (xa 5, iA G 1280 vv)] H → va_D A [(h, xO xa xi), (xa 0, fO fn r), (fn 0, qA G 3 9 wh), (fn 1, iA G 9 (fA r 2)), (fn 2, iA G 9 (fA r 3)), (fn 3, iA G 9 (fA r 4)), (fn 4, iA G 9 (fA r 5)), (xa 5, iA G 1280 vv)] → va_S A s.heap H locs → (∀ m s, m < mm → s < 2 ^ N → vv (256 * m + s) = nI (xV r N m s)) → (∀ s, s < ss → vv (256 * mm + s) = nI (xV r N mm s)) → ∀ (ls : Array Slot), lv_has ls 6 [(2, .int (nI ss)), (1, .int (nI mm)), (0, .ref h)] → W p0_ l e0_ ({ frames := 10, cells := 0, slots := 0, locals := 289 } : Room) s m args below meth c H locs (0) (0) (MQ below (va_Qv (S := va_W) (fun w1 => ∃ g : Nat → Int32, (∀ m s, m ≤ 4 → s < 2 ^ N → g (256 * m + s) = nI (xV r N m s)) ∧ w1 = [(h, xO xa xi), (xa 0, fO fn r), (fn 0, qA G 3 9 wh), (fn 1, iA G 9 (fA r 2)), (fn 2, iA G 9 (fA r 3)), (fn 3, iA G 9 (fA r 4)), (fn 4, iA G 9 (fA r 5)), (xa 5, iA G 1280 g)]) (fun w1 t => PP G w1 t.heap ∧ va_D A w1) A) args s 0 0 A) (F0 m 9 ls [])) by
      exact hlp_4 (2 ^ N) 0 (by omega) (vv) _ _ (hP.sub [0, 1, 2, 3, 4, 5, 6, 7] rfl) (hD.sub [0, 1, 2, 3, 4, 5, 6, 7] (by decide) rfl) hS (hI) (by intro s h; omega) ls (lv_sub hl [0, 1, 2] rfl)
    have hend_4 : ∀ (vv : Nat → Int32), ∀ (H : Heap) (locs : List Loc), PP G [(h, xO xa xi), (xa 0, fO fn r), (fn 0, qA G 3 9 wh), (fn 1, iA G 9 (fA r 2)), (fn 2, iA G 9 (fA r 3)), (fn 3, iA G 9 (fA r 4)), (fn 4, iA G 9 (fA r 5)), (xa 5, iA G 1280 vv)] H → va_D A [(h, xO xa xi), (xa 0, fO fn r), (fn 0, qA G 3 9 wh), (fn 1, iA G 9 (fA r 2)), (fn 2, iA G 9 (fA r 3)), (fn 3, iA G 9 (fA r 4)), (fn 4, iA G 9 (fA r 5)), (xa 5, iA G 1280 vv)] → va_S A s.heap H locs → (∀ m s, m < mm → s < 2 ^ N → vv (256 * m + s) = nI (xV r N m s)) → (∀ s, s < (2 ^ N) → vv (256 * mm + s) = nI (xV r N mm s)) → ∀ (ls : Array Slot), lv_has ls 6 [(2, .int (nI (2 ^ N))), (1, .int (nI mm)), (0, .ref h)] → W p0_ l e0_ ({ frames := 10, cells := 0, slots := 0, locals := 289 } : Room) s m args below meth c H locs (0) (0) (MQ below (va_Qv (S := va_W) (fun w1 => ∃ g : Nat → Int32, (∀ m s, m ≤ 4 → s < 2 ^ N → g (256 * m + s) = nI (xV r N m s)) ∧ w1 = [(h, xO xa xi), (xa 0, fO fn r), (fn 0, qA G 3 9 wh), (fn 1, iA G 9 (fA r 2)), (fn 2, iA G 9 (fA r 3)), (fn 3, iA G 9 (fA r 4)), (fn 4, iA G 9 (fA r 5)), (xa 5, iA G 1280 g)]) (fun w1 t => PP G w1 t.heap ∧ va_D A w1) A) args s 0 0 A) (F0 m 9 ls []) := by
      intro vv H locs hP hD hS hI hJ ls hl
      refine lv_iload_n hx hb dX1_findPairs_9 rfl (lv_at hl 0 rfl) ?_
      refine lv_iconst (v := 1) hx hb dX1_findPairs_10 (by decide) ?_
      refine lv_aload_n hx hb dX1_findPairs_11 rfl (lv_at hl 2 rfl) ?_
      refine va_get (D := gD G) (ci := 1) (v := .ref (xa 0)) (C := RX1) (T := TX1) (N := 9) hx hb hts in_X1 hown hK.1 hP 0 rfl rfl 0 (by decide) (hts _ q838) (fun _ h9 => h9) rfl dX1_findPairs_12 ?_
      refine va_get (D := gD G) (ci := 2) (v := .int (r 0)) (C := RX2) (T := TX2) (N := 8) hx hb hts in_X2 hown hK.1 hP 1 rfl rfl 5 (by decide) (hts _ q803) (fun _ h9 => h9) rfl dX1_findPairs_15 ?_
      refine n_eqi (hr) ?_
      refine lv_ishl (x := 1) (y := nI N) hx hb dX1_findPairs_18 ?_
      refine n_eqi (shl1 N (by omega)) ?_
      refine n_ic_ge (x := (2 ^ N)) (y := 2 ^ N) (tgt := 170) hx hb (by omega) (by omega) dX1_findPairs_19 (by decide) (fun c_5 => ?_) (fun c_5 => absurd c_5 (by omega))
      refine n_iinc (k := 1) (lv' := [(1, .int (nI (mm + 1))), (2, .int (nI (2 ^ N))), (0, .ref h)]) hx hb mm 1 dX1_findPairs_170 hl rfl (Nat.le_of_ble_eq_true rfl) rfl (fun ls hl => ?_)
      refine lv_goto (tgt := 2) hx hb dX1_findPairs_173 (by decide) ?_
      exact ih_1 (mm + 1) (by omega) vv _ _ (by exact hP.sub [0, 1, 2, 3, 4, 5, 6, 7] rfl) (by exact hD.sub [0, 1, 2, 3, 4, 5, 6, 7] (by decide) rfl) hS (fun m s h1 h2 => by
      rcases Nat.lt_or_ge m mm with q | q
      · exact hI m s q h2
      · rw [show m = mm by omega]; exact hJ s h2) ls (lv_sub hl [0, 2] rfl)
    intro n
    induction n with
    | zero =>
      intro ss hi_4 vv H locs hP hD hS hI hJ ls hl
      obtain e_4 : ss = 2 ^ N := by omega
      first | (subst e_4; exact hend_4 vv H locs hP hD hS hI hJ ls hl) | (rw [e_4] at hl hP hD; exact hend_4 vv H locs hP hD hS hI hJ ls hl)
    | succ n ih_4 =>
      intro ss hi_4 vv H locs hP hD hS hI hJ ls hl
      refine lv_iload_n hx hb dX1_findPairs_9 rfl (lv_at hl 0 rfl) ?_
      refine lv_iconst (v := 1) hx hb dX1_findPairs_10 (by decide) ?_
      refine lv_aload_n hx hb dX1_findPairs_11 rfl (lv_at hl 2 rfl) ?_
      refine va_get (D := gD G) (ci := 1) (v := .ref (xa 0)) (C := RX1) (T := TX1) (N := 9) hx hb hts in_X1 hown hK.1 hP 0 rfl rfl 0 (by decide) (hts _ q838) (fun _ h9 => h9) rfl dX1_findPairs_12 ?_
      refine va_get (D := gD G) (ci := 2) (v := .int (r 0)) (C := RX2) (T := TX2) (N := 8) hx hb hts in_X2 hown hK.1 hP 1 rfl rfl 5 (by decide) (hts _ q803) (fun _ h9 => h9) rfl dX1_findPairs_15 ?_
      refine n_eqi (hr) ?_
      refine lv_ishl (x := 1) (y := nI N) hx hb dX1_findPairs_18 ?_
      refine n_eqi (shl1 N (by omega)) ?_
      refine n_ic_ge (x := ss) (y := 2 ^ N) (tgt := 170) hx hb (by omega) (by omega) dX1_findPairs_19 (by decide) (fun c_6 => absurd c_6 (by omega)) (fun c_6 => ?_)
      refine lv_iload_n hx hb dX1_findPairs_22 rfl (lv_at hl 0 rfl) ?_
      refine c_S (rest := []) C (metJ6_numberOfTrailingZeros l G ss (by omega)) 1 (lw_S q592 q593 q61 q594) (by decide +kernel) ⟨rfl, rfl⟩ ⟨(Nat.le_of_ble_eq_true rfl), (Nat.le_of_ble_eq_true rfl)⟩ (KM_mv G) (hP.sub (ws' := []) [] rfl) hK.1 hl rfl rfl (Nat.le_of_ble_eq_true rfl) ⟨(Nat.le_of_ble_eq_true rfl), (Nat.le_of_ble_eq_true rfl)⟩ dX1_findPairs_23 ?_
      refine lv_istore_n (lv' := [(3, .int (nI (tzX ss))), (2, .int (nI ss)), (1, .int (nI mm)), (0, .ref h)]) hx hb dX1_findPairs_26 rfl hl (Nat.le_of_ble_eq_true rfl) rfl (fun ls hl => ?_)
      refine lv_iload_n hx hb dX1_findPairs_27 rfl (lv_at hl 1 rfl) ?_
      refine n_if_ne (x := ss) (tgt := 35) hx hb (by omega) dX1_findPairs_28 (by decide) (fun c_7 => ?_) (fun c_7 => ?_)
      · have zc_7 : ¬ nI ss = 0 := nI_ne0 c_7 (by omega)
        have yc_7 : ¬ ss = 0 := Nat.ne_of_gt c_7
        have h0 : ss ≠ 0 := by omega
        have hs8 : ss < 256 := by omega
        have hz8 := ntz_lt (N := N) (by omega) hN h0
        have hr8 := rmv_lt hs8 h0
        rw [tzX_s h0] at hl
        have b0 := xV_le (m := mm) (s := rmv ss (ntz ss)) hri hN (by omega)
        refine lv_aload_n hx hb dX1_findPairs_35 rfl (lv_at hl 3 rfl) ?_
        refine va_get (D := gD G) (ci := 1) (v := .ref (xa 5)) (C := RX1) (T := TX1) (N := 9) hx hb hts in_X1 hown hK.1 hP 0 rfl rfl 5 (by decide) (hts _ q843) (fun _ h9 => h9) rfl dX1_findPairs_36 ?_
        refine lv_sipush (v := 256) hx hb dX1_findPairs_39 (by decide) ?_
        refine lv_iload_n hx hb dX1_findPairs_42 rfl (lv_at hl 2 rfl) ?_
        refine n_imul hx hb 256 mm dX1_findPairs_43 ?_
        refine lv_iload_n hx hb dX1_findPairs_44 rfl (lv_at hl 1 rfl) ?_
        refine lv_iload_n hx hb dX1_findPairs_45 rfl (lv_at hl 1 rfl) ?_
        refine lv_iconst (v := 1) hx hb dX1_findPairs_46 (by decide) ?_
        refine lv_isub (x := nI ss) (y := 1) hx hb dX1_findPairs_47 ?_
        refine lv_iand (x := nI ss) (y := (nI ss) - 1) hx hb dX1_findPairs_48 ?_
        refine n_eqi (low_n ss hs8 h0) ?_
        refine n_iadd hx hb (256 * mm) (rmv ss (ntz ss)) dX1_findPairs_49 ?_
        refine n_iald C hK.1 hP 7 ((256 * mm) + (rmv ss (ntz ss))) rfl (by omega) (by omega) dX1_findPairs_50 ?_
        refine n_eqi (hJ _ hr8) ?_
        refine lv_istore (lv' := [(4, .int (nI (xV r N mm (rmv ss (ntz ss))))), (3, .int (nI (ntz ss))), (2, .int (nI ss)), (1, .int (nI mm)), (0, .ref h)]) hx hb dX1_findPairs_51 hl (Nat.le_of_ble_eq_true rfl) rfl (fun ls hl => ?_)
        rcases Nat.eq_zero_or_pos mm with m0 | m0
        · subst m0
          refine lv_iload_n hx hb dX1_findPairs_53 rfl (lv_at hl 1 rfl) ?_
          refine lv_iconst (v := 1) hx hb dX1_findPairs_54 (by decide) ?_
          refine n_iadd hx hb (ntz ss) 1 dX1_findPairs_55 ?_
          refine lv_istore (lv' := [(5, .int (nI ((ntz ss) + 1))), (4, .int (nI (xV r N 0 (rmv ss (ntz ss))))), (3, .int (nI (ntz ss))), (2, .int (nI ss)), (1, .int (nI 0)), (0, .ref h)]) hx hb dX1_findPairs_56 hl (Nat.le_of_ble_eq_true rfl) rfl (fun ls hl => ?_)
          refine lv_iload hx hb dX1_findPairs_58 (lv_at hl 0 rfl) ?_
          refine lv_aload_n hx hb dX1_findPairs_60 rfl (lv_at hl 5 rfl) ?_
          refine va_get (D := gD G) (ci := 1) (v := .ref (xa 0)) (C := RX1) (T := TX1) (N := 9) hx hb hts in_X1 hown hK.1 hP 0 rfl rfl 0 (by decide) (hts _ q838) (fun _ h9 => h9) rfl dX1_findPairs_61 ?_
          refine va_get (D := gD G) (ci := 2) (v := .int (r 0)) (C := RX2) (T := TX2) (N := 8) hx hb hts in_X2 hown hK.1 hP 1 rfl rfl 5 (by decide) (hts _ q803) (fun _ h9 => h9) rfl dX1_findPairs_64 ?_
          refine n_eqi (hr) ?_
          refine n_ic_ge (x := (ntz ss) + 1) (y := N) (tgt := 150) hx hb (by omega) (by omega) dX1_findPairs_67 (by decide) (fun c_9 => ?_) (fun c_9 => ?_)
          · have zc_9 : ¬ (ntz ss) + 1 < N := Nat.not_lt.mpr c_9
            have e4 : (.int (nI (xV r N 0 (rmv ss (ntz ss)))) : Value) = .int (nI (xV r N 0 ss)) := by rw [xV_m0 hN hs8 h0]
            have hl : lv_has ls 6 [(5, .int (nI ((ntz ss) + 1))), (4, .int (nI (xV r N 0 ss))), (3, .int (nI (ntz ss))), (2, .int (nI ss)), (1, .int (nI 0)), (0, .ref h)] := by first | (rw [← e4]; exact hl) | exact (e4 ▸ hl)
            refine lv_aload_n hx hb dX1_findPairs_150 rfl (lv_at hl 5 rfl) ?_
            refine va_get (D := gD G) (ci := 1) (v := .ref (xa 5)) (C := RX1) (T := TX1) (N := 9) hx hb hts in_X1 hown hK.1 hP 0 rfl rfl 5 (by decide) (hts _ q843) (fun _ h9 => h9) rfl dX1_findPairs_151 ?_
            refine lv_sipush (v := 256) hx hb dX1_findPairs_154 (by decide) ?_
            refine lv_iload_n hx hb dX1_findPairs_157 rfl (lv_at hl 4 rfl) ?_
            refine n_imul hx hb 256 0 dX1_findPairs_158 ?_
            refine lv_iload_n hx hb dX1_findPairs_159 rfl (lv_at hl 3 rfl) ?_
            refine n_iadd hx hb (256 * 0) ss dX1_findPairs_160 ?_
            refine lv_iload hx hb dX1_findPairs_161 (lv_at hl 1 rfl) ?_
            refine n_iast (x := nI (xV r N 0 ss)) C hK.1 hP hD hS 7 ((256 * 0) + ss) rfl (by omega) (by omega) dX1_findPairs_163 (fun H locs hP hD hS => ?_)
            have hP : PP G [(h, xO xa xi), (xa 0, fO fn r), (fn 0, qA G 3 9 wh), (fn 1, iA G 9 (fA r 2)), (fn 2, iA G 9 (fA r 3)), (fn 3, iA G 9 (fA r 4)), (fn 4, iA G 9 (fA r 5)), (xa 5, iA G 1280 (upd vv ((256 * 0) + ss) (nI (xV r N 0 ss))))] H := hP
            have hD : va_D A [(h, xO xa xi), (xa 0, fO fn r), (fn 0, qA G 3 9 wh), (fn 1, iA G 9 (fA r 2)), (fn 2, iA G 9 (fA r 3)), (fn 3, iA G 9 (fA r 4)), (fn 4, iA G 9 (fA r 5)), (xa 5, iA G 1280 (upd vv ((256 * 0) + ss) (nI (xV r N 0 ss))))] := hD
            refine n_iinc (k := 3) (lv' := [(2, .int (nI (ss + 1))), (5, .int (nI ((ntz ss) + 1))), (4, .int (nI (xV r N 0 ss))), (3, .int (nI (ntz ss))), (1, .int (nI 0)), (0, .ref h)]) hx hb ss 1 dX1_findPairs_164 hl rfl (Nat.le_of_ble_eq_true rfl) rfl (fun ls hl => ?_)
            refine lv_goto (tgt := 9) hx hb dX1_findPairs_167 (by decide) ?_
            exact ih_4 (ss + 1) (by omega) (upd vv ((256 * 0) + ss) (nI (xV r N 0 ss))) _ _ (by exact hP.sub [0, 1, 2, 3, 4, 5, 6, 7] rfl) (by exact hD.sub [0, 1, 2, 3, 4, 5, 6, 7] (by decide) rfl) hS (fun m s h1 h2 => (pk_un (by omega)).trans (hI m s h1 h2)) (fun s h => by
      rcases Nat.lt_or_ge s ss with q | q
      · exact (pk_un (by omega)).trans (hJ s q)
      · rw [show s = ss by omega]; exact pk_us) ls (lv_sub hl [0, 4, 5] rfl)
          · have zc_9 : ¬ N ≤ (ntz ss) + 1 := Nat.not_le.mpr c_9
            refine lv_iload_n hx hb dX1_findPairs_70 rfl (lv_at hl 4 rfl) ?_
            refine n_if_le (x := 0) (tgt := 150) hx hb (by omega) dX1_findPairs_71 (by decide) (fun c_10 => ?_) (fun c_10 => absurd c_10 (by omega))
            have e4 : (.int (nI (xV r N 0 (rmv ss (ntz ss)))) : Value) = .int (nI (xV r N 0 ss)) := by rw [xV_m0 hN hs8 h0]
            have hl : lv_has ls 6 [(5, .int (nI ((ntz ss) + 1))), (4, .int (nI (xV r N 0 ss))), (3, .int (nI (ntz ss))), (2, .int (nI ss)), (1, .int (nI 0)), (0, .ref h)] := by first | (rw [← e4]; exact hl) | exact (e4 ▸ hl)
            refine lv_aload_n hx hb dX1_findPairs_150 rfl (lv_at hl 5 rfl) ?_
            refine va_get (D := gD G) (ci := 1) (v := .ref (xa 5)) (C := RX1) (T := TX1) (N := 9) hx hb hts in_X1 hown hK.1 hP 0 rfl rfl 5 (by decide) (hts _ q843) (fun _ h9 => h9) rfl dX1_findPairs_151 ?_
            refine lv_sipush (v := 256) hx hb dX1_findPairs_154 (by decide) ?_
            refine lv_iload_n hx hb dX1_findPairs_157 rfl (lv_at hl 4 rfl) ?_
            refine n_imul hx hb 256 0 dX1_findPairs_158 ?_
            refine lv_iload_n hx hb dX1_findPairs_159 rfl (lv_at hl 3 rfl) ?_
            refine n_iadd hx hb (256 * 0) ss dX1_findPairs_160 ?_
            refine lv_iload hx hb dX1_findPairs_161 (lv_at hl 1 rfl) ?_
            refine n_iast (x := nI (xV r N 0 ss)) C hK.1 hP hD hS 7 ((256 * 0) + ss) rfl (by omega) (by omega) dX1_findPairs_163 (fun H locs hP hD hS => ?_)
            have hP : PP G [(h, xO xa xi), (xa 0, fO fn r), (fn 0, qA G 3 9 wh), (fn 1, iA G 9 (fA r 2)), (fn 2, iA G 9 (fA r 3)), (fn 3, iA G 9 (fA r 4)), (fn 4, iA G 9 (fA r 5)), (xa 5, iA G 1280 (upd vv ((256 * 0) + ss) (nI (xV r N 0 ss))))] H := hP
            have hD : va_D A [(h, xO xa xi), (xa 0, fO fn r), (fn 0, qA G 3 9 wh), (fn 1, iA G 9 (fA r 2)), (fn 2, iA G 9 (fA r 3)), (fn 3, iA G 9 (fA r 4)), (fn 4, iA G 9 (fA r 5)), (xa 5, iA G 1280 (upd vv ((256 * 0) + ss) (nI (xV r N 0 ss))))] := hD
            refine n_iinc (k := 3) (lv' := [(2, .int (nI (ss + 1))), (5, .int (nI ((ntz ss) + 1))), (4, .int (nI (xV r N 0 ss))), (3, .int (nI (ntz ss))), (1, .int (nI 0)), (0, .ref h)]) hx hb ss 1 dX1_findPairs_164 hl rfl (Nat.le_of_ble_eq_true rfl) rfl (fun ls hl => ?_)
            refine lv_goto (tgt := 9) hx hb dX1_findPairs_167 (by decide) ?_
            exact ih_4 (ss + 1) (by omega) (upd vv ((256 * 0) + ss) (nI (xV r N 0 ss))) _ _ (by exact hP.sub [0, 1, 2, 3, 4, 5, 6, 7] rfl) (by exact hD.sub [0, 1, 2, 3, 4, 5, 6, 7] (by decide) rfl) hS (fun m s h1 h2 => (pk_un (by omega)).trans (hI m s h1 h2)) (fun s h => by
      rcases Nat.lt_or_ge s ss with q | q
      · exact (pk_un (by omega)).trans (hJ s q)
      · rw [show s = ss by omega]; exact pk_us) ls (lv_sub hl [0, 4, 5] rfl)
        · have m1 : mm ≠ 0 := by omega
          refine lv_iload_n hx hb dX1_findPairs_53 rfl (lv_at hl 1 rfl) ?_
          refine lv_iconst (v := 1) hx hb dX1_findPairs_54 (by decide) ?_
          refine n_iadd hx hb (ntz ss) 1 dX1_findPairs_55 ?_
          refine lv_istore (lv' := [(5, .int (nI ((ntz ss) + 1))), (4, .int (nI (xV r N mm (rmv ss (ntz ss))))), (3, .int (nI (ntz ss))), (2, .int (nI ss)), (1, .int (nI mm)), (0, .ref h)]) hx hb dX1_findPairs_56 hl (Nat.le_of_ble_eq_true rfl) rfl (fun ls hl => ?_)
          suffices hlp_11 : (∀ (n q : Nat), q + n = N → ntz ss + 1 ≤ q → ∀ (H : Heap) (locs : List Loc), PP G [(h, xO xa xi), (xa 0, fO fn r), (fn 0, qA G 3 9 wh), (fn 1, iA G 9 (fA r 2)), (fn 2, iA G 9 (fA r 3)), (fn 3, iA G 9 (fA r 4)), (fn 4, iA G 9 (fA r 5)), (xa 5, iA G 1280 vv)] H → va_D A [(h, xO xa xi), (xa 0, fO fn r), (fn 0, qA G 3 9 wh), (fn 1, iA G 9 (fA r 2)), (fn 2, iA G 9 (fA r 3)), (fn 3, iA G 9 (fA r 4)), (fn 4, iA G 9 (fA r 5)), (xa 5, iA G 1280 vv)] → va_S A s.heap H locs → ∀ (ls : Array Slot), lv_has ls 6 [(5, .int (nI q)), (4, .int (nI (pvI r (xV r N) mm ss (ntz ss) (xV r N mm (rmv ss (ntz ss))) q))), (3, .int (nI (ntz ss))), (2, .int (nI ss)), (1, .int (nI mm)), (0, .ref h)] → W p0_ l e0_ ({ frames := 10, cells := 0, slots := 0, locals := 289 } : Room) s m args below meth c H locs (0) (0) (MQ below (va_Qv (S := va_W) (fun w1 => ∃ g : Nat → Int32, (∀ m s, m ≤ 4 → s < 2 ^ N → g (256 * m + s) = nI (xV r N m s)) ∧ w1 = [(h, xO xa xi), (xa 0, fO fn r), (fn 0, qA G 3 9 wh), (fn 1, iA G 9 (fA r 2)), (fn 2, iA G 9 (fA r 3)), (fn 3, iA G 9 (fA r 4)), (fn 4, iA G 9 (fA r 5)), (xa 5, iA G 1280 g)]) (fun w1 t => PP G w1 t.heap ∧ va_D A w1) A) args s 0 0 A) (F0 m 58 ls [])) by
            exact hlp_11 (N - (ntz ss + 1)) (ntz ss + 1) (by omega) (Nat.le_refl _) _ _ (hP.sub [0, 1, 2, 3, 4, 5, 6, 7] rfl) (hD.sub [0, 1, 2, 3, 4, 5, 6, 7] (by decide) rfl) hS ls (lv_sub hl [0, 1, 2, 3, 4, 5] (by rw [pvI_0 _ _ _ _ _ _ _ (Nat.le_refl _)]; rfl))
          have hend_11 : ∀ (H : Heap) (locs : List Loc), PP G [(h, xO xa xi), (xa 0, fO fn r), (fn 0, qA G 3 9 wh), (fn 1, iA G 9 (fA r 2)), (fn 2, iA G 9 (fA r 3)), (fn 3, iA G 9 (fA r 4)), (fn 4, iA G 9 (fA r 5)), (xa 5, iA G 1280 vv)] H → va_D A [(h, xO xa xi), (xa 0, fO fn r), (fn 0, qA G 3 9 wh), (fn 1, iA G 9 (fA r 2)), (fn 2, iA G 9 (fA r 3)), (fn 3, iA G 9 (fA r 4)), (fn 4, iA G 9 (fA r 5)), (xa 5, iA G 1280 vv)] → va_S A s.heap H locs → ∀ (ls : Array Slot), lv_has ls 6 [(5, .int (nI N)), (4, .int (nI (pvI r (xV r N) mm ss (ntz ss) (xV r N mm (rmv ss (ntz ss))) N))), (3, .int (nI (ntz ss))), (2, .int (nI ss)), (1, .int (nI mm)), (0, .ref h)] → W p0_ l e0_ ({ frames := 10, cells := 0, slots := 0, locals := 289 } : Room) s m args below meth c H locs (0) (0) (MQ below (va_Qv (S := va_W) (fun w1 => ∃ g : Nat → Int32, (∀ m s, m ≤ 4 → s < 2 ^ N → g (256 * m + s) = nI (xV r N m s)) ∧ w1 = [(h, xO xa xi), (xa 0, fO fn r), (fn 0, qA G 3 9 wh), (fn 1, iA G 9 (fA r 2)), (fn 2, iA G 9 (fA r 3)), (fn 3, iA G 9 (fA r 4)), (fn 4, iA G 9 (fA r 5)), (xa 5, iA G 1280 g)]) (fun w1 t => PP G w1 t.heap ∧ va_D A w1) A) args s 0 0 A) (F0 m 58 ls []) := by
            intro H locs hP hD hS ls hl
            refine lv_iload hx hb dX1_findPairs_58 (lv_at hl 0 rfl) ?_
            refine lv_aload_n hx hb dX1_findPairs_60 rfl (lv_at hl 5 rfl) ?_
            refine va_get (D := gD G) (ci := 1) (v := .ref (xa 0)) (C := RX1) (T := TX1) (N := 9) hx hb hts in_X1 hown hK.1 hP 0 rfl rfl 0 (by decide) (hts _ q838) (fun _ h9 => h9) rfl dX1_findPairs_61 ?_
            refine va_get (D := gD G) (ci := 2) (v := .int (r 0)) (C := RX2) (T := TX2) (N := 8) hx hb hts in_X2 hown hK.1 hP 1 rfl rfl 5 (by decide) (hts _ q803) (fun _ h9 => h9) rfl dX1_findPairs_64 ?_
            refine n_eqi (hr) ?_
            refine n_ic_ge (x := N) (y := N) (tgt := 150) hx hb (by omega) (by omega) dX1_findPairs_67 (by decide) (fun c_12 => ?_) (fun c_12 => absurd c_12 (by omega))
            have e4 : (.int (nI (pvI r (xV r N) mm ss (ntz ss) (xV r N mm (rmv ss (ntz ss))) N)) : Value) = .int (nI (xV r N mm ss)) := by rw [xV_eq hN hs8 h0 m1]
            have hl : lv_has ls 6 [(5, .int (nI N)), (4, .int (nI (xV r N mm ss))), (3, .int (nI (ntz ss))), (2, .int (nI ss)), (1, .int (nI mm)), (0, .ref h)] := by first | (rw [← e4]; exact hl) | exact (e4 ▸ hl)
            refine lv_aload_n hx hb dX1_findPairs_150 rfl (lv_at hl 5 rfl) ?_
            refine va_get (D := gD G) (ci := 1) (v := .ref (xa 5)) (C := RX1) (T := TX1) (N := 9) hx hb hts in_X1 hown hK.1 hP 0 rfl rfl 5 (by decide) (hts _ q843) (fun _ h9 => h9) rfl dX1_findPairs_151 ?_
            refine lv_sipush (v := 256) hx hb dX1_findPairs_154 (by decide) ?_
            refine lv_iload_n hx hb dX1_findPairs_157 rfl (lv_at hl 4 rfl) ?_
            refine n_imul hx hb 256 mm dX1_findPairs_158 ?_
            refine lv_iload_n hx hb dX1_findPairs_159 rfl (lv_at hl 3 rfl) ?_
            refine n_iadd hx hb (256 * mm) ss dX1_findPairs_160 ?_
            refine lv_iload hx hb dX1_findPairs_161 (lv_at hl 1 rfl) ?_
            refine n_iast (x := nI (xV r N mm ss)) C hK.1 hP hD hS 7 ((256 * mm) + ss) rfl (by omega) (by omega) dX1_findPairs_163 (fun H locs hP hD hS => ?_)
            have hP : PP G [(h, xO xa xi), (xa 0, fO fn r), (fn 0, qA G 3 9 wh), (fn 1, iA G 9 (fA r 2)), (fn 2, iA G 9 (fA r 3)), (fn 3, iA G 9 (fA r 4)), (fn 4, iA G 9 (fA r 5)), (xa 5, iA G 1280 (upd vv ((256 * mm) + ss) (nI (xV r N mm ss))))] H := hP
            have hD : va_D A [(h, xO xa xi), (xa 0, fO fn r), (fn 0, qA G 3 9 wh), (fn 1, iA G 9 (fA r 2)), (fn 2, iA G 9 (fA r 3)), (fn 3, iA G 9 (fA r 4)), (fn 4, iA G 9 (fA r 5)), (xa 5, iA G 1280 (upd vv ((256 * mm) + ss) (nI (xV r N mm ss))))] := hD
            refine n_iinc (k := 3) (lv' := [(2, .int (nI (ss + 1))), (5, .int (nI N)), (4, .int (nI (xV r N mm ss))), (3, .int (nI (ntz ss))), (1, .int (nI mm)), (0, .ref h)]) hx hb ss 1 dX1_findPairs_164 hl rfl (Nat.le_of_ble_eq_true rfl) rfl (fun ls hl => ?_)
            refine lv_goto (tgt := 9) hx hb dX1_findPairs_167 (by decide) ?_
            exact ih_4 (ss + 1) (by omega) (upd vv ((256 * mm) + ss) (nI (xV r N mm ss))) _ _ (by exact hP.sub [0, 1, 2, 3, 4, 5, 6, 7] rfl) (by exact hD.sub [0, 1, 2, 3, 4, 5, 6, 7] (by decide) rfl) hS (fun m s h1 h2 => (pk_un (by omega)).trans (hI m s h1 h2)) (fun s h => by
      rcases Nat.lt_or_ge s ss with q | q
      · exact (pk_un (by omega)).trans (hJ s q)
      · rw [show s = ss by omega]; exact pk_us) ls (lv_sub hl [0, 4, 5] rfl)
          intro n
          induction n with
          | zero =>
            intro q hi_11 hs_11 H locs hP hD hS ls hl
            obtain e_11 : q = N := by omega
            first | (subst e_11; exact hend_11 H locs hP hD hS ls hl) | (rw [e_11] at hl hP hD; exact hend_11 H locs hP hD hS ls hl)
          | succ n ih_11 =>
            intro q hi_11 hs_11 H locs hP hD hS ls hl
            have b1 : pvI r (xV r N) mm ss (ntz ss) (xV r N mm (rmv ss (ntz ss))) q ≤ 60 * (mm - 1) + 60 := pvI_xle hri hN hz8 (by omega) (by omega) q (by omega)
            have j1 := hri.jn (p := ntz ss) (q := q) hz8 (by omega)
            have j2 := hri.jn (p := q) (q := ntz ss) (by omega) hz8
            have w1 := wo_le ss (ntz ss) q
            have w2 := wo_le ss q (ntz ss)
            have v1 := xV_le (m := mm - 1) (s := wo ss (ntz ss) q) hri hN (by omega)
            have v2 := xV_le (m := mm - 1) (s := wo ss q (ntz ss)) hri hN (by omega)
            refine lv_iload hx hb dX1_findPairs_58 (lv_at hl 0 rfl) ?_
            refine lv_aload_n hx hb dX1_findPairs_60 rfl (lv_at hl 5 rfl) ?_
            refine va_get (D := gD G) (ci := 1) (v := .ref (xa 0)) (C := RX1) (T := TX1) (N := 9) hx hb hts in_X1 hown hK.1 hP 0 rfl rfl 0 (by decide) (hts _ q838) (fun _ h9 => h9) rfl dX1_findPairs_61 ?_
            refine va_get (D := gD G) (ci := 2) (v := .int (r 0)) (C := RX2) (T := TX2) (N := 8) hx hb hts in_X2 hown hK.1 hP 1 rfl rfl 5 (by decide) (hts _ q803) (fun _ h9 => h9) rfl dX1_findPairs_64 ?_
            refine n_eqi (hr) ?_
            refine n_ic_ge (x := q) (y := N) (tgt := 150) hx hb (by omega) (by omega) dX1_findPairs_67 (by decide) (fun c_13 => absurd c_13 (by omega)) (fun c_13 => ?_)
            refine lv_iload_n hx hb dX1_findPairs_70 rfl (lv_at hl 4 rfl) ?_
            refine n_if_le (x := mm) (tgt := 150) hx hb (by omega) dX1_findPairs_71 (by decide) (fun c_14 => absurd c_14 (by omega)) (fun c_14 => ?_)
            refine lv_iload_n hx hb dX1_findPairs_74 rfl (lv_at hl 3 rfl) ?_
            refine lv_iload hx hb dX1_findPairs_75 (lv_at hl 0 rfl) ?_
            refine c_S (rest := []) C (metX1_hasN l G (nI ss) q) 2 (lw_S q596 q597 q39 q598) (by decide +kernel) ⟨rfl, rfl⟩ ⟨(Nat.le_of_ble_eq_true rfl), (Nat.le_of_ble_eq_true rfl)⟩ (KM_mv G) (hP.sub (ws' := []) [] rfl) hK.1 hl rfl rfl (Nat.le_of_ble_eq_true rfl) ⟨(Nat.le_of_ble_eq_true rfl), (Nat.le_of_ble_eq_true rfl)⟩ dX1_findPairs_77 ?_
            refine n_if_neB (b := (sBt (nI ss) q)) (tgt := 86) hx hb dX1_findPairs_80 (by decide) (fun c_15 => ?_) (fun c_15 => ?_)
            · refine lv_aload_n hx hb dX1_findPairs_86 rfl (lv_at hl 5 rfl) ?_
              refine va_get (D := gD G) (ci := 1) (v := .ref (xa 0)) (C := RX1) (T := TX1) (N := 9) hx hb hts in_X1 hown hK.1 hP 0 rfl rfl 0 (by decide) (hts _ q838) (fun _ h9 => h9) rfl dX1_findPairs_87 ?_
              refine lv_iload_n hx hb dX1_findPairs_90 rfl (lv_at hl 2 rfl) ?_
              refine lv_iload hx hb dX1_findPairs_91 (lv_at hl 0 rfl) ?_
              refine c_Vk (rest := []) C (metX2_canEatN l G (xa 0) fn gm wh r N (ntz ss) q (by omega) (hr) (hwk) (by omega) (by omega)) 2 (lw_V q367 q368 q369 q40 q370) (by decide +kernel) ⟨rfl, rfl⟩ ⟨(Nat.le_of_ble_eq_true rfl), (Nat.le_of_ble_eq_true rfl)⟩ (KG.call) (va_recv hK.1 hP (ci := 2) (q0 := 1) rfl rfl) (hP.sub (ws' := [(xa 0, fO fn r), (fn 0, qA G 3 9 wh), (fn 1, iA G 9 (fA r 2)), (fn 2, iA G 9 (fA r 3)), (fn 3, iA G 9 (fA r 4)), (fn 4, iA G 9 (fA r 5))]) [1, 2, 3, 4, 5, 6] rfl) (KG.at hK (hGP.kept hGA hS)) hl rfl rfl (Nat.le_of_ble_eq_true rfl) ⟨(Nat.le_of_ble_eq_true rfl), (Nat.le_of_ble_eq_true rfl)⟩ dX1_findPairs_93 ?_
              refine n_if_eqB (b := (sEat r (ntz ss) q)) (tgt := 115) hx hb dX1_findPairs_96 (by decide) (fun c_16 => ?_) (fun c_16 => ?_)
              · refine lv_aload_n hx hb dX1_findPairs_115 rfl (lv_at hl 5 rfl) ?_
                refine va_get (D := gD G) (ci := 1) (v := .ref (xa 0)) (C := RX1) (T := TX1) (N := 9) hx hb hts in_X1 hown hK.1 hP 0 rfl rfl 0 (by decide) (hts _ q838) (fun _ h9 => h9) rfl dX1_findPairs_116 ?_
                refine lv_iload hx hb dX1_findPairs_119 (lv_at hl 0 rfl) ?_
                refine lv_iload_n hx hb dX1_findPairs_121 rfl (lv_at hl 2 rfl) ?_
                refine c_Vk (rest := []) C (metX2_canEatN l G (xa 0) fn gm wh r N q (ntz ss) (by omega) (hr) (hwk) (by omega) (by omega)) 2 (lw_V q367 q368 q369 q40 q370) (by decide +kernel) ⟨rfl, rfl⟩ ⟨(Nat.le_of_ble_eq_true rfl), (Nat.le_of_ble_eq_true rfl)⟩ (KG.call) (va_recv hK.1 hP (ci := 2) (q0 := 1) rfl rfl) (hP.sub (ws' := [(xa 0, fO fn r), (fn 0, qA G 3 9 wh), (fn 1, iA G 9 (fA r 2)), (fn 2, iA G 9 (fA r 3)), (fn 3, iA G 9 (fA r 4)), (fn 4, iA G 9 (fA r 5))]) [1, 2, 3, 4, 5, 6] rfl) (KG.at hK (hGP.kept hGA hS)) hl rfl rfl (Nat.le_of_ble_eq_true rfl) ⟨(Nat.le_of_ble_eq_true rfl), (Nat.le_of_ble_eq_true rfl)⟩ dX1_findPairs_122 ?_
                refine n_if_eqB (b := (sEat r q (ntz ss))) (tgt := 144) hx hb dX1_findPairs_125 (by decide) (fun c_17 => ?_) (fun c_17 => ?_)
                · refine n_iinc (k := 0) (lv' := [(5, .int (nI (q + 1))), (4, .int (nI (pvI r (xV r N) mm ss (ntz ss) (xV r N mm (rmv ss (ntz ss))) q))), (3, .int (nI (ntz ss))), (2, .int (nI ss)), (1, .int (nI mm)), (0, .ref h)]) hx hb q 1 dX1_findPairs_144 hl rfl (Nat.le_of_ble_eq_true rfl) rfl (fun ls hl => ?_)
                  refine lv_goto (tgt := 58) hx hb dX1_findPairs_147 (by decide) ?_
                  have e_18 : pvI r (xV r N) mm ss (ntz ss) (xV r N mm (rmv ss (ntz ss))) (q + 1) = pvI r (xV r N) mm ss (ntz ss) (xV r N mm (rmv ss (ntz ss))) q := by rw [pvI, if_neg (by omega)]; simp [pvS, c_13, c_14, c_15, c_16, c_17]
                  exact ih_11 (q + 1) (by omega) (by omega) _ _ (by exact hP.sub [0, 1, 2, 3, 4, 5, 6, 7] rfl) (by exact hD.sub [0, 1, 2, 3, 4, 5, 6, 7] (by decide) rfl) hS ls (by rw [e_18]; exact lv_sub hl [0, 1, 2, 3, 4, 5] rfl)
                · refine lv_iload hx hb dX1_findPairs_128 (lv_at hl 1 rfl) ?_
                  refine lv_aload_n hx hb dX1_findPairs_130 rfl (lv_at hl 5 rfl) ?_
                  refine lv_iload_n hx hb dX1_findPairs_131 rfl (lv_at hl 4 rfl) ?_
                  refine lv_iload_n hx hb dX1_findPairs_132 rfl (lv_at hl 3 rfl) ?_
                  refine lv_iload hx hb dX1_findPairs_133 (lv_at hl 0 rfl) ?_
                  refine lv_iload_n hx hb dX1_findPairs_135 rfl (lv_at hl 2 rfl) ?_
                  refine c_Vk (rest := [.int (nI (pvI r (xV r N) mm ss (ntz ss) (xV r N mm (rmv ss (ntz ss))) q))]) C (metX1_pairValue l G h xa xi fn gm wh r N vv mm ss q (ntz ss) (tn (sJoy r q (ntz ss))) (xV r N (mm - 1) (wo ss q (ntz ss))) (by omega) (hr) (hwk) (by omega) (by omega) (by omega) (by omega) (j2.1) (hI (mm - 1) _ (by omega) (Nat.lt_of_le_of_lt (wo_le _ _ _) (by omega)))) 4 (lw_V q599 q601 qs12 q39 q602) (by decide +kernel) ⟨rfl, rfl⟩ ⟨(Nat.le_of_ble_eq_true rfl), (Nat.le_of_ble_eq_true rfl)⟩ (KG.call) (va_recv hK.1 hP (ci := 1) (q0 := 0) rfl rfl) hP (KG.at hK (hGP.kept hGA hS)) hl rfl rfl (Nat.le_of_ble_eq_true rfl) ⟨(Nat.le_of_ble_eq_true rfl), (Nat.le_of_ble_eq_true rfl)⟩ dX1_findPairs_136 ?_
                  refine n_mmax (x := nI (pvI r (xV r N) mm ss (ntz ss) (xV r N mm (rmv ss (ntz ss))) q)) (y := nI ((tn (sJoy r q (ntz ss))) + (xV r N (mm - 1) (wo ss q (ntz ss))))) C q583 q463 q60 q464 hl ⟨(Nat.le_of_ble_eq_true rfl), (Nat.le_of_ble_eq_true rfl)⟩ (Nat.le_of_ble_eq_true rfl) ⟨(Nat.le_of_ble_eq_true rfl), (Nat.le_of_ble_eq_true rfl)⟩ dX1_findPairs_139 ?_
                  refine n_eqi (mx_n (a := pvI r (xV r N) mm ss (ntz ss) (xV r N mm (rmv ss (ntz ss))) q) (b := (tn (sJoy r q (ntz ss))) + (xV r N (mm - 1) (wo ss q (ntz ss)))) (by omega) (by omega)) ?_
                  refine lv_istore (lv' := [(4, .int (nI (max (pvI r (xV r N) mm ss (ntz ss) (xV r N mm (rmv ss (ntz ss))) q) ((tn (sJoy r q (ntz ss))) + (xV r N (mm - 1) (wo ss q (ntz ss))))))), (5, .int (nI q)), (3, .int (nI (ntz ss))), (2, .int (nI ss)), (1, .int (nI mm)), (0, .ref h)]) hx hb dX1_findPairs_142 hl (Nat.le_of_ble_eq_true rfl) rfl (fun ls hl => ?_)
                  refine n_iinc (k := 1) (lv' := [(5, .int (nI (q + 1))), (4, .int (nI (max (pvI r (xV r N) mm ss (ntz ss) (xV r N mm (rmv ss (ntz ss))) q) ((tn (sJoy r q (ntz ss))) + (xV r N (mm - 1) (wo ss q (ntz ss))))))), (3, .int (nI (ntz ss))), (2, .int (nI ss)), (1, .int (nI mm)), (0, .ref h)]) hx hb q 1 dX1_findPairs_144 hl rfl (Nat.le_of_ble_eq_true rfl) rfl (fun ls hl => ?_)
                  refine lv_goto (tgt := 58) hx hb dX1_findPairs_147 (by decide) ?_
                  have e_19 : pvI r (xV r N) mm ss (ntz ss) (xV r N mm (rmv ss (ntz ss))) (q + 1) = max (pvI r (xV r N) mm ss (ntz ss) (xV r N mm (rmv ss (ntz ss))) q) ((tn (sJoy r q (ntz ss))) + (xV r N (mm - 1) (wo ss q (ntz ss)))) := by rw [pvI, if_neg (by omega)]; simp [pvS, c_13, c_14, c_15, c_16, c_17]
                  exact ih_11 (q + 1) (by omega) (by omega) _ _ (by exact hP.sub [0, 1, 2, 3, 4, 5, 6, 7] rfl) (by exact hD.sub [0, 1, 2, 3, 4, 5, 6, 7] (by decide) rfl) hS ls (by rw [e_19]; exact lv_sub hl [0, 1, 2, 3, 4, 5] rfl)
              · refine lv_iload hx hb dX1_findPairs_99 (lv_at hl 1 rfl) ?_
                refine lv_aload_n hx hb dX1_findPairs_101 rfl (lv_at hl 5 rfl) ?_
                refine lv_iload_n hx hb dX1_findPairs_102 rfl (lv_at hl 4 rfl) ?_
                refine lv_iload_n hx hb dX1_findPairs_103 rfl (lv_at hl 3 rfl) ?_
                refine lv_iload_n hx hb dX1_findPairs_104 rfl (lv_at hl 2 rfl) ?_
                refine lv_iload hx hb dX1_findPairs_105 (lv_at hl 0 rfl) ?_
                refine c_Vk (rest := [.int (nI (pvI r (xV r N) mm ss (ntz ss) (xV r N mm (rmv ss (ntz ss))) q))]) C (metX1_pairValue l G h xa xi fn gm wh r N vv mm ss (ntz ss) q (tn (sJoy r (ntz ss) q)) (xV r N (mm - 1) (wo ss (ntz ss) q)) (by omega) (hr) (hwk) (by omega) (by omega) (by omega) (by omega) (j1.1) (hI (mm - 1) _ (by omega) (Nat.lt_of_le_of_lt (wo_le _ _ _) (by omega)))) 4 (lw_V q599 q601 qs12 q39 q602) (by decide +kernel) ⟨rfl, rfl⟩ ⟨(Nat.le_of_ble_eq_true rfl), (Nat.le_of_ble_eq_true rfl)⟩ (KG.call) (va_recv hK.1 hP (ci := 1) (q0 := 0) rfl rfl) hP (KG.at hK (hGP.kept hGA hS)) hl rfl rfl (Nat.le_of_ble_eq_true rfl) ⟨(Nat.le_of_ble_eq_true rfl), (Nat.le_of_ble_eq_true rfl)⟩ dX1_findPairs_107 ?_
                refine n_mmax (x := nI (pvI r (xV r N) mm ss (ntz ss) (xV r N mm (rmv ss (ntz ss))) q)) (y := nI ((tn (sJoy r (ntz ss) q)) + (xV r N (mm - 1) (wo ss (ntz ss) q)))) C q583 q463 q60 q464 hl ⟨(Nat.le_of_ble_eq_true rfl), (Nat.le_of_ble_eq_true rfl)⟩ (Nat.le_of_ble_eq_true rfl) ⟨(Nat.le_of_ble_eq_true rfl), (Nat.le_of_ble_eq_true rfl)⟩ dX1_findPairs_110 ?_
                refine n_eqi (mx_n (a := pvI r (xV r N) mm ss (ntz ss) (xV r N mm (rmv ss (ntz ss))) q) (b := (tn (sJoy r (ntz ss) q)) + (xV r N (mm - 1) (wo ss (ntz ss) q))) (by omega) (by omega)) ?_
                refine lv_istore (lv' := [(4, .int (nI (max (pvI r (xV r N) mm ss (ntz ss) (xV r N mm (rmv ss (ntz ss))) q) ((tn (sJoy r (ntz ss) q)) + (xV r N (mm - 1) (wo ss (ntz ss) q)))))), (5, .int (nI q)), (3, .int (nI (ntz ss))), (2, .int (nI ss)), (1, .int (nI mm)), (0, .ref h)]) hx hb dX1_findPairs_113 hl (Nat.le_of_ble_eq_true rfl) rfl (fun ls hl => ?_)
                refine lv_aload_n hx hb dX1_findPairs_115 rfl (lv_at hl 5 rfl) ?_
                refine va_get (D := gD G) (ci := 1) (v := .ref (xa 0)) (C := RX1) (T := TX1) (N := 9) hx hb hts in_X1 hown hK.1 hP 0 rfl rfl 0 (by decide) (hts _ q838) (fun _ h9 => h9) rfl dX1_findPairs_116 ?_
                refine lv_iload hx hb dX1_findPairs_119 (lv_at hl 1 rfl) ?_
                refine lv_iload_n hx hb dX1_findPairs_121 rfl (lv_at hl 2 rfl) ?_
                refine c_Vk (rest := []) C (metX2_canEatN l G (xa 0) fn gm wh r N q (ntz ss) (by omega) (hr) (hwk) (by omega) (by omega)) 2 (lw_V q367 q368 q369 q40 q370) (by decide +kernel) ⟨rfl, rfl⟩ ⟨(Nat.le_of_ble_eq_true rfl), (Nat.le_of_ble_eq_true rfl)⟩ (KG.call) (va_recv hK.1 hP (ci := 2) (q0 := 1) rfl rfl) (hP.sub (ws' := [(xa 0, fO fn r), (fn 0, qA G 3 9 wh), (fn 1, iA G 9 (fA r 2)), (fn 2, iA G 9 (fA r 3)), (fn 3, iA G 9 (fA r 4)), (fn 4, iA G 9 (fA r 5))]) [1, 2, 3, 4, 5, 6] rfl) (KG.at hK (hGP.kept hGA hS)) hl rfl rfl (Nat.le_of_ble_eq_true rfl) ⟨(Nat.le_of_ble_eq_true rfl), (Nat.le_of_ble_eq_true rfl)⟩ dX1_findPairs_122 ?_
                refine n_if_eqB (b := (sEat r q (ntz ss))) (tgt := 144) hx hb dX1_findPairs_125 (by decide) (fun c_20 => ?_) (fun c_20 => ?_)
                · refine n_iinc (k := 1) (lv' := [(5, .int (nI (q + 1))), (4, .int (nI (max (pvI r (xV r N) mm ss (ntz ss) (xV r N mm (rmv ss (ntz ss))) q) ((tn (sJoy r (ntz ss) q)) + (xV r N (mm - 1) (wo ss (ntz ss) q)))))), (3, .int (nI (ntz ss))), (2, .int (nI ss)), (1, .int (nI mm)), (0, .ref h)]) hx hb q 1 dX1_findPairs_144 hl rfl (Nat.le_of_ble_eq_true rfl) rfl (fun ls hl => ?_)
                  refine lv_goto (tgt := 58) hx hb dX1_findPairs_147 (by decide) ?_
                  have e_21 : pvI r (xV r N) mm ss (ntz ss) (xV r N mm (rmv ss (ntz ss))) (q + 1) = max (pvI r (xV r N) mm ss (ntz ss) (xV r N mm (rmv ss (ntz ss))) q) ((tn (sJoy r (ntz ss) q)) + (xV r N (mm - 1) (wo ss (ntz ss) q))) := by rw [pvI, if_neg (by omega)]; simp [pvS, c_13, c_14, c_15, c_16, c_20]
                  exact ih_11 (q + 1) (by omega) (by omega) _ _ (by exact hP.sub [0, 1, 2, 3, 4, 5, 6, 7] rfl) (by exact hD.sub [0, 1, 2, 3, 4, 5, 6, 7] (by decide) rfl) hS ls (by rw [e_21]; exact lv_sub hl [0, 1, 2, 3, 4, 5] rfl)
                · refine lv_iload hx hb dX1_findPairs_128 (lv_at hl 0 rfl) ?_
                  refine lv_aload_n hx hb dX1_findPairs_130 rfl (lv_at hl 5 rfl) ?_
                  refine lv_iload_n hx hb dX1_findPairs_131 rfl (lv_at hl 4 rfl) ?_
                  refine lv_iload_n hx hb dX1_findPairs_132 rfl (lv_at hl 3 rfl) ?_
                  refine lv_iload hx hb dX1_findPairs_133 (lv_at hl 1 rfl) ?_
                  refine lv_iload_n hx hb dX1_findPairs_135 rfl (lv_at hl 2 rfl) ?_
                  refine c_Vk (rest := [.int (nI (max (pvI r (xV r N) mm ss (ntz ss) (xV r N mm (rmv ss (ntz ss))) q) ((tn (sJoy r (ntz ss) q)) + (xV r N (mm - 1) (wo ss (ntz ss) q)))))]) C (metX1_pairValue l G h xa xi fn gm wh r N vv mm ss q (ntz ss) (tn (sJoy r q (ntz ss))) (xV r N (mm - 1) (wo ss q (ntz ss))) (by omega) (hr) (hwk) (by omega) (by omega) (by omega) (by omega) (j2.1) (hI (mm - 1) _ (by omega) (Nat.lt_of_le_of_lt (wo_le _ _ _) (by omega)))) 4 (lw_V q599 q601 qs12 q39 q602) (by decide +kernel) ⟨rfl, rfl⟩ ⟨(Nat.le_of_ble_eq_true rfl), (Nat.le_of_ble_eq_true rfl)⟩ (KG.call) (va_recv hK.1 hP (ci := 1) (q0 := 0) rfl rfl) hP (KG.at hK (hGP.kept hGA hS)) hl rfl rfl (Nat.le_of_ble_eq_true rfl) ⟨(Nat.le_of_ble_eq_true rfl), (Nat.le_of_ble_eq_true rfl)⟩ dX1_findPairs_136 ?_
                  refine n_mmax (x := nI (max (pvI r (xV r N) mm ss (ntz ss) (xV r N mm (rmv ss (ntz ss))) q) ((tn (sJoy r (ntz ss) q)) + (xV r N (mm - 1) (wo ss (ntz ss) q))))) (y := nI ((tn (sJoy r q (ntz ss))) + (xV r N (mm - 1) (wo ss q (ntz ss))))) C q583 q463 q60 q464 hl ⟨(Nat.le_of_ble_eq_true rfl), (Nat.le_of_ble_eq_true rfl)⟩ (Nat.le_of_ble_eq_true rfl) ⟨(Nat.le_of_ble_eq_true rfl), (Nat.le_of_ble_eq_true rfl)⟩ dX1_findPairs_139 ?_
                  refine n_eqi (mx_n (a := max (pvI r (xV r N) mm ss (ntz ss) (xV r N mm (rmv ss (ntz ss))) q) ((tn (sJoy r (ntz ss) q)) + (xV r N (mm - 1) (wo ss (ntz ss) q)))) (b := (tn (sJoy r q (ntz ss))) + (xV r N (mm - 1) (wo ss q (ntz ss)))) (by omega) (by omega)) ?_
                  refine lv_istore (lv' := [(4, .int (nI (max (max (pvI r (xV r N) mm ss (ntz ss) (xV r N mm (rmv ss (ntz ss))) q) ((tn (sJoy r (ntz ss) q)) + (xV r N (mm - 1) (wo ss (ntz ss) q)))) ((tn (sJoy r q (ntz ss))) + (xV r N (mm - 1) (wo ss q (ntz ss))))))), (5, .int (nI q)), (3, .int (nI (ntz ss))), (2, .int (nI ss)), (1, .int (nI mm)), (0, .ref h)]) hx hb dX1_findPairs_142 hl (Nat.le_of_ble_eq_true rfl) rfl (fun ls hl => ?_)
                  refine n_iinc (k := 1) (lv' := [(5, .int (nI (q + 1))), (4, .int (nI (max (max (pvI r (xV r N) mm ss (ntz ss) (xV r N mm (rmv ss (ntz ss))) q) ((tn (sJoy r (ntz ss) q)) + (xV r N (mm - 1) (wo ss (ntz ss) q)))) ((tn (sJoy r q (ntz ss))) + (xV r N (mm - 1) (wo ss q (ntz ss))))))), (3, .int (nI (ntz ss))), (2, .int (nI ss)), (1, .int (nI mm)), (0, .ref h)]) hx hb q 1 dX1_findPairs_144 hl rfl (Nat.le_of_ble_eq_true rfl) rfl (fun ls hl => ?_)
                  refine lv_goto (tgt := 58) hx hb dX1_findPairs_147 (by decide) ?_
                  have e_22 : pvI r (xV r N) mm ss (ntz ss) (xV r N mm (rmv ss (ntz ss))) (q + 1) = max (max (pvI r (xV r N) mm ss (ntz ss) (xV r N mm (rmv ss (ntz ss))) q) ((tn (sJoy r (ntz ss) q)) + (xV r N (mm - 1) (wo ss (ntz ss) q)))) ((tn (sJoy r q (ntz ss))) + (xV r N (mm - 1) (wo ss q (ntz ss)))) := by rw [pvI, if_neg (by omega)]; simp [pvS, c_13, c_14, c_15, c_16, c_20]
                  exact ih_11 (q + 1) (by omega) (by omega) _ _ (by exact hP.sub [0, 1, 2, 3, 4, 5, 6, 7] rfl) (by exact hD.sub [0, 1, 2, 3, 4, 5, 6, 7] (by decide) rfl) hS ls (by rw [e_22]; exact lv_sub hl [0, 1, 2, 3, 4, 5] rfl)
            · refine lv_goto (tgt := 144) hx hb dX1_findPairs_83 (by decide) ?_
              refine n_iinc (k := 0) (lv' := [(5, .int (nI (q + 1))), (4, .int (nI (pvI r (xV r N) mm ss (ntz ss) (xV r N mm (rmv ss (ntz ss))) q))), (3, .int (nI (ntz ss))), (2, .int (nI ss)), (1, .int (nI mm)), (0, .ref h)]) hx hb q 1 dX1_findPairs_144 hl rfl (Nat.le_of_ble_eq_true rfl) rfl (fun ls hl => ?_)
              refine lv_goto (tgt := 58) hx hb dX1_findPairs_147 (by decide) ?_
              have e_23 : pvI r (xV r N) mm ss (ntz ss) (xV r N mm (rmv ss (ntz ss))) (q + 1) = pvI r (xV r N) mm ss (ntz ss) (xV r N mm (rmv ss (ntz ss))) q := by rw [pvI, if_neg (by omega)]; simp [pvS, c_13, c_14, c_15]
              exact ih_11 (q + 1) (by omega) (by omega) _ _ (by exact hP.sub [0, 1, 2, 3, 4, 5, 6, 7] rfl) (by exact hD.sub [0, 1, 2, 3, 4, 5, 6, 7] (by decide) rfl) hS ls (by rw [e_23]; exact lv_sub hl [0, 1, 2, 3, 4, 5] rfl)
      · obtain rfl := c_7
        have zc_7 : (nI 0 = 0) = True := eq_true rfl
        have hl : lv_has ls 6 [(3, .int (nI 32)), (2, .int (nI 0)), (1, .int (nI mm)), (0, .ref h)] := hl
        refine lv_iconst (v := 0) hx hb dX1_findPairs_31 (by decide) ?_
        refine lv_goto (tgt := 51) hx hb dX1_findPairs_32 (by decide) ?_
        refine lv_istore (lv' := [(4, .int 0), (3, .int (nI 32)), (2, .int (nI 0)), (1, .int (nI mm)), (0, .ref h)]) hx hb dX1_findPairs_51 hl (Nat.le_of_ble_eq_true rfl) rfl (fun ls hl => ?_)
        refine lv_iload_n hx hb dX1_findPairs_53 rfl (lv_at hl 1 rfl) ?_
        refine lv_iconst (v := 1) hx hb dX1_findPairs_54 (by decide) ?_
        refine n_iadd hx hb 32 1 dX1_findPairs_55 ?_
        refine lv_istore (lv' := [(5, .int (nI (32 + 1))), (4, .int 0), (3, .int (nI 32)), (2, .int (nI 0)), (1, .int (nI mm)), (0, .ref h)]) hx hb dX1_findPairs_56 hl (Nat.le_of_ble_eq_true rfl) rfl (fun ls hl => ?_)
        refine lv_iload hx hb dX1_findPairs_58 (lv_at hl 0 rfl) ?_
        refine lv_aload_n hx hb dX1_findPairs_60 rfl (lv_at hl 5 rfl) ?_
        refine va_get (D := gD G) (ci := 1) (v := .ref (xa 0)) (C := RX1) (T := TX1) (N := 9) hx hb hts in_X1 hown hK.1 hP 0 rfl rfl 0 (by decide) (hts _ q838) (fun _ h9 => h9) rfl dX1_findPairs_61 ?_
        refine va_get (D := gD G) (ci := 2) (v := .int (r 0)) (C := RX2) (T := TX2) (N := 8) hx hb hts in_X2 hown hK.1 hP 1 rfl rfl 5 (by decide) (hts _ q803) (fun _ h9 => h9) rfl dX1_findPairs_64 ?_
        refine n_eqi (hr) ?_
        refine n_ic_ge (x := 32 + 1) (y := N) (tgt := 150) hx hb (by omega) (by omega) dX1_findPairs_67 (by decide) (fun c_25 => ?_) (fun c_25 => absurd c_25 (by omega))
        have e4 : (.int 0 : Value) = .int (nI (xV r N mm 0)) := rfl
        have hl : lv_has ls 6 [(5, .int (nI (32 + 1))), (4, .int (nI (xV r N mm 0))), (3, .int (nI 32)), (2, .int (nI 0)), (1, .int (nI mm)), (0, .ref h)] := by first | (rw [← e4]; exact hl) | exact (e4 ▸ hl)
        refine lv_aload_n hx hb dX1_findPairs_150 rfl (lv_at hl 5 rfl) ?_
        refine va_get (D := gD G) (ci := 1) (v := .ref (xa 5)) (C := RX1) (T := TX1) (N := 9) hx hb hts in_X1 hown hK.1 hP 0 rfl rfl 5 (by decide) (hts _ q843) (fun _ h9 => h9) rfl dX1_findPairs_151 ?_
        refine lv_sipush (v := 256) hx hb dX1_findPairs_154 (by decide) ?_
        refine lv_iload_n hx hb dX1_findPairs_157 rfl (lv_at hl 4 rfl) ?_
        refine n_imul hx hb 256 mm dX1_findPairs_158 ?_
        refine lv_iload_n hx hb dX1_findPairs_159 rfl (lv_at hl 3 rfl) ?_
        refine n_iadd hx hb (256 * mm) 0 dX1_findPairs_160 ?_
        refine lv_iload hx hb dX1_findPairs_161 (lv_at hl 1 rfl) ?_
        refine n_iast (x := nI (xV r N mm 0)) C hK.1 hP hD hS 7 ((256 * mm) + 0) rfl (by omega) (by omega) dX1_findPairs_163 (fun H locs hP hD hS => ?_)
        have hP : PP G [(h, xO xa xi), (xa 0, fO fn r), (fn 0, qA G 3 9 wh), (fn 1, iA G 9 (fA r 2)), (fn 2, iA G 9 (fA r 3)), (fn 3, iA G 9 (fA r 4)), (fn 4, iA G 9 (fA r 5)), (xa 5, iA G 1280 (upd vv ((256 * mm) + 0) (nI (xV r N mm 0))))] H := hP
        have hD : va_D A [(h, xO xa xi), (xa 0, fO fn r), (fn 0, qA G 3 9 wh), (fn 1, iA G 9 (fA r 2)), (fn 2, iA G 9 (fA r 3)), (fn 3, iA G 9 (fA r 4)), (fn 4, iA G 9 (fA r 5)), (xa 5, iA G 1280 (upd vv ((256 * mm) + 0) (nI (xV r N mm 0))))] := hD
        refine n_iinc (k := 3) (lv' := [(2, .int (nI (0 + 1))), (5, .int (nI (32 + 1))), (4, .int (nI (xV r N mm 0))), (3, .int (nI 32)), (1, .int (nI mm)), (0, .ref h)]) hx hb 0 1 dX1_findPairs_164 hl rfl (Nat.le_of_ble_eq_true rfl) rfl (fun ls hl => ?_)
        refine lv_goto (tgt := 9) hx hb dX1_findPairs_167 (by decide) ?_
        exact ih_4 (0 + 1) (by omega) (upd vv ((256 * mm) + 0) (nI (xV r N mm 0))) _ _ (by exact hP.sub [0, 1, 2, 3, 4, 5, 6, 7] rfl) (by exact hD.sub [0, 1, 2, 3, 4, 5, 6, 7] (by decide) rfl) hS (fun m s h1 h2 => (pk_un (by omega)).trans (hI m s h1 h2)) (fun s h => by
      rcases Nat.lt_or_ge s 0 with q | q
      · exact (pk_un (by omega)).trans (hJ s q)
      · rw [show s = 0 by omega]; exact pk_us) ls (lv_sub hl [0, 4, 5] rfl)
