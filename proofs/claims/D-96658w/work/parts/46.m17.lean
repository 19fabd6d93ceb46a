/-- the divisor's contract at depth d -/
def DVC (d : Nat) : Prop := ∀ (l : Launch) (G : GG) (a b : Nat) (h1 : a < 2 ^ 63) (h2 : b < 2 ^ 63) (hd : dv d a b), MRl l yX1_divisor cX1_divisor 4 (some .long) ({ frames := 4 + d, cells := 0, slots := 0, locals := 60 + 40 * d }) [.long (lN a), .long (lN b)] [] G (KM G) (lN (Nat.gcd a b))
set_option maxHeartbeats 4000000 in
set_option maxRecDepth 100000 in
theorem dvc_0 (l : Launch) (G : GG) (a b : Nat) (h1 : a < 2 ^ 63) (h2 : b < 2 ^ 63) (hd : dv 0 a b) : MRl l yX1_divisor cX1_divisor 4 (some .long) ({ frames := 4 + 0, cells := 0, slots := 0, locals := 60 + 40 * 0 }) [.long (lN a), .long (lN b)] [] G (KM G) (lN (Nat.gcd a b)) := by
  -- rows printed by wip/tools/gen.py
  refine mrl_mk RX1 (by decide) rfl (Nat.le_of_ble_eq_true rfl) ?_
  intro p0_ e0_ s m args below meth c C hP hK ls hl
  have hx := C.1
  have hb := C.2.1
  have hml := C.2.2.2.2.1
  have hown := C.2.2.2.2.2.1
  have hts := C.2.2.2.2.2.2
  have hl : lv_has ls 4 [(0, .long (lN a)), (2, .long (lN b))] := hl
  refine lv_lload_n hx hb dX1_divisor_0 rfl (lv_at hl 1 rfl) ?_
  refine lv_lconst (v := lN 0) hx hb dX1_divisor_1 (by decide) ?_
  refine W.lcmp (x := lN b) (y := lN 0) hx hb dX1_divisor_2 ?_
  refine n_lg_ne (x := b) (y := 0) (tgt := 10) hx hb (by omega) (by omega) dX1_divisor_3 (by decide) (fun c_1 => absurd c_1 (by have := dv_0 hd; omega)) (fun c_1 => ?_)
  refine lv_lload_n hx hb dX1_divisor_6 rfl (lv_at hl 0 rfl) ?_
  refine lv_goto (tgt := 17) hx hb dX1_divisor_7 (by decide) ?_
  exact n_lret (v := lN a) C (by rw [dv_0 hd, Nat.gcd_zero_right]) dX1_divisor_17

set_option maxHeartbeats 4000000 in
set_option maxRecDepth 100000 in
theorem dvc_s (l : Launch) (G : GG) (d : Nat) (ih : DVC d) (a b : Nat) (h1 : a < 2 ^ 63) (h2 : b < 2 ^ 63) (hd : dv (d + 1) a b) : MRl l yX1_divisor cX1_divisor 4 (some .long) ({ frames := 4 + (d + 1), cells := 0, slots := 0, locals := 60 + 40 * (d + 1) }) [.long (lN a), .long (lN b)] [] G (KM G) (lN (Nat.gcd a b)) := by
  -- rows printed by wip/tools/gen.py
  refine mrl_mk RX1 (by decide) rfl (Nat.le_of_ble_eq_true rfl) ?_
  intro p0_ e0_ s m args below meth c C hP hK ls hl
  have hx := C.1
  have hb := C.2.1
  have hml := C.2.2.2.2.1
  have hown := C.2.2.2.2.2.1
  have hts := C.2.2.2.2.2.2
  have hl : lv_has ls 4 [(0, .long (lN a)), (2, .long (lN b))] := hl
  refine lv_lload_n hx hb dX1_divisor_0 rfl (lv_at hl 1 rfl) ?_
  refine lv_lconst (v := lN 0) hx hb dX1_divisor_1 (by decide) ?_
  refine W.lcmp (x := lN b) (y := lN 0) hx hb dX1_divisor_2 ?_
  refine n_lg_ne (x := b) (y := 0) (tgt := 10) hx hb (by omega) (by omega) dX1_divisor_3 (by decide) (fun c_1 => ?_) (fun c_1 => ?_)
  · refine lv_lload_n hx hb dX1_divisor_10 rfl (lv_at hl 1 rfl) ?_
    refine lv_lload_n hx hb dX1_divisor_11 rfl (lv_at hl 0 rfl) ?_
    refine lv_lload_n hx hb dX1_divisor_12 rfl (lv_at hl 1 rfl) ?_
    refine n_lrem hx hb a b (by omega) (by omega) (by omega) dX1_divisor_13 ?_
    refine c_Sl (rest := []) C (ih l G b (a % b) (by omega) (Nat.lt_of_le_of_lt (Nat.mod_le _ _) (by assumption)) ((dv_s hd (by omega)))) 2 (lw_S q729 q730 q39 q731) (by decide +kernel) ⟨rfl, rfl⟩ ⟨(by dsimp only; omega), (by dsimp only; omega)⟩ (KM_mv G) hP hK hl rfl rfl (Nat.le_of_ble_eq_true rfl) ⟨(Nat.le_of_ble_eq_true rfl), (Nat.le_of_ble_eq_true rfl)⟩ dX1_divisor_14 ?_
    exact n_lret (v := lN (Nat.gcd b (a % b))) C (by first | (rw [show b = 0 by omega, Nat.gcd_zero_right]; done) | (rw [Nat.gcd_comm a b, Nat.gcd_rec b a, Nat.gcd_comm]; done)) dX1_divisor_17
  · refine lv_lload_n hx hb dX1_divisor_6 rfl (lv_at hl 0 rfl) ?_
    refine lv_goto (tgt := 17) hx hb dX1_divisor_7 (by decide) ?_
    exact n_lret (v := lN a) C (by first | (rw [show b = 0 by omega, Nat.gcd_zero_right]; done) | (rw [Nat.gcd_comm a b, Nat.gcd_rec b a, Nat.gcd_comm]; done)) dX1_divisor_17

theorem dvc_s' (d : Nat) (ih : DVC d) : DVC (d + 1) := fun l G => dvc_s l G d ih
theorem dvc : ∀ d, DVC d := by
  intro d
  induction d with
  | zero => exact dvc_0
  | succ d ih => exact dvc_s' d ih

set_option maxHeartbeats 4000000 in
set_option maxRecDepth 100000 in
theorem metX1_partOf (l : Launch) (G : GG) (u v p : Nat) (hu : u < 2 ^ 63) (hv : v < 2 ^ 35) (hv0 : 0 < v) (hp1 : p < 2 ^ 31) : MRl l yX1_partOf cX1_partOf 5 (some .long) ({ frames := 75, cells := 0, slots := 0, locals := 2883 }) [.long (lN u), .long (lN v), .int (nI p)] [] G (KM G) (lN (xPOf u v p)) := by
  -- rows printed by wip/tools/gen.py
  refine mrl_mk RX1 (by decide) rfl (Nat.le_of_ble_eq_true rfl) ?_
  intro p0_ e0_ s m args below meth c C hP hK ls hl
  have hx := C.1
  have hb := C.2.1
  have hml := C.2.2.2.2.1
  have hown := C.2.2.2.2.2.1
  have hts := C.2.2.2.2.2.2
  have hl : lv_has ls 5 [(0, .long (lN u)), (2, .long (lN v)), (4, .int (nI p))] := hl
  have g9 : 0 < Nat.gcd u v := Nat.gcd_pos_of_pos_right u hv0
  have g8 : Nat.gcd u v ≤ v := Nat.gcd_le_right u hv0
  refine lv_iload hx hb dX1_partOf_0 (lv_at hl 2 rfl) ?_
  refine n_if_ne (x := p) (tgt := 9) hx hb (by omega) dX1_partOf_2 (by decide) (fun c_1 => ?_) (fun c_1 => ?_)
  · have zc_1 : ¬ nI p = 0 := nI_ne0 c_1 (by omega)
    have yc_1 : ¬ p = 0 := Nat.ne_of_gt c_1
    refine lv_lload_n hx hb dX1_partOf_9 rfl (lv_at hl 1 rfl) ?_
    refine lv_lload_n hx hb dX1_partOf_10 rfl (lv_at hl 0 rfl) ?_
    refine lv_lload_n hx hb dX1_partOf_11 rfl (lv_at hl 1 rfl) ?_
    refine c_Sl (rest := [.long (lN v)]) C (dvc 70 l G u v (by omega) (by omega) ((show v < 2 ^ 35 by omega))) 2 (lw_S q729 q730 q39 q731) (by decide +kernel) ⟨rfl, rfl⟩ ⟨(Nat.le_of_ble_eq_true rfl), (Nat.le_of_ble_eq_true rfl)⟩ (KM_mv G) hP hK hl rfl rfl (Nat.le_of_ble_eq_true rfl) ⟨(Nat.le_of_ble_eq_true rfl), (Nat.le_of_ble_eq_true rfl)⟩ dX1_partOf_12 ?_
    refine n_ldiv hx hb v (Nat.gcd u v) (by omega) (by omega) (by omega) dX1_partOf_15 ?_
    exact n_lret (v := lN (v / (Nat.gcd u v))) C (by simp [xPOf, c_1, yc_1, zc_1]) dX1_partOf_16
  · obtain rfl := c_1
    have zc_1 : (nI 0 = 0) = True := eq_true rfl
    refine lv_lload_n hx hb dX1_partOf_5 rfl (lv_at hl 0 rfl) ?_
    refine lv_goto (tgt := 10) hx hb dX1_partOf_6 (by decide) ?_
    refine lv_lload_n hx hb dX1_partOf_10 rfl (lv_at hl 0 rfl) ?_
    refine lv_lload_n hx hb dX1_partOf_11 rfl (lv_at hl 1 rfl) ?_
    refine c_Sl (rest := [.long (lN u)]) C (dvc 70 l G u v (by omega) (by omega) ((show v < 2 ^ 35 by omega))) 2 (lw_S q729 q730 q39 q731) (by decide +kernel) ⟨rfl, rfl⟩ ⟨(Nat.le_of_ble_eq_true rfl), (Nat.le_of_ble_eq_true rfl)⟩ (KM_mv G) hP hK hl rfl rfl (Nat.le_of_ble_eq_true rfl) ⟨(Nat.le_of_ble_eq_true rfl), (Nat.le_of_ble_eq_true rfl)⟩ dX1_partOf_12 ?_
    refine n_ldiv hx hb u (Nat.gcd u v) (by omega) (by omega) (by omega) dX1_partOf_15 ?_
    exact n_lret (v := lN (u / (Nat.gcd u v))) C (by simp [xPOf, zc_1]) dX1_partOf_16

set_option maxHeartbeats 4000000 in
set_option maxRecDepth 100000 in
theorem metX1_power (l : Launch) (G : GG) (a ex : Nat) (ha : a < 2 ^ 31) (hn : ex < 2 ^ 30) : MRl l yX1_power cX1_power 5 (some .long) ({ frames := 0, cells := 0, slots := 0, locals := 0 }) [.int (nI a), .int (nI ex)] [] G (KM G) (lN (a ^ ex)) := by
  -- rows printed by wip/tools/gen.py
  refine mrl_mk RX1 (by decide) rfl (Nat.le_of_ble_eq_true rfl) ?_
  intro p0_ e0_ s m args below meth c C hP hK ls hl
  have hx := C.1
  have hb := C.2.1
  have hml := C.2.2.2.2.1
  have hown := C.2.2.2.2.2.1
  have hts := C.2.2.2.2.2.2
  have hl : lv_has ls 5 [(0, .int (nI a)), (1, .int (nI ex))] := hl
  refine lv_lconst (v := lN 1) hx hb dX1_power_0 (by decide) ?_
  refine lv_lstore_n (lv' := [(2, .long (lN 1)), (0, .int (nI a)), (1, .int (nI ex))]) hx hb dX1_power_1 rfl hl (Nat.le_of_ble_eq_true rfl) rfl (fun ls hl => ?_)
  refine lv_iconst (v := 0) hx hb dX1_power_2 (by decide) ?_
  refine lv_istore (lv' := [(4, .int 0), (2, .long (lN 1)), (0, .int (nI a)), (1, .int (nI ex))]) hx hb dX1_power_3 hl (Nat.le_of_ble_eq_true rfl) rfl (fun ls hl => ?_)
  suffices hlp_1 : (∀ (n i : Nat), i + n = ex → ∀ (ls : Array Slot), lv_has ls 5 [(4, .int (nI i)), (2, .long (lN (a ^ i))), (0, .int (nI a)), (1, .int (nI ex))] → W p0_ l e0_ ({ frames := 0, cells := 0, slots := 0, locals := 0 } : Room) s m args below meth c s.heap [] (0) (0) (MQ below (vp_Sl (fun rr9 => rr9 = lN (a ^ ex))) args s 0 0 (fun _ => False)) (F0 m 5 ls [])) by
    exact hlp_1 (ex) 0 (by omega) ls (lv_sub hl [0, 1, 2, 3] rfl)
  have hend_1 : ∀ (ls : Array Slot), lv_has ls 5 [(4, .int (nI ex)), (2, .long (lN (a ^ ex))), (0, .int (nI a)), (1, .int (nI ex))] → W p0_ l e0_ ({ frames := 0, cells := 0, slots := 0, locals := 0 } : Room) s m args below meth c s.heap [] (0) (0) (MQ below (vp_Sl (fun rr9 => rr9 = lN (a ^ ex))) args s 0 0 (fun _ => False)) (F0 m 5 ls []) := by
    intro ls hl
    refine lv_iload hx hb dX1_power_5 (lv_at hl 0 rfl) ?_
    refine lv_iload_n hx hb dX1_power_7 rfl (lv_at hl 3 rfl) ?_
    refine n_ic_ge (x := ex) (y := ex) (tgt := 22) hx hb (by omega) (by omega) dX1_power_8 (by decide) (fun c_2 => ?_) (fun c_2 => absurd c_2 (by omega))
    refine lv_lload_n hx hb dX1_power_22 rfl (lv_at hl 1 rfl) ?_
    exact n_lret (v := lN (a ^ ex)) C (rfl) dX1_power_23
  intro n
  induction n with
  | zero =>
    intro i hi_1 ls hl
    obtain e_1 : i = ex := by omega
    first | (subst e_1; exact hend_1 ls hl) | (rw [e_1] at hl; exact hend_1 ls hl)
  | succ n ih_1 =>
    intro i hi_1 ls hl
    refine lv_iload hx hb dX1_power_5 (lv_at hl 0 rfl) ?_
    refine lv_iload_n hx hb dX1_power_7 rfl (lv_at hl 3 rfl) ?_
    refine n_ic_ge (x := i) (y := ex) (tgt := 22) hx hb (by omega) (by omega) dX1_power_8 (by decide) (fun c_3 => absurd c_3 (by omega)) (fun c_3 => ?_)
    refine lv_lload_n hx hb dX1_power_11 rfl (lv_at hl 1 rfl) ?_
    refine lv_iload_n hx hb dX1_power_12 rfl (lv_at hl 2 rfl) ?_
    refine n_i2l hx hb a (by omega) dX1_power_13 ?_
    refine n_lmul hx hb (a ^ i) a dX1_power_14 ?_
    refine lv_lstore_n (lv' := [(2, .long (lN ((a ^ i) * a))), (4, .int (nI i)), (0, .int (nI a)), (1, .int (nI ex))]) hx hb dX1_power_15 rfl hl (Nat.le_of_ble_eq_true rfl) rfl (fun ls hl => ?_)
    refine n_iinc (k := 1) (lv' := [(4, .int (nI (i + 1))), (2, .long (lN ((a ^ i) * a))), (0, .int (nI a)), (1, .int (nI ex))]) hx hb i 1 dX1_power_16 hl rfl (Nat.le_of_ble_eq_true rfl) rfl (fun ls hl => ?_)
    refine lv_goto (tgt := 5) hx hb dX1_power_19 (by decide) ?_
    have e_4 : lN (a ^ (i + 1)) = lN ((a ^ i) * a) := by rw [Nat.pow_succ]
    exact ih_1 (i + 1) (by omega) ls (by rw [e_4]; exact lv_sub hl [0, 1, 2, 3] rfl)

set_option maxHeartbeats 4000000 in
set_option maxRecDepth 100000 in
theorem metX1_ways (l : Launch) (G : GG) (u k : Nat) (hn : u ≤ 8) (hk : k ≤ u) : MRl l yX1_ways cX1_ways 5 (some .long) ({ frames := 0, cells := 0, slots := 0, locals := 0 }) [.int (nI u), .int (nI k)] [] G (KM G) (lN (wy u k)) := by
  -- rows printed by wip/tools/gen.py
  refine mrl_mk RX1 (by decide) rfl (Nat.le_of_ble_eq_true rfl) ?_
  intro p0_ e0_ s m args below meth c C hP hK ls hl
  have hx := C.1
  have hb := C.2.1
  have hml := C.2.2.2.2.1
  have hown := C.2.2.2.2.2.1
  have hts := C.2.2.2.2.2.2
  have hl : lv_has ls 5 [(0, .int (nI u)), (1, .int (nI k))] := hl
  refine lv_lconst (v := lN 1) hx hb dX1_ways_0 (by decide) ?_
  refine lv_lstore_n (lv' := [(2, .long (lN 1)), (0, .int (nI u)), (1, .int (nI k))]) hx hb dX1_ways_1 rfl hl (Nat.le_of_ble_eq_true rfl) rfl (fun ls hl => ?_)
  refine lv_iconst (v := 1) hx hb dX1_ways_2 (by decide) ?_
  refine lv_istore (lv' := [(4, .int 1), (2, .long (lN 1)), (0, .int (nI u)), (1, .int (nI k))]) hx hb dX1_ways_3 hl (Nat.le_of_ble_eq_true rfl) rfl (fun ls hl => ?_)
  suffices hlp_1 : (∀ (n i : Nat), i + n = k → ∀ (ls : Array Slot), lv_has ls 5 [(4, .int (nI (i + 1))), (2, .long (lN (wy u i))), (0, .int (nI u)), (1, .int (nI k))] → W p0_ l e0_ ({ frames := 0, cells := 0, slots := 0, locals := 0 } : Room) s m args below meth c s.heap [] (0) (0) (MQ below (vp_Sl (fun rr9 => rr9 = lN (wy u k))) args s 0 0 (fun _ => False)) (F0 m 5 ls [])) by
    exact hlp_1 (k) 0 (by omega) ls (lv_sub hl [0, 1, 2, 3] rfl)
  have hend_1 : ∀ (ls : Array Slot), lv_has ls 5 [(4, .int (nI (k + 1))), (2, .long (lN (wy u k))), (0, .int (nI u)), (1, .int (nI k))] → W p0_ l e0_ ({ frames := 0, cells := 0, slots := 0, locals := 0 } : Room) s m args below meth c s.heap [] (0) (0) (MQ below (vp_Sl (fun rr9 => rr9 = lN (wy u k))) args s 0 0 (fun _ => False)) (F0 m 5 ls []) := by
    intro ls hl
    refine lv_iload hx hb dX1_ways_5 (lv_at hl 0 rfl) ?_
    refine lv_iload_n hx hb dX1_ways_7 rfl (lv_at hl 3 rfl) ?_
    refine n_ic_gt (x := k + 1) (y := k) (tgt := 31) hx hb (by omega) (by omega) dX1_ways_8 (by decide) (fun c_2 => ?_) (fun c_2 => absurd c_2 (by omega))
    refine lv_lload_n hx hb dX1_ways_31 rfl (lv_at hl 1 rfl) ?_
    exact n_lret (v := lN (wy u k)) C (rfl) dX1_ways_32
  intro n
  induction n with
  | zero =>
    intro i hi_1 ls hl
    obtain e_1 : i = k := by omega
    first | (subst e_1; exact hend_1 ls hl) | (rw [e_1] at hl; exact hend_1 ls hl)
  | succ n ih_1 =>
    intro i hi_1 ls hl
    have w1 := wy_le u (by omega) i (by omega)
    have w2 : wy u i * (u + 1 - (i + 1)) ≤ 70 * 9 := Nat.mul_le_mul w1 (by omega)
    refine lv_iload hx hb dX1_ways_5 (lv_at hl 0 rfl) ?_
    refine lv_iload_n hx hb dX1_ways_7 rfl (lv_at hl 3 rfl) ?_
    refine n_ic_gt (x := i + 1) (y := k) (tgt := 31) hx hb (by omega) (by omega) dX1_ways_8 (by decide) (fun c_3 => absurd c_3 (by omega)) (fun c_3 => ?_)
    refine lv_lload_n hx hb dX1_ways_11 rfl (lv_at hl 1 rfl) ?_
    refine lv_iload_n hx hb dX1_ways_12 rfl (lv_at hl 2 rfl) ?_
    refine lv_iconst (v := 1) hx hb dX1_ways_13 (by decide) ?_
    refine n_iadd hx hb u 1 dX1_ways_14 ?_
    refine lv_iload hx hb dX1_ways_15 (lv_at hl 0 rfl) ?_
    refine n_isub hx hb (u + 1) (i + 1) (by omega) dX1_ways_17 ?_
    refine n_i2l hx hb ((u + 1) - (i + 1)) (by omega) dX1_ways_18 ?_
    refine n_lmul hx hb (wy u i) ((u + 1) - (i + 1)) dX1_ways_19 ?_
    refine lv_iload hx hb dX1_ways_20 (lv_at hl 0 rfl) ?_
    refine n_i2l hx hb (i + 1) (by omega) dX1_ways_22 ?_
    refine n_ldiv hx hb ((wy u i) * ((u + 1) - (i + 1))) (i + 1) (by omega) (by omega) (by omega) dX1_ways_23 ?_
    refine lv_lstore_n (lv' := [(2, .long (lN (((wy u i) * ((u + 1) - (i + 1))) / (i + 1)))), (4, .int (nI (i + 1))), (0, .int (nI u)), (1, .int (nI k))]) hx hb dX1_ways_24 rfl hl (Nat.le_of_ble_eq_true rfl) rfl (fun ls hl => ?_)
    refine n_iinc (k := 1) (lv' := [(4, .int (nI (i + 1 + 1))), (2, .long (lN (((wy u i) * ((u + 1) - (i + 1))) / (i + 1)))), (0, .int (nI u)), (1, .int (nI k))]) hx hb (i + 1) 1 dX1_ways_25 hl rfl (Nat.le_of_ble_eq_true rfl) rfl (fun ls hl => ?_)
    refine lv_goto (tgt := 5) hx hb dX1_ways_28 (by decide) ?_
    have e_4 : (i + 1) + 1 = i + 1 + 1 := by omega
    have e_5 : lN (wy u (i + 1)) = lN (((wy u i) * ((u + 1) - (i + 1))) / (i + 1)) := by rw [wy, show u + 1 - (i + 1) = u - i by omega]
    exact ih_1 (i + 1) (by omega) ls (by rw [e_4, e_5]; exact lv_sub hl [0, 1, 2, 3] rfl)

set_option maxHeartbeats 4000000 in
set_option maxRecDepth 100000 in
theorem metX1_crowd (l : Launch) (G : GG) (h : Nat) (xa : Nat → Nat) (xi : Nat → Int32) (u t k p : Int32) : MRl l yX1_crowd cX1_crowd 8 (some .long) ({ frames := 76, cells := 0, slots := 0, locals := 2907 }) [.ref h, .int u, .int t, .int k, .int p] [(h, xO xa xi)] G (KM G) (sCrowdX u t k p) := by
  -- rows printed by wip/tools/gen.py
  refine mrl_mk RX1 (by decide) rfl (Nat.le_of_ble_eq_true rfl) ?_
  intro p0_ e0_ s m args below meth c C hP hK ls hl
  have hx := C.1
  have hb := C.2.1
  have hml := C.2.2.2.2.1
  have hown := C.2.2.2.2.2.1
  have hts := C.2.2.2.2.2.2
  have hl : lv_has ls 8 [(0, .ref h), (1, .int u), (2, .int t), (3, .int k), (4, .int p)] := hl
  refine lv_iload_n hx hb dX1_crowd_0 rfl (lv_at hl 1 rfl) ?_
  refine lv_iconst (v := 0) hx hb dX1_crowd_1 (by decide) ?_
  refine lv_bipush (v := 8) hx hb dX1_crowd_2 (by decide) ?_
  refine c_S (rest := []) C (metX1_isIn l G u 0 8) 3 (lw_S q171 q172 q39 q173) (by decide +kernel) ⟨rfl, rfl⟩ ⟨(Nat.le_of_ble_eq_true rfl), (Nat.le_of_ble_eq_true rfl)⟩ (KM_mv G) (hP.sub (ws' := []) [] rfl) hK hl rfl rfl (Nat.le_of_ble_eq_true rfl) ⟨(Nat.le_of_ble_eq_true rfl), (Nat.le_of_ble_eq_true rfl)⟩ dX1_crowd_4 ?_
  refine n_if_eqB (b := (sIn u 0 8)) (tgt := 39) hx hb dX1_crowd_7 (by decide) (fun c_1 => ?_) (fun c_1 => ?_)
  · refine lv_ldc2 (own := RX1) (v := 1000000001) hx hb hown (hts _ q719) dX1_crowd_39 ?_
    exact n_lret (v := 1000000001) C (by simp [sCrowdX, sCrowdOk, c_1]) dX1_crowd_42
  · obtain ⟨u_2, hu_2, gu_2, rfl⟩ := sIn_t (a := 0) (b := 8) (by omega) (by omega) c_1
    have tu_2 : tn (nI u_2) = u_2 := nI_clamp (by omega)
    refine lv_iload_n hx hb dX1_crowd_10 rfl (lv_at hl 2 rfl) ?_
    refine lv_iconst (v := 2) hx hb dX1_crowd_11 (by decide) ?_
    refine lv_bipush (v := 20) hx hb dX1_crowd_12 (by decide) ?_
    refine c_S (rest := []) C (metX1_isIn l G t 2 20) 3 (lw_S q171 q172 q39 q173) (by decide +kernel) ⟨rfl, rfl⟩ ⟨(Nat.le_of_ble_eq_true rfl), (Nat.le_of_ble_eq_true rfl)⟩ (KM_mv G) (hP.sub (ws' := []) [] rfl) hK hl rfl rfl (Nat.le_of_ble_eq_true rfl) ⟨(Nat.le_of_ble_eq_true rfl), (Nat.le_of_ble_eq_true rfl)⟩ dX1_crowd_14 ?_
    refine n_if_eqB (b := (sIn t 2 20)) (tgt := 39) hx hb dX1_crowd_17 (by decide) (fun c_3 => ?_) (fun c_3 => ?_)
    · refine lv_ldc2 (own := RX1) (v := 1000000001) hx hb hown (hts _ q719) dX1_crowd_39 ?_
      exact n_lret (v := 1000000001) C (by simp [sCrowdX, sCrowdOk, c_1, tu_2, c_3]) dX1_crowd_42
    · obtain ⟨t_4, ht_4, gt_4, rfl⟩ := sIn_t (a := 2) (b := 20) (by omega) (by omega) c_3
      have tt_4 : tn (nI t_4) = t_4 := nI_clamp (by omega)
      refine lv_iload_n hx hb dX1_crowd_20 rfl (lv_at hl 3 rfl) ?_
      refine lv_iconst (v := 0) hx hb dX1_crowd_21 (by decide) ?_
      refine lv_iconst (v := 4) hx hb dX1_crowd_22 (by decide) ?_
      refine c_S (rest := []) C (metX1_isIn l G k 0 4) 3 (lw_S q171 q172 q39 q173) (by decide +kernel) ⟨rfl, rfl⟩ ⟨(Nat.le_of_ble_eq_true rfl), (Nat.le_of_ble_eq_true rfl)⟩ (KM_mv G) (hP.sub (ws' := []) [] rfl) hK hl rfl rfl (Nat.le_of_ble_eq_true rfl) ⟨(Nat.le_of_ble_eq_true rfl), (Nat.le_of_ble_eq_true rfl)⟩ dX1_crowd_23 ?_
      refine n_if_eqB (b := (sIn k 0 4)) (tgt := 39) hx hb dX1_crowd_26 (by decide) (fun c_5 => ?_) (fun c_5 => ?_)
      · refine lv_ldc2 (own := RX1) (v := 1000000001) hx hb hown (hts _ q719) dX1_crowd_39 ?_
        exact n_lret (v := 1000000001) C (by simp [sCrowdX, sCrowdOk, c_1, tu_2, c_3, tt_4, c_5]) dX1_crowd_42
      · obtain ⟨k_6, hk_6, gk_6, rfl⟩ := sIn_t (a := 0) (b := 4) (by omega) (by omega) c_5
        have tk_6 : tn (nI k_6) = k_6 := nI_clamp (by omega)
        refine lv_iload hx hb dX1_crowd_29 (lv_at hl 4 rfl) ?_
        refine lv_iconst (v := 0) hx hb dX1_crowd_31 (by decide) ?_
        refine lv_iconst (v := 1) hx hb dX1_crowd_32 (by decide) ?_
        refine c_S (rest := []) C (metX1_isIn l G p 0 1) 3 (lw_S q171 q172 q39 q173) (by decide +kernel) ⟨rfl, rfl⟩ ⟨(Nat.le_of_ble_eq_true rfl), (Nat.le_of_ble_eq_true rfl)⟩ (KM_mv G) (hP.sub (ws' := []) [] rfl) hK hl rfl rfl (Nat.le_of_ble_eq_true rfl) ⟨(Nat.le_of_ble_eq_true rfl), (Nat.le_of_ble_eq_true rfl)⟩ dX1_crowd_33 ?_
        refine n_if_neB (b := (sIn p 0 1)) (tgt := 43) hx hb dX1_crowd_36 (by decide) (fun c_7 => ?_) (fun c_7 => ?_)
        · obtain ⟨p_8, hp_8, gp_8, rfl⟩ := sIn_t (a := 0) (b := 1) (by omega) (by omega) c_7
          have tp_8 : tn (nI p_8) = p_8 := nI_clamp (by omega)
          refine lv_lconst (v := lN 0) hx hb dX1_crowd_43 (by decide) ?_
          refine lv_lstore (lv' := [(5, .long (lN 0)), (0, .ref h), (1, .int (nI u_2)), (2, .int (nI t_4)), (3, .int (nI k_6)), (4, .int (nI p_8))]) hx hb dX1_crowd_44 hl (Nat.le_of_ble_eq_true rfl) rfl (fun ls hl => ?_)
          refine lv_iconst (v := 2) hx hb dX1_crowd_46 (by decide) ?_
          refine lv_iload_n hx hb dX1_crowd_47 rfl (lv_at hl 4 rfl) ?_
          refine n_imul hx hb 2 k_6 dX1_crowd_48 ?_
          refine lv_istore (lv' := [(7, .int (nI (2 * k_6))), (5, .long (lN 0)), (0, .ref h), (1, .int (nI u_2)), (2, .int (nI t_4)), (3, .int (nI k_6)), (4, .int (nI p_8))]) hx hb dX1_crowd_49 hl (Nat.le_of_ble_eq_true rfl) rfl (fun ls hl => ?_)
          suffices hlp_9 : (∀ (n i : Nat), i + n = u_2 + 1 - 2 * k_6 → ∀ (ls : Array Slot), lv_has ls 8 [(7, .int (nI (2 * k_6 + i))), (5, .long (lN (crX u_2 t_4 k_6 i))), (0, .ref h), (1, .int (nI u_2)), (2, .int (nI t_4)), (3, .int (nI k_6)), (4, .int (nI p_8))] → W p0_ l e0_ ({ frames := 76, cells := 0, slots := 0, locals := 2907 } : Room) s m args below meth c s.heap [] (0) (0) (MQ below (vp_Sl (fun rr9 => rr9 = sCrowdX (nI u_2) (nI t_4) (nI k_6) (nI p_8))) args s 0 0 (fun _ => False)) (F0 m 51 ls [])) by
            exact hlp_9 (u_2 + 1 - 2 * k_6) 0 (by omega) ls (lv_sub hl [0, 1, 2, 3, 4, 5, 6] rfl)
          have hend_9 : ∀ (ls : Array Slot), lv_has ls 8 [(7, .int (nI (2 * k_6 + (u_2 + 1 - 2 * k_6)))), (5, .long (lN (crX u_2 t_4 k_6 (u_2 + 1 - 2 * k_6)))), (0, .ref h), (1, .int (nI u_2)), (2, .int (nI t_4)), (3, .int (nI k_6)), (4, .int (nI p_8))] → W p0_ l e0_ ({ frames := 76, cells := 0, slots := 0, locals := 2907 } : Room) s m args below meth c s.heap [] (0) (0) (MQ below (vp_Sl (fun rr9 => rr9 = sCrowdX (nI u_2) (nI t_4) (nI k_6) (nI p_8))) args s 0 0 (fun _ => False)) (F0 m 51 ls []) := by
            intro ls hl
            have b1 := crX_lt (n := u_2) (t := t_4) (k := k_6) (by omega) (by omega)
            have b2 := pow_t8 (u := u_2) (t := t_4) (by omega) (by omega) (by omega)
            refine lv_iload hx hb dX1_crowd_51 (lv_at hl 0 rfl) ?_
            refine lv_iload_n hx hb dX1_crowd_53 rfl (lv_at hl 3 rfl) ?_
            refine n_ic_gt (x := 2 * k_6 + (u_2 + 1 - 2 * k_6)) (y := u_2) (tgt := 85) hx hb (by omega) (by omega) dX1_crowd_54 (by decide) (fun c_10 => ?_) (fun c_10 => absurd c_10 (by omega))
            refine lv_lload hx hb dX1_crowd_85 (lv_at hl 1 rfl) ?_
            refine lv_iload_n hx hb dX1_crowd_87 rfl (lv_at hl 4 rfl) ?_
            refine lv_iload_n hx hb dX1_crowd_88 rfl (lv_at hl 3 rfl) ?_
            refine c_Sl (rest := [.long (lN (crX u_2 t_4 k_6 (u_2 + 1 - 2 * k_6)))]) C (metX1_power l G t_4 u_2 (by omega) (by omega)) 2 (lw_S q723 q724 q39 q725) (by decide +kernel) ⟨rfl, rfl⟩ ⟨(Nat.le_of_ble_eq_true rfl), (Nat.le_of_ble_eq_true rfl)⟩ (KM_mv G) (hP.sub (ws' := []) [] rfl) hK hl rfl rfl (Nat.le_of_ble_eq_true rfl) ⟨(Nat.le_of_ble_eq_true rfl), (Nat.le_of_ble_eq_true rfl)⟩ dX1_crowd_89 ?_
            refine lv_iload hx hb dX1_crowd_92 (lv_at hl 6 rfl) ?_
            refine c_Sl (rest := []) C (metX1_partOf l G (crX u_2 t_4 k_6 (u_2 + 1 - 2 * k_6)) (t_4 ^ u_2) p_8 (by omega) (by omega) (by omega) (by omega)) 3 (lw_S q726 q727 q39 q728) (by decide +kernel) ⟨rfl, rfl⟩ ⟨(Nat.le_of_ble_eq_true rfl), (Nat.le_of_ble_eq_true rfl)⟩ (KM_mv G) (hP.sub (ws' := []) [] rfl) hK hl rfl rfl (Nat.le_of_ble_eq_true rfl) ⟨(Nat.le_of_ble_eq_true rfl), (Nat.le_of_ble_eq_true rfl)⟩ dX1_crowd_94 ?_
            exact n_lret (v := lN (xPOf (crX u_2 t_4 k_6 (u_2 + 1 - 2 * k_6)) (t_4 ^ u_2) p_8)) C (by simp [sCrowdX, sCrowdOk, c_1, tu_2, c_3, tt_4, c_5, tk_6, c_7, tp_8, c_10]) dX1_crowd_97
          intro n
          induction n with
          | zero =>
            intro i hi_9 ls hl
            obtain e_9 : i = u_2 + 1 - 2 * k_6 := by omega
            first | (subst e_9; exact hend_9 ls hl) | (rw [e_9] at hl; exact hend_9 ls hl)
          | succ n ih_9 =>
            intro i hi_9 ls hl
            refine lv_iload hx hb dX1_crowd_51 (lv_at hl 0 rfl) ?_
            refine lv_iload_n hx hb dX1_crowd_53 rfl (lv_at hl 3 rfl) ?_
            refine n_ic_gt (x := 2 * k_6 + i) (y := u_2) (tgt := 85) hx hb (by omega) (by omega) dX1_crowd_54 (by decide) (fun c_11 => absurd c_11 (by omega)) (fun c_11 => ?_)
            refine lv_lload hx hb dX1_crowd_57 (lv_at hl 1 rfl) ?_
            refine lv_iload_n hx hb dX1_crowd_59 rfl (lv_at hl 3 rfl) ?_
            refine lv_iload hx hb dX1_crowd_60 (lv_at hl 0 rfl) ?_
            refine c_Sl (rest := [.long (lN (crX u_2 t_4 k_6 i))]) C (metX1_ways l G u_2 (2 * k_6 + i) (by omega) (by omega)) 2 (lw_S q720 q721 q39 q722) (by decide +kernel) ⟨rfl, rfl⟩ ⟨(Nat.le_of_ble_eq_true rfl), (Nat.le_of_ble_eq_true rfl)⟩ (KM_mv G) (hP.sub (ws' := []) [] rfl) hK hl rfl rfl (Nat.le_of_ble_eq_true rfl) ⟨(Nat.le_of_ble_eq_true rfl), (Nat.le_of_ble_eq_true rfl)⟩ dX1_crowd_62 ?_
            refine lv_iload_n hx hb dX1_crowd_65 rfl (lv_at hl 4 rfl) ?_
            refine lv_iconst (v := 1) hx hb dX1_crowd_66 (by decide) ?_
            refine n_isub hx hb t_4 1 (by omega) dX1_crowd_67 ?_
            refine lv_iload_n hx hb dX1_crowd_68 rfl (lv_at hl 3 rfl) ?_
            refine lv_iload hx hb dX1_crowd_69 (lv_at hl 0 rfl) ?_
            refine n_isub hx hb u_2 (2 * k_6 + i) (by omega) dX1_crowd_71 ?_
            refine c_Sl (rest := [.long (lN (wy u_2 (2 * k_6 + i))), .long (lN (crX u_2 t_4 k_6 i))]) C (metX1_power l G (t_4 - 1) (u_2 - (2 * k_6 + i)) (by omega) (by omega)) 2 (lw_S q723 q724 q39 q725) (by decide +kernel) ⟨rfl, rfl⟩ ⟨(Nat.le_of_ble_eq_true rfl), (Nat.le_of_ble_eq_true rfl)⟩ (KM_mv G) (hP.sub (ws' := []) [] rfl) hK hl rfl rfl (Nat.le_of_ble_eq_true rfl) ⟨(Nat.le_of_ble_eq_true rfl), (Nat.le_of_ble_eq_true rfl)⟩ dX1_crowd_72 ?_
            refine n_lmul hx hb (wy u_2 (2 * k_6 + i)) ((t_4 - 1) ^ (u_2 - (2 * k_6 + i))) dX1_crowd_75 ?_
            refine n_ladd hx hb (crX u_2 t_4 k_6 i) ((wy u_2 (2 * k_6 + i)) * ((t_4 - 1) ^ (u_2 - (2 * k_6 + i)))) dX1_crowd_76 ?_
            refine lv_lstore (lv' := [(5, .long (lN ((crX u_2 t_4 k_6 i) + ((wy u_2 (2 * k_6 + i)) * ((t_4 - 1) ^ (u_2 - (2 * k_6 + i))))))), (7, .int (nI (2 * k_6 + i))), (0, .ref h), (1, .int (nI u_2)), (2, .int (nI t_4)), (3, .int (nI k_6)), (4, .int (nI p_8))]) hx hb dX1_crowd_77 hl (Nat.le_of_ble_eq_true rfl) rfl (fun ls hl => ?_)
            refine n_iinc (k := 1) (lv' := [(7, .int (nI (2 * k_6 + i + 1))), (5, .long (lN ((crX u_2 t_4 k_6 i) + ((wy u_2 (2 * k_6 + i)) * ((t_4 - 1) ^ (u_2 - (2 * k_6 + i))))))), (0, .ref h), (1, .int (nI u_2)), (2, .int (nI t_4)), (3, .int (nI k_6)), (4, .int (nI p_8))]) hx hb (2 * k_6 + i) 1 dX1_crowd_79 hl rfl (Nat.le_of_ble_eq_true rfl) rfl (fun ls hl => ?_)
            refine lv_goto (tgt := 51) hx hb dX1_crowd_82 (by decide) ?_
            have e_12 : 2 * k_6 + (i + 1) = 2 * k_6 + i + 1 := by omega
            have e_13 : lN (crX u_2 t_4 k_6 (i + 1)) = lN ((crX u_2 t_4 k_6 i) + ((wy u_2 (2 * k_6 + i)) * ((t_4 - 1) ^ (u_2 - (2 * k_6 + i))))) := by rw [crX]
            exact ih_9 (i + 1) (by omega) ls (by rw [e_12, e_13]; exact lv_sub hl [0, 1, 2, 3, 4, 5, 6] rfl)
        · refine lv_ldc2 (own := RX1) (v := 1000000001) hx hb hown (hts _ q719) dX1_crowd_39 ?_
          exact n_lret (v := 1000000001) C (by simp [sCrowdX, sCrowdOk, c_1, tu_2, c_3, tt_4, c_5, tk_6, c_7]) dX1_crowd_42

set_option maxHeartbeats 4000000 in
set_option maxRecDepth 100000 in
theorem metX1_mean (l : Launch) (G : GG) (h : Nat) (xa : Nat → Nat) (xi : Nat → Int32) (fn : Nat → Nat) (gm : GM) (wh : Nat → Option Nat) (r : Nat → Int32) (N : Nat) (hs : Nat) (p : Int32) (hN : N ≤ 8) (hr : r 0 = nI N) (hwk : WK gm wh r N) (hs1 : sHun r N = nI hs) (hs2 : hs < 2 ^ 20) : MRl l yX1_mean cX1_mean 2 (some .long) ({ frames := 76, cells := 0, slots := 0, locals := 2907 }) [.ref h, .int p] [(h, xO xa xi), (xa 0, fO fn r), (fn 0, qA G 3 9 wh), (fn 1, iA G 9 (fA r 2)), (fn 2, iA G 9 (fA r 3)), (fn 3, iA G 9 (fA r 4)), (fn 4, iA G 9 (fA r 5))] G (KG G gm) (sMeanX hs N p) := by
  -- rows printed by wip/tools/gen.py
  refine mrl_mk RX1 (by decide) rfl (Nat.le_of_ble_eq_true rfl) ?_
  intro p0_ e0_ s m args below meth c C hP hK ls hl
  have hGP := hK.2
  have hK := hK.1
  have hx := C.1
  have hb := C.2.1
  have hml := C.2.2.2.2.1
  have hown := C.2.2.2.2.2.1
  have hts := C.2.2.2.2.2.2
  have hl : lv_has ls 2 [(0, .ref h), (1, .int p)] := hl
  refine lv_iload_n hx hb dX1_mean_0 rfl (lv_at hl 1 rfl) ?_
  refine lv_iconst (v := 0) hx hb dX1_mean_1 (by decide) ?_
  refine lv_iconst (v := 1) hx hb dX1_mean_2 (by decide) ?_
  refine c_S (rest := []) C (metX1_isIn l G p 0 1) 3 (lw_S q171 q172 q39 q173) (by decide +kernel) ⟨rfl, rfl⟩ ⟨(Nat.le_of_ble_eq_true rfl), (Nat.le_of_ble_eq_true rfl)⟩ (KM_mv G) (hP.sub (ws' := []) [] rfl) hK.1 hl rfl rfl (Nat.le_of_ble_eq_true rfl) ⟨(Nat.le_of_ble_eq_true rfl), (Nat.le_of_ble_eq_true rfl)⟩ dX1_mean_3 ?_
  refine n_if_neB (b := (sIn p 0 1)) (tgt := 13) hx hb dX1_mean_6 (by decide) (fun c_1 => ?_) (fun c_1 => ?_)
  · obtain ⟨p_2, hp_2, gp_2, rfl⟩ := sIn_t (a := 0) (b := 1) (by omega) (by omega) c_1
    have tp_2 : tn (nI p_2) = p_2 := nI_clamp (by omega)
    refine lv_aload_n hx hb dX1_mean_13 rfl (lv_at hl 0 rfl) ?_
    refine va_get (D := gD G) (ci := 1) (v := .ref (xa 0)) (C := RX1) (T := TX1) (N := 9) hx hb hts in_X1 hown hK.1 hP 0 rfl rfl 0 (by decide) (hts _ q838) (fun _ h9 => h9) rfl dX1_mean_14 ?_
    refine va_get (D := gD G) (ci := 2) (v := .int (r 0)) (C := RX2) (T := TX2) (N := 8) hx hb hts in_X2 hown hK.1 hP 1 rfl rfl 5 (by decide) (hts _ q803) (fun _ h9 => h9) rfl dX1_mean_17 ?_
    refine n_eqi (hr) ?_
    refine n_if_ne (x := N) (tgt := 28) hx hb (by omega) dX1_mean_20 (by decide) (fun c_3 => ?_) (fun c_3 => ?_)
    · have zc_3 : ¬ nI N = 0 := nI_ne0 c_3 (by omega)
      have yc_3 : ¬ N = 0 := Nat.ne_of_gt c_3
      refine lv_aload_n hx hb dX1_mean_28 rfl (lv_at hl 0 rfl) ?_
      refine c_Vk (rest := []) C (metX1_allHunger l G h xa xi fn gm wh r N (by omega) (hr) (hwk)) 0 (lw_V q711 q713 qs21 q39 q714) (by decide +kernel) ⟨rfl, rfl⟩ ⟨(Nat.le_of_ble_eq_true rfl), (Nat.le_of_ble_eq_true rfl)⟩ (KG.call) (va_recv hK.1 hP (ci := 1) (q0 := 0) rfl rfl) hP (KG.at hK hGP) hl rfl rfl (Nat.le_of_ble_eq_true rfl) ⟨(Nat.le_of_ble_eq_true rfl), (Nat.le_of_ble_eq_true rfl)⟩ dX1_mean_29 ?_
      refine n_eqi (hs1) ?_
      refine n_i2l hx hb hs (by omega) dX1_mean_32 ?_
      refine lv_aload_n hx hb dX1_mean_33 rfl (lv_at hl 0 rfl) ?_
      refine va_get (D := gD G) (ci := 1) (v := .ref (xa 0)) (C := RX1) (T := TX1) (N := 9) hx hb hts in_X1 hown hK.1 hP 0 rfl rfl 0 (by decide) (hts _ q838) (fun _ h9 => h9) rfl dX1_mean_34 ?_
      refine va_get (D := gD G) (ci := 2) (v := .int (r 0)) (C := RX2) (T := TX2) (N := 8) hx hb hts in_X2 hown hK.1 hP 1 rfl rfl 5 (by decide) (hts _ q803) (fun _ h9 => h9) rfl dX1_mean_37 ?_
      refine n_eqi (hr) ?_
      refine n_i2l hx hb N (by omega) dX1_mean_40 ?_
      refine lv_iload_n hx hb dX1_mean_41 rfl (lv_at hl 1 rfl) ?_
      refine c_Sl (rest := []) C (metX1_partOf l G hs N p_2 (by omega) (by omega) (by omega) (by omega)) 3 (lw_S q726 q727 q39 q728) (by decide +kernel) ⟨rfl, rfl⟩ ⟨(Nat.le_of_ble_eq_true rfl), (Nat.le_of_ble_eq_true rfl)⟩ (KM_mv G) (hP.sub (ws' := []) [] rfl) hK.1 hl rfl rfl (Nat.le_of_ble_eq_true rfl) ⟨(Nat.le_of_ble_eq_true rfl), (Nat.le_of_ble_eq_true rfl)⟩ dX1_mean_42 ?_
      exact n_lret (v := lN (xPOf hs N p_2)) C (by simp [sMeanX, c_1, tp_2, c_3, yc_3, zc_3]) dX1_mean_45
    · obtain rfl := c_3
      have zc_3 : (nI 0 = 0) = True := eq_true rfl
      refine lv_iload_n hx hb dX1_mean_23 rfl (lv_at hl 1 rfl) ?_
      refine n_i2l hx hb p_2 (by omega) dX1_mean_24 ?_
      refine lv_goto (tgt := 45) hx hb dX1_mean_25 (by decide) ?_
      exact n_lret (v := lN p_2) C (by simp [sMeanX, c_1, tp_2, zc_3]) dX1_mean_45
  · refine lv_ldc2 (own := RX1) (v := 1000000001) hx hb hown (hts _ q719) dX1_mean_9 ?_
    exact n_lret (v := 1000000001) C (by simp [sMeanX, c_1]) dX1_mean_12
