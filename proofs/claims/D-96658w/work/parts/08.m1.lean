set_option maxHeartbeats 4000000 in
set_option maxRecDepth 100000 in
theorem metX4_isIn (l : Launch) (G : GG) (v lo hi : Int32) : MR l yX4_isIn cX4_isIn 3 (some .boolean) ({ frames := 0, cells := 0, slots := 0, locals := 0 }) [.int v, .int lo, .int hi] [] G (KM G) (bI (sIn v lo hi)) := by
  -- rows printed by wip/tools/gen.py
  refine mr_mk RX4 (by decide) rfl (Nat.le_of_ble_eq_true rfl) ?_
  intro p0_ e0_ s m args below meth c C hP hK ls hl
  have hx := C.1
  have hb := C.2.1
  have hml := C.2.2.2.2.1
  have hown := C.2.2.2.2.2.1
  have hts := C.2.2.2.2.2.2
  have hl : lv_has ls 3 [(0, .int v), (1, .int lo), (2, .int hi)] := hl
  refine lv_iload_n hx hb dX4_isIn_0 rfl (lv_at hl 0 rfl) ?_
  refine lv_iload_n hx hb dX4_isIn_1 rfl (lv_at hl 1 rfl) ?_
  refine lv_icmp_lt (x := v) (y := lo) (tgt := 14) hx hb dX4_isIn_2 (by decide) (fun c_1 => ?_) (fun c_1 => ?_)
  · have zc_1 : ¬ lo ≤ v := Int32.not_le.mpr c_1
    refine lv_iconst (v := 0) hx hb dX4_isIn_14 (by decide) ?_
    exact n_zret (v := false) C (by simp [sIn, c_1, zc_1]) dX4_isIn_15
  · have zc_1 : lo ≤ v := Int32.not_lt.mp c_1
    refine lv_iload_n hx hb dX4_isIn_5 rfl (lv_at hl 0 rfl) ?_
    refine lv_iload_n hx hb dX4_isIn_6 rfl (lv_at hl 2 rfl) ?_
    refine lv_icmp_gt (x := v) (y := hi) (tgt := 14) hx hb dX4_isIn_7 (by decide) (fun c_2 => ?_) (fun c_2 => ?_)
    · have zc_2 : ¬ v ≤ hi := Int32.not_le.mpr c_2
      refine lv_iconst (v := 0) hx hb dX4_isIn_14 (by decide) ?_
      exact n_zret (v := false) C (by simp [sIn, c_1, zc_1, c_2, zc_2]) dX4_isIn_15
    · have zc_2 : v ≤ hi := Int32.not_lt.mp c_2
      refine lv_iconst (v := 1) hx hb dX4_isIn_10 (by decide) ?_
      refine lv_goto (tgt := 15) hx hb dX4_isIn_11 (by decide) ?_
      exact n_zret (v := true) C (by simp [sIn, c_1, zc_1, c_2, zc_2]) dX4_isIn_15

set_option maxHeartbeats 4000000 in
set_option maxRecDepth 100000 in
theorem metX4_least (l : Launch) (G : GG) (x y : Int32) : MR l yX4_least cX4_least 2 (some .int) ({ frames := 0, cells := 0, slots := 0, locals := 0 }) [.int x, .int y] [] G (KM G) (mn x y) := by
  -- rows printed by wip/tools/gen.py
  refine mr_mk RX4 (by decide) rfl (Nat.le_of_ble_eq_true rfl) ?_
  intro p0_ e0_ s m args below meth c C hP hK ls hl
  have hx := C.1
  have hb := C.2.1
  have hml := C.2.2.2.2.1
  have hown := C.2.2.2.2.2.1
  have hts := C.2.2.2.2.2.2
  have hl : lv_has ls 2 [(0, .int x), (1, .int y)] := hl
  refine lv_iload_n hx hb dX4_least_0 rfl (lv_at hl 0 rfl) ?_
  refine lv_iload_n hx hb dX4_least_1 rfl (lv_at hl 1 rfl) ?_
  refine lv_icmp_ge (x := x) (y := y) (tgt := 9) hx hb dX4_least_2 (by decide) (fun c_1 => ?_) (fun c_1 => ?_)
  · have zc_1 : ¬ x < y := Int32.not_lt.mpr c_1
    refine lv_iload_n hx hb dX4_least_9 rfl (lv_at hl 1 rfl) ?_
    exact n_iret (v := y) C (by simp [mn, c_1, zc_1]) dX4_least_10
  · have zc_1 : x < y := Int32.not_le.mp c_1
    refine lv_iload_n hx hb dX4_least_5 rfl (lv_at hl 0 rfl) ?_
    refine lv_goto (tgt := 10) hx hb dX4_least_6 (by decide) ?_
    exact n_iret (v := x) C (by simp [mn, c_1, zc_1]) dX4_least_10

set_option maxHeartbeats 4000000 in
set_option maxRecDepth 100000 in
theorem metX4_most (l : Launch) (G : GG) (x y : Int32) : MR l yX4_most cX4_most 2 (some .int) ({ frames := 0, cells := 0, slots := 0, locals := 0 }) [.int x, .int y] [] G (KM G) (mx x y) := by
  -- rows printed by wip/tools/gen.py
  refine mr_mk RX4 (by decide) rfl (Nat.le_of_ble_eq_true rfl) ?_
  intro p0_ e0_ s m args below meth c C hP hK ls hl
  have hx := C.1
  have hb := C.2.1
  have hml := C.2.2.2.2.1
  have hown := C.2.2.2.2.2.1
  have hts := C.2.2.2.2.2.2
  have hl : lv_has ls 2 [(0, .int x), (1, .int y)] := hl
  refine lv_iload_n hx hb dX4_most_0 rfl (lv_at hl 0 rfl) ?_
  refine lv_iload_n hx hb dX4_most_1 rfl (lv_at hl 1 rfl) ?_
  refine lv_icmp_le (x := x) (y := y) (tgt := 9) hx hb dX4_most_2 (by decide) (fun c_1 => ?_) (fun c_1 => ?_)
  · have zc_1 : ¬ y < x := Int32.not_lt.mpr c_1
    refine lv_iload_n hx hb dX4_most_9 rfl (lv_at hl 1 rfl) ?_
    exact n_iret (v := y) C (by simp [mx, c_1, zc_1]) dX4_most_10
  · have zc_1 : y < x := Int32.not_le.mp c_1
    refine lv_iload_n hx hb dX4_most_5 rfl (lv_at hl 0 rfl) ?_
    refine lv_goto (tgt := 10) hx hb dX4_most_6 (by decide) ?_
    exact n_iret (v := x) C (by simp [mx, c_1, zc_1]) dX4_most_10

set_option maxHeartbeats 4000000 in
set_option maxRecDepth 100000 in
theorem metX4_of (l : Launch) (G : GG) (p w : Nat) : MR l yX4_of cX4_of 2 (some .int) ({ frames := 0, cells := 0, slots := 0, locals := 0 }) [.int (nI p), .int (nI w)] [] G (KM G) (nI (3 + 6 * p + w)) := by
  -- rows printed by wip/tools/gen.py
  refine mr_mk RX4 (by decide) rfl (Nat.le_of_ble_eq_true rfl) ?_
  intro p0_ e0_ s m args below meth c C hP hK ls hl
  have hx := C.1
  have hb := C.2.1
  have hml := C.2.2.2.2.1
  have hown := C.2.2.2.2.2.1
  have hts := C.2.2.2.2.2.2
  have hl : lv_has ls 2 [(0, .int (nI p)), (1, .int (nI w))] := hl
  refine lv_iconst (v := 3) hx hb dX4_of_0 (by decide) ?_
  refine lv_bipush (v := 6) hx hb dX4_of_1 (by decide) ?_
  refine lv_iload_n hx hb dX4_of_3 rfl (lv_at hl 0 rfl) ?_
  refine n_imul hx hb 6 p dX4_of_4 ?_
  refine n_iadd hx hb 3 (6 * p) dX4_of_5 ?_
  refine lv_iload_n hx hb dX4_of_6 rfl (lv_at hl 1 rfl) ?_
  refine n_iadd hx hb (3 + (6 * p)) w dX4_of_7 ?_
  exact n_iret (v := nI ((3 + (6 * p)) + w)) C (by simp []) dX4_of_8

set_option maxHeartbeats 4000000 in
set_option maxRecDepth 100000 in
theorem metX4_bits (l : Launch) (G : GG) (v : Int32) : MR l yX4_bits cX4_bits 3 (some .int) ({ frames := 0, cells := 0, slots := 0, locals := 0 }) [.int v] [] G (KM G) (sBits v 10) := by
  -- rows printed by wip/tools/gen.py
  refine mr_mk RX4 (by decide) rfl (Nat.le_of_ble_eq_true rfl) ?_
  intro p0_ e0_ s m args below meth c C hP hK ls hl
  have hx := C.1
  have hb := C.2.1
  have hml := C.2.2.2.2.1
  have hown := C.2.2.2.2.2.1
  have hts := C.2.2.2.2.2.2
  have hl : lv_has ls 3 [(0, .int v)] := hl
  refine lv_iconst (v := 0) hx hb dX4_bits_0 (by decide) ?_
  refine lv_istore_n (lv' := [(1, .int 0), (0, .int v)]) hx hb dX4_bits_1 rfl hl (Nat.le_of_ble_eq_true rfl) rfl (fun ls hl => ?_)
  refine lv_iconst (v := 0) hx hb dX4_bits_2 (by decide) ?_
  refine lv_istore_n (lv' := [(2, .int 0), (1, .int 0), (0, .int v)]) hx hb dX4_bits_3 rfl hl (Nat.le_of_ble_eq_true rfl) rfl (fun ls hl => ?_)
  suffices hlp_1 : (∀ (n i : Nat), i + n = 10 → ∀ (ls : Array Slot), lv_has ls 3 [(2, .int (nI i)), (1, .int (sBits v i)), (0, .int v)] → W p0_ l e0_ ({ frames := 0, cells := 0, slots := 0, locals := 0 } : Room) s m args below meth c s.heap [] (0) (0) (MQ below (vp_Si (fun rr9 => rr9 = sBits v 10)) args s 0 0 (fun _ => False)) (F0 m 4 ls [])) by
    exact hlp_1 (10) 0 (by omega) ls (lv_sub hl [0, 1, 2] rfl)
  have hend_1 : ∀ (ls : Array Slot), lv_has ls 3 [(2, .int (nI 10)), (1, .int (sBits v 10)), (0, .int v)] → W p0_ l e0_ ({ frames := 0, cells := 0, slots := 0, locals := 0 } : Room) s m args below meth c s.heap [] (0) (0) (MQ below (vp_Si (fun rr9 => rr9 = sBits v 10)) args s 0 0 (fun _ => False)) (F0 m 4 ls []) := by
    intro ls hl
    refine lv_iload_n hx hb dX4_bits_4 rfl (lv_at hl 0 rfl) ?_
    refine lv_bipush (v := 10) hx hb dX4_bits_5 (by decide) ?_
    refine n_ic_ge (x := 10) (y := 10) (tgt := 24) hx hb (by omega) (by omega) dX4_bits_7 (by decide) (fun c_2 => ?_) (fun c_2 => absurd c_2 (by omega))
    refine lv_iload_n hx hb dX4_bits_24 rfl (lv_at hl 1 rfl) ?_
    exact n_iret (v := sBits v 10) C (rfl) dX4_bits_25
  intro n
  induction n with
  | zero =>
    intro i hi_1 ls hl
    obtain e_1 : i = 10 := by omega
    first | (subst e_1; exact hend_1 ls hl) | (rw [e_1] at hl; exact hend_1 ls hl)
  | succ n ih_1 =>
    intro i hi_1 ls hl
    refine lv_iload_n hx hb dX4_bits_4 rfl (lv_at hl 0 rfl) ?_
    refine lv_bipush (v := 10) hx hb dX4_bits_5 (by decide) ?_
    refine n_ic_ge (x := i) (y := 10) (tgt := 24) hx hb (by omega) (by omega) dX4_bits_7 (by decide) (fun c_3 => absurd c_3 (by omega)) (fun c_3 => ?_)
    refine lv_iload_n hx hb dX4_bits_10 rfl (lv_at hl 1 rfl) ?_
    refine lv_iload_n hx hb dX4_bits_11 rfl (lv_at hl 2 rfl) ?_
    refine lv_iload_n hx hb dX4_bits_12 rfl (lv_at hl 0 rfl) ?_
    refine lv_ishr (x := v) (y := nI i) hx hb dX4_bits_13 ?_
    refine lv_iconst (v := 1) hx hb dX4_bits_14 (by decide) ?_
    refine lv_iand (x := v >>> ((nI i) &&& 31)) (y := 1) hx hb dX4_bits_15 ?_
    refine lv_iadd (x := sBits v i) (y := (v >>> ((nI i) &&& 31)) &&& 1) hx hb dX4_bits_16 ?_
    refine lv_istore_n (lv' := [(1, .int ((sBits v i) + ((v >>> ((nI i) &&& 31)) &&& 1))), (2, .int (nI i)), (0, .int v)]) hx hb dX4_bits_17 rfl hl (Nat.le_of_ble_eq_true rfl) rfl (fun ls hl => ?_)
    refine n_iinc (k := 1) (lv' := [(2, .int (nI (i + 1))), (1, .int ((sBits v i) + ((v >>> ((nI i) &&& 31)) &&& 1))), (0, .int v)]) hx hb i 1 dX4_bits_18 hl rfl (Nat.le_of_ble_eq_true rfl) rfl (fun ls hl => ?_)
    refine lv_goto (tgt := 4) hx hb dX4_bits_21 (by decide) ?_
    have e_4 : sBits v (i + 1) = (sBits v i) + ((v >>> ((nI i) &&& 31)) &&& 1) := by simp [sBits, c_3]
    exact ih_1 (i + 1) (by omega) ls (by rw [e_4]; exact lv_sub hl [0, 1, 2] rfl)

set_option maxHeartbeats 4000000 in
set_option maxRecDepth 100000 in
theorem metX4_bite (l : Launch) (G : GG) (k f : Int32) : MR l yX4_bite cX4_bite 2 (some .int) ({ frames := 0, cells := 0, slots := 0, locals := 0 }) [.int k, .int f] [] G (KM G) (sBite k f) := by
  -- rows printed by wip/tools/gen.py
  refine mr_mk RX4 (by decide) rfl (Nat.le_of_ble_eq_true rfl) ?_
  intro p0_ e0_ s m args below meth c C hP hK ls hl
  have hx := C.1
  have hb := C.2.1
  have hml := C.2.2.2.2.1
  have hown := C.2.2.2.2.2.1
  have hts := C.2.2.2.2.2.2
  have hl : lv_has ls 2 [(0, .int k), (1, .int f)] := hl
  refine lv_iload_n hx hb dX4_bite_0 rfl (lv_at hl 0 rfl) ?_
  by_cases s_1 : k = 1
  · refine n_eqi s_1 ?_
    refine lv_tableIn (tgt := 44) (x := 1) hx hb dX4_bite_1 (by decide) (by decide) rfl (by decide) ?_
    refine lv_iconst (v := 5) hx hb dX4_bite_44 (by decide) ?_
    exact n_iret (v := 5) C (by simp [sBite, s_1]) dX4_bite_45
  · skip
    by_cases s_2 : k = 2
    · refine n_eqi s_2 ?_
      refine lv_tableIn (tgt := 46) (x := 2) hx hb dX4_bite_1 (by decide) (by decide) rfl (by decide) ?_
      refine lv_iconst (v := 3) hx hb dX4_bite_46 (by decide) ?_
      refine lv_iload_n hx hb dX4_bite_47 rfl (lv_at hl 1 rfl) ?_
      refine lv_iconst (v := 2) hx hb dX4_bite_48 (by decide) ?_
      refine lv_idiv (x := f) (y := 2) hx hb dX4_bite_49 (by decide) ?_
      refine lv_iadd (x := 3) (y := f / 2) hx hb dX4_bite_50 ?_
      exact n_iret (v := 3 + (f / 2)) C (by simp [sBite, s_1, s_2]) dX4_bite_51
    · skip
      by_cases s_3 : k = 3
      · refine n_eqi s_3 ?_
        refine lv_tableIn (tgt := 52) (x := 3) hx hb dX4_bite_1 (by decide) (by decide) rfl (by decide) ?_
        refine lv_iconst (v := 1) hx hb dX4_bite_52 (by decide) ?_
        exact n_iret (v := 1) C (by simp [sBite, s_1, s_2, s_3]) dX4_bite_53
      · skip
        by_cases s_4 : k = 4
        · refine n_eqi s_4 ?_
          refine lv_tableIn (tgt := 59) (x := 4) hx hb dX4_bite_1 (by decide) (by decide) rfl (by decide) ?_
          refine lv_iconst (v := 3) hx hb dX4_bite_59 (by decide) ?_
          exact n_iret (v := 3) C (by simp [sBite, s_1, s_2, s_3, s_4]) dX4_bite_60
        · skip
          by_cases s_5 : k = 5
          · refine n_eqi s_5 ?_
            refine lv_tableIn (tgt := 54) (x := 5) hx hb dX4_bite_1 (by decide) (by decide) rfl (by decide) ?_
            refine lv_iconst (v := 2) hx hb dX4_bite_54 (by decide) ?_
            exact n_iret (v := 2) C (by simp [sBite, s_1, s_2, s_3, s_4, s_5]) dX4_bite_55
          · skip
            by_cases s_6 : k = 6
            · refine n_eqi s_6 ?_
              refine lv_tableIn (tgt := 54) (x := 6) hx hb dX4_bite_1 (by decide) (by decide) rfl (by decide) ?_
              refine lv_iconst (v := 2) hx hb dX4_bite_54 (by decide) ?_
              exact n_iret (v := 2) C (by simp [sBite, s_1, s_2, s_3, s_4, s_5, s_6]) dX4_bite_55
            · skip
              by_cases s_7 : k = 7
              · refine n_eqi s_7 ?_
                refine lv_tableIn (tgt := 56) (x := 7) hx hb dX4_bite_1 (by decide) (by decide) rfl (by decide) ?_
                refine lv_bipush (v := 9) hx hb dX4_bite_56 (by decide) ?_
                exact n_iret (v := 9) C (by simp [sBite, s_1, s_2, s_3, s_4, s_5, s_6, s_7]) dX4_bite_58
              · skip
                have ts_1 := lv_neT (a := 1) s_1 rfl
                have ts_2 := lv_neT (a := 2) s_2 rfl
                have ts_3 := lv_neT (a := 3) s_3 rfl
                have ts_4 := lv_neT (a := 4) s_4 rfl
                have ts_5 := lv_neT (a := 5) s_5 rfl
                have ts_6 := lv_neT (a := 6) s_6 rfl
                have ts_7 := lv_neT (a := 7) s_7 rfl
                refine lv_tableOut (tgt := 59) (x := k) hx hb dX4_bite_1 (by omega) (by decide) ?_
                refine lv_iconst (v := 3) hx hb dX4_bite_59 (by decide) ?_
                exact n_iret (v := 3) C (by simp [sBite, s_1, s_2, s_3, s_4, s_5, s_6, s_7]) dX4_bite_60

set_option maxHeartbeats 4000000 in
set_option maxRecDepth 100000 in
theorem metX4_gaze (l : Launch) (G : GG) (k f : Int32) : MR l yX4_gaze cX4_gaze 2 (some .int) ({ frames := 0, cells := 0, slots := 0, locals := 0 }) [.int k, .int f] [] G (KM G) (sGaze k f) := by
  -- rows printed by wip/tools/gen.py
  refine mr_mk RX4 (by decide) rfl (Nat.le_of_ble_eq_true rfl) ?_
  intro p0_ e0_ s m args below meth c C hP hK ls hl
  have hx := C.1
  have hb := C.2.1
  have hml := C.2.2.2.2.1
  have hown := C.2.2.2.2.2.1
  have hts := C.2.2.2.2.2.2
  have hl : lv_has ls 2 [(0, .int k), (1, .int f)] := hl
  refine lv_iload_n hx hb dX4_gaze_0 rfl (lv_at hl 0 rfl) ?_
  by_cases s_1 : k = 1
  · refine n_eqi s_1 ?_
    refine lv_tableIn (tgt := 44) (x := 1) hx hb dX4_gaze_1 (by decide) (by decide) rfl (by decide) ?_
    refine lv_iconst (v := 1) hx hb dX4_gaze_44 (by decide) ?_
    exact n_iret (v := 1) C (by simp [sGaze, s_1]) dX4_gaze_45
  · skip
    by_cases s_2 : k = 2
    · refine n_eqi s_2 ?_
      refine lv_tableIn (tgt := 46) (x := 2) hx hb dX4_gaze_1 (by decide) (by decide) rfl (by decide) ?_
      refine lv_iconst (v := 4) hx hb dX4_gaze_46 (by decide) ?_
      exact n_iret (v := 4) C (by simp [sGaze, s_1, s_2]) dX4_gaze_47
    · skip
      by_cases s_3 : k = 3
      · refine n_eqi s_3 ?_
        refine lv_tableIn (tgt := 48) (x := 3) hx hb dX4_gaze_1 (by decide) (by decide) rfl (by decide) ?_
        refine lv_iconst (v := 2) hx hb dX4_gaze_48 (by decide) ?_
        refine lv_iload_n hx hb dX4_gaze_49 rfl (lv_at hl 1 rfl) ?_
        refine lv_iconst (v := 3) hx hb dX4_gaze_50 (by decide) ?_
        refine lv_idiv (x := f) (y := 3) hx hb dX4_gaze_51 (by decide) ?_
        refine lv_iadd (x := 2) (y := f / 3) hx hb dX4_gaze_52 ?_
        exact n_iret (v := 2 + (f / 3)) C (by simp [sGaze, s_1, s_2, s_3]) dX4_gaze_53
      · skip
        by_cases s_4 : k = 4
        · refine n_eqi s_4 ?_
          refine lv_tableIn (tgt := 62) (x := 4) hx hb dX4_gaze_1 (by decide) (by decide) rfl (by decide) ?_
          refine lv_iconst (v := 0) hx hb dX4_gaze_62 (by decide) ?_
          exact n_iret (v := 0) C (by simp [sGaze, s_1, s_2, s_3, s_4]) dX4_gaze_63
        · skip
          by_cases s_5 : k = 5
          · refine n_eqi s_5 ?_
            refine lv_tableIn (tgt := 54) (x := 5) hx hb dX4_gaze_1 (by decide) (by decide) rfl (by decide) ?_
            refine lv_iconst (v := 2) hx hb dX4_gaze_54 (by decide) ?_
            refine lv_iconst (v := 2) hx hb dX4_gaze_55 (by decide) ?_
            refine lv_iload_n hx hb dX4_gaze_56 rfl (lv_at hl 1 rfl) ?_
            refine lv_iconst (v := 3) hx hb dX4_gaze_57 (by decide) ?_
            refine lv_idiv (x := f) (y := 3) hx hb dX4_gaze_58 (by decide) ?_
            refine lv_iadd (x := 2) (y := f / 3) hx hb dX4_gaze_59 ?_
            refine lv_imul (x := 2) (y := 2 + (f / 3)) hx hb dX4_gaze_60 ?_
            exact n_iret (v := 2 * (2 + (f / 3))) C (by simp [sGaze, s_1, s_2, s_3, s_4, s_5]) dX4_gaze_61
          · skip
            by_cases s_6 : k = 6
            · refine n_eqi s_6 ?_
              refine lv_tableIn (tgt := 44) (x := 6) hx hb dX4_gaze_1 (by decide) (by decide) rfl (by decide) ?_
              refine lv_iconst (v := 1) hx hb dX4_gaze_44 (by decide) ?_
              exact n_iret (v := 1) C (by simp [sGaze, s_1, s_2, s_3, s_4, s_5, s_6]) dX4_gaze_45
            · skip
              by_cases s_7 : k = 7
              · refine n_eqi s_7 ?_
                refine lv_tableIn (tgt := 62) (x := 7) hx hb dX4_gaze_1 (by decide) (by decide) rfl (by decide) ?_
                refine lv_iconst (v := 0) hx hb dX4_gaze_62 (by decide) ?_
                exact n_iret (v := 0) C (by simp [sGaze, s_1, s_2, s_3, s_4, s_5, s_6, s_7]) dX4_gaze_63
              · skip
                have ts_1 := lv_neT (a := 1) s_1 rfl
                have ts_2 := lv_neT (a := 2) s_2 rfl
                have ts_3 := lv_neT (a := 3) s_3 rfl
                have ts_4 := lv_neT (a := 4) s_4 rfl
                have ts_5 := lv_neT (a := 5) s_5 rfl
                have ts_6 := lv_neT (a := 6) s_6 rfl
                have ts_7 := lv_neT (a := 7) s_7 rfl
                refine lv_tableOut (tgt := 64) (x := k) hx hb dX4_gaze_1 (by omega) (by decide) ?_
                refine lv_iconst (v := 2) hx hb dX4_gaze_64 (by decide) ?_
                exact n_iret (v := 2) C (by simp [sGaze, s_1, s_2, s_3, s_4, s_5, s_6, s_7]) dX4_gaze_65

set_option maxHeartbeats 4000000 in
set_option maxRecDepth 100000 in
theorem metX4_shy (l : Launch) (G : GG) (k : Int32) : MR l yX4_shy cX4_shy 1 (some .int) ({ frames := 0, cells := 0, slots := 0, locals := 0 }) [.int k] [] G (KM G) (sShy k) := by
  -- rows printed by wip/tools/gen.py
  refine mr_mk RX4 (by decide) rfl (Nat.le_of_ble_eq_true rfl) ?_
  intro p0_ e0_ s m args below meth c C hP hK ls hl
  have hx := C.1
  have hb := C.2.1
  have hml := C.2.2.2.2.1
  have hown := C.2.2.2.2.2.1
  have hts := C.2.2.2.2.2.2
  have hl : lv_has ls 1 [(0, .int k)] := hl
  refine lv_iload_n hx hb dX4_shy_0 rfl (lv_at hl 0 rfl) ?_
  refine lv_bipush (v := 6) hx hb dX4_shy_1 (by decide) ?_
  refine lv_icmp_ne (x := k) (y := 6) (tgt := 10) hx hb dX4_shy_3 (by decide) (fun c_1 => ?_) (fun c_1 => ?_)
  · refine lv_iload_n hx hb dX4_shy_10 rfl (lv_at hl 0 rfl) ?_
    refine lv_iconst (v := 1) hx hb dX4_shy_11 (by decide) ?_
    refine lv_icmp_eq (x := k) (y := 1) (tgt := 20) hx hb dX4_shy_12 (by decide) (fun c_2 => ?_) (fun c_2 => ?_)
    · refine lv_iconst (v := 1) hx hb dX4_shy_20 (by decide) ?_
      refine lv_goto (tgt := 25) hx hb dX4_shy_21 (by decide) ?_
      exact n_iret (v := 1) C (by simp [sShy, c_1, c_2]) dX4_shy_25
    · refine lv_iload_n hx hb dX4_shy_15 rfl (lv_at hl 0 rfl) ?_
      refine lv_iconst (v := 2) hx hb dX4_shy_16 (by decide) ?_
      refine lv_icmp_ne (x := k) (y := 2) (tgt := 24) hx hb dX4_shy_17 (by decide) (fun c_3 => ?_) (fun c_3 => ?_)
      · refine lv_iconst (v := 0) hx hb dX4_shy_24 (by decide) ?_
        exact n_iret (v := 0) C (by simp [sShy, c_1, c_2, c_3]) dX4_shy_25
      · refine lv_iconst (v := 1) hx hb dX4_shy_20 (by decide) ?_
        refine lv_goto (tgt := 25) hx hb dX4_shy_21 (by decide) ?_
        exact n_iret (v := 1) C (by simp [sShy, c_1, c_2, c_3]) dX4_shy_25
  · refine lv_iconst (v := 2) hx hb dX4_shy_6 (by decide) ?_
    refine lv_goto (tgt := 25) hx hb dX4_shy_7 (by decide) ?_
    exact n_iret (v := 2) C (by simp [sShy, c_1]) dX4_shy_25

set_option maxHeartbeats 4000000 in
set_option maxRecDepth 100000 in
theorem metX4_bites (l : Launch) (G : GG) (a : Nat) (r : Nat → Int32) (p : Nat) (hp : p < 9) : MR l yX4_bites cX4_bites 2 (some .int) ({ frames := 1, cells := 0, slots := 0, locals := 21 }) [.ref a, .int (nI p)] [(a, iA G 57 r)] G (KM G) (sBites r p) := by
  -- rows printed by wip/tools/gen.py
  refine mr_mk RX4 (by decide) rfl (Nat.le_of_ble_eq_true rfl) ?_
  intro p0_ e0_ s m args below meth c C hP hK ls hl
  have hx := C.1
  have hb := C.2.1
  have hml := C.2.2.2.2.1
  have hown := C.2.2.2.2.2.1
  have hts := C.2.2.2.2.2.2
  have hl : lv_has ls 2 [(0, .ref a), (1, .int (nI p))] := hl
  refine lv_aload_n hx hb dX4_bites_0 rfl (lv_at hl 0 rfl) ?_
  refine lv_iload_n hx hb dX4_bites_1 rfl (lv_at hl 1 rfl) ?_
  refine lv_iconst (v := 2) hx hb dX4_bites_2 (by decide) ?_
  refine c_S (rest := [.ref a]) C (metX4_of l G p 2) 2 (lw_S q1170 q1171 q42 q1172) (by decide +kernel) ⟨rfl, rfl⟩ ⟨(Nat.le_of_ble_eq_true rfl), (Nat.le_of_ble_eq_true rfl)⟩ (KM_mv G) (hP.sub (ws' := []) [] rfl) hK hl rfl rfl (Nat.le_of_ble_eq_true rfl) ⟨(Nat.le_of_ble_eq_true rfl), (Nat.le_of_ble_eq_true rfl)⟩ dX4_bites_3 ?_
  refine n_iald C hK hP 0 (3 + 6 * p + 2) rfl (by omega) (by omega) dX4_bites_6 ?_
  refine lv_aload_n hx hb dX4_bites_7 rfl (lv_at hl 0 rfl) ?_
  refine lv_iload_n hx hb dX4_bites_8 rfl (lv_at hl 1 rfl) ?_
  refine lv_iconst (v := 0) hx hb dX4_bites_9 (by decide) ?_
  refine c_S (rest := [.ref a, .int (r (3 + 6 * p + 2))]) C (metX4_of l G p 0) 2 (lw_S q1170 q1171 q42 q1172) (by decide +kernel) ⟨rfl, rfl⟩ ⟨(Nat.le_of_ble_eq_true rfl), (Nat.le_of_ble_eq_true rfl)⟩ (KM_mv G) (hP.sub (ws' := []) [] rfl) hK hl rfl rfl (Nat.le_of_ble_eq_true rfl) ⟨(Nat.le_of_ble_eq_true rfl), (Nat.le_of_ble_eq_true rfl)⟩ dX4_bites_10 ?_
  refine n_iald C hK hP 0 (3 + 6 * p) rfl (by omega) (by omega) dX4_bites_13 ?_
  refine lv_aload_n hx hb dX4_bites_14 rfl (lv_at hl 0 rfl) ?_
  refine lv_iload_n hx hb dX4_bites_15 rfl (lv_at hl 1 rfl) ?_
  refine lv_iconst (v := 1) hx hb dX4_bites_16 (by decide) ?_
  refine c_S (rest := [.ref a, .int (r (3 + 6 * p)), .int (r (3 + 6 * p + 2))]) C (metX4_of l G p 1) 2 (lw_S q1170 q1171 q42 q1172) (by decide +kernel) ⟨rfl, rfl⟩ ⟨(Nat.le_of_ble_eq_true rfl), (Nat.le_of_ble_eq_true rfl)⟩ (KM_mv G) (hP.sub (ws' := []) [] rfl) hK hl rfl rfl (Nat.le_of_ble_eq_true rfl) ⟨(Nat.le_of_ble_eq_true rfl), (Nat.le_of_ble_eq_true rfl)⟩ dX4_bites_17 ?_
  refine n_iald C hK hP 0 (3 + 6 * p + 1) rfl (by omega) (by omega) dX4_bites_20 ?_
  refine c_S (rest := [.int (r (3 + 6 * p + 2))]) C (metX4_bite l G (r (3 + 6 * p)) (r (3 + 6 * p + 1))) 2 (lw_S q1195 q1196 q42 q1197) (by decide +kernel) ⟨rfl, rfl⟩ ⟨(Nat.le_of_ble_eq_true rfl), (Nat.le_of_ble_eq_true rfl)⟩ (KM_mv G) (hP.sub (ws' := []) [] rfl) hK hl rfl rfl (Nat.le_of_ble_eq_true rfl) ⟨(Nat.le_of_ble_eq_true rfl), (Nat.le_of_ble_eq_true rfl)⟩ dX4_bites_21 ?_
  refine c_S (rest := []) C (metX4_least l G (r (3 + 6 * p + 2)) (sBite (r (3 + 6 * p)) (r (3 + 6 * p + 1)))) 2 (lw_S q1198 q1199 q42 q1200) (by decide +kernel) ⟨rfl, rfl⟩ ⟨(Nat.le_of_ble_eq_true rfl), (Nat.le_of_ble_eq_true rfl)⟩ (KM_mv G) (hP.sub (ws' := []) [] rfl) hK hl rfl rfl (Nat.le_of_ble_eq_true rfl) ⟨(Nat.le_of_ble_eq_true rfl), (Nat.le_of_ble_eq_true rfl)⟩ dX4_bites_24 ?_
  exact n_iret (v := mn (r (3 + 6 * p + 2)) (sBite (r (3 + 6 * p)) (r (3 + 6 * p + 1)))) C (by simp [sBites]) dX4_bites_27

set_option maxHeartbeats 4000000 in
set_option maxRecDepth 100000 in
theorem metX4_gazes (l : Launch) (G : GG) (a : Nat) (r : Nat → Int32) (p : Nat) (hp : p < 9) : MR l yX4_gazes cX4_gazes 2 (some .int) ({ frames := 1, cells := 0, slots := 0, locals := 21 }) [.ref a, .int (nI p)] [(a, iA G 57 r)] G (KM G) (sGazes r p) := by
  -- rows printed by wip/tools/gen.py
  refine mr_mk RX4 (by decide) rfl (Nat.le_of_ble_eq_true rfl) ?_
  intro p0_ e0_ s m args below meth c C hP hK ls hl
  have hx := C.1
  have hb := C.2.1
  have hml := C.2.2.2.2.1
  have hown := C.2.2.2.2.2.1
  have hts := C.2.2.2.2.2.2
  have hl : lv_has ls 2 [(0, .ref a), (1, .int (nI p))] := hl
  refine lv_aload_n hx hb dX4_gazes_0 rfl (lv_at hl 0 rfl) ?_
  refine lv_iload_n hx hb dX4_gazes_1 rfl (lv_at hl 1 rfl) ?_
  refine lv_iconst (v := 3) hx hb dX4_gazes_2 (by decide) ?_
  refine c_S (rest := [.ref a]) C (metX4_of l G p 3) 2 (lw_S q1170 q1171 q42 q1172) (by decide +kernel) ⟨rfl, rfl⟩ ⟨(Nat.le_of_ble_eq_true rfl), (Nat.le_of_ble_eq_true rfl)⟩ (KM_mv G) (hP.sub (ws' := []) [] rfl) hK hl rfl rfl (Nat.le_of_ble_eq_true rfl) ⟨(Nat.le_of_ble_eq_true rfl), (Nat.le_of_ble_eq_true rfl)⟩ dX4_gazes_3 ?_
  refine n_iald C hK hP 0 (3 + 6 * p + 3) rfl (by omega) (by omega) dX4_gazes_6 ?_
  refine lv_aload_n hx hb dX4_gazes_7 rfl (lv_at hl 0 rfl) ?_
  refine lv_iload_n hx hb dX4_gazes_8 rfl (lv_at hl 1 rfl) ?_
  refine lv_iconst (v := 0) hx hb dX4_gazes_9 (by decide) ?_
  refine c_S (rest := [.ref a, .int (r (3 + 6 * p + 3))]) C (metX4_of l G p 0) 2 (lw_S q1170 q1171 q42 q1172) (by decide +kernel) ⟨rfl, rfl⟩ ⟨(Nat.le_of_ble_eq_true rfl), (Nat.le_of_ble_eq_true rfl)⟩ (KM_mv G) (hP.sub (ws' := []) [] rfl) hK hl rfl rfl (Nat.le_of_ble_eq_true rfl) ⟨(Nat.le_of_ble_eq_true rfl), (Nat.le_of_ble_eq_true rfl)⟩ dX4_gazes_10 ?_
  refine n_iald C hK hP 0 (3 + 6 * p) rfl (by omega) (by omega) dX4_gazes_13 ?_
  refine lv_aload_n hx hb dX4_gazes_14 rfl (lv_at hl 0 rfl) ?_
  refine lv_iload_n hx hb dX4_gazes_15 rfl (lv_at hl 1 rfl) ?_
  refine lv_iconst (v := 1) hx hb dX4_gazes_16 (by decide) ?_
  refine c_S (rest := [.ref a, .int (r (3 + 6 * p)), .int (r (3 + 6 * p + 3))]) C (metX4_of l G p 1) 2 (lw_S q1170 q1171 q42 q1172) (by decide +kernel) ⟨rfl, rfl⟩ ⟨(Nat.le_of_ble_eq_true rfl), (Nat.le_of_ble_eq_true rfl)⟩ (KM_mv G) (hP.sub (ws' := []) [] rfl) hK hl rfl rfl (Nat.le_of_ble_eq_true rfl) ⟨(Nat.le_of_ble_eq_true rfl), (Nat.le_of_ble_eq_true rfl)⟩ dX4_gazes_17 ?_
  refine n_iald C hK hP 0 (3 + 6 * p + 1) rfl (by omega) (by omega) dX4_gazes_20 ?_
  refine c_S (rest := [.int (r (3 + 6 * p + 3))]) C (metX4_gaze l G (r (3 + 6 * p)) (r (3 + 6 * p + 1))) 2 (lw_S q1210 q1211 q42 q1212) (by decide +kernel) ⟨rfl, rfl⟩ ⟨(Nat.le_of_ble_eq_true rfl), (Nat.le_of_ble_eq_true rfl)⟩ (KM_mv G) (hP.sub (ws' := []) [] rfl) hK hl rfl rfl (Nat.le_of_ble_eq_true rfl) ⟨(Nat.le_of_ble_eq_true rfl), (Nat.le_of_ble_eq_true rfl)⟩ dX4_gazes_21 ?_
  refine c_S (rest := []) C (metX4_least l G (r (3 + 6 * p + 3)) (sGaze (r (3 + 6 * p)) (r (3 + 6 * p + 1)))) 2 (lw_S q1198 q1199 q42 q1200) (by decide +kernel) ⟨rfl, rfl⟩ ⟨(Nat.le_of_ble_eq_true rfl), (Nat.le_of_ble_eq_true rfl)⟩ (KM_mv G) (hP.sub (ws' := []) [] rfl) hK hl rfl rfl (Nat.le_of_ble_eq_true rfl) ⟨(Nat.le_of_ble_eq_true rfl), (Nat.le_of_ble_eq_true rfl)⟩ dX4_gazes_24 ?_
  exact n_iret (v := mn (r (3 + 6 * p + 3)) (sGaze (r (3 + 6 * p)) (r (3 + 6 * p + 1)))) C (by simp [sGazes]) dX4_gazes_27

set_option maxHeartbeats 4000000 in
set_option maxRecDepth 100000 in
theorem metX4_canLook (l : Launch) (G : GG) (a : Nat) (r : Nat → Int32) (p : Nat) (hp : p < 9) : MR l yX4_canLook cX4_canLook 2 (some .boolean) ({ frames := 1, cells := 0, slots := 0, locals := 21 }) [.ref a, .int (nI p)] [(a, iA G 57 r)] G (KM G) (bI (sLook r p)) := by
  -- rows printed by wip/tools/gen.py
  refine mr_mk RX4 (by decide) rfl (Nat.le_of_ble_eq_true rfl) ?_
  intro p0_ e0_ s m args below meth c C hP hK ls hl
  have hx := C.1
  have hb := C.2.1
  have hml := C.2.2.2.2.1
  have hown := C.2.2.2.2.2.1
  have hts := C.2.2.2.2.2.2
  have hl : lv_has ls 2 [(0, .ref a), (1, .int (nI p))] := hl
  refine lv_aload_n hx hb dX4_canLook_0 rfl (lv_at hl 0 rfl) ?_
  refine lv_iload_n hx hb dX4_canLook_1 rfl (lv_at hl 1 rfl) ?_
  refine lv_iconst (v := 4) hx hb dX4_canLook_2 (by decide) ?_
  refine c_S (rest := [.ref a]) C (metX4_of l G p 4) 2 (lw_S q1170 q1171 q42 q1172) (by decide +kernel) ⟨rfl, rfl⟩ ⟨(Nat.le_of_ble_eq_true rfl), (Nat.le_of_ble_eq_true rfl)⟩ (KM_mv G) (hP.sub (ws' := []) [] rfl) hK hl rfl rfl (Nat.le_of_ble_eq_true rfl) ⟨(Nat.le_of_ble_eq_true rfl), (Nat.le_of_ble_eq_true rfl)⟩ dX4_canLook_3 ?_
  refine n_iald C hK hP 0 (3 + 6 * p + 4) rfl (by omega) (by omega) dX4_canLook_6 ?_
  refine lv_if_ne (x := r (3 + 6 * p + 4)) (tgt := 25) hx hb dX4_canLook_7 (by decide) (fun c_1 => ?_) (fun c_1 => ?_)
  · refine lv_iconst (v := 0) hx hb dX4_canLook_25 (by decide) ?_
    exact n_zret (v := false) C (by simp [sLook, c_1]) dX4_canLook_26
  · refine lv_aload_n hx hb dX4_canLook_10 rfl (lv_at hl 0 rfl) ?_
    refine lv_iload_n hx hb dX4_canLook_11 rfl (lv_at hl 1 rfl) ?_
    refine lv_iconst (v := 0) hx hb dX4_canLook_12 (by decide) ?_
    refine c_S (rest := [.ref a]) C (metX4_of l G p 0) 2 (lw_S q1170 q1171 q42 q1172) (by decide +kernel) ⟨rfl, rfl⟩ ⟨(Nat.le_of_ble_eq_true rfl), (Nat.le_of_ble_eq_true rfl)⟩ (KM_mv G) (hP.sub (ws' := []) [] rfl) hK hl rfl rfl (Nat.le_of_ble_eq_true rfl) ⟨(Nat.le_of_ble_eq_true rfl), (Nat.le_of_ble_eq_true rfl)⟩ dX4_canLook_13 ?_
    refine n_iald C hK hP 0 (3 + 6 * p) rfl (by omega) (by omega) dX4_canLook_16 ?_
    refine lv_iconst (v := 4) hx hb dX4_canLook_17 (by decide) ?_
    refine lv_icmp_eq (x := r (3 + 6 * p)) (y := 4) (tgt := 25) hx hb dX4_canLook_18 (by decide) (fun c_2 => ?_) (fun c_2 => ?_)
    · refine lv_iconst (v := 0) hx hb dX4_canLook_25 (by decide) ?_
      exact n_zret (v := false) C (by simp [sLook, c_1, c_2]) dX4_canLook_26
    · refine lv_iconst (v := 1) hx hb dX4_canLook_21 (by decide) ?_
      refine lv_goto (tgt := 26) hx hb dX4_canLook_22 (by decide) ?_
      exact n_zret (v := true) C (by simp [sLook, c_1, c_2]) dX4_canLook_26

set_option maxHeartbeats 4000000 in
set_option maxRecDepth 100000 in
theorem metX4_canEat (l : Launch) (G : GG) (a : Nat) (r : Nat → Int32) (p q : Nat) (hp : p < 9) (hq : q < 9) : MR l yX4_canEat cX4_canEat 3 (some .boolean) ({ frames := 2, cells := 0, slots := 0, locals := 42 }) [.ref a, .int (nI p), .int (nI q)] [(a, iA G 57 r)] G (KM G) (bI (sEat r p q)) := by
  -- rows printed by wip/tools/gen.py
  refine mr_mk RX4 (by decide) rfl (Nat.le_of_ble_eq_true rfl) ?_
  intro p0_ e0_ s m args below meth c C hP hK ls hl
  have hx := C.1
  have hb := C.2.1
  have hml := C.2.2.2.2.1
  have hown := C.2.2.2.2.2.1
  have hts := C.2.2.2.2.2.2
  have hl : lv_has ls 3 [(0, .ref a), (1, .int (nI p)), (2, .int (nI q))] := hl
  refine lv_iload_n hx hb dX4_canEat_0 rfl (lv_at hl 1 rfl) ?_
  refine lv_iload_n hx hb dX4_canEat_1 rfl (lv_at hl 2 rfl) ?_
  refine n_ic_eq (x := p) (y := q) (tgt := 33) hx hb (by omega) (by omega) dX4_canEat_2 (by decide) (fun c_1 => ?_) (fun c_1 => ?_)
  · have zc_1 : nI p = nI q := congrArg nI c_1
    refine lv_iconst (v := 0) hx hb dX4_canEat_33 (by decide) ?_
    exact n_zret (v := false) C (by simp [sEat, c_1, zc_1]) dX4_canEat_34
  · have zc_1 : ¬ nI p = nI q := fun q => c_1 ((nI_eq (by omega) (by omega)).mp q)
    refine lv_aload_n hx hb dX4_canEat_5 rfl (lv_at hl 0 rfl) ?_
    refine lv_iconst (v := 1) hx hb dX4_canEat_6 (by decide) ?_
    refine n_iald C hK hP 0 1 rfl (by omega) (by omega) dX4_canEat_7 ?_
    refine lv_if_le (x := r 1) (tgt := 33) hx hb dX4_canEat_8 (by decide) (fun c_2 => ?_) (fun c_2 => ?_)
    · have zc_2 : ¬ 0 < (r 1) := Int32.not_lt.mpr c_2
      refine lv_iconst (v := 0) hx hb dX4_canEat_33 (by decide) ?_
      exact n_zret (v := false) C (by simp [sEat, c_1, zc_1, c_2, zc_2]) dX4_canEat_34
    · have zc_2 : 0 < (r 1) := Int32.not_le.mp c_2
      refine lv_aload_n hx hb dX4_canEat_11 rfl (lv_at hl 0 rfl) ?_
      refine lv_iload_n hx hb dX4_canEat_12 rfl (lv_at hl 1 rfl) ?_
      refine lv_iconst (v := 2) hx hb dX4_canEat_13 (by decide) ?_
      refine c_S (rest := [.ref a]) C (metX4_of l G p 2) 2 (lw_S q1170 q1171 q42 q1172) (by decide +kernel) ⟨rfl, rfl⟩ ⟨(Nat.le_of_ble_eq_true rfl), (Nat.le_of_ble_eq_true rfl)⟩ (KM_mv G) (hP.sub (ws' := []) [] rfl) hK hl rfl rfl (Nat.le_of_ble_eq_true rfl) ⟨(Nat.le_of_ble_eq_true rfl), (Nat.le_of_ble_eq_true rfl)⟩ dX4_canEat_14 ?_
      refine n_iald C hK hP 0 (3 + 6 * p + 2) rfl (by omega) (by omega) dX4_canEat_17 ?_
      refine lv_if_le (x := r (3 + 6 * p + 2)) (tgt := 33) hx hb dX4_canEat_18 (by decide) (fun c_3 => ?_) (fun c_3 => ?_)
      · have zc_3 : ¬ 0 < (r (3 + 6 * p + 2)) := Int32.not_lt.mpr c_3
        refine lv_iconst (v := 0) hx hb dX4_canEat_33 (by decide) ?_
        exact n_zret (v := false) C (by simp [sEat, c_1, zc_1, c_2, zc_2, c_3, zc_3]) dX4_canEat_34
      · have zc_3 : 0 < (r (3 + 6 * p + 2)) := Int32.not_le.mp c_3
        refine lv_aload_n hx hb dX4_canEat_21 rfl (lv_at hl 0 rfl) ?_
        refine lv_iload_n hx hb dX4_canEat_22 rfl (lv_at hl 2 rfl) ?_
        refine c_S (rest := []) C (metX4_canLook l G a r q (by omega)) 2 (lw_S q1180 q1181 q42 q1182) (by decide +kernel) ⟨rfl, rfl⟩ ⟨(Nat.le_of_ble_eq_true rfl), (Nat.le_of_ble_eq_true rfl)⟩ (KM_mv G) hP hK hl rfl rfl (Nat.le_of_ble_eq_true rfl) ⟨(Nat.le_of_ble_eq_true rfl), (Nat.le_of_ble_eq_true rfl)⟩ dX4_canEat_23 ?_
        refine n_if_eqB (b := (sLook r q)) (tgt := 33) hx hb dX4_canEat_26 (by decide) (fun c_4 => ?_) (fun c_4 => ?_)
        · refine lv_iconst (v := 0) hx hb dX4_canEat_33 (by decide) ?_
          exact n_zret (v := false) C (by simp [sEat, c_1, zc_1, c_2, zc_2, c_3, zc_3, c_4]) dX4_canEat_34
        · refine lv_iconst (v := 1) hx hb dX4_canEat_29 (by decide) ?_
          refine lv_goto (tgt := 34) hx hb dX4_canEat_30 (by decide) ?_
          exact n_zret (v := true) C (by simp [sEat, c_1, zc_1, c_2, zc_2, c_3, zc_3, c_4]) dX4_canEat_34

set_option maxHeartbeats 4000000 in
set_option maxRecDepth 100000 in
theorem metX4_eaterJoy (l : Launch) (G : GG) (a : Nat) (r : Nat → Int32) (p q : Nat) (hp : p < 9) (hq : q < 9) : MR l yX4_eaterJoy cX4_eaterJoy 3 (some .int) ({ frames := 2, cells := 0, slots := 0, locals := 42 }) [.ref a, .int (nI p), .int (nI q)] [(a, iA G 57 r)] G (KM G) (sJoyE r p q) := by
  -- rows printed by wip/tools/gen.py
  refine mr_mk RX4 (by decide) rfl (Nat.le_of_ble_eq_true rfl) ?_
  intro p0_ e0_ s m args below meth c C hP hK ls hl
  have hx := C.1
  have hb := C.2.1
  have hml := C.2.2.2.2.1
  have hown := C.2.2.2.2.2.1
  have hts := C.2.2.2.2.2.2
  have hl : lv_has ls 3 [(0, .ref a), (1, .int (nI p)), (2, .int (nI q))] := hl
  refine lv_iconst (v := 0) hx hb dX4_eaterJoy_0 (by decide) ?_
  refine lv_aload_n hx hb dX4_eaterJoy_1 rfl (lv_at hl 0 rfl) ?_
  refine lv_iload_n hx hb dX4_eaterJoy_2 rfl (lv_at hl 1 rfl) ?_
  refine c_S (rest := [.int 0]) C (metX4_bites l G a r p (by omega)) 2 (lw_S q1192 q1193 q42 q1194) (by decide +kernel) ⟨rfl, rfl⟩ ⟨(Nat.le_of_ble_eq_true rfl), (Nat.le_of_ble_eq_true rfl)⟩ (KM_mv G) hP hK hl rfl rfl (Nat.le_of_ble_eq_true rfl) ⟨(Nat.le_of_ble_eq_true rfl), (Nat.le_of_ble_eq_true rfl)⟩ dX4_eaterJoy_3 ?_
  refine lv_aload_n hx hb dX4_eaterJoy_6 rfl (lv_at hl 0 rfl) ?_
  refine lv_iload_n hx hb dX4_eaterJoy_7 rfl (lv_at hl 1 rfl) ?_
  refine lv_iconst (v := 0) hx hb dX4_eaterJoy_8 (by decide) ?_
  refine c_S (rest := [.ref a, .int (sBites r p), .int 0]) C (metX4_of l G p 0) 2 (lw_S q1170 q1171 q42 q1172) (by decide +kernel) ⟨rfl, rfl⟩ ⟨(Nat.le_of_ble_eq_true rfl), (Nat.le_of_ble_eq_true rfl)⟩ (KM_mv G) (hP.sub (ws' := []) [] rfl) hK hl rfl rfl (Nat.le_of_ble_eq_true rfl) ⟨(Nat.le_of_ble_eq_true rfl), (Nat.le_of_ble_eq_true rfl)⟩ dX4_eaterJoy_9 ?_
  refine n_iald C hK hP 0 (3 + 6 * p) rfl (by omega) (by omega) dX4_eaterJoy_12 ?_
  refine c_S (rest := [.int (sBites r p), .int 0]) C (metX4_shy l G (r (3 + 6 * p))) 1 (lw_S q1201 q1202 q42 q1203) (by decide +kernel) ⟨rfl, rfl⟩ ⟨(Nat.le_of_ble_eq_true rfl), (Nat.le_of_ble_eq_true rfl)⟩ (KM_mv G) (hP.sub (ws' := []) [] rfl) hK hl rfl rfl (Nat.le_of_ble_eq_true rfl) ⟨(Nat.le_of_ble_eq_true rfl), (Nat.le_of_ble_eq_true rfl)⟩ dX4_eaterJoy_13 ?_
  refine lv_aload_n hx hb dX4_eaterJoy_16 rfl (lv_at hl 0 rfl) ?_
  refine lv_iload_n hx hb dX4_eaterJoy_17 rfl (lv_at hl 2 rfl) ?_
  refine lv_iconst (v := 5) hx hb dX4_eaterJoy_18 (by decide) ?_
  refine c_S (rest := [.ref a, .int (sShy (r (3 + 6 * p))), .int (sBites r p), .int 0]) C (metX4_of l G q 5) 2 (lw_S q1170 q1171 q42 q1172) (by decide +kernel) ⟨rfl, rfl⟩ ⟨(Nat.le_of_ble_eq_true rfl), (Nat.le_of_ble_eq_true rfl)⟩ (KM_mv G) (hP.sub (ws' := []) [] rfl) hK hl rfl rfl (Nat.le_of_ble_eq_true rfl) ⟨(Nat.le_of_ble_eq_true rfl), (Nat.le_of_ble_eq_true rfl)⟩ dX4_eaterJoy_19 ?_
  refine n_iald C hK hP 0 (3 + 6 * q + 5) rfl (by omega) (by omega) dX4_eaterJoy_22 ?_
  refine lv_imul (x := sShy (r (3 + 6 * p))) (y := r (3 + 6 * q + 5)) hx hb dX4_eaterJoy_23 ?_
  refine lv_isub (x := sBites r p) (y := (sShy (r (3 + 6 * p))) * (r (3 + 6 * q + 5))) hx hb dX4_eaterJoy_24 ?_
  refine c_S (rest := []) C (metX4_most l G 0 ((sBites r p) - ((sShy (r (3 + 6 * p))) * (r (3 + 6 * q + 5))))) 2 (lw_S q1204 q1205 q42 q1206) (by decide +kernel) ⟨rfl, rfl⟩ ⟨(Nat.le_of_ble_eq_true rfl), (Nat.le_of_ble_eq_true rfl)⟩ (KM_mv G) (hP.sub (ws' := []) [] rfl) hK hl rfl rfl (Nat.le_of_ble_eq_true rfl) ⟨(Nat.le_of_ble_eq_true rfl), (Nat.le_of_ble_eq_true rfl)⟩ dX4_eaterJoy_25 ?_
  exact n_iret (v := mx 0 ((sBites r p) - ((sShy (r (3 + 6 * p))) * (r (3 + 6 * q + 5))))) C (by simp [sJoyE]) dX4_eaterJoy_28

set_option maxHeartbeats 4000000 in
set_option maxRecDepth 100000 in
theorem metX4_joysOf (l : Launch) (G : GG) (a : Nat) (r : Nat → Int32) (p q : Nat) (hp : p < 9) (hq : q < 9) : MR l yX4_joysOf cX4_joysOf 3 (some .int) ({ frames := 3, cells := 0, slots := 0, locals := 64 }) [.ref a, .int (nI p), .int (nI q)] [(a, iA G 57 r)] G (KM G) (sJoy r p q) := by
  -- rows printed by wip/tools/gen.py
  refine mr_mk RX4 (by decide) rfl (Nat.le_of_ble_eq_true rfl) ?_
  intro p0_ e0_ s m args below meth c C hP hK ls hl
  have hx := C.1
  have hb := C.2.1
  have hml := C.2.2.2.2.1
  have hown := C.2.2.2.2.2.1
  have hts := C.2.2.2.2.2.2
  have hl : lv_has ls 3 [(0, .ref a), (1, .int (nI p)), (2, .int (nI q))] := hl
  refine lv_aload_n hx hb dX4_joysOf_0 rfl (lv_at hl 0 rfl) ?_
  refine lv_iload_n hx hb dX4_joysOf_1 rfl (lv_at hl 1 rfl) ?_
  refine lv_iload_n hx hb dX4_joysOf_2 rfl (lv_at hl 2 rfl) ?_
  refine c_S (rest := []) C (metX4_eaterJoy l G a r p q (by omega) (by omega)) 3 (lw_S q1189 q1190 q42 q1191) (by decide +kernel) ⟨rfl, rfl⟩ ⟨(Nat.le_of_ble_eq_true rfl), (Nat.le_of_ble_eq_true rfl)⟩ (KM_mv G) hP hK hl rfl rfl (Nat.le_of_ble_eq_true rfl) ⟨(Nat.le_of_ble_eq_true rfl), (Nat.le_of_ble_eq_true rfl)⟩ dX4_joysOf_3 ?_
  refine lv_aload_n hx hb dX4_joysOf_6 rfl (lv_at hl 0 rfl) ?_
  refine lv_iload_n hx hb dX4_joysOf_7 rfl (lv_at hl 2 rfl) ?_
  refine c_S (rest := [.int (sJoyE r p q)]) C (metX4_gazes l G a r q (by omega)) 2 (lw_S q1207 q1208 q42 q1209) (by decide +kernel) ⟨rfl, rfl⟩ ⟨(Nat.le_of_ble_eq_true rfl), (Nat.le_of_ble_eq_true rfl)⟩ (KM_mv G) hP hK hl rfl rfl (Nat.le_of_ble_eq_true rfl) ⟨(Nat.le_of_ble_eq_true rfl), (Nat.le_of_ble_eq_true rfl)⟩ dX4_joysOf_8 ?_
  refine lv_iadd (x := sJoyE r p q) (y := sGazes r q) hx hb dX4_joysOf_11 ?_
  exact n_iret (v := (sJoyE r p q) + (sGazes r q)) C (by simp [sJoy]) dX4_joysOf_12

set_option maxHeartbeats 4000000 in
set_option maxRecDepth 100000 in
theorem metX4_bestIn (l : Launch) (G : GG) (a : Nat) (r : Nat → Int32) (N : Nat) (hN : N ≤ 9) (hr : r 0 = nI N) : MR l yX4_bestIn cX4_bestIn 5 (some .int) ({ frames := 4, cells := 0, slots := 0, locals := 86 }) [.ref a] [(a, iA G 57 r)] G (KM G) (sBest r N) := by
  -- rows printed by wip/tools/gen.py
  refine mr_mk RX4 (by decide) rfl (Nat.le_of_ble_eq_true rfl) ?_
  intro p0_ e0_ s m args below meth c C hP hK ls hl
  have hx := C.1
  have hb := C.2.1
  have hml := C.2.2.2.2.1
  have hown := C.2.2.2.2.2.1
  have hts := C.2.2.2.2.2.2
  have hl : lv_has ls 5 [(0, .ref a)] := hl
  refine lv_bipush (v := (-4)) hx hb dX4_bestIn_0 (by decide) ?_
  refine lv_istore_n (lv' := [(1, .int (-4)), (0, .ref a)]) hx hb dX4_bestIn_2 rfl hl (Nat.le_of_ble_eq_true rfl) rfl (fun ls hl => ?_)
  refine lv_iconst (v := (-1)) hx hb dX4_bestIn_3 (by decide) ?_
  refine lv_istore_n (lv' := [(2, .int (-1)), (1, .int (-4)), (0, .ref a)]) hx hb dX4_bestIn_4 rfl hl (Nat.le_of_ble_eq_true rfl) rfl (fun ls hl => ?_)
  refine lv_iconst (v := 0) hx hb dX4_bestIn_5 (by decide) ?_
  refine lv_istore_n (lv' := [(3, .int 0), (2, .int (-1)), (1, .int (-4)), (0, .ref a)]) hx hb dX4_bestIn_6 rfl hl (Nat.le_of_ble_eq_true rfl) rfl (fun ls hl => ?_)
  suffices hlp_1 : (∀ (n i : Nat), i + n = N → ∀ (ls : Array Slot), lv_has ls 5 [(3, .int (nI i)), (2, .int (bval r (bout r N i))), (1, .int (enc (bout r N i))), (0, .ref a)] → W p0_ l e0_ ({ frames := 4, cells := 0, slots := 0, locals := 86 } : Room) s m args below meth c s.heap [] (0) (0) (MQ below (vp_Si (fun rr9 => rr9 = sBest r N)) args s 0 0 (fun _ => False)) (F0 m 7 ls [])) by
    exact hlp_1 (N) 0 (by omega) ls (lv_sub hl [0, 1, 2, 3] rfl)
  have hend_1 : ∀ (ls : Array Slot), lv_has ls 5 [(3, .int (nI N)), (2, .int (bval r (bout r N N))), (1, .int (enc (bout r N N))), (0, .ref a)] → W p0_ l e0_ ({ frames := 4, cells := 0, slots := 0, locals := 86 } : Room) s m args below meth c s.heap [] (0) (0) (MQ below (vp_Si (fun rr9 => rr9 = sBest r N)) args s 0 0 (fun _ => False)) (F0 m 7 ls []) := by
    intro ls hl
    refine lv_iload_n hx hb dX4_bestIn_7 rfl (lv_at hl 0 rfl) ?_
    refine lv_aload_n hx hb dX4_bestIn_8 rfl (lv_at hl 3 rfl) ?_
    refine lv_iconst (v := 0) hx hb dX4_bestIn_9 (by decide) ?_
    refine n_iald C hK hP 0 0 rfl (by omega) (by omega) dX4_bestIn_10 ?_
    refine n_eqi (hr) ?_
    refine n_ic_ge (x := N) (y := N) (tgt := 77) hx hb (by omega) (by omega) dX4_bestIn_11 (by decide) (fun c_2 => ?_) (fun c_2 => absurd c_2 (by omega))
    refine lv_iload_n hx hb dX4_bestIn_77 rfl (lv_at hl 2 rfl) ?_
    exact n_iret (v := enc (bout r N N)) C (rfl) dX4_bestIn_78
  intro n
  induction n with
  | zero =>
    intro i hi_1 ls hl
    obtain e_1 : i = N := by omega
    first | (subst e_1; exact hend_1 ls hl) | (rw [e_1] at hl; exact hend_1 ls hl)
  | succ n ih_1 =>
    intro i hi_1 ls hl
    refine lv_iload_n hx hb dX4_bestIn_7 rfl (lv_at hl 0 rfl) ?_
    refine lv_aload_n hx hb dX4_bestIn_8 rfl (lv_at hl 3 rfl) ?_
    refine lv_iconst (v := 0) hx hb dX4_bestIn_9 (by decide) ?_
    refine n_iald C hK hP 0 0 rfl (by omega) (by omega) dX4_bestIn_10 ?_
    refine n_eqi (hr) ?_
    refine n_ic_ge (x := i) (y := N) (tgt := 77) hx hb (by omega) (by omega) dX4_bestIn_11 (by decide) (fun c_3 => absurd c_3 (by omega)) (fun c_3 => ?_)
    refine lv_iconst (v := 0) hx hb dX4_bestIn_14 (by decide) ?_
    refine lv_istore (lv' := [(4, .int 0), (3, .int (nI i)), (2, .int (bval r (bout r N i))), (1, .int (enc (bout r N i))), (0, .ref a)]) hx hb dX4_bestIn_15 hl (Nat.le_of_ble_eq_true rfl) rfl (fun ls hl => ?_)
    suffices hlp_4 : (∀ (n j : Nat), j + n = N → ∀ (ls : Array Slot), lv_has ls 5 [(4, .int (nI j)), (3, .int (nI i)), (2, .int (bval r (bin r i (bout r N i) j))), (1, .int (enc (bin r i (bout r N i) j))), (0, .ref a)] → W p0_ l e0_ ({ frames := 4, cells := 0, slots := 0, locals := 86 } : Room) s m args below meth c s.heap [] (0) (0) (MQ below (vp_Si (fun rr9 => rr9 = sBest r N)) args s 0 0 (fun _ => False)) (F0 m 17 ls [])) by
      exact hlp_4 (N) 0 (by omega) ls (lv_sub hl [0, 1, 2, 3, 4] rfl)
    have hend_4 : ∀ (ls : Array Slot), lv_has ls 5 [(4, .int (nI N)), (3, .int (nI i)), (2, .int (bval r (bin r i (bout r N i) N))), (1, .int (enc (bin r i (bout r N i) N))), (0, .ref a)] → W p0_ l e0_ ({ frames := 4, cells := 0, slots := 0, locals := 86 } : Room) s m args below meth c s.heap [] (0) (0) (MQ below (vp_Si (fun rr9 => rr9 = sBest r N)) args s 0 0 (fun _ => False)) (F0 m 17 ls []) := by
      intro ls hl
      refine lv_iload hx hb dX4_bestIn_17 (lv_at hl 0 rfl) ?_
      refine lv_aload_n hx hb dX4_bestIn_19 rfl (lv_at hl 4 rfl) ?_
      refine lv_iconst (v := 0) hx hb dX4_bestIn_20 (by decide) ?_
      refine n_iald C hK hP 0 0 rfl (by omega) (by omega) dX4_bestIn_21 ?_
      refine n_eqi (hr) ?_
      refine n_ic_ge (x := N) (y := N) (tgt := 71) hx hb (by omega) (by omega) dX4_bestIn_22 (by decide) (fun c_5 => ?_) (fun c_5 => absurd c_5 (by omega))
      refine n_iinc (k := 1) (lv' := [(3, .int (nI (i + 1))), (4, .int (nI N)), (2, .int (bval r (bin r i (bout r N i) N))), (1, .int (enc (bin r i (bout r N i) N))), (0, .ref a)]) hx hb i 1 dX4_bestIn_71 hl rfl (Nat.le_of_ble_eq_true rfl) rfl (fun ls hl => ?_)
      refine lv_goto (tgt := 7) hx hb dX4_bestIn_74 (by decide) ?_
      have e_6 : bval r (bout r N (i + 1)) = bval r (bin r i (bout r N i) N) := by rfl
      have e_7 : enc (bout r N (i + 1)) = enc (bin r i (bout r N i) N) := by rfl
      exact ih_1 (i + 1) (by omega) ls (by rw [e_6, e_7]; exact lv_sub hl [0, 2, 3, 4] rfl)
    intro n
    induction n with
    | zero =>
      intro j hi_4 ls hl
      obtain e_4 : j = N := by omega
      first | (subst e_4; exact hend_4 ls hl) | (rw [e_4] at hl; exact hend_4 ls hl)
    | succ n ih_4 =>
      intro j hi_4 ls hl
      refine lv_iload hx hb dX4_bestIn_17 (lv_at hl 0 rfl) ?_
      refine lv_aload_n hx hb dX4_bestIn_19 rfl (lv_at hl 4 rfl) ?_
      refine lv_iconst (v := 0) hx hb dX4_bestIn_20 (by decide) ?_
      refine n_iald C hK hP 0 0 rfl (by omega) (by omega) dX4_bestIn_21 ?_
      refine n_eqi (hr) ?_
      refine n_ic_ge (x := j) (y := N) (tgt := 71) hx hb (by omega) (by omega) dX4_bestIn_22 (by decide) (fun c_8 => absurd c_8 (by omega)) (fun c_8 => ?_)
      refine lv_aload_n hx hb dX4_bestIn_25 rfl (lv_at hl 4 rfl) ?_
      refine lv_iload_n hx hb dX4_bestIn_26 rfl (lv_at hl 1 rfl) ?_
      refine lv_iload hx hb dX4_bestIn_27 (lv_at hl 0 rfl) ?_
      refine c_S (rest := []) C (metX4_canEat l G a r i j (by omega) (by omega)) 3 (lw_S q1177 q1178 q42 q1179) (by decide +kernel) ⟨rfl, rfl⟩ ⟨(Nat.le_of_ble_eq_true rfl), (Nat.le_of_ble_eq_true rfl)⟩ (KM_mv G) hP hK hl rfl rfl (Nat.le_of_ble_eq_true rfl) ⟨(Nat.le_of_ble_eq_true rfl), (Nat.le_of_ble_eq_true rfl)⟩ dX4_bestIn_29 ?_
      refine n_if_eqB (b := (sEat r i j)) (tgt := 65) hx hb dX4_bestIn_32 (by decide) (fun c_9 => ?_) (fun c_9 => ?_)
      · refine n_iinc (k := 0) (lv' := [(4, .int (nI (j + 1))), (3, .int (nI i)), (2, .int (bval r (bin r i (bout r N i) j))), (1, .int (enc (bin r i (bout r N i) j))), (0, .ref a)]) hx hb j 1 dX4_bestIn_65 hl rfl (Nat.le_of_ble_eq_true rfl) rfl (fun ls hl => ?_)
        refine lv_goto (tgt := 17) hx hb dX4_bestIn_68 (by decide) ?_
        have e_10 : bval r (bin r i (bout r N i) (j + 1)) = bval r (bin r i (bout r N i) j) := by simp [bin, bstp, encS, bvalS, c_8, c_9]
        have e_11 : enc (bin r i (bout r N i) (j + 1)) = enc (bin r i (bout r N i) j) := by simp [bin, bstp, encS, bvalS, c_8, c_9]
        exact ih_4 (j + 1) (by omega) ls (by rw [e_10, e_11]; exact lv_sub hl [0, 1, 2, 3, 4] rfl)
      · refine lv_aload_n hx hb dX4_bestIn_35 rfl (lv_at hl 4 rfl) ?_
        refine lv_iload_n hx hb dX4_bestIn_36 rfl (lv_at hl 1 rfl) ?_
        refine lv_iload hx hb dX4_bestIn_37 (lv_at hl 0 rfl) ?_
        refine c_S (rest := []) C (metX4_joysOf l G a r i j (by omega) (by omega)) 3 (lw_S q1186 q1187 q42 q1188) (by decide +kernel) ⟨rfl, rfl⟩ ⟨(Nat.le_of_ble_eq_true rfl), (Nat.le_of_ble_eq_true rfl)⟩ (KM_mv G) hP hK hl rfl rfl (Nat.le_of_ble_eq_true rfl) ⟨(Nat.le_of_ble_eq_true rfl), (Nat.le_of_ble_eq_true rfl)⟩ dX4_bestIn_39 ?_
        refine lv_iload_n hx hb dX4_bestIn_42 rfl (lv_at hl 2 rfl) ?_
        refine lv_icmp_gt (x := sJoy r i j) (y := bval r (bin r i (bout r N i) j)) (tgt := 49) hx hb dX4_bestIn_43 (by decide) (fun c_12 => ?_) (fun c_12 => ?_)
        · have zc_12 : ¬ (sJoy r i j) ≤ (bval r (bin r i (bout r N i) j)) := Int32.not_le.mpr c_12
          refine lv_bipush (v := 10) hx hb dX4_bestIn_49 (by decide) ?_
          refine lv_iload_n hx hb dX4_bestIn_51 rfl (lv_at hl 1 rfl) ?_
          refine n_imul hx hb 10 i dX4_bestIn_52 ?_
          refine lv_iload hx hb dX4_bestIn_53 (lv_at hl 0 rfl) ?_
          refine n_iadd hx hb (10 * i) j dX4_bestIn_55 ?_
          refine lv_istore_n (lv' := [(1, .int (nI ((10 * i) + j))), (4, .int (nI j)), (3, .int (nI i)), (2, .int (bval r (bin r i (bout r N i) j))), (0, .ref a)]) hx hb dX4_bestIn_56 rfl hl (Nat.le_of_ble_eq_true rfl) rfl (fun ls hl => ?_)
          refine lv_aload_n hx hb dX4_bestIn_57 rfl (lv_at hl 4 rfl) ?_
          refine lv_iload_n hx hb dX4_bestIn_58 rfl (lv_at hl 2 rfl) ?_
          refine lv_iload hx hb dX4_bestIn_59 (lv_at hl 1 rfl) ?_
          refine c_S (rest := []) C (metX4_joysOf l G a r i j (by omega) (by omega)) 3 (lw_S q1186 q1187 q42 q1188) (by decide +kernel) ⟨rfl, rfl⟩ ⟨(Nat.le_of_ble_eq_true rfl), (Nat.le_of_ble_eq_true rfl)⟩ (KM_mv G) hP hK hl rfl rfl (Nat.le_of_ble_eq_true rfl) ⟨(Nat.le_of_ble_eq_true rfl), (Nat.le_of_ble_eq_true rfl)⟩ dX4_bestIn_61 ?_
          refine lv_istore_n (lv' := [(2, .int (sJoy r i j)), (1, .int (nI ((10 * i) + j))), (4, .int (nI j)), (3, .int (nI i)), (0, .ref a)]) hx hb dX4_bestIn_64 rfl hl (Nat.le_of_ble_eq_true rfl) rfl (fun ls hl => ?_)
          refine n_iinc (k := 2) (lv' := [(4, .int (nI (j + 1))), (2, .int (sJoy r i j)), (1, .int (nI ((10 * i) + j))), (3, .int (nI i)), (0, .ref a)]) hx hb j 1 dX4_bestIn_65 hl rfl (Nat.le_of_ble_eq_true rfl) rfl (fun ls hl => ?_)
          refine lv_goto (tgt := 17) hx hb dX4_bestIn_68 (by decide) ?_
          have e_13 : bval r (bin r i (bout r N i) (j + 1)) = sJoy r i j := by simp [bin, bstp, encS, bvalS, c_8, c_9, c_12, zc_12]
          have e_14 : enc (bin r i (bout r N i) (j + 1)) = nI ((10 * i) + j) := by simp [bin, bstp, encS, bvalS, c_8, c_9, c_12, zc_12]
          exact ih_4 (j + 1) (by omega) ls (by rw [e_13, e_14]; exact lv_sub hl [0, 3, 1, 2, 4] rfl)
        · have zc_12 : (sJoy r i j) ≤ (bval r (bin r i (bout r N i) j)) := Int32.not_lt.mp c_12
          refine lv_goto (tgt := 65) hx hb dX4_bestIn_46 (by decide) ?_
          refine n_iinc (k := 0) (lv' := [(4, .int (nI (j + 1))), (3, .int (nI i)), (2, .int (bval r (bin r i (bout r N i) j))), (1, .int (enc (bin r i (bout r N i) j))), (0, .ref a)]) hx hb j 1 dX4_bestIn_65 hl rfl (Nat.le_of_ble_eq_true rfl) rfl (fun ls hl => ?_)
          refine lv_goto (tgt := 17) hx hb dX4_bestIn_68 (by decide) ?_
          have e_15 : bval r (bin r i (bout r N i) (j + 1)) = bval r (bin r i (bout r N i) j) := by simp [bin, bstp, encS, bvalS, c_8, c_9, c_12, zc_12]
          have e_16 : enc (bin r i (bout r N i) (j + 1)) = enc (bin r i (bout r N i) j) := by simp [bin, bstp, encS, bvalS, c_8, c_9, c_12, zc_12]
          exact ih_4 (j + 1) (by omega) ls (by rw [e_15, e_16]; exact lv_sub hl [0, 1, 2, 3, 4] rfl)
