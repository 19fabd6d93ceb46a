set_option maxHeartbeats 4000000 in
set_option maxRecDepth 100000 in
theorem metX1_sizeOf_0 (l : Launch) (G : GG) (ra z8 : Nat) (rf : Nat → Int32) (hz8 : z8 ≤ 100) : MR l yX1_sizeOf cX1_sizeOf 1 (some .int) ({ frames := 0, cells := 0, slots := 0, locals := 0 }) [.ref ra] [(ra, tA G 0 z8 rf)] G (KX G) (nI z8) := by
  -- rows printed by wip/tools/gen.py
  refine mr_mk RX1 (by decide) rfl (Nat.le_of_ble_eq_true rfl) ?_
  intro p0_ e0_ s m args below meth c C hP hK ls hl
  have hx := C.1
  have hb := C.2.1
  have hml := C.2.2.2.2.1
  have hown := C.2.2.2.2.2.1
  have hts := C.2.2.2.2.2.2
  have hl : lv_has ls 1 [(0, .ref ra)] := hl
  refine lv_aload_n hx hb dX1_sizeOf_0 rfl (lv_at hl 0 rfl) ?_
  refine n_instF (q0 := 0) (n2 := "[I") C hK.2 hP rfl (nmA0 hK.1) (by decide +kernel) q174 dX1_sizeOf_1 ?_
  refine lv_if_eq (x := 0) (tgt := 15) hx hb dX1_sizeOf_4 (by decide) (fun c_1 => ?_) (fun c_1 => absurd c_1 (by decide))
  refine lv_aload_n hx hb dX1_sizeOf_15 rfl (lv_at hl 0 rfl) ?_
  refine n_instF (q0 := 0) (n2 := "[I") C hK.2 hP rfl (nmA0 hK.1) (by decide +kernel) q674 dX1_sizeOf_16 ?_
  refine lv_if_eq (x := 0) (tgt := 30) hx hb dX1_sizeOf_19 (by decide) (fun c_2 => ?_) (fun c_2 => absurd c_2 (by decide))
  refine lv_aload_n hx hb dX1_sizeOf_30 rfl (lv_at hl 0 rfl) ?_
  refine n_castT (q0 := 0) C hP rfl (nmA0 hK.1) q675 dX1_sizeOf_31 ?_
  refine va_alen C.1 C.2.1 hK.1 hP 0 0 (v := nI z8) rfl rfl rfl dX1_sizeOf_34 ?_
  exact n_iret (v := nI z8) C (rfl) dX1_sizeOf_35

set_option maxHeartbeats 4000000 in
set_option maxRecDepth 100000 in
theorem metX1_sizeOf_1 (l : Launch) (G : GG) (ra z8 : Nat) (rf : Nat → Int32) (hz8 : z8 ≤ 100) : MR l yX1_sizeOf cX1_sizeOf 1 (some .int) ({ frames := 0, cells := 0, slots := 0, locals := 0 }) [.ref ra] [(ra, tA G 1 z8 rf)] G (KX G) (nI z8) := by
  -- rows printed by wip/tools/gen.py
  refine mr_mk RX1 (by decide) rfl (Nat.le_of_ble_eq_true rfl) ?_
  intro p0_ e0_ s m args below meth c C hP hK ls hl
  have hx := C.1
  have hb := C.2.1
  have hml := C.2.2.2.2.1
  have hown := C.2.2.2.2.2.1
  have hts := C.2.2.2.2.2.2
  have hl : lv_has ls 1 [(0, .ref ra)] := hl
  refine lv_aload_n hx hb dX1_sizeOf_0 rfl (lv_at hl 0 rfl) ?_
  refine n_instT (q0 := 0) C hP rfl (nmA1 hK.1) q174 dX1_sizeOf_1 ?_
  refine lv_if_eq (x := 1) (tgt := 15) hx hb dX1_sizeOf_4 (by decide) (fun c_1 => absurd c_1 (by decide)) (fun c_1 => ?_)
  refine lv_aload_n hx hb dX1_sizeOf_7 rfl (lv_at hl 0 rfl) ?_
  refine n_castT (q0 := 0) C hP rfl (nmA1 hK.1) q174 dX1_sizeOf_8 ?_
  refine va_alen C.1 C.2.1 hK.1 hP 0 1 (v := nI z8) rfl rfl rfl dX1_sizeOf_11 ?_
  refine lv_goto (tgt := 35) hx hb dX1_sizeOf_12 (by decide) ?_
  exact n_iret (v := nI z8) C (rfl) dX1_sizeOf_35

set_option maxHeartbeats 4000000 in
set_option maxRecDepth 100000 in
theorem metX1_sizeOf_2 (l : Launch) (G : GG) (ra z8 : Nat) (rf : Nat → Int32) (hz8 : z8 ≤ 100) : MR l yX1_sizeOf cX1_sizeOf 1 (some .int) ({ frames := 0, cells := 0, slots := 0, locals := 0 }) [.ref ra] [(ra, tA G 2 z8 rf)] G (KX G) (nI z8) := by
  -- rows printed by wip/tools/gen.py
  refine mr_mk RX1 (by decide) rfl (Nat.le_of_ble_eq_true rfl) ?_
  intro p0_ e0_ s m args below meth c C hP hK ls hl
  have hx := C.1
  have hb := C.2.1
  have hml := C.2.2.2.2.1
  have hown := C.2.2.2.2.2.1
  have hts := C.2.2.2.2.2.2
  have hl : lv_has ls 1 [(0, .ref ra)] := hl
  refine lv_aload_n hx hb dX1_sizeOf_0 rfl (lv_at hl 0 rfl) ?_
  refine n_instF (q0 := 0) (n2 := "[S") C hK.2 hP rfl (nmA2 hK.1) (by decide +kernel) q174 dX1_sizeOf_1 ?_
  refine lv_if_eq (x := 0) (tgt := 15) hx hb dX1_sizeOf_4 (by decide) (fun c_1 => ?_) (fun c_1 => absurd c_1 (by decide))
  refine lv_aload_n hx hb dX1_sizeOf_15 rfl (lv_at hl 0 rfl) ?_
  refine n_instT (q0 := 0) C hP rfl (nmA2 hK.1) q674 dX1_sizeOf_16 ?_
  refine lv_if_eq (x := 1) (tgt := 30) hx hb dX1_sizeOf_19 (by decide) (fun c_2 => absurd c_2 (by decide)) (fun c_2 => ?_)
  refine lv_aload_n hx hb dX1_sizeOf_22 rfl (lv_at hl 0 rfl) ?_
  refine n_castT (q0 := 0) C hP rfl (nmA2 hK.1) q674 dX1_sizeOf_23 ?_
  refine va_alen C.1 C.2.1 hK.1 hP 0 2 (v := nI z8) rfl rfl rfl dX1_sizeOf_26 ?_
  refine lv_goto (tgt := 35) hx hb dX1_sizeOf_27 (by decide) ?_
  exact n_iret (v := nI z8) C (rfl) dX1_sizeOf_35

theorem metX1_sizeOf (l : Launch) (G : GG) (t ra z8 : Nat) (rf : Nat → Int32) (ht : t < 3) (hz8 : z8 ≤ 100) : MR l yX1_sizeOf cX1_sizeOf 1 (some .int) ({ frames := 0, cells := 0, slots := 0, locals := 0 }) [.ref ra] [(ra, tA G t z8 rf)] G (KX G) (nI z8) := by
  have h9 : t = 0 ∨ t = 1 ∨ t = 2 := by omega
  rcases h9 with rfl | rfl | rfl
  · exact metX1_sizeOf_0 l G ra z8 rf hz8
  · exact metX1_sizeOf_1 l G ra z8 rf hz8
  · exact metX1_sizeOf_2 l G ra z8 rf hz8
set_option maxHeartbeats 4000000 in
set_option maxRecDepth 100000 in
theorem metX1_elementOf_0 (l : Launch) (G : GG) (ra z8 : Nat) (rf : Nat → Int32) (j : Nat) (hz8 : z8 ≤ 100) (hj : j < z8) : MR l yX1_elementOf cX1_elementOf 2 (some .int) ({ frames := 0, cells := 0, slots := 0, locals := 0 }) [.ref ra, .int (nI j)] [(ra, tA G 0 z8 rf)] G (KX G) (rf j) := by
  -- rows printed by wip/tools/gen.py
  refine mr_mk RX1 (by decide) rfl (Nat.le_of_ble_eq_true rfl) ?_
  intro p0_ e0_ s m args below meth c C hP hK ls hl
  have hx := C.1
  have hb := C.2.1
  have hml := C.2.2.2.2.1
  have hown := C.2.2.2.2.2.1
  have hts := C.2.2.2.2.2.2
  have hl : lv_has ls 2 [(0, .ref ra), (1, .int (nI j))] := hl
  refine lv_aload_n hx hb dX1_elementOf_0 rfl (lv_at hl 0 rfl) ?_
  refine n_instF (q0 := 0) (n2 := "[I") C hK.2 hP rfl (nmA0 hK.1) (by decide +kernel) q174 dX1_elementOf_1 ?_
  refine lv_if_eq (x := 0) (tgt := 16) hx hb dX1_elementOf_4 (by decide) (fun c_1 => ?_) (fun c_1 => absurd c_1 (by decide))
  refine lv_aload_n hx hb dX1_elementOf_16 rfl (lv_at hl 0 rfl) ?_
  refine n_instF (q0 := 0) (n2 := "[I") C hK.2 hP rfl (nmA0 hK.1) (by decide +kernel) q674 dX1_elementOf_17 ?_
  refine lv_if_eq (x := 0) (tgt := 32) hx hb dX1_elementOf_20 (by decide) (fun c_2 => ?_) (fun c_2 => absurd c_2 (by decide))
  refine lv_aload_n hx hb dX1_elementOf_32 rfl (lv_at hl 0 rfl) ?_
  refine n_castT (q0 := 0) C hP rfl (nmA0 hK.1) q675 dX1_elementOf_33 ?_
  refine lv_iload_n hx hb dX1_elementOf_36 rfl (lv_at hl 1 rfl) ?_
  refine n_iald C hK.1 hP 0 j rfl (by omega) (by omega) dX1_elementOf_37 ?_
  exact n_iret (v := rf j) C (rfl) dX1_elementOf_38

set_option maxHeartbeats 4000000 in
set_option maxRecDepth 100000 in
theorem metX1_elementOf_1 (l : Launch) (G : GG) (ra z8 : Nat) (rf : Nat → Int32) (j : Nat) (hz8 : z8 ≤ 100) (hj : j < z8) : MR l yX1_elementOf cX1_elementOf 2 (some .int) ({ frames := 0, cells := 0, slots := 0, locals := 0 }) [.ref ra, .int (nI j)] [(ra, tA G 1 z8 rf)] G (KX G) (rf j) := by
  -- rows printed by wip/tools/gen.py
  refine mr_mk RX1 (by decide) rfl (Nat.le_of_ble_eq_true rfl) ?_
  intro p0_ e0_ s m args below meth c C hP hK ls hl
  have hx := C.1
  have hb := C.2.1
  have hml := C.2.2.2.2.1
  have hown := C.2.2.2.2.2.1
  have hts := C.2.2.2.2.2.2
  have hl : lv_has ls 2 [(0, .ref ra), (1, .int (nI j))] := hl
  refine lv_aload_n hx hb dX1_elementOf_0 rfl (lv_at hl 0 rfl) ?_
  refine n_instT (q0 := 0) C hP rfl (nmA1 hK.1) q174 dX1_elementOf_1 ?_
  refine lv_if_eq (x := 1) (tgt := 16) hx hb dX1_elementOf_4 (by decide) (fun c_1 => absurd c_1 (by decide)) (fun c_1 => ?_)
  refine lv_aload_n hx hb dX1_elementOf_7 rfl (lv_at hl 0 rfl) ?_
  refine n_castT (q0 := 0) C hP rfl (nmA1 hK.1) q174 dX1_elementOf_8 ?_
  refine lv_iload_n hx hb dX1_elementOf_11 rfl (lv_at hl 1 rfl) ?_
  refine n_bald C hK.1 hP 0 j rfl (by omega) (by omega) dX1_elementOf_12 ?_
  refine lv_goto (tgt := 38) hx hb dX1_elementOf_13 (by decide) ?_
  exact n_iret (v := rf j) C (rfl) dX1_elementOf_38

set_option maxHeartbeats 4000000 in
set_option maxRecDepth 100000 in
theorem metX1_elementOf_2 (l : Launch) (G : GG) (ra z8 : Nat) (rf : Nat → Int32) (j : Nat) (hz8 : z8 ≤ 100) (hj : j < z8) : MR l yX1_elementOf cX1_elementOf 2 (some .int) ({ frames := 0, cells := 0, slots := 0, locals := 0 }) [.ref ra, .int (nI j)] [(ra, tA G 2 z8 rf)] G (KX G) (rf j) := by
  -- rows printed by wip/tools/gen.py
  refine mr_mk RX1 (by decide) rfl (Nat.le_of_ble_eq_true rfl) ?_
  intro p0_ e0_ s m args below meth c C hP hK ls hl
  have hx := C.1
  have hb := C.2.1
  have hml := C.2.2.2.2.1
  have hown := C.2.2.2.2.2.1
  have hts := C.2.2.2.2.2.2
  have hl : lv_has ls 2 [(0, .ref ra), (1, .int (nI j))] := hl
  refine lv_aload_n hx hb dX1_elementOf_0 rfl (lv_at hl 0 rfl) ?_
  refine n_instF (q0 := 0) (n2 := "[S") C hK.2 hP rfl (nmA2 hK.1) (by decide +kernel) q174 dX1_elementOf_1 ?_
  refine lv_if_eq (x := 0) (tgt := 16) hx hb dX1_elementOf_4 (by decide) (fun c_1 => ?_) (fun c_1 => absurd c_1 (by decide))
  refine lv_aload_n hx hb dX1_elementOf_16 rfl (lv_at hl 0 rfl) ?_
  refine n_instT (q0 := 0) C hP rfl (nmA2 hK.1) q674 dX1_elementOf_17 ?_
  refine lv_if_eq (x := 1) (tgt := 32) hx hb dX1_elementOf_20 (by decide) (fun c_2 => absurd c_2 (by decide)) (fun c_2 => ?_)
  refine lv_aload_n hx hb dX1_elementOf_23 rfl (lv_at hl 0 rfl) ?_
  refine n_castT (q0 := 0) C hP rfl (nmA2 hK.1) q674 dX1_elementOf_24 ?_
  refine lv_iload_n hx hb dX1_elementOf_27 rfl (lv_at hl 1 rfl) ?_
  refine n_sald C hK.1 hP 0 j rfl (by omega) (by omega) dX1_elementOf_28 ?_
  refine lv_goto (tgt := 38) hx hb dX1_elementOf_29 (by decide) ?_
  exact n_iret (v := rf j) C (rfl) dX1_elementOf_38

theorem metX1_elementOf (l : Launch) (G : GG) (t ra z8 : Nat) (rf : Nat → Int32) (j : Nat) (ht : t < 3) (hz8 : z8 ≤ 100) (hj : j < z8) : MR l yX1_elementOf cX1_elementOf 2 (some .int) ({ frames := 0, cells := 0, slots := 0, locals := 0 }) [.ref ra, .int (nI j)] [(ra, tA G t z8 rf)] G (KX G) (rf j) := by
  have h9 : t = 0 ∨ t = 1 ∨ t = 2 := by omega
  rcases h9 with rfl | rfl | rfl
  · exact metX1_elementOf_0 l G ra z8 rf j hz8 hj
  · exact metX1_elementOf_1 l G ra z8 rf j hz8 hj
  · exact metX1_elementOf_2 l G ra z8 rf j hz8 hj
set_option maxHeartbeats 4000000 in
set_option maxRecDepth 100000 in
theorem metX1_leastElement_0 (l : Launch) (G : GG) (ra z8 : Nat) (rf : Nat → Int32) (hz8 : z8 ≤ 100) : MR l yX1_leastElement cX1_leastElement 1 (some .int) ({ frames := 0, cells := 0, slots := 0, locals := 0 }) [.ref ra] [(ra, tA G 0 z8 rf)] G (KX G) (sLst 0) := by
  -- rows printed by wip/tools/gen.py
  refine mr_mk RX1 (by decide) rfl (Nat.le_of_ble_eq_true rfl) ?_
  intro p0_ e0_ s m args below meth c C hP hK ls hl
  have hx := C.1
  have hb := C.2.1
  have hml := C.2.2.2.2.1
  have hown := C.2.2.2.2.2.1
  have hts := C.2.2.2.2.2.2
  have hl : lv_has ls 1 [(0, .ref ra)] := hl
  refine lv_aload_n hx hb dX1_leastElement_0 rfl (lv_at hl 0 rfl) ?_
  refine n_instF (q0 := 0) (n2 := "[I") C hK.2 hP rfl (nmA0 hK.1) (by decide +kernel) q174 dX1_leastElement_1 ?_
  refine lv_if_eq (x := 0) (tgt := 12) hx hb dX1_leastElement_4 (by decide) (fun c_1 => ?_) (fun c_1 => absurd c_1 (by decide))
  refine lv_aload_n hx hb dX1_leastElement_12 rfl (lv_at hl 0 rfl) ?_
  refine n_instF (q0 := 0) (n2 := "[I") C hK.2 hP rfl (nmA0 hK.1) (by decide +kernel) q674 dX1_leastElement_13 ?_
  refine lv_if_eq (x := 0) (tgt := 25) hx hb dX1_leastElement_16 (by decide) (fun c_2 => ?_) (fun c_2 => absurd c_2 (by decide))
  refine lv_ldcw (own := RX1) (v := -2147483648) hx hb hown (hts _ q755) dX1_leastElement_25 ?_
  exact n_iret (v := (-2147483648)) C (rfl) dX1_leastElement_28

set_option maxHeartbeats 4000000 in
set_option maxRecDepth 100000 in
theorem metX1_leastElement_1 (l : Launch) (G : GG) (ra z8 : Nat) (rf : Nat → Int32) (hz8 : z8 ≤ 100) : MR l yX1_leastElement cX1_leastElement 1 (some .int) ({ frames := 0, cells := 0, slots := 0, locals := 0 }) [.ref ra] [(ra, tA G 1 z8 rf)] G (KX G) (sLst 1) := by
  -- rows printed by wip/tools/gen.py
  refine mr_mk RX1 (by decide) rfl (Nat.le_of_ble_eq_true rfl) ?_
  intro p0_ e0_ s m args below meth c C hP hK ls hl
  have hx := C.1
  have hb := C.2.1
  have hml := C.2.2.2.2.1
  have hown := C.2.2.2.2.2.1
  have hts := C.2.2.2.2.2.2
  have hl : lv_has ls 1 [(0, .ref ra)] := hl
  refine lv_aload_n hx hb dX1_leastElement_0 rfl (lv_at hl 0 rfl) ?_
  refine n_instT (q0 := 0) C hP rfl (nmA1 hK.1) q174 dX1_leastElement_1 ?_
  refine lv_if_eq (x := 1) (tgt := 12) hx hb dX1_leastElement_4 (by decide) (fun c_1 => absurd c_1 (by decide)) (fun c_1 => ?_)
  refine lv_bipush (v := (-128)) hx hb dX1_leastElement_7 (by decide) ?_
  refine lv_goto (tgt := 28) hx hb dX1_leastElement_9 (by decide) ?_
  exact n_iret (v := (-128)) C (rfl) dX1_leastElement_28

set_option maxHeartbeats 4000000 in
set_option maxRecDepth 100000 in
theorem metX1_leastElement_2 (l : Launch) (G : GG) (ra z8 : Nat) (rf : Nat → Int32) (hz8 : z8 ≤ 100) : MR l yX1_leastElement cX1_leastElement 1 (some .int) ({ frames := 0, cells := 0, slots := 0, locals := 0 }) [.ref ra] [(ra, tA G 2 z8 rf)] G (KX G) (sLst 2) := by
  -- rows printed by wip/tools/gen.py
  refine mr_mk RX1 (by decide) rfl (Nat.le_of_ble_eq_true rfl) ?_
  intro p0_ e0_ s m args below meth c C hP hK ls hl
  have hx := C.1
  have hb := C.2.1
  have hml := C.2.2.2.2.1
  have hown := C.2.2.2.2.2.1
  have hts := C.2.2.2.2.2.2
  have hl : lv_has ls 1 [(0, .ref ra)] := hl
  refine lv_aload_n hx hb dX1_leastElement_0 rfl (lv_at hl 0 rfl) ?_
  refine n_instF (q0 := 0) (n2 := "[S") C hK.2 hP rfl (nmA2 hK.1) (by decide +kernel) q174 dX1_leastElement_1 ?_
  refine lv_if_eq (x := 0) (tgt := 12) hx hb dX1_leastElement_4 (by decide) (fun c_1 => ?_) (fun c_1 => absurd c_1 (by decide))
  refine lv_aload_n hx hb dX1_leastElement_12 rfl (lv_at hl 0 rfl) ?_
  refine n_instT (q0 := 0) C hP rfl (nmA2 hK.1) q674 dX1_leastElement_13 ?_
  refine lv_if_eq (x := 1) (tgt := 25) hx hb dX1_leastElement_16 (by decide) (fun c_2 => absurd c_2 (by decide)) (fun c_2 => ?_)
  refine lv_sipush (v := (-32768)) hx hb dX1_leastElement_19 (by decide) ?_
  refine lv_goto (tgt := 28) hx hb dX1_leastElement_22 (by decide) ?_
  exact n_iret (v := (-32768)) C (rfl) dX1_leastElement_28

theorem metX1_leastElement (l : Launch) (G : GG) (t ra z8 : Nat) (rf : Nat → Int32) (ht : t < 3) (hz8 : z8 ≤ 100) : MR l yX1_leastElement cX1_leastElement 1 (some .int) ({ frames := 0, cells := 0, slots := 0, locals := 0 }) [.ref ra] [(ra, tA G t z8 rf)] G (KX G) (sLst t) := by
  have h9 : t = 0 ∨ t = 1 ∨ t = 2 := by omega
  rcases h9 with rfl | rfl | rfl
  · exact metX1_leastElement_0 l G ra z8 rf hz8
  · exact metX1_leastElement_1 l G ra z8 rf hz8
  · exact metX1_leastElement_2 l G ra z8 rf hz8
set_option maxHeartbeats 4000000 in
set_option maxRecDepth 100000 in
theorem metX1_sortOf_0 (l : Launch) (G : GG) (ra z8 : Nat) (rf : Nat → Int32) (hz8 : z8 ≤ 100) : MR l yX1_sortOf cX1_sortOf 1 (some .int) ({ frames := 0, cells := 0, slots := 0, locals := 0 }) [.ref ra] [(ra, tA G 0 z8 rf)] G (KX G) (sSrt 0) := by
  -- rows printed by wip/tools/gen.py
  refine mr_mk RX1 (by decide) rfl (Nat.le_of_ble_eq_true rfl) ?_
  intro p0_ e0_ s m args below meth c C hP hK ls hl
  have hx := C.1
  have hb := C.2.1
  have hml := C.2.2.2.2.1
  have hown := C.2.2.2.2.2.1
  have hts := C.2.2.2.2.2.2
  have hl : lv_has ls 1 [(0, .ref ra)] := hl
  refine lv_aload_n hx hb dX1_sortOf_0 rfl (lv_at hl 0 rfl) ?_
  refine n_instF (q0 := 0) (n2 := "[I") C hK.2 hP rfl (nmA0 hK.1) (by decide +kernel) q174 dX1_sortOf_1 ?_
  refine lv_if_eq (x := 0) (tgt := 11) hx hb dX1_sortOf_4 (by decide) (fun c_1 => ?_) (fun c_1 => absurd c_1 (by decide))
  refine lv_aload_n hx hb dX1_sortOf_11 rfl (lv_at hl 0 rfl) ?_
  refine n_instF (q0 := 0) (n2 := "[I") C hK.2 hP rfl (nmA0 hK.1) (by decide +kernel) q674 dX1_sortOf_12 ?_
  refine lv_if_eq (x := 0) (tgt := 22) hx hb dX1_sortOf_15 (by decide) (fun c_2 => ?_) (fun c_2 => absurd c_2 (by decide))
  refine lv_aload_n hx hb dX1_sortOf_22 rfl (lv_at hl 0 rfl) ?_
  refine n_instT (q0 := 0) C hP rfl (nmA0 hK.1) q675 dX1_sortOf_23 ?_
  refine lv_if_eq (x := 1) (tgt := 33) hx hb dX1_sortOf_26 (by decide) (fun c_3 => absurd c_3 (by decide)) (fun c_3 => ?_)
  refine lv_iconst (v := 2) hx hb dX1_sortOf_29 (by decide) ?_
  refine lv_goto (tgt := 34) hx hb dX1_sortOf_30 (by decide) ?_
  exact n_iret (v := 2) C (rfl) dX1_sortOf_34

set_option maxHeartbeats 4000000 in
set_option maxRecDepth 100000 in
theorem metX1_sortOf_1 (l : Launch) (G : GG) (ra z8 : Nat) (rf : Nat → Int32) (hz8 : z8 ≤ 100) : MR l yX1_sortOf cX1_sortOf 1 (some .int) ({ frames := 0, cells := 0, slots := 0, locals := 0 }) [.ref ra] [(ra, tA G 1 z8 rf)] G (KX G) (sSrt 1) := by
  -- rows printed by wip/tools/gen.py
  refine mr_mk RX1 (by decide) rfl (Nat.le_of_ble_eq_true rfl) ?_
  intro p0_ e0_ s m args below meth c C hP hK ls hl
  have hx := C.1
  have hb := C.2.1
  have hml := C.2.2.2.2.1
  have hown := C.2.2.2.2.2.1
  have hts := C.2.2.2.2.2.2
  have hl : lv_has ls 1 [(0, .ref ra)] := hl
  refine lv_aload_n hx hb dX1_sortOf_0 rfl (lv_at hl 0 rfl) ?_
  refine n_instT (q0 := 0) C hP rfl (nmA1 hK.1) q174 dX1_sortOf_1 ?_
  refine lv_if_eq (x := 1) (tgt := 11) hx hb dX1_sortOf_4 (by decide) (fun c_1 => absurd c_1 (by decide)) (fun c_1 => ?_)
  refine lv_iconst (v := 0) hx hb dX1_sortOf_7 (by decide) ?_
  refine lv_goto (tgt := 34) hx hb dX1_sortOf_8 (by decide) ?_
  exact n_iret (v := 0) C (rfl) dX1_sortOf_34

set_option maxHeartbeats 4000000 in
set_option maxRecDepth 100000 in
theorem metX1_sortOf_2 (l : Launch) (G : GG) (ra z8 : Nat) (rf : Nat → Int32) (hz8 : z8 ≤ 100) : MR l yX1_sortOf cX1_sortOf 1 (some .int) ({ frames := 0, cells := 0, slots := 0, locals := 0 }) [.ref ra] [(ra, tA G 2 z8 rf)] G (KX G) (sSrt 2) := by
  -- rows printed by wip/tools/gen.py
  refine mr_mk RX1 (by decide) rfl (Nat.le_of_ble_eq_true rfl) ?_
  intro p0_ e0_ s m args below meth c C hP hK ls hl
  have hx := C.1
  have hb := C.2.1
  have hml := C.2.2.2.2.1
  have hown := C.2.2.2.2.2.1
  have hts := C.2.2.2.2.2.2
  have hl : lv_has ls 1 [(0, .ref ra)] := hl
  refine lv_aload_n hx hb dX1_sortOf_0 rfl (lv_at hl 0 rfl) ?_
  refine n_instF (q0 := 0) (n2 := "[S") C hK.2 hP rfl (nmA2 hK.1) (by decide +kernel) q174 dX1_sortOf_1 ?_
  refine lv_if_eq (x := 0) (tgt := 11) hx hb dX1_sortOf_4 (by decide) (fun c_1 => ?_) (fun c_1 => absurd c_1 (by decide))
  refine lv_aload_n hx hb dX1_sortOf_11 rfl (lv_at hl 0 rfl) ?_
  refine n_instT (q0 := 0) C hP rfl (nmA2 hK.1) q674 dX1_sortOf_12 ?_
  refine lv_if_eq (x := 1) (tgt := 22) hx hb dX1_sortOf_15 (by decide) (fun c_2 => absurd c_2 (by decide)) (fun c_2 => ?_)
  refine lv_iconst (v := 1) hx hb dX1_sortOf_18 (by decide) ?_
  refine lv_goto (tgt := 34) hx hb dX1_sortOf_19 (by decide) ?_
  exact n_iret (v := 1) C (rfl) dX1_sortOf_34

theorem metX1_sortOf (l : Launch) (G : GG) (t ra z8 : Nat) (rf : Nat → Int32) (ht : t < 3) (hz8 : z8 ≤ 100) : MR l yX1_sortOf cX1_sortOf 1 (some .int) ({ frames := 0, cells := 0, slots := 0, locals := 0 }) [.ref ra] [(ra, tA G t z8 rf)] G (KX G) (sSrt t) := by
  have h9 : t = 0 ∨ t = 1 ∨ t = 2 := by omega
  rcases h9 with rfl | rfl | rfl
  · exact metX1_sortOf_0 l G ra z8 rf hz8
  · exact metX1_sortOf_1 l G ra z8 rf hz8
  · exact metX1_sortOf_2 l G ra z8 rf hz8
set_option maxHeartbeats 4000000 in
set_option maxRecDepth 100000 in
theorem metX1_sortOf_g (l : Launch) (G : GG) (gm : GM) (y k : Nat) (v : Int32) (hy : gm y = some (k, v)) : MR l yX1_sortOf cX1_sortOf 1 (some .int) ({ frames := 0, cells := 0, slots := 0, locals := 0 }) [.ref y] [] G (KG G gm) (-1) := by
  -- rows printed by wip/tools/gen.py
  refine mr_mk RX1 (by decide) rfl (Nat.le_of_ble_eq_true rfl) ?_
  intro p0_ e0_ s m args below meth c C hP hK ls hl
  have hGP := hK.2
  have hK := hK.1
  have hx := C.1
  have hb := C.2.1
  have hml := C.2.2.2.2.1
  have hown := C.2.2.2.2.2.1
  have hts := C.2.2.2.2.2.2
  have hl : lv_has ls 1 [(0, .ref y)] := hl
  refine lv_aload_n hx hb dX1_sortOf_0 rfl (lv_at hl 0 rfl) ?_
  refine n_instG C hK hGP hy ((gnm_xn _ (hGP _ _ _ hy).1).1) q174 dX1_sortOf_1 ?_
  refine lv_if_eq (x := 0) (tgt := 11) hx hb dX1_sortOf_4 (by decide) (fun c_1 => ?_) (fun c_1 => absurd c_1 (by decide))
  refine lv_aload_n hx hb dX1_sortOf_11 rfl (lv_at hl 0 rfl) ?_
  refine n_instG C hK hGP hy ((gnm_xn _ (hGP _ _ _ hy).1).2.1) q674 dX1_sortOf_12 ?_
  refine lv_if_eq (x := 0) (tgt := 22) hx hb dX1_sortOf_15 (by decide) (fun c_2 => ?_) (fun c_2 => absurd c_2 (by decide))
  refine lv_aload_n hx hb dX1_sortOf_22 rfl (lv_at hl 0 rfl) ?_
  refine n_instG C hK hGP hy ((gnm_xn _ (hGP _ _ _ hy).1).2.2) q675 dX1_sortOf_23 ?_
  refine lv_if_eq (x := 0) (tgt := 33) hx hb dX1_sortOf_26 (by decide) (fun c_3 => ?_) (fun c_3 => absurd c_3 (by decide))
  refine lv_iconst (v := (-1)) hx hb dX1_sortOf_33 (by decide) ?_
  exact n_iret (v := (-1)) C (rfl) dX1_sortOf_34

set_option maxHeartbeats 4000000 in
set_option maxRecDepth 100000 in
theorem metX1_notRow_b (l : Launch) (G : GG) (h : Nat) (xa : Nat → Nat) (xi : Nat → Int32) (d : Int32) (hbad : sIn d 0 7 = false) : MR l yX1_notRow cX1_notRow 3 (some .int) ({ frames := 4, cells := 0, slots := 0, locals := 80 }) [.ref h, .int d] [(h, xO xa xi)] G (KX G) (-1) := by
  -- rows printed by wip/tools/gen.py
  refine mr_mk RX1 (by decide) rfl (Nat.le_of_ble_eq_true rfl) ?_
  intro p0_ e0_ s m args below meth c C hP hK ls hl
  have hx := C.1
  have hb := C.2.1
  have hml := C.2.2.2.2.1
  have hown := C.2.2.2.2.2.1
  have hts := C.2.2.2.2.2.2
  have hl : lv_has ls 3 [(0, .ref h), (1, .int d)] := hl
  refine lv_aload_n hx hb dX1_notRow_0 rfl (lv_at hl 0 rfl) ?_
  refine lv_iload_n hx hb dX1_notRow_1 rfl (lv_at hl 1 rfl) ?_
  refine c_V (rest := []) C (metX1_isShelf l G h xa xi d) 1 (lw_V q166 q168 qs2 q39 q170) (by decide +kernel) ⟨rfl, rfl⟩ ⟨(by dsimp only; omega), (by dsimp only; omega)⟩ (KM_mv G) (va_recv hK.1 hP (ci := 1) (q0 := 0) rfl rfl) hP hK.1 hl rfl rfl (Nat.le_of_ble_eq_true rfl) ⟨(Nat.le_of_ble_eq_true rfl), (Nat.le_of_ble_eq_true rfl)⟩ dX1_notRow_2 ?_
  refine n_if_neB (b := (sIn d 0 7)) (tgt := 10) hx hb dX1_notRow_5 (by decide) (fun c_1 => absurd c_1 (by simp [hbad])) (fun c_1 => ?_)
  refine lv_iconst (v := (-1)) hx hb dX1_notRow_8 (by decide) ?_
  exact n_iret (v := (-1)) C (rfl) dX1_notRow_9

set_option maxHeartbeats 4000000 in
set_option maxRecDepth 100000 in
theorem metX1_notRow_n (l : Launch) (G : GG) (h : Nat) (xa : Nat → Nat) (xi : Nat → Int32) (sh : Nat → Nat) (dn : Nat) (hdn : dn ≤ 7) : MR l yX1_notRow cX1_notRow 3 (some .int) ({ frames := 4, cells := 0, slots := 0, locals := 80 }) [.ref h, .int (nI dn)] [(h, xO xa xi), (xa 8, qA G 5 8 (shf sh)), (sh dn, .inr (3, [.null]))] G (KX G) (-11) := by
  -- rows printed by wip/tools/gen.py
  refine mr_mk RX1 (by decide) rfl (Nat.le_of_ble_eq_true rfl) ?_
  intro p0_ e0_ s m args below meth c C hP hK ls hl
  have hx := C.1
  have hb := C.2.1
  have hml := C.2.2.2.2.1
  have hown := C.2.2.2.2.2.1
  have hts := C.2.2.2.2.2.2
  have hl : lv_has ls 3 [(0, .ref h), (1, .int (nI dn))] := hl
  have hs7 := sIn07 hdn
  refine lv_aload_n hx hb dX1_notRow_0 rfl (lv_at hl 0 rfl) ?_
  refine lv_iload_n hx hb dX1_notRow_1 rfl (lv_at hl 1 rfl) ?_
  refine c_V (rest := []) C (metX1_isShelf l G h xa xi (nI dn)) 1 (lw_V q166 q168 qs2 q39 q170) (by decide +kernel) ⟨rfl, rfl⟩ ⟨(by dsimp only; omega), (by dsimp only; omega)⟩ (KM_mv G) (va_recv hK.1 hP (ci := 1) (q0 := 0) rfl rfl) (hP.sub (ws' := [(h, xO xa xi)]) [0] rfl) hK.1 hl rfl rfl (Nat.le_of_ble_eq_true rfl) ⟨(Nat.le_of_ble_eq_true rfl), (Nat.le_of_ble_eq_true rfl)⟩ dX1_notRow_2 ?_
  refine n_if_neB (b := (sIn (nI dn) 0 7)) (tgt := 10) hx hb dX1_notRow_5 (by decide) (fun c_1 => ?_) (fun c_1 => absurd c_1 (by simp [hs7]))
  refine lv_aload_n hx hb dX1_notRow_10 rfl (lv_at hl 0 rfl) ?_
  refine va_get (D := gD G) (ci := 1) (v := .ref (xa 8)) (C := RX1) (T := TX1) (N := 9) hx hb hts in_X1 hown hK.1 hP 0 rfl rfl 8 (by decide) (hts _ q846) (fun _ h9 => h9) rfl dX1_notRow_11 ?_
  refine lv_iload_n hx hb dX1_notRow_14 rfl (lv_at hl 1 rfl) ?_
  refine n_aldqS (y := sh dn) C hK.1 hP 1 5 dn rfl rfl (by omega) (by omega) rfl dX1_notRow_15 ?_
  refine va_get (D := gD G) (ci := 3) (v := .null) (C := RX3) (T := TX3) (N := 1) hx hb hts in_X3 hown hK.1 hP 2 rfl rfl 0 (by decide) (hts _ q834) (fun _ h9 => h9) rfl dX1_notRow_16 ?_
  refine lv_astore_nN (lv' := [(2, .null), (0, .ref h), (1, .int (nI dn))]) hx hb dX1_notRow_19 rfl hl (Nat.le_of_ble_eq_true rfl) rfl (fun ls hl => ?_)
  refine lv_aload_nN hx hb dX1_notRow_20 rfl (lv_at hl 0 rfl) ?_
  refine lv_ifnonnullN hx hb dX1_notRow_21 ?_
  refine lv_bipush (v := (-11)) hx hb dX1_notRow_24 (by decide) ?_
  refine lv_goto (tgt := 43) hx hb dX1_notRow_26 (by decide) ?_
  exact n_iret (v := (-11)) C (rfl) dX1_notRow_43

set_option maxHeartbeats 4000000 in
set_option maxRecDepth 100000 in
theorem metX1_notRow_g (l : Launch) (G : GG) (h : Nat) (xa : Nat → Nat) (xi : Nat → Int32) (sh : Nat → Nat) (dn : Nat) (gm : GM) (y k : Nat) (v : Int32) (hdn : dn ≤ 7) (hy : gm y = some (k, v)) : MR l yX1_notRow cX1_notRow 3 (some .int) ({ frames := 4, cells := 0, slots := 0, locals := 80 }) [.ref h, .int (nI dn)] [(h, xO xa xi), (xa 8, qA G 5 8 (shf sh)), (sh dn, .inr (3, [.ref y]))] G (KG G gm) (-12) := by
  -- rows printed by wip/tools/gen.py
  refine mr_mk RX1 (by decide) rfl (Nat.le_of_ble_eq_true rfl) ?_
  intro p0_ e0_ s m args below meth c C hP hK ls hl
  have hGP := hK.2
  have hK := hK.1
  have hx := C.1
  have hb := C.2.1
  have hml := C.2.2.2.2.1
  have hown := C.2.2.2.2.2.1
  have hts := C.2.2.2.2.2.2
  have hl : lv_has ls 3 [(0, .ref h), (1, .int (nI dn))] := hl
  have hs7 := sIn07 hdn
  refine lv_aload_n hx hb dX1_notRow_0 rfl (lv_at hl 0 rfl) ?_
  refine lv_iload_n hx hb dX1_notRow_1 rfl (lv_at hl 1 rfl) ?_
  refine c_V (rest := []) C (metX1_isShelf l G h xa xi (nI dn)) 1 (lw_V q166 q168 qs2 q39 q170) (by decide +kernel) ⟨rfl, rfl⟩ ⟨(by dsimp only; omega), (by dsimp only; omega)⟩ (KM_mv G) (va_recv hK.1 hP (ci := 1) (q0 := 0) rfl rfl) (hP.sub (ws' := [(h, xO xa xi)]) [0] rfl) hK.1 hl rfl rfl (Nat.le_of_ble_eq_true rfl) ⟨(Nat.le_of_ble_eq_true rfl), (Nat.le_of_ble_eq_true rfl)⟩ dX1_notRow_2 ?_
  refine n_if_neB (b := (sIn (nI dn) 0 7)) (tgt := 10) hx hb dX1_notRow_5 (by decide) (fun c_1 => ?_) (fun c_1 => absurd c_1 (by simp [hs7]))
  refine lv_aload_n hx hb dX1_notRow_10 rfl (lv_at hl 0 rfl) ?_
  refine va_get (D := gD G) (ci := 1) (v := .ref (xa 8)) (C := RX1) (T := TX1) (N := 9) hx hb hts in_X1 hown hK.1 hP 0 rfl rfl 8 (by decide) (hts _ q846) (fun _ h9 => h9) rfl dX1_notRow_11 ?_
  refine lv_iload_n hx hb dX1_notRow_14 rfl (lv_at hl 1 rfl) ?_
  refine n_aldqS (y := sh dn) C hK.1 hP 1 5 dn rfl rfl (by omega) (by omega) rfl dX1_notRow_15 ?_
  refine va_get (D := gD G) (ci := 3) (v := .ref y) (C := RX3) (T := TX3) (N := 1) hx hb hts in_X3 hown hK.1 hP 2 rfl rfl 0 (by decide) (hts _ q834) (fun _ h9 => h9) rfl dX1_notRow_16 ?_
  refine lv_astore_n (lv' := [(2, .ref y), (0, .ref h), (1, .int (nI dn))]) hx hb dX1_notRow_19 rfl hl (Nat.le_of_ble_eq_true rfl) rfl (fun ls hl => ?_)
  refine lv_aload_n hx hb dX1_notRow_20 rfl (lv_at hl 0 rfl) ?_
  refine lv_ifnonnull (tgt := 29) hx hb dX1_notRow_21 (by decide) ?_
  refine lv_aload_n hx hb dX1_notRow_29 rfl (lv_at hl 0 rfl) ?_
  refine c_Sk (rest := []) C (metX1_sortOf_g l G gm y k v (hy)) 1 (lw_S q671 q672 q39 q673) (by decide +kernel) ⟨rfl, rfl⟩ ⟨(by dsimp only; omega), (by dsimp only; omega)⟩ (KG.call) (hP.sub (ws' := []) [] rfl) (KG.at hK hGP) hl rfl rfl (Nat.le_of_ble_eq_true rfl) ⟨(Nat.le_of_ble_eq_true rfl), (Nat.le_of_ble_eq_true rfl)⟩ dX1_notRow_30 ?_
  refine lv_iconst (v := (-1)) hx hb dX1_notRow_33 (by decide) ?_
  refine lv_icmp_ne (x := (-1)) (y := (-1)) (tgt := 42) hx hb dX1_notRow_34 (by decide) (fun c_2 => absurd c_2 (by decide)) (fun c_2 => ?_)
  refine lv_bipush (v := (-12)) hx hb dX1_notRow_37 (by decide) ?_
  refine lv_goto (tgt := 43) hx hb dX1_notRow_39 (by decide) ?_
  exact n_iret (v := (-12)) C (rfl) dX1_notRow_43

set_option maxHeartbeats 4000000 in
set_option maxRecDepth 100000 in
theorem metX1_notRow_r (l : Launch) (G : GG) (h : Nat) (xa : Nat → Nat) (xi : Nat → Int32) (sh : Nat → Nat) (dn : Nat) (t ra z8 : Nat) (rf : Nat → Int32) (hdn : dn ≤ 7) (ht : t < 3) (hz8 : z8 ≤ 100) : MR l yX1_notRow cX1_notRow 3 (some .int) ({ frames := 4, cells := 0, slots := 0, locals := 80 }) [.ref h, .int (nI dn)] [(h, xO xa xi), (xa 8, qA G 5 8 (shf sh)), (sh dn, .inr (3, [.ref ra])), (ra, tA G t z8 rf)] G (KX G) 0 := by
  -- rows printed by wip/tools/gen.py
  refine mr_mk RX1 (by decide) rfl (Nat.le_of_ble_eq_true rfl) ?_
  intro p0_ e0_ s m args below meth c C hP hK ls hl
  have hx := C.1
  have hb := C.2.1
  have hml := C.2.2.2.2.1
  have hown := C.2.2.2.2.2.1
  have hts := C.2.2.2.2.2.2
  have hl : lv_has ls 3 [(0, .ref h), (1, .int (nI dn))] := hl
  have hs7 := sIn07 hdn
  refine lv_aload_n hx hb dX1_notRow_0 rfl (lv_at hl 0 rfl) ?_
  refine lv_iload_n hx hb dX1_notRow_1 rfl (lv_at hl 1 rfl) ?_
  refine c_V (rest := []) C (metX1_isShelf l G h xa xi (nI dn)) 1 (lw_V q166 q168 qs2 q39 q170) (by decide +kernel) ⟨rfl, rfl⟩ ⟨(by dsimp only; omega), (by dsimp only; omega)⟩ (KM_mv G) (va_recv hK.1 hP (ci := 1) (q0 := 0) rfl rfl) (hP.sub (ws' := [(h, xO xa xi)]) [0] rfl) hK.1 hl rfl rfl (Nat.le_of_ble_eq_true rfl) ⟨(Nat.le_of_ble_eq_true rfl), (Nat.le_of_ble_eq_true rfl)⟩ dX1_notRow_2 ?_
  refine n_if_neB (b := (sIn (nI dn) 0 7)) (tgt := 10) hx hb dX1_notRow_5 (by decide) (fun c_1 => ?_) (fun c_1 => absurd c_1 (by simp [hs7]))
  refine lv_aload_n hx hb dX1_notRow_10 rfl (lv_at hl 0 rfl) ?_
  refine va_get (D := gD G) (ci := 1) (v := .ref (xa 8)) (C := RX1) (T := TX1) (N := 9) hx hb hts in_X1 hown hK.1 hP 0 rfl rfl 8 (by decide) (hts _ q846) (fun _ h9 => h9) rfl dX1_notRow_11 ?_
  refine lv_iload_n hx hb dX1_notRow_14 rfl (lv_at hl 1 rfl) ?_
  refine n_aldqS (y := sh dn) C hK.1 hP 1 5 dn rfl rfl (by omega) (by omega) rfl dX1_notRow_15 ?_
  refine va_get (D := gD G) (ci := 3) (v := .ref ra) (C := RX3) (T := TX3) (N := 1) hx hb hts in_X3 hown hK.1 hP 2 rfl rfl 0 (by decide) (hts _ q834) (fun _ h9 => h9) rfl dX1_notRow_16 ?_
  refine lv_astore_n (lv' := [(2, .ref ra), (0, .ref h), (1, .int (nI dn))]) hx hb dX1_notRow_19 rfl hl (Nat.le_of_ble_eq_true rfl) rfl (fun ls hl => ?_)
  refine lv_aload_n hx hb dX1_notRow_20 rfl (lv_at hl 0 rfl) ?_
  refine lv_ifnonnull (tgt := 29) hx hb dX1_notRow_21 (by decide) ?_
  refine lv_aload_n hx hb dX1_notRow_29 rfl (lv_at hl 0 rfl) ?_
  refine c_S (rest := []) C (metX1_sortOf l G t ra z8 rf (by omega) (by omega)) 1 (lw_S q671 q672 q39 q673) (by decide +kernel) ⟨rfl, rfl⟩ ⟨(by dsimp only; omega), (by dsimp only; omega)⟩ (KX_mv G) (hP.sub (ws' := [(ra, tA G t z8 rf)]) [3] rfl) hK hl rfl rfl (Nat.le_of_ble_eq_true rfl) ⟨(Nat.le_of_ble_eq_true rfl), (Nat.le_of_ble_eq_true rfl)⟩ dX1_notRow_30 ?_
  refine lv_iconst (v := (-1)) hx hb dX1_notRow_33 (by decide) ?_
  refine lv_icmp_ne (x := sSrt t) (y := (-1)) (tgt := 42) hx hb dX1_notRow_34 (by decide) (fun c_2 => ?_) (fun c_2 => absurd c_2 (by unfold sSrt at c_2; split at c_2 <;> (try split at c_2) <;> exact absurd c_2 (by decide)))
  refine lv_iconst (v := 0) hx hb dX1_notRow_42 (by decide) ?_
  exact n_iret (v := 0) C (rfl) dX1_notRow_43
