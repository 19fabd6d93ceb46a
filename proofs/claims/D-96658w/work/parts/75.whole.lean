/-! WHOLE: FeteReader.whole, by hand -/
def Z0 : Nat → Int32 := fun _ => 0
def whX (t : Nat → Int32) (re : Nat) : Nat → Nat → Nat → Int32 × Nat
  | 0, _, k => (0, k)
  | f + 1, p, k => if (stS t p (fun _ => 0)).1 = true then (if (stS t p (fun _ => 0)).2.1 < re then whX t re f (stS t p (fun _ => 0)).2.1 (k + 1) else (0, k + 1)) else (-1000 - nI (stS t p (fun _ => 0)).2.1, k + 1)
/-- where the k-th statement begins -/
def pos (t : Nat → Int32) : Nat → Nat
  | 0 => 0
  | k + 1 => (stS t (pos t k) (fun _ => 0)).2.1
/-- the k-th statement as it is told -/
def tb1 (G : GG) (t : Nat → Int32) (to tn9 : Nat → Nat) (k : Nat) : va_W := [(to k, .inr (4, [.int (t (pos t k)), .int (nI (pos t k)), .ref (tn9 k), .int (nI (stM (t (pos t k))))])), (tn9 k, iA G 4 (stS t (pos t k) (fun _ => 0)).2.2)]
def tb (G : GG) (t : Nat → Int32) (to tn9 : Nat → Nat) : Nat → va_W
  | 0 => []
  | k + 1 => tb G t to tn9 k ++ tb1 G t to tn9 k
theorem tb_congr {G : GG} {t : Nat → Int32} {to tn9 to' tn' : Nat → Nat} : ∀ {n : Nat}, (∀ k, k < n → to k = to' k ∧ tn9 k = tn' k) → tb G t to tn9 n = tb G t to' tn' n := by
  intro n
  induction n with
  | zero => intro _; rfl
  | succ n ih =>
    intro h
    rw [tb, tb, ih (fun k hk => h k (by omega)), tb1, tb1, (h n (by omega)).1, (h n (by omega)).2]
theorem pos_le {t : Nat → Int32} : ∀ n, (∀ k, k < n → (stS t (pos t k) (fun _ => 0)).1 = true) → n ≤ pos t n := by
  intro n
  induction n with
  | zero => intro _; exact Nat.zero_le _
  | succ n ih =>
    intro h
    have h1 := ih (fun k hk => h k (by omega))
    have h2 := (stS_le t (pos t n) (fun _ => 0)).2.2 (h n (by omega))
    rw [pos]; omega
def upN9 (f : Nat → Nat) (k v : Nat) : Nat → Nat := fun j => if j = k then v else f j
set_option maxHeartbeats 4000000 in
set_option maxRecDepth 100000 in
theorem metX5_whole (l : Launch) (G : GG) (gm : GM) (h ra z8 ta : Nat) (rf : Nat → Int32) (ft : Nat → Option Nat) (hl9 : l.stackTraces = false) (hng : NG gm [(h, .inr (5, [.ref ra, .int (nI 0)])), (ra, tA G 1 z8 rf), (ta, qA G 4 100 ft)]) (hz8 : z8 ≤ 100) :
    MTi l yX5_whole cX5_whole 3 (some .int) ({ frames := 10, cells := 808, slots := 5050, locals := 207 }) [.ref h, .ref ta] [(h, .inr (5, [.ref ra, .int (nI 0)])), (ra, tA G 1 z8 rf), (ta, qA G 4 100 ft)] G (KE G gm) 808 5050
      (fun rv w1 => (whX (tS rf z8) z8 (z8 + 1) 0 0).1 = 0 ∧ rv = nI (whX (tS rf z8) z8 (z8 + 1) 0 0).2 ∧ ∃ (to tn9 : Nat → Nat) (p9 : Nat) (f9 : Nat → Option Nat), (∀ k, k < (whX (tS rf z8) z8 (z8 + 1) 0 0).2 → f9 k = some (to k)) ∧ (∀ k, k < (whX (tS rf z8) z8 (z8 + 1) 0 0).2 → (stS (tS rf z8) (pos (tS rf z8) k) (fun _ => 0)).1 = true ∧ pos (tS rf z8) k ≤ z8) ∧ (whX (tS rf z8) z8 (z8 + 1) 0 0).2 ≤ 100 ∧
        w1 = [(h, .inr (5, [.ref ra, .int (nI p9)])), (ra, tA G 1 z8 rf), (ta, qA G 4 100 f9)] ++ tb G (tS rf z8) to tn9 (whX (tS rf z8) z8 (z8 + 1) 0 0).2)
      (fun E q w1 => ¬ (whX (tS rf z8) z8 (z8 + 1) 0 0).1 = 0 ∧ E = RX7 ∧ ∃ (f9 : Nat → Value) (p9 : Nat) (g9 : Nat → Option Nat), w1 = [(h, .inr (5, [.ref ra, .int (nI p9)])), (ra, tA G 1 z8 rf), (ta, qA G 4 100 g9), (q, eO 14 f9 (whX (tS rf z8) z8 (z8 + 1) 0 0).1)]) := by
  refine mti_mkg RX5 (by decide) rfl (Nat.le_of_ble_eq_true rfl) ?_
  intro p0_ e0_ s m args below meth c A C ht9 hA hAx hP hK hD ls hl
  have hZ : ZA A s := hK.2.2.of hP hAx
  have hM1 := hK.2.1
  have hK := hK.1
  have hGP := hK.2
  have hK := hK.1
  have hGA := GA.of hng hGP hAx
  have hx := C.1
  have hb := C.2.1
  have hml := C.2.2.2.2.1
  have hown := C.2.2.2.2.2.1
  have hts := C.2.2.2.2.2.2
  have hS : va_S A s.heap s.heap [] := va_S.rf
  have hl : lv_has ls 3 [(0, .ref h), (1, .ref ta)] := hl
  generalize hT : tS rf z8 = T
  generalize hW9 : whX T z8 (z8 + 1) 0 0 = W9
  refine lv_iconst (v := 0) hx hb dX5_whole_0 rfl ?_
  refine lv_istore_n (lv' := [(2, .int 0), (0, .ref h), (1, .ref ta)]) hx hb dX5_whole_1 rfl hl (Nat.le_of_ble_eq_true rfl) rfl (fun ls hl => ?_)
  suffices key : ∀ (f n : Nat) (ft : Nat → Option Nat) (to tn9 : Nat → Nat) (H : Heap) (locs : List Loc), PP G ([(h, .inr (5, [.ref ra, .int (nI (pos T n))])), (ra, tA G 1 z8 rf), (ta, qA G 4 100 ft)] ++ tb G T to tn9 n) H → va_D A ([(h, .inr (5, [.ref ra, .int (nI (pos T n))])), (ra, tA G 1 z8 rf), (ta, qA G 4 100 ft)] ++ tb G T to tn9 n) → va_S A s.heap H locs →
      W9 = whX T z8 f (pos T n) n → z8 < f + pos T n → n = 0 ∨ pos T n < z8 → (∀ k, k < n → ft k = some (to k)) → (∀ k, k < n → (stS T (pos T k) (fun _ => 0)).1 = true ∧ pos T k ≤ z8) →
      ∀ ls : Array Slot, lv_has ls 3 [(2, .int (nI n)), (0, .ref h), (1, .ref ta)] → W p0_ l e0_ ({ frames := 10, cells := 808, slots := 5050, locals := 207 } : Room) s m args below meth c H locs (8 * n) (50 * n)
        (xq_MQ below (va_Qi (S := va_W) (fun rv w1 => W9.1 = 0 ∧ rv = nI W9.2 ∧ ∃ (to tn9 : Nat → Nat) (p9 : Nat) (f9 : Nat → Option Nat), (∀ k, k < W9.2 → f9 k = some (to k)) ∧ (∀ k, k < W9.2 → (stS T (pos T k) (fun _ => 0)).1 = true ∧ pos T k ≤ z8) ∧ W9.2 ≤ 100 ∧ w1 = [(h, .inr (5, [.ref ra, .int (nI p9)])), (ra, tA G 1 z8 rf), (ta, qA G 4 100 f9)] ++ tb G T to tn9 W9.2) (fun w1 t => PP G w1 t.heap ∧ va_D A w1) A)
          (xq_X (S := va_W) (fun _ => True) (fun E q w1 t => (fun E q w1 => ¬ W9.1 = 0 ∧ E = RX7 ∧ ∃ (f9 : Nat → Value) (p9 : Nat) (g9 : Nat → Option Nat), w1 = [(h, .inr (5, [.ref ra, .int (nI p9)])), (ra, tA G 1 z8 rf), (ta, qA G 4 100 g9), (q, eO 14 f9 W9.1)]) E q w1 ∧ PP G w1 t.heap ∧ va_D A w1) A) args s 808 5050 A) (F0 m 2 ls []) by
    exact key (z8 + 1) 0 ft (fun _ => 0) (fun _ => 0) s.heap [] hP hD hS hW9.symm (by rw [pos]; omega) (Or.inl rfl) (fun k hk => absurd hk (Nat.not_lt_zero k)) (fun k hk => absurd hk (Nat.not_lt_zero k)) ls hl
  intro f
  induction f with
  | zero =>
    intro n ft to tn9 H locs hP hD hS hg hf hn hft hok ls hl
    exfalso
    rcases hn with rfl | hn
    · rw [pos] at hf; omega
    · omega
  | succ f ih =>
    intro n ft to tn9 H locs hP hD hS hg hf hn hft hok ls hl
    have hnp : n ≤ pos T n := pos_le n (fun k hk => (hok k hk).1)
    have hn9 : n < 100 := by omega
    have hp9 : pos T n ≤ 100 := by
      rcases hn with rfl | hn
      · rw [pos]; omega
      · omega
    refine lv_aload_n hx hb dX5_whole_2 rfl (lv_at hl 2 rfl) ?_
    refine lv_iload_n hx hb dX5_whole_3 rfl (lv_at hl 0 rfl) ?_
    refine lv_aload_n hx hb dX5_whole_4 rfl (lv_at hl 1 rfl) ?_
    refine c_VTqP (wr := [(ta, qA G 4 100 ft)]) (rest := [.int (nI n), .ref ta]) C (metX5_statement l G gm h ra z8 rf (pos T n) hl9 (NG.of hGA (tl_D hD) [0, 1] rfl) (by omega) hz8) 0 (lw_V q196 q198 qs4 q48 q199) (by decide +kernel) ⟨rfl, rfl⟩ ⟨(Nat.le_of_ble_eq_true rfl), (Nat.le_of_ble_eq_true rfl)⟩ KE.call (KE.at hK (hGP.kept hGA hS) hM1 hZ hS) (va_recv hK.1 hP (ci := 5) (q0 := 0) rfl rfl) hA hP hD hS [0, 1] [2] rfl rfl rfl rfl (by decide) hl rfl rfl (Nat.le_of_ble_eq_true rfl) ⟨(by dsimp only; omega), (by dsimp only; omega)⟩ dX5_whole_5 (fun E ce q9 w1 H locs hpx hP hD hS hce hcv hcl => ?_) (fun r9 w1 H locs hq hP hD hS => ?_)
    · rw [hT] at hpx
      obtain ⟨k1, rfl, f9, rfl⟩ := hpx
      have e0 : W9 = (-1000 - nI (stS T (pos T n) (fun _ => 0)).2.1, n + 1) := by rw [hg, whX, if_neg (by rw [k1]; decide)]
      have hle := stS_le T (pos T n) (fun _ => 0)
      have hP2 := tl_P hP
      have hD2 := tl_D hD
      refine x_out (E := RX7) (w1 := [(h, .inr (5, [.ref ra, .int (nI (stS T (pos T n) (fun _ => 0)).2.1)])), (ra, tA G 1 z8 rf), (ta, qA G 4 100 ft), (q9, eO 14 f9 (-1000 - nI (stS T (pos T n) (fun _ => 0)).2.1))]) (px := fun E q w1 => ¬ W9.1 = 0 ∧ E = RX7 ∧ ∃ (f9 : Nat → Value) (p9 : Nat) (g9 : Nat → Option Nat), w1 = [(h, .inr (5, [.ref ra, .int (nI p9)])), (ra, tA G 1 z8 rf), (ta, qA G 4 100 g9), (q, eO 14 f9 W9.1)]) C ht9 ⟨by rw [e0]; exact fault1 (by omega), rfl, f9, _, ft, by rw [e0]⟩ (hP2.sub [1, 2, 0, 3] rfl) (hD2.sub [1, 2, 0, 3] (by decide) rfl) hS (by omega) (by omega) hce hcv hcl
    · rw [hT] at hq
      obtain ⟨k1, o9, nb9, rfl, rfl⟩ := hq
      have hle := stS_le T (pos T n) (fun _ => 0)
      have hP : PP G ([(ta, qA G 4 100 ft), (h, .inr (5, [.ref ra, .int (nI (stS T (pos T n) (fun _ => 0)).2.1)])), (ra, tA G 1 z8 rf), (o9, .inr (4, [.int (T (pos T n)), .int (nI (pos T n)), .ref nb9, .int (nI (stM (T (pos T n))))])), (nb9, iA G 4 (stS T (pos T n) (fun _ => 0)).2.2)] ++ tb G T to tn9 n) H := hP
      have hD : va_D A ([(ta, qA G 4 100 ft), (h, .inr (5, [.ref ra, .int (nI (stS T (pos T n) (fun _ => 0)).2.1)])), (ra, tA G 1 z8 rf), (o9, .inr (4, [.int (T (pos T n)), .int (nI (pos T n)), .ref nb9, .int (nI (stM (T (pos T n))))])), (nb9, iA G 4 (stS T (pos T n) (fun _ => 0)).2.2)] ++ tb G T to tn9 n) := hD
      refine n_astqG (Cn := "CakesToTheWatched$Told") C hK.1 hP hD hS 0 4 n rfl rfl (va_rAny hK.1 hP (q0 := 3) rfl (show clAll[4]? = some (RX6, TX6, 4) from rfl) fun comp c0 h1 h2 => by cases h1.symm.trans h2; exact va_asg _ _) hn9 (by decide) dX5_whole_8 (fun H locs hP hD hS => ?_)
      have hP := va_P.swap (a := [(ta, qA G 4 100 (va_up ft n (some o9))), (h, .inr (5, [.ref ra, .int (nI (stS T (pos T n) (fun _ => 0)).2.1)])), (ra, tA G 1 z8 rf)]) (b := tb1 G T (upN9 to n o9) (upN9 tn9 n nb9) n) (c := tb G T to tn9 n) (by unfold tb1 upN9; rw [if_pos rfl, if_pos rfl]; exact hP)
      have hD := va_D.swap (a := [(ta, qA G 4 100 (va_up ft n (some o9))), (h, .inr (5, [.ref ra, .int (nI (stS T (pos T n) (fun _ => 0)).2.1)])), (ra, tA G 1 z8 rf)]) (b := tb1 G T (upN9 to n o9) (upN9 tn9 n nb9) n) (c := tb G T to tn9 n) (by unfold tb1 upN9; rw [if_pos rfl, if_pos rfl]; exact hD)
      have etb : tb G T to tn9 n ++ tb1 G T (upN9 to n o9) (upN9 tn9 n nb9) n = tb G T (upN9 to n o9) (upN9 tn9 n nb9) (n + 1) := by
        rw [tb, tb_congr (to' := upN9 to n o9) (tn' := upN9 tn9 n nb9)]
        intro k hk
        unfold upN9
        rw [if_neg (by omega), if_neg (by omega)]
        exact ⟨rfl, rfl⟩
      rw [List.append_assoc, etb] at hP hD
      have hP : PP G ([(h, .inr (5, [.ref ra, .int (nI (pos T (n + 1)))])), (ra, tA G 1 z8 rf), (ta, qA G 4 100 (va_up ft n (some o9)))] ++ tb G T (upN9 to n o9) (upN9 tn9 n nb9) (n + 1)) H := hP.part [1, 2, 0] rfl
      have hD : va_D A ([(h, .inr (5, [.ref ra, .int (nI (pos T (n + 1)))])), (ra, tA G 1 z8 rf), (ta, qA G 4 100 (va_up ft n (some o9)))] ++ tb G T (upN9 to n o9) (upN9 tn9 n nb9) (n + 1)) := hD.part [1, 2, 0] (by decide) rfl
      have hft1 : ∀ k, k < n + 1 → va_up ft n (some o9) k = some (upN9 to n o9 k) := by
        intro k hk
        unfold va_up upN9
        by_cases e9 : k = n
        · rw [if_pos e9, if_pos e9]
        · rw [if_neg e9, if_neg e9]; exact hft k (by omega)
      have hok1 : ∀ k, k < n + 1 → (stS T (pos T k) (fun _ => 0)).1 = true ∧ pos T k ≤ z8 := by
        intro k hk
        by_cases e9 : k = n
        · subst e9
          refine ⟨k1, ?_⟩
          rcases hn with rfl | hn
          · rw [pos]; omega
          · omega
        · exact hok k (by omega)
      have hadv := hle.2.2 k1
      refine n_iinc (k := 0) (lv' := [(2, .int (nI (n + 1))), (0, .ref h), (1, .ref ta)]) hx hb n 1 dX5_whole_9 hl rfl (Nat.le_of_ble_eq_true rfl) rfl (fun ls hl => ?_)
      refine lv_aload_n hx hb dX5_whole_12 rfl (lv_at hl 1 rfl) ?_
      refine va_get (D := gD G) (ci := 5) (v := .int (nI (pos T (n + 1)))) (C := RX5) (T := TX5) (N := 2) hx hb hts in_X5 hown hK.1 hP 0 rfl rfl 1 (by decide) (hts _ q186) (fun _ h9 => h9) rfl dX5_whole_13 ?_
      refine lv_aload_n hx hb dX5_whole_16 rfl (lv_at hl 1 rfl) ?_
      refine va_get (D := gD G) (ci := 5) (v := .ref ra) (C := RX5) (T := TX5) (N := 2) hx hb hts in_X5 hown hK.1 hP 0 rfl rfl 0 (by decide) (hts _ q185) (fun _ h9 => h9) rfl dX5_whole_17 ?_
      refine va_alen C.1 C.2.1 hK.1 hP 1 1 (v := nI z8) rfl rfl rfl dX5_whole_20 ?_
      have epos : (stS T (pos T n) (fun _ => 0)).2.1 = pos T (n + 1) := rfl
      refine n_ic_lt (x := pos T (n + 1)) (y := z8) (tgt := 2) hx hb (by rw [← epos]; omega) (by omega) dX5_whole_21 (by decide) (fun c9 => ?_) (fun c9 => ?_)
      · refine W.eq (g2 := F0 m 2 ls []) rfl ?_
        exact ih (n + 1) (va_up ft n (some o9)) (upN9 to n o9) (upN9 tn9 n nb9) H locs hP hD hS (by rw [hg, whX, if_pos k1, epos, if_pos c9]) (by rw [← epos]; omega) (Or.inr c9) hft1 hok1 ls hl
      · have e0 : W9 = (0, n + 1) := by rw [hg, whX, if_pos k1, epos, if_neg (by omega)]
        refine lv_iload_n hx hb dX5_whole_24 rfl (lv_at hl 0 rfl) ?_
        refine xq_ret (n_iretW (v := nI (n + 1)) (w1 := [(h, .inr (5, [.ref ra, .int (nI (pos T (n + 1)))])), (ra, tA G 1 z8 rf), (ta, qA G 4 100 (va_up ft n (some o9)))] ++ tb G T (upN9 to n o9) (upN9 tn9 n nb9) (n + 1)) C ?_ hP hD hS (by omega) (by omega) dX5_whole_25)
        rw [e0]
        exact ⟨rfl, rfl, _, _, _, _, hft1, hok1, by dsimp only; omega, rfl⟩
