/-! BASE 20: Broken and Tossed made, the guests' failure (printed by tools/mkbase20.py) -/
/-- an exception of ours: Throwable's six fields and its number -/
def eO (ci : Nat) (f : Nat → Value) (v : Int32) : va_E := .inr (ci, [f 0, f 1, f 2, f 3, f 4, f 5, .int v])
def pT (w : va_W) (t : Option Int32) : Option Nat → va_W → Prop := fun rv w1 => match t with
  | none => rv = none ∧ w1 = w
  | some n => ∃ (q : Nat) (f : Nat → Value), rv = some q ∧ w1 = w ++ [(q, eO 15 f n)]
def KF (G : GG) (h k : Nat) (v : Int32) (U : State) : Prop := KX G U ∧ ZE U ∧ PP G [(h, .inr (6 + k, [.int v]))] U.heap
theorem KF.call {G : GG} {h k : Nat} {v : Int32} : ∀ (U : State) (g : JFrame) (mk : MethodId) (a : Array Value), KF G h k v U → KF G h k v (U.calling g mk a) := fun U g mk a z => ⟨(KX_mv G).2 U g mk a z.1, ZE.call z.2.1, z.2.2⟩
theorem KF.at {G : GG} {h k : Nat} {v : Int32} {A : Nat → Prop} {s : State} {H : Heap} {locs : List Loc} (hK : KX G s) (hZ : ZA A s) (hS : va_S A s.heap H locs) (hG : PP G [(h, .inr (6 + k, [.int v]))] H) : ∀ U : State, U.heap = H → s.WarmedH U.vm → KF G h k v U := fun U hU hW => ⟨(KX_mv G).1 s U hW hK, ZA.at hZ hS U hU hW, by rw [hU]; exact hG⟩
theorem KI.at {G : GG} {nm : String} {q : Nat} {A : Nat → Prop} {s : State} {H : Heap} {locs : List Loc} (hK : KX G s) (hZ : ZA A s) (hS : va_S A s.heap H locs) (hF : ∀ U : State, U.heap = H → s.WarmedH U.vm → FRn nm q U) : ∀ U : State, U.heap = H → s.WarmedH U.vm → KI G nm q U := fun U hU hW => ⟨(KX_mv G).1 s U hW hK, ZA.at hZ hS U hU hW, hF U hU hW⟩
theorem gp_keep {G : GG} {h : Nat} {e : va_E} {A : Nat → Prop} {s : State} {H : Heap} {locs : List Loc} (hG : PP G [(h, e)] s.heap) (hS : va_S A s.heap H locs) (hAx : ∀ q : Nat, A q → va_A [] s.heap.size q) : PP G [(h, e)] H := by
  refine hG.kept (fun k q hk => ?_)
  have h1 := (hG k q hk).lt
  refine hS.2.1 _ h1 (fun z => ?_)
  rcases hAx _ z with ⟨_, _, h9⟩ | h9
  · simp at h9
  · omega
theorem nost {G : GG} {w : va_W} {A : Nat → Prop} {s : State} (hP : PP G w s.heap) (hAx : ∀ q : Nat, A q → va_A w s.heap.size q) : ∀ (a : Nat) (cell : Cell), s.heap[a]? = some cell → A a → cell.vm.isStatics = false := by
  intro a cell h1 h2
  rcases hAx a h2 with ⟨k, e, hk⟩ | h9
  · exact cell_nost hP hk h1
  · have := (Array.getElem?_eq_some_iff.mp h1).1
    omega
theorem FRn.mv {nm : String} {o : Nat} {s : State} (h : FRn nm o s) : ∀ U : State, U.heap = s.heap → s.WarmedH U.vm → FRn nm o U := by
  obtain ⟨cX, kX, h1, h2, h3⟩ := h
  exact FRn.at h1 h2 h3
set_option maxHeartbeats 4000000 in
set_option maxRecDepth 100000 in
theorem metX7_init (l : Launch) (hl9 : l.stackTraces = false) (G : GG) (h : Nat) (v : Int32) : MWv l yX7_init cX7_init 2 none ({ frames := 5, cells := 0, slots := 0, locals := 100 }) [.ref h, .int v] [(h, .inr (14, [.null, .null, .null, .null, .null, .int 0, .int 0]))] G (KI G RX7 h) 0 0 (fun w1 => ∃ f : Nat → Value, w1 = [(h, eO 14 f v)]) := by
  refine mwv_mkg RX7 (by decide) rfl (Nat.le_of_ble_eq_true rfl) ?_
  intro p0_ e0_ s m args below meth c A C hname hA hAx hP hK9 hD ls hl
  have hx := C.1
  have hb := C.2.1
  have hml := C.2.2.2.2.1
  have hown := C.2.2.2.2.2.1
  have hts := C.2.2.2.2.2.2
  have hS : va_S A s.heap s.heap [] := va_S.rf
  have hZ : ZA A s := hK9.2.1.of hP hAx
  have hK := hK9.1.1
  refine lv_aload_n hx hb dX7_init_0 rfl (lv_at hl 0 rfl) ?_
  refine x_sup0 (C7 := RX7) (cls := "java/lang/Exception") (names := []) (ci := 14) (q0 := 0) C hl9 hK hP hD hS hZ (nost hP hAx) (by decide +kernel) (by decide +kernel) (e_hat hts hK9.1.2 eBrk_tbl e_in1.2.2.2.2.2.2.1) rfl rfl (FRn.mv hK9.2.2) hl.1 (by decide) (by decide) dX7_init_1 (fun f0 f1 f2 f3 f4 f5 f6 H locs hP hD hS => ?_)
  have hP : PP G [(h, .inr (14, [f0, f1, f2, f3, f4, f5, f6]))] H := hP
  have hD : va_D A [(h, .inr (14, [f0, f1, f2, f3, f4, f5, f6]))] := hD
  refine lv_aload_n hx hb dX7_init_4 rfl (lv_at hl 0 rfl) ?_
  refine lv_iload_n hx hb dX7_init_5 rfl (lv_at hl 1 rfl) ?_
  refine va_putF (D := gD G) (ci := 14) (v := .int v) (ty := .int) (C := RX7) (T := TX7) (N := 7) hx hb hts in_X7 tyX7 tyX7_ok nmX7 hown hK hP hD hS 0 rfl rfl 6 (by decide) (hts _ q257) (fun _ h9 => h9) rfl hname rfl (by decide +kernel) rfl rfl (Nat.le_of_ble_eq_true rfl) dX7_init_6 (fun H locs hP hD hS => ?_)
  exact n_vretW (w1 := [(h, .inr (14, [f0, f1, f2, f3, f4, f5, .int v]))]) C ⟨fun k => [f0, f1, f2, f3, f4, f5].getD k .null, rfl⟩ hP hD hS (by first | omega | decide) (by first | omega | decide) dX7_init_9
set_option maxHeartbeats 4000000 in
set_option maxRecDepth 100000 in
theorem metX16_init (l : Launch) (hl9 : l.stackTraces = false) (G : GG) (h : Nat) (v : Int32) : MWv l yX16_init cX16_init 2 none ({ frames := 6, cells := 0, slots := 0, locals := 100 }) [.ref h, .int v] [(h, .inr (15, [.null, .null, .null, .null, .null, .int 0, .int 0]))] G (KI G RX16 h) 0 0 (fun w1 => ∃ f : Nat → Value, w1 = [(h, eO 15 f v)]) := by
  refine mwv_mkg RX16 (by decide) rfl (Nat.le_of_ble_eq_true rfl) ?_
  intro p0_ e0_ s m args below meth c A C hname hA hAx hP hK9 hD ls hl
  have hx := C.1
  have hb := C.2.1
  have hml := C.2.2.2.2.1
  have hown := C.2.2.2.2.2.1
  have hts := C.2.2.2.2.2.2
  have hS : va_S A s.heap s.heap [] := va_S.rf
  have hZ : ZA A s := hK9.2.1.of hP hAx
  have hK := hK9.1.1
  refine lv_aload_n hx hb dX16_init_0 rfl (lv_at hl 0 rfl) ?_
  refine x_sup0 (C7 := RX16) (cls := "java/lang/RuntimeException") (names := ["java/lang/Exception"]) (ci := 15) (q0 := 0) C hl9 hK hP hD hS hZ (nost hP hAx) (by decide +kernel) (by decide +kernel) (e_hat hts hK9.1.2 eTos_tbl e_in1.2.2.2.2.2.2.2) rfl rfl (FRn.mv hK9.2.2) hl.1 (by decide) (by decide) dX16_init_1 (fun f0 f1 f2 f3 f4 f5 f6 H locs hP hD hS => ?_)
  have hP : PP G [(h, .inr (15, [f0, f1, f2, f3, f4, f5, f6]))] H := hP
  have hD : va_D A [(h, .inr (15, [f0, f1, f2, f3, f4, f5, f6]))] := hD
  refine lv_aload_n hx hb dX16_init_4 rfl (lv_at hl 0 rfl) ?_
  refine lv_iload_n hx hb dX16_init_5 rfl (lv_at hl 1 rfl) ?_
  refine va_putF (D := gD G) (ci := 15) (v := .int v) (ty := .int) (C := RX16) (T := TX16) (N := 7) hx hb hts in_X16 tyX16 tyX16_ok nmX16 hown hK hP hD hS 0 rfl rfl 6 (by decide) (hts _ q1014) (fun _ h9 => h9) rfl hname rfl (by decide +kernel) rfl rfl (Nat.le_of_ble_eq_true rfl) dX16_init_6 (fun H locs hP hD hS => ?_)
  exact n_vretW (w1 := [(h, .inr (15, [f0, f1, f2, f3, f4, f5, .int v]))]) C ⟨fun k => [f0, f1, f2, f3, f4, f5].getD k .null, rfl⟩ hP hD hS (by first | omega | decide) (by first | omega | decide) dX16_init_9
section R20
variable {p : Program} {l : Launch} {e : Env} {R : Room} {s : State} {m : MethodId} {args : Array Value} {below : List Frame} {meth : Method} {c : Code} {H : Heap} {locs : List Loc} {cells slots : Nat} {Q : State → Prop}
variable {cc : ByteArray} {pc : Nat} {ls : Array Slot} {rest : List Value} {L0 : Nat} {rt0 : Option FieldType} {own : String}
theorem c_SUqk {y : MethodName} {b : ByteArray} {L : Nat} {rt : Option FieldType} {rm : Room} {o : Nat} {av : List Value} {ws wc wr : va_W} {G : GG} {K : State → Prop} {mc ms : Nat} {post : Option Nat → va_W → Prop} {A : Nat → Prop} {H0 : Heap} {idx : Nat} {lv : List (Nat × Value)} {st0 : List Value} {CC : String} (C : Cx p c meth s args m cc L0 rt0 own) (hM : MWq l y b L rt rm (.ref o :: av) wc G K mc ms post) (n : Nat) {cC : ClassId} (hG : GoodIn lw_all (va_wsSU own idx y (ws_ y b L rt))) (hd : y.name ≠ "<init>" ∧ (parseMethodDescriptor y.desc).map (fun d => d.parameters.length) = some n) (hat : ClassAt s CC cC) (hrm : rm.cells = mc ∧ rm.slots = ms) (hR : rm.frames + 1 ≤ R.frames ∧ 8 + (L + 11) + rm.locals ≤ R.locals) (hKc : ∀ (U : State) (g : JFrame) (mk : MethodId) (a : Array Value), K U → K (U.calling g mk a)) (hKU : ∀ U : State, U.heap = H → s.WarmedH U.vm → K U) (hrc : Rcv s H CC o) (hA : ∀ q : Nat, H0.size ≤ q → A q) (hP : PP G ws H) (hD : va_D A ws) (hS : va_S A H0 H locs) (isC isR : List Nat) (hC : isC.map (fun i => ws[i]?) = wc.map some) (hRr : isR.map (fun i => ws[i]?) = wr.map some) (hnC : va_nd isC = true) (hnR : va_nd isR = true) (hdis : ∀ i ∈ isR, i ∉ isC) (hl : lv_has ls L0 lv) (hn : av.length = n) (hst : st0 = av.reverse ++ .ref o :: rest) (hW : (rest.map fun v => v.category).sum ≤ 8) (hcs : cells + mc ≤ R.cells ∧ slots + ms ≤ R.slots) (hdg : decode cc pc = .ok (.invokespecial idx, 3)) (kk : ∀ (r : Option Nat) (w1 : va_W) (H1 : Heap) (locs1 : List Loc), post r w1 → PP G (wr ++ w1) H1 → va_D A (wr ++ w1) → va_S A H0 H1 locs1 → W p l e R s m args below meth c H1 locs1 (cells + mc) (slots + ms) Q (F0 m (pc + 3) ls (va_rf r :: rest))) : W p l e R s m args below meth c H locs cells slots Q (F0 m pc ls st0) := by
  obtain ⟨hPc, hDc⟩ := c_cut hP hD isC hC hnC
  have hFc := va_free (wc := wc) hD hS hA isC hC
  refine va_callq (va_runSU (As := av) (rest := rest) hat ⟨C.1, C.2.1, C.2.2.2.2.1, C.2.2.2.2.2.1, C.2.2.2.2.2.2⟩ (hM H.size) (va_cwSU n C.2.2.2.2.2.2 hG rfl hrm.1 hrm.2 hd hR) ⟨fun _ _ _ _ q => ⟨q.1, q.2.1, q.2.2.1, hKc _ _ _ _ q.2.2.2.1, q.2.2.2.2⟩, hrc, fun U hU hWm => ⟨rfl, by rw [hU], by rw [hU]; exact hPc, hKU _ hU hWm, hDc⟩⟩ rfl hn hl.1 hst (lv_room hW) hdg hcs) hS (fun q _ h => hFc q h) hFc (fun r w1 t H1 locs1 ht _ hpost hB _ hk hS1 => ?_)
  obtain ⟨hP1, hD1⟩ := hB
  rw [ht] at hP1
  obtain ⟨hP2, hD2⟩ := va_join hP hD isC isR hC hRr hnR hdis hk hFc hP1 hD1
  exact kk r w1 H1 locs1 hpost hP2 hD2 hS1
theorem g_fig8 {G : GG} {k : Nat} {f : Int32} {ws : va_W} {o q0 : Nat} (C : Cx p c meth s args m cc L0 rt0 RX8) (hK : KM G s) (hk : k < 8) (he : ws[q0]? = some (o, .inr (6 + k, [.int f]))) (hP : PP G ws H) (hdg : decode cc pc = .ok (.getfield 7, 3)) (kk : W p l e R s m args below meth c H locs cells slots Q (F0 m (pc + 3) ls (.int f :: rest))) : W p l e R s m args below meth c H locs cells slots Q (F0 m pc ls (.ref o :: rest)) := by
  have hts := C.2.2.2.2.2.2
  have hk8 : k = 0 ∨ k = 1 ∨ k = 2 ∨ k = 3 ∨ k = 4 ∨ k = 5 ∨ k = 6 ∨ k = 7 := by omega
  rcases hk8 with rfl | rfl | rfl | rfl | rfl | rfl | rfl | rfl
  · exact va_get (D := gD G) (ci := 6) (v := .int f) (C := RX8) (T := TX8) (N := 1) C.1 C.2.1 hts in_X8 C.2.2.2.2.2.1 hK hP q0 he rfl 0 (by decide) (hts _ q293) (fun _ h9 => h9) rfl hdg kk
  · exact va_get (D := gD G) (ci := 7) (v := .int f) (C := RX9) (T := TX9) (N := 1) C.1 C.2.1 hts in_X9 C.2.2.2.2.2.1 hK hP q0 he rfl 0 (by decide) (hts _ q293) (fun _ h9 => h9) rfl hdg kk
  · exact va_get (D := gD G) (ci := 8) (v := .int f) (C := RX10) (T := TX10) (N := 1) C.1 C.2.1 hts in_X10 C.2.2.2.2.2.1 hK hP q0 he rfl 0 (by decide) (hts _ q293) (fun _ h9 => h9) rfl hdg kk
  · exact va_get (D := gD G) (ci := 9) (v := .int f) (C := RX11) (T := TX11) (N := 1) C.1 C.2.1 hts in_X11 C.2.2.2.2.2.1 hK hP q0 he rfl 0 (by decide) (hts _ q293) (fun _ h9 => h9) rfl hdg kk
  · exact va_get (D := gD G) (ci := 10) (v := .int f) (C := RX12) (T := TX12) (N := 1) C.1 C.2.1 hts in_X12 C.2.2.2.2.2.1 hK hP q0 he rfl 0 (by decide) (hts _ q293) (fun _ h9 => h9) rfl hdg kk
  · exact va_get (D := gD G) (ci := 11) (v := .int f) (C := RX13) (T := TX13) (N := 1) C.1 C.2.1 hts in_X13 C.2.2.2.2.2.1 hK hP q0 he rfl 0 (by decide) (hts _ q293) (fun _ h9 => h9) rfl hdg kk
  · exact va_get (D := gD G) (ci := 12) (v := .int f) (C := RX14) (T := TX14) (N := 1) C.1 C.2.1 hts in_X14 C.2.2.2.2.2.1 hK hP q0 he rfl 0 (by decide) (hts _ q293) (fun _ h9 => h9) rfl hdg kk
  · exact va_get (D := gD G) (ci := 13) (v := .int f) (C := RX15) (T := TX15) (N := 1) C.1 C.2.1 hts in_X15 C.2.2.2.2.2.1 hK hP q0 he rfl 0 (by decide) (hts _ q293) (fun _ h9 => h9) rfl hdg kk
end R20
set_option maxHeartbeats 4000000 in
set_option maxRecDepth 100000 in
theorem metX8_failure (l : Launch) (hl9 : l.stackTraces = false) (G : GG) (h k : Nat) (hk : k < 8) (v : Int32) : MWq l yX8_failure cX8_failure 1 (some (.object "CakesToTheWatched$Tossed")) ({ frames := 9, cells := 1, slots := 7, locals := 360 }) [.ref h] [] G (KF G h k v) 1 7 (pT [] (if v = 0 then none else some v)) := by
  refine mwq_mkg RX8 (by decide) rfl (Nat.le_of_ble_eq_true rfl) ?_
  intro p0_ e0_ s m args below meth c A C hA hAx hP hK9 hD ls hl
  have hx := C.1
  have hb := C.2.1
  have hml := C.2.2.2.2.1
  have hown := C.2.2.2.2.2.1
  have hts := C.2.2.2.2.2.2
  have hS : va_S A s.heap s.heap [] := va_S.rf
  have hZ : ZA A s := hK9.2.1.of hP hAx
  have hK := hK9.1
  have hG0 := hK9.2.2
  have hG := hG0
  refine lv_aload_n hx hb dX8_failure_0 rfl (lv_at hl 0 rfl) ?_
  refine g_fig8 C hK.1 hk (q0 := 0) rfl hG dX8_failure_1 ?_
  refine lv_if_ne (x := v) (tgt := 11) hx hb dX8_failure_4 (by decide) (fun c9 => ?_) (fun c9 => ?_)
  · refine n_newF (G := G) (ci := 15) (fs := [.null, .null, .null, .null, .null, .int 0, .int 0]) (Cn := RX16) (T := TX16) (N := 7) C in_X16 tyX16 tyX16_ok q1001 q1002 q69 hK.1 hP hD hS hA rfl (fun j hj => (by rcases (show j = 0 ∨ j = 1 ∨ j = 2 ∨ j = 3 ∨ j = 4 ∨ j = 5 ∨ j = 6 by omega) with rfl | rfl | rfl | rfl | rfl | rfl | rfl <;> rfl)) (by dsimp only; omega) (by dsimp only; omega) dX8_failure_11 (fun qn H hP hD hS hF => ?_)
    have hP : PP G [(qn, .inr (15, [.null, .null, .null, .null, .null, .int 0, .int 0]))] H := hP
    have hD : va_D A [(qn, .inr (15, [.null, .null, .null, .null, .null, .int 0, .int 0]))] := hD
    have hG := gp_keep hG0 hS hAx
    refine lv_dup hx hb dX8_failure_14 rfl ?_
    refine lv_aload_n hx hb dX8_failure_15 rfl (lv_at hl 0 rfl) ?_
    refine g_fig8 C hK.1 hk (q0 := 0) rfl hG dX8_failure_16 ?_
    refine c_IWvk (wr := []) (rest := [.ref qn]) C (metX16_init l hl9 G qn (v)) 1 q1010 q1012 q69 q1011 rfl (by decide +kernel) ⟨rfl, rfl⟩ ⟨(Nat.le_of_ble_eq_true rfl), (Nat.le_of_ble_eq_true rfl)⟩ KI.call (KI.at hK hZ hS hF) hA hP hD hS [0] [] rfl rfl rfl rfl (by decide) hl rfl rfl (Nat.le_of_ble_eq_true rfl) ⟨(by dsimp only; omega), (by dsimp only; omega)⟩ dX8_failure_19 (fun w1 H locs hq hP hD hS => ?_)
    obtain ⟨f9, rfl⟩ := hq
    have hP : PP G [(qn, eO 15 f9 (v))] H := hP
    have hD : va_D A [(qn, eO 15 f9 (v))] := hD
    exact n_aretW (r := some qn) (w1 := [(qn, eO 15 f9 v)]) C (by unfold pT; rw [if_neg c9]; exact ⟨qn, f9, rfl, rfl⟩) hP hD hS (by first | omega | decide) (by first | omega | decide) dX8_failure_22
  · refine lv_null hx hb dX8_failure_7 ?_
    refine lv_goto (tgt := 22) hx hb dX8_failure_8 (by decide) ?_
    exact n_aretW (r := none) (w1 := []) C (by unfold pT; rw [if_pos c9]; exact ⟨rfl, rfl⟩) hP hD hS (by first | omega | decide) (by first | omega | decide) dX8_failure_22
set_option maxHeartbeats 4000000 in
set_option maxRecDepth 100000 in
theorem metX11_failure_3 (l : Launch) (hl9 : l.stackTraces = false) (G : GG) (h : Nat) (v : Int32) : MWq l yX11_failure cX11_failure 2 (some (.object "CakesToTheWatched$Tossed")) ({ frames := 11, cells := 2, slots := 14, locals := 440 }) [.ref h] [] G (KF G h 3 v) 2 14 (fun rv w1 => (v = 0 → rv = none ∧ w1 = []) ∧ (v ≠ 0 → ∃ (q q1 : Nat) (f f1 : Nat → Value), rv = some q ∧ w1 = [(q1, eO 15 f1 v), (q, eO 15 f (v + 100))])) := by
  refine mwq_mkg RX11 (by decide) rfl (Nat.le_of_ble_eq_true rfl) ?_
  intro p0_ e0_ s m args below meth c A C hA hAx hP hK9 hD ls hl
  have hx := C.1
  have hb := C.2.1
  have hml := C.2.2.2.2.1
  have hown := C.2.2.2.2.2.1
  have hts := C.2.2.2.2.2.2
  have hS : va_S A s.heap s.heap [] := va_S.rf
  have hZ : ZA A s := hK9.2.1.of hP hAx
  have hK := hK9.1
  have hG0 := hK9.2.2
  have hG := hG0
  refine lv_aload_n hx hb dX11_failure_0 rfl (lv_at hl 0 rfl) ?_
  refine c_SUqk (wr := []) (rest := []) (CC := gnm 3) C (metX8_failure l hl9 G h 3 (by decide) v) 0 (lw_SU q999 q984 q327 q982 q52 q1000) ⟨by decide, by decide +kernel⟩ (c_at hK.1 (ci := 6 + 3) rfl) ⟨rfl, rfl⟩ ⟨(Nat.le_of_ble_eq_true rfl), (Nat.le_of_ble_eq_true rfl)⟩ KF.call (KF.at hK hZ hS hG) (va_recv (q0 := 0) (ci := 6 + 3) hK.1 hG rfl rfl) hA hP hD hS [] [] rfl rfl rfl rfl (by decide) hl rfl rfl (Nat.le_of_ble_eq_true rfl) ⟨(by dsimp only; omega), (by dsimp only; omega)⟩ dX11_failure_1 (fun r9 w1 H locs hq hP hD hS => ?_)
  by_cases c9 : v = 0
  · rw [if_pos c9] at hq
    obtain ⟨rfl, rfl⟩ := hq
    refine lv_astore_nN (lv' := [(1, .null), (0, .ref h)]) hx hb dX11_failure_4 rfl hl (Nat.le_of_ble_eq_true rfl) rfl (fun ls hl => ?_)
    refine lv_aload_nN hx hb dX11_failure_5 rfl (lv_at hl 0 rfl) ?_
    refine lv_ifnonnullN hx hb dX11_failure_6 ?_
    refine lv_null hx hb dX11_failure_9 ?_
    refine lv_goto (tgt := 27) hx hb dX11_failure_10 (by decide) ?_
    exact n_aretW (r := none) (w1 := []) C (⟨fun _ => ⟨rfl, rfl⟩, fun z => absurd c9 z⟩) hP hD hS (by first | omega | decide) (by first | omega | decide) dX11_failure_27
  · rw [if_neg c9] at hq
    obtain ⟨q1, f1, rfl, rfl⟩ := hq
    have hP : PP G [(q1, eO 15 f1 v)] H := hP
    have hD : va_D A [(q1, eO 15 f1 v)] := hD
    refine lv_astore_n (lv' := [(1, .ref q1), (0, .ref h)]) hx hb dX11_failure_4 rfl hl (Nat.le_of_ble_eq_true rfl) rfl (fun ls hl => ?_)
    refine lv_aload_n hx hb dX11_failure_5 rfl (lv_at hl 0 rfl) ?_
    refine lv_ifnonnull (tgt := 13) hx hb dX11_failure_6 (by decide) ?_
    refine n_newF (G := G) (ci := 15) (fs := [.null, .null, .null, .null, .null, .int 0, .int 0]) (Cn := RX16) (T := TX16) (N := 7) C in_X16 tyX16 tyX16_ok q1021 q1002 q69 hK.1 hP hD hS hA rfl (fun j hj => (by rcases (show j = 0 ∨ j = 1 ∨ j = 2 ∨ j = 3 ∨ j = 4 ∨ j = 5 ∨ j = 6 by omega) with rfl | rfl | rfl | rfl | rfl | rfl | rfl <;> rfl)) (by dsimp only; omega) (by dsimp only; omega) dX11_failure_13 (fun qn H hP hD hS hF => ?_)
    have hP : PP G [(q1, eO 15 f1 v), (qn, .inr (15, [.null, .null, .null, .null, .null, .int 0, .int 0]))] H := hP
    have hD : va_D A [(q1, eO 15 f1 v), (qn, .inr (15, [.null, .null, .null, .null, .null, .int 0, .int 0]))] := hD
    have hG := gp_keep hG0 hS hAx
    refine lv_dup hx hb dX11_failure_16 rfl ?_
    refine lv_aload_n hx hb dX11_failure_17 rfl (lv_at hl 0 rfl) ?_
    refine va_get (D := gD G) (ci := 15) (v := .int v) (C := RX16) (T := TX16) (N := 7) hx hb hts in_X16 hown hK.1 hP 0 rfl rfl 6 (by decide) (hts _ q1015) (fun _ h9 => h9) rfl dX11_failure_18 ?_
    refine lv_bipush (v := 100) hx hb dX11_failure_21 (by decide) ?_
    refine lv_iadd (x := v) (y := 100) hx hb dX11_failure_23 ?_
    refine c_IWvk (wr := [(q1, eO 15 f1 v)]) (rest := [.ref qn]) C (metX16_init l hl9 G qn (v + 100)) 1 q1022 q1012 q69 q1011 rfl (by decide +kernel) ⟨rfl, rfl⟩ ⟨(Nat.le_of_ble_eq_true rfl), (Nat.le_of_ble_eq_true rfl)⟩ KI.call (KI.at hK hZ hS hF) hA hP hD hS [1] [0] rfl rfl rfl rfl (by decide) hl rfl rfl (Nat.le_of_ble_eq_true rfl) ⟨(by dsimp only; omega), (by dsimp only; omega)⟩ dX11_failure_24 (fun w1 H locs hq hP hD hS => ?_)
    obtain ⟨f9, rfl⟩ := hq
    have hP : PP G [(q1, eO 15 f1 v), (qn, eO 15 f9 (v + 100))] H := hP
    have hD : va_D A [(q1, eO 15 f1 v), (qn, eO 15 f9 (v + 100))] := hD
    exact n_aretW (r := some qn) (w1 := [(q1, eO 15 f1 v), (qn, eO 15 f9 (v + 100))]) C (⟨fun z => absurd z c9, fun _ => ⟨qn, q1, f9, f1, rfl, rfl⟩⟩) hP hD hS (by first | omega | decide) (by first | omega | decide) dX11_failure_27
set_option maxHeartbeats 4000000 in
set_option maxRecDepth 100000 in
theorem metX11_failure_5 (l : Launch) (hl9 : l.stackTraces = false) (G : GG) (h : Nat) (v : Int32) : MWq l yX11_failure cX11_failure 2 (some (.object "CakesToTheWatched$Tossed")) ({ frames := 11, cells := 2, slots := 14, locals := 440 }) [.ref h] [] G (KF G h 5 v) 2 14 (fun rv w1 => (v = 0 → rv = none ∧ w1 = []) ∧ (v ≠ 0 → ∃ (q q1 : Nat) (f f1 : Nat → Value), rv = some q ∧ w1 = [(q1, eO 15 f1 v), (q, eO 15 f (v + 100))])) := by
  refine mwq_mkg RX11 (by decide) rfl (Nat.le_of_ble_eq_true rfl) ?_
  intro p0_ e0_ s m args below meth c A C hA hAx hP hK9 hD ls hl
  have hx := C.1
  have hb := C.2.1
  have hml := C.2.2.2.2.1
  have hown := C.2.2.2.2.2.1
  have hts := C.2.2.2.2.2.2
  have hS : va_S A s.heap s.heap [] := va_S.rf
  have hZ : ZA A s := hK9.2.1.of hP hAx
  have hK := hK9.1
  have hG0 := hK9.2.2
  have hG := hG0
  refine lv_aload_n hx hb dX11_failure_0 rfl (lv_at hl 0 rfl) ?_
  refine c_SUqk (wr := []) (rest := []) (CC := gnm 5) C (metX8_failure l hl9 G h 5 (by decide) v) 0 (lw_SU q999 q984 q327 q982 q52 q1000) ⟨by decide, by decide +kernel⟩ (c_at hK.1 (ci := 6 + 5) rfl) ⟨rfl, rfl⟩ ⟨(Nat.le_of_ble_eq_true rfl), (Nat.le_of_ble_eq_true rfl)⟩ KF.call (KF.at hK hZ hS hG) (va_recv (q0 := 0) (ci := 6 + 5) hK.1 hG rfl rfl) hA hP hD hS [] [] rfl rfl rfl rfl (by decide) hl rfl rfl (Nat.le_of_ble_eq_true rfl) ⟨(by dsimp only; omega), (by dsimp only; omega)⟩ dX11_failure_1 (fun r9 w1 H locs hq hP hD hS => ?_)
  by_cases c9 : v = 0
  · rw [if_pos c9] at hq
    obtain ⟨rfl, rfl⟩ := hq
    refine lv_astore_nN (lv' := [(1, .null), (0, .ref h)]) hx hb dX11_failure_4 rfl hl (Nat.le_of_ble_eq_true rfl) rfl (fun ls hl => ?_)
    refine lv_aload_nN hx hb dX11_failure_5 rfl (lv_at hl 0 rfl) ?_
    refine lv_ifnonnullN hx hb dX11_failure_6 ?_
    refine lv_null hx hb dX11_failure_9 ?_
    refine lv_goto (tgt := 27) hx hb dX11_failure_10 (by decide) ?_
    exact n_aretW (r := none) (w1 := []) C (⟨fun _ => ⟨rfl, rfl⟩, fun z => absurd c9 z⟩) hP hD hS (by first | omega | decide) (by first | omega | decide) dX11_failure_27
  · rw [if_neg c9] at hq
    obtain ⟨q1, f1, rfl, rfl⟩ := hq
    have hP : PP G [(q1, eO 15 f1 v)] H := hP
    have hD : va_D A [(q1, eO 15 f1 v)] := hD
    refine lv_astore_n (lv' := [(1, .ref q1), (0, .ref h)]) hx hb dX11_failure_4 rfl hl (Nat.le_of_ble_eq_true rfl) rfl (fun ls hl => ?_)
    refine lv_aload_n hx hb dX11_failure_5 rfl (lv_at hl 0 rfl) ?_
    refine lv_ifnonnull (tgt := 13) hx hb dX11_failure_6 (by decide) ?_
    refine n_newF (G := G) (ci := 15) (fs := [.null, .null, .null, .null, .null, .int 0, .int 0]) (Cn := RX16) (T := TX16) (N := 7) C in_X16 tyX16 tyX16_ok q1021 q1002 q69 hK.1 hP hD hS hA rfl (fun j hj => (by rcases (show j = 0 ∨ j = 1 ∨ j = 2 ∨ j = 3 ∨ j = 4 ∨ j = 5 ∨ j = 6 by omega) with rfl | rfl | rfl | rfl | rfl | rfl | rfl <;> rfl)) (by dsimp only; omega) (by dsimp only; omega) dX11_failure_13 (fun qn H hP hD hS hF => ?_)
    have hP : PP G [(q1, eO 15 f1 v), (qn, .inr (15, [.null, .null, .null, .null, .null, .int 0, .int 0]))] H := hP
    have hD : va_D A [(q1, eO 15 f1 v), (qn, .inr (15, [.null, .null, .null, .null, .null, .int 0, .int 0]))] := hD
    have hG := gp_keep hG0 hS hAx
    refine lv_dup hx hb dX11_failure_16 rfl ?_
    refine lv_aload_n hx hb dX11_failure_17 rfl (lv_at hl 0 rfl) ?_
    refine va_get (D := gD G) (ci := 15) (v := .int v) (C := RX16) (T := TX16) (N := 7) hx hb hts in_X16 hown hK.1 hP 0 rfl rfl 6 (by decide) (hts _ q1015) (fun _ h9 => h9) rfl dX11_failure_18 ?_
    refine lv_bipush (v := 100) hx hb dX11_failure_21 (by decide) ?_
    refine lv_iadd (x := v) (y := 100) hx hb dX11_failure_23 ?_
    refine c_IWvk (wr := [(q1, eO 15 f1 v)]) (rest := [.ref qn]) C (metX16_init l hl9 G qn (v + 100)) 1 q1022 q1012 q69 q1011 rfl (by decide +kernel) ⟨rfl, rfl⟩ ⟨(Nat.le_of_ble_eq_true rfl), (Nat.le_of_ble_eq_true rfl)⟩ KI.call (KI.at hK hZ hS hF) hA hP hD hS [1] [0] rfl rfl rfl rfl (by decide) hl rfl rfl (Nat.le_of_ble_eq_true rfl) ⟨(by dsimp only; omega), (by dsimp only; omega)⟩ dX11_failure_24 (fun w1 H locs hq hP hD hS => ?_)
    obtain ⟨f9, rfl⟩ := hq
    have hP : PP G [(q1, eO 15 f1 v), (qn, eO 15 f9 (v + 100))] H := hP
    have hD : va_D A [(q1, eO 15 f1 v), (qn, eO 15 f9 (v + 100))] := hD
    exact n_aretW (r := some qn) (w1 := [(q1, eO 15 f1 v), (qn, eO 15 f9 (v + 100))]) C (⟨fun z => absurd z c9, fun _ => ⟨qn, q1, f9, f1, rfl, rfl⟩⟩) hP hD hS (by first | omega | decide) (by first | omega | decide) dX11_failure_27
set_option maxHeartbeats 4000000 in
set_option maxRecDepth 100000 in
theorem metX13_failure (l : Launch) (hl9 : l.stackTraces = false) (G : GG) (h : Nat) (v : Int32) : MWq l yX13_failure cX13_failure 1 (some (.object "CakesToTheWatched$Tossed")) ({ frames := 13, cells := 3, slots := 21, locals := 520 }) [.ref h] [] G (KF G h 5 v) 3 21 (fun rv w1 => (v = 0 → rv = none ∧ w1 = []) ∧ (v ≠ 0 → ∃ (q q1 q2 : Nat) (f f1 f2 : Nat → Value), rv = some q ∧ w1 = [(q1, eO 15 f1 v), (q2, eO 15 f2 (v + 100)), (q, eO 15 f (200 + (4 + 6 + v)))])) := by
  refine mwq_mkg RX13 (by decide) rfl (Nat.le_of_ble_eq_true rfl) ?_
  intro p0_ e0_ s m args below meth c A C hA hAx hP hK9 hD ls hl
  have hx := C.1
  have hb := C.2.1
  have hml := C.2.2.2.2.1
  have hown := C.2.2.2.2.2.1
  have hts := C.2.2.2.2.2.2
  have hS : va_S A s.heap s.heap [] := va_S.rf
  have hZ : ZA A s := hK9.2.1.of hP hAx
  have hK := hK9.1
  have hG0 := hK9.2.2
  have hG := hG0
  refine lv_aload_n hx hb dX13_failure_0 rfl (lv_at hl 0 rfl) ?_
  refine c_SUqk (wr := []) (rest := []) (CC := gnm 5) C (metX11_failure_5 l hl9 G h v) 0 (lw_SU q996 q1443 q343 q997 q55 q998) ⟨by decide, by decide +kernel⟩ (c_at hK.1 (ci := 6 + 5) rfl) ⟨rfl, rfl⟩ ⟨(Nat.le_of_ble_eq_true rfl), (Nat.le_of_ble_eq_true rfl)⟩ KF.call (KF.at hK hZ hS hG) (va_recv (q0 := 0) (ci := 6 + 5) hK.1 hG rfl rfl) hA hP hD hS [] [] rfl rfl rfl rfl (by decide) hl rfl rfl (Nat.le_of_ble_eq_true rfl) ⟨(by dsimp only; omega), (by dsimp only; omega)⟩ dX13_failure_1 (fun r9 w1 H locs hq hP hD hS => ?_)
  by_cases c9 : v = 0
  · obtain ⟨rfl, rfl⟩ := hq.1 c9
    refine lv_ifnonnullN hx hb dX13_failure_4 ?_
    refine lv_null hx hb dX13_failure_7 ?_
    refine lv_goto (tgt := 26) hx hb dX13_failure_8 (by decide) ?_
    exact n_aretW (r := none) (w1 := []) C (⟨fun _ => ⟨rfl, rfl⟩, fun z => absurd c9 z⟩) hP hD hS (by first | omega | decide) (by first | omega | decide) dX13_failure_26
  · obtain ⟨q2, q1, f2, f1, rfl, rfl⟩ := hq.2 c9
    have hP : PP G [(q1, eO 15 f1 v), (q2, eO 15 f2 (v + 100))] H := hP
    have hD : va_D A [(q1, eO 15 f1 v), (q2, eO 15 f2 (v + 100))] := hD
    refine lv_ifnonnull (tgt := 11) hx hb dX13_failure_4 (by decide) ?_
    refine n_newF (G := G) (ci := 15) (fs := [.null, .null, .null, .null, .null, .int 0, .int 0]) (Cn := RX16) (T := TX16) (N := 7) C in_X16 tyX16 tyX16_ok q1023 q1002 q69 hK.1 hP hD hS hA rfl (fun j hj => (by rcases (show j = 0 ∨ j = 1 ∨ j = 2 ∨ j = 3 ∨ j = 4 ∨ j = 5 ∨ j = 6 by omega) with rfl | rfl | rfl | rfl | rfl | rfl | rfl <;> rfl)) (by dsimp only; omega) (by dsimp only; omega) dX13_failure_11 (fun qn H hP hD hS hF => ?_)
    have hP : PP G [(q1, eO 15 f1 v), (q2, eO 15 f2 (v + 100)), (qn, .inr (15, [.null, .null, .null, .null, .null, .int 0, .int 0]))] H := hP
    have hD : va_D A [(q1, eO 15 f1 v), (q2, eO 15 f2 (v + 100)), (qn, .inr (15, [.null, .null, .null, .null, .null, .int 0, .int 0]))] := hD
    have hG := gp_keep hG0 hS hAx
    refine lv_dup hx hb dX13_failure_14 rfl ?_
    refine lv_sipush (v := 200) hx hb dX13_failure_15 (by decide) ?_
    refine lv_aload_n hx hb dX13_failure_18 rfl (lv_at hl 0 rfl) ?_
    refine c_V (rest := [.int 200, .ref qn, .ref qn]) C (metX13_cost l G h v) 0 (lw_V q1024 q965 q1444 q57 q966) (by decide +kernel) ⟨rfl, rfl⟩ ⟨(Nat.le_of_ble_eq_true rfl), (Nat.le_of_ble_eq_true rfl)⟩ (KM_mv G) (va_recv (q0 := 0) (ci := 11) hK.1 hG rfl rfl) hG hK.1 hl rfl rfl (Nat.le_of_ble_eq_true rfl) ⟨(by dsimp only; omega), (by dsimp only; omega)⟩ dX13_failure_19 ?_
    refine lv_iadd (x := 200) (y := 4 + 6 + v) hx hb dX13_failure_22 ?_
    refine c_IWvk (wr := [(q1, eO 15 f1 v), (q2, eO 15 f2 (v + 100))]) (rest := [.ref qn]) C (metX16_init l hl9 G qn (200 + (4 + 6 + v))) 1 q1025 q1012 q69 q1011 rfl (by decide +kernel) ⟨rfl, rfl⟩ ⟨(Nat.le_of_ble_eq_true rfl), (Nat.le_of_ble_eq_true rfl)⟩ KI.call (KI.at hK hZ hS hF) hA hP hD hS [2] [0, 1] rfl rfl rfl rfl (by decide) hl rfl rfl (Nat.le_of_ble_eq_true rfl) ⟨(by dsimp only; omega), (by dsimp only; omega)⟩ dX13_failure_23 (fun w1 H locs hq hP hD hS => ?_)
    obtain ⟨f9, rfl⟩ := hq
    have hP : PP G [(q1, eO 15 f1 v), (q2, eO 15 f2 (v + 100)), (qn, eO 15 f9 (200 + (4 + 6 + v)))] H := hP
    have hD : va_D A [(q1, eO 15 f1 v), (q2, eO 15 f2 (v + 100)), (qn, eO 15 f9 (200 + (4 + 6 + v)))] := hD
    exact n_aretW (r := some qn) (w1 := [(q1, eO 15 f1 v), (q2, eO 15 f2 (v + 100)), (qn, eO 15 f9 (200 + (4 + 6 + v)))]) C (⟨fun z => absurd z c9, fun _ => ⟨qn, q1, q2, f9, f1, f2, rfl, rfl⟩⟩) hP hD hS (by first | omega | decide) (by first | omega | decide) dX13_failure_26
set_option maxHeartbeats 4000000 in
set_option maxRecDepth 100000 in
theorem metX12_failure (l : Launch) (hl9 : l.stackTraces = false) (G : GG) (h k : Nat) (v : Int32) : MWq l yX12_failure cX12_failure 1 (some (.object "CakesToTheWatched$Tossed")) ({ frames := 2, cells := 0, slots := 0, locals := 80 }) [.ref h] [] G (KF G h k v) 0 0 (pT [] none) := by
  refine mwq_mkg RX12 (by decide) rfl (Nat.le_of_ble_eq_true rfl) ?_
  intro p0_ e0_ s m args below meth c A C hA hAx hP hK9 hD ls hl
  have hx := C.1
  have hb := C.2.1
  have hml := C.2.2.2.2.1
  have hown := C.2.2.2.2.2.1
  have hts := C.2.2.2.2.2.2
  have hS : va_S A s.heap s.heap [] := va_S.rf
  have hZ : ZA A s := hK9.2.1.of hP hAx
  have hK := hK9.1
  have hG0 := hK9.2.2
  have hG := hG0
  refine lv_null hx hb dX12_failure_0 ?_
  exact n_aretW (r := none) (w1 := []) C (⟨rfl, rfl⟩) hP hD hS (by first | omega | decide) (by first | omega | decide) dX12_failure_1
set_option maxHeartbeats 4000000 in
set_option maxRecDepth 100000 in
theorem metX15_failure (l : Launch) (hl9 : l.stackTraces = false) (G : GG) (h k : Nat) (v : Int32) : MWq l yX15_failure cX15_failure 1 (some (.object "CakesToTheWatched$Tossed")) ({ frames := 2, cells := 0, slots := 0, locals := 80 }) [.ref h] [] G (KF G h k v) 0 0 (pT [] none) := by
  refine mwq_mkg RX15 (by decide) rfl (Nat.le_of_ble_eq_true rfl) ?_
  intro p0_ e0_ s m args below meth c A C hA hAx hP hK9 hD ls hl
  have hx := C.1
  have hb := C.2.1
  have hml := C.2.2.2.2.1
  have hown := C.2.2.2.2.2.1
  have hts := C.2.2.2.2.2.2
  have hS : va_S A s.heap s.heap [] := va_S.rf
  have hZ : ZA A s := hK9.2.1.of hP hAx
  have hK := hK9.1
  have hG0 := hK9.2.2
  have hG := hG0
  refine lv_null hx hb dX15_failure_0 ?_
  exact n_aretW (r := none) (w1 := []) C (⟨rfl, rfl⟩) hP hD hS (by first | omega | decide) (by first | omega | decide) dX15_failure_1
