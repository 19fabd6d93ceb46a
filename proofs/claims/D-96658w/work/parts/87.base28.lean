/-! BASE 28: a method with handlers that answers a long or throws (printed by tools/mkbase28.py) -/
def MXl (l : Launch) (y : MethodName) (b : ByteArray) (L : Nat) (rt : Option FieldType) (hh : List (Nat × Nat × Nat × Nat)) (rm : Room) (av : List Value) (w : va_W) (G : GG) (K : State → Prop) (mc ms : Nat) (post : Int64 → va_W → Prop) (pe : String → Prop) : Prop :=
  ∀ sz : Nat, vx_Met l y (wsW_ y b L rt hh) rm (va_Pc av (fun U => U.heap.size = sz ∧ PP G w U.heap ∧ K U ∧ va_D (fun _ => True) w)) (va_Ql (S := va_W) post (fun w1 t => PP G w1 t.heap ∧ va_D (va_A w sz) w1) (va_A w sz)) (vx_X (S := va_W) (fun _ => True) (fun E w1 t => (pe E ∧ w1 = w) ∧ PP G w1 t.heap ∧ va_D (va_A w sz) w1) (va_A w sz)) mc ms (va_A w sz)
theorem mxl_mkg {l : Launch} {y : MethodName} {b : ByteArray} {L : Nat} {rt : Option FieldType} {hh : List (Nat × Nat × Nat × Nat)} {rm : Room} {av : List Value} {w : va_W} {G : GG} {K : State → Prop} {mc ms : Nat} {post : Int64 → va_W → Prop} {pe : String → Prop} (own : String) (hy : plainName y.cls = true) (ho : y.cls = own) (hn : (lg_sl av).length ≤ L)
    (body : ∀ (p : Program) (e : Env) (s : State) (m : MethodId) (args : Array Value) (below : List Frame) (meth : Method) (c : Code) (A : Nat → Prop), Cx p c meth s args m b L rt own → c.exceptionTable.toList = tableOf hh → (∀ q : Nat, s.heap.size ≤ q → A q) → (∀ q : Nat, A q → va_A w s.heap.size q) → PP G w s.heap → K s → va_D A w → ∀ ls : Array Slot, lv_has ls L (lv_args 0 av) → W p l e rm s m args below meth c s.heap [] 0 0 (vx_MQ below (va_Ql (S := va_W) post (fun w1 t => PP G w1 t.heap ∧ va_D A w1) A) (vx_X (S := va_W) (fun _ => True) (fun E w1 t => (pe E ∧ w1 = w) ∧ PP G w1 t.heap ∧ va_D A w1) A) args s mc ms A) (F0 m 0 ls [])) : MXl l y b L rt hh rm av w G K mc ms post pe := by
  intro sz
  refine vx_ofWH (cc := b) (maxL := L) (ret := rt) (hh := hh) hy rfl ?_
  intro p e s m args below meth c s₁ B hml hv
  obtain ⟨rfl, hsz, hP, hK, hD0⟩ := hv
  subst hsz
  have hts := atoms_spec (ws := wsW_ y b L rt hh) B.pre
  have hown : s.vm.findClass y.cls = some m.cls := findClass_of_methodNamed B.named
  rw [lg_entry_eq]
  exact body p e s m _ below meth c (va_A w s.heap.size) ⟨B.exec, B.bytes, B.returns, B.notSynchronized, hml, by rw [← ho]; exact hown, fun w h => hts w (List.mem_cons_of_mem _ h)⟩ (vx_table (x := y) B (hts _ List.mem_cons_self)) (fun q h => Or.inr h) (fun q h => h) hP hK hD0.self _ (lv_entry av hn)

theorem gw_ot {w : Cond} (h : goodWord w = true) : vx_ot w = true := by unfold vx_ot; rw [h, Bool.or_true]
section R28
variable {p : Program} {l : Launch} {e : Env} {R : Room} {s : State} {m : MethodId} {args : Array Value} {below : List Frame} {meth : Method} {c : Code} {H : Heap} {locs : List Loc} {cells slots : Nat} {Q : State → Prop}
variable {cc : ByteArray} {pc : Nat} {ls : Array Slot} {rest : List Value} {L0 : Nat} {rt0 : Option FieldType} {own : String}
theorem c_VXlP {y : MethodName} {b : ByteArray} {L : Nat} {rt : Option FieldType} {hh : List (Nat × Nat × Nat × Nat)} {rm : Room} {o : Nat} {av : List Value} {X wc wr pl : va_W} {G : GG} {K : State → Prop} {mc ms : Nat} {post : Int64 → va_W → Prop} {pe : String → Prop} {A : Nat → Prop} {H0 : Heap} {idx : Nat} {lv : List (Nat × Value)} {st0 : List Value} {CC : String} (C : Cx p c meth s args m cc L0 rt0 own) (hM : MXl l y b L rt hh rm (.ref o :: av) wc G K mc ms post pe) (n : Nat) (hG : GoodIn lw_all (wsV own idx CC y (wsW_ y b L rt hh))) (hd : y.cls = CC ∧ y.cls ≠ "java/lang/invoke/MethodHandle" ∧ y.cls ≠ "java/lang/invoke/VarHandle" ∧ (parseMethodDescriptor y.desc).map (fun d => d.parameters.length) = some n) (hrm : rm.cells = mc ∧ rm.slots = ms) (hR : rm.frames + 1 ≤ R.frames ∧ 8 + (L + 11) + rm.locals ≤ R.locals) (hKc : ∀ (U : State) (g : JFrame) (mk : MethodId) (a : Array Value), K U → K (U.calling g mk a)) (hKU : ∀ U : State, U.heap = H → s.WarmedH U.vm → K U) (hrc : Rcv s H CC o) (hA : ∀ q : Nat, H0.size ≤ q → A q) (hP : PP G (X ++ pl) H) (hD : va_D A (X ++ pl)) (hS : va_S A H0 H locs) (isC isR : List Nat) (hC : isC.map (fun i => X[i]?) = wc.map some) (hRr : isR.map (fun i => X[i]?) = wr.map some) (hnC : va_nd isC = true) (hnR : va_nd isR = true) (hdis : ∀ i ∈ isR, i ∉ isC) (hl : lv_has ls L0 lv) (hn : av.length = n) (hst : st0 = av.reverse ++ .ref o :: rest) (hW : (rest.map fun v => v.category).sum ≤ 8) (hcs : cells + mc ≤ R.cells ∧ slots + ms ≤ R.slots) (hdg : decode cc pc = .ok (.invokevirtual idx, 3)) (kx : ∀ (E : String) (ce : Cell) (q9 : Nat) (H1 : Heap) (locs1 : List Loc), pe E → PP G ((wr ++ wc) ++ pl) H1 → va_D A ((wr ++ wc) ++ pl) → va_S A H0 H1 locs1 → H1[q9]? = some ce → ce.vm = .none → s.vm.findClass E = some ce.cls → vx_W p l e R s m args below meth c H1 locs1 (cells + mc) (slots + ms) Q (F0 m pc ls rest) q9) (kk : ∀ (r : Int64) (w1 : va_W) (H1 : Heap) (locs1 : List Loc), post r w1 → PP G ((wr ++ w1) ++ pl) H1 → va_D A ((wr ++ w1) ++ pl) → va_S A H0 H1 locs1 → W p l e R s m args below meth c H1 locs1 (cells + mc) (slots + ms) Q (F0 m (pc + 3) ls (.long r :: rest))) : W p l e R s m args below meth c H locs cells slots Q (F0 m pc ls st0) := by
  obtain ⟨hPc, hDc⟩ := c_cut (tl_P hP) (tl_D hD) isC hC hnC
  have hFc := va_free (wc := wc) (tl_D hD) hS hA isC hC
  refine vx_calll (vx_runVX (As := av) (rest := rest) ⟨C.1, C.2.1, C.2.2.2.2.1, C.2.2.2.2.2.1, C.2.2.2.2.2.2⟩ (hM H.size) (vx_cwVW n C.2.2.2.2.2.2 hG rfl hrm.1 hrm.2 hd hR) ⟨fun _ _ _ _ q => ⟨q.1, q.2.1, q.2.2.1, hKc _ _ _ _ q.2.2.2.1, q.2.2.2.2⟩, hrc, fun U hU hWm => ⟨rfl, by rw [hU], by rw [hU]; exact hPc, hKU _ hU hWm, hDc⟩⟩ rfl hn hl.1 hst (lv_room hW) hdg hcs) hS (fun q _ h => hFc q h) hFc (fun q _ h => hFc q h) (fun E ce q9 w1 t H1 locs1 ht _ _ hB _ hk hS1 hce hcv hcl => ?_) (fun r w1 t H1 locs1 ht _ hpost hB _ hk hS1 => ?_)
  · obtain ⟨⟨hpx, rfl⟩, hP1, hD1⟩ := hB
    rw [ht] at hP1
    obtain ⟨hP2, hD2⟩ := va_joinQ hP hD isC isR hC hRr hnR hdis hk hFc hP1 hD1
    exact kx E ce q9 H1 locs1 hpx hP2 hD2 hS1 hce hcv hcl
  · obtain ⟨hP1, hD1⟩ := hB
    rw [ht] at hP1
    obtain ⟨hP2, hD2⟩ := va_joinQ hP hD isC isR hC hRr hnR hdis hk hFc hP1 hD1
    exact kk r w1 H1 locs1 hpost hP2 hD2 hS1
/-- a new exception is thrown, and leaves the method -/
theorem x_new0 {G : GG} {gm : GM} {w w1 : va_W} {A : Nat → Prop} {mc ms ik ic : Nat} {pe : String → Prop} {Qc : Array Value → State → Outcome → State → Prop} {cls : String} (C : Cx p c meth s args m cc L0 rt0 own) (hl9 : l.stackTraces = false) (hX : XK s) (hZ : ZA A s) (hP : PP G w1 H) (hw : w1 = w) (hD : va_D A w1) (hS : va_S A s.heap H locs)
    (hcls : Bundle.fit cls = true) (hlk : Cond.classLink own ik cls ∈ lw_all) (hini : Cond.initialized cls ∈ lw_all) (hat : ∀ z ∈ vx_at0 own ic cls eR, z ∈ lw_tbl) (hat2 : ∀ z ∈ vx_at0 own ic cls eR, z ∈ eAll) (hpe : pe cls)
    (d0 : decode cc pc = .ok (.new ik, 3)) (d3 : decode cc (pc + 3) = .ok (.dup, 1)) (d4 : decode cc (pc + 4) = .ok (.invokespecial ic, 3)) (d7 : decode cc (pc + 7) = .ok (.athrow, 1))
    (hout : ∀ x ∈ c.exceptionTable.toList, covers x (pc + 7) = false) (hl : ls.size = L0) (hR : 5 < R.frames ∧ (rest.map fun v => v.category).sum + 100 ≤ R.locals) (hRc : cells + 1 ≤ R.cells ∧ slots + 6 ≤ R.slots) (hc : cells + 1 ≤ mc) (hs : slots + 6 ≤ ms) :
    W p l e R s m args below meth c H locs cells slots (vx_MQ below Qc (vx_X (S := va_W) (fun _ => True) (fun E w1 t => (pe E ∧ w1 = w) ∧ PP G w1 t.heap ∧ va_D A w1) A) args s mc ms A) (F0 m pc ls rest) := by
  refine vx_throw0 C.1 C.2.1 hl9 C.2.2.2.2.2.1 hcls (names := eR) (by decide +kernel) (C.2.2.2.2.2.2 _ hlk) (C.2.2.2.2.2.2 _ hini) (e_hat C.2.2.2.2.2.2 hX hat hat2) (fun z hz => ?_) hZ.1 hZ.2 hS (hl.trans C.2.2.2.2.1.symm) d0 d3 d4 d7 hout ?_ ?_ hRc.1 hRc.2 C.2.2.2.1 (fun t h1 h2 h3 => ?_) hS.2.2 hc hs
  · rcases List.mem_cons.mp hz with rfl | hz
    · exact gw_ot (List.mem_filter.mp hlk).2
    · rcases List.mem_cons.mp hz with rfl | hz
      · exact gw_ot (List.mem_filter.mp hini).2
      · exact eAll_ot z (hat2 z hz)
  · show 2 + 3 < R.frames; omega
  · show _ + (13 * (2 + 1) + 42) ≤ R.locals; omega
  · refine ⟨w1, trivial, ⟨⟨hpe, hw⟩, hP.kept fun k q hk => h3 q.1 (hP k q hk).lt, hD⟩, ?_⟩
    exact ⟨Nat.le_trans hS.1 h2, fun q g1 g2 => (h3 q (Nat.lt_of_lt_of_le g1 hS.1)).trans (hS.2.1 q g1 g2)⟩
end R28
