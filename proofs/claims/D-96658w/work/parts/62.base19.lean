/-! BASE 19: rows of exceptions (printed by tools/mkbase19.py) -/
section R19
variable {p : Program} {l : Launch} {e : Env} {R : Room} {s : State} {m : MethodId} {args : Array Value} {below : List Frame} {meth : Method} {c : Code} {H : Heap} {locs : List Loc} {cells slots : Nat} {Q : State → Prop}
variable {cc : ByteArray} {pc : Nat} {ls : Array Slot} {rest : List Value} {L0 : Nat} {rt0 : Option FieldType} {own : String}
theorem x_sup0 {G : GG} {ws : va_W} {A : Nat → Prop} {C7 cls : String} {names : List String} {T7 : u_T} {ic ci q0 a : Nat} {fs : List Value} (C : Cx p c meth s args m cc L0 rt0 own) (hl9 : l.stackTraces = false) (hK : KM G s) (hP : PP G ws H) (hD : va_D A ws) (hS : va_S A s.heap H locs) (hZ : ZA A s) (hAx : ∀ (a : Nat) (cell : Cell), s.heap[a]? = some cell → A a → cell.vm.isStatics = false)
    (hcls : Bundle.fit cls = true) (hnames : ∀ n ∈ names, Bundle.fit n = true) (hw : ∀ w ∈ (supAtoms own ic C7 cls names).filter vx_no, w.before args s = true)
    (hci : clAll[ci]? = some (C7, T7, 7)) (ha : ws[q0]? = some (a, .inr (ci, fs))) (hF : ∀ U : State, U.heap = H → s.WarmedH U.vm → FRn C7 a U)
    (hl : ls.size = L0) (hRf : names.length + 3 < R.frames) (hRl : (rest.map fun v => v.category).sum + (13 * (names.length + 1) + 41) ≤ R.locals)
    (hdg : decode cc pc = .ok (.invokespecial ic, 3))
    (kk : ∀ (f0 f1 f2 f3 f4 f5 f6 : Value) (H1 : Heap) (locs1 : List Loc), PP G (ws.set q0 (a, .inr (ci, [f0, f1, f2, f3, f4, f5, f6]))) H1 → va_D A (ws.set q0 (a, .inr (ci, [f0, f1, f2, f3, f4, f5, f6]))) → va_S A s.heap H1 locs1 → W p l e R s m args below meth c H1 locs1 cells slots Q (F0 m (pc + 3) ls rest)) :
    W p l e R s m args below meth c H locs cells slots Q (F0 m pc ls (.ref a :: rest)) := by
  intro T hT X
  subst hT
  have htr : e.platform.stackTraces = false := (show e.platform.stackTraces = l.stackTraces by rw [X.admits.platform]).trans hl9
  obtain ⟨cX, kX, hfX, hkX, hcX⟩ := hF (T.setVm s.vm) rfl (State.WarmedH.refl s)
  have h : ∀ w ∈ supAtoms own ic C7 cls names, w.before args s = true := vx_own hw (vx_isRefq hZ.1.1) (vx_isRefq hZ.2.1) hZ.1.2.word hZ.2.2.word
  obtain ⟨V, ce, L, Z, hL, hlt, hcl9, hvm9, hsz9, hVh, st⟩ := x_ctorSup X C.1 htr (own := own) (C7 := C7) (cls := cls) (names := names) (ic := ic) C.2.2.2.2.2.1 hcls hnames h (fun x hx cell hcell => hAx _ _ hcell (hS.2.2 x hx)) hfX hkX hcX
    (g := F0 m pc ls (.ref a :: rest)) rfl (hl.trans C.2.2.2.2.1.symm) (rest := rest) rfl (by rw [C.2.1]; exact hdg) hRf (by show 2 * 0 + _ + _ ≤ _; omega)
  have hh : (V.setCell a ce).heap[a]? = some ce := heapAt_setCell_self (s := V) ce hlt
  have ho : ∀ q : Nat, q ≠ a → (V.setCell a ce).heap[q]? = T.heap[q]? := fun q hq => by
    rw [← hVh]
    exact State.heap_setCell_other (Ne.symm hq)
  obtain ⟨r9, hr9, cell9, g1, g2, g3, g4⟩ := hP q0 _ ha
  have hr9' : clAll[ci]? = some r9 := hr9
  rw [hci] at hr9'
  cases Option.some.inj hr9'
  have e1 : cell9 = freshCell cX kX := Option.some.inj (g1.symm.trans hcX)
  have hslot : ∀ k, k < 7 → ce.slots[(gD G).2 ci k]? = some (ce.slots.getD ((gD G).2 ci k) .null) := fun k hk => by
    have h1 := g4 k hk
    have h2 : (gD G).2 ci k < cell9.slots.size := (Array.getElem?_eq_some_iff.mp h1).1
    have h3 : (gD G).2 ci k < ce.slots.size := by rw [hsz9, ← e1]; exact h2
    rw [Array.getD_eq_getD_getElem?, Array.getElem?_eq_getElem h3]
    rfl
  have hnew : va_at (gD G) clAll (a, .inr (ci, [ce.slots.getD ((gD G).2 ci 0) .null, ce.slots.getD ((gD G).2 ci 1) .null, ce.slots.getD ((gD G).2 ci 2) .null, ce.slots.getD ((gD G).2 ci 3) .null, ce.slots.getD ((gD G).2 ci 4) .null, ce.slots.getD ((gD G).2 ci 5) .null, ce.slots.getD ((gD G).2 ci 6) .null])) (V.setCell a ce).heap := by
    refine ⟨(C7, T7, 7), hci, ce, hh, ?_, hvm9, fun k hk => ?_⟩
    · rw [hcl9, ← g2, e1]
    · have hk7 : k = 0 ∨ k = 1 ∨ k = 2 ∨ k = 3 ∨ k = 4 ∨ k = 5 ∨ k = 6 := by
        have : k < 7 := hk
        omega
      rcases hk7 with rfl | rfl | rfl | rfl | rfl | rfl | rfl <;> exact hslot _ (by decide)
  have hAa : A a := hD.2 q0 _ ha
  have hsize : (V.setCell a ce).heap.size = T.heap.size := by rw [← hVh]; simp [State.setCell]
  have hS1 : va_S A s.heap (V.setCell a ce).heap (locs ++ L) := ⟨by rw [hsize]; exact hS.1, fun q h1 h2 => (ho q (fun e9 => h2 (by rw [e9]; exact hAa))).trans (hS.2.1 q h1 h2), fun x hx => by
    rcases List.mem_append.mp hx with h9 | h9
    · exact hS.2.2 x h9
    · rw [hL x h9]; exact hAa⟩
  obtain ⟨t, a1, b1⟩ := kk _ _ _ _ _ _ _ (V.setCell a ce).heap (locs ++ L) (va_P.set hP hD ha hnew ho) (va_D.set hD ha) hS1 _ rfl Z
  exact ⟨t, st _ a1, b1⟩
theorem n_newF {G : GG} {ws : va_W} {A : Nat → Prop} {H0 : Heap} {Cn : String} {T : u_T} {N ci index : Nat} (C : Cx p c meth s args m cc L0 rt0 own) (hin : ∀ w ∈ u_ws Cn T N, w ∈ lw_all) (ty : Nat → FieldType) (hty : ∀ k, k < N → parseFieldDescriptor (T k).2.2.1 = some (ty k)) (hcl : Cond.classLink own index Cn ∈ lw_all) (hinst : Cond.instantiable Cn N ∈ lw_all) (hini : Cond.initialized Cn ∈ lw_all)
    (hK : KM G s) (hP : PP G ws H) (hD : va_D A ws) (hS : va_S A H0 H locs) (hA : ∀ q : Nat, H0.size ≤ q → A q) (hc : clAll[ci]? = some (Cn, T, N)) {fs : List Value} (hfs : ∀ j, j < N → defaultValue (ty j) = vp_V fs j) (hcells : cells + 1 ≤ R.cells) (hslots : slots + N ≤ R.slots) (hdg : decode cc pc = .ok (.new index, 3))
    (kk : ∀ (q : Nat) (H1 : Heap), PP G (ws ++ [(q, .inr (ci, fs))]) H1 → va_D A (ws ++ [(q, .inr (ci, fs))]) → va_S A H0 H1 locs → (∀ U : State, U.heap = H1 → s.WarmedH U.vm → FRn Cn q U) →
      W p l e R s m args below meth c H1 locs (cells + 1) (slots + N) Q (F0 m (pc + 3) ls (.ref q :: rest))) : W p l e R s m args below meth c H locs cells slots Q (F0 m pc ls rest) := by
  have hKn := hK.1 ci _ hc
  have hts := C.2.2.2.2.2.2
  refine W.newcK C.1 C.2.1 C.2.2.2.2.2.1 (hts _ hcl) (hts _ hinst) (hts _ hini) rfl hdg hcells hslots hKn.2.1 rfl fun H1 kC hkC e1 z1 o1 => ?_
  have hk : ∀ (k : Nat) (x : Nat × va_E), ws[k]? = some x → H1[x.1]? = H[x.1]? := fun k x hx => o1 x.1 ((hP k x hx).lt)
  refine kk H.size H1 ((hP.kept hk).app (fun k x hx => ?_)) (hD.push hP rfl (hA _ hS.1)) ⟨Nat.le_trans hS.1 (by omega), fun x h1 h2 => (o1 x (Nat.lt_of_lt_of_le h1 hS.1)).trans (hS.2.1 x h1 h2), hS.2.2⟩ (FRn.at hKn.2.1 hkC e1)
  have hz : k < 1 := (List.getElem?_eq_some_iff.mp hx).1
  rw [show k = 0 by omega] at hx
  cases hx
  exact ⟨_, hc, (u_born ty hts hin hKn hkC e1 hty).to hfs⟩
def MTi (l : Launch) (y : MethodName) (b : ByteArray) (L : Nat) (rt : Option FieldType) (rm : Room) (av : List Value) (w : va_W) (G : GG) (K : State → Prop) (mc ms : Nat) (post : Int32 → va_W → Prop) (px : String → Nat → va_W → Prop) : Prop :=
  ∀ sz : Nat, xq_Met l y (ws_ y b L rt) rm (va_Pc av (fun U => U.heap.size = sz ∧ PP G w U.heap ∧ K U ∧ va_D (fun _ => True) w)) (va_Qi (S := va_W) post (fun w1 t => PP G w1 t.heap ∧ va_D (va_A w sz) w1) (va_A w sz)) (xq_X (S := va_W) (fun _ => True) (fun E q w1 t => px E q w1 ∧ PP G w1 t.heap ∧ va_D (va_A w sz) w1) (va_A w sz)) mc ms (va_A w sz)
theorem mti_mkg {l : Launch} {y : MethodName} {b : ByteArray} {L : Nat} {rt : Option FieldType} {rm : Room} {av : List Value} {w : va_W} {G : GG} {K : State → Prop} {mc ms : Nat} {post : Int32 → va_W → Prop} {px : String → Nat → va_W → Prop} (own : String) (hy : plainName y.cls = true) (ho : y.cls = own) (hn : (lg_sl av).length ≤ L)
    (body : ∀ (p : Program) (e : Env) (s : State) (m : MethodId) (args : Array Value) (below : List Frame) (meth : Method) (c : Code) (A : Nat → Prop), Cx p c meth s args m b L rt own → (∀ x ∈ c.exceptionTable.toList, False) → (∀ q : Nat, s.heap.size ≤ q → A q) → (∀ q : Nat, A q → va_A w s.heap.size q) → PP G w s.heap → K s → va_D A w → ∀ ls : Array Slot, lv_has ls L (lv_args 0 av) → W p l e rm s m args below meth c s.heap [] 0 0 (xq_MQ below (va_Qi (S := va_W) post (fun w1 t => PP G w1 t.heap ∧ va_D A w1) A) (xq_X (S := va_W) (fun _ => True) (fun E q w1 t => px E q w1 ∧ PP G w1 t.heap ∧ va_D A w1) A) args s mc ms A) (F0 m 0 ls [])) : MTi l y b L rt rm av w G K mc ms post px := by
  intro sz
  refine xq_ofW (cc := b) (maxL := L) (ret := rt) hy rfl ?_
  intro p e s m args below meth c s₁ B hml ht9 hv
  obtain ⟨rfl, hsz, hP, hK, hD0⟩ := hv
  subst hsz
  have hts := atoms_spec (ws := ws_ y b L rt) B.pre
  have hown : s.vm.findClass y.cls = some m.cls := findClass_of_methodNamed B.named
  rw [lg_entry_eq]
  exact body p e s m _ below meth c (va_A w s.heap.size) ⟨B.exec, B.bytes, B.returns, B.notSynchronized, hml, by rw [← ho]; exact hown, fun w h => hts w (List.mem_cons_of_mem _ h)⟩ ht9 (fun q h => Or.inr h) (fun q h => h) hP hK hD0.self _ (lv_entry av hn)
theorem c_VTi {y : MethodName} {b : ByteArray} {L : Nat} {rt : Option FieldType} {rm : Room} {o : Nat} {av : List Value} {ws wc wr : va_W} {G : GG} {K : State → Prop} {mc ms : Nat} {post : Int32 → va_W → Prop} {px : String → Nat → va_W → Prop} {A : Nat → Prop} {H0 : Heap} {idx : Nat} {lv : List (Nat × Value)} {st0 : List Value} {CC : String} (C : Cx p c meth s args m cc L0 rt0 own) (hM : MTi l y b L rt rm (.ref o :: av) wc G K mc ms post px) (n : Nat) (hG : GoodIn lw_all (wsV own idx CC y (ws_ y b L rt))) (hd : y.cls = CC ∧ y.cls ≠ "java/lang/invoke/MethodHandle" ∧ y.cls ≠ "java/lang/invoke/VarHandle" ∧ (parseMethodDescriptor y.desc).map (fun d => d.parameters.length) = some n) (hrm : rm.cells = mc ∧ rm.slots = ms) (hR : rm.frames + 1 ≤ R.frames ∧ 8 + (L + 11) + rm.locals ≤ R.locals) (hKc : ∀ (U : State) (g : JFrame) (mk : MethodId) (a : Array Value), K U → K (U.calling g mk a)) (hKU : ∀ U : State, U.heap = H → s.WarmedH U.vm → K U) (hrc : Rcv s H CC o) (hA : ∀ q : Nat, H0.size ≤ q → A q) (hP : PP G ws H) (hD : va_D A ws) (hS : va_S A H0 H locs) (isC isR : List Nat) (hC : isC.map (fun i => ws[i]?) = wc.map some) (hRr : isR.map (fun i => ws[i]?) = wr.map some) (hnC : va_nd isC = true) (hnR : va_nd isR = true) (hdis : ∀ i ∈ isR, i ∉ isC) (hl : lv_has ls L0 lv) (hn : av.length = n) (hst : st0 = av.reverse ++ .ref o :: rest) (hW : (rest.map fun v => v.category).sum ≤ 8) (hcs : cells + mc ≤ R.cells ∧ slots + ms ≤ R.slots) (hdg : decode cc pc = .ok (.invokevirtual idx, 3)) (kx : ∀ (E : String) (ce : Cell) (q9 : Nat) (w1 : va_W) (H1 : Heap) (locs1 : List Loc), px E q9 w1 → PP G (wr ++ w1) H1 → va_D A (wr ++ w1) → va_S A H0 H1 locs1 → H1[q9]? = some ce → ce.vm = .none → s.vm.findClass E = some ce.cls → vx_W p l e R s m args below meth c H1 locs1 (cells + mc) (slots + ms) Q (F0 m pc ls rest) q9) (kk : ∀ (r : Int32) (w1 : va_W) (H1 : Heap) (locs1 : List Loc), post r w1 → PP G (wr ++ w1) H1 → va_D A (wr ++ w1) → va_S A H0 H1 locs1 → W p l e R s m args below meth c H1 locs1 (cells + mc) (slots + ms) Q (F0 m (pc + 3) ls (.int r :: rest))) : W p l e R s m args below meth c H locs cells slots Q (F0 m pc ls st0) := by
  obtain ⟨hPc, hDc⟩ := c_cut hP hD isC hC hnC
  have hFc := va_free (wc := wc) hD hS hA isC hC
  refine xq_calli (xq_runV (As := av) (rest := rest) ⟨C.1, C.2.1, C.2.2.2.2.1, C.2.2.2.2.2.1, C.2.2.2.2.2.2⟩ (hM H.size) (cwV n C.2.2.2.2.2.2 hG rfl hrm.1 hrm.2 hd hR) ⟨fun _ _ _ _ q => ⟨q.1, q.2.1, q.2.2.1, hKc _ _ _ _ q.2.2.2.1, q.2.2.2.2⟩, hrc, fun U hU hWm => ⟨rfl, by rw [hU], by rw [hU]; exact hPc, hKU _ hU hWm, hDc⟩⟩ rfl hn hl.1 hst (lv_room hW) hdg hcs) hS (fun q _ h => hFc q h) hFc (fun q _ h => hFc q h) (fun E ce q9 w1 t H1 locs1 ht _ _ hB _ hk hS1 hce hcv hcl => ?_) (fun r w1 t H1 locs1 ht _ hpost hB _ hk hS1 => ?_)
  · obtain ⟨hpx, hP1, hD1⟩ := hB
    rw [ht] at hP1
    obtain ⟨hP2, hD2⟩ := va_join hP hD isC isR hC hRr hnR hdis hk hFc hP1 hD1
    exact kx E ce q9 w1 H1 locs1 hpx hP2 hD2 hS1 hce hcv hcl
  · obtain ⟨hP1, hD1⟩ := hB
    rw [ht] at hP1
    obtain ⟨hP2, hD2⟩ := va_join hP hD isC isR hC hRr hnR hdis hk hFc hP1 hD1
    exact kk r w1 H1 locs1 hpost hP2 hD2 hS1
def MTv (l : Launch) (y : MethodName) (b : ByteArray) (L : Nat) (rt : Option FieldType) (rm : Room) (av : List Value) (w : va_W) (G : GG) (K : State → Prop) (mc ms : Nat) (post : va_W → Prop) (px : String → Nat → va_W → Prop) : Prop :=
  ∀ sz : Nat, xq_Met l y (ws_ y b L rt) rm (va_Pc av (fun U => U.heap.size = sz ∧ PP G w U.heap ∧ K U ∧ va_D (fun _ => True) w)) (va_Qv (S := va_W) post (fun w1 t => PP G w1 t.heap ∧ va_D (va_A w sz) w1) (va_A w sz)) (xq_X (S := va_W) (fun _ => True) (fun E q w1 t => px E q w1 ∧ PP G w1 t.heap ∧ va_D (va_A w sz) w1) (va_A w sz)) mc ms (va_A w sz)
theorem mtv_mkg {l : Launch} {y : MethodName} {b : ByteArray} {L : Nat} {rt : Option FieldType} {rm : Room} {av : List Value} {w : va_W} {G : GG} {K : State → Prop} {mc ms : Nat} {post : va_W → Prop} {px : String → Nat → va_W → Prop} (own : String) (hy : plainName y.cls = true) (ho : y.cls = own) (hn : (lg_sl av).length ≤ L)
    (body : ∀ (p : Program) (e : Env) (s : State) (m : MethodId) (args : Array Value) (below : List Frame) (meth : Method) (c : Code) (A : Nat → Prop), Cx p c meth s args m b L rt own → (∀ x ∈ c.exceptionTable.toList, False) → meth.name = y.name → (∀ q : Nat, s.heap.size ≤ q → A q) → (∀ q : Nat, A q → va_A w s.heap.size q) → PP G w s.heap → K s → va_D A w → ∀ ls : Array Slot, lv_has ls L (lv_args 0 av) → W p l e rm s m args below meth c s.heap [] 0 0 (xq_MQ below (va_Qv (S := va_W) post (fun w1 t => PP G w1 t.heap ∧ va_D A w1) A) (xq_X (S := va_W) (fun _ => True) (fun E q w1 t => px E q w1 ∧ PP G w1 t.heap ∧ va_D A w1) A) args s mc ms A) (F0 m 0 ls [])) : MTv l y b L rt rm av w G K mc ms post px := by
  intro sz
  refine xq_ofW (cc := b) (maxL := L) (ret := rt) hy rfl ?_
  intro p e s m args below meth c s₁ B hml ht9 hv
  obtain ⟨rfl, hsz, hP, hK, hD0⟩ := hv
  subst hsz
  have hts := atoms_spec (ws := ws_ y b L rt) B.pre
  have hown : s.vm.findClass y.cls = some m.cls := findClass_of_methodNamed B.named
  rw [lg_entry_eq]
  exact body p e s m _ below meth c (va_A w s.heap.size) ⟨B.exec, B.bytes, B.returns, B.notSynchronized, hml, by rw [← ho]; exact hown, fun w h => hts w (List.mem_cons_of_mem _ h)⟩ ht9 (name_of_methodNamed B.named B.method).1 (fun q h => Or.inr h) (fun q h => h) hP hK hD0.self _ (lv_entry av hn)
theorem c_VTv {y : MethodName} {b : ByteArray} {L : Nat} {rt : Option FieldType} {rm : Room} {o : Nat} {av : List Value} {ws wc wr : va_W} {G : GG} {K : State → Prop} {mc ms : Nat} {post : va_W → Prop} {px : String → Nat → va_W → Prop} {A : Nat → Prop} {H0 : Heap} {idx : Nat} {lv : List (Nat × Value)} {st0 : List Value} {CC : String} (C : Cx p c meth s args m cc L0 rt0 own) (hM : MTv l y b L rt rm (.ref o :: av) wc G K mc ms post px) (n : Nat) (hG : GoodIn lw_all (wsV own idx CC y (ws_ y b L rt))) (hd : y.cls = CC ∧ y.cls ≠ "java/lang/invoke/MethodHandle" ∧ y.cls ≠ "java/lang/invoke/VarHandle" ∧ (parseMethodDescriptor y.desc).map (fun d => d.parameters.length) = some n) (hrm : rm.cells = mc ∧ rm.slots = ms) (hR : rm.frames + 1 ≤ R.frames ∧ 8 + (L + 11) + rm.locals ≤ R.locals) (hKc : ∀ (U : State) (g : JFrame) (mk : MethodId) (a : Array Value), K U → K (U.calling g mk a)) (hKU : ∀ U : State, U.heap = H → s.WarmedH U.vm → K U) (hrc : Rcv s H CC o) (hA : ∀ q : Nat, H0.size ≤ q → A q) (hP : PP G ws H) (hD : va_D A ws) (hS : va_S A H0 H locs) (isC isR : List Nat) (hC : isC.map (fun i => ws[i]?) = wc.map some) (hRr : isR.map (fun i => ws[i]?) = wr.map some) (hnC : va_nd isC = true) (hnR : va_nd isR = true) (hdis : ∀ i ∈ isR, i ∉ isC) (hl : lv_has ls L0 lv) (hn : av.length = n) (hst : st0 = av.reverse ++ .ref o :: rest) (hW : (rest.map fun v => v.category).sum ≤ 8) (hcs : cells + mc ≤ R.cells ∧ slots + ms ≤ R.slots) (hdg : decode cc pc = .ok (.invokevirtual idx, 3)) (kx : ∀ (E : String) (ce : Cell) (q9 : Nat) (w1 : va_W) (H1 : Heap) (locs1 : List Loc), px E q9 w1 → PP G (wr ++ w1) H1 → va_D A (wr ++ w1) → va_S A H0 H1 locs1 → H1[q9]? = some ce → ce.vm = .none → s.vm.findClass E = some ce.cls → vx_W p l e R s m args below meth c H1 locs1 (cells + mc) (slots + ms) Q (F0 m pc ls rest) q9) (kk : ∀ (w1 : va_W) (H1 : Heap) (locs1 : List Loc), post w1 → PP G (wr ++ w1) H1 → va_D A (wr ++ w1) → va_S A H0 H1 locs1 → W p l e R s m args below meth c H1 locs1 (cells + mc) (slots + ms) Q (F0 m (pc + 3) ls rest)) : W p l e R s m args below meth c H locs cells slots Q (F0 m pc ls st0) := by
  obtain ⟨hPc, hDc⟩ := c_cut hP hD isC hC hnC
  have hFc := va_free (wc := wc) hD hS hA isC hC
  refine xq_callv (xq_runV (As := av) (rest := rest) ⟨C.1, C.2.1, C.2.2.2.2.1, C.2.2.2.2.2.1, C.2.2.2.2.2.2⟩ (hM H.size) (cwV n C.2.2.2.2.2.2 hG rfl hrm.1 hrm.2 hd hR) ⟨fun _ _ _ _ q => ⟨q.1, q.2.1, q.2.2.1, hKc _ _ _ _ q.2.2.2.1, q.2.2.2.2⟩, hrc, fun U hU hWm => ⟨rfl, by rw [hU], by rw [hU]; exact hPc, hKU _ hU hWm, hDc⟩⟩ rfl hn hl.1 hst (lv_room hW) hdg hcs) hS (fun q _ h => hFc q h) hFc (fun q _ h => hFc q h) (fun E ce q9 w1 t H1 locs1 ht _ _ hB _ hk hS1 hce hcv hcl => ?_) (fun w1 t H1 locs1 ht _ hpost hB _ hk hS1 => ?_)
  · obtain ⟨hpx, hP1, hD1⟩ := hB
    rw [ht] at hP1
    obtain ⟨hP2, hD2⟩ := va_join hP hD isC isR hC hRr hnR hdis hk hFc hP1 hD1
    exact kx E ce q9 w1 H1 locs1 hpx hP2 hD2 hS1 hce hcv hcl
  · obtain ⟨hP1, hD1⟩ := hB
    rw [ht] at hP1
    obtain ⟨hP2, hD2⟩ := va_join hP hD isC isR hC hRr hnR hdis hk hFc hP1 hD1
    exact kk w1 H1 locs1 hpost hP2 hD2 hS1
def MTq (l : Launch) (y : MethodName) (b : ByteArray) (L : Nat) (rt : Option FieldType) (rm : Room) (av : List Value) (w : va_W) (G : GG) (K : State → Prop) (mc ms : Nat) (post : Option Nat → va_W → Prop) (px : String → Nat → va_W → Prop) : Prop :=
  ∀ sz : Nat, xq_Met l y (ws_ y b L rt) rm (va_Pc av (fun U => U.heap.size = sz ∧ PP G w U.heap ∧ K U ∧ va_D (fun _ => True) w)) (va_Qq (S := va_W) post (fun w1 t => PP G w1 t.heap ∧ va_D (va_A w sz) w1) (va_A w sz)) (xq_X (S := va_W) (fun _ => True) (fun E q w1 t => px E q w1 ∧ PP G w1 t.heap ∧ va_D (va_A w sz) w1) (va_A w sz)) mc ms (va_A w sz)
theorem mtq_mkg {l : Launch} {y : MethodName} {b : ByteArray} {L : Nat} {rt : Option FieldType} {rm : Room} {av : List Value} {w : va_W} {G : GG} {K : State → Prop} {mc ms : Nat} {post : Option Nat → va_W → Prop} {px : String → Nat → va_W → Prop} (own : String) (hy : plainName y.cls = true) (ho : y.cls = own) (hn : (lg_sl av).length ≤ L)
    (body : ∀ (p : Program) (e : Env) (s : State) (m : MethodId) (args : Array Value) (below : List Frame) (meth : Method) (c : Code) (A : Nat → Prop), Cx p c meth s args m b L rt own → (∀ x ∈ c.exceptionTable.toList, False) → (∀ q : Nat, s.heap.size ≤ q → A q) → (∀ q : Nat, A q → va_A w s.heap.size q) → PP G w s.heap → K s → va_D A w → ∀ ls : Array Slot, lv_has ls L (lv_args 0 av) → W p l e rm s m args below meth c s.heap [] 0 0 (xq_MQ below (va_Qq (S := va_W) post (fun w1 t => PP G w1 t.heap ∧ va_D A w1) A) (xq_X (S := va_W) (fun _ => True) (fun E q w1 t => px E q w1 ∧ PP G w1 t.heap ∧ va_D A w1) A) args s mc ms A) (F0 m 0 ls [])) : MTq l y b L rt rm av w G K mc ms post px := by
  intro sz
  refine xq_ofW (cc := b) (maxL := L) (ret := rt) hy rfl ?_
  intro p e s m args below meth c s₁ B hml ht9 hv
  obtain ⟨rfl, hsz, hP, hK, hD0⟩ := hv
  subst hsz
  have hts := atoms_spec (ws := ws_ y b L rt) B.pre
  have hown : s.vm.findClass y.cls = some m.cls := findClass_of_methodNamed B.named
  rw [lg_entry_eq]
  exact body p e s m _ below meth c (va_A w s.heap.size) ⟨B.exec, B.bytes, B.returns, B.notSynchronized, hml, by rw [← ho]; exact hown, fun w h => hts w (List.mem_cons_of_mem _ h)⟩ ht9 (fun q h => Or.inr h) (fun q h => h) hP hK hD0.self _ (lv_entry av hn)
theorem c_VTq {y : MethodName} {b : ByteArray} {L : Nat} {rt : Option FieldType} {rm : Room} {o : Nat} {av : List Value} {ws wc wr : va_W} {G : GG} {K : State → Prop} {mc ms : Nat} {post : Option Nat → va_W → Prop} {px : String → Nat → va_W → Prop} {A : Nat → Prop} {H0 : Heap} {idx : Nat} {lv : List (Nat × Value)} {st0 : List Value} {CC : String} (C : Cx p c meth s args m cc L0 rt0 own) (hM : MTq l y b L rt rm (.ref o :: av) wc G K mc ms post px) (n : Nat) (hG : GoodIn lw_all (wsV own idx CC y (ws_ y b L rt))) (hd : y.cls = CC ∧ y.cls ≠ "java/lang/invoke/MethodHandle" ∧ y.cls ≠ "java/lang/invoke/VarHandle" ∧ (parseMethodDescriptor y.desc).map (fun d => d.parameters.length) = some n) (hrm : rm.cells = mc ∧ rm.slots = ms) (hR : rm.frames + 1 ≤ R.frames ∧ 8 + (L + 11) + rm.locals ≤ R.locals) (hKc : ∀ (U : State) (g : JFrame) (mk : MethodId) (a : Array Value), K U → K (U.calling g mk a)) (hKU : ∀ U : State, U.heap = H → s.WarmedH U.vm → K U) (hrc : Rcv s H CC o) (hA : ∀ q : Nat, H0.size ≤ q → A q) (hP : PP G ws H) (hD : va_D A ws) (hS : va_S A H0 H locs) (isC isR : List Nat) (hC : isC.map (fun i => ws[i]?) = wc.map some) (hRr : isR.map (fun i => ws[i]?) = wr.map some) (hnC : va_nd isC = true) (hnR : va_nd isR = true) (hdis : ∀ i ∈ isR, i ∉ isC) (hl : lv_has ls L0 lv) (hn : av.length = n) (hst : st0 = av.reverse ++ .ref o :: rest) (hW : (rest.map fun v => v.category).sum ≤ 8) (hcs : cells + mc ≤ R.cells ∧ slots + ms ≤ R.slots) (hdg : decode cc pc = .ok (.invokevirtual idx, 3)) (kx : ∀ (E : String) (ce : Cell) (q9 : Nat) (w1 : va_W) (H1 : Heap) (locs1 : List Loc), px E q9 w1 → PP G (wr ++ w1) H1 → va_D A (wr ++ w1) → va_S A H0 H1 locs1 → H1[q9]? = some ce → ce.vm = .none → s.vm.findClass E = some ce.cls → vx_W p l e R s m args below meth c H1 locs1 (cells + mc) (slots + ms) Q (F0 m pc ls rest) q9) (kk : ∀ (r : Option Nat) (w1 : va_W) (H1 : Heap) (locs1 : List Loc), post r w1 → PP G (wr ++ w1) H1 → va_D A (wr ++ w1) → va_S A H0 H1 locs1 → W p l e R s m args below meth c H1 locs1 (cells + mc) (slots + ms) Q (F0 m (pc + 3) ls (va_rf r :: rest))) : W p l e R s m args below meth c H locs cells slots Q (F0 m pc ls st0) := by
  obtain ⟨hPc, hDc⟩ := c_cut hP hD isC hC hnC
  have hFc := va_free (wc := wc) hD hS hA isC hC
  refine xq_callq (xq_runV (As := av) (rest := rest) ⟨C.1, C.2.1, C.2.2.2.2.1, C.2.2.2.2.2.1, C.2.2.2.2.2.2⟩ (hM H.size) (cwV n C.2.2.2.2.2.2 hG rfl hrm.1 hrm.2 hd hR) ⟨fun _ _ _ _ q => ⟨q.1, q.2.1, q.2.2.1, hKc _ _ _ _ q.2.2.2.1, q.2.2.2.2⟩, hrc, fun U hU hWm => ⟨rfl, by rw [hU], by rw [hU]; exact hPc, hKU _ hU hWm, hDc⟩⟩ rfl hn hl.1 hst (lv_room hW) hdg hcs) hS (fun q _ h => hFc q h) hFc (fun q _ h => hFc q h) (fun E ce q9 w1 t H1 locs1 ht _ _ hB _ hk hS1 hce hcv hcl => ?_) (fun r w1 t H1 locs1 ht _ hpost hB _ hk hS1 => ?_)
  · obtain ⟨hpx, hP1, hD1⟩ := hB
    rw [ht] at hP1
    obtain ⟨hP2, hD2⟩ := va_join hP hD isC isR hC hRr hnR hdis hk hFc hP1 hD1
    exact kx E ce q9 w1 H1 locs1 hpx hP2 hD2 hS1 hce hcv hcl
  · obtain ⟨hP1, hD1⟩ := hB
    rw [ht] at hP1
    obtain ⟨hP2, hD2⟩ := va_join hP hD isC isR hC hRr hnR hdis hk hFc hP1 hD1
    exact kk r w1 H1 locs1 hpost hP2 hD2 hS1
/-- what is thrown leaves the method -/
theorem x_out {G : GG} {A : Nat → Prop} {mc ms : Nat} {px : String → Nat → va_W → Prop} {Qc : Array Value → State → Outcome → State → Prop} {E : String} {q : Nat} {w1 : va_W} {ce : Cell} (C : Cx p c meth s args m cc L0 rt0 own) (ht9 : ∀ x ∈ c.exceptionTable.toList, False) (hpx : px E q w1) (hP : PP G w1 H) (hD : va_D A w1) (hS : va_S A s.heap H locs) (h1 : cells ≤ mc) (h2 : slots ≤ ms) (hce : H[q]? = some ce) (hcv : ce.vm = .none) (hcl : s.vm.findClass E = some ce.cls) :
    vx_W p l e R s m args below meth c H locs cells slots (xq_MQ below Qc (xq_X (S := va_W) (fun _ => True) (fun E q w1 t => px E q w1 ∧ PP G w1 t.heap ∧ va_D A w1) A) args s mc ms A) (F0 m pc ls rest) q :=
  xq_out (fun x hx => (ht9 x hx).elim) C.2.2.2.1 hce hcv hcl (fun t ht _ => ⟨w1, trivial, ⟨hpx, by rw [ht]; exact hP, hD⟩, hS.F ht⟩) hS.2.2 h1 h2
/-- a known object is thrown and leaves the method -/
theorem x_thr {G : GG} {A : Nat → Prop} {mc ms q0 q ci : Nat} {fs : List Value} {E : String} {T : u_T} {N : Nat} {px : String → Nat → va_W → Prop} {Qc : Array Value → State → Outcome → State → Prop} {w1 : va_W} (C : Cx p c meth s args m cc L0 rt0 own) (hK : KM G s) (ht9 : ∀ x ∈ c.exceptionTable.toList, False) (hpx : px E q w1) (hP : PP G w1 H) (hD : va_D A w1) (hS : va_S A s.heap H locs) (h1 : cells ≤ mc) (h2 : slots ≤ ms) (hc : clAll[ci]? = some (E, T, N)) (he : w1[q0]? = some (q, .inr (ci, fs))) (hdg : decode cc pc = .ok (.athrow, 1)) :
    W p l e R s m args below meth c H locs cells slots (xq_MQ below Qc (xq_X (S := va_W) (fun _ => True) (fun E q w1 t => px E q w1 ∧ PP G w1 t.heap ∧ va_D A w1) A) args s mc ms A) (F0 m pc ls (.ref q :: rest)) := by
  obtain ⟨r9, hr9, cell9, g1, g2, g3, g4⟩ := hP q0 _ he
  have hr9' : clAll[ci]? = some r9 := hr9
  rw [hc] at hr9'
  cases Option.some.inj hr9'
  exact vx_athrow C.1 C.2.1 hdg (x_out C ht9 hpx hP hD hS h1 h2 g1 g3 (by rw [g2]; exact (hK.1 ci _ hc).2.1))
end R19
/-- a method with handlers, that doesn't throw -/
theorem x_ofWH {l : Launch} {y : MethodName} {ws ws' : List Cond} {rm : Room} {Pc : Array Value → State → Prop} {Qc : Array Value → State → Outcome → State → Prop} {mc ms : Nat} {free : Addr → Prop} {cc : ByteArray} {maxL : Nat} {ret : Option FieldType} {hh : List (Nat × Nat × Nat × Nat)}
    (hy : plainName y.cls = true) (hw : ws = Cond.codeWith y cc maxL ret hh :: ws')
    (body : ∀ p e s m args below meth c s₁, BodyLoose p l y (headSpec ws rm) cc maxL ret e s m args below meth c s₁ → c.maxLocals = maxL → Pc args s →
      W p l e (headSpec ws rm).room s m args below meth c s.heap [] 0 0 (MQ below Qc args s mc ms free) (entryFrame m args maxL)) : Met l y ws rm Pc Qc mc ms free := by
  refine MetFree.of_bodyS (code := cc) (maxLocals := maxL) (ret := ret) hy ?_ ?_
  · intro args s m h hn
    obtain ⟨m9, meth, c, hn9, h1, h2, h3, h4, -, h5, h6, -⟩ := Cond.codeWith_spec (atoms_spec (ws := ws) h _ (by rw [hw]; exact List.mem_cons_self))
    cases hn.symm.trans hn9
    exact ⟨meth, c, h1, h2, h3, h4, h5, h6⟩
  · intro p e s m args below meth c s₁ B hml hP _
    have hh0 : s₁.heap = s.heap := by rw [B.state]; rfl
    obtain ⟨t, a1, o, b1, b2, b3⟩ := body p e s m args below meth c s₁ B hml hP s₁ hh0 (Stand.of_body B)
    exact ⟨t, o, a1, b1, b2, ⟨b3.1, b3.2⟩⟩
def MWh (l : Launch) (y : MethodName) (b : ByteArray) (L : Nat) (rt : Option FieldType) (hh : List (Nat × Nat × Nat × Nat)) (rm : Room) (av : List Value) (w : va_W) (G : GG) (K : State → Prop) (mc ms : Nat) (post : Int32 → va_W → Prop) : Prop :=
  ∀ sz : Nat, Met l y (wsW_ y b L rt hh) rm (va_Pc av (fun U => U.heap.size = sz ∧ PP G w U.heap ∧ K U ∧ va_D (fun _ => True) w)) (va_Qi (S := va_W) post (fun w1 t => PP G w1 t.heap ∧ va_D (va_A w sz) w1) (va_A w sz)) mc ms (va_A w sz)
theorem mwh_mkg {l : Launch} {y : MethodName} {b : ByteArray} {L : Nat} {rt : Option FieldType} {hh : List (Nat × Nat × Nat × Nat)} {rm : Room} {av : List Value} {w : va_W} {G : GG} {K : State → Prop} {mc ms : Nat} {post : Int32 → va_W → Prop} (own : String) (hy : plainName y.cls = true) (ho : y.cls = own) (hn : (lg_sl av).length ≤ L)
    (body : ∀ (p : Program) (e : Env) (s : State) (m : MethodId) (args : Array Value) (below : List Frame) (meth : Method) (c : Code) (A : Nat → Prop), Cx p c meth s args m b L rt own → c.exceptionTable.toList = tableOf hh → (∀ q : Nat, s.heap.size ≤ q → A q) → (∀ q : Nat, A q → va_A w s.heap.size q) → PP G w s.heap → K s → va_D A w → ∀ ls : Array Slot, lv_has ls L (lv_args 0 av) → W p l e rm s m args below meth c s.heap [] 0 0 (MQ below (va_Qi (S := va_W) post (fun w1 t => PP G w1 t.heap ∧ va_D A w1) A) args s mc ms A) (F0 m 0 ls [])) : MWh l y b L rt hh rm av w G K mc ms post := by
  intro sz
  refine x_ofWH (cc := b) (maxL := L) (ret := rt) (hh := hh) hy rfl ?_
  intro p e s m args below meth c s₁ B hml hv
  obtain ⟨rfl, hsz, hP, hK, hD0⟩ := hv
  subst hsz
  have hts := atoms_spec (ws := wsW_ y b L rt hh) B.pre
  have hown : s.vm.findClass y.cls = some m.cls := findClass_of_methodNamed B.named
  rw [lg_entry_eq]
  exact body p e s m _ below meth c (va_A w s.heap.size) ⟨B.exec, B.bytes, B.returns, B.notSynchronized, hml, by rw [← ho]; exact hown, fun w h => hts w (List.mem_cons_of_mem _ h)⟩ (vx_table (x := y) B (hts _ List.mem_cons_self)) (fun q h => Or.inr h) (fun q h => h) hP hK hD0.self _ (lv_entry av hn)
