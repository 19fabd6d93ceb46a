/-! BASE 21: what the machine throws, its catching; failure() by the guest (printed by tools/mkbase21.py) -/
section R21
variable {p : Program} {l : Launch} {e : Env} {R : Room} {s : State} {m : MethodId} {args : Array Value} {below : List Frame} {meth : Method} {c : Code} {H : Heap} {locs : List Loc} {cells slots : Nat} {Q : State → Prop}
variable {cc : ByteArray} {pc : Nat} {ls : Array Slot} {rest : List Value} {L0 : Nat} {rt0 : Option FieldType} {own : String}
theorem GP.keptH {G : GG} {gm : GM} {H H1 : Heap} (h : GP G gm H) (hq : ∀ q : Nat, q < H.size → H1[q]? = H[q]?) : GP G gm H1 := fun y k f hy => ⟨(h y k f hy).1, (h y k f hy).2.kept (hq y (h y k f hy).2.lt)⟩
theorem x_note {G : GG} {gm : GM} {ws : va_W} {A : Nat → Prop} {E tx : String} {names : List String} (C : Cx p c meth s args m cc L0 rt0 own) (hl9 : l.stackTraces = false) (hX : XK s) (hP : PP G ws H) (hGP : GP G gm H) (hS : va_S A s.heap H locs) (hZ : ZA A s)
    (hE : Bundle.fit E = true ∧ (∀ n ∈ names, Bundle.fit n = true) ∧ (E == "java/lang/StackOverflowError") = false ∧ (E == "java/lang/OutOfMemoryError") = false) (ht : ∀ w ∈ vx_atM E names, w ∈ lw_tbl) (he : ∀ w ∈ vx_atM E names, w ∈ eAll) (hl : ls.size = L0)
    (h1 : (tx == notModelled) = false) (h2 : (stringBytes (stringToUtf16 tx)).size ≤ 1000) (hR : names.length + 4 < R.frames ∧ (rest.map fun v => v.category).sum + 10240 ≤ R.locals ∧ 13 * names.length + 55 ≤ 10240 ∧ cells + 3 ≤ R.cells ∧ slots + 1010 ≤ R.slots)
    (kx : ∀ (H1 : Heap) (q9 : Nat) (ce : Cell), PP G ws H1 → GP G gm H1 → va_S A s.heap H1 locs → H1[q9]? = some ce → ce.vm = .none → s.vm.findClass E = some ce.cls → vx_W p l e R s m args below meth c H1 locs (cells + 3) (slots + 1010) Q (F0 m pc ls rest) q9) : vx_Note p l e R s m args below meth c H locs cells slots Q (F0 m pc ls rest) E tx :=
  vx_vm (nb := 1000) C.1 hl9 hE.1 hE.2.1 hE.2.2.1 hE.2.2.2 (e_hat C.2.2.2.2.2.2 hX ht he) (fun w hw => eAll_ot w (he w hw)) hZ.1 hZ.2 hS (hl.trans C.2.2.2.2.1.symm) h1 h2 (by decide) hR.1 hR.2.1 hR.2.2.1 hR.2.2.2.1 hR.2.2.2.2 C.2.2.2.1
    (fun H1 q9 ce z1 z2 hS1 hce hcv hcl => kx H1 q9 ce (hP.kept fun k q hk => z2 q.1 (hP k q hk).lt) (hGP.keptH z2) hS1 hce hcv hcl)
theorem x_noteN {G : GG} {gm : GM} {ws : va_W} {A : Nat → Prop} (C : Cx p c meth s args m cc L0 rt0 own) (hl9 : l.stackTraces = false) (hX : XK s) (hP : PP G ws H) (hGP : GP G gm H) (hS : va_S A s.heap H locs) (hZ : ZA A s) (hl : ls.size = L0)
    (hR : 7 < R.frames ∧ (rest.map fun v => v.category).sum + 10240 ≤ R.locals ∧ cells + 1 ≤ R.cells ∧ slots + 8 ≤ R.slots)
    (kx : ∀ (H1 : Heap) (q9 : Nat) (ce : Cell), PP G ws H1 → GP G gm H1 → va_S A s.heap H1 locs → H1[q9]? = some ce → ce.vm = .none → s.vm.findClass "java/lang/NullPointerException" = some ce.cls → vx_W p l e R s m args below meth c H1 locs (cells + 1) (slots + 8) Q (F0 m pc ls rest) q9) : vx_NoteN p l e R s m args below meth c H locs cells slots Q (F0 m pc ls rest) :=
  vx_npe (nb := 8) C.1 hl9 (e_hat C.2.2.2.2.2.2 hX eNPE_tbl e_in1.2.2.2.1) (fun w hw => eAll_ot w (e_in1.2.2.2.1 w hw)) hZ.1 hZ.2 hS (hl.trans C.2.2.2.2.1.symm) hR.1 hR.2.1 hR.2.2.1 hR.2.2.2 C.2.2.2.1
    (fun H1 q9 ce z1 z2 hS1 hce hcv hcl => kx H1 q9 ce (hP.kept fun k q hk => z2 q.1 (hP k q hk).lt) (hGP.keptH z2) hS1 hce hcv hcl)
theorem x_catch {hh : List (Nat × Nat × Nat × Nat)} {E name : String} {q : Nat} {ce : Cell} (C : Cx p c meth s args m cc L0 rt0 own) (hX : XK s) (htab : c.exceptionTable.toList = tableOf hh) (pre : List ExceptionTableEntry) (x : ExceptionTableEntry) (suf : List ExceptionTableEntry) (hsp : tableOf hh = pre ++ x :: suf)
    (hpass : ∀ z ∈ pre, covers z pc = false ∨ (z.catchType ≠ 0 ∧ ∃ nm : String, Cond.classLink own z.catchType nm ∈ lw_all ∧ (E, nm) ∈ xn)) (hx : covers x pc = true) (h0 : x.catchType ≠ 0) (hlink : Cond.classLink own x.catchType name ∈ lw_all) (hcast : (E, name) ∈ xc) (hcell : H[q]? = some ce) (hv : ce.vm = .none) (hcl : s.vm.findClass E = some ce.cls)
    (kk : W p l e R s m args below meth c H locs cells slots Q (F0 m x.handlerPc ls [.ref q])) : vx_W p l e R s m args below meth c H locs cells slots Q (F0 m pc ls rest) q :=
  vx_catch C.2.2.2.2.2.1 pre x suf (htab.trans hsp) (fun z hz => (hpass z hz).imp id (fun h => ⟨h.1, h.2.imp fun nm g => ⟨C.2.2.2.2.2.2 _ g.1, hX.2.2.2.2.2.1 (E, nm) g.2⟩⟩)) hx h0 (C.2.2.2.2.2.2 _ hlink) (cast_w hX hcast) hcell hv hcl kk
theorem idx_text {i : Int32} {n : Nat} (hn : n < 2 ^ 31) {tx : String} (h : tx = (toString "Index " ++ toString i ++ toString " out of bounds for length " ++ toString n : String)) : (tx == notModelled) = false ∧ (stringBytes (stringToUtf16 tx)).size ≤ 1000 := by
  subst h
  exact ⟨index_text_modelled i n, Nat.le_trans (index_text_bytes i hn) (by decide)⟩
theorem E_cce : Bundle.fit "java/lang/ClassCastException" = true ∧ (∀ n ∈ eR, Bundle.fit n = true) ∧ (("java/lang/ClassCastException" : String) == "java/lang/StackOverflowError") = false ∧ (("java/lang/ClassCastException" : String) == "java/lang/OutOfMemoryError") = false := by decide +kernel
theorem E_nas : Bundle.fit "java/lang/NegativeArraySizeException" = true ∧ (∀ n ∈ eR, Bundle.fit n = true) ∧ (("java/lang/NegativeArraySizeException" : String) == "java/lang/StackOverflowError") = false ∧ (("java/lang/NegativeArraySizeException" : String) == "java/lang/OutOfMemoryError") = false := by decide +kernel
theorem E_aio : Bundle.fit "java/lang/ArrayIndexOutOfBoundsException" = true ∧ (∀ n ∈ "java/lang/IndexOutOfBoundsException" :: eR, Bundle.fit n = true) ∧ (("java/lang/ArrayIndexOutOfBoundsException" : String) == "java/lang/StackOverflowError") = false ∧ (("java/lang/ArrayIndexOutOfBoundsException" : String) == "java/lang/OutOfMemoryError") = false := by decide +kernel
theorem c_VOqk {y : MethodName} {b : ByteArray} {L : Nat} {rt : Option FieldType} {rm : Room} {o : Nat} {av : List Value} {ws wc wr : va_W} {G : GG} {K : State → Prop} {mc ms : Nat} {post : Option Nat → va_W → Prop} {A : Nat → Prop} {H0 : Heap} {idx : Nat} {lv : List (Nat × Value)} {st0 : List Value} {CC : String} (C : Cx p c meth s args m cc L0 rt0 own) (hM : MWq l y b L rt rm (.ref o :: av) wc G K mc ms post) (x : MethodName) (n : Nat) (hG : GoodIn lw_all (va_wsO own idx CC x.cls x y (ws_ y b L rt))) {b0 : ByteArray} {m0 : Nat} {r0 : Option FieldType} (h0 : Cond.code ⟨x.cls, x.name, x.desc⟩ b0 m0 r0 ∈ lw_all) (hd : x.cls ≠ "java/lang/invoke/MethodHandle" ∧ x.cls ≠ "java/lang/invoke/VarHandle" ∧ (parseMethodDescriptor x.desc).map (fun d => d.parameters.length) = some n) (hrm : rm.cells = mc ∧ rm.slots = ms) (hR : rm.frames + 1 ≤ R.frames ∧ 8 + (L + 11) + rm.locals ≤ R.locals) (hKc : ∀ (U : State) (g : JFrame) (mk : MethodId) (a : Array Value), K U → K (U.calling g mk a)) (hKU : ∀ U : State, U.heap = H → s.WarmedH U.vm → K U) (hrc : Rcv s H CC o) (hA : ∀ q : Nat, H0.size ≤ q → A q) (hP : PP G ws H) (hD : va_D A ws) (hS : va_S A H0 H locs) (isC isR : List Nat) (hC : isC.map (fun i => ws[i]?) = wc.map some) (hRr : isR.map (fun i => ws[i]?) = wr.map some) (hnC : va_nd isC = true) (hnR : va_nd isR = true) (hdis : ∀ i ∈ isR, i ∉ isC) (hl : lv_has ls L0 lv) (hn : av.length = n) (hst : st0 = av.reverse ++ .ref o :: rest) (hW : (rest.map fun v => v.category).sum ≤ 8) (hcs : cells + mc ≤ R.cells ∧ slots + ms ≤ R.slots) (hdg : decode cc pc = .ok (.invokevirtual idx, 3)) (kk : ∀ (r : Option Nat) (w1 : va_W) (H1 : Heap) (locs1 : List Loc), post r w1 → PP G (wr ++ w1) H1 → va_D A (wr ++ w1) → va_S A H0 H1 locs1 → W p l e R s m args below meth c H1 locs1 (cells + mc) (slots + ms) Q (F0 m (pc + 3) ls (va_rf r :: rest))) : W p l e R s m args below meth c H locs cells slots Q (F0 m pc ls st0) := by
  obtain ⟨hPc, hDc⟩ := c_cut hP hD isC hC hnC
  have hFc := va_free (wc := wc) hD hS hA isC hC
  refine va_callq (va_runU (As := av) (rest := rest) ⟨C.1, C.2.1, C.2.2.2.2.1, C.2.2.2.2.2.1, C.2.2.2.2.2.2⟩ (hM H.size) (va_cwO n C.2.2.2.2.2.2 hG rfl hrm.1 hrm.2 h0 hd hR) ⟨fun _ _ _ _ q => ⟨q.1, q.2.1, q.2.2.1, hKc _ _ _ _ q.2.2.2.1, q.2.2.2.2⟩, hrc, fun U hU hWm => ⟨rfl, by rw [hU], by rw [hU]; exact hPc, hKU _ hU hWm, hDc⟩⟩ rfl hn hl.1 hst (lv_room hW) hdg hcs) hS (fun q _ h => hFc q h) hFc (fun r w1 t H1 locs1 ht _ hpost hB _ hk hS1 => ?_)
  obtain ⟨hP1, hD1⟩ := hB
  rw [ht] at hP1
  obtain ⟨hP2, hD2⟩ := va_join hP hD isC isR hC hRr hnR hdis hk hFc hP1 hD1
  exact kk r w1 H1 locs1 hpost hP2 hD2 hS1
theorem x_rec {G : GG} {ws : va_W} {q0 q ci N : Nat} {fs : List Value} {E : String} {T : u_T} (hK : KM G s) (hP : PP G ws H) (hc : clAll[ci]? = some (E, T, N)) (he : ws[q0]? = some (q, .inr (ci, fs))) : ∃ ce : Cell, H[q]? = some ce ∧ ce.vm = .none ∧ s.vm.findClass E = some ce.cls := by
  obtain ⟨r9, hr9, cell9, g1, g2, g3, g4⟩ := hP q0 _ he
  have hr9' : clAll[ci]? = some r9 := hr9
  rw [hc] at hr9'
  cases Option.some.inj hr9'
  exact ⟨cell9, g1, g3, by rw [g2]; exact (hK.1 ci _ hc).2.1⟩
theorem mid_k {a b c : va_W} (k : Nat) (q : Nat × va_E) (h : (a ++ c)[k]? = some q) : (a ++ (b ++ c))[if k < a.length then k else k + b.length]? = some q := by
  by_cases h1 : k < a.length
  · rw [if_pos h1, List.getElem?_append_left h1]
    rw [List.getElem?_append_left h1] at h
    exact h
  · have h2 : a.length ≤ k := by omega
    rw [List.getElem?_append_right h2] at h
    rw [if_neg h1, List.getElem?_append_right (by omega), List.getElem?_append_right (by omega)]
    rw [show k + b.length - a.length - b.length = k - a.length by omega]
    exact h
theorem mid_P {G : GG} {a b c : va_W} {H : Heap} (h : PP G (a ++ (b ++ c)) H) : PP G (a ++ c) H := va_P.by h (fun k => if k < a.length then k else k + b.length) mid_k
theorem mid_D {A : Nat → Prop} {a b c : va_W} (h : va_D A (a ++ (b ++ c))) : va_D A (a ++ c) := va_D.by h (fun k => if k < a.length then k else k + b.length) mid_k (fun i j _ _ e => by

  split at e <;> split at e <;> omega)
def arn (t : Nat) : String := if t = 1 then "[B" else if t = 2 then "[S" else "[I"
theorem nmT {G : GG} {t : Nat} (hK : KM G s) (ht : t < 3) : s.vm.findClass (arn t) = some (G.2.2 t) := by
  have h3 : t = 0 ∨ t = 1 ∨ t = 2 := by omega
  rcases h3 with rfl | rfl | rfl
  · exact nmA0 hK
  · exact nmA1 hK
  · exact nmA2 hK
theorem arn_cc (t : Nat) : packageOf (arn t) = "" ∧ (dotted (arn t)).toList.length ≤ 30 := by
  unfold arn
  split
  · exact arr_cc.1
  · split
    · exact arr_cc.2.1
    · exact arr_cc.2.2.1
/-- a row is no guest, nor of another class of arrays -/
theorem n_castXT {G : GG} {ws : va_W} {t q0 a n ix : Nat} {f : Nat → Int32} {nm : String} (C : Cx p c meth s args m cc L0 rt0 own) (hM : MR1 s) (hK : KX G s) (ht : t < 3) (hP : PP G ws H) (ha : ws[q0]? = some (a, tA G t n f)) (hn : (arn t, nm) ∈ xn) (h2 : packageOf nm = "" ∧ (dotted nm).toList.length ≤ 30) (hlink : Cond.classLink own ix nm ∈ lw_all) (hdg : decode cc pc = .ok (.checkcast ix, 3))
    (k : ∀ tx : String, (tx == notModelled) = false → (stringBytes (stringToUtf16 tx)).size ≤ 1000 → vx_Note p l e R s m args below meth c H locs cells slots Q (F0 m pc ls (.ref a :: rest)) "java/lang/ClassCastException" tx) : W p l e R s m args below meth c H locs cells slots Q (F0 m pc ls (.ref a :: rest)) :=
  n_castX C hM (hK.2.2.2.2.2.2.1 (arn t, nm) hn) (arn_cc t) h2 (rcvT hP ha (nmT hK.1 ht)) hlink hdg k
theorem n_castXG {G : GG} {gm : GM} {y k ix : Nat} {f : Int32} {nm : String} (C : Cx p c meth s args m cc L0 rt0 own) (hM : MR1 s) (hK : KX G s) (hG : GP G gm H) (hy : gm y = some (k, f)) (hn : (gnm k, nm) ∈ xn) (h2 : packageOf nm = "" ∧ (dotted nm).toList.length ≤ 30) (hlink : Cond.classLink own ix nm ∈ lw_all) (hdg : decode cc pc = .ok (.checkcast ix, 3))
    (kk : ∀ tx : String, (tx == notModelled) = false → (stringBytes (stringToUtf16 tx)).size ≤ 1000 → vx_Note p l e R s m args below meth c H locs cells slots Q (F0 m pc ls (.ref y :: rest)) "java/lang/ClassCastException" tx) : W p l e R s m args below meth c H locs cells slots Q (F0 m pc ls (.ref y :: rest)) :=
  n_castX C hM (hK.2.2.2.2.2.2.1 (gnm k, nm) hn) (gnm_cc k (hG y k f hy).1) h2 (rcvG hK.1 hG hy) hlink hdg kk
def tosX (k : Nat) (v : Int32) : Option Int32 := if k = 4 ∨ k = 7 then none else if v = 0 then none else if k = 3 then some (v + 100) else if k = 5 then some (200 + (4 + 6 + v)) else some v
theorem g_failure {G : GG} {k o : Nat} {f : Int32} {ws : va_W} {A : Nat → Prop} {lv : List (Nat × Value)} (C : Cx p c meth s args m cc L0 rt0 RX1) (hl9 : l.stackTraces = false) (hK : KX G s) (hZ : ZA A s) (hk : k < 8) (hG : PP G [(o, .inr (6 + k, [.int f]))] H) (hA : ∀ q : Nat, s.heap.size ≤ q → A q) (hP : PP G ws H) (hD : va_D A ws) (hS : va_S A s.heap H locs) (isR : List Nat) (hRr : isR.map (fun i => ws[i]?) = ws.map some) (hnR : va_nd isR = true) (hl : lv_has ls L0 lv) (hW : (rest.map fun v => v.category).sum ≤ 8) (hR : 14 ≤ R.frames ∧ 1000 ≤ R.locals) (hcs : cells + 3 ≤ R.cells ∧ slots + 21 ≤ R.slots) (hdg : decode cc pc = .ok (.invokevirtual 366, 3))
    (k0 : tosX k f = none → ∀ (H1 : Heap) (locs1 : List Loc), PP G ws H1 → va_D A ws → va_S A s.heap H1 locs1 → W p l e R s m args below meth c H1 locs1 (cells + 3) (slots + 21) Q (F0 m (pc + 3) ls (.null :: rest)))
    (k1 : ∀ n : Int32, tosX k f = some n → ∀ (q : Nat) (fv : Nat → Value) (H1 : Heap) (locs1 : List Loc), PP G (ws ++ [(q, eO 15 fv n)]) H1 → va_D A (ws ++ [(q, eO 15 fv n)]) → va_S A s.heap H1 locs1 → W p l e R s m args below meth c H1 locs1 (cells + 3) (slots + 21) Q (F0 m (pc + 3) ls (.ref q :: rest))) : W p l e R s m args below meth c H locs cells slots Q (F0 m pc ls (.ref o :: rest)) := by
  have hk8 : k = 0 ∨ k = 1 ∨ k = 2 ∨ k = 3 ∨ k = 4 ∨ k = 5 ∨ k = 6 ∨ k = 7 := by omega
  have hKF : ∀ U : State, U.heap = H → s.WarmedH U.vm → KF G o k f U := KF.at hK hZ hS hG
  rcases hk8 with rfl | rfl | rfl | rfl | rfl | rfl | rfl | rfl
  · refine c_VOqk (wc := []) (wr := ws) (CC := "CakesToTheWatched$Guest") (rest := rest) C (metX8_failure l hl9 G o 0 (by decide) f) ⟨"CakesToTheWatched$Guest", "failure", "()LCakesToTheWatched$Tossed;"⟩ 0 (lw_O q981 q984 q982 q983 q982 q52 q1000) q1000 (by decide +kernel) ⟨rfl, rfl⟩ ⟨Nat.le_trans (by decide) hR.1, Nat.le_trans (by decide) hR.2⟩ KF.call hKF (va_recv (q0 := 0) hK.1 hG rfl rfl) hA hP hD hS [] isR rfl hRr rfl hnR (fun _ _ h => nomatch h) hl rfl rfl hW ⟨by omega, by omega⟩ hdg (fun r9 w1 H1 locs1 hq hP hD hS => ?_)
    by_cases c9 : f = 0
    · rw [if_pos c9] at hq
      obtain ⟨rfl, rfl⟩ := hq
      rw [List.append_nil] at hP hD
      exact W.widen (by omega) (by omega) (k0 (by unfold tosX; rw [if_neg (by decide), if_pos c9]) H1 locs1 hP hD hS)
    · rw [if_neg c9] at hq
      obtain ⟨q, fv, rfl, rfl⟩ := hq
      exact W.widen (by omega) (by omega) (k1 f (by unfold tosX; rw [if_neg (by decide), if_neg c9, if_neg (by decide), if_neg (by decide)]) q fv H1 locs1 hP hD hS)
  · refine c_VOqk (wc := []) (wr := ws) (CC := "CakesToTheWatched$Child") (rest := rest) C (metX8_failure l hl9 G o 1 (by decide) f) ⟨"CakesToTheWatched$Guest", "failure", "()LCakesToTheWatched$Tossed;"⟩ 0 (lw_O q981 q984 q982 q988 q982 q52 q1000) q1000 (by decide +kernel) ⟨rfl, rfl⟩ ⟨Nat.le_trans (by decide) hR.1, Nat.le_trans (by decide) hR.2⟩ KF.call hKF (va_recv (q0 := 0) hK.1 hG rfl rfl) hA hP hD hS [] isR rfl hRr rfl hnR (fun _ _ h => nomatch h) hl rfl rfl hW ⟨by omega, by omega⟩ hdg (fun r9 w1 H1 locs1 hq hP hD hS => ?_)
    by_cases c9 : f = 0
    · rw [if_pos c9] at hq
      obtain ⟨rfl, rfl⟩ := hq
      rw [List.append_nil] at hP hD
      exact W.widen (by omega) (by omega) (k0 (by unfold tosX; rw [if_neg (by decide), if_pos c9]) H1 locs1 hP hD hS)
    · rw [if_neg c9] at hq
      obtain ⟨q, fv, rfl, rfl⟩ := hq
      exact W.widen (by omega) (by omega) (k1 f (by unfold tosX; rw [if_neg (by decide), if_neg c9, if_neg (by decide), if_neg (by decide)]) q fv H1 locs1 hP hD hS)
  · refine c_VOqk (wc := []) (wr := ws) (CC := "CakesToTheWatched$Deacon") (rest := rest) C (metX8_failure l hl9 G o 2 (by decide) f) ⟨"CakesToTheWatched$Guest", "failure", "()LCakesToTheWatched$Tossed;"⟩ 0 (lw_O q981 q984 q982 q992 q982 q52 q1000) q1000 (by decide +kernel) ⟨rfl, rfl⟩ ⟨Nat.le_trans (by decide) hR.1, Nat.le_trans (by decide) hR.2⟩ KF.call hKF (va_recv (q0 := 0) hK.1 hG rfl rfl) hA hP hD hS [] isR rfl hRr rfl hnR (fun _ _ h => nomatch h) hl rfl rfl hW ⟨by omega, by omega⟩ hdg (fun r9 w1 H1 locs1 hq hP hD hS => ?_)
    by_cases c9 : f = 0
    · rw [if_pos c9] at hq
      obtain ⟨rfl, rfl⟩ := hq
      rw [List.append_nil] at hP hD
      exact W.widen (by omega) (by omega) (k0 (by unfold tosX; rw [if_neg (by decide), if_pos c9]) H1 locs1 hP hD hS)
    · rw [if_neg c9] at hq
      obtain ⟨q, fv, rfl, rfl⟩ := hq
      exact W.widen (by omega) (by omega) (k1 f (by unfold tosX; rw [if_neg (by decide), if_neg c9, if_neg (by decide), if_neg (by decide)]) q fv H1 locs1 hP hD hS)
  · refine c_VOqk (wc := []) (wr := ws) (CC := "CakesToTheWatched$Taster") (rest := rest) C (metX11_failure_3 l hl9 G o f) ⟨"CakesToTheWatched$Guest", "failure", "()LCakesToTheWatched$Tossed;"⟩ 0 (lw_O q981 q984 q982 q1026 q997 q55 q998) q1000 (by decide +kernel) ⟨rfl, rfl⟩ ⟨Nat.le_trans (by decide) hR.1, Nat.le_trans (by decide) hR.2⟩ KF.call hKF (va_recv (q0 := 0) hK.1 hG rfl rfl) hA hP hD hS [] isR rfl hRr rfl hnR (fun _ _ h => nomatch h) hl rfl rfl hW ⟨by omega, by omega⟩ hdg (fun r9 w1 H1 locs1 hq hP hD hS => ?_)
    by_cases c9 : f = 0
    · obtain ⟨rfl, rfl⟩ := hq.1 c9
      rw [List.append_nil] at hP hD
      exact W.widen (by omega) (by omega) (k0 (by unfold tosX; rw [if_neg (by decide), if_pos c9]) H1 locs1 hP hD hS)
    · obtain ⟨q, q1, fv, f1, rfl, rfl⟩ := hq.2 c9
      exact W.widen (by omega) (by omega) (k1 (f + 100) (by unfold tosX; rw [if_neg (by decide), if_neg c9, if_pos rfl]) q fv H1 locs1 (mid_P (b := [(q1, eO 15 f1 f)]) hP) (mid_D (b := [(q1, eO 15 f1 f)]) hD) hS)
  · refine c_VOqk (wc := []) (wr := ws) (CC := "CakesToTheWatched$Blind") (rest := rest) C (metX12_failure l hl9 G o 4 f) ⟨"CakesToTheWatched$Guest", "failure", "()LCakesToTheWatched$Tossed;"⟩ 0 (lw_O q981 q984 q982 q985 q986 q56 q987) q1000 (by decide +kernel) ⟨rfl, rfl⟩ ⟨Nat.le_trans (by decide) hR.1, Nat.le_trans (by decide) hR.2⟩ KF.call hKF (va_recv (q0 := 0) hK.1 hG rfl rfl) hA hP hD hS [] isR rfl hRr rfl hnR (fun _ _ h => nomatch h) hl rfl rfl hW ⟨by omega, by omega⟩ hdg (fun r9 w1 H1 locs1 hq hP hD hS => ?_)
    obtain ⟨rfl, rfl⟩ := hq
    rw [List.append_nil] at hP hD
    exact W.widen (by omega) (by omega) (k0 (by unfold tosX; rw [if_pos (by decide)]) H1 locs1 hP hD hS)
  · refine c_VOqk (wc := []) (wr := ws) (CC := "CakesToTheWatched$Expert") (rest := rest) C (metX13_failure l hl9 G o f) ⟨"CakesToTheWatched$Guest", "failure", "()LCakesToTheWatched$Tossed;"⟩ 0 (lw_O q981 q984 q982 q993 q994 q57 q995) q1000 (by decide +kernel) ⟨rfl, rfl⟩ ⟨Nat.le_trans (by decide) hR.1, Nat.le_trans (by decide) hR.2⟩ KF.call hKF (va_recv (q0 := 0) hK.1 hG rfl rfl) hA hP hD hS [] isR rfl hRr rfl hnR (fun _ _ h => nomatch h) hl rfl rfl hW ⟨by omega, by omega⟩ hdg (fun r9 w1 H1 locs1 hq hP hD hS => ?_)
    by_cases c9 : f = 0
    · obtain ⟨rfl, rfl⟩ := hq.1 c9
      rw [List.append_nil] at hP hD
      exact W.widen (by omega) (by omega) (k0 (by unfold tosX; rw [if_neg (by decide), if_pos c9]) H1 locs1 hP hD hS)
    · obtain ⟨q, q1, q2, fv, f1, f2, rfl, rfl⟩ := hq.2 c9
      exact W.widen (by omega) (by omega) (k1 (200 + (4 + 6 + f)) (by unfold tosX; rw [if_neg (by decide), if_neg c9, if_neg (by decide), if_pos rfl]) q fv H1 locs1 (mid_P (b := [(q1, eO 15 f1 f), (q2, eO 15 f2 (f + 100))]) hP) (mid_D (b := [(q1, eO 15 f1 f), (q2, eO 15 f2 (f + 100))]) hD) hS)
  · refine c_VOqk (wc := []) (wr := ws) (CC := "CakesToTheWatched$Twin") (rest := rest) C (metX8_failure l hl9 G o 6 (by decide) f) ⟨"CakesToTheWatched$Guest", "failure", "()LCakesToTheWatched$Tossed;"⟩ 0 (lw_O q981 q984 q982 q1027 q982 q52 q1000) q1000 (by decide +kernel) ⟨rfl, rfl⟩ ⟨Nat.le_trans (by decide) hR.1, Nat.le_trans (by decide) hR.2⟩ KF.call hKF (va_recv (q0 := 0) hK.1 hG rfl rfl) hA hP hD hS [] isR rfl hRr rfl hnR (fun _ _ h => nomatch h) hl rfl rfl hW ⟨by omega, by omega⟩ hdg (fun r9 w1 H1 locs1 hq hP hD hS => ?_)
    by_cases c9 : f = 0
    · rw [if_pos c9] at hq
      obtain ⟨rfl, rfl⟩ := hq
      rw [List.append_nil] at hP hD
      exact W.widen (by omega) (by omega) (k0 (by unfold tosX; rw [if_neg (by decide), if_pos c9]) H1 locs1 hP hD hS)
    · rw [if_neg c9] at hq
      obtain ⟨q, fv, rfl, rfl⟩ := hq
      exact W.widen (by omega) (by omega) (k1 f (by unfold tosX; rw [if_neg (by decide), if_neg c9, if_neg (by decide), if_neg (by decide)]) q fv H1 locs1 hP hD hS)
  · refine c_VOqk (wc := []) (wr := ws) (CC := "CakesToTheWatched$Cow") (rest := rest) C (metX15_failure l hl9 G o 7 f) ⟨"CakesToTheWatched$Guest", "failure", "()LCakesToTheWatched$Tossed;"⟩ 0 (lw_O q981 q984 q982 q989 q990 q59 q991) q1000 (by decide +kernel) ⟨rfl, rfl⟩ ⟨Nat.le_trans (by decide) hR.1, Nat.le_trans (by decide) hR.2⟩ KF.call hKF (va_recv (q0 := 0) hK.1 hG rfl rfl) hA hP hD hS [] isR rfl hRr rfl hnR (fun _ _ h => nomatch h) hl rfl rfl hW ⟨by omega, by omega⟩ hdg (fun r9 w1 H1 locs1 hq hP hD hS => ?_)
    obtain ⟨rfl, rfl⟩ := hq
    rw [List.append_nil] at hP hD
    exact W.widen (by omega) (by omega) (k0 (by unfold tosX; rw [if_pos (by decide)]) H1 locs1 hP hD hS)
end R21
