section
variable {p : Program} {l : Launch} {e : Env} {R : Room} {s : State} {m : MethodId} {args : Array Value} {below : List Frame} {meth : Method} {c : Code} {H : Heap} {locs : List Loc} {cells slots : Nat} {Q : State → Prop}
variable {cc : ByteArray} {pc : Nat} {ls : Array Slot} {rest : List Value} {L0 : Nat} {rt0 : Option FieldType} {own : String}
theorem x_runSUD {x y : MethodName} {bytes : ByteArray} {maxL nL mc ms n index : Nat} {ret : Option FieldType} {ws : List Cond} {rm : Room} {Pc : Array Value → State → Prop} {Qc : Array Value → State → Outcome → State → Prop} {free : Addr → Prop} {Ts : List Cond} {C : String} {cC : ClassId} {b : Addr} {As : List Value} {g : JFrame}
    (hat : ClassAt s C cC) (S : CallFix p m c cc nL s args Ts own) (hM : Met l y ws rm Pc Qc mc ms free) (h0 : rm.cells = mc ∧ rm.slots = ms ∧ rm.frames + 1 ≤ R.frames ∧ 8 + (maxL + 11) + rm.locals ≤ R.locals) (hws : ∀ w ∈ ws, ∀ (a' : Array Value) (U : State), s.WarmedH U.vm → w.before a' U = true) (hcw : Cond.code y bytes maxL ret ∈ ws)
    (hX : XK s) (hl1 : Cond.methodLink own index x ∈ defaultWords_1) (hl2 : Cond.sameMethod x.cls y.cls x.name x.desc ∈ defaultWords_1) (hl3 : (x.cls, x, y) ∈ xl) (hy : y.name = x.name ∧ y.desc = x.desc) (hl4 : (Cond.superclass own x.cls).before args s = true) (hl5 : (Cond.instanceMethod y).before args s = true) (hini : (Cond.initialized y.cls).before args s = true) (hcode : (Cond.code y bytes maxL ret).before args s = true)
    (hno : y.name ≠ "<init>" ∧ (parseMethodDescriptor y.desc).map (fun d => d.parameters.length) = some n) (hp : PreV s H C b Pc As)
    (hg : g.method = m) (hn : As.length = n) (hsize : g.locals.size = nL) (hstack : g.stack = As.reverse ++ .ref b :: rest) (hW : 2 * g.monitorRoom + (rest.map fun v => v.category).sum ≤ 8) (hdg : decode cc g.pc = .ok (.invokespecial index, 3)) (hf : cells + mc ≤ R.cells ∧ slots + ms ≤ R.slots) :
    va_Run p l e R s m args below meth c H locs cells slots mc ms g rest (Qc (Value.ref b :: As).toArray) (free) := by
  obtain ⟨hrc, hrs, hfr, hlo⟩ := h0
  have hK : Back l R p e below s args y 3 8 (PreOf R mc ms Pc) (PostOf Qc mc ms free) := back_of (bytes := bytes) (maxL := maxL) (ret := ret) hM hp.1 hrc hrs hfr hlo hws hcw (fun a' U hW => word_at hW (Or.inl (by first | rfl | simp [Cond.onTables, Cond.keeps, Cond.steady])) hini)
  obtain ⟨hx, hb, hml, ho, -⟩ := S
  obtain ⟨-, ⟨cellB, hcB, hoB, hclB⟩, hPc⟩ := hp
  obtain ⟨hfc, kB, hkB, -⟩ := hat
  cases hfc.symm.trans hclB
  have hlen : ∀ sig, parseMethodDescriptor y.desc = some sig → n = sig.parameters.length := fun sig h => by
    have h2 := hno.2
    rw [h] at h2
    exact (Option.some.inj h2).symm
  have w1 : (Cond.methodLink own index x).before args s = true := va_tabs rfl (rfl : s.vm = s.vm) (hX.1 _ hl1)
  have w2 : (Cond.sameMethod x.cls y.cls x.name x.desc).before args s = true := va_tabs rfl (rfl : s.vm = s.vm) (hX.1 _ hl2)
  have w3 : (Cond.landsInDefault x.cls x y).before args s = true := hX.2.1 _ hl3
  intro T hT X
  obtain ⟨v, vm₁, ⟨U', l2, c2, s2⟩, hW₁, X', ⟨g', mk, t, L, e1, e2, hq, h1, hL, h2, h3⟩, st⟩ := x_callSUD X hx (bytes := bytes) (maxL := maxL) (ret := ret) ho w1 w2 hy.1 hy.2 w3 hl4 hl5 hcode hno.1 hK (by rw [hT]; exact hcB) hoB hkB hg (hsize.trans hml.symm) (argsL := As) (rest := rest) (fun sig h => hn.trans (hlen sig h)) hstack hW (by rw [hb]; exact hdg)
    (fun vm₁ hW₁ => ⟨hf.1, hf.2, hPc (T.setVm vm₁) hT hW₁⟩)
  dsimp only [Pt.U, Pt.locs, Pt.cells, Pt.slots] at X' e1 e2 h1 h2 h3 st
  subst h1; subst h2; subst h3
  exact ⟨v, (T.setVm vm₁).calling g' mk (Value.ref b :: As).toArray, t, U', L, hT, X', hL, e1, e2, hq, st⟩
theorem c_SUD {y : MethodName} {b : ByteArray} {L : Nat} {rt : Option FieldType} {rm : Room} {o : Nat} {av : List Value} {w : va_W} {G : GG} {K : State → Prop} {F : Int32} {idx : Nat} {lv : List (Nat × Value)} {st0 : List Value} {CC : String} {cC : ClassId} (C : Cx p c meth s args m cc L0 rt0 own) (hM : MR l y b L rt rm (.ref o :: av) w G K F) (x : MethodName) (n : Nat) (hX : XK s) (hl1 : Cond.methodLink own idx x ∈ defaultWords_1) (hl2 : Cond.sameMethod x.cls y.cls x.name x.desc ∈ defaultWords_1) (hl3 : (x.cls, x, y) ∈ xl) (hy : y.name = x.name ∧ y.desc = x.desc) (hl4 : Cond.superclass own x.cls ∈ lw_all) (hl5 : Cond.instanceMethod y ∈ lw_all) (hini : Cond.initialized y.cls ∈ lw_all) (hcode : Cond.code y b L rt ∈ lw_all)
    (hd : y.name ≠ "<init>" ∧ (parseMethodDescriptor y.desc).map (fun d => d.parameters.length) = some n) (hrm : rm.cells = 0 ∧ rm.slots = 0) (hR : rm.frames + 1 ≤ R.frames ∧ 8 + (L + 11) + rm.locals ≤ R.locals) (hKm : Mv K) (hat : ClassAt s CC cC) (hrc : Rcv s H CC o) (hP : PP G w H) (hK : K s) (hl : lv_has ls L0 lv) (hn : av.length = n) (hst : st0 = av.reverse ++ .ref o :: rest) (hW : (rest.map fun v => v.category).sum ≤ 8) (hcs : cells ≤ R.cells ∧ slots ≤ R.slots) (hdg : decode cc pc = .ok (.invokespecial idx, 3)) (kk : W p l e R s m args below meth c H locs cells slots Q (F0 m (pc + 3) ls (.int F :: rest))) : W p l e R s m args below meth c H locs cells slots Q (F0 m pc ls st0) := by
  have hts := C.2.2.2.2.2.2
  have hr : va_Run p l e R s m args below meth c H locs cells slots 0 0 (F0 m pc ls st0) rest (vp_Si (fun r => r = F) (Value.ref o :: av).toArray) (fun _ => False) :=
    x_runSUD (As := av) (rest := rest) hat ⟨C.1, C.2.1, C.2.2.2.2.1, C.2.2.2.2.2.1, C.2.2.2.2.2.2⟩ hM ⟨hrm.1, hrm.2, hR.1, hR.2⟩ (pay_in hts (lw_meth hcode)) List.mem_cons_self hX hl1 hl2 hl3 hy (hts _ hl4) (hts _ hl5) (hts _ hini) (hts _ hcode) hd ⟨fun _ _ _ _ q => ⟨q.1, q.2.1, hKm.2 _ _ _ _ q.2.2⟩, hrc, fun U hU hWm => ⟨rfl, by rw [hU]; exact hP, hKm.1 _ _ hWm hK⟩⟩ rfl hn hl.1 hst (lv_room hW) hdg hcs
  intro T hT X
  obtain ⟨v, st₀, t, T', L9, h0, X', hL, e1, -, ⟨r, hv, hp, hh⟩, st⟩ := hr T hT X
  cases hv
  rw [hp] at st
  obtain ⟨t2, a1, b1⟩ := kk T' (by rw [e1, hh, h0]) (Stand.forget X' (fun q h => (hL q h).elim))
  exact ⟨t2, st t2 a1, b1⟩
end
