/-! BASE 4: super.m(), the method in a class -/
theorem lw_SU {own : String} {idx : Nat} {y : MethodName} {b : ByteArray} {L : Nat} {r : Option FieldType} (h1 : Cond.methodLink own idx y ∈ lw_all) (h2 : Cond.sameMethod y.cls y.cls y.name y.desc ∈ lw_all) (h3 : Cond.superclass own y.cls ∈ lw_all) (h4 : Cond.instanceMethod y ∈ lw_all) (h5 : Cond.initialized y.cls ∈ lw_all) (h6 : Cond.code y b L r ∈ lw_all) : GoodIn lw_all (va_wsSU own idx y (ws_ y b L r)) := by
  refine lw_app ?_ (lw_meth h6)
  intro w hw
  simp only [List.mem_cons, List.not_mem_nil, or_false] at hw
  rcases hw with e | e | e | e | e
  · rw [e]; exact h1
  · rw [e]; exact h2
  · rw [e]; exact h3
  · rw [e]; exact h4
  · rw [e]; exact h5
section
variable {p : Program} {l : Launch} {e : Env} {R : Room} {s : State} {m : MethodId} {args : Array Value} {below : List Frame} {meth : Method} {c : Code} {H : Heap} {locs : List Loc} {cells slots : Nat} {Q : State → Prop}
variable {cc : ByteArray} {pc : Nat} {ls : Array Slot} {rest : List Value} {L0 : Nat} {rt0 : Option FieldType} {own : String}
theorem c_SU {y : MethodName} {b : ByteArray} {L : Nat} {rt : Option FieldType} {rm : Room} {o : Nat} {av : List Value} {w : va_W} {G : GG} {K : State → Prop} {F : Int32} {idx : Nat} {lv : List (Nat × Value)} {st0 : List Value} {CC : String} {cC : ClassId} (C : Cx p c meth s args m cc L0 rt0 own) (hM : MR l y b L rt rm (.ref o :: av) w G K F) (n : Nat) (hG : GoodIn lw_all (va_wsSU own idx y (ws_ y b L rt))) (hd : y.name ≠ "<init>" ∧ (parseMethodDescriptor y.desc).map (fun d => d.parameters.length) = some n) (hrm : rm.cells = 0 ∧ rm.slots = 0) (hR : rm.frames + 1 ≤ R.frames ∧ 8 + (L + 11) + rm.locals ≤ R.locals) (hKm : Mv K) (hat : ClassAt s CC cC) (hrc : Rcv s H CC o) (hP : PP G w H) (hK : K s) (hl : lv_has ls L0 lv) (hn : av.length = n) (hst : st0 = av.reverse ++ .ref o :: rest) (hW : (rest.map fun v => v.category).sum ≤ 8) (hcs : cells ≤ R.cells ∧ slots ≤ R.slots) (hdg : decode cc pc = .ok (.invokespecial idx, 3)) (kk : W p l e R s m args below meth c H locs cells slots Q (F0 m (pc + 3) ls (.int F :: rest))) : W p l e R s m args below meth c H locs cells slots Q (F0 m pc ls st0) := by
  have hr : va_Run p l e R s m args below meth c H locs cells slots 0 0 (F0 m pc ls st0) rest (vp_Si (fun r => r = F) (Value.ref o :: av).toArray) (fun _ => False) :=
    va_runSU (As := av) (rest := rest) hat ⟨C.1, C.2.1, C.2.2.2.2.1, C.2.2.2.2.2.1, C.2.2.2.2.2.2⟩ hM (va_cwSU n C.2.2.2.2.2.2 hG rfl hrm.1 hrm.2 hd hR) ⟨fun _ _ _ _ q => ⟨q.1, q.2.1, hKm.2 _ _ _ _ q.2.2⟩, hrc, fun U hU hWm => ⟨rfl, by rw [hU]; exact hP, hKm.1 _ _ hWm hK⟩⟩ rfl hn hl.1 hst (lv_room hW) hdg hcs
  intro T hT X
  obtain ⟨v, st₀, t, T', L9, h0, X', hL, e1, -, ⟨r, hv, hp, hh⟩, st⟩ := hr T hT X
  cases hv
  rw [hp] at st
  obtain ⟨t2, a1, b1⟩ := kk T' (by rw [e1, hh, h0]) (Stand.forget X' (fun q h => (hL q h).elim))
  exact ⟨t2, st t2 a1, b1⟩
theorem c_at {G : GG} {ci : Nat} {q : vw_C} {s : State} (hK : KM G s) (hc : clAll[ci]? = some q) : ClassAt s q.1 (G.1 ci) := (hK.1 ci q hc).2
end
