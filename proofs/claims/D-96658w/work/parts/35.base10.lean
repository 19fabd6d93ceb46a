section
variable {p : Program} {l : Launch} {e : Env} {R : Room} {s : State} {m : MethodId} {args : Array Value} {below : List Frame} {meth : Method} {c : Code} {H : Heap} {locs : List Loc} {cells slots : Nat} {Q : State → Prop}
variable {cc : ByteArray} {pc : Nat} {ls : Array Slot} {rest : List Value} {L0 : Nat} {rt0 : Option FieldType} {own : String}
theorem lw_O {own : String} {idx : Nat} {CC : String} {x y : MethodName} {b : ByteArray} {L : Nat} {r : Option FieldType} (h1 : Cond.methodLink own idx x ∈ lw_all) (h2 : Cond.sameMethod x.cls x.cls x.name x.desc ∈ lw_all) (h3 : Cond.instanceMethod ⟨x.cls, x.name, x.desc⟩ ∈ lw_all) (h4 : Cond.selects CC x y ∈ lw_all) (h5 : Cond.instanceMethod y ∈ lw_all) (h6 : Cond.initialized y.cls ∈ lw_all) (h7 : Cond.code y b L r ∈ lw_all) : GoodIn lw_all (va_wsO own idx CC x.cls x y (ws_ y b L r)) := by
  refine lw_app ?_ (lw_meth h7)
  intro w hw
  simp only [List.mem_cons, List.not_mem_nil, or_false] at hw
  rcases hw with e | e | e | e | e | e
  · rw [e]; exact h1
  · rw [e]; exact h2
  · rw [e]; exact h3
  · rw [e]; exact h4
  · rw [e]; exact h5
  · rw [e]; exact h6
/-- a virtual call through x of a class, on a receiver of class CC, where it lands in y -/
theorem c_VO {y : MethodName} {b : ByteArray} {L : Nat} {rt : Option FieldType} {rm : Room} {o : Nat} {av : List Value} {w : va_W} {G : GG} {K : State → Prop} {F : Int32} {idx : Nat} {lv : List (Nat × Value)} {st0 : List Value} {CC : String} (C : Cx p c meth s args m cc L0 rt0 own) (hM : MR l y b L rt rm (.ref o :: av) w G K F) (x : MethodName) (n : Nat) (hG : GoodIn lw_all (va_wsO own idx CC x.cls x y (ws_ y b L rt))) {b0 : ByteArray} {m0 : Nat} {r0 : Option FieldType} (h0 : Cond.code ⟨x.cls, x.name, x.desc⟩ b0 m0 r0 ∈ lw_all) (hd : x.cls ≠ "java/lang/invoke/MethodHandle" ∧ x.cls ≠ "java/lang/invoke/VarHandle" ∧ (parseMethodDescriptor x.desc).map (fun d => d.parameters.length) = some n) (hrm : rm.cells = 0 ∧ rm.slots = 0) (hR : rm.frames + 1 ≤ R.frames ∧ 8 + (L + 11) + rm.locals ≤ R.locals) (hKm : Mv K) (hrc : Rcv s H CC o) (hP : PP G w H) (hK : K s) (hl : lv_has ls L0 lv) (hn : av.length = n) (hst : st0 = av.reverse ++ .ref o :: rest) (hW : (rest.map fun v => v.category).sum ≤ 8) (hcs : cells ≤ R.cells ∧ slots ≤ R.slots) (hdg : decode cc pc = .ok (.invokevirtual idx, 3)) (kk : W p l e R s m args below meth c H locs cells slots Q (F0 m (pc + 3) ls (.int F :: rest))) : W p l e R s m args below meth c H locs cells slots Q (F0 m pc ls st0) := by
  have hr : va_Run p l e R s m args below meth c H locs cells slots 0 0 (F0 m pc ls st0) rest (vp_Si (fun r => r = F) (Value.ref o :: av).toArray) (fun _ => False) :=
    va_runU (As := av) (rest := rest) ⟨C.1, C.2.1, C.2.2.2.2.1, C.2.2.2.2.2.1, C.2.2.2.2.2.2⟩ hM (va_cwO n C.2.2.2.2.2.2 hG rfl hrm.1 hrm.2 h0 hd hR) ⟨fun _ _ _ _ q => ⟨q.1, q.2.1, hKm.2 _ _ _ _ q.2.2⟩, hrc, fun U hU hWm => ⟨rfl, by rw [hU]; exact hP, hKm.1 _ _ hWm hK⟩⟩ rfl hn hl.1 hst (lv_room hW) hdg hcs
  exact vp_callSi hr.run (fun r hr => by rw [hr]; exact kk)
end
