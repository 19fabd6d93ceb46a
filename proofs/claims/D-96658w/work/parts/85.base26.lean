/-! BASE 26: calls of methods with handlers (printed by tools/mkbase26.py) -/
section R26
variable {p : Program} {l : Launch} {e : Env} {R : Room} {s : State} {m : MethodId} {args : Array Value} {below : List Frame} {meth : Method} {c : Code} {H : Heap} {locs : List Loc} {cells slots : Nat} {Q : State → Prop}
variable {cc : ByteArray} {pc : Nat} {ls : Array Slot} {rest : List Value} {L0 : Nat} {rt0 : Option FieldType} {own : String}
theorem c_VWhP {y : MethodName} {b : ByteArray} {L : Nat} {rt : Option FieldType} {hh : List (Nat × Nat × Nat × Nat)} {rm : Room} {o : Nat} {av : List Value} {X wc wr pl : va_W} {G : GG} {K : State → Prop} {mc ms : Nat} {post : Int32 → va_W → Prop} {A : Nat → Prop} {H0 : Heap} {idx : Nat} {lv : List (Nat × Value)} {st0 : List Value} {CC : String} (C : Cx p c meth s args m cc L0 rt0 own) (hM : MWh l y b L rt hh rm (.ref o :: av) wc G K mc ms post) (n : Nat) (hG : GoodIn lw_all (wsV own idx CC y (wsW_ y b L rt hh))) (hd : y.cls = CC ∧ y.cls ≠ "java/lang/invoke/MethodHandle" ∧ y.cls ≠ "java/lang/invoke/VarHandle" ∧ (parseMethodDescriptor y.desc).map (fun d => d.parameters.length) = some n) (hrm : rm.cells = mc ∧ rm.slots = ms) (hR : rm.frames + 1 ≤ R.frames ∧ 8 + (L + 11) + rm.locals ≤ R.locals) (hKc : ∀ (U : State) (g : JFrame) (mk : MethodId) (a : Array Value), K U → K (U.calling g mk a)) (hKU : ∀ U : State, U.heap = H → s.WarmedH U.vm → K U) (hrc : Rcv s H CC o) (hA : ∀ q : Nat, H0.size ≤ q → A q) (hP : PP G (X ++ pl) H) (hD : va_D A (X ++ pl)) (hS : va_S A H0 H locs) (isC isR : List Nat) (hC : isC.map (fun i => X[i]?) = wc.map some) (hRr : isR.map (fun i => X[i]?) = wr.map some) (hnC : va_nd isC = true) (hnR : va_nd isR = true) (hdis : ∀ i ∈ isR, i ∉ isC) (hl : lv_has ls L0 lv) (hn : av.length = n) (hst : st0 = av.reverse ++ .ref o :: rest) (hW : (rest.map fun v => v.category).sum ≤ 8) (hcs : cells + mc ≤ R.cells ∧ slots + ms ≤ R.slots) (hdg : decode cc pc = .ok (.invokevirtual idx, 3)) (kk : ∀ (r : Int32) (w1 : va_W) (H1 : Heap) (locs1 : List Loc), post r w1 → PP G ((wr ++ w1) ++ pl) H1 → va_D A ((wr ++ w1) ++ pl) → va_S A H0 H1 locs1 → W p l e R s m args below meth c H1 locs1 (cells + mc) (slots + ms) Q (F0 m (pc + 3) ls (.int r :: rest))) : W p l e R s m args below meth c H locs cells slots Q (F0 m pc ls st0) := by
  obtain ⟨hPc, hDc⟩ := c_cut (tl_P hP) (tl_D hD) isC hC hnC
  have hFc := va_free (wc := wc) (tl_D hD) hS hA isC hC
  refine va_calli (vx_runVW (As := av) (rest := rest) ⟨C.1, C.2.1, C.2.2.2.2.1, C.2.2.2.2.2.1, C.2.2.2.2.2.2⟩ (hM H.size) (vx_cwVW n C.2.2.2.2.2.2 hG rfl hrm.1 hrm.2 hd hR) ⟨fun _ _ _ _ q => ⟨q.1, q.2.1, q.2.2.1, hKc _ _ _ _ q.2.2.2.1, q.2.2.2.2⟩, hrc, fun U hU hWm => ⟨rfl, by rw [hU], by rw [hU]; exact hPc, hKU _ hU hWm, hDc⟩⟩ rfl hn hl.1 hst (lv_room hW) hdg hcs) hS (fun q _ h => hFc q h) hFc (fun r w1 t H1 locs1 ht _ hpost hB _ hk hS1 => ?_)
  obtain ⟨hP1, hD1⟩ := hB
  rw [ht] at hP1
  obtain ⟨hP2, hD2⟩ := va_joinQ hP hD isC isR hC hRr hnR hdis hk hFc hP1 hD1
  exact kk r w1 H1 locs1 hpost hP2 hD2 hS1
end R26
/-! BASE 27: rows of references made -/
section R27
variable {p : Program} {l : Launch} {e : Env} {R : Room} {s : State} {m : MethodId} {args : Array Value} {below : List Frame} {meth : Method} {c : Code} {H : Heap} {locs : List Loc} {cells slots : Nat} {Q : State → Prop}
variable {cc : ByteArray} {pc : Nat} {ls : Array Slot} {rest : List Value} {L0 : Nat} {rt0 : Option FieldType} {own : String}
theorem n_newq {G : GG} {ws : va_W} {A : Nat → Prop} {H0 : Heap} {Cn : String} {ix : Nat} (C : Cx p c meth s args m cc L0 rt0 own) (hK : KM G s) (hAO : va_AO Cn s) (t0 : Nat) (ht : (tyA G.2.2)[t0]? = some (G.2.2 t0, .object Cn)) (ht7 : t0 < 7) (hcl : Cond.classLink own ix Cn ∈ lw_all) (hP : PP G ws H) (hD : va_D A ws) (hS : va_S A H0 H locs) (hA : ∀ q : Nat, H0.size ≤ q → A q) (k : Nat) (hk : k ≤ 2000) (hcells : cells + 1 ≤ R.cells) (hslots : slots + k ≤ R.slots) (hdg : decode cc pc = .ok (.anewarray ix, 3)) (kk : ∀ (q : Nat) (H1 : Heap), PP G (ws ++ [(q, qA G t0 k (fun _ => none))]) H1 → va_D A (ws ++ [(q, qA G t0 k (fun _ => none))]) → va_S A H0 H1 locs → W p l e R s m args below meth c H1 locs (cells + 1) (slots + k) Q (F0 m (pc + 3) ls (.ref q :: rest))) : W p l e R s m args below meth c H locs cells slots Q (F0 m pc ls (.int (nI k) :: rest)) := by
  refine va_newq (C := Cn) (n := nI k) (N' := k) C.1 C.2.1 C.2.2.2.2.2.1 (C.2.2.2.2.2.2 _ hcl) hAO hK hP hD hS hA (nI_pos (by omega)) (nI_clamp (by omega)) (by omega) hcells hslots hdg (fun q cA H1 hK1 hP1 hD1 hS1 => ?_)
  have e : cA = G.2.2 t0 := by
    obtain ⟨-, kA, comp, h1, h2, h3, h4⟩ := hK1.2 7 (cA, .object Cn) rfl
    obtain ⟨-, kA', comp', g1, g2, g3, g4⟩ := hK.2 t0 _ ht
    exact Option.some.inj (h4.symm.trans g4)
  subst e
  exact kk q H1 hP1 hD1 hS1
end R27
