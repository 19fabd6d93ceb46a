section BROWS2
variable {p : Program} {l : Launch} {e : Env} {R : Room} {s : State} {m : MethodId} {args : Array Value} {below : List Frame} {meth : Method} {c : Code} {H : Heap} {locs : List Loc} {cells slots : Nat} {Q : State → Prop}
variable {cc : ByteArray} {pc : Nat} {ls : Array Slot} {rest : List Value} {L0 : Nat} {rt0 : Option FieldType} {own : String}
theorem K_int {G : GG} {cA : ClassId} (hK : KM G s) (h : va_RA s cA .int) : cA = G.2.2 0 := by
  have h1 : va_RA s (G.2.2 0) .int := (hK.2 0 (G.2.2 0, .int) rfl).2
  have e1 : s.vm.findClass ("[" ++ FieldType.int.toString) = some cA := h
  have e2 : s.vm.findClass ("[" ++ FieldType.int.toString) = some (G.2.2 0) := h1
  exact Option.some.inj (e1.symm.trans e2)
theorem n_newi {G : GG} {ws : va_W} {A : Nat → Prop} {H0 : Heap} (C : Cx p c meth s args m cc L0 rt0 own) (hK : KM G s) (hP : PP G ws H) (hD : va_D A ws) (hS : va_S A H0 H locs) (hA : ∀ q : Nat, H0.size ≤ q → A q) (k : Nat) (hk : k ≤ 2000) (hcells : cells + 1 ≤ R.cells) (hslots : slots + k ≤ R.slots) (hdg : decode cc pc = .ok (.newarray .int, 2)) (kk : ∀ (q : Nat) (H1 : Heap), PP G (ws ++ [(q, iA G k (fun _ => 0))]) H1 → va_D A (ws ++ [(q, iA G k (fun _ => 0))]) → va_S A H0 H1 locs → W p l e R s m args below meth c H1 locs (cells + 1) (slots + k) Q (F0 m (pc + 2) ls (.ref q :: rest))) : W p l e R s m args below meth c H locs cells slots Q (F0 m pc ls (.int (nI k) :: rest)) := by
  refine va_newa (atype := .int) (ty := .int) (n := nI k) (N' := k) (a0 := (k, .inl fun _ => 0)) C.1 C.2.1 (C.2.2.2.2.2.2 _ q227) rfl hK hP hD hS hA (fun _ => rfl) (nI_pos (by omega)) (nI_clamp (by omega)) (by show k * 4 ≤ _; omega) hcells hslots hdg (fun q cA H1 hK1 hP1 hD1 hS1 => ?_)
  have e : cA = G.2.2 0 := K_int hK (hK1.2 7 (cA, .int) rfl).2
  subst e
  exact kk q H1 hP1 hD1 hS1
end BROWS2
