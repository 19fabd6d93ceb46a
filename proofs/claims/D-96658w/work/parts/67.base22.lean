/-! BASE 22: rows of bytes and of shorts made; texts -/
section R22
variable {p : Program} {l : Launch} {e : Env} {R : Room} {s : State} {m : MethodId} {args : Array Value} {below : List Frame} {meth : Method} {c : Code} {H : Heap} {locs : List Loc} {cells slots : Nat} {Q : State → Prop}
variable {cc : ByteArray} {pc : Nat} {ls : Array Slot} {rest : List Value} {L0 : Nat} {rt0 : Option FieldType} {own : String}
theorem n_newb {G : GG} {ws : va_W} {A : Nat → Prop} {H0 : Heap} (C : Cx p c meth s args m cc L0 rt0 own) (hK : KM G s) (hP : PP G ws H) (hD : va_D A ws) (hS : va_S A H0 H locs) (hA : ∀ q : Nat, H0.size ≤ q → A q) (k : Nat) (hk : k ≤ 2000) (hcells : cells + 1 ≤ R.cells) (hslots : slots + k ≤ R.slots) (hdg : decode cc pc = .ok (.newarray .byte, 2)) (kk : ∀ (q : Nat) (H1 : Heap), PP G (ws ++ [(q, tA G 1 k (fun _ => 0))]) H1 → va_D A (ws ++ [(q, tA G 1 k (fun _ => 0))]) → va_S A H0 H1 locs → W p l e R s m args below meth c H1 locs (cells + 1) (slots + k) Q (F0 m (pc + 2) ls (.ref q :: rest))) : W p l e R s m args below meth c H locs cells slots Q (F0 m pc ls (.int (nI k) :: rest)) := by
  refine va_newa (atype := .byte) (ty := .byte) (n := nI k) (N' := k) (a0 := (k, .inl fun _ => 0)) C.1 C.2.1 (C.2.2.2.2.2.2 _ q160) rfl hK hP hD hS hA (fun _ => rfl) (nI_pos (by omega)) (nI_clamp (by omega)) (by show k * 1 ≤ _; omega) hcells hslots hdg (fun q cA H1 hK1 hP1 hD1 hS1 => ?_)
  have e : cA = G.2.2 1 := Option.some.inj (Eq.trans (Eq.symm (show s.vm.findClass ("[" ++ FieldType.byte.toString) = some cA from (hK1.2 7 (cA, .byte) rfl).2)) (show s.vm.findClass ("[" ++ FieldType.byte.toString) = some (G.2.2 1) from (hK.2 1 (G.2.2 1, .byte) rfl).2))
  subst e
  exact kk q H1 hP1 hD1 hS1
theorem n_news {G : GG} {ws : va_W} {A : Nat → Prop} {H0 : Heap} (C : Cx p c meth s args m cc L0 rt0 own) (hK : KM G s) (hP : PP G ws H) (hD : va_D A ws) (hS : va_S A H0 H locs) (hA : ∀ q : Nat, H0.size ≤ q → A q) (k : Nat) (hk : k ≤ 2000) (hcells : cells + 1 ≤ R.cells) (hslots : slots + k ≤ R.slots) (hdg : decode cc pc = .ok (.newarray .short, 2)) (kk : ∀ (q : Nat) (H1 : Heap), PP G (ws ++ [(q, tA G 2 k (fun _ => 0))]) H1 → va_D A (ws ++ [(q, tA G 2 k (fun _ => 0))]) → va_S A H0 H1 locs → W p l e R s m args below meth c H1 locs (cells + 1) (slots + k) Q (F0 m (pc + 2) ls (.ref q :: rest))) : W p l e R s m args below meth c H locs cells slots Q (F0 m pc ls (.int (nI k) :: rest)) := by
  refine va_newa (atype := .short) (ty := .short) (n := nI k) (N' := k) (a0 := (k, .inl fun _ => 0)) C.1 C.2.1 (C.2.2.2.2.2.2 _ q888) rfl hK hP hD hS hA (fun _ => rfl) (nI_pos (by omega)) (nI_clamp (by omega)) (by show k * 2 ≤ _; omega) hcells hslots hdg (fun q cA H1 hK1 hP1 hD1 hS1 => ?_)
  have e : cA = G.2.2 2 := Option.some.inj (Eq.trans (Eq.symm (show s.vm.findClass ("[" ++ FieldType.short.toString) = some cA from (hK1.2 7 (cA, .short) rfl).2)) (show s.vm.findClass ("[" ++ FieldType.short.toString) = some (G.2.2 2) from (hK.2 2 (G.2.2 2, .short) rfl).2))
  subst e
  exact kk q H1 hP1 hD1 hS1
end R22
theorem neg_text {n : Int32} (hn : n < 0) {tx : String} (h : tx = toString n) : (tx == notModelled) = false ∧ (stringBytes (stringToUtf16 tx)).size ≤ 1000 := by
  subst h
  exact ⟨negative_text_modelled hn, Nat.le_trans (negative_text_bytes n) (by decide)⟩
