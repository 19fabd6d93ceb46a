/-! BASE: the classes' list, one knowledge of the tables, contracts of readers (MR: the heap stays) and of writers (MW), their ends and their calls -/
abbrev GG : Type := (Nat → ClassId) × (Nat → Nat → Nat) × (Nat → ClassId)
def clAll : List vw_C := [(RX4, TX4, 20), (RX1, TX1, 9), (RX2, TX2, 8), (RX3, TX3, 1), (RX6, TX6, 4), (RX5, TX5, 2), (RX8, TX8, 1), (RX9, TX9, 1), (RX10, TX10, 1), (RX11, TX11, 1), (RX12, TX12, 1), (RX13, TX13, 1), (RX14, TX14, 1), (RX15, TX15, 1), (RX7, TX7, 7), (RX16, TX16, 7), (RJ12, TJ12, 6), (RJ13, TJ13, 6)]
def tyA (d : Nat → ClassId) : List (ClassId × FieldType) := [(d 0, .int), (d 1, .byte), (d 2, .short), (d 3, .object "CakesToTheWatched$Guest"), (d 4, .object "CakesToTheWatched$Told"), (d 5, .object "CakesToTheWatched$Shelf"), (d 6, .long)]
abbrev gD (G : GG) : va_G := (G.1, G.2.1)
abbrev PP (G : GG) (w : va_W) (H : Heap) : Prop := va_P (gD G) clAll w H
abbrev iA (G : GG) (n : Nat) (f : Nat → Int32) : va_E := .inl (G.2.2 0, n, .inl f)
/-- the reference's object: ad its arrays, iv its numbers, by field -/
abbrev mO (ad : Nat → Nat) (iv : Nat → Int32) : va_E := .inr (0, [.ref (ad 0), .ref (ad 1), .ref (ad 2), .ref (ad 3), .int (iv 4), .int (iv 5), .int (iv 6), .int (iv 7), .ref (ad 8), .ref (ad 9), .ref (ad 10), .int (iv 11), .int (iv 12), .ref (ad 13), .ref (ad 14), .ref (ad 15), .ref (ad 16), .ref (ad 17), .ref (ad 18), .int (iv 19)])
def KM (G : GG) (U : State) : Prop := va_K (gD G) clAll (tyA G.2.2) U
def Mv (K : State → Prop) : Prop := (∀ s U : State, s.WarmedH U.vm → K s → K U) ∧ ∀ (U : State) (g : JFrame) (mk : MethodId) (a : Array Value), K U → K (U.calling g mk a)
theorem KM_mv (G : GG) : Mv (KM G) := ⟨fun _ _ hW h => va_K.moved hW.alike h, fun U g mk a h => va_K.moved (u := U) (U := U.calling g mk a) (Vm.Alike.refl U.vm) h⟩
def bI (b : Bool) : Int32 := if b then 1 else 0
theorem bI_f {b : Bool} (h : bI b = 0) : b = false := by cases b with
  | false => rfl
  | true => exact absurd h (by decide)
theorem bI_t {b : Bool} (h : ¬ bI b = 0) : b = true := by cases b with
  | false => exact absurd rfl h
  | true => rfl
theorem bI_nar (b : Bool) : narrow .boolean (.int (bI b)) = .int (bI b) := by cases b <;> rfl
theorem fm_of {α : Type} {f : Nat → Option α} {is : List Nat} {wc : List α} (h : is.map f = wc.map some) : is.filterMap f = wc := by
  have h1 := congrArg (List.filterMap id) h
  rw [List.filterMap_map, List.filterMap_map] at h1
  simpa using h1
/-- what a walk has at hand -/
def Cx (p : Program) (c : Code) (meth : Method) (s : State) (args : Array Value) (m : MethodId) (b : ByteArray) (L : Nat) (rt : Option FieldType) (own : String) : Prop :=
  p.tables.exec = Jvm.exec ∧ c.code = b ∧ meth.sig.returnType = rt ∧ meth.locks = false ∧ c.maxLocals = L ∧ s.vm.findClass own = some m.cls ∧ ∀ w ∈ lw_all, w.before args s = true
/-- a reader's contract: the answer is F, the heap stays -/
def MR (l : Launch) (y : MethodName) (b : ByteArray) (L : Nat) (rt : Option FieldType) (rm : Room) (av : List Value) (w : va_W) (G : GG) (K : State → Prop) (F : Int32) : Prop :=
  Met l y (ws_ y b L rt) rm (va_Pc av (fun U => PP G w U.heap ∧ K U)) (vp_Si (fun r => r = F)) 0 0 (fun _ => False)
def MRl (l : Launch) (y : MethodName) (b : ByteArray) (L : Nat) (rt : Option FieldType) (rm : Room) (av : List Value) (w : va_W) (G : GG) (K : State → Prop) (F : Int64) : Prop :=
  Met l y (ws_ y b L rt) rm (va_Pc av (fun U => PP G w U.heap ∧ K U)) (vp_Sl (fun r => r = F)) 0 0 (fun _ => False)
/-- a writer's contract: answer and new cells by post; it may change its cells and those that it makes -/
def MW (l : Launch) (y : MethodName) (b : ByteArray) (L : Nat) (rt : Option FieldType) (rm : Room) (av : List Value) (w : va_W) (G : GG) (K : State → Prop) (mc ms : Nat) (post : Int32 → va_W → Prop) : Prop :=
  ∀ sz : Nat, Met l y (ws_ y b L rt) rm (va_Pc av (fun U => U.heap.size = sz ∧ PP G w U.heap ∧ K U ∧ va_D (fun _ => True) w)) (va_Qi (S := va_W) post (fun w1 t => PP G w1 t.heap ∧ va_D (va_A w sz) w1) (va_A w sz)) mc ms (va_A w sz)
def MWl (l : Launch) (y : MethodName) (b : ByteArray) (L : Nat) (rt : Option FieldType) (rm : Room) (av : List Value) (w : va_W) (G : GG) (K : State → Prop) (mc ms : Nat) (post : Int64 → va_W → Prop) : Prop :=
  ∀ sz : Nat, Met l y (ws_ y b L rt) rm (va_Pc av (fun U => U.heap.size = sz ∧ PP G w U.heap ∧ K U ∧ va_D (fun _ => True) w)) (va_Ql (S := va_W) post (fun w1 t => PP G w1 t.heap ∧ va_D (va_A w sz) w1) (va_A w sz)) mc ms (va_A w sz)
def MWv (l : Launch) (y : MethodName) (b : ByteArray) (L : Nat) (rt : Option FieldType) (rm : Room) (av : List Value) (w : va_W) (G : GG) (K : State → Prop) (mc ms : Nat) (post : va_W → Prop) : Prop :=
  ∀ sz : Nat, Met l y (ws_ y b L rt) rm (va_Pc av (fun U => U.heap.size = sz ∧ PP G w U.heap ∧ K U ∧ va_D (fun _ => True) w)) (va_Qv (S := va_W) post (fun w1 t => PP G w1 t.heap ∧ va_D (va_A w sz) w1) (va_A w sz)) mc ms (va_A w sz)
theorem mr_mk {l : Launch} {y : MethodName} {b : ByteArray} {L : Nat} {rt : Option FieldType} {rm : Room} {av : List Value} {w : va_W} {G : GG} {K : State → Prop} {F : Int32} (own : String) (hy : plainName y.cls = true) (ho : y.cls = own) (hn : (lg_sl av).length ≤ L)
    (body : ∀ (p : Program) (e : Env) (s : State) (m : MethodId) (args : Array Value) (below : List Frame) (meth : Method) (c : Code), Cx p c meth s args m b L rt own → PP G w s.heap → K s → ∀ ls : Array Slot, lv_has ls L (lv_args 0 av) → W p l e rm s m args below meth c s.heap [] 0 0 (MQ below (vp_Si (fun r => r = F)) args s 0 0 (fun _ => False)) (F0 m 0 ls [])) : MR l y b L rt rm av w G K F := by
  refine Met.ofW (cc := b) (maxL := L) (ret := rt) hy rfl ?_
  intro p e s m args below meth c s₁ B hml hv
  obtain ⟨rfl, hP, hK⟩ := hv
  have hts := atoms_spec (ws := ws_ y b L rt) B.pre
  have hown : s.vm.findClass y.cls = some m.cls := findClass_of_methodNamed B.named
  rw [lg_entry_eq]
  exact body p e s m _ below meth c ⟨B.exec, B.bytes, B.returns, B.notSynchronized, hml, by rw [← ho]; exact hown, fun w h => hts w (List.mem_cons_of_mem _ h)⟩ hP hK _ (lv_entry av hn)
theorem mrl_mk {l : Launch} {y : MethodName} {b : ByteArray} {L : Nat} {rt : Option FieldType} {rm : Room} {av : List Value} {w : va_W} {G : GG} {K : State → Prop} {F : Int64} (own : String) (hy : plainName y.cls = true) (ho : y.cls = own) (hn : (lg_sl av).length ≤ L)
    (body : ∀ (p : Program) (e : Env) (s : State) (m : MethodId) (args : Array Value) (below : List Frame) (meth : Method) (c : Code), Cx p c meth s args m b L rt own → PP G w s.heap → K s → ∀ ls : Array Slot, lv_has ls L (lv_args 0 av) → W p l e rm s m args below meth c s.heap [] 0 0 (MQ below (vp_Sl (fun r => r = F)) args s 0 0 (fun _ => False)) (F0 m 0 ls [])) : MRl l y b L rt rm av w G K F := by
  refine Met.ofW (cc := b) (maxL := L) (ret := rt) hy rfl ?_
  intro p e s m args below meth c s₁ B hml hv
  obtain ⟨rfl, hP, hK⟩ := hv
  have hts := atoms_spec (ws := ws_ y b L rt) B.pre
  have hown : s.vm.findClass y.cls = some m.cls := findClass_of_methodNamed B.named
  rw [lg_entry_eq]
  exact body p e s m _ below meth c ⟨B.exec, B.bytes, B.returns, B.notSynchronized, hml, by rw [← ho]; exact hown, fun w h => hts w (List.mem_cons_of_mem _ h)⟩ hP hK _ (lv_entry av hn)
theorem mw_mk {l : Launch} {y : MethodName} {b : ByteArray} {L : Nat} {rt : Option FieldType} {rm : Room} {av : List Value} {w : va_W} {G : GG} {K : State → Prop} {mc ms : Nat} {post : Int32 → va_W → Prop} (own : String) (hy : plainName y.cls = true) (ho : y.cls = own) (hn : (lg_sl av).length ≤ L)
    (body : ∀ (p : Program) (e : Env) (s : State) (m : MethodId) (args : Array Value) (below : List Frame) (meth : Method) (c : Code) (A : Nat → Prop), Cx p c meth s args m b L rt own → (∀ q : Nat, s.heap.size ≤ q → A q) → PP G w s.heap → K s → va_D A w → ∀ ls : Array Slot, lv_has ls L (lv_args 0 av) → W p l e rm s m args below meth c s.heap [] 0 0 (MQ below (va_Qi (S := va_W) post (fun w1 t => PP G w1 t.heap ∧ va_D A w1) A) args s mc ms A) (F0 m 0 ls [])) : MW l y b L rt rm av w G K mc ms post := by
  intro sz
  refine Met.ofW (cc := b) (maxL := L) (ret := rt) hy rfl ?_
  intro p e s m args below meth c s₁ B hml hv
  obtain ⟨rfl, hsz, hP, hK, hD0⟩ := hv
  subst hsz
  have hts := atoms_spec (ws := ws_ y b L rt) B.pre
  have hown : s.vm.findClass y.cls = some m.cls := findClass_of_methodNamed B.named
  rw [lg_entry_eq]
  exact body p e s m _ below meth c (va_A w s.heap.size) ⟨B.exec, B.bytes, B.returns, B.notSynchronized, hml, by rw [← ho]; exact hown, fun w h => hts w (List.mem_cons_of_mem _ h)⟩ (fun q h => Or.inr h) hP hK hD0.self _ (lv_entry av hn)
theorem mwl_mk {l : Launch} {y : MethodName} {b : ByteArray} {L : Nat} {rt : Option FieldType} {rm : Room} {av : List Value} {w : va_W} {G : GG} {K : State → Prop} {mc ms : Nat} {post : Int64 → va_W → Prop} (own : String) (hy : plainName y.cls = true) (ho : y.cls = own) (hn : (lg_sl av).length ≤ L)
    (body : ∀ (p : Program) (e : Env) (s : State) (m : MethodId) (args : Array Value) (below : List Frame) (meth : Method) (c : Code) (A : Nat → Prop), Cx p c meth s args m b L rt own → (∀ q : Nat, s.heap.size ≤ q → A q) → PP G w s.heap → K s → va_D A w → ∀ ls : Array Slot, lv_has ls L (lv_args 0 av) → W p l e rm s m args below meth c s.heap [] 0 0 (MQ below (va_Ql (S := va_W) post (fun w1 t => PP G w1 t.heap ∧ va_D A w1) A) args s mc ms A) (F0 m 0 ls [])) : MWl l y b L rt rm av w G K mc ms post := by
  intro sz
  refine Met.ofW (cc := b) (maxL := L) (ret := rt) hy rfl ?_
  intro p e s m args below meth c s₁ B hml hv
  obtain ⟨rfl, hsz, hP, hK, hD0⟩ := hv
  subst hsz
  have hts := atoms_spec (ws := ws_ y b L rt) B.pre
  have hown : s.vm.findClass y.cls = some m.cls := findClass_of_methodNamed B.named
  rw [lg_entry_eq]
  exact body p e s m _ below meth c (va_A w s.heap.size) ⟨B.exec, B.bytes, B.returns, B.notSynchronized, hml, by rw [← ho]; exact hown, fun w h => hts w (List.mem_cons_of_mem _ h)⟩ (fun q h => Or.inr h) hP hK hD0.self _ (lv_entry av hn)
theorem mwv_mk {l : Launch} {y : MethodName} {b : ByteArray} {L : Nat} {rt : Option FieldType} {rm : Room} {av : List Value} {w : va_W} {G : GG} {K : State → Prop} {mc ms : Nat} {post : va_W → Prop} (own : String) (hy : plainName y.cls = true) (ho : y.cls = own) (hn : (lg_sl av).length ≤ L)
    (body : ∀ (p : Program) (e : Env) (s : State) (m : MethodId) (args : Array Value) (below : List Frame) (meth : Method) (c : Code) (A : Nat → Prop), Cx p c meth s args m b L rt own → meth.name = y.name → (∀ q : Nat, s.heap.size ≤ q → A q) → PP G w s.heap → K s → va_D A w → ∀ ls : Array Slot, lv_has ls L (lv_args 0 av) → W p l e rm s m args below meth c s.heap [] 0 0 (MQ below (va_Qv (S := va_W) post (fun w1 t => PP G w1 t.heap ∧ va_D A w1) A) args s mc ms A) (F0 m 0 ls [])) : MWv l y b L rt rm av w G K mc ms post := by
  intro sz
  refine Met.ofW (cc := b) (maxL := L) (ret := rt) hy rfl ?_
  intro p e s m args below meth c s₁ B hml hv
  obtain ⟨rfl, hsz, hP, hK, hD0⟩ := hv
  subst hsz
  have hts := atoms_spec (ws := ws_ y b L rt) B.pre
  have hown : s.vm.findClass y.cls = some m.cls := findClass_of_methodNamed B.named
  rw [lg_entry_eq]
  exact body p e s m _ below meth c (va_A w s.heap.size) ⟨B.exec, B.bytes, B.returns, B.notSynchronized, hml, by rw [← ho]; exact hown, fun w h => hts w (List.mem_cons_of_mem _ h)⟩ (name_of_methodNamed B.named B.method).1 (fun q h => Or.inr h) hP hK hD0.self _ (lv_entry av hn)
/-- an int array's numbers beyond its end don't count -/
theorem cell_ext {cA : ClassId} {n : Nat} {f g : Nat → Int32} (h : ∀ j, j < n → f j = g j) : vp_cell cA (n, .inl f) = vp_cell cA (n, .inl g) := by
  have e : (fun j : Fin n => (Value.int (f j.val) : Value)) = fun j : Fin n => Value.int (g j.val) := funext fun j => by rw [h j.val j.isLt]
  show arrV cA n (fun j => .int (f j)) = arrV cA n (fun j => .int (g j))
  unfold arrV
  rw [e]
theorem pp_ext {G : GG} {ws : va_W} {H : Heap} {a n : Nat} {f g : Nat → Int32} (hP : PP G ws H) (q0 : Nat) (ha : ws[q0]? = some (a, iA G n f)) (h : ∀ j, j < n → f j = g j) : PP G (ws.set q0 (a, iA G n g)) H := by
  intro k q hk
  rw [List.getElem?_set] at hk
  split at hk
  · rename_i e
    split at hk
    · cases hk
      have h1 : va_at (gD G) clAll (a, iA G n f) H := hP q0 _ ha
      show H[a]? = some (vp_cell (G.2.2 0) (n, .inl g))
      rw [← cell_ext h]
      exact h1
    · cases hk
  · exact hP k q hk
def cpf (f g : Nat → Int32) (k : Nat) : Nat → Int32 := fun j => if j < k then f j else g j
theorem cpf_0 (f g : Nat → Int32) : cpf f g 0 = g := funext fun j => by simp [cpf]
theorem cpf_s (f g : Nat → Int32) (k : Nat) : cpf f g (k + 1) = upd (cpf f g k) k (f k) := funext fun j => by
  unfold cpf upd
  by_cases h : j = k
  · simp [h]
  · by_cases h2 : j < k
    · simp [h, h2]; omega
    · simp [h, h2]; omega
theorem cpf_lt {f g : Nat → Int32} {k j : Nat} (h : j < k) : cpf f g k j = f j := by simp [cpf, h]
theorem lg0 {a b : Nat} (ha : a < 2 ^ 63) (hb : b < 2 ^ 63) : lg_cmp (lN a) (lN b) = 0 ↔ a = b := by
  have h1 := pk_lLT ha hb
  have h2 := pk_lLT hb ha
  unfold lg_cmp
  by_cases e : a = b
  · subst e; simp
  · have h3 : ¬ lN a = lN b := fun q => e ((pk_lEQ ha hb).mp q)
    by_cases f : a < b
    · have g : ¬ b < a := by omega
      simp [h1, h2, e, f, g, h3]
    · have g : b < a := by omega
      simp [h1, h2, e, f, g, h3]
section BROWS
variable {p : Program} {l : Launch} {e : Env} {R : Room} {s : State} {m : MethodId} {args : Array Value} {below : List Frame} {meth : Method} {c : Code} {H : Heap} {locs : List Loc} {cells slots : Nat} {Q : State → Prop}
variable {cc : ByteArray} {pc : Nat} {ls : Array Slot} {rest : List Value} {L0 : Nat} {rt0 : Option FieldType} {own : String}
theorem n_iret {F v : Int32} (C : Cx p c meth s args m cc L0 (some .int) own) (hF : v = F) (hdg : decode cc pc = .ok (.ireturn, 1)) : W p l e R s m args below meth c s.heap [] 0 0 (MQ below (vp_Si (fun r => r = F)) args s 0 0 (fun _ => False)) (F0 m pc ls [.int v]) :=
  W.iret C.1 C.2.1 C.2.2.1 (fun t ht _ => ⟨v, rfl, hF, ht⟩) (fun _ h => absurd h List.not_mem_nil) hdg C.2.2.2.1
theorem n_zret {F : Int32} {v : Bool} (C : Cx p c meth s args m cc L0 (some .boolean) own) (hF : bI v = F) (hdg : decode cc pc = .ok (.ireturn, 1)) : W p l e R s m args below meth c s.heap [] 0 0 (MQ below (vp_Si (fun r => r = F)) args s 0 0 (fun _ => False)) (F0 m pc ls [.int (bI v)]) :=
  W.zret C.1 C.2.1 C.2.2.1 (bI_nar v) (fun t ht _ => ⟨_, rfl, hF, ht⟩) (fun _ h => absurd h List.not_mem_nil) hdg C.2.2.2.1
theorem n_lret {F v : Int64} (C : Cx p c meth s args m cc L0 (some .long) own) (hF : v = F) (hdg : decode cc pc = .ok (.lreturn, 1)) : W p l e R s m args below meth c s.heap [] 0 0 (MQ below (vp_Sl (fun r => r = F)) args s 0 0 (fun _ => False)) (F0 m pc ls [.long v]) :=
  W.lret C.1 C.2.1 C.2.2.1 (fun t ht _ => ⟨v, rfl, hF, ht⟩) (fun _ h => absurd h List.not_mem_nil) hdg C.2.2.2.1
theorem n_iretW {v : Int32} {w1 : va_W} {G : GG} {A : Nat → Prop} {mc ms : Nat} {post : Int32 → va_W → Prop} (C : Cx p c meth s args m cc L0 (some .int) own) (hpost : post v w1) (hP : PP G w1 H) (hD : va_D A w1) (hS : va_S A s.heap H locs) (h1 : cells ≤ mc) (h2 : slots ≤ ms) (hdg : decode cc pc = .ok (.ireturn, 1)) : W p l e R s m args below meth c H locs cells slots (MQ below (va_Qi (S := va_W) post (fun w1 t => PP G w1 t.heap ∧ va_D A w1) A) args s mc ms A) (F0 m pc ls [.int v]) :=
  W.widen h1 h2 (W.iret C.1 C.2.1 C.2.2.1 (fun t ht _ => ⟨⟨v, w1, rfl, hpost, by rw [ht]; exact hP, hD⟩, hS.F ht⟩) hS.2.2 hdg C.2.2.2.1)
theorem n_zretW {v : Bool} {w1 : va_W} {G : GG} {A : Nat → Prop} {mc ms : Nat} {post : Int32 → va_W → Prop} (C : Cx p c meth s args m cc L0 (some .boolean) own) (hpost : post (bI v) w1) (hP : PP G w1 H) (hD : va_D A w1) (hS : va_S A s.heap H locs) (h1 : cells ≤ mc) (h2 : slots ≤ ms) (hdg : decode cc pc = .ok (.ireturn, 1)) : W p l e R s m args below meth c H locs cells slots (MQ below (va_Qi (S := va_W) post (fun w1 t => PP G w1 t.heap ∧ va_D A w1) A) args s mc ms A) (F0 m pc ls [.int (bI v)]) :=
  W.widen h1 h2 (W.zret C.1 C.2.1 C.2.2.1 (bI_nar v) (fun t ht _ => ⟨⟨_, w1, rfl, hpost, by rw [ht]; exact hP, hD⟩, hS.F ht⟩) hS.2.2 hdg C.2.2.2.1)
theorem n_lretW {v : Int64} {w1 : va_W} {G : GG} {A : Nat → Prop} {mc ms : Nat} {post : Int64 → va_W → Prop} (C : Cx p c meth s args m cc L0 (some .long) own) (hpost : post v w1) (hP : PP G w1 H) (hD : va_D A w1) (hS : va_S A s.heap H locs) (h1 : cells ≤ mc) (h2 : slots ≤ ms) (hdg : decode cc pc = .ok (.lreturn, 1)) : W p l e R s m args below meth c H locs cells slots (MQ below (va_Ql (S := va_W) post (fun w1 t => PP G w1 t.heap ∧ va_D A w1) A) args s mc ms A) (F0 m pc ls [.long v]) :=
  W.widen h1 h2 (W.lret C.1 C.2.1 C.2.2.1 (fun t ht _ => ⟨⟨v, w1, rfl, hpost, by rw [ht]; exact hP, hD⟩, hS.F ht⟩) hS.2.2 hdg C.2.2.2.1)
theorem n_vretW {w1 : va_W} {G : GG} {A : Nat → Prop} {mc ms : Nat} {post : va_W → Prop} (C : Cx p c meth s args m cc L0 none own) (hpost : post w1) (hP : PP G w1 H) (hD : va_D A w1) (hS : va_S A s.heap H locs) (h1 : cells ≤ mc) (h2 : slots ≤ ms) (hdg : decode cc pc = .ok (.return_, 1)) : W p l e R s m args below meth c H locs cells slots (MQ below (va_Qv (S := va_W) post (fun w1 t => PP G w1 t.heap ∧ va_D A w1) A) args s mc ms A) (F0 m pc ls []) :=
  W.widen h1 h2 (W.vret C.1 C.2.1 C.2.2.1 (fun t ht _ => ⟨⟨w1, rfl, hpost, by rw [ht]; exact hP, hD⟩, hS.F ht⟩) hS.2.2 hdg C.2.2.2.1)
/-! numbers that are Nats -/
theorem n_eqi {x y : Int32} (h : x = y) (k : W p l e R s m args below meth c H locs cells slots Q (F0 m pc ls (.int y :: rest))) : W p l e R s m args below meth c H locs cells slots Q (F0 m pc ls (.int x :: rest)) := by rw [h]; exact k
theorem n_eql {x y : Int64} (h : x = y) (k : W p l e R s m args below meth c H locs cells slots Q (F0 m pc ls (.long y :: rest))) : W p l e R s m args below meth c H locs cells slots Q (F0 m pc ls (.long x :: rest)) := by rw [h]; exact k
theorem n_iadd (hx : p.tables.exec = Jvm.exec) (hb : c.code = cc) (x y : Nat) (hdg : decode cc pc = .ok (.iadd, 1)) (k : W p l e R s m args below meth c H locs cells slots Q (F0 m (pc + 1) ls (.int (nI (x + y)) :: rest))) : W p l e R s m args below meth c H locs cells slots Q (F0 m pc ls (.int (nI y) :: .int (nI x) :: rest)) :=
  lv_iadd hx hb hdg (by rw [nI_add]; exact k)
theorem n_imul (hx : p.tables.exec = Jvm.exec) (hb : c.code = cc) (x y : Nat) (hdg : decode cc pc = .ok (.imul, 1)) (k : W p l e R s m args below meth c H locs cells slots Q (F0 m (pc + 1) ls (.int (nI (x * y)) :: rest))) : W p l e R s m args below meth c H locs cells slots Q (F0 m pc ls (.int (nI y) :: .int (nI x) :: rest)) :=
  lv_imul hx hb hdg (by rw [pk_mul]; exact k)
theorem n_isub (hx : p.tables.exec = Jvm.exec) (hb : c.code = cc) (x y : Nat) (h : y ≤ x) (hdg : decode cc pc = .ok (.isub, 1)) (k : W p l e R s m args below meth c H locs cells slots Q (F0 m (pc + 1) ls (.int (nI (x - y)) :: rest))) : W p l e R s m args below meth c H locs cells slots Q (F0 m pc ls (.int (nI y) :: .int (nI x) :: rest)) :=
  lv_isub hx hb hdg (by rw [pk_sub h]; exact k)
theorem n_idiv (hx : p.tables.exec = Jvm.exec) (hb : c.code = cc) (x y : Nat) (h1 : x < 2 ^ 31) (h0 : 0 < y) (h2 : y < 2 ^ 31) (hdg : decode cc pc = .ok (.idiv, 1)) (k : W p l e R s m args below meth c H locs cells slots Q (F0 m (pc + 1) ls (.int (nI (x / y)) :: rest))) : W p l e R s m args below meth c H locs cells slots Q (F0 m pc ls (.int (nI y) :: .int (nI x) :: rest)) :=
  lv_idiv hx hb hdg (nI_ne0 h0 h2) (by rw [pk_div h1 h0 h2]; exact k)
theorem n_irem (hx : p.tables.exec = Jvm.exec) (hb : c.code = cc) (x y : Nat) (h1 : x < 2 ^ 31) (h0 : 0 < y) (h2 : y < 2 ^ 31) (hdg : decode cc pc = .ok (.irem, 1)) (k : W p l e R s m args below meth c H locs cells slots Q (F0 m (pc + 1) ls (.int (nI (x % y)) :: rest))) : W p l e R s m args below meth c H locs cells slots Q (F0 m pc ls (.int (nI y) :: .int (nI x) :: rest)) :=
  lv_irem hx hb hdg (nI_ne0 h0 h2) (by rw [pk_rem h1 h0 h2]; exact k)
theorem n_iinc {nL i k : Nat} {lv lv' : List (Nat × Value)} (hx : p.tables.exec = Jvm.exec) (hb : c.code = cc) (j d : Nat) (hdg : decode cc pc = .ok (.iinc i (d : Int), 3)) (h : lv_has ls nL lv) (hk : lv[k]? = some (i, .int (nI j))) (hn : i < nL) (hl : (i, Value.int (nI (j + d))) :: lv.filter (fun q => !(q.1 == i) && !(q.1 + 1 == i && q.2.category == 2)) = lv') (kk : ∀ ls' : Array Slot, lv_has ls' nL lv' → W p l e R s m args below meth c H locs cells slots Q (F0 m (pc + 3) ls' rest)) : W p l e R s m args below meth c H locs cells slots Q (F0 m pc ls rest) :=
  lv_iinc hx hb hdg h hk (show nI j + Int32.ofInt (d : Int) = nI (j + d) by rw [show Int32.ofInt (d : Int) = nI d from rfl, nI_add]) hn hl kk
theorem n_ic_lt {x y : Nat} {off : Int} {tgt : Nat} (hx : p.tables.exec = Jvm.exec) (hb : c.code = cc) (h1 : x < 2 ^ 31) (h2 : y < 2 ^ 31) (hdg : decode cc pc = .ok (.if_icmp .lt off, 3)) (ht : (pc : Int) + off = (tgt : Int)) (kt : x < y → W p l e R s m args below meth c H locs cells slots Q (F0 m tgt ls rest)) (kf : y ≤ x → W p l e R s m args below meth c H locs cells slots Q (F0 m (pc + 3) ls rest)) : W p l e R s m args below meth c H locs cells slots Q (F0 m pc ls (.int (nI y) :: .int (nI x) :: rest)) :=
  lv_icmp_lt hx hb hdg ht (fun q => kt ((nI_ltI h1 h2).mp q)) (fun q => kf (Nat.not_lt.mp fun r => q ((nI_ltI h1 h2).mpr r)))
theorem n_ic_ge {x y : Nat} {off : Int} {tgt : Nat} (hx : p.tables.exec = Jvm.exec) (hb : c.code = cc) (h1 : x < 2 ^ 31) (h2 : y < 2 ^ 31) (hdg : decode cc pc = .ok (.if_icmp .ge off, 3)) (ht : (pc : Int) + off = (tgt : Int)) (kt : y ≤ x → W p l e R s m args below meth c H locs cells slots Q (F0 m tgt ls rest)) (kf : x < y → W p l e R s m args below meth c H locs cells slots Q (F0 m (pc + 3) ls rest)) : W p l e R s m args below meth c H locs cells slots Q (F0 m pc ls (.int (nI y) :: .int (nI x) :: rest)) :=
  lv_icmp_ge hx hb hdg ht (fun q => kt ((nI_leI h2 h1).mp q)) (fun q => kf (Nat.not_le.mp fun r => q ((nI_leI h2 h1).mpr r)))
theorem n_ic_gt {x y : Nat} {off : Int} {tgt : Nat} (hx : p.tables.exec = Jvm.exec) (hb : c.code = cc) (h1 : x < 2 ^ 31) (h2 : y < 2 ^ 31) (hdg : decode cc pc = .ok (.if_icmp .gt off, 3)) (ht : (pc : Int) + off = (tgt : Int)) (kt : y < x → W p l e R s m args below meth c H locs cells slots Q (F0 m tgt ls rest)) (kf : x ≤ y → W p l e R s m args below meth c H locs cells slots Q (F0 m (pc + 3) ls rest)) : W p l e R s m args below meth c H locs cells slots Q (F0 m pc ls (.int (nI y) :: .int (nI x) :: rest)) :=
  lv_icmp_gt hx hb hdg ht (fun q => kt ((nI_ltI h2 h1).mp q)) (fun q => kf (Nat.not_lt.mp fun r => q ((nI_ltI h2 h1).mpr r)))
theorem n_ic_le {x y : Nat} {off : Int} {tgt : Nat} (hx : p.tables.exec = Jvm.exec) (hb : c.code = cc) (h1 : x < 2 ^ 31) (h2 : y < 2 ^ 31) (hdg : decode cc pc = .ok (.if_icmp .le off, 3)) (ht : (pc : Int) + off = (tgt : Int)) (kt : x ≤ y → W p l e R s m args below meth c H locs cells slots Q (F0 m tgt ls rest)) (kf : y < x → W p l e R s m args below meth c H locs cells slots Q (F0 m (pc + 3) ls rest)) : W p l e R s m args below meth c H locs cells slots Q (F0 m pc ls (.int (nI y) :: .int (nI x) :: rest)) :=
  lv_icmp_le hx hb hdg ht (fun q => kt ((nI_leI h1 h2).mp q)) (fun q => kf (Nat.not_le.mp fun r => q ((nI_leI h1 h2).mpr r)))
theorem n_ic_eq {x y : Nat} {off : Int} {tgt : Nat} (hx : p.tables.exec = Jvm.exec) (hb : c.code = cc) (h1 : x < 2 ^ 31) (h2 : y < 2 ^ 31) (hdg : decode cc pc = .ok (.if_icmp .eq off, 3)) (ht : (pc : Int) + off = (tgt : Int)) (kt : x = y → W p l e R s m args below meth c H locs cells slots Q (F0 m tgt ls rest)) (kf : x ≠ y → W p l e R s m args below meth c H locs cells slots Q (F0 m (pc + 3) ls rest)) : W p l e R s m args below meth c H locs cells slots Q (F0 m pc ls (.int (nI y) :: .int (nI x) :: rest)) :=
  lv_icmp_eq hx hb hdg ht (fun q => kt ((nI_eq h1 h2).mp q)) (fun q => kf (fun r => q ((nI_eq h1 h2).mpr r)))
theorem n_ic_ne {x y : Nat} {off : Int} {tgt : Nat} (hx : p.tables.exec = Jvm.exec) (hb : c.code = cc) (h1 : x < 2 ^ 31) (h2 : y < 2 ^ 31) (hdg : decode cc pc = .ok (.if_icmp .ne off, 3)) (ht : (pc : Int) + off = (tgt : Int)) (kt : x ≠ y → W p l e R s m args below meth c H locs cells slots Q (F0 m tgt ls rest)) (kf : x = y → W p l e R s m args below meth c H locs cells slots Q (F0 m (pc + 3) ls rest)) : W p l e R s m args below meth c H locs cells slots Q (F0 m pc ls (.int (nI y) :: .int (nI x) :: rest)) :=
  lv_icmp_ne hx hb hdg ht (fun q => kt (fun r => q ((nI_eq h1 h2).mpr r))) (fun q => kf ((nI_eq h1 h2).mp q))
theorem n_if_eqB {b : Bool} {off : Int} {tgt : Nat} (hx : p.tables.exec = Jvm.exec) (hb : c.code = cc) (hdg : decode cc pc = .ok (.ifCond .eq off, 3)) (ht : (pc : Int) + off = (tgt : Int)) (kt : b = false → W p l e R s m args below meth c H locs cells slots Q (F0 m tgt ls rest)) (kf : b = true → W p l e R s m args below meth c H locs cells slots Q (F0 m (pc + 3) ls rest)) : W p l e R s m args below meth c H locs cells slots Q (F0 m pc ls (.int (bI b) :: rest)) :=
  lv_if_eq hx hb hdg ht (fun q => kt (bI_f q)) (fun q => kf (bI_t q))
theorem n_if_neB {b : Bool} {off : Int} {tgt : Nat} (hx : p.tables.exec = Jvm.exec) (hb : c.code = cc) (hdg : decode cc pc = .ok (.ifCond .ne off, 3)) (ht : (pc : Int) + off = (tgt : Int)) (kt : b = true → W p l e R s m args below meth c H locs cells slots Q (F0 m tgt ls rest)) (kf : b = false → W p l e R s m args below meth c H locs cells slots Q (F0 m (pc + 3) ls rest)) : W p l e R s m args below meth c H locs cells slots Q (F0 m pc ls (.int (bI b) :: rest)) :=
  lv_if_ne hx hb hdg ht (fun q => kt (bI_t q)) (fun q => kf (bI_f q))
theorem n_if_lt {x : Nat} {off : Int} {tgt : Nat} (hx : p.tables.exec = Jvm.exec) (hb : c.code = cc) (h1 : x < 2 ^ 31) (hdg : decode cc pc = .ok (.ifCond .lt off, 3)) (ht : (pc : Int) + off = (tgt : Int)) (k : W p l e R s m args below meth c H locs cells slots Q (F0 m (pc + 3) ls rest)) : W p l e R s m args below meth c H locs cells slots Q (F0 m pc ls (.int (nI x) :: rest)) :=
  lv_if_lt hx hb hdg ht (fun q => absurd q (nI_pos h1)) (fun _ => k)
theorem n_if_ge {x : Nat} {off : Int} {tgt : Nat} (hx : p.tables.exec = Jvm.exec) (hb : c.code = cc) (h1 : x < 2 ^ 31) (hdg : decode cc pc = .ok (.ifCond .ge off, 3)) (ht : (pc : Int) + off = (tgt : Int)) (k : W p l e R s m args below meth c H locs cells slots Q (F0 m tgt ls rest)) : W p l e R s m args below meth c H locs cells slots Q (F0 m pc ls (.int (nI x) :: rest)) :=
  lv_if_ge hx hb hdg ht (fun _ => k) (fun q => absurd (nI_pos' h1) q)
theorem n_z {x : Nat} (h1 : x < 2 ^ 31) : nI x = 0 ↔ x = 0 := by rw [show (0 : Int32) = nI 0 from rfl]; exact nI_eq h1 (by decide)
theorem n_if_eq {x : Nat} {off : Int} {tgt : Nat} (hx : p.tables.exec = Jvm.exec) (hb : c.code = cc) (h1 : x < 2 ^ 31) (hdg : decode cc pc = .ok (.ifCond .eq off, 3)) (ht : (pc : Int) + off = (tgt : Int)) (kt : x = 0 → W p l e R s m args below meth c H locs cells slots Q (F0 m tgt ls rest)) (kf : 0 < x → W p l e R s m args below meth c H locs cells slots Q (F0 m (pc + 3) ls rest)) : W p l e R s m args below meth c H locs cells slots Q (F0 m pc ls (.int (nI x) :: rest)) :=
  lv_if_eq hx hb hdg ht (fun q => kt ((n_z h1).mp q)) (fun q => kf (Nat.pos_of_ne_zero fun r => q ((n_z h1).mpr r)))
theorem n_if_ne {x : Nat} {off : Int} {tgt : Nat} (hx : p.tables.exec = Jvm.exec) (hb : c.code = cc) (h1 : x < 2 ^ 31) (hdg : decode cc pc = .ok (.ifCond .ne off, 3)) (ht : (pc : Int) + off = (tgt : Int)) (kt : 0 < x → W p l e R s m args below meth c H locs cells slots Q (F0 m tgt ls rest)) (kf : x = 0 → W p l e R s m args below meth c H locs cells slots Q (F0 m (pc + 3) ls rest)) : W p l e R s m args below meth c H locs cells slots Q (F0 m pc ls (.int (nI x) :: rest)) :=
  lv_if_ne hx hb hdg ht (fun q => kt (Nat.pos_of_ne_zero fun r => q ((n_z h1).mpr r))) (fun q => kf ((n_z h1).mp q))
theorem n_if_gt {x : Nat} {off : Int} {tgt : Nat} (hx : p.tables.exec = Jvm.exec) (hb : c.code = cc) (h1 : x < 2 ^ 31) (hdg : decode cc pc = .ok (.ifCond .gt off, 3)) (ht : (pc : Int) + off = (tgt : Int)) (kt : 0 < x → W p l e R s m args below meth c H locs cells slots Q (F0 m tgt ls rest)) (kf : x = 0 → W p l e R s m args below meth c H locs cells slots Q (F0 m (pc + 3) ls rest)) : W p l e R s m args below meth c H locs cells slots Q (F0 m pc ls (.int (nI x) :: rest)) :=
  lv_if_gt hx hb hdg ht (fun q => kt (Nat.pos_of_ne_zero fun r => absurd q (by rw [r]; decide))) (fun q => kf (Classical.byContradiction fun r => q (nI_lt (a := 0) (Nat.pos_of_ne_zero r) h1)))
theorem n_if_le {x : Nat} {off : Int} {tgt : Nat} (hx : p.tables.exec = Jvm.exec) (hb : c.code = cc) (h1 : x < 2 ^ 31) (hdg : decode cc pc = .ok (.ifCond .le off, 3)) (ht : (pc : Int) + off = (tgt : Int)) (kt : x = 0 → W p l e R s m args below meth c H locs cells slots Q (F0 m tgt ls rest)) (kf : 0 < x → W p l e R s m args below meth c H locs cells slots Q (F0 m (pc + 3) ls rest)) : W p l e R s m args below meth c H locs cells slots Q (F0 m pc ls (.int (nI x) :: rest)) :=
  lv_if_le hx hb hdg ht (fun q => kt (Classical.byContradiction fun r => nI_nle (Nat.pos_of_ne_zero r) h1 q)) (fun q => kf (Nat.pos_of_ne_zero fun r => q (by rw [r]; decide)))
/-! int arrays at Nat places -/
theorem n_iald {G : GG} {ws : va_W} {a n : Nat} {f : Nat → Int32} (C : Cx p c meth s args m cc L0 rt0 own) (hK : KM G s) (hP : PP G ws H) (q0 k : Nat) (ha : ws[q0]? = some (a, iA G n f)) (hk : k < n) (hn : n < 2 ^ 31) (hdg : decode cc pc = .ok (.iaload, 1)) (kk : W p l e R s m args below meth c H locs cells slots Q (F0 m (pc + 1) ls (.int (f k) :: rest))) : W p l e R s m args below meth c H locs cells slots Q (F0 m pc ls (.int (nI k) :: .ref a :: rest)) :=
  va_iald C.1 C.2.1 hK hP q0 0 ha rfl (vp_in_nI hk hn) hdg (by rw [nI_clamp (Nat.lt_trans hk hn)]; exact kk)
theorem n_iast {G : GG} {ws : va_W} {A : Nat → Prop} {H0 : Heap} {a n : Nat} {f : Nat → Int32} {x : Int32} (C : Cx p c meth s args m cc L0 rt0 own) (hK : KM G s) (hP : PP G ws H) (hD : va_D A ws) (hS : va_S A H0 H locs) (q0 k : Nat) (ha : ws[q0]? = some (a, iA G n f)) (hk : k < n) (hn : n < 2 ^ 31) (hdg : decode cc pc = .ok (.iastore, 1)) (kk : ∀ (H1 : Heap) (locs1 : List Loc), PP G (ws.set q0 (a, iA G n (upd f k x))) H1 → va_D A (ws.set q0 (a, iA G n (upd f k x))) → va_S A H0 H1 locs1 → W p l e R s m args below meth c H1 locs1 cells slots Q (F0 m (pc + 1) ls rest)) : W p l e R s m args below meth c H locs cells slots Q (F0 m pc ls (.int x :: .int (nI k) :: .ref a :: rest)) :=
  va_iast C.1 C.2.1 hK hP hD hS q0 0 ha rfl (vp_in_nI hk hn) hdg (by rw [nI_clamp (Nat.lt_trans hk hn)]; exact kk)
/-! calls of readers -/
theorem c_S {y : MethodName} {b : ByteArray} {L : Nat} {rt : Option FieldType} {rm : Room} {av : List Value} {w : va_W} {G : GG} {K : State → Prop} {F : Int32} {idx : Nat} {lv : List (Nat × Value)} {st0 : List Value} (C : Cx p c meth s args m cc L0 rt0 own) (hM : MR l y b L rt rm av w G K F) (n : Nat) (hG : GoodIn lw_all (va_wsS own idx y (ws_ y b L rt))) (hd : y.cls ≠ "java/lang/invoke/MethodHandle" ∧ y.cls ≠ "java/lang/invoke/VarHandle" ∧ (parseMethodDescriptor y.desc).map (fun d => d.parameters.length) = some n) (hrm : rm.cells = 0 ∧ rm.slots = 0) (hR : rm.frames + 1 ≤ R.frames ∧ 8 + (L + 11) + rm.locals ≤ R.locals) (hKm : Mv K) (hP : PP G w H) (hK : K s) (hl : lv_has ls L0 lv) (hn : av.length = n) (hst : st0 = av.reverse ++ rest) (hW : (rest.map fun v => v.category).sum ≤ 8) (hcs : cells ≤ R.cells ∧ slots ≤ R.slots) (hdg : decode cc pc = .ok (.invokestatic idx, 3)) (kk : W p l e R s m args below meth c H locs cells slots Q (F0 m (pc + 3) ls (.int F :: rest))) : W p l e R s m args below meth c H locs cells slots Q (F0 m pc ls st0) :=
  vp_callSi (W.runS (As := av) (rest := rest) ⟨C.1, C.2.1, C.2.2.2.2.1, C.2.2.2.2.2.1, C.2.2.2.2.2.2⟩ hM (va_cwS n C.2.2.2.2.2.2 hG rfl hrm.1 hrm.2 hd hR) ⟨fun _ _ _ _ q => ⟨q.1, q.2.1, hKm.2 _ _ _ _ q.2.2⟩, fun U hU hWm => ⟨rfl, by rw [hU]; exact hP, hKm.1 _ _ hWm hK⟩⟩ rfl hn hl.1 hst (lv_room hW) hdg hcs) (fun r hr => by rw [hr]; exact kk)
theorem c_Sl {y : MethodName} {b : ByteArray} {L : Nat} {rt : Option FieldType} {rm : Room} {av : List Value} {w : va_W} {G : GG} {K : State → Prop} {F : Int64} {idx : Nat} {lv : List (Nat × Value)} {st0 : List Value} (C : Cx p c meth s args m cc L0 rt0 own) (hM : MRl l y b L rt rm av w G K F) (n : Nat) (hG : GoodIn lw_all (va_wsS own idx y (ws_ y b L rt))) (hd : y.cls ≠ "java/lang/invoke/MethodHandle" ∧ y.cls ≠ "java/lang/invoke/VarHandle" ∧ (parseMethodDescriptor y.desc).map (fun d => d.parameters.length) = some n) (hrm : rm.cells = 0 ∧ rm.slots = 0) (hR : rm.frames + 1 ≤ R.frames ∧ 8 + (L + 11) + rm.locals ≤ R.locals) (hKm : Mv K) (hP : PP G w H) (hK : K s) (hl : lv_has ls L0 lv) (hn : av.length = n) (hst : st0 = av.reverse ++ rest) (hW : (rest.map fun v => v.category).sum ≤ 8) (hcs : cells ≤ R.cells ∧ slots ≤ R.slots) (hdg : decode cc pc = .ok (.invokestatic idx, 3)) (kk : W p l e R s m args below meth c H locs cells slots Q (F0 m (pc + 3) ls (.long F :: rest))) : W p l e R s m args below meth c H locs cells slots Q (F0 m pc ls st0) :=
  vp_callSl (W.runS (As := av) (rest := rest) ⟨C.1, C.2.1, C.2.2.2.2.1, C.2.2.2.2.2.1, C.2.2.2.2.2.2⟩ hM (va_cwS n C.2.2.2.2.2.2 hG rfl hrm.1 hrm.2 hd hR) ⟨fun _ _ _ _ q => ⟨q.1, q.2.1, hKm.2 _ _ _ _ q.2.2⟩, fun U hU hWm => ⟨rfl, by rw [hU]; exact hP, hKm.1 _ _ hWm hK⟩⟩ rfl hn hl.1 hst (lv_room hW) hdg hcs) (fun r hr => by rw [hr]; exact kk)
/-- the receiver, an object of the class C -/
abbrev Rcv (s : State) (H : Heap) (C : String) (b : Nat) : Prop := ∃ cellB : Cell, H[b]? = some cellB ∧ cellB.vm.isStatics = false ∧ s.vm.findClass C = some cellB.cls
theorem c_V {y : MethodName} {b : ByteArray} {L : Nat} {rt : Option FieldType} {rm : Room} {o : Nat} {av : List Value} {w : va_W} {G : GG} {K : State → Prop} {F : Int32} {idx : Nat} {lv : List (Nat × Value)} {st0 : List Value} {CC : String} (C : Cx p c meth s args m cc L0 rt0 own) (hM : MR l y b L rt rm (.ref o :: av) w G K F) (n : Nat) (hG : GoodIn lw_all (wsV own idx CC y (ws_ y b L rt))) (hd : y.cls = CC ∧ y.cls ≠ "java/lang/invoke/MethodHandle" ∧ y.cls ≠ "java/lang/invoke/VarHandle" ∧ (parseMethodDescriptor y.desc).map (fun d => d.parameters.length) = some n) (hrm : rm.cells = 0 ∧ rm.slots = 0) (hR : rm.frames + 1 ≤ R.frames ∧ 8 + (L + 11) + rm.locals ≤ R.locals) (hKm : Mv K) (hrc : Rcv s H CC o) (hP : PP G w H) (hK : K s) (hl : lv_has ls L0 lv) (hn : av.length = n) (hst : st0 = av.reverse ++ .ref o :: rest) (hW : (rest.map fun v => v.category).sum ≤ 8) (hcs : cells ≤ R.cells ∧ slots ≤ R.slots) (hdg : decode cc pc = .ok (.invokevirtual idx, 3)) (kk : W p l e R s m args below meth c H locs cells slots Q (F0 m (pc + 3) ls (.int F :: rest))) : W p l e R s m args below meth c H locs cells slots Q (F0 m pc ls st0) :=
  vp_callSi (W.runV (As := av) (rest := rest) ⟨C.1, C.2.1, C.2.2.2.2.1, C.2.2.2.2.2.1, C.2.2.2.2.2.2⟩ hM (cwV n C.2.2.2.2.2.2 hG rfl hrm.1 hrm.2 hd hR) ⟨fun _ _ _ _ q => ⟨q.1, q.2.1, hKm.2 _ _ _ _ q.2.2⟩, hrc, fun U hU hWm => ⟨rfl, by rw [hU]; exact hP, hKm.1 _ _ hWm hK⟩⟩ rfl hn hl.1 hst (lv_room hW) hdg hcs) (fun r hr => by rw [hr]; exact kk)
/-! calls of writers: the callee's cells by their places isC, the others isR -/
theorem c_cut {G : GG} {A : Nat → Prop} {ws wc : va_W} (hP : PP G ws H) (hD : va_D A ws) (isC : List Nat) (hC : isC.map (fun i => ws[i]?) = wc.map some) (hnC : va_nd isC = true) : PP G wc H ∧ va_D (fun _ => True) wc :=
  ⟨hP.sub isC (fm_of hC), (hD.sub isC hnC hC).weaken (fun _ _ _ _ => trivial)⟩
theorem c_SW {y : MethodName} {b : ByteArray} {L : Nat} {rt : Option FieldType} {rm : Room} {av : List Value} {ws wc wr : va_W} {G : GG} {K : State → Prop} {mc ms : Nat} {post : Int32 → va_W → Prop} {A : Nat → Prop} {H0 : Heap} {idx : Nat} {lv : List (Nat × Value)} {st0 : List Value} (C : Cx p c meth s args m cc L0 rt0 own) (hM : MW l y b L rt rm av wc G K mc ms post) (n : Nat) (hG : GoodIn lw_all (va_wsS own idx y (ws_ y b L rt))) (hd : y.cls ≠ "java/lang/invoke/MethodHandle" ∧ y.cls ≠ "java/lang/invoke/VarHandle" ∧ (parseMethodDescriptor y.desc).map (fun d => d.parameters.length) = some n) (hrm : rm.cells = mc ∧ rm.slots = ms) (hR : rm.frames + 1 ≤ R.frames ∧ 8 + (L + 11) + rm.locals ≤ R.locals) (hKm : Mv K) (hK : K s) (hA : ∀ q : Nat, H0.size ≤ q → A q) (hP : PP G ws H) (hD : va_D A ws) (hS : va_S A H0 H locs) (isC isR : List Nat) (hC : isC.map (fun i => ws[i]?) = wc.map some) (hRr : isR.map (fun i => ws[i]?) = wr.map some) (hnC : va_nd isC = true) (hnR : va_nd isR = true) (hdis : ∀ i ∈ isR, i ∉ isC) (hl : lv_has ls L0 lv) (hn : av.length = n) (hst : st0 = av.reverse ++ rest) (hW : (rest.map fun v => v.category).sum ≤ 8) (hcs : cells + mc ≤ R.cells ∧ slots + ms ≤ R.slots) (hdg : decode cc pc = .ok (.invokestatic idx, 3)) (kk : ∀ (r : Int32) (w1 : va_W) (H1 : Heap) (locs1 : List Loc), post r w1 → PP G (wr ++ w1) H1 → va_D A (wr ++ w1) → va_S A H0 H1 locs1 → W p l e R s m args below meth c H1 locs1 (cells + mc) (slots + ms) Q (F0 m (pc + 3) ls (.int r :: rest))) : W p l e R s m args below meth c H locs cells slots Q (F0 m pc ls st0) := by
  obtain ⟨hPc, hDc⟩ := c_cut hP hD isC hC hnC
  have hFc := va_free (wc := wc) hD hS hA isC hC
  refine va_calli (va_runS (As := av) (rest := rest) ⟨C.1, C.2.1, C.2.2.2.2.1, C.2.2.2.2.2.1, C.2.2.2.2.2.2⟩ (hM H.size) (va_cwS n C.2.2.2.2.2.2 hG rfl hrm.1 hrm.2 hd hR) ⟨fun _ _ _ _ q => ⟨q.1, q.2.1, q.2.2.1, hKm.2 _ _ _ _ q.2.2.2.1, q.2.2.2.2⟩, fun U hU hWm => ⟨rfl, by rw [hU], by rw [hU]; exact hPc, hKm.1 _ _ hWm hK, hDc⟩⟩ rfl hn hl.1 hst (lv_room hW) hdg hcs) hS (fun q _ h => hFc q h) hFc (fun r w1 t H1 locs1 ht _ hpost hB _ hk hS1 => ?_)
  obtain ⟨hP1, hD1⟩ := hB
  rw [ht] at hP1
  obtain ⟨hP2, hD2⟩ := va_join hP hD isC isR hC hRr hnR hdis hk hFc hP1 hD1
  exact kk r w1 H1 locs1 hpost hP2 hD2 hS1
theorem c_SWv {y : MethodName} {b : ByteArray} {L : Nat} {rt : Option FieldType} {rm : Room} {av : List Value} {ws wc wr : va_W} {G : GG} {K : State → Prop} {mc ms : Nat} {post : va_W → Prop} {A : Nat → Prop} {H0 : Heap} {idx : Nat} {lv : List (Nat × Value)} {st0 : List Value} (C : Cx p c meth s args m cc L0 rt0 own) (hM : MWv l y b L rt rm av wc G K mc ms post) (n : Nat) (hG : GoodIn lw_all (va_wsS own idx y (ws_ y b L rt))) (hd : y.cls ≠ "java/lang/invoke/MethodHandle" ∧ y.cls ≠ "java/lang/invoke/VarHandle" ∧ (parseMethodDescriptor y.desc).map (fun d => d.parameters.length) = some n) (hrm : rm.cells = mc ∧ rm.slots = ms) (hR : rm.frames + 1 ≤ R.frames ∧ 8 + (L + 11) + rm.locals ≤ R.locals) (hKm : Mv K) (hK : K s) (hA : ∀ q : Nat, H0.size ≤ q → A q) (hP : PP G ws H) (hD : va_D A ws) (hS : va_S A H0 H locs) (isC isR : List Nat) (hC : isC.map (fun i => ws[i]?) = wc.map some) (hRr : isR.map (fun i => ws[i]?) = wr.map some) (hnC : va_nd isC = true) (hnR : va_nd isR = true) (hdis : ∀ i ∈ isR, i ∉ isC) (hl : lv_has ls L0 lv) (hn : av.length = n) (hst : st0 = av.reverse ++ rest) (hW : (rest.map fun v => v.category).sum ≤ 8) (hcs : cells + mc ≤ R.cells ∧ slots + ms ≤ R.slots) (hdg : decode cc pc = .ok (.invokestatic idx, 3)) (kk : ∀ (w1 : va_W) (H1 : Heap) (locs1 : List Loc), post w1 → PP G (wr ++ w1) H1 → va_D A (wr ++ w1) → va_S A H0 H1 locs1 → W p l e R s m args below meth c H1 locs1 (cells + mc) (slots + ms) Q (F0 m (pc + 3) ls rest)) : W p l e R s m args below meth c H locs cells slots Q (F0 m pc ls st0) := by
  obtain ⟨hPc, hDc⟩ := c_cut hP hD isC hC hnC
  have hFc := va_free (wc := wc) hD hS hA isC hC
  refine va_callv (va_runS (As := av) (rest := rest) ⟨C.1, C.2.1, C.2.2.2.2.1, C.2.2.2.2.2.1, C.2.2.2.2.2.2⟩ (hM H.size) (va_cwS n C.2.2.2.2.2.2 hG rfl hrm.1 hrm.2 hd hR) ⟨fun _ _ _ _ q => ⟨q.1, q.2.1, q.2.2.1, hKm.2 _ _ _ _ q.2.2.2.1, q.2.2.2.2⟩, fun U hU hWm => ⟨rfl, by rw [hU], by rw [hU]; exact hPc, hKm.1 _ _ hWm hK, hDc⟩⟩ rfl hn hl.1 hst (lv_room hW) hdg hcs) hS (fun q _ h => hFc q h) hFc (fun w1 t H1 locs1 ht _ hpost hB _ hk hS1 => ?_)
  obtain ⟨hP1, hD1⟩ := hB
  rw [ht] at hP1
  obtain ⟨hP2, hD2⟩ := va_join hP hD isC isR hC hRr hnR hdis hk hFc hP1 hD1
  exact kk w1 H1 locs1 hpost hP2 hD2 hS1
theorem c_VW {y : MethodName} {b : ByteArray} {L : Nat} {rt : Option FieldType} {rm : Room} {o : Nat} {av : List Value} {ws wc wr : va_W} {G : GG} {K : State → Prop} {mc ms : Nat} {post : Int32 → va_W → Prop} {A : Nat → Prop} {H0 : Heap} {idx : Nat} {lv : List (Nat × Value)} {st0 : List Value} {CC : String} (C : Cx p c meth s args m cc L0 rt0 own) (hM : MW l y b L rt rm (.ref o :: av) wc G K mc ms post) (n : Nat) (hG : GoodIn lw_all (wsV own idx CC y (ws_ y b L rt))) (hd : y.cls = CC ∧ y.cls ≠ "java/lang/invoke/MethodHandle" ∧ y.cls ≠ "java/lang/invoke/VarHandle" ∧ (parseMethodDescriptor y.desc).map (fun d => d.parameters.length) = some n) (hrm : rm.cells = mc ∧ rm.slots = ms) (hR : rm.frames + 1 ≤ R.frames ∧ 8 + (L + 11) + rm.locals ≤ R.locals) (hKm : Mv K) (hK : K s) (hrc : Rcv s H CC o) (hA : ∀ q : Nat, H0.size ≤ q → A q) (hP : PP G ws H) (hD : va_D A ws) (hS : va_S A H0 H locs) (isC isR : List Nat) (hC : isC.map (fun i => ws[i]?) = wc.map some) (hRr : isR.map (fun i => ws[i]?) = wr.map some) (hnC : va_nd isC = true) (hnR : va_nd isR = true) (hdis : ∀ i ∈ isR, i ∉ isC) (hl : lv_has ls L0 lv) (hn : av.length = n) (hst : st0 = av.reverse ++ .ref o :: rest) (hW : (rest.map fun v => v.category).sum ≤ 8) (hcs : cells + mc ≤ R.cells ∧ slots + ms ≤ R.slots) (hdg : decode cc pc = .ok (.invokevirtual idx, 3)) (kk : ∀ (r : Int32) (w1 : va_W) (H1 : Heap) (locs1 : List Loc), post r w1 → PP G (wr ++ w1) H1 → va_D A (wr ++ w1) → va_S A H0 H1 locs1 → W p l e R s m args below meth c H1 locs1 (cells + mc) (slots + ms) Q (F0 m (pc + 3) ls (.int r :: rest))) : W p l e R s m args below meth c H locs cells slots Q (F0 m pc ls st0) := by
  obtain ⟨hPc, hDc⟩ := c_cut hP hD isC hC hnC
  have hFc := va_free (wc := wc) hD hS hA isC hC
  refine va_calli (va_runV (As := av) (rest := rest) ⟨C.1, C.2.1, C.2.2.2.2.1, C.2.2.2.2.2.1, C.2.2.2.2.2.2⟩ (hM H.size) (cwV n C.2.2.2.2.2.2 hG rfl hrm.1 hrm.2 hd hR) ⟨fun _ _ _ _ q => ⟨q.1, q.2.1, q.2.2.1, hKm.2 _ _ _ _ q.2.2.2.1, q.2.2.2.2⟩, hrc, fun U hU hWm => ⟨rfl, by rw [hU], by rw [hU]; exact hPc, hKm.1 _ _ hWm hK, hDc⟩⟩ rfl hn hl.1 hst (lv_room hW) hdg hcs) hS (fun q _ h => hFc q h) hFc (fun r w1 t H1 locs1 ht _ hpost hB _ hk hS1 => ?_)
  obtain ⟨hP1, hD1⟩ := hB
  rw [ht] at hP1
  obtain ⟨hP2, hD2⟩ := va_join hP hD isC isR hC hRr hnR hdis hk hFc hP1 hD1
  exact kk r w1 H1 locs1 hpost hP2 hD2 hS1
theorem c_VWv {y : MethodName} {b : ByteArray} {L : Nat} {rt : Option FieldType} {rm : Room} {o : Nat} {av : List Value} {ws wc wr : va_W} {G : GG} {K : State → Prop} {mc ms : Nat} {post : va_W → Prop} {A : Nat → Prop} {H0 : Heap} {idx : Nat} {lv : List (Nat × Value)} {st0 : List Value} {CC : String} (C : Cx p c meth s args m cc L0 rt0 own) (hM : MWv l y b L rt rm (.ref o :: av) wc G K mc ms post) (n : Nat) (hG : GoodIn lw_all (wsV own idx CC y (ws_ y b L rt))) (hd : y.cls = CC ∧ y.cls ≠ "java/lang/invoke/MethodHandle" ∧ y.cls ≠ "java/lang/invoke/VarHandle" ∧ (parseMethodDescriptor y.desc).map (fun d => d.parameters.length) = some n) (hrm : rm.cells = mc ∧ rm.slots = ms) (hR : rm.frames + 1 ≤ R.frames ∧ 8 + (L + 11) + rm.locals ≤ R.locals) (hKm : Mv K) (hK : K s) (hrc : Rcv s H CC o) (hA : ∀ q : Nat, H0.size ≤ q → A q) (hP : PP G ws H) (hD : va_D A ws) (hS : va_S A H0 H locs) (isC isR : List Nat) (hC : isC.map (fun i => ws[i]?) = wc.map some) (hRr : isR.map (fun i => ws[i]?) = wr.map some) (hnC : va_nd isC = true) (hnR : va_nd isR = true) (hdis : ∀ i ∈ isR, i ∉ isC) (hl : lv_has ls L0 lv) (hn : av.length = n) (hst : st0 = av.reverse ++ .ref o :: rest) (hW : (rest.map fun v => v.category).sum ≤ 8) (hcs : cells + mc ≤ R.cells ∧ slots + ms ≤ R.slots) (hdg : decode cc pc = .ok (.invokevirtual idx, 3)) (kk : ∀ (w1 : va_W) (H1 : Heap) (locs1 : List Loc), post w1 → PP G (wr ++ w1) H1 → va_D A (wr ++ w1) → va_S A H0 H1 locs1 → W p l e R s m args below meth c H1 locs1 (cells + mc) (slots + ms) Q (F0 m (pc + 3) ls rest)) : W p l e R s m args below meth c H locs cells slots Q (F0 m pc ls st0) := by
  obtain ⟨hPc, hDc⟩ := c_cut hP hD isC hC hnC
  have hFc := va_free (wc := wc) hD hS hA isC hC
  refine va_callv (va_runV (As := av) (rest := rest) ⟨C.1, C.2.1, C.2.2.2.2.1, C.2.2.2.2.2.1, C.2.2.2.2.2.2⟩ (hM H.size) (cwV n C.2.2.2.2.2.2 hG rfl hrm.1 hrm.2 hd hR) ⟨fun _ _ _ _ q => ⟨q.1, q.2.1, q.2.2.1, hKm.2 _ _ _ _ q.2.2.2.1, q.2.2.2.2⟩, hrc, fun U hU hWm => ⟨rfl, by rw [hU], by rw [hU]; exact hPc, hKm.1 _ _ hWm hK, hDc⟩⟩ rfl hn hl.1 hst (lv_room hW) hdg hcs) hS (fun q _ h => hFc q h) hFc (fun w1 t H1 locs1 ht _ hpost hB _ hk hS1 => ?_)
  obtain ⟨hP1, hD1⟩ := hB
  rw [ht] at hP1
  obtain ⟨hP2, hD2⟩ := va_join hP hD isC isR hC hRr hnR hdis hk hFc hP1 hD1
  exact kk w1 H1 locs1 hpost hP2 hD2 hS1
theorem n_ladd (hx : p.tables.exec = Jvm.exec) (hb : c.code = cc) (x y : Nat) (hdg : decode cc pc = .ok (.ladd, 1)) (k : W p l e R s m args below meth c H locs cells slots Q (F0 m (pc + 1) ls (.long (lN (x + y)) :: rest))) : W p l e R s m args below meth c H locs cells slots Q (F0 m pc ls (.long (lN y) :: .long (lN x) :: rest)) :=
  lv_ladd hx hb hdg (by rw [lN_add]; exact k)
theorem n_lmul (hx : p.tables.exec = Jvm.exec) (hb : c.code = cc) (x y : Nat) (hdg : decode cc pc = .ok (.lmul, 1)) (k : W p l e R s m args below meth c H locs cells slots Q (F0 m (pc + 1) ls (.long (lN (x * y)) :: rest))) : W p l e R s m args below meth c H locs cells slots Q (F0 m pc ls (.long (lN y) :: .long (lN x) :: rest)) :=
  lv_lmul hx hb hdg (by rw [lN_mul]; exact k)
theorem n_ldiv (hx : p.tables.exec = Jvm.exec) (hb : c.code = cc) (x y : Nat) (h1 : x < 2 ^ 63) (h0 : 0 < y) (h2 : y < 2 ^ 63) (hdg : decode cc pc = .ok (.ldiv, 1)) (k : W p l e R s m args below meth c H locs cells slots Q (F0 m (pc + 1) ls (.long (lN (x / y)) :: rest))) : W p l e R s m args below meth c H locs cells slots Q (F0 m pc ls (.long (lN y) :: .long (lN x) :: rest)) :=
  lv_ldiv hx hb hdg (fun q => absurd ((pk_lEQ h2 (by decide)).mp (show lN y = lN 0 from q)) (by omega)) (by rw [pk_lDiv h1 h0 h2]; exact k)
theorem n_lrem (hx : p.tables.exec = Jvm.exec) (hb : c.code = cc) (x y : Nat) (h1 : x < 2 ^ 63) (h0 : 0 < y) (h2 : y < 2 ^ 63) (hdg : decode cc pc = .ok (.lrem, 1)) (k : W p l e R s m args below meth c H locs cells slots Q (F0 m (pc + 1) ls (.long (lN (x % y)) :: rest))) : W p l e R s m args below meth c H locs cells slots Q (F0 m pc ls (.long (lN y) :: .long (lN x) :: rest)) :=
  lv_lrem hx hb hdg (fun q => absurd ((pk_lEQ h2 (by decide)).mp (show lN y = lN 0 from q)) (by omega)) (by rw [pk_lRem h1 h0 h2]; exact k)
theorem n_i2l (hx : p.tables.exec = Jvm.exec) (hb : c.code = cc) (x : Nat) (h : x < 2 ^ 31) (hdg : decode cc pc = .ok (.i2l, 1)) (k : W p l e R s m args below meth c H locs cells slots Q (F0 m (pc + 1) ls (.long (lN x) :: rest))) : W p l e R s m args below meth c H locs cells slots Q (F0 m pc ls (.int (nI x) :: rest)) :=
  lv_i2l hx hb hdg (nI_l h) k
theorem n_lg_eq {x y : Nat} {off : Int} {tgt : Nat} (hx : p.tables.exec = Jvm.exec) (hb : c.code = cc) (h1 : x < 2 ^ 63) (h2 : y < 2 ^ 63) (hdg : decode cc pc = .ok (.ifCond .eq off, 3)) (ht : (pc : Int) + off = (tgt : Int)) (kt : x = y → W p l e R s m args below meth c H locs cells slots Q (F0 m tgt ls rest)) (kf : x ≠ y → W p l e R s m args below meth c H locs cells slots Q (F0 m (pc + 3) ls rest)) : W p l e R s m args below meth c H locs cells slots Q (F0 m pc ls (.int (lg_cmp (lN x) (lN y)) :: rest)) :=
  lv_if_eq hx hb hdg ht (fun q => kt ((lg0 h1 h2).mp q)) (fun q => kf (fun r => q ((lg0 h1 h2).mpr r)))
theorem n_lg_ne {x y : Nat} {off : Int} {tgt : Nat} (hx : p.tables.exec = Jvm.exec) (hb : c.code = cc) (h1 : x < 2 ^ 63) (h2 : y < 2 ^ 63) (hdg : decode cc pc = .ok (.ifCond .ne off, 3)) (ht : (pc : Int) + off = (tgt : Int)) (kt : x ≠ y → W p l e R s m args below meth c H locs cells slots Q (F0 m tgt ls rest)) (kf : x = y → W p l e R s m args below meth c H locs cells slots Q (F0 m (pc + 3) ls rest)) : W p l e R s m args below meth c H locs cells slots Q (F0 m pc ls (.int (lg_cmp (lN x) (lN y)) :: rest)) :=
  lv_if_ne hx hb hdg ht (fun q => kt (fun r => q ((lg0 h1 h2).mpr r))) (fun q => kf ((lg0 h1 h2).mp q))
end BROWS
