/-! BASE 12: guests known by a map gm (address: kind, figure); calls of contracts whose K speaks of the heap too (printed by tools/mkbase12.py) -/
abbrev GM : Type := Nat → Option (Nat × Int32)
def GP (G : GG) (gm : GM) (H : Heap) : Prop := ∀ (y k : Nat) (f : Int32), gm y = some (k, f) → k < 8 ∧ va_at (gD G) clAll (y, .inr (6 + k, [.int f])) H
def KG (G : GG) (gm : GM) (U : State) : Prop := KX G U ∧ GP G gm U.heap
def NG (gm : GM) (w : va_W) : Prop := ∀ (k : Nat) (q : Nat × va_E), w[k]? = some q → gm q.1 = none
def GA (gm : GM) (A : Nat → Prop) : Prop := ∀ y, gm y ≠ none → ¬ A y
theorem KG.call {G : GG} {gm : GM} : ∀ (U : State) (g : JFrame) (mk : MethodId) (a : Array Value), KG G gm U → KG G gm (U.calling g mk a) := fun U g mk a h => ⟨(KX_mv G).2 U g mk a h.1, h.2⟩
theorem KG.at {G : GG} {gm : GM} {s : State} {H : Heap} (hK : KX G s) (hG : GP G gm H) : ∀ U : State, U.heap = H → s.WarmedH U.vm → KG G gm U := fun U hU hW => ⟨(KX_mv G).1 s U hW hK, by rw [hU]; exact hG⟩
theorem GP.pp {G : GG} {gm : GM} {H : Heap} (h : GP G gm H) {y k : Nat} {f : Int32} (hy : gm y = some (k, f)) : PP G [(y, .inr (6 + k, [.int f]))] H := by
  intro i q hi
  cases i with
  | zero => cases hi; exact (h y k f hy).2
  | succ i => cases hi
theorem GP.lt {G : GG} {gm : GM} {H : Heap} (h : GP G gm H) {y : Nat} (hy : gm y ≠ none) : y < H.size := by
  cases e : gm y with
  | none => exact absurd e hy
  | some q => obtain ⟨k, f⟩ := q; exact (h y k f e).2.lt
theorem GP.keep {G : GG} {gm : GM} {H H1 : Heap} (h : GP G gm H) (hk : ∀ y, gm y ≠ none → H1[y]? = H[y]?) : GP G gm H1 := by
  intro y k f hy
  obtain ⟨h1, h2⟩ := h y k f hy
  exact ⟨h1, h2.kept (hk y (by rw [hy]; exact fun q => by cases q))⟩
theorem GP.kept {G : GG} {gm : GM} {A : Nat → Prop} {H0 H : Heap} {locs : List Loc} (h : GP G gm H0) (hA : GA gm A) (hS : va_S A H0 H locs) : GP G gm H := h.keep fun y hy => hS.2.1 y (h.lt hy) (hA y hy)
theorem GA.of {G : GG} {gm : GM} {A : Nat → Prop} {w : va_W} {H : Heap} (hN : NG gm w) (hG : GP G gm H) (hA : ∀ q, A q → va_A w H.size q) : GA gm A := by
  intro y hy hAy
  rcases hA y hAy with ⟨k, e, hk⟩ | h
  · exact hy (hN k _ hk)
  · have := hG.lt hy; omega
theorem NG.of {gm : GM} {A : Nat → Prop} {ws wc : va_W} (hA : GA gm A) (hD : va_D A ws) (isC : List Nat) (hC : isC.map (fun i => ws[i]?) = wc.map some) : NG gm wc := by
  intro k q hk
  have h1 : (isC.map (fun i => ws[i]?))[k]? = some (some q) := by rw [hC, List.getElem?_map, hk]; rfl
  rw [List.getElem?_map] at h1
  cases h2 : isC[k]? with
  | none => rw [h2] at h1; cases h1
  | some i =>
    rw [h2] at h1
    have h3 : ws[i]? = some q := Option.some.inj h1
    have h4 := hD.2 i q h3
    cases e : gm q.1 with
    | none => rfl
    | some z => exact absurd h4 (hA q.1 (by rw [e]; exact fun q => by cases q))
/-- gm and one guest more -/
def upG (gm : GM) (y k : Nat) (f : Int32) : GM := fun j => if j = y then some (k, f) else gm j
theorem upG_s (gm : GM) (y k : Nat) (f : Int32) : upG gm y k f y = some (k, f) := by simp [upG]
theorem GP.up {G : GG} {gm : GM} {H : Heap} {ws : va_W} (h : GP G gm H) (hP : PP G ws H) {y k : Nat} {f : Int32} (q0 : Nat) (he : ws[q0]? = some (y, .inr (6 + k, [.int f]))) (hk : k < 8) : GP G (upG gm y k f) H := by
  intro y' k' f' hy
  unfold upG at hy
  split at hy
  · rename_i e; subst e; cases hy; exact ⟨hk, hP q0 _ he⟩
  · exact h y' k' f' hy
theorem NG.up {gm : GM} {A : Nat → Prop} {ws wc : va_W} {y k : Nat} {f : Int32} (hN : NG gm wc) (hD : va_D A ws) (q0 : Nat) {e : va_E} (he : ws[q0]? = some (y, e)) (isC : List Nat) (hC : isC.map (fun i => ws[i]?) = wc.map some) (hni : q0 ∉ isC) : NG (upG gm y k f) wc := by
  intro j q hj
  have h1 : (isC.map (fun i => ws[i]?))[j]? = some (some q) := by rw [hC, List.getElem?_map, hj]; rfl
  rw [List.getElem?_map] at h1
  cases h2 : isC[j]? with
  | none => rw [h2] at h1; cases h1
  | some i =>
    rw [h2] at h1
    have h3 : ws[i]? = some q := Option.some.inj h1
    have hne : q.1 ≠ y := fun e9 => hni (by have := hD.1 i q0 q _ h3 he e9; rw [← this]; exact List.mem_of_getElem? h2)
    show upG gm y k f q.1 = none
    rw [upG, if_neg hne]
    exact hN j q hj
theorem hasgG {s : State} {C E : String} (h : va_Nw (.castable C E) s) : ∀ comp c0 : ClassId, s.vm.findClass E = some comp → s.vm.findClass C = some c0 → s.vm.assignable c0 comp = true := by
  intro comp c0 h1 h2
  obtain ⟨c0', t1, f1, f2, f3⟩ := Cond.castable_spec h
  cases h2.symm.trans f1
  cases h1.symm.trans f2
  exact f3
theorem GP.any {G : GG} {gm : GM} {s : State} {H : Heap} (hK : KX G s) (h : GP G gm H) {y k : Nat} {f : Int32} (hy : gm y = some (k, f)) : va_Any "CakesToTheWatched$Guest" s H y := by
  have hP := h.pp hy
  have hc := hK.2.2.2.2.1
  have hk8 : k = 0 ∨ k = 1 ∨ k = 2 ∨ k = 3 ∨ k = 4 ∨ k = 5 ∨ k = 6 ∨ k = 7 := by have := (h y k f hy).1; omega
  rcases hk8 with rfl | rfl | rfl | rfl | rfl | rfl | rfl | rfl
  · exact va_rAny hK.1 hP (q0 := 0) rfl (show clAll[6]? = some (RX8, TX8, 1) from rfl) fun comp c0 h1 h2 => by cases h1.symm.trans h2; exact va_asg _ _
  · exact va_rAny hK.1 hP (q0 := 0) rfl (show clAll[7]? = some (RX9, TX9, 1) from rfl) (hasgG (hc ("CakesToTheWatched$Child", "CakesToTheWatched$Guest") (by decide +kernel)))
  · exact va_rAny hK.1 hP (q0 := 0) rfl (show clAll[8]? = some (RX10, TX10, 1) from rfl) (hasgG (hc ("CakesToTheWatched$Deacon", "CakesToTheWatched$Guest") (by decide +kernel)))
  · exact va_rAny hK.1 hP (q0 := 0) rfl (show clAll[9]? = some (RX11, TX11, 1) from rfl) (hasgG (hc ("CakesToTheWatched$Taster", "CakesToTheWatched$Guest") (by decide +kernel)))
  · exact va_rAny hK.1 hP (q0 := 0) rfl (show clAll[10]? = some (RX12, TX12, 1) from rfl) (hasgG (hc ("CakesToTheWatched$Blind", "CakesToTheWatched$Guest") (by decide +kernel)))
  · exact va_rAny hK.1 hP (q0 := 0) rfl (show clAll[11]? = some (RX13, TX13, 1) from rfl) (hasgG (hc ("CakesToTheWatched$Expert", "CakesToTheWatched$Guest") (by decide +kernel)))
  · exact va_rAny hK.1 hP (q0 := 0) rfl (show clAll[12]? = some (RX14, TX14, 1) from rfl) (hasgG (hc ("CakesToTheWatched$Twin", "CakesToTheWatched$Guest") (by decide +kernel)))
  · exact va_rAny hK.1 hP (q0 := 0) rfl (show clAll[13]? = some (RX15, TX15, 1) from rfl) (hasgG (hc ("CakesToTheWatched$Cow", "CakesToTheWatched$Guest") (by decide +kernel)))
/-- who is there: all are guests that gm knows; of the first N the row tells kind and figure -/
def WK (gm : GM) (wh : Nat → Option Nat) (r : Nat → Int32) (N : Nat) : Prop := (∀ i y, i < 9 → wh i = some y → gm y ≠ none) ∧ ∀ i, i < N → ∃ y k, wh i = some y ∧ gm y = some (k, r (3 + 6 * i + 1)) ∧ r (3 + 6 * i) = nI k
/-! a fete's cells by its row -/
theorem fA_u {r : Nat → Int32} {p k : Nat} {v : Int32} (hk : k < 6) : fA (upd r (3 + 6 * p + k) v) k = upd (fA r k) p v := funext fun j => by
  simp only [fA, upd]
  by_cases h : j = p
  · rw [if_pos (by omega), if_pos h]
  · rw [if_neg (by omega), if_neg h]
theorem fA_n {r : Nat → Int32} {p k k' : Nat} {v : Int32} (hk : k < 6) (hk' : k' < 6) (hn : k' ≠ k) : fA (upd r (3 + 6 * p + k) v) k' = fA r k' := funext fun j => by
  simp only [fA, upd]
  rw [if_neg (by omega)]
theorem fA_h {r : Nat → Int32} {i k : Nat} {v : Int32} (hi : i < 3) : fA (upd r i v) k = fA r k := funext fun j => by
  simp only [fA, upd]
  rw [if_neg (by omega)]
theorem r_n {r : Nat → Int32} {p k i : Nat} {v : Int32} (hi : i < 3) : upd r (3 + 6 * p + k) v i = r i := by
  simp only [upd]
  rw [if_neg (by omega)]
theorem r_h {r : Nat → Int32} {i j : Nat} {v : Int32} (hij : j ≠ i) : upd r i v j = r j := by
  simp only [upd]
  rw [if_neg hij]
theorem fO_u {fd : Nat → Nat} {r : Nat → Int32} {p k : Nat} {v : Int32} : fO fd (upd r (3 + 6 * p + k) v) = fO fd r := by
  have h0 : upd r (3 + 6 * p + k) v 0 = r 0 := r_n (by decide)
  have h1 : upd r (3 + 6 * p + k) v 1 = r 1 := r_n (by decide)
  have h2 : upd r (3 + 6 * p + k) v 2 = r 2 := r_n (by decide)
  show fR fd _ _ _ = fR fd _ _ _
  rw [h0, h1, h2]
theorem fO_h0 {fd : Nat → Nat} {r : Nat → Int32} {v : Int32} : fO fd (upd r 0 v) = fR fd v (r 1) (r 2) := by simp [upd]
theorem fO_h1 {fd : Nat → Nat} {r : Nat → Int32} {v : Int32} : fO fd (upd r 1 v) = fR fd (r 0) v (r 2) := by simp [upd]
theorem fO_h2 {fd : Nat → Nat} {r : Nat → Int32} {v : Int32} : fO fd (upd r 2 v) = fR fd (r 0) (r 1) v := by simp [upd]
theorem WK.u {gm : GM} {wh : Nat → Option Nat} {r : Nat → Int32} {N p k : Nat} {v : Int32} (h : WK gm wh r N) (hk : 2 ≤ k ∧ k < 6) : WK gm wh (upd r (3 + 6 * p + k) v) N := by
  refine ⟨h.1, fun i hi => ?_⟩
  obtain ⟨y, q, h1, h2, h3⟩ := h.2 i hi
  refine ⟨y, q, h1, ?_, ?_⟩
  · rw [h2, show upd r (3 + 6 * p + k) v (3 + 6 * i + 1) = r (3 + 6 * i + 1) by simp only [upd]; rw [if_neg (by omega)]]
  · rw [← h3]; simp only [upd]; rw [if_neg (by omega)]
theorem WK.h {gm : GM} {wh : Nat → Option Nat} {r : Nat → Int32} {N j : Nat} {v : Int32} (h : WK gm wh r N) (hj : j < 3) : WK gm wh (upd r j v) N := by
  refine ⟨h.1, fun i hi => ?_⟩
  obtain ⟨y, q, h1, h2, h3⟩ := h.2 i hi
  refine ⟨y, q, h1, ?_, ?_⟩
  · rw [h2, show upd r j v (3 + 6 * i + 1) = r (3 + 6 * i + 1) by simp only [upd]; rw [if_neg (by omega)]]
  · rw [← h3]; simp only [upd]; rw [if_neg (by omega)]
/-- one more is there -/
theorem WK.add {gm : GM} {wh : Nat → Option Nat} {r r' : Nat → Int32} {N y k : Nat} (h : WK gm wh r N) (hy : gm y = some (k, r' (3 + 6 * N + 1))) (hk : r' (3 + 6 * N) = nI k) (hr : ∀ i, i < N → r' (3 + 6 * i) = r (3 + 6 * i) ∧ r' (3 + 6 * i + 1) = r (3 + 6 * i + 1)) : WK gm (va_up wh N (some y)) r' (N + 1) := by
  refine ⟨fun i z hi hz => ?_, fun i hi => ?_⟩
  · unfold va_up at hz
    split at hz
    · cases hz; rw [hy]; exact fun q => by cases q
    · exact h.1 i z hi hz
  · by_cases e : i = N
    · subst e; exact ⟨y, k, by simp [va_up], hy, hk⟩
    · obtain ⟨z, q, h1, h2, h3⟩ := h.2 i (by omega)
      obtain ⟨g1, g2⟩ := hr i (by omega)
      exact ⟨z, q, by simp [va_up, e, h1], by rw [g2]; exact h2, by rw [g1]; exact h3⟩
theorem WK.any {G : GG} {gm : GM} {s : State} {H : Heap} {wh : Nat → Option Nat} {r : Nat → Int32} {N : Nat} (h : WK gm wh r N) (hK : KX G s) (hG : GP G gm H) : ∀ i y, i < 9 → wh i = some y → va_Any "CakesToTheWatched$Guest" s H y := by
  intro i y hi hy
  cases e : gm y with
  | none => exact absurd e (h.1 i y hi hy)
  | some q => obtain ⟨k, f⟩ := q; exact hG.any hK e
/-- a row of references beyond its end doesn't count -/
theorem pp_extq {G : GG} {ws : va_W} {H : Heap} {a t n : Nat} {f g : Nat → Option Nat} (hP : PP G ws H) (q0 : Nat) (ha : ws[q0]? = some (a, qA G t n f)) (h : ∀ j, j < n → f j = g j) : PP G (ws.set q0 (a, qA G t n g)) H := by
  intro k q hk
  rw [List.getElem?_set] at hk
  split at hk
  · rename_i e
    split at hk
    · cases hk
      have h1 : va_at (gD G) clAll (a, qA G t n f) H := hP q0 _ ha
      show H[a]? = some (vp_cell (G.2.2 t) (n, .inr (.inr (.inr (.inr g)))))
      have h2 : vp_cell (G.2.2 t) (n, .inr (.inr (.inr (.inr f)))) = vp_cell (G.2.2 t) (n, .inr (.inr (.inr (.inr g)))) := by
        have e : (fun j : Fin n => va_rf (f j.val)) = fun j : Fin n => va_rf (g j.val) := funext fun j => by rw [h j.val j.isLt]
        rw [vp_cell_q, vp_cell_q]
        unfold arrV
        rw [e]
      rw [← h2]
      exact h1
    · cases hk
  · exact hP k q hk

theorem mw_mkg {l : Launch} {y : MethodName} {b : ByteArray} {L : Nat} {rt : Option FieldType} {rm : Room} {av : List Value} {w : va_W} {G : GG} {K : State → Prop} {mc ms : Nat} {post : Int32 → va_W → Prop} (own : String) (hy : plainName y.cls = true) (ho : y.cls = own) (hn : (lg_sl av).length ≤ L)
    (body : ∀ (p : Program) (e : Env) (s : State) (m : MethodId) (args : Array Value) (below : List Frame) (meth : Method) (c : Code) (A : Nat → Prop), Cx p c meth s args m b L rt own → (∀ q : Nat, s.heap.size ≤ q → A q) → (∀ q : Nat, A q → va_A w s.heap.size q) → PP G w s.heap → K s → va_D A w → ∀ ls : Array Slot, lv_has ls L (lv_args 0 av) → W p l e rm s m args below meth c s.heap [] 0 0 (MQ below (va_Qi (S := va_W) post (fun w1 t => PP G w1 t.heap ∧ va_D A w1) A) args s mc ms A) (F0 m 0 ls [])) : MW l y b L rt rm av w G K mc ms post := by
  intro sz
  refine Met.ofW (cc := b) (maxL := L) (ret := rt) hy rfl ?_
  intro p e s m args below meth c s₁ B hml hv
  obtain ⟨rfl, hsz, hP, hK, hD0⟩ := hv
  subst hsz
  have hts := atoms_spec (ws := ws_ y b L rt) B.pre
  have hown : s.vm.findClass y.cls = some m.cls := findClass_of_methodNamed B.named
  rw [lg_entry_eq]
  exact body p e s m _ below meth c (va_A w s.heap.size) ⟨B.exec, B.bytes, B.returns, B.notSynchronized, hml, by rw [← ho]; exact hown, fun w h => hts w (List.mem_cons_of_mem _ h)⟩ (fun q h => Or.inr h) (fun q h => h) hP hK hD0.self _ (lv_entry av hn)
theorem mwv_mkg {l : Launch} {y : MethodName} {b : ByteArray} {L : Nat} {rt : Option FieldType} {rm : Room} {av : List Value} {w : va_W} {G : GG} {K : State → Prop} {mc ms : Nat} {post : va_W → Prop} (own : String) (hy : plainName y.cls = true) (ho : y.cls = own) (hn : (lg_sl av).length ≤ L)
    (body : ∀ (p : Program) (e : Env) (s : State) (m : MethodId) (args : Array Value) (below : List Frame) (meth : Method) (c : Code) (A : Nat → Prop), Cx p c meth s args m b L rt own → meth.name = y.name → (∀ q : Nat, s.heap.size ≤ q → A q) → (∀ q : Nat, A q → va_A w s.heap.size q) → PP G w s.heap → K s → va_D A w → ∀ ls : Array Slot, lv_has ls L (lv_args 0 av) → W p l e rm s m args below meth c s.heap [] 0 0 (MQ below (va_Qv (S := va_W) post (fun w1 t => PP G w1 t.heap ∧ va_D A w1) A) args s mc ms A) (F0 m 0 ls [])) : MWv l y b L rt rm av w G K mc ms post := by
  intro sz
  refine Met.ofW (cc := b) (maxL := L) (ret := rt) hy rfl ?_
  intro p e s m args below meth c s₁ B hml hv
  obtain ⟨rfl, hsz, hP, hK, hD0⟩ := hv
  subst hsz
  have hts := atoms_spec (ws := ws_ y b L rt) B.pre
  have hown : s.vm.findClass y.cls = some m.cls := findClass_of_methodNamed B.named
  rw [lg_entry_eq]
  exact body p e s m _ below meth c (va_A w s.heap.size) ⟨B.exec, B.bytes, B.returns, B.notSynchronized, hml, by rw [← ho]; exact hown, fun w h => hts w (List.mem_cons_of_mem _ h)⟩ (name_of_methodNamed B.named B.method).1 (fun q h => Or.inr h) (fun q h => h) hP hK hD0.self _ (lv_entry av hn)
theorem mwl_mkg {l : Launch} {y : MethodName} {b : ByteArray} {L : Nat} {rt : Option FieldType} {rm : Room} {av : List Value} {w : va_W} {G : GG} {K : State → Prop} {mc ms : Nat} {post : Int64 → va_W → Prop} (own : String) (hy : plainName y.cls = true) (ho : y.cls = own) (hn : (lg_sl av).length ≤ L)
    (body : ∀ (p : Program) (e : Env) (s : State) (m : MethodId) (args : Array Value) (below : List Frame) (meth : Method) (c : Code) (A : Nat → Prop), Cx p c meth s args m b L rt own → (∀ q : Nat, s.heap.size ≤ q → A q) → (∀ q : Nat, A q → va_A w s.heap.size q) → PP G w s.heap → K s → va_D A w → ∀ ls : Array Slot, lv_has ls L (lv_args 0 av) → W p l e rm s m args below meth c s.heap [] 0 0 (MQ below (va_Ql (S := va_W) post (fun w1 t => PP G w1 t.heap ∧ va_D A w1) A) args s mc ms A) (F0 m 0 ls [])) : MWl l y b L rt rm av w G K mc ms post := by
  intro sz
  refine Met.ofW (cc := b) (maxL := L) (ret := rt) hy rfl ?_
  intro p e s m args below meth c s₁ B hml hv
  obtain ⟨rfl, hsz, hP, hK, hD0⟩ := hv
  subst hsz
  have hts := atoms_spec (ws := ws_ y b L rt) B.pre
  have hown : s.vm.findClass y.cls = some m.cls := findClass_of_methodNamed B.named
  rw [lg_entry_eq]
  exact body p e s m _ below meth c (va_A w s.heap.size) ⟨B.exec, B.bytes, B.returns, B.notSynchronized, hml, by rw [← ho]; exact hown, fun w h => hts w (List.mem_cons_of_mem _ h)⟩ (fun q h => Or.inr h) (fun q h => h) hP hK hD0.self _ (lv_entry av hn)
section KROWS
variable {p : Program} {l : Launch} {e : Env} {R : Room} {s : State} {m : MethodId} {args : Array Value} {below : List Frame} {meth : Method} {c : Code} {H : Heap} {locs : List Loc} {cells slots : Nat} {Q : State → Prop}
variable {cc : ByteArray} {pc : Nat} {ls : Array Slot} {rest : List Value} {L0 : Nat} {rt0 : Option FieldType} {own : String}
theorem c_Sk {y : MethodName} {b : ByteArray} {L : Nat} {rt : Option FieldType} {rm : Room} {av : List Value} {w : va_W} {G : GG} {K : State → Prop} {F : Int32} {idx : Nat} {lv : List (Nat × Value)} {st0 : List Value} (C : Cx p c meth s args m cc L0 rt0 own) (hM : MR l y b L rt rm av w G K F) (n : Nat) (hG : GoodIn lw_all (va_wsS own idx y (ws_ y b L rt))) (hd : y.cls ≠ "java/lang/invoke/MethodHandle" ∧ y.cls ≠ "java/lang/invoke/VarHandle" ∧ (parseMethodDescriptor y.desc).map (fun d => d.parameters.length) = some n) (hrm : rm.cells = 0 ∧ rm.slots = 0) (hR : rm.frames + 1 ≤ R.frames ∧ 8 + (L + 11) + rm.locals ≤ R.locals) (hKc : ∀ (U : State) (g : JFrame) (mk : MethodId) (a : Array Value), K U → K (U.calling g mk a)) (hP : PP G w H) (hKU : ∀ U : State, U.heap = H → s.WarmedH U.vm → K U) (hl : lv_has ls L0 lv) (hn : av.length = n) (hst : st0 = av.reverse ++ rest) (hW : (rest.map fun v => v.category).sum ≤ 8) (hcs : cells ≤ R.cells ∧ slots ≤ R.slots) (hdg : decode cc pc = .ok (.invokestatic idx, 3)) (kk : W p l e R s m args below meth c H locs cells slots Q (F0 m (pc + 3) ls (.int F :: rest))) : W p l e R s m args below meth c H locs cells slots Q (F0 m pc ls st0) :=
  vp_callSi (W.runS (As := av) (rest := rest) ⟨C.1, C.2.1, C.2.2.2.2.1, C.2.2.2.2.2.1, C.2.2.2.2.2.2⟩ hM (va_cwS n C.2.2.2.2.2.2 hG rfl hrm.1 hrm.2 hd hR) ⟨fun _ _ _ _ q => ⟨q.1, q.2.1, hKc _ _ _ _ q.2.2⟩, fun U hU hWm => ⟨rfl, by rw [hU]; exact hP, hKU _ hU hWm⟩⟩ rfl hn hl.1 hst (lv_room hW) hdg hcs) (fun r hr => by rw [hr]; exact kk)
theorem c_SNk {y : MethodName} {b : ByteArray} {L : Nat} {rt : Option FieldType} {rm : Room} {av : List Value} {w : va_W} {G : GG} {K : State → Prop} {F : Int32} {idx : Nat} {lv : List (Nat × Value)} {st0 : List Value} (C : Cx p c meth s args m cc L0 rt0 own) (hM : MR l y b L rt rm av w G K F) (n : Nat) {host : String} (hlk : va_Nw (.methodLinkNest own idx y host) s) (hcode : Cond.code y b L rt ∈ lw_all) (hstat : Cond.static y ∈ lw_all) (hini : Cond.initialized y.cls ∈ lw_all) (hd : y.cls ≠ "java/lang/invoke/MethodHandle" ∧ y.cls ≠ "java/lang/invoke/VarHandle" ∧ (parseMethodDescriptor y.desc).map (fun d => d.parameters.length) = some n) (hrm : rm.cells = 0 ∧ rm.slots = 0) (hR : rm.frames + 1 ≤ R.frames ∧ 8 + (L + 11) + rm.locals ≤ R.locals) (hKc : ∀ (U : State) (g : JFrame) (mk : MethodId) (a : Array Value), K U → K (U.calling g mk a)) (hP : PP G w H) (hKU : ∀ U : State, U.heap = H → s.WarmedH U.vm → K U) (hl : lv_has ls L0 lv) (hn : av.length = n) (hst : st0 = av.reverse ++ rest) (hW : (rest.map fun v => v.category).sum ≤ 8) (hcs : cells ≤ R.cells ∧ slots ≤ R.slots) (hdg : decode cc pc = .ok (.invokestatic idx, 3)) (kk : W p l e R s m args below meth c H locs cells slots Q (F0 m (pc + 3) ls (.int F :: rest))) : W p l e R s m args below meth c H locs cells slots Q (F0 m pc ls st0) := by
  have hts := C.2.2.2.2.2.2
  have hr : va_Run p l e R s m args below meth c H locs cells slots 0 0 (F0 m pc ls st0) rest (vp_Si (fun r => r = F) av.toArray) (fun _ => False) :=
    va_runSN (As := av) (rest := rest) ⟨C.1, C.2.1, C.2.2.2.2.1, C.2.2.2.2.2.1, C.2.2.2.2.2.2⟩ hM ⟨va_cnB n hts (lw_meth hcode) rfl hrm.1 hrm.2 hlk (hts _ hini) hd hR, hts _ hstat, trivial⟩ ⟨fun _ _ _ _ q => ⟨q.1, q.2.1, hKc _ _ _ _ q.2.2⟩, fun U hU hWm => ⟨rfl, by rw [hU]; exact hP, hKU _ hU hWm⟩⟩ rfl hn hl.1 hst (lv_room hW) hdg hcs
  exact vp_callSi hr.run (fun r hr => by rw [hr]; exact kk)
theorem c_Slk {y : MethodName} {b : ByteArray} {L : Nat} {rt : Option FieldType} {rm : Room} {av : List Value} {w : va_W} {G : GG} {K : State → Prop} {F : Int64} {idx : Nat} {lv : List (Nat × Value)} {st0 : List Value} (C : Cx p c meth s args m cc L0 rt0 own) (hM : MRl l y b L rt rm av w G K F) (n : Nat) (hG : GoodIn lw_all (va_wsS own idx y (ws_ y b L rt))) (hd : y.cls ≠ "java/lang/invoke/MethodHandle" ∧ y.cls ≠ "java/lang/invoke/VarHandle" ∧ (parseMethodDescriptor y.desc).map (fun d => d.parameters.length) = some n) (hrm : rm.cells = 0 ∧ rm.slots = 0) (hR : rm.frames + 1 ≤ R.frames ∧ 8 + (L + 11) + rm.locals ≤ R.locals) (hKc : ∀ (U : State) (g : JFrame) (mk : MethodId) (a : Array Value), K U → K (U.calling g mk a)) (hP : PP G w H) (hKU : ∀ U : State, U.heap = H → s.WarmedH U.vm → K U) (hl : lv_has ls L0 lv) (hn : av.length = n) (hst : st0 = av.reverse ++ rest) (hW : (rest.map fun v => v.category).sum ≤ 8) (hcs : cells ≤ R.cells ∧ slots ≤ R.slots) (hdg : decode cc pc = .ok (.invokestatic idx, 3)) (kk : W p l e R s m args below meth c H locs cells slots Q (F0 m (pc + 3) ls (.long F :: rest))) : W p l e R s m args below meth c H locs cells slots Q (F0 m pc ls st0) :=
  vp_callSl (W.runS (As := av) (rest := rest) ⟨C.1, C.2.1, C.2.2.2.2.1, C.2.2.2.2.2.1, C.2.2.2.2.2.2⟩ hM (va_cwS n C.2.2.2.2.2.2 hG rfl hrm.1 hrm.2 hd hR) ⟨fun _ _ _ _ q => ⟨q.1, q.2.1, hKc _ _ _ _ q.2.2⟩, fun U hU hWm => ⟨rfl, by rw [hU]; exact hP, hKU _ hU hWm⟩⟩ rfl hn hl.1 hst (lv_room hW) hdg hcs) (fun r hr => by rw [hr]; exact kk)
theorem c_Vk {y : MethodName} {b : ByteArray} {L : Nat} {rt : Option FieldType} {rm : Room} {o : Nat} {av : List Value} {w : va_W} {G : GG} {K : State → Prop} {F : Int32} {idx : Nat} {lv : List (Nat × Value)} {st0 : List Value} {CC : String} (C : Cx p c meth s args m cc L0 rt0 own) (hM : MR l y b L rt rm (.ref o :: av) w G K F) (n : Nat) (hG : GoodIn lw_all (wsV own idx CC y (ws_ y b L rt))) (hd : y.cls = CC ∧ y.cls ≠ "java/lang/invoke/MethodHandle" ∧ y.cls ≠ "java/lang/invoke/VarHandle" ∧ (parseMethodDescriptor y.desc).map (fun d => d.parameters.length) = some n) (hrm : rm.cells = 0 ∧ rm.slots = 0) (hR : rm.frames + 1 ≤ R.frames ∧ 8 + (L + 11) + rm.locals ≤ R.locals) (hKc : ∀ (U : State) (g : JFrame) (mk : MethodId) (a : Array Value), K U → K (U.calling g mk a)) (hrc : Rcv s H CC o) (hP : PP G w H) (hKU : ∀ U : State, U.heap = H → s.WarmedH U.vm → K U) (hl : lv_has ls L0 lv) (hn : av.length = n) (hst : st0 = av.reverse ++ .ref o :: rest) (hW : (rest.map fun v => v.category).sum ≤ 8) (hcs : cells ≤ R.cells ∧ slots ≤ R.slots) (hdg : decode cc pc = .ok (.invokevirtual idx, 3)) (kk : W p l e R s m args below meth c H locs cells slots Q (F0 m (pc + 3) ls (.int F :: rest))) : W p l e R s m args below meth c H locs cells slots Q (F0 m pc ls st0) :=
  vp_callSi (W.runV (As := av) (rest := rest) ⟨C.1, C.2.1, C.2.2.2.2.1, C.2.2.2.2.2.1, C.2.2.2.2.2.2⟩ hM (cwV n C.2.2.2.2.2.2 hG rfl hrm.1 hrm.2 hd hR) ⟨fun _ _ _ _ q => ⟨q.1, q.2.1, hKc _ _ _ _ q.2.2⟩, hrc, fun U hU hWm => ⟨rfl, by rw [hU]; exact hP, hKU _ hU hWm⟩⟩ rfl hn hl.1 hst (lv_room hW) hdg hcs) (fun r hr => by rw [hr]; exact kk)
theorem c_Vlk {y : MethodName} {b : ByteArray} {L : Nat} {rt : Option FieldType} {rm : Room} {o : Nat} {av : List Value} {w : va_W} {G : GG} {K : State → Prop} {F : Int64} {idx : Nat} {lv : List (Nat × Value)} {st0 : List Value} {CC : String} (C : Cx p c meth s args m cc L0 rt0 own) (hM : MRl l y b L rt rm (.ref o :: av) w G K F) (n : Nat) (hG : GoodIn lw_all (wsV own idx CC y (ws_ y b L rt))) (hd : y.cls = CC ∧ y.cls ≠ "java/lang/invoke/MethodHandle" ∧ y.cls ≠ "java/lang/invoke/VarHandle" ∧ (parseMethodDescriptor y.desc).map (fun d => d.parameters.length) = some n) (hrm : rm.cells = 0 ∧ rm.slots = 0) (hR : rm.frames + 1 ≤ R.frames ∧ 8 + (L + 11) + rm.locals ≤ R.locals) (hKc : ∀ (U : State) (g : JFrame) (mk : MethodId) (a : Array Value), K U → K (U.calling g mk a)) (hrc : Rcv s H CC o) (hP : PP G w H) (hKU : ∀ U : State, U.heap = H → s.WarmedH U.vm → K U) (hl : lv_has ls L0 lv) (hn : av.length = n) (hst : st0 = av.reverse ++ .ref o :: rest) (hW : (rest.map fun v => v.category).sum ≤ 8) (hcs : cells ≤ R.cells ∧ slots ≤ R.slots) (hdg : decode cc pc = .ok (.invokevirtual idx, 3)) (kk : W p l e R s m args below meth c H locs cells slots Q (F0 m (pc + 3) ls (.long F :: rest))) : W p l e R s m args below meth c H locs cells slots Q (F0 m pc ls st0) :=
  vp_callSl (W.runV (As := av) (rest := rest) ⟨C.1, C.2.1, C.2.2.2.2.1, C.2.2.2.2.2.1, C.2.2.2.2.2.2⟩ hM (cwV n C.2.2.2.2.2.2 hG rfl hrm.1 hrm.2 hd hR) ⟨fun _ _ _ _ q => ⟨q.1, q.2.1, hKc _ _ _ _ q.2.2⟩, hrc, fun U hU hWm => ⟨rfl, by rw [hU]; exact hP, hKU _ hU hWm⟩⟩ rfl hn hl.1 hst (lv_room hW) hdg hcs) (fun r hr => by rw [hr]; exact kk)
theorem c_SWk {y : MethodName} {b : ByteArray} {L : Nat} {rt : Option FieldType} {rm : Room} {av : List Value} {ws wc wr : va_W} {G : GG} {K : State → Prop} {mc ms : Nat} {post : Int32 → va_W → Prop} {A : Nat → Prop} {H0 : Heap} {idx : Nat} {lv : List (Nat × Value)} {st0 : List Value} (C : Cx p c meth s args m cc L0 rt0 own) (hM : MW l y b L rt rm av wc G K mc ms post) (n : Nat) (hG : GoodIn lw_all (va_wsS own idx y (ws_ y b L rt))) (hd : y.cls ≠ "java/lang/invoke/MethodHandle" ∧ y.cls ≠ "java/lang/invoke/VarHandle" ∧ (parseMethodDescriptor y.desc).map (fun d => d.parameters.length) = some n) (hrm : rm.cells = mc ∧ rm.slots = ms) (hR : rm.frames + 1 ≤ R.frames ∧ 8 + (L + 11) + rm.locals ≤ R.locals) (hKc : ∀ (U : State) (g : JFrame) (mk : MethodId) (a : Array Value), K U → K (U.calling g mk a)) (hKU : ∀ U : State, U.heap = H → s.WarmedH U.vm → K U) (hA : ∀ q : Nat, H0.size ≤ q → A q) (hP : PP G ws H) (hD : va_D A ws) (hS : va_S A H0 H locs) (isC isR : List Nat) (hC : isC.map (fun i => ws[i]?) = wc.map some) (hRr : isR.map (fun i => ws[i]?) = wr.map some) (hnC : va_nd isC = true) (hnR : va_nd isR = true) (hdis : ∀ i ∈ isR, i ∉ isC) (hl : lv_has ls L0 lv) (hn : av.length = n) (hst : st0 = av.reverse ++ rest) (hW : (rest.map fun v => v.category).sum ≤ 8) (hcs : cells + mc ≤ R.cells ∧ slots + ms ≤ R.slots) (hdg : decode cc pc = .ok (.invokestatic idx, 3)) (kk : ∀ (r : Int32) (w1 : va_W) (H1 : Heap) (locs1 : List Loc), post r w1 → PP G (wr ++ w1) H1 → va_D A (wr ++ w1) → va_S A H0 H1 locs1 → W p l e R s m args below meth c H1 locs1 (cells + mc) (slots + ms) Q (F0 m (pc + 3) ls (.int r :: rest))) : W p l e R s m args below meth c H locs cells slots Q (F0 m pc ls st0) := by
  obtain ⟨hPc, hDc⟩ := c_cut hP hD isC hC hnC
  have hFc := va_free (wc := wc) hD hS hA isC hC
  refine va_calli (va_runS (As := av) (rest := rest) ⟨C.1, C.2.1, C.2.2.2.2.1, C.2.2.2.2.2.1, C.2.2.2.2.2.2⟩ (hM H.size) (va_cwS n C.2.2.2.2.2.2 hG rfl hrm.1 hrm.2 hd hR) ⟨fun _ _ _ _ q => ⟨q.1, q.2.1, q.2.2.1, hKc _ _ _ _ q.2.2.2.1, q.2.2.2.2⟩, fun U hU hWm => ⟨rfl, by rw [hU], by rw [hU]; exact hPc, hKU _ hU hWm, hDc⟩⟩ rfl hn hl.1 hst (lv_room hW) hdg hcs) hS (fun q _ h => hFc q h) hFc (fun r w1 t H1 locs1 ht _ hpost hB _ hk hS1 => ?_)
  obtain ⟨hP1, hD1⟩ := hB
  rw [ht] at hP1
  obtain ⟨hP2, hD2⟩ := va_join hP hD isC isR hC hRr hnR hdis hk hFc hP1 hD1
  exact kk r w1 H1 locs1 hpost hP2 hD2 hS1
theorem c_SWvk {y : MethodName} {b : ByteArray} {L : Nat} {rt : Option FieldType} {rm : Room} {av : List Value} {ws wc wr : va_W} {G : GG} {K : State → Prop} {mc ms : Nat} {post : va_W → Prop} {A : Nat → Prop} {H0 : Heap} {idx : Nat} {lv : List (Nat × Value)} {st0 : List Value} (C : Cx p c meth s args m cc L0 rt0 own) (hM : MWv l y b L rt rm av wc G K mc ms post) (n : Nat) (hG : GoodIn lw_all (va_wsS own idx y (ws_ y b L rt))) (hd : y.cls ≠ "java/lang/invoke/MethodHandle" ∧ y.cls ≠ "java/lang/invoke/VarHandle" ∧ (parseMethodDescriptor y.desc).map (fun d => d.parameters.length) = some n) (hrm : rm.cells = mc ∧ rm.slots = ms) (hR : rm.frames + 1 ≤ R.frames ∧ 8 + (L + 11) + rm.locals ≤ R.locals) (hKc : ∀ (U : State) (g : JFrame) (mk : MethodId) (a : Array Value), K U → K (U.calling g mk a)) (hKU : ∀ U : State, U.heap = H → s.WarmedH U.vm → K U) (hA : ∀ q : Nat, H0.size ≤ q → A q) (hP : PP G ws H) (hD : va_D A ws) (hS : va_S A H0 H locs) (isC isR : List Nat) (hC : isC.map (fun i => ws[i]?) = wc.map some) (hRr : isR.map (fun i => ws[i]?) = wr.map some) (hnC : va_nd isC = true) (hnR : va_nd isR = true) (hdis : ∀ i ∈ isR, i ∉ isC) (hl : lv_has ls L0 lv) (hn : av.length = n) (hst : st0 = av.reverse ++ rest) (hW : (rest.map fun v => v.category).sum ≤ 8) (hcs : cells + mc ≤ R.cells ∧ slots + ms ≤ R.slots) (hdg : decode cc pc = .ok (.invokestatic idx, 3)) (kk : ∀ (w1 : va_W) (H1 : Heap) (locs1 : List Loc), post w1 → PP G (wr ++ w1) H1 → va_D A (wr ++ w1) → va_S A H0 H1 locs1 → W p l e R s m args below meth c H1 locs1 (cells + mc) (slots + ms) Q (F0 m (pc + 3) ls rest)) : W p l e R s m args below meth c H locs cells slots Q (F0 m pc ls st0) := by
  obtain ⟨hPc, hDc⟩ := c_cut hP hD isC hC hnC
  have hFc := va_free (wc := wc) hD hS hA isC hC
  refine va_callv (va_runS (As := av) (rest := rest) ⟨C.1, C.2.1, C.2.2.2.2.1, C.2.2.2.2.2.1, C.2.2.2.2.2.2⟩ (hM H.size) (va_cwS n C.2.2.2.2.2.2 hG rfl hrm.1 hrm.2 hd hR) ⟨fun _ _ _ _ q => ⟨q.1, q.2.1, q.2.2.1, hKc _ _ _ _ q.2.2.2.1, q.2.2.2.2⟩, fun U hU hWm => ⟨rfl, by rw [hU], by rw [hU]; exact hPc, hKU _ hU hWm, hDc⟩⟩ rfl hn hl.1 hst (lv_room hW) hdg hcs) hS (fun q _ h => hFc q h) hFc (fun w1 t H1 locs1 ht _ hpost hB _ hk hS1 => ?_)
  obtain ⟨hP1, hD1⟩ := hB
  rw [ht] at hP1
  obtain ⟨hP2, hD2⟩ := va_join hP hD isC isR hC hRr hnR hdis hk hFc hP1 hD1
  exact kk w1 H1 locs1 hpost hP2 hD2 hS1
theorem c_VWk {y : MethodName} {b : ByteArray} {L : Nat} {rt : Option FieldType} {rm : Room} {o : Nat} {av : List Value} {ws wc wr : va_W} {G : GG} {K : State → Prop} {mc ms : Nat} {post : Int32 → va_W → Prop} {A : Nat → Prop} {H0 : Heap} {idx : Nat} {lv : List (Nat × Value)} {st0 : List Value} {CC : String} (C : Cx p c meth s args m cc L0 rt0 own) (hM : MW l y b L rt rm (.ref o :: av) wc G K mc ms post) (n : Nat) (hG : GoodIn lw_all (wsV own idx CC y (ws_ y b L rt))) (hd : y.cls = CC ∧ y.cls ≠ "java/lang/invoke/MethodHandle" ∧ y.cls ≠ "java/lang/invoke/VarHandle" ∧ (parseMethodDescriptor y.desc).map (fun d => d.parameters.length) = some n) (hrm : rm.cells = mc ∧ rm.slots = ms) (hR : rm.frames + 1 ≤ R.frames ∧ 8 + (L + 11) + rm.locals ≤ R.locals) (hKc : ∀ (U : State) (g : JFrame) (mk : MethodId) (a : Array Value), K U → K (U.calling g mk a)) (hKU : ∀ U : State, U.heap = H → s.WarmedH U.vm → K U) (hrc : Rcv s H CC o) (hA : ∀ q : Nat, H0.size ≤ q → A q) (hP : PP G ws H) (hD : va_D A ws) (hS : va_S A H0 H locs) (isC isR : List Nat) (hC : isC.map (fun i => ws[i]?) = wc.map some) (hRr : isR.map (fun i => ws[i]?) = wr.map some) (hnC : va_nd isC = true) (hnR : va_nd isR = true) (hdis : ∀ i ∈ isR, i ∉ isC) (hl : lv_has ls L0 lv) (hn : av.length = n) (hst : st0 = av.reverse ++ .ref o :: rest) (hW : (rest.map fun v => v.category).sum ≤ 8) (hcs : cells + mc ≤ R.cells ∧ slots + ms ≤ R.slots) (hdg : decode cc pc = .ok (.invokevirtual idx, 3)) (kk : ∀ (r : Int32) (w1 : va_W) (H1 : Heap) (locs1 : List Loc), post r w1 → PP G (wr ++ w1) H1 → va_D A (wr ++ w1) → va_S A H0 H1 locs1 → W p l e R s m args below meth c H1 locs1 (cells + mc) (slots + ms) Q (F0 m (pc + 3) ls (.int r :: rest))) : W p l e R s m args below meth c H locs cells slots Q (F0 m pc ls st0) := by
  obtain ⟨hPc, hDc⟩ := c_cut hP hD isC hC hnC
  have hFc := va_free (wc := wc) hD hS hA isC hC
  refine va_calli (va_runV (As := av) (rest := rest) ⟨C.1, C.2.1, C.2.2.2.2.1, C.2.2.2.2.2.1, C.2.2.2.2.2.2⟩ (hM H.size) (cwV n C.2.2.2.2.2.2 hG rfl hrm.1 hrm.2 hd hR) ⟨fun _ _ _ _ q => ⟨q.1, q.2.1, q.2.2.1, hKc _ _ _ _ q.2.2.2.1, q.2.2.2.2⟩, hrc, fun U hU hWm => ⟨rfl, by rw [hU], by rw [hU]; exact hPc, hKU _ hU hWm, hDc⟩⟩ rfl hn hl.1 hst (lv_room hW) hdg hcs) hS (fun q _ h => hFc q h) hFc (fun r w1 t H1 locs1 ht _ hpost hB _ hk hS1 => ?_)
  obtain ⟨hP1, hD1⟩ := hB
  rw [ht] at hP1
  obtain ⟨hP2, hD2⟩ := va_join hP hD isC isR hC hRr hnR hdis hk hFc hP1 hD1
  exact kk r w1 H1 locs1 hpost hP2 hD2 hS1
theorem c_VWvk {y : MethodName} {b : ByteArray} {L : Nat} {rt : Option FieldType} {rm : Room} {o : Nat} {av : List Value} {ws wc wr : va_W} {G : GG} {K : State → Prop} {mc ms : Nat} {post : va_W → Prop} {A : Nat → Prop} {H0 : Heap} {idx : Nat} {lv : List (Nat × Value)} {st0 : List Value} {CC : String} (C : Cx p c meth s args m cc L0 rt0 own) (hM : MWv l y b L rt rm (.ref o :: av) wc G K mc ms post) (n : Nat) (hG : GoodIn lw_all (wsV own idx CC y (ws_ y b L rt))) (hd : y.cls = CC ∧ y.cls ≠ "java/lang/invoke/MethodHandle" ∧ y.cls ≠ "java/lang/invoke/VarHandle" ∧ (parseMethodDescriptor y.desc).map (fun d => d.parameters.length) = some n) (hrm : rm.cells = mc ∧ rm.slots = ms) (hR : rm.frames + 1 ≤ R.frames ∧ 8 + (L + 11) + rm.locals ≤ R.locals) (hKc : ∀ (U : State) (g : JFrame) (mk : MethodId) (a : Array Value), K U → K (U.calling g mk a)) (hKU : ∀ U : State, U.heap = H → s.WarmedH U.vm → K U) (hrc : Rcv s H CC o) (hA : ∀ q : Nat, H0.size ≤ q → A q) (hP : PP G ws H) (hD : va_D A ws) (hS : va_S A H0 H locs) (isC isR : List Nat) (hC : isC.map (fun i => ws[i]?) = wc.map some) (hRr : isR.map (fun i => ws[i]?) = wr.map some) (hnC : va_nd isC = true) (hnR : va_nd isR = true) (hdis : ∀ i ∈ isR, i ∉ isC) (hl : lv_has ls L0 lv) (hn : av.length = n) (hst : st0 = av.reverse ++ .ref o :: rest) (hW : (rest.map fun v => v.category).sum ≤ 8) (hcs : cells + mc ≤ R.cells ∧ slots + ms ≤ R.slots) (hdg : decode cc pc = .ok (.invokevirtual idx, 3)) (kk : ∀ (w1 : va_W) (H1 : Heap) (locs1 : List Loc), post w1 → PP G (wr ++ w1) H1 → va_D A (wr ++ w1) → va_S A H0 H1 locs1 → W p l e R s m args below meth c H1 locs1 (cells + mc) (slots + ms) Q (F0 m (pc + 3) ls rest)) : W p l e R s m args below meth c H locs cells slots Q (F0 m pc ls st0) := by
  obtain ⟨hPc, hDc⟩ := c_cut hP hD isC hC hnC
  have hFc := va_free (wc := wc) hD hS hA isC hC
  refine va_callv (va_runV (As := av) (rest := rest) ⟨C.1, C.2.1, C.2.2.2.2.1, C.2.2.2.2.2.1, C.2.2.2.2.2.2⟩ (hM H.size) (cwV n C.2.2.2.2.2.2 hG rfl hrm.1 hrm.2 hd hR) ⟨fun _ _ _ _ q => ⟨q.1, q.2.1, q.2.2.1, hKc _ _ _ _ q.2.2.2.1, q.2.2.2.2⟩, hrc, fun U hU hWm => ⟨rfl, by rw [hU], by rw [hU]; exact hPc, hKU _ hU hWm, hDc⟩⟩ rfl hn hl.1 hst (lv_room hW) hdg hcs) hS (fun q _ h => hFc q h) hFc (fun w1 t H1 locs1 ht _ hpost hB _ hk hS1 => ?_)
  obtain ⟨hP1, hD1⟩ := hB
  rw [ht] at hP1
  obtain ⟨hP2, hD2⟩ := va_join hP hD isC isR hC hRr hnR hdis hk hFc hP1 hD1
  exact kk w1 H1 locs1 hpost hP2 hD2 hS1
theorem n_aldqS {G : GG} {ws : va_W} {a n : Nat} {wh : Nat → Option Nat} {Cn : String} {y : Nat} (C : Cx p c meth s args m cc L0 rt0 own) (hK : KM G s) (hP : PP G ws H) (q0 t0 j : Nat) (ha : ws[q0]? = some (a, .inl (G.2.2 t0, n, .inr (.inr (.inr (.inr wh)))))) (ht : (tyA G.2.2)[t0]? = some (G.2.2 t0, .object Cn)) (hj : j < n) (hn : n < 2 ^ 31) (hy : wh j = some y) (hdg : decode cc pc = .ok (.aaload, 1)) (k : W p l e R s m args below meth c H locs cells slots Q (F0 m (pc + 1) ls (.ref y :: rest))) : W p l e R s m args below meth c H locs cells slots Q (F0 m pc ls (.int (nI j) :: .ref a :: rest)) :=
  va_aldq C.1 C.2.1 hK hP q0 t0 ha ht (vp_in_nI hj hn) hdg (by rw [nI_clamp (by omega), hy]; exact k)
theorem n_aldqN {G : GG} {ws : va_W} {a n : Nat} {wh : Nat → Option Nat} {Cn : String} (C : Cx p c meth s args m cc L0 rt0 own) (hK : KM G s) (hP : PP G ws H) (q0 t0 j : Nat) (ha : ws[q0]? = some (a, .inl (G.2.2 t0, n, .inr (.inr (.inr (.inr wh)))))) (ht : (tyA G.2.2)[t0]? = some (G.2.2 t0, .object Cn)) (hj : j < n) (hn : n < 2 ^ 31) (hy : wh j = none) (hdg : decode cc pc = .ok (.aaload, 1)) (k : W p l e R s m args below meth c H locs cells slots Q (F0 m (pc + 1) ls (.null :: rest))) : W p l e R s m args below meth c H locs cells slots Q (F0 m pc ls (.int (nI j) :: .ref a :: rest)) :=
  va_aldq C.1 C.2.1 hK hP q0 t0 ha ht (vp_in_nI hj hn) hdg (by rw [nI_clamp (by omega), hy]; exact k)
theorem n_astqG {G : GG} {ws : va_W} {A : Nat → Prop} {H0 : Heap} {a n : Nat} {wh : Nat → Option Nat} {Cn : String} {y : Nat} (C : Cx p c meth s args m cc L0 rt0 own) (hK : KM G s) (hP : PP G ws H) (hD : va_D A ws) (hS : va_S A H0 H locs) (q0 t0 j : Nat) (ha : ws[q0]? = some (a, .inl (G.2.2 t0, n, .inr (.inr (.inr (.inr wh)))))) (ht : (tyA G.2.2)[t0]? = some (G.2.2 t0, .object Cn)) (hr : va_Any Cn s H y) (hj : j < n) (hn : n < 2 ^ 31) (hdg : decode cc pc = .ok (.aastore, 1)) (k : ∀ (H1 : Heap) (locs1 : List Loc), PP G (ws.set q0 (a, .inl (G.2.2 t0, n, .inr (.inr (.inr (.inr (va_up wh j (some y)))))))) H1 → va_D A (ws.set q0 (a, .inl (G.2.2 t0, n, .inr (.inr (.inr (.inr (va_up wh j (some y)))))))) → va_S A H0 H1 locs1 → W p l e R s m args below meth c H1 locs1 cells slots Q (F0 m (pc + 1) ls rest)) : W p l e R s m args below meth c H locs cells slots Q (F0 m pc ls (.ref y :: .int (nI j) :: .ref a :: rest)) :=
  va_astqM C.1 C.2.1 hK hP hD hS q0 t0 ha ht hr (vp_in_nI hj hn) hdg (by rw [nI_clamp (by omega)]; exact k)
theorem n_mmin {ix : Nat} (C : Cx p c meth s args m cc L0 rt0 own) (hlink : Cond.methodLink own ix Lib.Math.min.name ∈ lw_all) (hstat : Cond.static Lib.Math.min.name ∈ lw_all) (hini : Cond.initialized "java/lang/Math" ∈ lw_all) (hcode : Cond.code Lib.Math.min.name Lib.Math.min.code 2 (some .int) ∈ lw_all) {lv : List (Nat × Value)} (hl : lv_has ls L0 lv) (hR : 1 ≤ R.frames ∧ 30 ≤ R.locals) (hW : (rest.map fun v => v.category).sum ≤ 8) (hcs : cells ≤ R.cells ∧ slots ≤ R.slots) {x y : Int32} (hdg : decode cc pc = .ok (.invokestatic ix, 3)) (k : W p l e R s m args below meth c H locs cells slots Q (F0 m (pc + 3) ls (.int (mn x y) :: rest))) : W p l e R s m args below meth c H locs cells slots Q (F0 m pc ls (.int y :: .int x :: rest)) := by
  refine va_mmin C.1 C.2.1 (C.2.2.2.2.1.trans hl.1.symm) C.2.2.2.2.2.1 (C.2.2.2.2.2.2 _ hlink) (C.2.2.2.2.2.2 _ hstat) (C.2.2.2.2.2.2 _ hini) (C.2.2.2.2.2.2 _ hcode) hR.1 (by omega) hcs.1 hcs.2 hdg ?_
  have h9 : (if y < x then y else x) = mn x y := by
    unfold mn
    by_cases h1 : y < x
    · rw [if_pos h1, if_pos (Int32.le_of_lt h1)]
    · rw [if_neg h1]
      by_cases h2 : y ≤ x
      · rw [if_pos h2]; exact Int32.le_antisymm (Int32.not_lt.mp h1) h2
      · rw [if_neg h2]
  rw [h9]; exact k
theorem n_mmax {ix : Nat} (C : Cx p c meth s args m cc L0 rt0 own) (hlink : Cond.methodLink own ix Lib.Math.max.name ∈ lw_all) (hstat : Cond.static Lib.Math.max.name ∈ lw_all) (hini : Cond.initialized "java/lang/Math" ∈ lw_all) (hcode : Cond.code Lib.Math.max.name Lib.Math.max.code 2 (some .int) ∈ lw_all) {lv : List (Nat × Value)} (hl : lv_has ls L0 lv) (hR : 1 ≤ R.frames ∧ 30 ≤ R.locals) (hW : (rest.map fun v => v.category).sum ≤ 8) (hcs : cells ≤ R.cells ∧ slots ≤ R.slots) {x y : Int32} (hdg : decode cc pc = .ok (.invokestatic ix, 3)) (k : W p l e R s m args below meth c H locs cells slots Q (F0 m (pc + 3) ls (.int (mx x y) :: rest))) : W p l e R s m args below meth c H locs cells slots Q (F0 m pc ls (.int y :: .int x :: rest)) := by
  refine va_mmax C.1 C.2.1 (C.2.2.2.2.1.trans hl.1.symm) C.2.2.2.2.2.1 (C.2.2.2.2.2.2 _ hlink) (C.2.2.2.2.2.2 _ hstat) (C.2.2.2.2.2.2 _ hini) (C.2.2.2.2.2.2 _ hcode) hR.1 (by omega) hcs.1 hcs.2 hdg ?_
  have h9 : (if x < y then y else x) = mx x y := by
    unfold mx
    by_cases h1 : x < y
    · rw [if_pos h1, if_pos (Int32.le_of_lt h1)]
    · rw [if_neg h1]
      by_cases h2 : x ≤ y
      · rw [if_pos h2]; exact Int32.le_antisymm h2 (Int32.not_lt.mp h1)
      · rw [if_neg h2]
  rw [h9]; exact k
/-- a row of ints copied whole into another -/
theorem n_cpyi {G : GG} {ws : va_W} {A : Nat → Prop} {H0 : Heap} {ix a0 a n : Nat} {f g : Nat → Int32} (C : Cx p c meth s args m cc L0 rt0 own) (hK : KM G s) (hP : PP G ws H) (hD : va_D A ws) (hS : va_S A H0 H locs) (hlink : Cond.methodLink own ix arraycopyName ∈ lw_all) (hnat : Cond.native arraycopyName ∈ lw_all) (hstat : Cond.static arraycopyName ∈ lw_all) (hini : Cond.initialized "java/lang/System" ∈ lw_all) (q0 q1 : Nat) (ha0 : ws[q0]? = some (a0, iA G n f)) (ha1 : ws[q1]? = some (a, iA G n g)) (hn : n < 2 ^ 31) {lv : List (Nat × Value)} (hl : lv_has ls L0 lv) (hR : 1 ≤ R.frames ∧ 60 ≤ R.locals) (hW : (rest.map fun v => v.category).sum ≤ 8) (hdg : decode cc pc = .ok (.invokestatic ix, 3)) (k : ∀ (H1 : Heap) (locs1 : List Loc), PP G (ws.set q1 (a, iA G n f)) H1 → va_D A (ws.set q1 (a, iA G n f)) → va_S A H0 H1 locs1 → W p l e R s m args below meth c H1 locs1 cells slots Q (F0 m (pc + 3) ls rest)) : W p l e R s m args below meth c H locs cells slots Q (F0 m pc ls (.int (nI n) :: .int 0 :: .ref a :: .int 0 :: .ref a0 :: rest)) := by
  refine va_copyi C.1 C.2.1 (C.2.2.2.2.1.trans hl.1.symm) C.2.2.2.2.2.1 (C.2.2.2.2.2.2 _ hlink) (C.2.2.2.2.2.2 _ hnat) (C.2.2.2.2.2.2 _ hstat) (C.2.2.2.2.2.2 _ hini) hK hP hD hS q0 q1 0 0 ha0 ha1 (by rfl) (by rfl) rfl (by decide) (by decide) (nI_pos hn) (by rw [nI_clamp hn]; exact Nat.le_of_eq (Nat.zero_add n)) (by rw [nI_clamp hn]; exact Nat.le_of_eq (Nat.zero_add n)) (fun _ _ => rfl) hR.1 (Nat.le_trans (Nat.add_le_add hW (show nativeFrameWords "java/lang/System" "arraycopy" 5 + 11 ≤ 52 by decide +kernel)) hR.2) hdg ?_
  intro H1 locs1 hP1 hD1 hS1
  have hl9 : q1 < ws.length := (List.getElem?_eq_some_iff.mp ha1).1
  have h1 := pp_ext (G := G) hP1 q1 (a := a) (n := n) (g := f) (by rw [List.getElem?_set_self hl9]) (fun j hj => by
    show va_cpy f g (0 : Int32).toNatClampNeg (0 : Int32).toNatClampNeg (nI n).toNatClampNeg j = f j
    rw [nI_clamp hn, show (0 : Int32).toNatClampNeg = 0 from rfl]
    simp [va_cpy, hj])
  rw [List.set_set] at h1
  refine k H1 locs1 h1 ?_ hS1
  have h2 := hD1.set (p := q1) (e := iA G n f) (by rw [List.getElem?_set_self hl9])
  rw [List.set_set] at h2
  exact h2
/-- nine guests copied into another row -/
theorem n_cpyq {G : GG} {ws : va_W} {A : Nat → Prop} {H0 : Heap} {ix a0 a : Nat} {f g : Nat → Option Nat} (C : Cx p c meth s args m cc L0 rt0 own) (hK : KM G s) (hP : PP G ws H) (hD : va_D A ws) (hS : va_S A H0 H locs) (hlink : Cond.methodLink own ix arraycopyName ∈ lw_all) (hnat : Cond.native arraycopyName ∈ lw_all) (hstat : Cond.static arraycopyName ∈ lw_all) (hini : Cond.initialized "java/lang/System" ∈ lw_all) (q0 q1 : Nat) (ha0 : ws[q0]? = some (a0, qA G 3 9 f)) (ha1 : ws[q1]? = some (a, qA G 3 9 g)) (hel : ∀ i y, i < 9 → f i = some y → va_Any "CakesToTheWatched$Guest" s H y) {lv : List (Nat × Value)} (hl : lv_has ls L0 lv) (hR : 1 ≤ R.frames ∧ 60 ≤ R.locals) (hW : (rest.map fun v => v.category).sum ≤ 8) (hdg : decode cc pc = .ok (.invokestatic ix, 3)) (k : ∀ (H1 : Heap) (locs1 : List Loc), PP G (ws.set q1 (a, qA G 3 9 f)) H1 → va_D A (ws.set q1 (a, qA G 3 9 f)) → va_S A H0 H1 locs1 → W p l e R s m args below meth c H1 locs1 cells slots Q (F0 m (pc + 3) ls rest)) : W p l e R s m args below meth c H locs cells slots Q (F0 m pc ls (.int 9 :: .int 0 :: .ref a :: .int 0 :: .ref a0 :: rest)) := by
  refine va_copyM C.1 C.2.1 (C.2.2.2.2.1.trans hl.1.symm) C.2.2.2.2.2.1 (C.2.2.2.2.2.2 _ hlink) (C.2.2.2.2.2.2 _ hnat) (C.2.2.2.2.2.2 _ hstat) (C.2.2.2.2.2.2 _ hini) hK hP hD hS q0 q1 3 3 ha0 ha1 (by rfl) (by rfl) (by decide) (by decide) (by decide) (by decide) (by decide) (fun i hi y hy => hel i y hi (by rw [← hy, show (0 : Int32).toNatClampNeg = 0 from rfl, Nat.zero_add])) hR.1 (Nat.le_trans (Nat.add_le_add hW (show nativeFrameWords "java/lang/System" "arraycopy" 5 + 11 ≤ 52 by decide +kernel)) hR.2) hdg ?_
  intro H1 locs1 hP1 hD1 hS1
  have hl9 : q1 < ws.length := (List.getElem?_eq_some_iff.mp ha1).1
  have h1 := pp_extq (G := G) hP1 q1 (a := a) (t := 3) (n := 9) (g := f) (by rw [List.getElem?_set_self hl9]) (fun j hj => by
    show va_cpy f g (0 : Int32).toNatClampNeg (0 : Int32).toNatClampNeg (9 : Int32).toNatClampNeg j = f j
    rw [show (0 : Int32).toNatClampNeg = 0 from rfl, show (9 : Int32).toNatClampNeg = 9 from rfl]
    simp [va_cpy, hj])
  rw [List.set_set] at h1
  refine k H1 locs1 h1 ?_ hS1
  have h2 := hD1.set (p := q1) (e := qA G 3 9 f) (by rw [List.getElem?_set_self hl9])
  rw [List.set_set] at h2
  exact h2
end KROWS
