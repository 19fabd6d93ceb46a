/-! BASE 18: what exceptions need of the heap; super constructors of exceptions; contracts of methods that throw or catch (printed by tools/mkbase18.py) -/
def ZE (U : State) : Prop := vx_Zq Bundle.tN "UNASSIGNED_STACK" Bundle.steD (fun _ => False) U U.heap ∧ vx_Zq Bundle.tN "SUPPRESSED_SENTINEL" Bundle.listD (fun _ => False) U U.heap
def ZA (A : Nat → Prop) (s : State) : Prop := vx_Zq Bundle.tN "UNASSIGNED_STACK" Bundle.steD A s s.heap ∧ vx_Zq Bundle.tN "SUPPRESSED_SENTINEL" Bundle.listD A s s.heap
theorem zq_un {C n d : String} {A : Nat → Prop} {U : State} {H : Heap} (h : vx_Zq C n d (fun _ => False) U H) (hA : ∀ (a : Nat) (cell : Cell), H[a]? = some cell → cell.vm.isStatics = true → ¬ A a) : vx_Zq C n d A U H := by
  obtain ⟨h1, c, k, i, f, a, cell, g1, g2, g3, g4, g5, g6, g7, g8, g9, -⟩ := h
  refine ⟨?_, c, k, i, f, a, cell, g1, g2, g3, g4, g5, g6, g7, g8, g9, hA a cell g5 g6⟩
  rcases h1 with ⟨cf, kf, fi, f, a, cell, q1, q2, q3, q4, q5, q6, q7, -⟩ | ⟨t, cf, kf, fi, f, a, cell, q1, q2, q3, q4, q5, q6, q7, -⟩
  · exact Or.inl ⟨cf, kf, fi, f, a, cell, q1, q2, q3, q4, q5, q6, q7, hA a cell q5 q6⟩
  · exact Or.inr ⟨t, cf, kf, fi, f, a, cell, q1, q2, q3, q4, q5, q6, q7, hA a cell q5 q6⟩
theorem cell_nost {G : GG} {w : va_W} {H : Heap} (hP : PP G w H) {k : Nat} {q : Nat × va_E} (hk : w[k]? = some q) {cell : Cell} (hc : H[q.1]? = some cell) : cell.vm.isStatics = false := by
  have h := hP k q hk
  obtain ⟨a, e⟩ := q
  cases e with
  | inl x =>
    have h1 : H[a]? = some (vp_cell x.1 x.2) := h
    rw [h1] at hc
    cases hc
    obtain ⟨x1, n, x2⟩ := x
    rcases x2 with f | f | f | f | f <;> rfl
  | inr o =>
    obtain ⟨r, -, c2, g1, -, g3, -⟩ := h
    rw [g1] at hc
    cases hc
    rw [g3]; rfl
theorem ZE.of {G : GG} {w : va_W} {A : Nat → Prop} {s : State} (h : ZE s) (hP : PP G w s.heap) (hAx : ∀ q : Nat, A q → va_A w s.heap.size q) : ZA A s := by
  have hA : ∀ (a : Nat) (cell : Cell), s.heap[a]? = some cell → cell.vm.isStatics = true → ¬ A a := by
    intro a cell h1 h2 h3
    rcases hAx a h3 with ⟨k, e, hk⟩ | h4
    · have := cell_nost hP hk h1
      rw [this] at h2; cases h2
    · have := (Array.getElem?_eq_some_iff.mp h1).1
      omega
  exact ⟨zq_un h.1 hA, zq_un h.2 hA⟩
theorem ZA.at {A : Nat → Prop} {s : State} {H : Heap} {locs : List Loc} (h : ZA A s) (hS : va_S A s.heap H locs) : ∀ U : State, U.heap = H → s.WarmedH U.vm → ZE U := by
  intro U hU hW
  refine ⟨?_, ?_⟩
  · rw [hU]; exact (vx_Zq.moved hW.alike (vx_Zq.kept h.1 hS.2.1)).narrow (fun _ z => False.elim z)
  · rw [hU]; exact (vx_Zq.moved hW.alike (vx_Zq.kept h.2 hS.2.1)).narrow (fun _ z => False.elim z)
theorem ZE.call {U : State} {g : JFrame} {mk : MethodId} {a : Array Value} (h : ZE U) : ZE (U.calling g mk a) := ⟨vx_Zq.moved (u := U) (U := U.calling g mk a) (Vm.Alike.refl U.vm) h.1, vx_Zq.moved (u := U) (U := U.calling g mk a) (Vm.Alike.refl U.vm) h.2⟩
def KE (G : GG) (gm : GM) (U : State) : Prop := KG G gm U ∧ MR1 U ∧ ZE U
theorem KE.call {G : GG} {gm : GM} : ∀ (U : State) (g : JFrame) (mk : MethodId) (a : Array Value), KE G gm U → KE G gm (U.calling g mk a) := fun U g mk a h => ⟨KG.call U g mk a h.1, MR1.moved (s := U) (U := U.calling g mk a) (Vm.Alike.refl U.vm) h.2.1, ZE.call h.2.2⟩
theorem KE.at {G : GG} {gm : GM} {A : Nat → Prop} {s : State} {H : Heap} {locs : List Loc} (hK : KX G s) (hG : GP G gm H) (hM : MR1 s) (hZ : ZA A s) (hS : va_S A s.heap H locs) : ∀ U : State, U.heap = H → s.WarmedH U.vm → KE G gm U := fun U hU hW => ⟨KG.at hK hG U hU hW, MR1.moved hW.alike hM, ZA.at hZ hS U hU hW⟩
/-- a fresh object -/
def FRn (nm : String) (o : Nat) (U : State) : Prop := ∃ (cX : ClassId) (kX : Class), U.vm.findClass nm = some cX ∧ U.vm.classes[cX]? = some kX ∧ U.heap[o]? = some (freshCell cX kX)
theorem FRn.at {nm : String} {o : Nat} {s : State} {H : Heap} {cX : ClassId} {kX : Class} (h1 : s.vm.findClass nm = some cX) (h2 : s.vm.classes[cX]? = some kX) (h3 : H[o]? = some (freshCell cX kX)) : ∀ U : State, U.heap = H → s.WarmedH U.vm → FRn nm o U := by
  intro U hU hW
  obtain ⟨k', hk', he⟩ := hW.alike.2.2 _ _ h2
  refine ⟨cX, k', by rw [hW.alike.findClass]; exact h1, hk', ?_⟩
  rw [hU, h3]
  have : k'.instanceTypes = kX.instanceTypes := by rw [he]
  unfold freshCell
  rw [this]
def KI (G : GG) (nm : String) (o : Nat) (U : State) : Prop := KX G U ∧ ZE U ∧ FRn nm o U
theorem KI.call {G : GG} {nm : String} {o : Nat} : ∀ (U : State) (g : JFrame) (mk : MethodId) (a : Array Value), KI G nm o U → KI G nm o (U.calling g mk a) := fun U g mk a h => ⟨(KX_mv G).2 U g mk a h.1, ZE.call h.2.1, by obtain ⟨c, k, h1, h2, h3⟩ := h.2.2; exact ⟨c, k, h1, h2, h3⟩⟩
theorem cast_w {s : State} {args : Array Value} (hX : XK s) {E nm : String} (h : (E, nm) ∈ xc) : (Cond.castable E nm).before args s = true := by
  have h1 : (Cond.castable E nm).before #[] (s.setVm s.vm) = true := hX.2.2.2.1 (E, nm) h
  rw [Cond.onTables_vm (A' := args) (U' := s) s.vm (.castable E nm) rfl] at h1
  exact h1
theorem decl_w {s : State} {args : Array Value} (hX : XK s) {q : MethodName} (h : q ∈ xd) : (Cond.declares q).before args s = true := by
  have h1 : (Cond.declares q).before #[] (s.setVm s.vm) = true := hX.2.2.1 q h
  rw [Cond.onTables_vm (A' := args) (U' := s) s.vm (.declares q) rfl] at h1
  exact h1
theorem e_hat {L : List Cond} {s : State} {args : Array Value} (hts : ∀ w ∈ lw_all, w.before args s = true) (hX : XK s) (hL : ∀ w ∈ L, w ∈ lw_tbl) (hg : ∀ w ∈ L, w ∈ eAll) : ∀ w ∈ L, w.before args s = true := by
  intro w hw
  rcases eAll_good w (hg w hw) with h | ⟨q, h, rfl⟩ | ⟨q, h, rfl⟩
  · exact hts w (List.mem_filter.mpr ⟨hL w hw, h⟩)
  · exact decl_w hX h
  · exact cast_w hX h
theorem e_in1 : (∀ w ∈ eCCE, w ∈ eAll) ∧ (∀ w ∈ eAIO, w ∈ eAll) ∧ (∀ w ∈ eNAS, w ∈ eAll) ∧ (∀ w ∈ eNPE, w ∈ eAll) ∧ (∀ w ∈ eIAE, w ∈ eAll) ∧ (∀ w ∈ eISE, w ∈ eAll) ∧ (∀ w ∈ eBrk, w ∈ eAll) ∧ ∀ w ∈ eTos, w ∈ eAll := by
  unfold eAll
  refine ⟨?_, ?_, ?_, ?_, ?_, ?_, ?_, ?_⟩ <;> intro w hw <;> simp only [List.mem_append] <;> simp only [hw, true_or, or_true]
section X18
variable {p : Program} {l : Launch} {e : Env} {R : Room} {s : State} {m₀ : MethodId} {args : Array Value} {below : List Frame} {meth : Method} {c : Code} {W : State} {locs : List Loc} {cells slots : Nat}
set_option maxHeartbeats 1000000 in
theorem x_ctorSup (X : Stand p l e R s m₀ args below meth c W locs cells slots) (hexec : p.tables.exec = Jvm.exec) (htr : e.platform.stackTraces = false) {own C7 cls : String} {names : List String} {ic : Nat}
    (hown : s.vm.findClass own = some m₀.cls) (hcls : Bundle.fit cls = true) (hnames : ∀ n ∈ names, Bundle.fit n = true)
    (h : ∀ a ∈ supAtoms own ic C7 cls names, a.before args s = true)
    (hlocs : ∀ x ∈ locs, ∀ cell, s.heap[x.base]? = some cell → cell.vm.isStatics = false)
    {a : Addr} {cX : ClassId} {kX : Class} (hfoundX : s.vm.findClass C7 = some cX) (hkX : s.vm.classes[cX]? = some kX) (hcell : W.heap[a]? = some (freshCell cX kX))
    {g : JFrame} (hg : g.method = m₀) (hsize : g.locals.size = c.maxLocals) {rest : List Value} (hstack : g.stack = .ref a :: rest)
    (hd6 : decode c.code g.pc = .ok (.invokespecial ic, 3))
    (hRframes : names.length + 3 < R.frames) (hRlocals : 2 * g.monitorRoom + (rest.map fun v => v.category).sum + (13 * (names.length + 1) + 41) ≤ R.locals) :
    ∃ (V : State) (ce : Cell) (L : List Loc), Stand p l e R s m₀ args below meth c (V.setCell a ce) (locs ++ L) cells slots ∧ (∀ y ∈ L, y.base = a) ∧ a < V.heap.size ∧ ce.cls = cX ∧ ce.vm = .none ∧ ce.slots.size = (freshCell cX kX).slots.size ∧ V.heap = W.heap ∧
      ∀ target, Steps p.tables e below ((V.setCell a ce).setTop { g with stack := rest, pc := g.pc + 3 }) target → Steps p.tables e below (W.setTop g) target := by
  have howns : e.platform.frameOwnsMonitors = true := by rw [X.admits.platform]
  have hfin : e.platform.finalization = false := by rw [X.admits.platform]
  have hpl : e.platform.magicAccessors = ({} : Platform).magicAccessors := by rw [X.admits.platform]
  have a' : ∀ x, x ∈ supAtoms own ic C7 cls names → x.holds args s none s [] = true := fun x hx => h x hx
  obtain ⟨T, Z, L, LZ, Y⟩ := ThrowableC.of_atoms (args := args) howns hfin hpl (fun x hx => h x (by simp [supAtoms, hx]))
  obtain ⟨P1, Ps, hlen, L1, hL, hP1m, hlink1, hlink⟩ := Bundle.chain0 (args := args) hpl Y.init0 names cls hcls hnames (fun x hx => h x (by simp [supAtoms, hx]))
  obtain ⟨c1, kX', hc1, hk, hord, -, -, hn7⟩ := Cond.instantiable_spec (a' (.instantiable C7 7) (by simp [supAtoms]))
  cases Option.some.inj (hc1.symm.trans hfoundX)
  cases Option.some.inj (hkX.symm.trans hk)
  have hfound := hfoundX
  have hsel0 : selectMethod e.platform s.vm cX T.fill0 = .method T.fill0 := by
    obtain ⟨c2, r2, m2, q1, q2, q3, q4, -⟩ := Cond.selects_spec (a' (.selects C7 Bundle.tFill0 Bundle.tFill0) (by simp [supAtoms]))
    cases Option.some.inj (q1.symm.trans hfound)
    cases Option.some.inj (q2.symm.trans (State.methodFound?_of_named Y.fill0 (by decide)))
    cases Option.some.inj (q3.symm.trans Y.fill0)
    rw [Launch.admits_selectMethod X.admits]; exact q4
  have hselF : selectMethod e.platform s.vm cX T.fill = .method T.fill := by
    obtain ⟨c2, r2, m2, q1, q2, q3, q4, -⟩ := Cond.selects_spec (a' (.selects C7 Bundle.tFill Bundle.tFill) (by simp [supAtoms]))
    cases Option.some.inj (q1.symm.trans hfound)
    cases Option.some.inj (q2.symm.trans (State.methodFound?_of_named Y.fill (by decide)))
    cases Option.some.inj (q3.symm.trans Y.fill)
    rw [Launch.admits_selectMethod X.admits]; exact q4
  obtain ⟨cellS0, hcS0, hiss⟩ := Y.statics
  obtain ⟨u0, hu0⟩ := Cond.staticRefV Y.unassigned L.unassignedStatic L.statics hcS0 hiss (a' (.isRef (.static Bundle.tN "UNASSIGNED_STACK" Bundle.steD)) (by simp [supAtoms]))
  obtain ⟨sen, hsen⟩ := Cond.staticRefV Y.sentinel L.sentinelStatic L.statics hcS0 hiss (a' (.isRef (.static Bundle.tN "SUPPRESSED_SENTINEL" Bundle.listD)) (by simp [supAtoms]))
  obtain ⟨ci198, i198, fB, hk198, hg198, ha198, hsB, -, hnB, htB, hffB⟩ := Cond.ownField (t := .object "java/lang/Object") Y.found L.cls (by decide +kernel) (a' (.fieldLink Bundle.tN 198 Bundle.tN "backtrace" "Ljava/lang/Object;") (by simp [supAtoms])) (a' (.lays Bundle.tN Bundle.tN "backtrace" "Ljava/lang/Object;") (by simp [supAtoms])) e.platform hpl
  obtain ⟨cellS, hcS', heS, -, hkeep⟩ := X.same.2.2.2.2.2 T.aS cellS0 hcS0
  have hcellS : W.heap[T.aS]? = some cellS := hcS'
  have hout' : ∀ i, (⟨T.aS, i⟩ : Loc) ∉ locs := fun i hmem => by
    have := hlocs _ hmem cellS0 hcS0
    rw [hiss] at this; cases this
  have hknownS : cellS.vm ≠ .unknown := by
    rw [heS]; intro hu
    rw [show cellS0.vm = .unknown from hu] at hiss
    cases hiss
  have hneS : T.aS ≠ a := fun e9 => by
    rw [e9] at hcellS
    have e8 := Option.some.inj (hcellS.symm.trans hcell)
    have e7 : cellS.vm = cellS0.vm := by rw [heS]
    rw [e8] at e7
    rw [← e7] at hiss
    cases hiss
  obtain ⟨tyC, dC, hdC, hdnC⟩ := Cond.laysAt hfound hk Y.cause (a' (.lays C7 Bundle.tN "cause" "Ljava/lang/Throwable;") (by simp [supAtoms]))
  obtain ⟨tyS, dS, hdS, hdnS⟩ := Cond.laysAt hfound hk Y.stack (a' (.lays C7 Bundle.tN "stackTrace" Bundle.steD) (by simp [supAtoms]))
  obtain ⟨tyP, dP, hdP, hdnP⟩ := Cond.laysAt hfound hk Y.supp (a' (.lays C7 Bundle.tN "suppressedExceptions" Bundle.listD) (by simp [supAtoms]))
  obtain ⟨tyB, dB, hdB, hdnB⟩ := Cond.laysAt hfound hk hffB (a' (.lays C7 Bundle.tN "backtrace" "Ljava/lang/Object;") (by simp [supAtoms]))
  have bC := Cond.laysApart hdB hdC hdnB hdnC (by rw [hnB, Y.causeName]; decide)
  have bS := Cond.laysApart hdB hdS hdnB hdnS (by rw [hnB, Y.stackName]; decide)
  have bP := Cond.laysApart hdB hdP hdnB hdnP (by rw [hnB, Y.suppName]; decide)
  have hskip : SkipFacts T e.platform s (fun u => u) u0 ((preparedCellV T.toThrowableT (freshCell cX kX) a u0 sen).withEntry W.cur) :=
    ⟨{ ci198 := ci198, i198 := i198, fBack := fB }, ⟨hk198, hg198, ha198, hsB⟩, by
      have := fresh_default (c := cX) tyB
      rw [htB] at this
      simpa [preparedCellV, Cell.setSlot, Cell.withEntry, Array.getElem?_setIfInBounds, bC, bS, bP, bC.symm, bS.symm, bP.symm, defaultValue] using this, fun _ _ => rfl⟩
  obtain ⟨tm, methC, cdC, kC, vm₁, hnC, -, -, -, -, -, -, -, hW₁, st1⟩ := Steps.initCold (tb := p.tables) (e := e) (below := below) (s := s) (U := W) X.here hexec X.warmed hpl hown (t := Bundle.init0 cls) rfl rfl (Bundle.fit_spec hcls).2
    (a' (.methodLink own ic (Bundle.init0 cls)) (by simp [supAtoms])) (h (.instanceMethod (Bundle.init0 cls)) (by cases names <;> simp [supAtoms, Bundle.chain0Atoms, Bundle.passAtoms])) (bytes := Bundle.five) (maxL := 1) (h (.code (Bundle.init0 cls) Bundle.five 1 none) (by cases names <;> simp [supAtoms, Bundle.chain0Atoms, Bundle.passAtoms]))
    (f := g) hg (a := a) (rest := rest) hstack hd6
  cases Option.some.inj (hnC.symm.trans hP1m)
  have X₁ := X.noted hW₁
  obtain ⟨vm₂, X₂, st2⟩ := X₁.ctorPlainOffV hexec (g := { g with stack := rest }) hg hsize T L Z LZ (P1 :: Ps)
    (fun P hP => by rcases List.mem_cons.mp hP with rfl | hP; exact L1; exact hL P hP) ⟨hlink1, hlink⟩ (u0 := u0) (sen := sen) (self := a) (cell := freshCell cX kX) (cellS := cellS)
    hcell (fun _ => by simp) (by simp) rfl rfl hsel0 hselF hcellS hneS hknownS (by rw [hkeep _ (hout' _)]; exact hu0) (by rw [hkeep _ (hout' _)]; exact hsen)
    (Takes.of_laid hk hord tyC (by rw [Y.causeType]; rfl)) (Takes.of_laid hk hord tyS (by rw [Y.stackType]; exact fits_refV_array _ u0)) (Takes.of_laid hk hord tyP (by rw [Y.suppType]; exact fits_refV_object _ sen)) Y.objLocals hskip htr [] hd6
    (by simp only [List.length_cons, hlen]; omega) (by simp only [List.length_cons, hlen]; exact hRlocals)
  have hlt : a < ((W.setVm vm₁).setVm vm₂).heap.size := (Array.getElem?_eq_some_iff.mp hcell).1
  refine ⟨(W.setVm vm₁).setVm vm₂, _, _, X₂, fun y hy => ?_, hlt, rfl, rfl, by simp [preparedCellV, Cell.setSlot], rfl, fun target hwalk => st1 _ (fun acts => ?_)⟩
  · simp only [List.mem_cons, List.not_mem_nil, or_false] at hy
    rcases hy with rfl | rfl | rfl | rfl <;> rfl
  · rw [doInvoke_state]
    exact st2 _ hwalk
end X18
