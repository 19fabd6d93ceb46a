/-! BASE 15: a cast that fails -/
def MR1 (s : State) : Prop := modulesRight_1 s = true
theorem MR1.moved {s U : State} (hvm : s.vm.Alike U.vm) (h : MR1 s) : MR1 U := by
  have e : U.vm.modules = s.vm.modules := by rw [hvm.1]
  unfold MR1 modulesRight_1 at h ⊢
  rw [e]
  exact h
theorem fc_full {vm : Vm} {name : String} {c : ClassId} (h : vm.findClass name = some c) : ∃ k, vm.classes[c]? = some k ∧ k.name = name ∧ k.hidden = none ∧ k.loader = none := by
  obtain ⟨hlt, hp, _⟩ := Array.findIdx?_eq_some_iff_getElem.mp h
  refine ⟨vm.classes[c], by simp [hlt], ?_⟩
  simp only [Bool.and_eq_true, beq_iff_eq, Option.isNone_iff_eq_none] at hp
  exact ⟨hp.1.1.1, hp.1.1.2, hp.2⟩
theorem mr_name {s : State} {k : Class} {mi : ModuleInfo} (h : MR1 s) (hl : k.loader = none) (hp : packageOf k.name = "") (hm : s.vm.moduleOf k = some mi) : mi.name = "java.base" := by
  unfold Vm.moduleOf at hm
  split at hm
  · have := List.find?_some hm
    simpa using this
  · have h1 := List.find?_some hm
    have h2 := List.mem_of_find?_eq_some hm
    simp only [Bool.and_eq_true, beq_iff_eq] at h1
    unfold MR1 modulesRight_1 at h
    have h3 := List.all_eq_true.mp h mi h2
    rw [hp] at h1
    have h4 : (castPackages_1.any fun p => mi.packages.contains p) = true := by
      unfold castPackages_1
      rw [List.any_eq_true]
      exact ⟨"", List.mem_cons_self, h1.2⟩
    rw [h4, h1.1, hl] at h3
    simpa using h3
theorem home_len {s : State} {k : Class} (h : MR1 s) (hl : k.loader = none) (hp : packageOf k.name = "") : (s.vm.home k).toList.length ≤ 38 := by
  unfold Vm.home
  rw [hl]
  cases hm : s.vm.moduleOf k with
  | none =>
    simp only [Vm.loaderName]
    decide +kernel
  | some mi =>
    simp only [Vm.loaderName, mr_name h hl hp hm]
    decide +kernel
/-- lengths of a cast's message -/
theorem cc_text {s : State} {ks kt : Class} (h : MR1 s) (hs : ks.hidden = none ∧ ks.loader = none ∧ packageOf ks.name = "" ∧ (dotted ks.name).toList.length ≤ 30) (ht : kt.hidden = none ∧ kt.loader = none ∧ packageOf kt.name = "" ∧ (dotted kt.name).toList.length ≤ 30) :
    ((Op.checkcast.message s.vm ks kt) == notModelled) = false ∧ (stringBytes (stringToUtf16 (Op.checkcast.message s.vm ks kt))).size ≤ 1000 := by
  have hks : ks.shown = dotted ks.name := by unfold Class.shown; rw [hs.1]
  have hkt : kt.shown = dotted kt.name := by unfold Class.shown; rw [ht.1]
  have l1 := home_len h hs.2.1 hs.2.2.1
  have l2 := home_len h ht.2.1 ht.2.2.1
  have c1 : (toString " and ").toList.length = 5 := by decide
  have c2 : (toString " are in ").toList.length = 8 := by decide
  have c3 : (toString " is in ").toList.length = 7 := by decide
  have c4 : (toString "; ").toList.length = 2 := by decide
  have hh : (s.vm.homes ks kt).toList.length ≤ 152 := by
    unfold Vm.homes
    rw [hks, hkt]
    split
    · show (toString (dotted ks.name) ++ toString " and " ++ toString (dotted kt.name) ++ toString " are in " ++ toString (s.vm.home ks)).toList.length ≤ 152
      simp only [String.toList_append, List.length_append]
      have e1 : (toString (dotted ks.name)).toList.length ≤ 30 := hs.2.2.2
      have e2 : (toString (dotted kt.name)).toList.length ≤ 30 := ht.2.2.2
      have e3 : (toString (s.vm.home ks)).toList.length ≤ 38 := l1
      omega
    · show (toString (dotted ks.name) ++ toString " is in " ++ toString (s.vm.home ks) ++ toString "; " ++ toString (dotted kt.name) ++ toString " is in " ++ toString (s.vm.home kt)).toList.length ≤ 152
      simp only [String.toList_append, List.length_append]
      have e1 : (toString (dotted ks.name)).toList.length ≤ 30 := hs.2.2.2
      have e2 : (toString (dotted kt.name)).toList.length ≤ 30 := ht.2.2.2
      have e3 : (toString (s.vm.home ks)).toList.length ≤ 38 := l1
      have e4 : (toString (s.vm.home kt)).toList.length ≤ 38 := l2
      omega
  have e0 : Op.checkcast.message s.vm ks kt = toString "class " ++ toString (dotted ks.name) ++ toString " cannot be cast to class " ++ toString (dotted kt.name) ++ toString " (" ++ toString (s.vm.homes ks kt) ++ toString ")" := by
    unfold Op.checkcast.message
    rw [hks, hkt]
  rw [e0]
  constructor
  · rw [beq_eq_false_iff_ne]
    intro h
    have h2 := congrArg String.toList h
    have h4 : notModelled.toList = '\u0000' :: " a message that is not modelled".toList := by decide
    rw [h4] at h2
    simp only [String.toList_append] at h2
    have h5 : (toString "class ").toList = 'c' :: "lass ".toList := by decide
    rw [h5] at h2
    simp at h2
  · have b1 := stringBytes_size_le (stringToUtf16 (toString "class " ++ toString (dotted ks.name) ++ toString " cannot be cast to class " ++ toString (dotted kt.name) ++ toString " (" ++ toString (s.vm.homes ks kt) ++ toString ")"))
    have b2 := utf16_size_le (toString "class " ++ toString (dotted ks.name) ++ toString " cannot be cast to class " ++ toString (dotted kt.name) ++ toString " (" ++ toString (s.vm.homes ks kt) ++ toString ")")
    have b3 : (toString "class " ++ toString (dotted ks.name) ++ toString " cannot be cast to class " ++ toString (dotted kt.name) ++ toString " (" ++ toString (s.vm.homes ks kt) ++ toString ")").toList.length ≤ 250 := by
      simp only [String.toList_append, List.length_append]
      have e1 : (toString (dotted ks.name)).toList.length ≤ 30 := hs.2.2.2
      have e2 : (toString (dotted kt.name)).toList.length ≤ 30 := ht.2.2.2
      have e3 : (toString (s.vm.homes ks kt)).toList.length ≤ 152 := hh
      have d1 : (toString "class ").toList.length = 6 := by decide
      have d2 : (toString " cannot be cast to class ").toList.length = 25 := by decide
      have d3 : (toString " (").toList.length = 2 := by decide
      have d4 : (toString ")").toList.length = 1 := by decide
      omega
    omega
section R15
variable {p : Program} {l : Launch} {e : Env} {R : Room} {s : State} {m : MethodId} {args : Array Value} {below : List Frame} {meth : Method} {c : Code} {H : Heap} {locs : List Loc} {cells slots : Nat} {Q : State → Prop}
variable {cc : ByteArray} {pc : Nat} {ls : Array Slot} {rest : List Value} {L0 : Nat} {rt0 : Option FieldType} {own : String}
theorem x_castNo {T : State} (X : Stand p l e R s m args below meth c T locs cells slots) (hexec : p.tables.exec = Jvm.exec)
    {own name : String} {index : Nat} (hown : s.vm.findClass own = some m.cls) (hlink : (Cond.classLink own index name).before args s = true)
    {a : Addr} {cell : Cell} {cT : ClassId} {ks : Class} (hcell : T.heap[a]? = some cell) (hobj : cell.vm.isStatics = false) (hks : s.vm.classes[cell.cls]? = some ks) (hcT : s.vm.findClass name = some cT) (hasg : s.vm.assignable cell.cls cT = false)
    {g : JFrame} (hg : g.method = m) {rest : List Value} (hstack : g.stack = .ref a :: rest) (hdg : decode c.code g.pc = .ok (.checkcast index, 3)) :
    ∃ (vm' : Vm) (ks' kt' : Class), s.WarmedH vm' ∧ vm'.classes[cell.cls]? = some ks' ∧ vm'.classes[cT]? = some kt' ∧ Stand p l e R s m args below meth c (T.setVm vm') locs cells slots ∧
      ∀ target, Steps p.tables e below (((T.setVm vm').setTop g).pushFrame (.throwNew "java/lang/ClassCastException" (some (Op.checkcast.message vm' ks' kt')) none)) target → Steps p.tables e below (T.setTop g) target := by
  have hpl : e.platform.magicAccessors = ({} : Platform).magicAccessors := by rw [X.admits.platform]
  obtain ⟨c', hc', hcl⟩ := Cond.classLink_spec hown hlink e.platform hpl
  cases hcT.symm.trans hc'
  obtain ⟨dk, _, _, kt, hd, _, _, _, _, hkt, _, hopen⟩ := hcl.here
  have hcl₀ := X.warmed.classLinks hcl
  have hW' : s.WarmedH (T.vm.noted m.cls index (.cls cT)) := X.warmed.noted hd hopen (State.rightAt_cls hcl)
  obtain ⟨ks', hks', -⟩ := hW'.alike.2.2 _ _ hks
  obtain ⟨kt', hkt', -⟩ := hW'.alike.2.2 _ _ hkt
  refine ⟨_, ks', kt', hW', hks', hkt', X.noted hW', fun target hrest => ?_⟩
  subst hg
  jvm_step X.here [hexec, hdg, checkcast.wp_cold (e := e) (s := T) (f := g) X.here.top hstack (resolveClass_links e.toSetting hcl₀) hcl₀.ready,
    checkcast.wp_ready (e := e) (s := T.setVm (T.vm.noted g.method.cls index (.cls cT))) (f := g) X.here.top hcl₀.ready hstack]
  refine ⟨cell, hcell, VmData.noStatics_of hobj, ks', hks', kt', hkt', ?_⟩
  rw [if_neg (by rw [hW'.alike.assignable, hasg]; decide)]
  exact hrest
theorem n_castX {Cn nm : String} {ix a : Nat} (C : Cx p c meth s args m cc L0 rt0 own) (hM : MR1 s) (hc : va_Nc Cn nm s) (h1 : packageOf Cn = "" ∧ (dotted Cn).toList.length ≤ 30) (h2 : packageOf nm = "" ∧ (dotted nm).toList.length ≤ 30)
    (hr : ∃ cell : Cell, H[a]? = some cell ∧ cell.vm.isStatics = false ∧ s.vm.findClass Cn = some cell.cls) (hlink : Cond.classLink own ix nm ∈ lw_all) (hdg : decode cc pc = .ok (.checkcast ix, 3))
    (k : ∀ tx : String, (tx == notModelled) = false → (stringBytes (stringToUtf16 tx)).size ≤ 1000 → vx_Note p l e R s m args below meth c H locs cells slots Q (F0 m pc ls (.ref a :: rest)) "java/lang/ClassCastException" tx) : W p l e R s m args below meth c H locs cells slots Q (F0 m pc ls (.ref a :: rest)) := by
  obtain ⟨cell, q1, q2, q3⟩ := hr
  obtain ⟨c0, t0, f1, f2, f3⟩ := hc
  cases q3.symm.trans f1
  intro T hT X
  obtain ⟨ks, hks, -⟩ := Vm.findClass_spec q3
  obtain ⟨vm', ks', kt', hW, g1, g2, X', st⟩ := x_castNo X C.1 C.2.2.2.2.2.1 (C.2.2.2.2.2.2 _ hlink) (by rw [hT]; exact q1) q2 hks f2 f3 (g := F0 m pc ls (.ref a :: rest)) rfl rfl (by rw [C.2.1]; exact hdg)
  have e1 : (T.setVm vm').vm = vm' := rfl
  have m1 : MR1 (T.setVm vm') := MR1.moved (by rw [e1]; exact hW.alike) hM
  obtain ⟨ka, a1, a2, a3, a4⟩ := fc_full (vm := vm') (by rw [hW.alike.findClass]; exact q3)
  obtain ⟨kb, b1, b2, b3, b4⟩ := fc_full (vm := vm') (by rw [hW.alike.findClass]; exact f2)
  cases g1.symm.trans a1
  cases g2.symm.trans b1
  obtain ⟨t1, t2⟩ := cc_text m1 (ks := ks') (kt := kt') ⟨a3, a4, by rw [a2]; exact h1.1, by rw [a2]; exact h1.2⟩ ⟨b3, b4, by rw [b2]; exact h2.1, by rw [b2]; exact h2.2⟩
  obtain ⟨t, x1, x2⟩ := k _ t1 t2 (T.setVm vm') hT X'
  exact ⟨t, st t x1, x2⟩
end R15
theorem gnm_cc : ∀ k, k < 8 → packageOf (gnm k) = "" ∧ (dotted (gnm k)).toList.length ≤ 30 := by decide +kernel
theorem arr_cc : (packageOf "[B" = "" ∧ (dotted "[B").toList.length ≤ 30) ∧ (packageOf "[S" = "" ∧ (dotted "[S").toList.length ≤ 30) ∧ (packageOf "[I" = "" ∧ (dotted "[I").toList.length ≤ 30) ∧ (packageOf "CakesToTheWatched$Guest" = "" ∧ (dotted "CakesToTheWatched$Guest").toList.length ≤ 30) := by decide +kernel
