/-! BASE 5: super.m() that lands in an interface's default method -/
theorem x_pig : ∀ (n : Nat) (f : Nat → Nat), (∀ i, i ≤ n → f i < n) → ∃ i j, i < j ∧ j ≤ n ∧ f i = f j := by
  intro n
  induction n with
  | zero => intro f h; exact absurd (h 0 (Nat.le_refl _)) (by omega)
  | succ n ih =>
    intro f h
    by_cases hx : ∃ i, i ≤ n ∧ f i = f (n + 1)
    · obtain ⟨i, hi, he⟩ := hx
      exact ⟨i, n + 1, by omega, by omega, he⟩
    · have hno : ∀ i, i ≤ n → f i ≠ f (n + 1) := fun i hi he => hx ⟨i, hi, he⟩
      obtain ⟨i, j, h1, h2, h3⟩ := ih (fun i => if f i = n then f (n + 1) else f i) (by
        intro i hi
        have g1 := h i (by omega)
        have g2 := h (n + 1) (by omega)
        have g3 := hno i hi
        split <;> omega)
      have g1 := hno i (by omega)
      have g2 := hno j h2
      refine ⟨i, j, h1, by omega, ?_⟩
      split at h3 <;> split at h3 <;> omega
def x_ch (vm : Vm) (c : ClassId) : Nat → Option ClassId
  | 0 => some c
  | k + 1 => (x_ch vm c k).bind fun q => vm.classes[q]?.bind (·.super)
theorem x_ch_shift (vm : Vm) (c : ClassId) : ∀ k, x_ch vm c (k + 1) = (vm.classes[c]?.bind (·.super)).bind fun q => x_ch vm q k := by
  intro k
  induction k with
  | zero => simp [x_ch]
  | succ k ih =>
    rw [x_ch, ih]
    cases vm.classes[c]?.bind (·.super) with
    | none => rfl
    | some q => rfl
theorem x_ch_add (vm : Vm) (c : ClassId) {i j : Nat} (h : x_ch vm c i = x_ch vm c j) : ∀ d, x_ch vm c (i + d) = x_ch vm c (j + d) := by
  intro d
  induction d with
  | zero => exact h
  | succ d ih =>
    show x_ch vm c (i + d + 1) = x_ch vm c (j + d + 1)
    rw [x_ch, x_ch, ih]
theorem x_ch_pred (vm : Vm) (c : ClassId) : ∀ (k i : Nat), i ≤ k → (x_ch vm c k).isSome = true → (x_ch vm c i).isSome = true := by
  intro k
  induction k with
  | zero => intro i hi h; cases Nat.le_zero.mp hi; exact h
  | succ k ih =>
    intro i hi h
    by_cases he : i = k + 1
    · rw [he]; exact h
    · refine ih i (by omega) ?_
      rw [x_ch] at h
      cases hk : x_ch vm c k with
      | none => rw [hk] at h; cases h
      | some q => rfl
theorem x_ch_mem (vm : Vm) : ∀ (n : Nat) (c q : ClassId), q ∈ vm.superclassesAux n c → ∃ k, k ≤ n ∧ x_ch vm c k = some q := by
  intro n
  induction n with
  | zero => intro c q h; simp [Vm.superclassesAux] at h
  | succ n ih =>
    intro c q h
    unfold Vm.superclassesAux at h
    cases hs : vm.classes[c]?.bind (·.super) with
    | none => rw [hs] at h; cases h
    | some r =>
      rw [hs] at h
      rcases List.mem_cons.mp h with e | h
      · refine ⟨1, by omega, ?_⟩
        rw [e, x_ch_shift, hs]; rfl
      · obtain ⟨k, hk, he⟩ := ih r q h
        refine ⟨k + 1, by omega, ?_⟩
        rw [x_ch_shift, hs]; exact he
theorem x_none (vm : Vm) (name desc : String) : ∀ (n : Nat) (c : ClassId), lookupInSuperclasses vm name desc n c = none → ∀ k q, k < n → x_ch vm c k = some q → ownMethod vm name desc q = none := by
  intro n
  induction n with
  | zero => intro c _ k q hk; omega
  | succ n ih =>
    intro c h k q hk hq
    unfold lookupInSuperclasses at h
    cases hc : vm.classes[c]? with
    | none =>
      cases k with
      | zero => cases hq; simp [ownMethod, hc]
      | succ k => rw [x_ch_shift, hc] at hq; cases hq
    | some kc =>
      simp only [hc, Option.bind_eq_bind, Option.bind_some] at h
      cases hf : kc.findMethod name desc with
      | some i => rw [hf] at h; cases h
      | none =>
        rw [hf] at h
        cases k with
        | zero => cases hq; simp [ownMethod, hc, hf]
        | succ k =>
          rw [x_ch_shift, hc] at hq
          cases hs : kc.super with
          | none => simp [hs] at hq
          | some r =>
            rw [hs] at h
            simp only [Option.bind_some, hs] at hq h
            exact ih r h k q (by omega) hq
theorem x_none_all {vm : Vm} {name desc : String} {c : ClassId} (h : lookupInSuperclasses vm name desc (vm.classes.size + 1) c = none) : ∀ k q, k ≤ vm.classes.size + 1 → x_ch vm c k = some q → ownMethod vm name desc q = none := by
  intro k q hk hq
  by_cases hlt : k < vm.classes.size + 1
  · exact x_none vm name desc _ c h k q hlt hq
  have hk1 : k = vm.classes.size + 1 := by omega
  subst hk1
  have hs : ∀ i, i ≤ vm.classes.size + 1 → (x_ch vm c i).isSome = true := fun i hi => x_ch_pred vm c _ i hi (by rw [hq]; rfl)
  have hf : ∀ i, i ≤ vm.classes.size → ((x_ch vm c i).getD 0 : Nat) < vm.classes.size := by
    intro i hi
    have g := hs (i + 1) (by omega)
    rw [x_ch] at g
    cases hx : x_ch vm c i with
    | none => rw [hx] at g; cases g
    | some r =>
      rw [hx] at g
      simp only [Option.bind_some] at g
      cases hr : vm.classes[r]? with
      | none => rw [hr] at g; cases g
      | some kr =>
        obtain ⟨hlt9, -⟩ := Array.getElem?_eq_some_iff.mp hr
        exact hlt9
  obtain ⟨i, j, h1, h2, h3⟩ := x_pig vm.classes.size (fun i => (x_ch vm c i).getD 0) hf
  have e : x_ch vm c i = x_ch vm c j := by
    obtain ⟨a, ha⟩ := Option.isSome_iff_exists.mp (hs i (by omega))
    obtain ⟨b, hb⟩ := Option.isSome_iff_exists.mp (hs j (by omega))
    simp only [ha, hb, Option.getD_some] at h3
    rw [ha, hb, h3]
  have e2 := x_ch_add vm c e (vm.classes.size + 1 - j)
  rw [show j + (vm.classes.size + 1 - j) = vm.classes.size + 1 by omega, hq] at e2
  exact x_none vm name desc _ c h _ q (by omega) e2
theorem x_sel (vm : Vm) (mR : MethodId) (name desc : String) : ∀ (n : Nat) (c : ClassId), (∀ k q, k < n → x_ch vm c k = some q → ownMethod vm name desc q = none) → selectInSuperclasses vm mR name desc n c = none := by
  intro n
  induction n with
  | zero => intro c _; rfl
  | succ n ih =>
    intro c h
    unfold selectInSuperclasses
    cases hc : vm.classes[c]? with
    | none => rfl
    | some kc =>
      have h0 := h 0 c (by omega) rfl
      have hf : kc.findMethod name desc = none := by
        cases hf : kc.findMethod name desc with
        | none => rfl
        | some i => simp [ownMethod, hc, hf] at h0
      cases hs : kc.super with
      | none => simp [hf, hs]
      | some r =>
        have := ih r (fun k q hk hq => h (k + 1) q (by omega) (by rw [x_ch_shift, hc]; simpa [hs] using hq))
        simp [hf, hs, this]
theorem x_lookupD {vm : Vm} {c : ClassId} {k : Class} {name desc : String} {r0 : MethodId} {rm : Method} (hk : vm.classes[c]? = some k) (hni : k.isInterface = false) (hl : vm.lookupUp c name desc = some r0) (hm : vm.method? r0 = some rm) (hn : rm.name = name) (hd : rm.desc = desc) (hp : rm.isPrivate = false) (hst : rm.isStatic = false) (hsel : selectMethod {} vm c r0 = .method r0) : lookupSpecial vm c name desc = .method r0 := by
  cases hL : lookupInSuperclasses vm name desc (vm.classes.size + 1) c with
  | some x => exact lookupSpecial_of_lookupUp hk hni hl (by rw [hL]; rfl) hm hst
  | none =>
    have h0 := x_none_all hL
    have hown : (vm.classes[c]?.bind (·.findMethod name desc)).map (fun i => (⟨c, i⟩ : MethodId)) = none := h0 0 c (by omega) rfl
    have hsup : superclassMethods vm c name desc = [] := by
      unfold superclassMethods
      apply List.filterMap_eq_nil_iff.mpr
      intro q hq
      obtain ⟨k', hk', he⟩ := x_ch_mem vm _ c q hq
      exact h0 k' q hk' he
    have hself : selectInSuperclasses vm r0 name desc (vm.classes.size + 1) c = none := x_sel vm r0 name desc _ c (fun k q hk hq => h0 k q (by omega) hq)
    have href : refusedOverriding {} vm c name desc = false := by
      unfold refusedOverriding
      simp only [hown, hsup]
      rfl
    unfold selectMethod at hsel
    simp only [hm, hn, hd, hp, href, Bool.false_and, Bool.false_eq_true, if_false, hself] at hsel
    unfold lookupSpecial
    simp only [hown, hsup]
    exact hsel
