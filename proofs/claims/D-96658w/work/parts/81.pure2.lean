/-! PURE 2: pairs all at once: the class's table against the reference's search -/
theorem bit_rmv : ∀ s, s < 256 → ∀ p, p < 8 → ∀ j, j < 8 → rmv s p / 2 ^ j % 2 = if j = p then 0 else s / 2 ^ j % 2 := by decide +kernel
def orb (T p : Nat) : Nat := if T / 2 ^ p % 2 = 1 then T else T + 2 ^ p
theorem orb_n : ∀ T, T < 256 → ∀ p, p < 8 → nI T ||| ((1 : Int32) <<< (nI p &&& 31)) = nI (orb T p) := by decide +kernel
theorem orb_lt : ∀ T, T < 256 → ∀ p, p < 8 → orb T p < 256 := by decide +kernel
theorem bit_orb : ∀ T, T < 256 → ∀ p, p < 8 → ∀ j, j < 8 → orb T p / 2 ^ j % 2 = if j = p then 1 else T / 2 ^ j % 2 := by decide +kernel
theorem ntz_is : ∀ s, s < 256 → ∀ p, p < 8 → s / 2 ^ p % 2 = 1 → (∀ j, j < p → s / 2 ^ j % 2 = 0) → ntz s = p := by decide +kernel
theorem bits_0 : ∀ s, s < 256 → (∀ j, j < 8 → s / 2 ^ j % 2 = 0) → s = 0 := by decide +kernel
theorem bits_N : ∀ N, N < 9 → ∀ s, s < 256 → (∀ j, j < 8 → N ≤ j → s / 2 ^ j % 2 = 0) → s < 2 ^ N := by decide +kernel
theorem wo_comm : ∀ s, s < 256 → ∀ p, p < 8 → ∀ q, q < 8 → wo s p q = wo s q p := by decide +kernel
theorem pcn_wo : ∀ s, s < 256 → ∀ p, p < 8 → ∀ q, q < 8 → (¬ p = q ∧ s / 2 ^ p % 2 = 1 ∧ s / 2 ^ q % 2 = 1) → pcn (wo s p q) 8 + 2 = pcn s 8 := by decide +kernel
theorem pcn_rmv : ∀ s, s < 256 → ∀ p, p < 8 → pcn (rmv s p) 8 ≤ pcn s 8 := by decide +kernel
theorem pcn_pos : ∀ s, s < 256 → s ≠ 0 → 0 < pcn s 8 := by decide +kernel
theorem bits_all : ∀ N, N < 9 → ∀ j, j < 8 → (2 ^ N - 1) / 2 ^ j % 2 = if j < N then 1 else 0 := by decide +kernel
theorem pcn_all : ∀ N, N < 9 → pcn (2 ^ N - 1) 8 = N := by decide +kernel
theorem bit_wo {s p q j : Nat} (hs : s < 256) (hp : p < 8) (hq : q < 8) (hj : j < 8) : wo s p q / 2 ^ j % 2 = if j = p ∨ j = q then 0 else s / 2 ^ j % 2 := by
  unfold wo
  rw [bit_rmv (rmv s p) (Nat.lt_of_le_of_lt (rmv_le _ _) hs) q hq j hj, bit_rmv s hs p hp j hj]
  by_cases e : j = q
  · rw [if_pos e, if_pos (Or.inr e)]
  · rw [if_neg e]
    by_cases e2 : j = p
    · rw [if_pos e2, if_pos (Or.inl e2)]
    · rw [if_neg e2, if_neg (fun h => h.elim e2 e)]
/-- s: who is still free of those from p on, when those in T are taken -/
def RS (N p T s : Nat) : Prop := T < 256 ∧ s < 256 ∧ ∀ j, j < 8 → s / 2 ^ j % 2 = if p ≤ j ∧ j < N ∧ T / 2 ^ j % 2 = 0 then 1 else 0
theorem RS.lt {N p T s : Nat} (h : RS N p T s) (hN : N ≤ 8) : s < 2 ^ N := bits_N N (by omega) s h.2.1 fun j hj hn => by rw [h.2.2 j hj, if_neg (by omega)]
theorem RS.skip {N p T s : Nat} (h : RS N p T s) (hp : T / 2 ^ p % 2 = 1) : RS N (p + 1) T s := by
  refine ⟨h.1, h.2.1, fun j hj => ?_⟩
  rw [h.2.2 j hj]
  by_cases e : j = p
  · subst e
    rw [if_neg (by omega), if_neg (by omega)]
  · by_cases g : p ≤ j ∧ j < N ∧ T / 2 ^ j % 2 = 0
    · rw [if_pos g, if_pos ⟨by omega, g.2⟩]
    · rw [if_neg g, if_neg (fun q => g ⟨by omega, q.2⟩)]
theorem RS.rmv {N p T s : Nat} (h : RS N p T s) (hp : p < 8) : RS N (p + 1) T (rmv s p) := by
  refine ⟨h.1, Nat.lt_of_le_of_lt (rmv_le _ _) h.2.1, fun j hj => ?_⟩
  rw [bit_rmv s h.2.1 p hp j hj]
  by_cases e : j = p
  · subst e
    rw [if_pos rfl, if_neg (by omega)]
  · rw [if_neg e, h.2.2 j hj]
    by_cases g : p ≤ j ∧ j < N ∧ T / 2 ^ j % 2 = 0
    · rw [if_pos g, if_pos ⟨by omega, g.2⟩]
    · rw [if_neg g, if_neg (fun q => g ⟨by omega, q.2⟩)]
theorem RS.wo {N p q T s : Nat} (h : RS N p T s) (hp : p < 8) (hq : q < 8) : RS N (p + 1) (orb (orb T p) q) (wo s p q) := by
  have h1 := orb_lt T h.1 p hp
  refine ⟨orb_lt _ h1 q hq, Nat.lt_of_le_of_lt (wo_le _ _ _) h.2.1, fun j hj => ?_⟩
  rw [bit_wo h.2.1 hp hq hj, bit_orb _ h1 q hq j hj, bit_orb T h.1 p hp j hj]
  by_cases e : j = q
  · rw [if_pos (Or.inr e), if_pos e, if_neg (by omega)]
  · rw [if_neg e]
    by_cases e2 : j = p
    · rw [if_pos (Or.inl e2), if_pos e2, if_neg (by omega)]
    · rw [if_neg (fun g => g.elim e2 e), if_neg e2, h.2.2 j hj]
      by_cases g : p ≤ j ∧ j < N ∧ T / 2 ^ j % 2 = 0
      · rw [if_pos g, if_pos ⟨by omega, g.2⟩]
      · rw [if_neg g, if_neg (fun q => g ⟨by omega, q.2⟩)]
theorem bitI_nI {T q : Nat} (hT : T < 256) (hq : q < 8) : bitI (nI T) q = 1 ↔ T / 2 ^ q % 2 = 1 := by
  have h := sBt_n (s := T) (k := q) (by omega) (by omega)
  unfold sBt at h
  exact decide_eq_decide.mp h
/-- a sum is offered: it is kept, if it is more than the best so far -/
def ofr (w val : Nat) (A : Nat → Int32) (x : Ps) : Ps := if x.1 < nI (w + val) then (nI (w + val), cpf A x.2.1 8, x.2.2) else x
theorem ofr_t (w val : Nat) (A : Nat → Int32) (x : Ps) : (ofr w val A x).2.2 = x.2.2 := by
  unfold ofr
  split <;> rfl
theorem pfE_ofr (w : Nat) (x : Ps) : pfE (nI w) x = ofr w 0 x.2.2 x := by
  unfold pfE ofr mx
  rw [Nat.add_zero]
  by_cases h : x.1 < nI w
  · rw [if_pos h, if_pos h, if_pos (Int32.le_of_lt h)]
  · rw [if_neg h, if_neg h]
    by_cases g : x.1 ≤ nI w
    · rw [if_pos g]
      have e : x.1 = nI w := Int32.le_antisymm g (Int32.not_lt.mp h)
      rw [← e]
    · rw [if_neg g]
def Lo (w M : Nat) (x y : Ps) : Prop := y.2.2 = x.2.2 ∧ (∀ j, 8 ≤ j → y.2.1 j = x.2.1 j) ∧ (x.1 < nI (w + M) → y.1 < nI (w + M)) ∧ (¬ x.1 < nI (w + M) → y = x)
def Hi (w M : Nat) (A : Nat → Int32) (x y : Ps) : Prop := y = ofr w M A x
theorem Lo.rf (w M : Nat) (x : Ps) : Lo w M x x := ⟨rfl, fun _ _ => rfl, fun h => h, fun _ => rfl⟩
theorem cpf_hi {f g : Nat → Int32} {j k : Nat} (h : k ≤ j) : cpf f g k j = g j := by
  unfold cpf
  rw [if_neg (by omega)]
theorem Lo.lt {w M val : Nat} {A : Nat → Int32} {x y : Ps} (h : Lo w M x y) (hv : val < M) (hM : w + M < 2 ^ 31) : Lo w M x (ofr w val A y) := by
  have hlt : nI (w + val) < nI (w + M) := nI_lt (by omega) hM
  obtain ⟨h1, h2, h3, h4⟩ := h
  refine ⟨by rw [ofr_t]; exact h1, fun j hj => ?_, fun hx => ?_, fun hx => ?_⟩
  · unfold ofr
    split
    · show cpf A y.2.1 8 j = x.2.1 j
      rw [cpf_hi hj]; exact h2 j hj
    · exact h2 j hj
  · unfold ofr
    split
    · exact hlt
    · exact h3 hx
  · rw [h4 hx]
    unfold ofr
    rw [if_neg]
    intro q
    exact hx (Int32.lt_trans q hlt)
theorem Lo.eq {w M : Nat} {A : Nat → Int32} {x y : Ps} (h : Lo w M x y) : Hi w M A x (ofr w M A y) := by
  obtain ⟨h1, h2, h3, h4⟩ := h
  unfold Hi ofr
  by_cases hx : x.1 < nI (w + M)
  · rw [if_pos hx, if_pos (h3 hx), h1]
    have : cpf A y.2.1 8 = cpf A x.2.1 8 := funext fun j => by
      unfold cpf
      by_cases g : j < 8
      · rw [if_pos g, if_pos g]
      · rw [if_neg g, if_neg g]; exact h2 j (by omega)
    rw [this]
  · rw [if_neg hx, h4 hx, if_neg hx]
theorem Hi.le {w M val : Nat} {A A' : Nat → Int32} {x y : Ps} (h : Hi w M A x y) (hv : val ≤ M) (hM : w + M < 2 ^ 31) : Hi w M A x (ofr w val A' y) := by
  have hle : nI (w + val) ≤ nI (w + M) := nI_le (by omega) hM
  have e : ofr w val A' y = y := by
    unfold ofr
    rw [if_neg]
    intro q
    unfold Hi ofr at h
    by_cases hx : x.1 < nI (w + M)
    · rw [if_pos hx] at h
      rw [h] at q
      exact absurd q (Int32.not_lt.mpr hle)
    · rw [if_neg hx] at h
      rw [h] at q
      exact hx (Int32.lt_of_lt_of_le q hle)
  unfold Hi
  rw [e]
  exact h
theorem Hi.t {w M : Nat} {A : Nat → Int32} {x y : Ps} (h : Hi w M A x y) : y.2.2 = x.2.2 := by
  unfold Hi at h
  rw [h, ofr_t]
def QS (w M : Nat) (A : Nat → Nat → Int32) (x : Ps) (o : Option Nat) (y : Ps) : Prop := match o with
  | none => Lo w M x y
  | some q => Hi w M (A q) x y
theorem QS.t {w M : Nat} {A : Nat → Nat → Int32} {x y : Ps} {o : Option Nat} (h : QS w M A x o y) : y.2.2 = x.2.2 := by
  cases o with
  | none => exact (show Lo w M x y from h).1
  | some q => exact Hi.t (show Hi w M (A q) x y from h)
theorem fstq_s (P : Nat → Bool) : ∀ (k q0 : Nat), fstq P (k + 1) q0 = match fstq P k q0 with
    | some b => some b
    | none => if P (q0 + k) = true then some (q0 + k) else none := by
  intro k; induction k with
  | zero => intro q0; rfl
  | succ k ih =>
    intro q0
    rw [fstq]
    rw [show fstq P (k + 1) q0 = if P q0 = true then some q0 else fstq P k (q0 + 1) from rfl]
    by_cases g : P q0 = true
    · rw [if_pos g, if_pos g]
    · rw [if_neg g, if_neg g, ih (q0 + 1), show q0 + 1 + k = q0 + (k + 1) by omega]
theorem fstq_c {P P' : Nat → Bool} : ∀ (k q0 : Nat), (∀ q, q0 ≤ q → q < q0 + k → P q = P' q) → fstq P k q0 = fstq P' k q0 := by
  intro k; induction k with
  | zero => intro q0 _; rfl
  | succ k ih =>
    intro q0 h
    rw [fstq, fstq, h q0 (Nat.le_refl _) (by omega), ih (q0 + 1) (fun q h1 h2 => h q (by omega) (by omega))]
theorem pfQ_abs {rec : Int32 → Int32 → Int32 → Ps → Ps} {r : Nat → Int32} {N p w M t : Nat} {tk lf v : Int32} {x : Ps} {el P : Nat → Bool} {vl : Nat → Nat} {A : Nat → Nat → Int32} (hM : w + M < 2 ^ 31)
    (h : ∀ (q : Nat) (y : Ps), p < q → q < N → y.2.2 = x.2.2 → pfS rec r p tk lf v t q y = if el q = true then ofr w (vl q) (A q) y else y) (hv : ∀ q, p < q → q < N → el q = true → vl q ≤ M) (hP : ∀ q, p < q → q < N → P q = (el q && decide (vl q = M))) (y0 : Ps) :
    ∀ k, p + 1 + k ≤ N → (Lo w M x y0 → QS w M A x (fstq P k (p + 1)) (pfQ rec r p tk lf v t y0 (p + 1 + k))) ∧ ∀ A0, Hi w M A0 x y0 → Hi w M A0 x (pfQ rec r p tk lf v t y0 (p + 1 + k)) := by
  intro k; induction k with
  | zero =>
    intro _
    rw [pfQ_0 rec r p tk lf v t y0 (p + 1 + 0) (by omega)]
    exact ⟨fun hL => hL, fun A0 hH => hH⟩
  | succ k ih =>
    intro hk
    obtain ⟨i1, i2⟩ := ih (by omega)
    have e : pfQ rec r p tk lf v t y0 (p + 1 + (k + 1)) = pfS rec r p tk lf v t (p + 1 + k) (pfQ rec r p tk lf v t y0 (p + 1 + k)) := by
      rw [show p + 1 + (k + 1) = (p + 1 + k) + 1 by omega, pfQ, if_pos (by omega)]
    rw [e]
    generalize pfQ rec r p tk lf v t y0 (p + 1 + k) = y at i1 i2 ⊢
    refine ⟨fun hL => ?_, fun A0 hH => ?_⟩
    · have hq := i1 hL
      rw [h (p + 1 + k) y (by omega) (by omega) hq.t, fstq_s, hP (p + 1 + k) (by omega) (by omega)]
      cases e2 : fstq P k (p + 1) with
      | some b =>
        rw [e2] at hq
        have hq : Hi w M (A b) x y := hq
        show Hi w M (A b) x _
        by_cases g : el (p + 1 + k) = true
        · rw [if_pos g]; exact hq.le (hv _ (by omega) (by omega) g) hM
        · rw [if_neg g]; exact hq
      | none =>
        rw [e2] at hq
        have hq : Lo w M x y := hq
        simp only
        by_cases g : el (p + 1 + k) = true
        · rw [if_pos g, g, Bool.true_and]
          by_cases g2 : vl (p + 1 + k) = M
          · rw [decide_eq_true g2, if_pos rfl, g2]
            exact hq.eq
          · rw [decide_eq_false g2, if_neg (by decide)]
            have := hv _ (by omega) (by omega) g
            exact hq.lt (by omega) hM
        · rw [if_neg g, show el (p + 1 + k) = false by simpa using g, Bool.false_and, if_neg (by decide)]
          exact hq
    · have hq := i2 A0 hH
      rw [h (p + 1 + k) y (by omega) (by omega) hq.t]
      by_cases g : el (p + 1 + k) = true
      · rw [if_pos g]; exact hq.le (hv _ (by omega) (by omega) g) hM
      · rw [if_neg g]; exact hq
/-! the table's entry: no choice is more, one is as much -/
theorem pvS_ge (r : Nat → Int32) (E : Nat → Nat → Nat) (m s p q v : Nat) : v ≤ pvS r E m s p q v ∧ (sBt (nI s) q = true → (sEat r p q = true → tn (sJoy r p q) + E (m - 1) (wo s p q) ≤ pvS r E m s p q v) ∧ (sEat r q p = true → tn (sJoy r q p) + E (m - 1) (wo s q p) ≤ pvS r E m s p q v)) := by
  unfold pvS
  cases sBt (nI s) q with
  | false => exact ⟨Nat.le_refl _, fun h => (by cases h)⟩
  | true =>
    rw [if_neg (by decide)]
    cases sEat r q p with
    | false =>
      rw [if_neg (by decide)]
      cases sEat r p q with
      | false => rw [if_neg (by decide)]; exact ⟨Nat.le_refl _, fun _ => ⟨fun h => (by cases h), fun h => (by cases h)⟩⟩
      | true => rw [if_pos rfl]; exact ⟨by omega, fun _ => ⟨fun _ => by omega, fun h => (by cases h)⟩⟩
    | true =>
      rw [if_pos rfl]
      cases sEat r p q with
      | false => rw [if_neg (by decide)]; exact ⟨by omega, fun _ => ⟨fun h => (by cases h), fun _ => by omega⟩⟩
      | true => rw [if_pos rfl]; exact ⟨by omega, fun _ => ⟨fun _ => by omega, fun _ => by omega⟩⟩
theorem pvS_at (r : Nat → Int32) (E : Nat → Nat → Nat) (m s p q v : Nat) : pvS r E m s p q v = v ∨ (sBt (nI s) q = true ∧ ((sEat r p q = true ∧ pvS r E m s p q v = tn (sJoy r p q) + E (m - 1) (wo s p q)) ∨ (sEat r q p = true ∧ pvS r E m s p q v = tn (sJoy r q p) + E (m - 1) (wo s q p)))) := by
  unfold pvS
  cases sBt (nI s) q with
  | false => exact Or.inl rfl
  | true =>
    rw [if_neg (by decide)]
    cases sEat r q p with
    | false =>
      rw [if_neg (by decide)]
      cases sEat r p q with
      | false => rw [if_neg (by decide)]; exact Or.inl rfl
      | true =>
        rw [if_pos rfl]
        rcases Nat.le_total v (tn (sJoy r p q) + E (m - 1) (wo s p q)) with g | g
        · exact Or.inr ⟨rfl, Or.inl ⟨rfl, Nat.max_eq_right g⟩⟩
        · exact Or.inl (Nat.max_eq_left g)
    | true =>
      rw [if_pos rfl]
      cases sEat r p q with
      | false =>
        rw [if_neg (by decide)]
        rcases Nat.le_total v (tn (sJoy r q p) + E (m - 1) (wo s q p)) with g | g
        · exact Or.inr ⟨rfl, Or.inr ⟨rfl, Nat.max_eq_right g⟩⟩
        · exact Or.inl (Nat.max_eq_left g)
      | true =>
        rw [if_pos rfl]
        rcases Nat.le_total (max v (tn (sJoy r p q) + E (m - 1) (wo s p q))) (tn (sJoy r q p) + E (m - 1) (wo s q p)) with g | g
        · exact Or.inr ⟨rfl, Or.inr ⟨rfl, Nat.max_eq_right g⟩⟩
        · rw [Nat.max_eq_left g]
          rcases Nat.le_total v (tn (sJoy r p q) + E (m - 1) (wo s p q)) with g2 | g2
          · exact Or.inr ⟨rfl, Or.inl ⟨rfl, Nat.max_eq_right g2⟩⟩
          · exact Or.inl (Nat.max_eq_left g2)
theorem pvI_ge (r : Nat → Int32) (E : Nat → Nat → Nat) (m s p b : Nat) : ∀ q, b ≤ pvI r E m s p b q ∧ ∀ j, p < j → j < q → sBt (nI s) j = true → (sEat r p j = true → tn (sJoy r p j) + E (m - 1) (wo s p j) ≤ pvI r E m s p b q) ∧ (sEat r j p = true → tn (sJoy r j p) + E (m - 1) (wo s j p) ≤ pvI r E m s p b q) := by
  intro q; induction q with
  | zero => exact ⟨Nat.le_refl _, fun j _ hj => absurd hj (Nat.not_lt_zero j)⟩
  | succ q ih =>
    rw [pvI]
    by_cases g : q ≤ p
    · rw [if_pos g]; exact ⟨Nat.le_refl _, fun j h1 h2 => by omega⟩
    · rw [if_neg g]
      obtain ⟨i1, i2⟩ := ih
      obtain ⟨g1, g2⟩ := pvS_ge r E m s p q (pvI r E m s p b q)
      refine ⟨Nat.le_trans i1 g1, fun j h1 h2 hb => ?_⟩
      by_cases e : j = q
      · subst e; exact g2 hb
      · obtain ⟨k1, k2⟩ := i2 j h1 (by omega) hb
        exact ⟨fun h => Nat.le_trans (k1 h) g1, fun h => Nat.le_trans (k2 h) g1⟩
theorem pvI_at (r : Nat → Int32) (E : Nat → Nat → Nat) (m s p b : Nat) : ∀ q, pvI r E m s p b q = b ∨ ∃ j, p < j ∧ j < q ∧ sBt (nI s) j = true ∧ ((sEat r p j = true ∧ pvI r E m s p b q = tn (sJoy r p j) + E (m - 1) (wo s p j)) ∨ (sEat r j p = true ∧ pvI r E m s p b q = tn (sJoy r j p) + E (m - 1) (wo s j p))) := by
  intro q; induction q with
  | zero => exact Or.inl rfl
  | succ q ih =>
    rw [pvI]
    by_cases g : q ≤ p
    · rw [if_pos g]; exact Or.inl rfl
    · rw [if_neg g]
      rcases pvS_at r E m s p q (pvI r E m s p b q) with h | ⟨h1, h2⟩
      · rw [h]
        rcases ih with i | ⟨j, i1, i2, i3⟩
        · exact Or.inl i
        · exact Or.inr ⟨j, i1, by omega, i3⟩
      · exact Or.inr ⟨q, by omega, Nat.lt_succ_self q, h1, h2⟩
/-! the search, node by node -/
theorem upd_99 {C : Nat → Int32} {e : Nat} {z : Int32} (h : C e = 9) : upd (upd C e z) e 9 = C := funext fun j => by
  unfold upd
  by_cases g : j = e
  · rw [if_pos g, g, h]
  · rw [if_neg g, if_neg g]
theorem pf_eq {r : Nat → Int32} {N : Nat} (hri : RI r N) (hN : N ≤ 8) : ∀ (f p T s l w : Nat) (x : Ps) (F : Nat), f + p = N → RS N p T s → (∀ j, j < 8 → s / 2 ^ j % 2 = 1 → x.2.2 j = 9) → l ≤ 99 → w + 60 * f ≤ 600 → s ≤ F →
    pf r N f p (nI T) (nI l) (nI w) x = ofr w (xV r N l s) (pB r N F l s x.2.2) x := by
  intro f; induction f with
  | zero =>
    intro p T s l w x F hf hs h9 hl hw hF
    have h0 : s = 0 := bits_0 s hs.2.1 fun j hj => by rw [hs.2.2 j hj, if_neg (by omega)]
    subst h0
    rw [pf, pfE_ofr, xV_0, pB_0]
  | succ f ih =>
    intro p T s l w x F hf hs h9 hl hw hF
    have hp : p < 8 := by omega
    have hpN : p < N := by omega
    rw [pf]
    by_cases hb : T / 2 ^ p % 2 = 1
    · rw [if_pos ((bitI_nI hs.1 hp).mpr hb)]
      exact ih (p + 1) T s l w x F (by omega) (hs.skip hb) h9 hl (by omega) hF
    · rw [if_neg (fun q => hb ((bitI_nI hs.1 hp).mp q))]
      have hsp : s / 2 ^ p % 2 = 1 := by rw [hs.2.2 p hp, if_pos ⟨Nat.le_refl p, hpN, by omega⟩]
      have hnt : ntz s = p := ntz_is s hs.2.1 p hp hsp fun j hj => by rw [hs.2.2 j (by omega), if_neg (by omega)]
      have hs0 : s ≠ 0 := by
        intro e
        subst e
        rw [Nat.zero_div] at hsp
        omega
      have hrl := rmv_lt hs.2.1 hs0
      rw [hnt] at hrl
      have h91 : ∀ j, j < 8 → rmv s p / 2 ^ j % 2 = 1 → x.2.2 j = 9 := fun j hj hb2 => by
        rw [bit_rmv s hs.2.1 p hp j hj] at hb2
        by_cases e : j = p
        · rw [if_pos e] at hb2; omega
        · rw [if_neg e] at hb2; exact h9 j hj hb2
      obtain ⟨F', rfl⟩ : ∃ F', F = F' + 1 := ⟨F - 1, by omega⟩
      by_cases hl0 : l = 0
      · subst hl0
        rw [pfT_0 _ _ _ _ _ _ _ _ (show nI 0 ≤ 0 by decide) 2, ih (p + 1) T (rmv s p) 0 w x F' (by omega) (hs.rmv hp) h91 hl (by omega) (by omega)]
        rw [xV_m0 hN hs.2.1 hs0, hnt, pB, if_neg hs0, hnt]
        rfl
      · have hle : ¬ nI l ≤ 0 := nI_nle (by omega) (by omega)
        have hM9 := xV_le (m := l) hri hN (hs.lt hN)
        have hM : w + xV r N l s < 2 ^ 31 := by omega
        have hxe := xV_eq (r := r) hN hs.2.1 hs0 hl0
        rw [hnt] at hxe
        have hge := pvI_ge r (xV r N) l s p (xV r N l (rmv s p)) N
        have hat := pvI_at r (xV r N) l s p (xV r N l (rmv s p)) N
        rw [← hxe] at hge hat
        -- one choice
        have step : ∀ (t e k q : Nat) (y : Ps), (if t = 0 then p else q) = e → (if t = 0 then q else p) = k → p < q → q < N → e < 8 → (e = p ∨ e = q) → k < N → e < N → y.2.2 = x.2.2 →
            pfS (pf r N f (p + 1)) r p (nI T) (nI l) (nI w) t q y = if (sBt (nI s) q && sEat r e k) = true then ofr w (tn (sJoy r e k) + xV r N (l - 1) (wo s p q)) (pB r N F' (l - 1) (wo s p q) (upd x.2.2 e (nI k))) y else y := by
          intro t e k q y he hk hpq hq he8 hepq hkN heN hy
          unfold pfS
          rw [he, hk]
          have hsq : s / 2 ^ q % 2 = if T / 2 ^ q % 2 = 0 then 1 else 0 := by
            rw [hs.2.2 q (by omega)]
            by_cases g : T / 2 ^ q % 2 = 0
            · rw [if_pos ⟨by omega, hq, g⟩, if_pos g]
            · rw [if_neg (fun z => g z.2.2), if_neg g]
          have hsb : sBt (nI s) q = decide (s / 2 ^ q % 2 = 1) := sBt_n (by have := hs.2.1; omega) (by omega)
          by_cases g : T / 2 ^ q % 2 = 1
          · rw [if_pos ((bitI_nI hs.1 (by omega)).mpr g)]
            rw [if_neg (show ¬ T / 2 ^ q % 2 = 0 by omega)] at hsq
            rw [hsb, hsq, if_neg (by simp)]
          · rw [if_neg (fun z => g ((bitI_nI hs.1 (by omega)).mp z))]
            rw [if_pos (show T / 2 ^ q % 2 = 0 by omega)] at hsq
            have hsb1 : sBt (nI s) q = true := by rw [hsb, hsq]; rfl
            rw [hsb1, Bool.true_and]
            cases he2 : sEat r e k with
            | false => rw [if_pos rfl, if_neg (by decide)]
            | true =>
              rw [if_neg (by decide), if_pos rfl]
              obtain ⟨hj1, hj2⟩ := hri.jn heN hkN
              have h99 : x.2.2 e = 9 := by
                rcases hepq with rfl | rfl
                · exact h9 _ he8 hsp
                · exact h9 _ he8 hsq
              have hl1 : nI l - 1 = nI (l - 1) := by
                obtain ⟨l', hl'⟩ := Nat.exists_eq_succ_of_ne_zero hl0
                rw [hl']
                exact nI_pred l'
              have hw1 : nI w + sJoy r e k = nI (w + tn (sJoy r e k)) := by
                rw [← nI_add, ← hj1]
              have hwl : wo s p q < s := by
                have := wo_lt (q := q) hs.2.1 hs0
                rw [hnt] at this
                exact this
              have hrec := ih (p + 1) (orb (orb T p) q) (wo s p q) (l - 1) (w + tn (sJoy r e k)) (y.1, y.2.1, upd x.2.2 e (nI k)) F' (by omega) (hs.wo hp (by omega)) (fun j hj hb2 => by
                rw [bit_wo hs.2.1 hp (by omega) hj] at hb2
                by_cases g2 : j = p ∨ j = q
                · rw [if_pos g2] at hb2; omega
                · rw [if_neg g2] at hb2
                  show upd x.2.2 e (nI k) j = 9
                  unfold upd
                  rw [if_neg (fun z => g2 (by rw [z]; exact hepq))]
                  exact h9 j hj hb2) (by omega) (by omega) (by omega)
              rw [orb_n T hs.1 p hp, orb_n _ (orb_lt T hs.1 p hp) q (by omega), hl1, hw1, hy, hrec]
              unfold ofr
              rw [Nat.add_assoc]
              simp only
              by_cases g3 : y.1 < nI (w + (tn (sJoy r e k) + xV r N (l - 1) (wo s p q)))
              · simp only [if_pos g3, upd_99 h99, hy]
              · simp only [if_neg g3, upd_99 h99]
                rw [← hy]
        have Q0 := pfQ_abs (rec := pf r N f (p + 1)) (r := r) (N := N) (p := p) (w := w) (M := xV r N l s) (t := 0) (tk := nI T) (lf := nI l) (v := nI w) (x := x) (el := fun q => sBt (nI s) q && sEat r p q) (P := prS r N l s p true) (vl := fun q => tn (sJoy r p q) + xV r N (l - 1) (wo s p q)) (A := fun q => pB r N F' (l - 1) (wo s p q) (upd x.2.2 p (nI q))) hM
          (fun q y h1 h2 hy => step 0 p q q y (if_pos rfl) (if_pos rfl) h1 h2 hp (Or.inl rfl) h2 hpN hy)
          (fun q h1 h2 he => by
            simp only [Bool.and_eq_true] at he
            exact (hge.2 q h1 h2 he.1).1 he.2)
          (fun q h1 h2 => by
            unfold prS
            rw [if_pos rfl, if_pos rfl, Bool.and_assoc])
        have Q1 := pfQ_abs (rec := pf r N f (p + 1)) (r := r) (N := N) (p := p) (w := w) (M := xV r N l s) (t := 1) (tk := nI T) (lf := nI l) (v := nI w) (x := x) (el := fun q => sBt (nI s) q && sEat r q p) (P := prS r N l s p false) (vl := fun q => tn (sJoy r q p) + xV r N (l - 1) (wo s p q)) (A := fun q => pB r N F' (l - 1) (wo s p q) (upd x.2.2 q (nI p))) hM
          (fun q y h1 h2 hy => step 1 q p q y (if_neg (by decide)) (if_neg (by decide)) h1 h2 (by omega) (Or.inr rfl) hpN h2 hy)
          (fun q h1 h2 he => by
            simp only [Bool.and_eq_true] at he
            have := (hge.2 q h1 h2 he.1).2 he.2
            rw [← wo_comm s hs.2.1 p hp q (by omega)] at this
            exact this)
          (fun q h1 h2 => by
            unfold prS
            rw [if_neg (by decide), if_neg (by decide), Bool.and_assoc, ← wo_comm s hs.2.1 p hp q (by omega)])
        have eN : p + 1 + (N - (p + 1)) = N := by omega
        have eT : pfT (pf r N f (p + 1)) r N p (nI T) (nI l) (nI w) x 2 = pfQ (pf r N f (p + 1)) r p (nI T) (nI l) (nI w) 1 (pfQ (pf r N f (p + 1)) r p (nI T) (nI l) (nI w) 0 x N) N := by
          rw [pfT, if_neg hle, pfT, if_neg hle, pfT]
        rw [eT]
        have q0 := (Q0 x (N - (p + 1)) (by omega)).1 (Lo.rf _ _ _)
        rw [eN] at q0
        generalize hy1 : pfQ (pf r N f (p + 1)) r p (nI T) (nI l) (nI w) 0 x N = y1 at q0 ⊢
        have q1 := Q1 y1 (N - (p + 1)) (by omega)
        rw [eN] at q1
        generalize hy2 : pfQ (pf r N f (p + 1)) r p (nI T) (nI l) (nI w) 1 y1 N = y2 at q1 ⊢
        have hpr : ∀ e : Bool, prt r N l s p e = fstq (prS r N l s p e) (N - (p + 1)) (p + 1) := fun e => by unfold prt; rw [if_neg hl0]
        have last : ∀ hy : y2.2.2 = x.2.2, pf r N f (p + 1) (nI T) (nI l) (nI w) y2 = ofr w (xV r N l (rmv s p)) (pB r N F' l (rmv s p) x.2.2) y2 := by
          intro hy
          rw [ih (p + 1) T (rmv s p) l w y2 F' (by omega) (hs.rmv hp) (fun j hj hb2 => by rw [hy]; exact h91 j hj hb2) hl (by omega) (by omega), hy]
        rw [pB, if_neg hs0, hnt, hpr true, hpr false]
        cases e0 : fstq (prS r N l s p true) (N - (p + 1)) (p + 1) with
        | some q =>
          rw [e0] at q0
          have h2 := q1.2 _ (show Hi w (xV r N l s) (pB r N F' (l - 1) (wo s p q) (upd x.2.2 p (nI q))) x y1 from q0)
          rw [last h2.t]
          exact h2.le hge.1 hM
        | none =>
          rw [e0] at q0
          have h2 := q1.1 (show Lo w (xV r N l s) x y1 from q0)
          cases e1 : fstq (prS r N l s p false) (N - (p + 1)) (p + 1) with
          | some q =>
            rw [e1] at h2
            have h2 : Hi w (xV r N l s) (pB r N F' (l - 1) (wo s p q) (upd x.2.2 q (nI p))) x y2 := h2
            rw [last h2.t]
            exact h2.le hge.1 hM
          | none =>
            rw [e1] at h2
            have h2 : Lo w (xV r N l s) x y2 := h2
            rw [last h2.1]
            have no : ∀ (e : Bool) (j : Nat), fstq (prS r N l s p e) (N - (p + 1)) (p + 1) = none → p < j → j < N → prS r N l s p e j = true → False := by
              intro e j hn h3 h4 h5
              have : ∀ (k q0 : Nat), q0 ≤ j → j < q0 + k → fstq (prS r N l s p e) k q0 ≠ none := by
                intro k; induction k with
                | zero => intro q0 a b; omega
                | succ k ihk =>
                  intro q0 a b
                  rw [fstq]
                  by_cases g : prS r N l s p e q0 = true
                  · rw [if_pos g]; exact fun z => by cases z
                  · rw [if_neg g]
                    by_cases g2 : q0 = j
                    · subst g2; exact absurd h5 g
                    · exact ihk (q0 + 1) (by omega) (by omega)
              exact this (N - (p + 1)) (p + 1) (by omega) (by omega) hn
            have hskip : xV r N l s = xV r N l (rmv s p) := by
              rcases hat with h | ⟨j, h3, h4, h5, h6⟩
              · exact h
              · exfalso
                rcases h6 with ⟨h6, h7⟩ | ⟨h6, h7⟩
                · refine no true j e0 h3 h4 ?_
                  unfold prS
                  rw [if_pos rfl, if_pos rfl, h5, h6, h7]
                  simp
                · refine no false j e1 h3 h4 ?_
                  unfold prS
                  rw [if_neg (by decide), if_neg (by decide), h5, h6, h7]
                  simp
            rw [hskip] at h2 ⊢
            exact h2.eq
/-! more than four pairs need not be told -/
theorem pvI_cap {r : Nat → Int32} {E : Nat → Nat → Nat} {m m' s p b : Nat} : ∀ {q : Nat}, (∀ j, p < j → j < q → sBt (nI s) j = true → E (m - 1) (wo s p j) = E (m' - 1) (wo s p j) ∧ E (m - 1) (wo s j p) = E (m' - 1) (wo s j p)) → pvI r E m s p b q = pvI r E m' s p b q := by
  intro q; induction q with
  | zero => intro _; rfl
  | succ q ih =>
    intro h
    rw [pvI, pvI]
    by_cases g : q ≤ p
    · rw [if_pos g, if_pos g]
    · rw [if_neg g, if_neg g, ih (fun j h1 h2 => h j h1 (by omega))]
      unfold pvS
      cases e : sBt (nI s) q with
      | false => rw [if_pos rfl, if_pos rfl]
      | true =>
        obtain ⟨h1, h2⟩ := h q (by omega) (by omega) e
        rw [h1, h2]
theorem wo_pc {s p q : Nat} (hs : s < 256) (hp : p < 8) (hq : q < 8) (hn : p ≠ q) (h1 : s / 2 ^ p % 2 = 1) (h2 : sBt (nI s) q = true) : pcn (wo s p q) 8 + 2 = pcn s 8 := by
  rw [sBt_n (by omega) (by omega)] at h2
  exact pcn_wo s hs p hp q hq ⟨hn, h1, of_decide_eq_true h2⟩
theorem xV_cap {r : Nat → Int32} {N : Nat} (hN : N ≤ 8) : ∀ (F s m m' : Nat), s ≤ F → s < 256 → pcn s 8 ≤ 2 * m → pcn s 8 ≤ 2 * m' → xV r N m s = xV r N m' s := by
  intro F; induction F with
  | zero =>
    intro s m m' hF hs h1 h2
    rw [show s = 0 by omega, xV_0, xV_0]
  | succ F ih =>
    intro s m m' hF hs h1 h2
    by_cases h0 : s = 0
    · rw [h0, xV_0, xV_0]
    · have hp := pcn_pos s hs h0
      obtain ⟨hb, -, ht⟩ := ntz_spec s hs h0
      have hrl := rmv_lt hs h0
      have hpr := pcn_rmv s hs (ntz s) ht
      rw [xV_eq hN hs h0 (show m ≠ 0 by omega), xV_eq hN hs h0 (show m' ≠ 0 by omega), ih (rmv s (ntz s)) m m' (by omega) (by omega) (by omega) (by omega)]
      refine pvI_cap fun j h3 h4 h5 => ?_
      have h6 := wo_pc hs ht (show j < 8 by omega) (by omega) hb h5
      have h7 := wo_lt (q := j) hs h0
      have h8 := wo_comm s hs (ntz s) ht j (by omega)
      have h9 := ih (wo s (ntz s) j) (m - 1) (m' - 1) (by omega) (by omega) (by omega) (by omega)
      exact ⟨h9, by rw [← h8]; exact h9⟩
theorem prt_cap {r : Nat → Int32} {N m m' s : Nat} (hN : N ≤ 8) (hs : s < 256) (h0 : s ≠ 0) (h1 : pcn s 8 ≤ 2 * m) (h2 : pcn s 8 ≤ 2 * m') (e : Bool) : prt r N m s (ntz s) e = prt r N m' s (ntz s) e := by
  have hp := pcn_pos s hs h0
  obtain ⟨hb, -, ht⟩ := ntz_spec s hs h0
  unfold prt
  rw [if_neg (show m ≠ 0 by omega), if_neg (show m' ≠ 0 by omega)]
  refine fstq_c _ _ fun q h3 h4 => ?_
  unfold prS
  cases h5 : sBt (nI s) q with
  | false => rfl
  | true =>
    have h6 := wo_pc hs ht (show q < 8 by omega) (by omega) hb h5
    have h7 := wo_lt (q := q) hs h0
    have h8 := wo_comm s hs (ntz s) ht q (by omega)
    have h9 := xV_cap (r := r) hN (wo s (ntz s) q) (wo s (ntz s) q) (m - 1) (m' - 1) (Nat.le_refl _) (by omega) (by omega) (by omega)
    rw [xV_cap (r := r) hN s s m m' (Nat.le_refl _) hs h1 h2, ← h8, h9]
theorem pB_cap {r : Nat → Int32} {N : Nat} (hN : N ≤ 8) : ∀ (F s m m' : Nat) (b : Nat → Int32), s < 256 → pcn s 8 ≤ 2 * m → pcn s 8 ≤ 2 * m' → pB r N F m s b = pB r N F m' s b := by
  intro F; induction F with
  | zero => intro s m m' b hs h1 h2; rfl
  | succ F ih =>
    intro s m m' b hs h1 h2
    rw [pB, pB]
    by_cases h0 : s = 0
    · rw [if_pos h0, if_pos h0]
    · rw [if_neg h0, if_neg h0]
      obtain ⟨hb, -, ht⟩ := ntz_spec s hs h0
      have hrl := rmv_lt hs h0
      have hpr := pcn_rmv s hs (ntz s) ht
      have hq : ∀ (e : Bool) (q : Nat), prt r N m' s (ntz s) e = some q → pcn (wo s (ntz s) q) 8 + 2 = pcn s 8 := by
        intro e q h
        obtain ⟨g1, g2, g3, g4⟩ := prt_in h
        unfold prS at g4
        simp only [Bool.and_eq_true] at g4
        exact wo_pc hs ht (by omega) (by omega) hb g4.1
      rw [prt_cap hN hs h0 h1 h2 true, prt_cap hN hs h0 h1 h2 false]
      cases e1 : prt r N m' s (ntz s) true with
      | some q =>
        have := hq true q e1
        have h7 := wo_lt (q := q) hs h0
        exact ih _ _ _ _ (by omega) (by omega) (by omega)
      | none =>
        cases e2 : prt r N m' s (ntz s) false with
        | some q =>
          have := hq false q e2
          have h7 := wo_lt (q := q) hs h0
          exact ih _ _ _ _ (by omega) (by omega) (by omega)
        | none => exact ih _ _ _ _ (by omega) (by omega) (by omega)
theorem upd_pt {b b' : Nat → Int32} {e j : Nat} {z : Int32} (h : b j = b' j) : upd b e z j = upd b' e z j := by
  unfold upd
  by_cases g : j = e
  · rw [if_pos g, if_pos g]
  · rw [if_neg g, if_neg g]; exact h
theorem pB_pt {r : Nat → Int32} {N j : Nat} : ∀ (F m s : Nat) (b b' : Nat → Int32), b j = b' j → pB r N F m s b j = pB r N F m s b' j := by
  intro F; induction F with
  | zero => intro m s b b' h; exact h
  | succ F ih =>
    intro m s b b' h
    rw [pB, pB]
    by_cases h0 : s = 0
    · rw [if_pos h0, if_pos h0]; exact h
    · rw [if_neg h0, if_neg h0]
      cases prt r N m s (ntz s) true with
      | some q => exact ih _ _ _ _ (upd_pt h)
      | none =>
        cases prt r N m s (ntz s) false with
        | some q => exact ih _ _ _ _ (upd_pt h)
        | none => exact ih _ _ _ _ h
theorem sPairs_eq {r : Nat → Int32} {N sl : Nat} (hri : RI r N) (hN : N ≤ 8) (hsl : r 1 = nI sl) (hsl2 : sl ≤ 99) (bb wb : Nat → Int32) (i : Int32) : sPairsX2 r N sl i = sPairsA r N bb wb i := by
  have h28 := p28 hN
  have hs : 2 ^ N - 1 < 256 := by omega
  have hrs : RS N 0 0 (2 ^ N - 1) := ⟨by decide, hs, fun j hj => by
    rw [bits_all N (by omega) j hj]
    by_cases g : j < N
    · rw [if_pos g, if_pos ⟨Nat.zero_le _, g, by rw [Nat.zero_div]⟩]
    · rw [if_neg g, if_neg (fun z => g z.2.1)]⟩
  have h9 : ∀ j, j < 8 → cpf st9 wb 8 j = 9 := fun j hj => by rw [cpf_lt hj]; rfl
  have e := pf_eq hri hN N 0 0 (2 ^ N - 1) sl 0 (-1, bb, cpf st9 wb 8) (2 ^ N - 1) (by omega) hrs (fun j hj _ => h9 j hj) hsl2 (by omega) (Nat.le_refl _)
  have e2 : sPairsX r N bb wb = ofr 0 (xV r N sl (2 ^ N - 1)) (pB r N (2 ^ N - 1) sl (2 ^ N - 1) (cpf st9 wb 8)) (-1, bb, cpf st9 wb 8) := by
    unfold sPairsX
    rw [hsl]
    exact e
  have hx := xV_le (m := sl) hri hN (hrs.lt hN)
  unfold ofr at e2
  rw [if_pos (show ((-1 : Int32), bb, cpf st9 wb 8).1 < nI (0 + xV r N sl (2 ^ N - 1)) from Int32.lt_of_lt_of_le (show (-1 : Int32) < 0 by decide) (nI_pos' (by omega))), Nat.zero_add] at e2
  have hpc := pcn_all N (by omega)
  have c1 : xV r N (min 4 sl) (2 ^ N - 1) = xV r N sl (2 ^ N - 1) := by
    by_cases g : sl ≤ 4
    · rw [Nat.min_eq_right g]
    · exact xV_cap hN _ _ _ _ (Nat.le_refl _) hs (by rw [hpc]; omega) (by rw [hpc]; omega)
  have c2 : ∀ b, pB r N (2 ^ N - 1) (min 4 sl) (2 ^ N - 1) b = pB r N (2 ^ N - 1) sl (2 ^ N - 1) b := fun b => by
    by_cases g : sl ≤ 4
    · rw [Nat.min_eq_right g]
    · exact pB_cap hN _ _ _ _ _ hs (by rw [hpc]; omega) (by rw [hpc]; omega)
  unfold sPairsX2 sPairsA
  rw [c1, c2, e2]
  by_cases g : i = -1
  · rw [if_pos g, if_pos g]
  · rw [if_neg g, if_neg g]
    cases g2 : sPer N i with
    | false => rw [if_pos rfl, if_neg (by decide)]
    | true =>
      rw [if_neg (by decide), if_pos rfl]
      obtain ⟨j, hj, rfl⟩ := sPer_t (by omega) g2
      rw [show tn (nI j) = j from nI_clamp (by omega)]
      show _ = cpf (pB r N (2 ^ N - 1) sl (2 ^ N - 1) (cpf st9 wb 8)) bb 8 j
      rw [cpf_lt (by omega)]
      exact pB_pt _ _ _ _ _ (h9 j (by omega)).symm
