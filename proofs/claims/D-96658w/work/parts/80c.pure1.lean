/-! PURE 1c -/
/-! crowds -/
def cn9 (j : Nat) : Nat → Nat
  | 0 => 0
  | x + 1 => cn9 j x + (if pcn x 10 = j then 1 else 0)
def sm9 (c F : Nat → Nat) : Nat → Nat
  | 0 => 0
  | j + 1 => sm9 c F j + c j * F j
theorem sm9_0 (F : Nat → Nat) : ∀ n, sm9 (fun j => cn9 j 0) F n = 0 := by
  intro n; induction n with
  | zero => rfl
  | succ n ih => rw [sm9, ih]; simp [cn9]
theorem sm9_s (F : Nat → Nat) (x : Nat) : ∀ n, sm9 (fun j => cn9 j (x + 1)) F n = sm9 (fun j => cn9 j x) F n + (if pcn x 10 < n then F (pcn x 10) else 0) := by
  intro n; induction n with
  | zero => simp [sm9]
  | succ n ih =>
    rw [sm9, sm9, ih, cn9]
    by_cases g : pcn x 10 = n
    · rw [if_pos g, if_neg (by omega), if_pos (by omega), g, Nat.add_mul]; omega
    · rw [if_neg g]
      by_cases g2 : pcn x 10 < n
      · rw [if_pos g2, if_pos (show pcn x 10 < n + 1 by omega)]; simp only [Nat.add_zero]; omega
      · rw [if_neg g2, if_neg (show ¬ pcn x 10 < n + 1 by omega)]; simp only [Nat.add_zero]
theorem crS_sm (u t k : Nat) : ∀ x, (∀ y, y < x → pcn y 10 ≤ u) → crS u t k x = sm9 (fun j => cn9 j x) (fun j => if k ≤ j / 2 then (t - 1) ^ (u - j) else 0) (u + 1) := by
  intro x; induction x with
  | zero => intro _; rw [sm9_0]; rfl
  | succ x ih =>
    intro h
    rw [crS, ih (fun y hy => h y (by omega)), sm9_s, if_pos (show pcn x 10 < u + 1 by have := h x (Nat.lt_succ_self x); omega)]
theorem sm9_c {c d : Nat → Nat} (F : Nat → Nat) : ∀ n, (∀ j, j < n → c j = d j) → sm9 c F n = sm9 d F n := by
  intro n; induction n with
  | zero => intro _; rfl
  | succ n ih => intro h; rw [sm9, sm9, ih (fun j hj => h j (by omega)), h n (Nat.lt_succ_self n)]
theorem cn_wy : ∀ u, u < 9 → ∀ j, j < u + 1 → cn9 j (2 ^ u) = wy u j := by decide +kernel
theorem sm_wy : ∀ u, u < 9 → ∀ t, t < 21 → ∀ k, k < 5 → sm9 (wy u) (fun j => if k ≤ j / 2 then (t - 1) ^ (u - j) else 0) (u + 1) = crX u t k (u + 1 - 2 * k) := by decide +kernel
theorem sCrowd_eq (u t k p : Int32) : sCrowdX u t k p = sCrowdA u t k p := by
  unfold sCrowdX sCrowdA
  by_cases g : sCrowdOk u t k p = true
  · rw [if_pos g, if_pos g]
    unfold sCrowdOk at g
    simp only [Bool.and_eq_true] at g
    obtain ⟨⟨⟨g1, g2⟩, g3⟩, g4⟩ := g
    obtain ⟨a, -, ha, rfl⟩ := sIn_t (a := 0) (b := 8) (by decide) (by decide) g1
    obtain ⟨b, hb0, hb, rfl⟩ := sIn_t (a := 2) (b := 20) (by decide) (by decide) g2
    obtain ⟨c, -, hc, rfl⟩ := sIn_t (a := 0) (b := 4) (by decide) (by decide) g3
    obtain ⟨d, -, hd, rfl⟩ := sIn_t (a := 0) (b := 1) (by decide) (by decide) g4
    have e1 : tn (nI a) = a := nI_clamp (by omega)
    have e2 : tn (nI b) = b := nI_clamp (by omega)
    have e3 : tn (nI c) = c := nI_clamp (by omega)
    have e4 : tn (nI d) = d := nI_clamp (by omega)
    rw [e1, e2, e3, e4, xPOf_eq (Nat.pow_pos (by omega)) hd, crS_sm a b c (2 ^ a) (fun y hy => pcn_le2 a (by omega) y hy), sm9_c _ (a + 1) (fun j hj => cn_wy a (by omega) j hj), sm_wy a (by omega) b (by omega) c (by omega)]
  · rw [if_neg g, if_neg g]
