/-! SPEC 13: the class's crowds and means; its divisor's depth -/
def dv (d a b : Nat) : Prop := if d % 2 = 0 then b < 2 ^ (d / 2) else b = 0 ∨ a % b < 2 ^ (d / 2)
theorem dv_0 {a b : Nat} (h : dv 0 a b) : b = 0 := by
  have : b < 2 ^ 0 := h
  simpa using this
theorem rem_half {b r : Nat} (h : r < b) (h0 : 0 < r) : 2 * (b % r) < b := by
  rcases Nat.lt_or_ge b (2 * r) with q | q
  · have : b % r = b - r := by
      rw [Nat.mod_eq_sub_mod (by omega), Nat.mod_eq_of_lt (by omega)]
    omega
  · have := Nat.mod_lt b h0
    omega
theorem dv_s {d a b : Nat} (h : dv (d + 1) a b) (hb : b ≠ 0) : dv d b (a % b) := by
  unfold dv at h ⊢
  rcases Nat.mod_two_eq_zero_or_one d with e | e
  · rw [if_neg (by omega)] at h
    rw [if_pos e]
    rw [show (d + 1) / 2 = d / 2 by omega] at h
    exact h.resolve_left hb
  · rw [if_pos (by omega)] at h
    rw [if_neg (by omega)]
    rw [show (d + 1) / 2 = d / 2 + 1 by omega, Nat.pow_succ] at h
    rcases Nat.eq_zero_or_pos (a % b) with q | q
    · exact Or.inl q
    · have := rem_half (Nat.mod_lt a (by omega : b > 0)) q
      exact Or.inr (by omega)
def xPOf (u v p : Nat) : Nat := if p = 0 then u / Nat.gcd u v else v / Nat.gcd u v
theorem xPOf_eq {u v p : Nat} (hv : 0 < v) (hp : p ≤ 1) : xPOf u v p = sPOf u v p := by
  unfold xPOf sPOf
  by_cases h : u = 0
  · subst h
    rw [if_pos rfl, Nat.gcd_zero_left, Nat.zero_div, Nat.div_self hv]
    by_cases e : p = 0
    · rw [if_pos e, e]
    · rw [if_neg e]; omega
  · rw [if_neg h]
def wy (n : Nat) : Nat → Nat
  | 0 => 1
  | i + 1 => wy n i * (n - i) / (i + 1)
theorem wy_le : ∀ n, n < 9 → ∀ i, i < 10 → wy n i ≤ 70 := by decide +kernel
def crX (n t k : Nat) : Nat → Nat
  | 0 => 0
  | i + 1 => crX n t k i + wy n (2 * k + i) * (t - 1) ^ (n - (2 * k + i))
theorem crX_le {n t k : Nat} (hn : n ≤ 8) (ht : t ≤ 20) : ∀ i, 2 * k + i ≤ n + 1 → crX n t k i ≤ i * (70 * 20 ^ 8) := by
  intro i; induction i with
  | zero => intro _; simp [crX]
  | succ i ih =>
    intro hi
    unfold crX
    have h1 := ih (by omega)
    have h2 : wy n (2 * k + i) * (t - 1) ^ (n - (2 * k + i)) ≤ 70 * 20 ^ 8 := Nat.mul_le_mul (wy_le n (by omega) _ (by omega)) (Nat.le_trans (Nat.pow_le_pow_left (show t - 1 ≤ 20 by omega) _) (Nat.pow_le_pow_right (by decide) (by omega)))
    rw [Nat.add_mul]; omega
def sCrowdX (u t k p : Int32) : Int64 := if sCrowdOk u t k p = true then lN (xPOf (crX (tn u) (tn t) (tn k) (tn u + 1 - 2 * tn k)) (tn t ^ tn u) (tn p)) else 1000000001
def sMeanX (hs N : Nat) (p : Int32) : Int64 := if sIn p 0 1 = true then (if N = 0 then lN (tn p) else lN (xPOf hs N (tn p))) else 1000000001
theorem pow_t8 {u t : Nat} (h : u ≤ 8) (h2 : 2 ≤ t) (ht : t ≤ 20) : 0 < t ^ u ∧ t ^ u < 2 ^ 35 := ⟨Nat.pow_pos (by omega), Nat.lt_of_le_of_lt (Nat.le_trans (Nat.pow_le_pow_left ht _) (Nat.pow_le_pow_right (by decide) h)) (show 20 ^ 8 < 2 ^ 35 by decide)⟩
theorem crX_lt {n t k : Nat} (hn : n ≤ 8) (ht : t ≤ 20) : crX n t k (n + 1 - 2 * k) < 2 ^ 63 := by
  by_cases h : 2 * k ≤ n + 1
  · have h1 := crX_le hn ht (k := k) (n + 1 - 2 * k) (by omega)
    have h2 : (n + 1 - 2 * k) * (70 * 20 ^ 8) ≤ 9 * (70 * 20 ^ 8) := Nat.mul_le_mul_right _ (by omega)
    have h3 : 9 * (70 * 20 ^ 8) < 2 ^ 63 := by decide
    omega
  · rw [show n + 1 - 2 * k = 0 by omega, crX]; decide
