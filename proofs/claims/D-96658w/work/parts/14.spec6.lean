/-! SPEC 6: rows made and copied; crowds' bounds -/
def sRowS (d so u : Int32) (g : Nat → Int32) (x : Int32) : Nat → Int32 := if sRowA d so u = 0 then upd g (tn d) x else g
def sRowZ (d so u : Int32) (zz : Nat → Nat) : Nat → Nat := if sRowA d so u = 0 then upN zz (tn d) (tn u) else zz
def sRowE (d so u : Int32) (el : Nat → Int32) : Nat → Int32 := if sRowA d so u = 0 then zer el (tn d) 100 else el
theorem pcn_le2 : ∀ u, u < 9 → ∀ x, x < 2 ^ u → pcn x 10 ≤ u := by decide +kernel
theorem pow_le8 {u : Nat} (h : u ≤ 8) : 1 ≤ 2 ^ u ∧ 2 ^ u ≤ 256 := ⟨Nat.one_le_two_pow, Nat.pow_le_pow_right (by decide) h⟩
theorem pow_t {u t : Nat} (h : u ≤ 8) (h2 : 2 ≤ t) (ht : t ≤ 20) : 0 < t ^ u ∧ t ^ u ≤ 20 ^ 8 := ⟨Nat.pow_pos (by omega), Nat.le_trans (Nat.pow_le_pow_left ht _) (Nat.pow_le_pow_right (by decide) h)⟩
theorem sub_toInt {z i : Nat} (hz : z < 2 ^ 30) (hi : i < 2 ^ 31) : (nI z - nI i).toInt = (z : Int) - i := by
  rw [Int32.toInt_sub, nI_toInt (by omega), nI_toInt hi]
  rw [Int.bmod_def]
  split <;> omega
theorem cmp_sub {z i u : Nat} (hz : z < 2 ^ 30) (hi : i < 2 ^ 31) (hu : u < 2 ^ 31) : nI z - nI i < nI u ↔ z < u + i := by
  rw [Int32.lt_iff_toInt_lt, sub_toInt hz hi, nI_toInt hu]
  omega
theorem cpr_0 (el : Nat → Int32) (a b u : Nat) (up : Bool) : cpr el a b u 0 up = el := funext fun j => by
  simp only [cpr]
  rw [if_neg]
  rintro ⟨h1, h2, h3⟩
  split at h3 <;> omega
theorem cpr_up {el : Nat → Int32} {a b u k : Nat} (hk : k < u) : cpr el a b u (k + 1) true = upd (cpr el a b u k true) (b + k) (el (a + k)) := funext fun j => by
  simp only [cpr, upd, if_true]
  by_cases h : j = b + k
  · rw [if_pos (by omega), if_pos h, h, Nat.add_sub_cancel_left]
  · rw [if_neg h]
    by_cases h2 : b ≤ j ∧ j < b + u ∧ j < b + k
    · rw [if_pos h2, if_pos (by omega)]
    · rw [if_neg h2, if_neg (by omega)]
theorem cpr_dn {el : Nat → Int32} {a b u k : Nat} (hk : k < u) : cpr el a b u (k + 1) false = upd (cpr el a b u k false) (b + (u - 1 - k)) (el (a + (u - 1 - k))) := funext fun j => by
  simp only [cpr, upd, Bool.false_eq_true, if_false]
  by_cases h : j = b + (u - 1 - k)
  · rw [if_pos (by omega), if_pos h, h, Nat.add_sub_cancel_left]
  · rw [if_neg h]
    by_cases h2 : b ≤ j ∧ j < b + u ∧ b + (u - k) ≤ j
    · rw [if_pos h2, if_pos (by omega)]
    · rw [if_neg h2, if_neg (by omega)]
theorem cpr_ru {el : Nat → Int32} {a b u k : Nat} (h : ¬ (b ≤ a + k ∧ a + k < b + k)) : cpr el a b u k true (a + k) = el (a + k) := by
  simp only [cpr, if_true]
  rw [if_neg (by omega)]
theorem cpr_rd {el : Nat → Int32} {a b u k s : Nat} (h : ¬ (b + (u - k) ≤ a + s ∧ a + s < b + u)) : cpr el a b u k false (a + s) = el (a + s) := by
  simp only [cpr, Bool.false_eq_true, if_false]
  rw [if_neg (by omega)]
/-- copy(d, i, e, j, u): the answer -/
def sCopyOk (ke so : Nat → Int32) (zz : Nat → Nat) (d i e j u : Int32) : Int32 := if sIn d 0 7 = false then -1 else if sIn e 0 7 = false then -1 else if ke (tn d) = 0 then -11 else if ke (tn e) = 0 then -11 else if ¬ ke (tn d) = 2 then -12 else if ¬ ke (tn e) = 2 then -12 else if ¬ so (tn d) = so (tn e) then -12 else if u < 0 then -13 else if i < 0 then -13 else if j < 0 then -13 else if nI (zz (tn d)) - i < u then -13 else if nI (zz (tn e)) - j < u then -13 else 0
def sCopyA (ke so : Nat → Int32) (zz : Nat → Nat) (d i e j u : Int32) : Int32 := if sCopyOk ke so zz d i e j u = 0 then u else sCopyOk ke so zz d i e j u
def sCopyS (ke so : Nat → Int32) (zz : Nat → Nat) (el : Nat → Int32) (d i e j u : Int32) : Nat → Int32 := if sCopyOk ke so zz d i e j u = 0 then cpr el (100 * tn d + tn i) (100 * tn e + tn j) (tn u) (tn u) (decide (j < i)) else el
