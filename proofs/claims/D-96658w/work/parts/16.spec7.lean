/-! SPEC 7: texts, read by any characters t -/
def tM (el : Nat → Int32) (ra re : Nat) : Nat → Int32 := fun k => if re ≤ k then -1 else el (ra + k) &&& 255
def rdN (t : Nat → Int32) : Nat → Nat → Int32 → Bool × Nat × Int32
  | 0, p, v => (true, p, v)
  | d + 1, p, v => if sIn (t p) 48 57 = true then rdN t d (p + 1) (10 * v + t p - 48) else (false, p, v)
theorem rdN_le (t : Nat → Int32) : ∀ (d p : Nat) (v : Int32), (rdN t d p v).2.1 ≤ p + d ∧ p ≤ (rdN t d p v).2.1 := by
  intro d
  induction d with
  | zero => intro p v; rw [rdN]; exact ⟨Nat.le_refl _, Nat.le_refl _⟩
  | succ d ih =>
    intro p v
    rw [rdN]
    split
    · have := ih (p + 1) (10 * v + t p - 48); omega
    · exact ⟨by simp only; omega, Nat.le_refl _⟩
theorem upd_same (f : Nat → Int32) (k : Nat) (a b : Int32) : upd (upd f k a) k b = upd f k b := funext fun j => by
  simp only [upd]
  by_cases h : j = k <;> simp [h]
abbrev Rd : Type := Bool × Nat × (Nat → Int32)
def rn (t : Nat → Int32) (k d : Nat) (x : Rd) : Rd := if x.1 = true then ((rdN t d x.2.1 0).1, (rdN t d x.2.1 0).2.1, upd x.2.2 k (rdN t d x.2.1 0).2.2) else x
/-- the numbers of a statement that begins with the letter t p -/
def stN (t : Nat → Int32) (p : Nat) (nu : Nat → Int32) : Rd :=
  if t p = 112 then rn t 3 2 (rn t 2 2 (rn t 1 1 (rn t 0 1 (true, p + 1, nu))))
  else if t p = 99 then rn t 0 2 (true, p + 1, nu)
  else if t p = 116 then rn t 1 1 (rn t 0 1 (true, p + 1, nu))
  else if t p = 104 then rn t 1 2 (rn t 0 1 (true, p + 1, nu))
  else if t p = 108 then rn t 1 2 (rn t 0 1 (true, p + 1, nu))
  else (false, p, nu)
def stS (t : Nat → Int32) (p : Nat) (nu : Nat → Int32) : Rd := if (stN t p nu).1 = true then (if t (stN t p nu).2.1 = 59 then (true, (stN t p nu).2.1 + 1, (stN t p nu).2.2) else (false, (stN t p nu).2)) else stN t p nu
theorem rn_le (t : Nat → Int32) (k d : Nat) (x : Rd) : x.2.1 ≤ (rn t k d x).2.1 ∧ (rn t k d x).2.1 ≤ x.2.1 + d := by
  rw [rn]
  split
  · have := rdN_le t d x.2.1 0; simp only; omega
  · exact ⟨Nat.le_refl _, by omega⟩
theorem stN_le (t : Nat → Int32) (p : Nat) (nu : Nat → Int32) : p ≤ (stN t p nu).2.1 ∧ (stN t p nu).2.1 ≤ p + 7 ∧ ((stN t p nu).1 = true → p + 1 ≤ (stN t p nu).2.1) := by
  rw [stN]
  have h1 := rn_le t 0 1 (true, p + 1, nu)
  have h2 := rn_le t 1 1 (rn t 0 1 (true, p + 1, nu))
  have h3 := rn_le t 2 2 (rn t 1 1 (rn t 0 1 (true, p + 1, nu)))
  have h4 := rn_le t 3 2 (rn t 2 2 (rn t 1 1 (rn t 0 1 (true, p + 1, nu))))
  have h5 := rn_le t 0 2 (true, p + 1, nu)
  have h6 := rn_le t 1 2 (rn t 0 1 (true, p + 1, nu))
  simp only at h1 h2 h3 h4 h5 h6
  split
  · exact ⟨by omega, by omega, fun _ => by omega⟩
  · split
    · exact ⟨by omega, by omega, fun _ => by omega⟩
    · split
      · exact ⟨by omega, by omega, fun _ => by omega⟩
      · split
        · exact ⟨by omega, by omega, fun _ => by omega⟩
        · split
          · exact ⟨by omega, by omega, fun _ => by omega⟩
          · exact ⟨Nat.le_refl _, by simp only; omega, fun h => by cases h⟩
theorem stS_le (t : Nat → Int32) (p : Nat) (nu : Nat → Int32) : p ≤ (stS t p nu).2.1 ∧ (stS t p nu).2.1 ≤ p + 8 ∧ ((stS t p nu).1 = true → p + 1 ≤ (stS t p nu).2.1) := by
  have h := stN_le t p nu
  rw [stS]
  split
  · split
    · exact ⟨by simp only; omega, by simp only; omega, fun _ => by simp only; omega⟩
    · exact ⟨by simp only; omega, by simp only; omega, fun h => by cases h⟩
  · rename_i h0
    exact ⟨h.1, by omega, fun q => absurd q h0⟩
/-- what a statement does to a row: none, if it can't be -/
def sDo (r : Nat → Int32) (N : Nat) (c : Int32) (nu : Nat → Int32) : Option (Nat → Int32) :=
  if c = 112 then (if 8 ≤ nu 0 then none else if 30 < nu 2 then none else if 30 < nu 3 then none else if N = 8 then none else some (sAdds r N (nu 0) (nu 1) (nu 2) (nu 3)))
  else if c = 99 then some (upd r 1 (nu 0))
  else if c = 116 then (if sPer N (nu 0) = false then none else if sPer N (nu 1) = false then none else if sEat r (tn (nu 0)) (tn (nu 1)) = false then none else if r 2 = 999 then none else some (sTurn r (tn (nu 0)) (tn (nu 1))))
  else if sPer N (nu 0) = false then none else if 30 < nu 1 then none else some (upd r (if c = 104 then 3 + 6 * tn (nu 0) + 2 else 3 + 6 * tn (nu 0) + 3) (nu 1))
def sDoB (o : Option (Nat → Int32)) : Bool := o.isSome
def sDoR (o : Option (Nat → Int32)) (r : Nat → Int32) : Nat → Int32 := o.getD r
