/-! SPEC 17: the class's reader of a text -/
def tS (rf : Nat → Int32) (z : Nat) : Nat → Int32 := fun k => if z ≤ k then -1 else rf k
theorem tS_in {rf : Nat → Int32} {z k : Nat} (h : k < z) : tS rf z k = rf k := by unfold tS; rw [if_neg (by omega)]
theorem tS_out {rf : Nat → Int32} {z k : Nat} (h : ¬ k < z) : tS rf z k = -1 := by unfold tS; rw [if_pos (by omega)]
/-- the numbers of a statement with the letter c told at p -/
def stNc (t : Nat → Int32) (c : Int32) (p : Nat) (nu : Nat → Int32) : Rd :=
  if c = 112 then rn t 3 2 (rn t 2 2 (rn t 1 1 (rn t 0 1 (true, p + 1, nu))))
  else if c = 99 then rn t 0 2 (true, p + 1, nu)
  else if c = 116 then rn t 1 1 (rn t 0 1 (true, p + 1, nu))
  else if c = 104 then rn t 1 2 (rn t 0 1 (true, p + 1, nu))
  else if c = 108 then rn t 1 2 (rn t 0 1 (true, p + 1, nu))
  else (false, p, nu)
theorem stNc_t (t : Nat → Int32) (p : Nat) (nu : Nat → Int32) : stNc t (t p) p nu = stN t p nu := rfl
def stM (c : Int32) : Nat := if c = 112 then 4 else if c = 99 then 1 else 2
