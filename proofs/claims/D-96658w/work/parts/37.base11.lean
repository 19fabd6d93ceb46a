/-! BASE 11: a fete of the class's side, pictured by the reference's row r; the class's object -/
def fA (r : Nat → Int32) (k : Nat) : Nat → Int32 := fun p => r (3 + 6 * p + k)
abbrev fR (fd : Nat → Nat) (a b c : Int32) : va_E := .inr (2, [.ref (fd 0), .ref (fd 1), .ref (fd 2), .ref (fd 3), .ref (fd 4), .int a, .int b, .int c])
abbrev fO (fd : Nat → Nat) (r : Nat → Int32) : va_E := fR fd (r 0) (r 1) (r 2)
/-- a row of references (of the array classes' t-th), of ints of another width -/
abbrev qA (G : GG) (t n : Nat) (wh : Nat → Option Nat) : va_E := .inl (G.2.2 t, n, .inr (.inr (.inr (.inr wh))))
abbrev tA (G : GG) (t n : Nat) (f : Nat → Int32) : va_E := .inl (G.2.2 t, n, .inl f)
abbrev xO (xa : Nat → Nat) (xi : Nat → Int32) : va_E := .inr (1, [.ref (xa 0), .ref (xa 1), .ref (xa 2), .int (xi 3), .ref (xa 4), .ref (xa 5), .ref (xa 6), .int (xi 7), .ref (xa 8)])
