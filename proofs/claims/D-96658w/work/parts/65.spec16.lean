/-! SPEC 16: the class's shelves: what is tossed, cost -/
def sTosX (k : Nat) (v : Int32) : Int32 := match tosX k v with
  | none => -15
  | some n => n
theorem sTosX_0 {k : Nat} {v : Int32} (h : tosX k v = none) : sTosX k v = -15 := by unfold sTosX; rw [h]
theorem sTosX_1 {k : Nat} {v n : Int32} (h : tosX k v = some n) : sTosX k v = n := by unfold sTosX; rw [h]
theorem xn_guest {t : Nat} (ht : t < 3) : (arn t, "CakesToTheWatched$Guest") ∈ xn := by
  have h3 : t = 0 ∨ t = 1 ∨ t = 2 := by omega
  rcases h3 with rfl | rfl | rfl <;> decide +kernel
