/-! SPEC 18 -/
theorem stNc_le (t : Nat → Int32) (c : Int32) (p : Nat) (nu : Nat → Int32) : p ≤ (stNc t c p nu).2.1 ∧ (stNc t c p nu).2.1 ≤ p + 7 ∧ ((stNc t c p nu).1 = true → p + 1 ≤ (stNc t c p nu).2.1) := by
  rw [stNc]
  have h1 := rn_le t 0 1 (true, p + 1, nu)
  have h2 := rn_le t 1 1 (rn t 0 1 (true, p + 1, nu))
  have h3 := rn_le t 2 2 (rn t 1 1 (rn t 0 1 (true, p + 1, nu)))
  have h4 := rn_le t 3 2 (rn t 2 2 (rn t 1 1 (rn t 0 1 (true, p + 1, nu))))
  have h5 := rn_le t 0 2 (true, p + 1, nu)
  have h6 := rn_le t 1 2 (rn t 0 1 (true, p + 1, nu))
  simp only at h1 h2 h3 h4 h5 h6
  split
  · exact ⟨by omega, by omega, fun _ => by omega⟩
  · split
    · exact ⟨by omega, by omega, fun _ => by omega⟩
    · split
      · exact ⟨by omega, by omega, fun _ => by omega⟩
      · split
        · exact ⟨by omega, by omega, fun _ => by omega⟩
        · split
          · exact ⟨by omega, by omega, fun _ => by omega⟩
          · exact ⟨Nat.le_refl _, by simp only; omega, fun h => by cases h⟩
theorem stM_le (c : Int32) : stM c ≤ 4 := by unfold stM; split <;> (try split) <;> omega
