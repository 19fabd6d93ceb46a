/-! SPEC 10: the class's Fete on a row -/
def sTwo (N : Nat) (p q : Int32) : Bool := sPer N p && (sPer N q && !decide (p = q))
def sEatP (r : Nat → Int32) (N : Nat) (p q : Int32) : Bool := sTwo N p q && sEat r (tn p) (tn q)
theorem sEatP_n {r : Nat → Int32} {N p q : Nat} (hN : N ≤ 9) (hp : p < N) (hq : q < N) : sEatP r N (nI p) (nI q) = sEat r p q := by
  have h1 := sPer_i (N := N) (by omega) hp
  have h2 := sPer_i (N := N) (by omega) hq
  have e1 : tn (nI p) = p := nI_clamp (by omega)
  have e2 : tn (nI q) = q := nI_clamp (by omega)
  unfold sEatP sTwo
  rw [h1, h2, e1, e2]
  by_cases h : p = q
  · subst h; simp [sEat]
  · have h3 : ¬ nI p = nI q := fun e => h ((nI_eq (by omega) (by omega)).mp e)
    simp [h3]
/-- the joys of a pair that may eat aren't below 0 -/
def JN (r : Nat → Int32) (N : Nat) : Prop := ∀ p q, p < N → q < N → 0 ≤ sJoy r p q
theorem JN.gt {r : Nat → Int32} {N p q : Nat} (h : JN r N) (hp : p < N) (hq : q < N) : (-1 : Int32) < sJoy r p q := Int32.lt_of_lt_of_le (by decide) (h p q hp hq)
def sBJX (r : Nat → Int32) (N : Nat) : Int32 := match sBestO r N with
  | none => -4
  | some q => sJoy r q.1 q.2
theorem WK.turn {gm : GM} {wh : Nat → Option Nat} {r : Nat → Int32} {N p q : Nat} (h : WK gm wh r N) : WK gm wh (sTurn r p q) N := by
  have h1 : WK gm wh (sT1 r p) N := WK.u h (by decide)
  have h2 : WK gm wh (sT2 r p q) N := WK.u h1 (by decide)
  have h3 : WK gm wh (sT3 r p q) N := WK.u h2 (by decide)
  have h4 : WK gm wh (sT4 r p q) N := WK.u h3 (by decide)
  have h5 : WK gm wh (sT5 r p q) N := WK.h h4 (by decide)
  exact WK.h h5 (by decide)
theorem sAdds_k (r : Nat → Int32) (N : Nat) (k f h w : Int32) : sAdds r N k f h w (3 + 6 * N) = k := by
  simp only [sAdds, sA6, upd]
  rw [if_neg (by omega), if_neg (by omega), if_neg (by omega), if_neg (by omega), if_neg (by omega), if_neg (by omega), if_pos trivial]
theorem sAdds_f (r : Nat → Int32) (N : Nat) (k f h w : Int32) : sAdds r N k f h w (3 + 6 * N + 1) = f := by
  simp only [sAdds, sA6, upd]
  rw [if_neg (by omega), if_neg (by omega), if_neg (by omega), if_neg (by omega), if_neg (by omega), if_pos trivial]
theorem sAdds_o {r : Nat → Int32} {N j : Nat} {k f h w : Int32} (h0 : j ≠ 0) (hj : j < 3 + 6 * N) : sAdds r N k f h w j = r j := by
  simp only [sAdds, sA6, upd]
  rw [if_neg (by omega), if_neg (by omega), if_neg (by omega), if_neg (by omega), if_neg (by omega), if_neg (by omega), if_neg (by omega)]
theorem WK.adds {gm : GM} {wh : Nat → Option Nat} {r : Nat → Int32} {N y k : Nat} {f u w : Int32} (h : WK gm wh r N) (hy : gm y = some (k, f)) : WK gm (va_up wh N (some y)) (sAdds r N (nI k) f u w) (N + 1) :=
  WK.add h (by rw [sAdds_f]; exact hy) (sAdds_k _ _ _ _ _ _) fun i hi => ⟨sAdds_o (by omega) (by omega), sAdds_o (by omega) (by omega)⟩
theorem sTwo_t {N : Nat} {p q : Int32} (hN : N < 2 ^ 31) (h : sTwo N p q = true) : ∃ j k : Nat, j < N ∧ k < N ∧ j ≠ k ∧ p = nI j ∧ q = nI k := by
  unfold sTwo at h
  simp only [Bool.and_eq_true, Bool.not_eq_true', decide_eq_false_iff_not] at h
  obtain ⟨j, hj, rfl⟩ := sPer_t hN h.1
  obtain ⟨k, hk, rfl⟩ := sPer_t hN h.2.1
  exact ⟨j, k, hj, hk, fun e => h.2.2 (by rw [e]), rfl, rfl⟩
theorem sEatP_t {r : Nat → Int32} {N : Nat} {p q : Int32} (hN : N < 2 ^ 31) (h : sEatP r N p q = true) : ∃ j k : Nat, j < N ∧ k < N ∧ j ≠ k ∧ sEat r j k = true ∧ p = nI j ∧ q = nI k := by
  unfold sEatP at h
  simp only [Bool.and_eq_true] at h
  obtain ⟨j, k, hj, hk, hjk, rfl, rfl⟩ := sTwo_t hN h.1
  have h2 := h.2
  unfold tn at h2
  rw [nI_clamp (by omega), nI_clamp (by omega)] at h2
  exact ⟨j, k, hj, hk, hjk, h2, rfl, rfl⟩
