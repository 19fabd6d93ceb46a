/-! SPEC 15: the class's rows: their class t of arrays (0 ints, 1 bytes, 2 shorts), rf their numbers -/
def sLst (t : Nat) : Int32 := if t = 1 then -128 else if t = 2 then -32768 else -2147483648
def sSrt (t : Nat) : Int32 := if t = 1 then 0 else if t = 2 then 1 else 2
theorem sIn07 {d : Nat} (h : d ≤ 7) : sIn (nI d) 0 7 = true := sIn_i (a := 0) (b := 7) (Nat.zero_le _) h (by decide)
def npX (r : Nat → Int32) (N : Nat) (rf : Nat → Int32) : Nat → Bool
  | 0 => true
  | k + 1 => npX r N rf k && (sPer N (rf k) && (!decide (bitX (wpSeen rf 0 k) (rf k) = 1) && (if k % 2 = 1 then sEatP r N (rf (k - 1)) (rf k) else true)))
theorem npX_le {r : Nat → Int32} {N : Nat} {rf : Nat → Int32} : ∀ {k j : Nat}, j ≤ k → npX r N rf k = true → npX r N rf j = true := by
  intro k
  induction k with
  | zero => intro j hj h; rw [Nat.le_zero.mp hj]; exact h
  | succ k ih =>
    intro j hj h
    rcases Nat.lt_or_ge j (k + 1) with q | q
    · unfold npX at h
      simp only [Bool.and_eq_true] at h
      exact ih (by omega) h.1
    · rw [show j = k + 1 by omega]; exact h
theorem npX_no {r : Nat → Int32} {N : Nat} {rf : Nat → Int32} {k j : Nat} (hj : j ≤ k) (h : npX r N rf j = false) : npX r N rf k = false := by
  cases e : npX r N rf k with
  | false => rfl
  | true => rw [npX_le hj e] at h; exact absurd h (by decide)
theorem npX_at {r : Nat → Int32} {N : Nat} {rf : Nat → Int32} {k j : Nat} (hN : N < 2 ^ 31) (hj : j < k) (h : npX r N rf k = true) : ∃ x, x < N ∧ rf j = nI x := by
  have h1 := npX_le (j := j + 1) hj h
  unfold npX at h1
  simp only [Bool.and_eq_true] at h1
  exact sPer_t hN h1.2.1
def sNPX (r : Nat → Int32) (N z : Nat) (rf : Nat → Int32) : Int32 := if z % 2 = 1 then -13 else if 8 < z then -13 else if npX r N rf z = false then -13 else 0
theorem sNPX_0 {r : Nat → Int32} {N z : Nat} {rf : Nat → Int32} (h : sNPX r N z rf = 0) : z % 2 ≠ 1 ∧ z ≤ 8 ∧ npX r N rf z = true := by
  unfold sNPX at h
  split at h
  · exact absurd h (by decide)
  · split at h
    · exact absurd h (by decide)
    · split at h
      · exact absurd h (by decide)
      · rename_i h1 h2 h3; exact ⟨h1, by omega, by simpa using h3⟩
def sSwapX (r : Nat → Int32) (N z : Nat) (rf : Nat → Int32) : Int32 := if sNPX r N z rf = 0 then enc (swO r rf 0 (z / 2) (z / 2)) else sNPX r N z rf
theorem tk_le {el : Nat → Int32} {b : Nat} {h w : Int32} : ∀ {k j : Nat}, j ≤ k → tk el b h w k = true → tk el b h w j = true := by
  intro k
  induction k with
  | zero => intro j hj q; rw [Nat.le_zero.mp hj]; exact q
  | succ k ih =>
    intro j hj q
    rcases Nat.lt_or_ge j (k + 1) with g | g
    · unfold tk at q
      simp only [Bool.and_eq_true] at q
      exact ih (by omega) q.1
    · rw [show j = k + 1 by omega]; exact q
theorem tk_no {el : Nat → Int32} {b : Nat} {h w : Int32} {k j : Nat} (hj : j ≤ k) (q : tk el b h w j = false) : tk el b h w k = false := by
  cases e : tk el b h w k with
  | false => rfl
  | true => rw [tk_le hj e] at q; exact absurd q (by decide)
def ush (x : Int32) (k : Int32) : Int32 := (x.toUInt32 >>> (Int32.toUInt32 k &&& Int32.toUInt32 31)).toInt32
def bc1 (v : Int32) : Int32 := v - (ush v 1 &&& 1431655765)
def bc2 (v : Int32) : Int32 := (v &&& 858993459) + (ush v 2 &&& 858993459)
def bc3 (v : Int32) : Int32 := (v + ush v 4) &&& 252645135
def bc4 (v : Int32) : Int32 := v + ush v 8
def bc5 (v : Int32) : Int32 := v + ush v 16
def bcX (v : Int32) : Int32 := bc5 (bc4 (bc3 (bc2 (bc1 v)))) &&& 63
theorem bcX_n : ∀ s, s < 256 → bcX (nI s) = sBits (nI s) 10 := by decide +kernel
def sThroatX (z : Nat) (rf : Nat → Int32) (h f what : Int32) : Int32 := if sIn h 0 30 = false then -1 else if sIn f 0 9 = false then -1 else if sIn what 0 1 = false then -1 else if what = 0 then thS rf 0 z h f 8 else bcX (thS rf 0 z h f 8)
def frgX (N : Nat) (rf : Nat → Int32) : Nat → (Nat → Int32) → Nat → Int32
  | 0, _, _ => -4
  | f + 1, r, i => if sEatP r N (rf (2 * i)) (rf (2 * i + 1)) = false then nI i else frgX N rf f (sTurn r (tn (rf (2 * i))) (tn (rf (2 * i + 1)))) (i + 1)
def sForgX (r : Nat → Int32) (N z : Nat) (rf : Nat → Int32) : Int32 := if z % 2 = 1 then -13 else frgX N rf (z / 2) r 0
def jdgX (N : Nat) (rf : Nat → Int32) (lo : Int32) : Nat → (Nat → Int32) → Nat → Int32
  | 0, _, _ => -4
  | f + 1, r, i => match sBestO r N with
    | none => if rf i = lo then jdgX N rf lo f r (i + 1) else nI i
    | some q => if rf i = lo then jdgX N rf lo f (sTurn r q.1 q.2) (i + 1) else if rf i = sJoy r q.1 q.2 then jdgX N rf lo f (sTurn r q.1 q.2) (i + 1) else nI i
