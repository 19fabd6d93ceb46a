/-! SPEC 12: what holds of a fete's row: kinds, figures, feelings and counts in bounds -/
def RI (r : Nat → Int32) (N : Nat) : Prop := (∃ x, x ≤ 99 ∧ r 1 = nI x) ∧ ∀ p, p < N → (∃ k, k < 8 ∧ r (3 + 6 * p) = nI k) ∧ (∃ f, f < 10 ∧ r (3 + 6 * p + 1) = nI f) ∧ (∃ x, x ≤ 30 ∧ r (3 + 6 * p + 2) = nI x) ∧ (∃ x, x ≤ 30 ∧ r (3 + 6 * p + 3) = nI x) ∧ (∃ x, x ≤ 99 ∧ r (3 + 6 * p + 4) = nI x) ∧ ∃ x, x ≤ 99 ∧ r (3 + 6 * p + 5) = nI x
theorem bite_n : ∀ k, k < 8 → ∀ f, f < 10 → ∃ b, b < 10 ∧ 1 ≤ b ∧ sBite (nI k) (nI f) = nI b := by decide +kernel
theorem gaze_n : ∀ k, k < 8 → ∀ f, f < 10 → ∃ b, b < 11 ∧ sGaze (nI k) (nI f) = nI b := by decide +kernel
theorem shy_n : ∀ k, k < 8 → ∃ b, b < 3 ∧ sShy (nI k) = nI b := by decide +kernel
theorem mn_n {a b : Nat} (ha : a < 2 ^ 31) (hb : b < 2 ^ 31) : mn (nI a) (nI b) = nI (min a b) := by
  unfold mn
  by_cases h : b ≤ a
  · rw [if_pos ((nI_leI hb ha).mpr h), Nat.min_eq_right h]
  · rw [if_neg (fun q => h ((nI_leI hb ha).mp q)), Nat.min_eq_left (by omega)]
theorem mx0_sub {a b : Nat} (ha : a < 2 ^ 30) (hb : b < 2 ^ 31) : mx 0 (nI a - nI b) = nI (a - b) := by
  unfold mx
  have h1 := sub_toInt ha hb
  have e0 : (0 : Int32).toInt = 0 := rfl
  by_cases h : b ≤ a
  · rw [if_pos (by rw [Int32.le_iff_toInt_le, h1, e0]; omega)]
    apply Int32.toInt.inj
    rw [h1, nI_toInt (by omega)]; omega
  · rw [show a - b = 0 by omega]
    by_cases g : (0 : Int32) ≤ nI a - nI b
    · rw [Int32.le_iff_toInt_le, h1, e0] at g; omega
    · rw [if_neg g]; rfl
theorem nI_sub {a b : Nat} (h : b ≤ a) (ha : a < 2 ^ 30) : nI a - nI b = nI (a - b) := by
  apply Int32.toInt.inj
  rw [sub_toInt ha (by omega), nI_toInt (by omega)]; omega
theorem nI_mul (a b : Nat) : nI a * nI b = nI (a * b) := (Int32.ofNat_mul a b).symm
theorem RI.bites {r : Nat → Int32} {N p : Nat} (h : RI r N) (hp : p < N) : ∃ x y, x ≤ 30 ∧ y ≤ x ∧ r (3 + 6 * p + 2) = nI x ∧ sBites r p = nI y ∧ (1 ≤ x → 1 ≤ y) := by
  obtain ⟨⟨k, hk, ek⟩, ⟨f, hf, ef⟩, ⟨x, hx, ex⟩, -⟩ := h.2 p hp
  obtain ⟨b, hb, h1, eb⟩ := bite_n k hk f hf
  refine ⟨x, min x b, hx, Nat.min_le_left _ _, ex, ?_, fun q => by omega⟩
  unfold sBites
  rw [ek, ef, ex, eb]
  exact mn_n (by omega) (by omega)
theorem RI.gazes {r : Nat → Int32} {N p : Nat} (h : RI r N) (hp : p < N) : ∃ x y, x ≤ 30 ∧ y ≤ x ∧ r (3 + 6 * p + 3) = nI x ∧ sGazes r p = nI y := by
  obtain ⟨⟨k, hk, ek⟩, ⟨f, hf, ef⟩, -, ⟨x, hx, ex⟩, -⟩ := h.2 p hp
  obtain ⟨b, hb, eb⟩ := gaze_n k hk f hf
  refine ⟨x, min x b, hx, Nat.min_le_left _ _, ex, ?_⟩
  unfold sGazes
  rw [ek, ef, ex, eb]
  exact mn_n (by omega) (by omega)
theorem RI.joyE {r : Nat → Int32} {N p q : Nat} (h : RI r N) (hp : p < N) (hq : q < N) : ∃ x, x ≤ 30 ∧ sJoyE r p q = nI x := by
  obtain ⟨x, y, hx, hy, -, ey, -⟩ := h.bites hp
  obtain ⟨⟨k, hk, ek⟩, -⟩ := h.2 p hp
  obtain ⟨-, -, -, -, -, ⟨w, hw, ew⟩⟩ := h.2 q hq
  obtain ⟨b, hb, eb⟩ := shy_n k hk
  refine ⟨y - b * w, by omega, ?_⟩
  unfold sJoyE
  have hbw : b * w ≤ 2 * 99 := Nat.mul_le_mul (by omega) hw
  rw [ey, ek, eb, ew, nI_mul, mx0_sub (by omega) (by omega)]
theorem RI.joy {r : Nat → Int32} {N p q : Nat} (h : RI r N) (hp : p < N) (hq : q < N) : ∃ x, x ≤ 60 ∧ sJoy r p q = nI x := by
  obtain ⟨x, hx, ex⟩ := h.joyE hp hq
  obtain ⟨x2, y, hx2, hy, -, ey⟩ := h.gazes hq
  have : y ≤ 30 := by omega
  exact ⟨x + y, by omega, by unfold sJoy; rw [ex, ey, nI_add]⟩
theorem RI.JN {r : Nat → Int32} {N : Nat} (h : RI r N) : JN r N := fun p q hp hq => by
  obtain ⟨x, hx, e⟩ := h.joy hp hq
  rw [e]; exact nI_pos' (by omega)
theorem RI.u {r : Nat → Int32} {N p k : Nat} {v : Int32} (h : RI r N) (hk : 2 ≤ k ∧ k < 6) (hv : ∃ x, x ≤ (if k < 4 then 30 else 99) ∧ v = nI x) : RI (upd r (3 + 6 * p + k) v) N := by
  refine ⟨?_, fun i hi => ?_⟩
  · rw [r_n (by decide)]; exact h.1
  · obtain ⟨h1, h2, h3, h4, h5, h6⟩ := h.2 i hi
    have g : ∀ j, j < 6 → j ≠ k ∨ i ≠ p → upd r (3 + 6 * p + k) v (3 + 6 * i + j) = r (3 + 6 * i + j) := fun j hj hn => by simp only [upd]; rw [if_neg (by omega)]
    have g0 := g 0 (by omega) (Or.inl (by omega))
    have g1 := g 1 (by omega) (Or.inl (by omega))
    rw [Nat.add_zero] at g0
    have gs : upd r (3 + 6 * p + k) v (3 + 6 * p + k) = v := by simp [upd]
    have e : i ≠ p ∨ i = p := by omega
    refine ⟨by rw [g0]; exact h1, by rw [g1]; exact h2, ?_, ?_, ?_, ?_⟩
    · rcases e with e | e
      · rw [g 2 (by omega) (Or.inr e)]; exact h3
      · by_cases q : k = 2
        · subst q; subst e; rw [gs]; simpa using hv
        · rw [g 2 (by omega) (Or.inl (Ne.symm q))]; exact h3
    · rcases e with e | e
      · rw [g 3 (by omega) (Or.inr e)]; exact h4
      · by_cases q : k = 3
        · subst q; subst e; rw [gs]; simpa using hv
        · rw [g 3 (by omega) (Or.inl (Ne.symm q))]; exact h4
    · rcases e with e | e
      · rw [g 4 (by omega) (Or.inr e)]; exact h5
      · by_cases q : k = 4
        · subst q; subst e; rw [gs]; simpa using hv
        · rw [g 4 (by omega) (Or.inl (Ne.symm q))]; exact h5
    · rcases e with e | e
      · rw [g 5 (by omega) (Or.inr e)]; exact h6
      · by_cases q : k = 5
        · subst q; subst e; rw [gs]; simpa using hv
        · rw [g 5 (by omega) (Or.inl (Ne.symm q))]; exact h6
theorem RI.h {r : Nat → Int32} {N j : Nat} {v : Int32} (h : RI r N) (hj : j < 3) (hv : j = 1 → ∃ x, x ≤ 99 ∧ v = nI x) : RI (upd r j v) N := by
  refine ⟨?_, fun i hi => ?_⟩
  · by_cases e : j = 1
    · subst e; simpa [upd] using hv rfl
    · rw [show upd r j v 1 = r 1 by simp only [upd]; rw [if_neg (Ne.symm e)]]; exact h.1
  · have g : ∀ z, 3 ≤ z → upd r j v z = r z := fun z hz => by simp only [upd]; rw [if_neg (by omega)]
    rw [g _ (by omega), g _ (by omega), g _ (by omega), g _ (by omega), g _ (by omega), g _ (by omega)]
    exact h.2 i hi
theorem RI.v2 {r : Nat → Int32} {N p : Nat} (h : RI r N) (hp : p < N) : ∃ x, x ≤ 30 ∧ r (3 + 6 * p + 2) - sBites r p = nI x := by
  obtain ⟨x, y, hx, hy, e1, e2, -⟩ := h.bites hp
  exact ⟨x - y, by omega, by rw [e1, e2]; exact nI_sub hy (by omega)⟩
theorem RI.v3 {r : Nat → Int32} {N p : Nat} (h : RI r N) (hp : p < N) : ∃ x, x ≤ 30 ∧ r (3 + 6 * p + 3) - sGazes r p = nI x := by
  obtain ⟨x, y, hx, hy, e1, e2⟩ := h.gazes hp
  exact ⟨x - y, by omega, by rw [e1, e2]; exact nI_sub hy (by omega)⟩
theorem mn99 {v : Int32} (h : ∃ x, x ≤ 99 ∧ v = nI x) : ∃ x, x ≤ 99 ∧ mn 99 (v + 1) = nI x := by
  obtain ⟨x, hx, rfl⟩ := h
  exact ⟨min 99 (x + 1), by omega, by rw [nI_1]; exact mn_n (a := 99) (by decide) (by omega)⟩
theorem lt0_n {x : Nat} (h : ¬ nI x ≤ 0) : 1 ≤ x := by
  rcases Nat.eq_zero_or_pos x with e | e
  · subst e; exact absurd (show nI 0 ≤ 0 by decide) h
  · exact e
theorem sEat_1 {r : Nat → Int32} {p q : Nat} (h : sEat r p q = true) : ¬ r 1 ≤ 0 := by
  unfold sEat at h
  simp only [Bool.and_eq_true, Bool.not_eq_true', decide_eq_false_iff_not] at h
  exact h.1.1.2
theorem sT4_1 (r : Nat → Int32) (p q : Nat) : sT4 r p q 1 = r 1 := by
  have e1 : ¬ (1 = 3 + 6 * p + 2) := by omega
  have e2 : ¬ (1 = 3 + 6 * q + 3) := by omega
  have e3 : ¬ (1 = 3 + 6 * p + 4) := by omega
  have e4 : ¬ (1 = 3 + 6 * q + 5) := by omega
  simp only [sT4, sT3, sT2, sT1, upd, e1, e2, e3, e4, if_false]
theorem RI.turn {r : Nat → Int32} {N p q : Nat} (h : RI r N) (hp : p < N) (hq : q < N) (he : sEat r p q = true) : RI (sTurn r p q) N := by
  have h1 : RI (sT1 r p) N := h.u (by decide) (h.v2 hp)
  have h2 : RI (sT2 r p q) N := h1.u (by decide) (h1.v3 hq)
  have h3 : RI (sT3 r p q) N := h2.u (by decide) (mn99 (h2.2 p hp).2.2.2.2.1)
  have h4 : RI (sT4 r p q) N := h3.u (by decide) (mn99 (h3.2 q hq).2.2.2.2.2)
  have h5 : RI (sT5 r p q) N := h4.h (by decide) fun _ => by
    obtain ⟨x, hx, e⟩ := h.1
    have hn := sEat_1 he
    rw [e] at hn
    have := lt0_n hn
    exact ⟨x - 1, by omega, by rw [sT4_1, e]; exact nI_sub (a := x) (b := 1) this (by omega)⟩
  exact h5.h (by decide) fun q => absurd q (by decide)
theorem RI.adds {r : Nat → Int32} {N k f u w : Nat} (h : RI r N) (hk : k < 8) (hf : f < 10) (hu : u ≤ 30) (hw : w ≤ 30) : RI (sAdds r N (nI k) (nI f) (nI u) (nI w)) (N + 1) := by
  have e0 : sAdds r N (nI k) (nI f) (nI u) (nI w) 1 = r 1 := sAdds_o (by decide) (by omega)
  refine ⟨by rw [e0]; exact h.1, fun i hi => ?_⟩
  by_cases q : i = N
  · subst q
    have e2 : sAdds r i (nI k) (nI f) (nI u) (nI w) (3 + 6 * i + 2) = nI u := by
      simp only [sAdds, sA6, upd]
      rw [if_neg (by omega), if_neg (by omega), if_neg (by omega), if_neg (by omega), if_pos trivial]
    have e3 : sAdds r i (nI k) (nI f) (nI u) (nI w) (3 + 6 * i + 3) = nI w := by
      simp only [sAdds, sA6, upd]
      rw [if_neg (by omega), if_neg (by omega), if_neg (by omega), if_pos trivial]
    have e4 : sAdds r i (nI k) (nI f) (nI u) (nI w) (3 + 6 * i + 4) = 0 := by
      simp only [sAdds, sA6, upd]
      rw [if_neg (by omega), if_neg (by omega), if_pos trivial]
    have e5 : sAdds r i (nI k) (nI f) (nI u) (nI w) (3 + 6 * i + 5) = 0 := by
      simp only [sAdds, sA6, upd]
      rw [if_neg (by omega), if_pos trivial]
    exact ⟨⟨k, hk, sAdds_k _ _ _ _ _ _⟩, ⟨f, hf, sAdds_f _ _ _ _ _ _⟩, ⟨u, hu, e2⟩, ⟨w, hw, e3⟩, ⟨0, by omega, e4⟩, ⟨0, by omega, e5⟩⟩
  · have g : ∀ j, j < 6 → sAdds r N (nI k) (nI f) (nI u) (nI w) (3 + 6 * i + j) = r (3 + 6 * i + j) := fun j hj => sAdds_o (by omega) (by omega)
    have g0 := g 0 (by omega)
    rw [Nat.add_zero] at g0
    rw [g0, g 1 (by omega), g 2 (by omega), g 3 (by omega), g 4 (by omega), g 5 (by omega)]
    exact h.2 i (by omega)
theorem sEatP_n2 {r : Nat → Int32} {N a b : Nat} (hN : N ≤ 9) (ha : a < 2 ^ 31) (hb : b < 2 ^ 31) (h : sEatP r N (nI a) (nI b) = true) : a < N ∧ b < N ∧ a ≠ b ∧ sEat r a b = true := by
  obtain ⟨j, k, hj, hk, hjk, he, e1, e2⟩ := sEatP_t (by omega) h
  have := (nI_eq ha (by omega)).mp e1
  have := (nI_eq hb (by omega)).mp e2
  subst j; subst k
  exact ⟨hj, hk, hjk, he⟩
/-- two turns, as the class searches -/
def ttVX (r : Nat → Int32) (N p l : Nat) : Int32 := sJoy r p l + mx 0 (sBJX (sTurn r p l) N)
def txV (r : Nat → Int32) (N : Nat) : Option (Nat × Nat) → Int32
  | none => 0
  | some q => ttVX r N q.1 q.2
theorem txVN (r : Nat → Int32) (N : Nat) : txV r N none = 0 := rfl
theorem txVS (r : Nat → Int32) (N : Nat) (q : Nat × Nat) : txV r N (some q) = ttVX r N q.1 q.2 := rfl
def txS (r : Nat → Int32) (N k : Nat) (o : Option (Nat × Nat)) : Option (Nat × Nat) := if sEatP r N (nI (k / 10)) (nI (k % 10)) = false then o else match o with
  | none => some (k / 10, k % 10)
  | some b => if ttVX r N b.1 b.2 < ttVX r N (k / 10) (k % 10) then some (k / 10, k % 10) else some b
def txO (r : Nat → Int32) (N : Nat) : Nat → Option (Nat × Nat)
  | 0 => none
  | k + 1 => txS r N k (txO r N k)
def sTTX (r : Nat → Int32) (N : Nat) (what : Int32) : Int32 := if sIn what 0 1 = false then -1 else if what = 0 then txV r N (txO r N 80) else enc (txO r N 80)
theorem txO_in {r : Nat → Int32} {N : Nat} (hN : N ≤ 9) : ∀ k, k ≤ 80 → ∀ q, txO r N k = some q → q.1 < N ∧ q.2 < N := by
  intro k
  induction k with
  | zero => intro _ q h; cases h
  | succ k ih =>
    intro hk q h
    unfold txO txS at h
    split at h
    · exact ih (by omega) q h
    · rename_i he
      have he2 := sEatP_n2 hN (a := k / 10) (b := k % 10) (by omega) (by omega) (by simpa using he)
      split at h
      · cases h; exact ⟨he2.1, he2.2.1⟩
      · rename_i b hb
        split at h
        · cases h; exact ⟨he2.1, he2.2.1⟩
        · cases h; exact ih (by omega) _ hb
theorem bstp_eat {r : Nat → Int32} {p l : Nat} {o : Option (Nat × Nat)} (h : ∀ q, o = some q → sEat r q.1 q.2 = true) : ∀ q, bstp r p l o = some q → sEat r q.1 q.2 = true := by
  intro q hq
  unfold bstp at hq
  split at hq
  · exact h q hq
  · rename_i he
    split at hq
    · cases hq; simpa using he
    · exact h q hq
theorem bin_eat {r : Nat → Int32} {p : Nat} {o : Option (Nat × Nat)} (h : ∀ q, o = some q → sEat r q.1 q.2 = true) : ∀ l, ∀ q, bin r p o l = some q → sEat r q.1 q.2 = true := by
  intro l
  induction l with
  | zero => intro q hq; exact h q hq
  | succ l ih => exact bstp_eat ih
theorem bout_eat {r : Nat → Int32} {N : Nat} : ∀ p, ∀ q, bout r N p = some q → sEat r q.1 q.2 = true := by
  intro p
  induction p with
  | zero => intro q hq; cases hq
  | succ p ih => exact bin_eat ih N
theorem sBestO_eat {r : Nat → Int32} {N : Nat} {q : Nat × Nat} (h : sBestO r N = some q) : sEat r q.1 q.2 = true := bout_eat N q h
theorem ftI_WK {gm : GM} {wh : Nat → Option Nat} {N : Nat} {x : (Nat → Int32) × Int32 × Int32 × Nat} (h : WK gm wh x.1 N) : ∀ k, WK gm wh (ftI N x k).1 N := by
  intro k
  induction k with
  | zero => rw [ftI]; exact h
  | succ k ih =>
    rw [ftI]
    generalize ftI N x k = y at ih ⊢
    rw [ftS]
    split
    · exact ih
    · exact WK.turn ih
theorem bitX_n (x : Int32) (l : Nat) : bitX x (nI l) = bitI x l := rfl
theorem sMay_n2 {r : Nat → Int32} {N a b : Nat} (hN : N ≤ 9) (ha : a < 2 ^ 31) (hb : b < 2 ^ 31) (h : sMay r N (nI a) (nI b) = true) : a < N ∧ b < N ∧ a ≠ b ∧ sEat r a b = true := by
  unfold sMay at h
  simp only [Bool.and_eq_true] at h
  exact sEatP_n2 hN ha hb h.1
theorem sIn0 {v x : Int32} (h : v < 0 ∨ x ≤ v) (y : Int32) (hy : y + 1 = x) (hm : y < x) : sIn v 0 y = false := by
  unfold sIn
  rcases h with h | h
  · simp [h]
  · have : y < v := Int32.lt_of_lt_of_le hm h
    simp [this]
def sSeenX (r : Nat → Int32) (N : Nat) (x : Int32) : Int32 := if x < 0 then -1 else if nI (2 ^ N) ≤ x then -1 else if seB r x N = true then 0 else seN r x N
theorem seB_any {r : Nat → Int32} {x : Int32} {N i : Nat} (hi : i < N) (h : seB r x (i + 1) = true) : seB r x N = true := by
  induction N with
  | zero => omega
  | succ N ih =>
    by_cases e : i = N
    · subst e; exact h
    · rw [seB, ih (by omega)]; rfl
theorem sSeenX_eq {r : Nat → Int32} {N : Nat} (hN : N ≤ 9) (x : Int32) : sSeenX r N x = sSeenA r N x := by
  have h2 := pow_le9 hN
  unfold sSeenX sSeenA seV
  by_cases h : x < 0
  · rw [if_pos h]
    have : sIn x 0 (nI (2 ^ N - 1)) = false := by unfold sIn; simp [h]
    simp [this]
  · rw [if_neg h]
    obtain ⟨j, hj, rfl⟩ := nI_of h
    by_cases g : nI (2 ^ N) ≤ nI j
    · rw [if_pos g]
      have g2 := (nI_leI (by omega) hj).mp g
      have : sIn (nI j) 0 (nI (2 ^ N - 1)) = false := by
        cases e : sIn (nI j) 0 (nI (2 ^ N - 1)) with
        | false => rfl
        | true => have := sIn_n (a := 0) (by decide) (by omega) hj e; omega
      simp [this]
    · rw [if_neg g]
      have g2 : ¬ 2 ^ N ≤ j := fun q => g ((nI_leI (by omega) hj).mpr q)
      have : sIn (nI j) 0 (nI (2 ^ N - 1)) = true := sIn_i (a := 0) (Nat.zero_le _) (by omega) (by omega)
      simp [this]
def sBt (x : Int32) (l : Nat) : Bool := decide (bitI x l = 1)
theorem bit1 (x : Int32) (l : Nat) : (bitI x l = 1) = (sBt x l = true) := by simp [sBt]
theorem bit0 (x : Int32) (l : Nat) : (bitI x l = 0) = (sBt x l = false) := by
  rcases bitI_01 x l with h | h
  · simp [sBt, h]
  · simp [sBt, h]
