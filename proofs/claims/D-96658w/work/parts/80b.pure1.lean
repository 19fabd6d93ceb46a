/-! PURE 1b -/
/-! two turns -/
theorem RI.ttv {r : Nat → Int32} {N p q : Nat} (h : RI r N) (hp : p < N) (hq : q < N) (he : sEat r p q = true) : ttVX r N p q = ttV r N p q ∧ ∃ x, x ≤ 120 ∧ ttV r N p q = nI x := by
  have h2 := h.turn hp hq he
  obtain ⟨x, hx, ex⟩ := h.joy hp hq
  obtain ⟨y, hy, ey, -⟩ := h2.bj
  refine ⟨by rw [ttVX, ttV, h2.bjx], x + y, by omega, by rw [ttV, ex, ey, nI_add]⟩
def ttOk (r : Nat → Int32) (N : Nat) (o : Option (Nat × Nat)) : Prop := ∀ q, o = some q → q.1 < N ∧ q.2 < N ∧ sEat r q.1 q.2 = true
theorem ttS_ok {r : Nat → Int32} {N p l : Nat} {o : Option (Nat × Nat)} (hp : p < N) (hl : l < N) (h : ttOk r N o) : ttOk r N (ttS r N p l o) := by
  intro q hq
  unfold ttS at hq
  split at hq
  · exact h q hq
  · rename_i he
    split at hq
    · cases hq; exact ⟨hp, hl, by simpa using he⟩
    · exact h q hq
theorem ttI_ok {r : Nat → Int32} {N p : Nat} {o : Option (Nat × Nat)} (hp : p < N) (h : ttOk r N o) : ∀ l, l ≤ N → ttOk r N (ttI r N p o l) := by
  intro l; induction l with
  | zero => intro _; exact h
  | succ l ih => intro hl; exact ttS_ok hp (by omega) (ih (by omega))
theorem ttO_ok {r : Nat → Int32} {N : Nat} : ∀ p, p ≤ N → ttOk r N (ttO r N p) := by
  intro p; induction p with
  | zero => intro _ q hq; cases hq
  | succ p ih => intro hp; exact ttI_ok (by omega) (ih (by omega)) N (Nat.le_refl N)
theorem txS_tt {r : Nat → Int32} {N p l : Nat} {o : Option (Nat × Nat)} (h : RI r N) (hN : N ≤ 8) (hp : p < N) (hl : l < N) (ho : ttOk r N o) : txS r N (10 * p + l) o = ttS r N p l o := by
  have e1 : (10 * p + l) / 10 = p := by omega
  have e2 : (10 * p + l) % 10 = l := by omega
  unfold txS ttS
  rw [e1, e2, sEatP_n (by omega) hp hl]
  by_cases g : sEat r p l = false
  · rw [if_pos g, if_pos g]
  · rw [if_neg g, if_neg g]
    obtain ⟨f1, x, hx, f2⟩ := h.ttv hp hl (by simpa using g)
    cases o with
    | none =>
      have h1 : ttB r N none < ttV r N p l := by
        rw [f2]
        exact Int32.lt_of_lt_of_le (show (-1 : Int32) < 0 by decide) (nI_pos' (by omega))
      exact (if_pos h1).symm
    | some b =>
      obtain ⟨g1, g2, g3⟩ := ho b rfl
      show (if ttVX r N b.1 b.2 < ttVX r N p l then some (p, l) else some b) = if ttV r N b.1 b.2 < ttV r N p l then some (p, l) else some b
      rw [f1, (h.ttv g1 g2 g3).1]
theorem txS_no {r : Nat → Int32} {N k : Nat} {o : Option (Nat × Nat)} (hN : N ≤ 8) (hk : k < 80) (h : ¬ (k / 10 < N ∧ k % 10 < N)) : txS r N k o = o := by
  unfold txS
  rw [if_pos]
  cases e : sEatP r N (nI (k / 10)) (nI (k % 10)) with
  | false => rfl
  | true =>
    have := sEatP_n2 (by omega) (by omega) (by omega) e
    exact absurd ⟨this.1, this.2.1⟩ h
theorem txO_eq {r : Nat → Int32} {N : Nat} (h : RI r N) (hN : N ≤ 8) : ∀ k, k ≤ 80 → txO r N k = if k / 10 < N then ttI r N (k / 10) (ttO r N (k / 10)) (min (k % 10) N) else ttO r N N := by
  intro k; induction k with
  | zero =>
    intro _
    by_cases g : 0 < N
    · rw [show 0 / 10 = 0 from rfl, show 0 % 10 = 0 from rfl, if_pos g, Nat.zero_min]; rfl
    · rw [show 0 / 10 = 0 from rfl, if_neg g, show N = 0 by omega]; rfl
  | succ k ih =>
    intro hk
    rw [txO, ih (by omega)]
    by_cases g : k / 10 < N
    · rw [if_pos g]
      by_cases g2 : k % 10 < N
      · have hi := ttI_ok g (ttO_ok (r := r) (k / 10) (by omega)) (min (k % 10) N) (Nat.min_le_right _ _)
        have e := txS_tt h hN g g2 hi
        rw [show 10 * (k / 10) + k % 10 = k by omega] at e
        rw [e, if_pos (show (k + 1) / 10 < N by omega), show (k + 1) / 10 = k / 10 by omega, show (k + 1) % 10 = k % 10 + 1 by omega, Nat.min_eq_left (by omega), Nat.min_eq_left (by omega)]
        rfl
      · rw [txS_no hN (by omega) (fun q => g2 q.2), Nat.min_eq_right (by omega)]
        by_cases g3 : k % 10 = 9
        · have e1 : (k + 1) / 10 = k / 10 + 1 := by omega
          have e2 : (k + 1) % 10 = 0 := by omega
          rw [e1, e2]
          by_cases g4 : k / 10 + 1 < N
          · rw [if_pos g4, Nat.zero_min]; rfl
          · rw [if_neg g4]
            have e3 : ttO r N N = ttO r N (k / 10 + 1) := congrArg (ttO r N) (show N = k / 10 + 1 by omega)
            rw [e3]; rfl
        · rw [show (k + 1) / 10 = k / 10 by omega, if_pos g, Nat.min_eq_right (by omega)]
    · rw [if_neg g, txS_no hN (by omega) (fun q => g q.1), if_neg (by omega)]
theorem sTT_eq {r : Nat → Int32} {N : Nat} (h : RI r N) (hN : N ≤ 8) (w : Int32) : sTTX r N w = sTTA r N w := by
  have e : txO r N 80 = ttO r N N := by rw [txO_eq h hN 80 (Nat.le_refl 80), if_neg (show ¬ 80 / 10 < N by omega)]
  unfold sTTX sTTA
  rw [e]
  by_cases g : sIn w 0 1 = false
  · rw [if_pos g, if_pos g]
  rw [if_neg g, if_neg g]
  rcases sIn01 (by simpa using g) with rfl | rfl
  · rw [if_pos rfl, if_neg (by decide)]
    have hok := ttO_ok (r := r) (N := N) N (Nat.le_refl N)
    cases e2 : ttO r N N with
    | none => show (0 : Int32) = mx 0 (-1); decide
    | some q =>
      obtain ⟨g1, g2, g3⟩ := hok q e2
      obtain ⟨f1, x, hx, f2⟩ := h.ttv g1 g2 g3
      show ttVX r N q.1 q.2 = mx 0 (ttV r N q.1 q.2)
      rw [f1, f2, mx0_n (by omega)]
  · rw [if_neg (by decide), if_pos rfl]
