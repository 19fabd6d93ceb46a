/-! PURE 1d -/
/-! rows: what a row rf = el from b on says -/
def rwE (el : Nat → Int32) (b : Nat) : Nat → Int32 := fun k => el (b + k)
theorem eatP (r : Nat → Int32) (N : Nat) (p q : Int32) : sEatP r N p q = (sPer N p && (sPer N q && sEat r (tn p) (tn q))) := by
  unfold sEatP sTwo
  by_cases h : p = q
  · subst h
    have : sEat r (tn p) (tn p) = false := by unfold sEat; simp
    rw [this]; simp
  · simp [h, Bool.and_assoc]
theorem wpS_rw (el : Nat → Int32) (b : Nat) : ∀ k, wpSeen (rwE el b) 0 k = wpSeen el b k := by
  intro k; induction k with
  | zero => rfl
  | succ k ih => rw [wpSeen, wpSeen, ih, rwE, Nat.zero_add]
theorem npX_eq (r : Nat → Int32) (N : Nat) (el : Nat → Int32) (b : Nat) : ∀ k, npX r N (rwE el b) k = (wpA N el b k && wpB r el b (k / 2)) := by
  intro k; induction k with
  | zero => rfl
  | succ k ih =>
    rw [npX, ih, wpS_rw, wpA]
    rcases Nat.mod_two_eq_zero_or_one k with e | e
    · rw [if_neg (by omega), show (k + 1) / 2 = k / 2 by omega]
      show (_ && (sPer N (el (b + k)) && (!decide (bitX (wpSeen el b k) (el (b + k)) = 1) && true))) = _
      cases wpA N el b k <;> cases wpB r el b (k / 2) <;> simp
    · rw [if_pos e, show (k + 1) / 2 = k / 2 + 1 by omega, wpB, eatP]
      show (_ && (sPer N (el (b + k)) && (!decide (bitX (wpSeen el b k) (el (b + k)) = 1) && (sPer N (el (b + (k - 1))) && (sPer N (el (b + k)) && sEat r (tn (el (b + (k - 1)))) (tn (el (b + k)))))))) = _
      have e1 : k - 1 = 2 * (k / 2) := by omega
      have e2 : 2 * (k / 2) + 1 = k := by omega
      have e3 : b + 2 * (k / 2) + 1 = b + k := by omega
      rw [e1, e3]
      cases h : wpA N el b k with
      | false => simp
      | true =>
        have h3 : sPer N (el (b + 2 * (k / 2))) = true := by
          have h1 := wpA_le (j := 2 * (k / 2) + 1) (by omega) h
          unfold wpA at h1
          simp only [Bool.and_eq_true] at h1
          exact h1.2.1
        rw [h3]
        cases wpB r el b (k / 2) <;> cases sPer N (el (b + k)) <;> simp
theorem sNP_eq {r : Nat → Int32} {N : Nat} {ke so : Nat → Int32} {zz : Nat → Nat} {el : Nat → Int32} {d : Int32} (h : sWR ke so d (-1) = 0) : sNPX r N (zz (tn d)) (rwE el (100 * tn d)) = sWPA r N ke so zz el d := by
  unfold sNPX sWPA
  rw [if_pos h, npX_eq]
  by_cases g1 : zz (tn d) % 2 = 1
  · rw [if_pos g1, if_pos g1]
  rw [if_neg g1, if_neg g1]
  by_cases g2 : 8 < zz (tn d)
  · rw [if_pos g2, if_pos g2]
  rw [if_neg g2, if_neg g2]
  cases wpA N el (100 * tn d) (zz (tn d)) <;> cases wpB r el (100 * tn d) (zz (tn d) / 2) <;> rfl
theorem swV_rw (r el : Nat → Int32) (b i j : Nat) : swV r (rwE el b) 0 i j = swV r el b i j := by
  unfold swV rwE
  simp only [Nat.zero_add, Nat.add_assoc]
theorem swB_rw (r el : Nat → Int32) (b : Nat) (o : Option (Nat × Nat)) : swB r (rwE el b) 0 o = swB r el b o := by
  cases o with
  | none => rfl
  | some q => exact swV_rw r el b q.1 q.2
theorem swI_rw (r el : Nat → Int32) (b i : Nat) (o : Option (Nat × Nat)) : ∀ j, swI r (rwE el b) 0 i o j = swI r el b i o j := by
  intro j; induction j with
  | zero => rfl
  | succ j ih => rw [swI, swI, ih, swS, swS, swB_rw, swV_rw]
theorem swO_rw (r el : Nat → Int32) (b n : Nat) : ∀ i, swO r (rwE el b) 0 n i = swO r el b n i := by
  intro i; induction i with
  | zero => rfl
  | succ i ih => rw [swO, swO, ih, swI_rw]
theorem sSwap_eq {r : Nat → Int32} {N : Nat} {ke so : Nat → Int32} {zz : Nat → Nat} {el : Nat → Int32} {d : Int32} (h : sWR ke so d (-1) = 0) : sSwapX r N (zz (tn d)) (rwE el (100 * tn d)) = sSwapA r N ke so zz el d := by
  unfold sSwapX sSwapA
  rw [sNP_eq h, swO_rw]
theorem tk_rw (el : Nat → Int32) (b : Nat) (h w : Int32) : ∀ i, tk (rwE el b) 0 h w i = tk el b h w i := by
  intro i; induction i with
  | zero => rfl
  | succ i ih => rw [tk, tk, ih, rwE, Nat.zero_add]
theorem thS_rw (el : Nat → Int32) (b z : Nat) (h f : Int32) : ∀ k, thS (rwE el b) 0 z h f k = thS el b z h f k := by
  intro k; induction k with
  | zero => rfl
  | succ k ih => rw [thS, thS, ih, tk_rw]
theorem thS_lt (el : Nat → Int32) (b z : Nat) (h f : Int32) : ∀ k, k ≤ 8 → ∃ x, x < 2 ^ k ∧ thS el b z h f k = nI x := by
  intro k; induction k with
  | zero => intro _; exact ⟨0, by decide, rfl⟩
  | succ k ih =>
    intro hk
    obtain ⟨x, hx, e⟩ := ih (by omega)
    have h2 : 2 ^ (k + 1) = 2 * 2 ^ k := by rw [Nat.pow_succ]; omega
    rw [thS, e, shl1 k (by omega)]
    split
    · rw [or_pw k (by omega) x hx]; exact ⟨x + 2 ^ k, by omega, rfl⟩
    · rw [or_0]; exact ⟨x, by omega, rfl⟩
theorem sThroat_eq {ke so : Nat → Int32} {zz : Nat → Nat} {el : Nat → Int32} {d : Int32} (h : sWR ke so d (-1) = 0) (u f w : Int32) : sThroatX (zz (tn d)) (rwE el (100 * tn d)) u f w = sThroatA ke so zz el d u f w := by
  unfold sThroatX sThroatA
  rw [thS_rw, if_pos h]
  obtain ⟨x, hx, e⟩ := thS_lt el (100 * tn d) (zz (tn d)) u f 8 (Nat.le_refl 8)
  rw [e, bcX_n x hx]
theorem frg_eq (N : Nat) (el : Nat → Int32) (b : Nat) : ∀ (f : Nat) (r : Nat → Int32) (i : Nat), frgX N (rwE el b) f r i = frg N el b f r i := by
  intro f; induction f with
  | zero => intro r i; rfl
  | succ f ih =>
    intro r i
    rw [frgX, frg, eatP, ih]
    show (if (sPer N (el (b + 2 * i)) && (sPer N (el (b + (2 * i + 1))) && sEat r (tn (el (b + 2 * i))) (tn (el (b + (2 * i + 1)))))) = false then nI i else frg N el b f (sTurn r (tn (el (b + 2 * i))) (tn (el (b + (2 * i + 1))))) (i + 1)) = _
    rw [← Nat.add_assoc]
    cases sPer N (el (b + 2 * i)) with
    | false => simp
    | true =>
      cases sPer N (el (b + 2 * i + 1)) with
      | false => simp
      | true => simp
theorem sForg_eq {r : Nat → Int32} {N : Nat} {ke so : Nat → Int32} {zz : Nat → Nat} {el : Nat → Int32} {d : Int32} (h : sWR ke so d (-1) = 0) : sForgX r N (zz (tn d)) (rwE el (100 * tn d)) = sForgA r N ke so zz el d := by
  unfold sForgX sForgA
  rw [if_pos h, frg_eq]
theorem jdg_eq (N : Nat) (el : Nat → Int32) (b : Nat) (lo : Int32) : ∀ (f : Nat) (r : Nat → Int32) (i : Nat), jdgX N (rwE el b) lo f r i = jdg N el b lo f r i := by
  intro f; induction f with
  | zero => intro r i; rfl
  | succ f ih =>
    intro r i
    rw [jdgX, jdg]
    cases sBestO r N with
    | none => simp only [ih]; rfl
    | some q => simp only [ih]; rfl
