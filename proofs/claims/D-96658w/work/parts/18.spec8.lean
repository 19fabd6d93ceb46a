/-! SPEC 8: a whole text -/
theorem rdN_nu (t : Nat → Int32) (k d : Nat) (x y : Rd) (h : x.1 = y.1 ∧ x.2.1 = y.2.1) : (rn t k d x).1 = (rn t k d y).1 ∧ (rn t k d x).2.1 = (rn t k d y).2.1 := by
  rw [rn, rn, h.1, h.2]
  split
  · exact ⟨rfl, rfl⟩
  · exact h
theorem stN_nu (t : Nat → Int32) (p : Nat) (nu nu' : Nat → Int32) : (stN t p nu).1 = (stN t p nu').1 ∧ (stN t p nu).2.1 = (stN t p nu').2.1 := by
  rw [stN, stN]
  have h0 : ((true, p + 1, nu) : Rd).1 = ((true, p + 1, nu') : Rd).1 ∧ ((true, p + 1, nu) : Rd).2.1 = ((true, p + 1, nu') : Rd).2.1 := ⟨rfl, rfl⟩
  split
  · exact rdN_nu _ _ _ _ _ (rdN_nu _ _ _ _ _ (rdN_nu _ _ _ _ _ (rdN_nu _ _ _ _ _ h0)))
  · split
    · exact rdN_nu _ _ _ _ _ h0
    · split
      · exact rdN_nu _ _ _ _ _ (rdN_nu _ _ _ _ _ h0)
      · split
        · exact rdN_nu _ _ _ _ _ (rdN_nu _ _ _ _ _ h0)
        · split
          · exact rdN_nu _ _ _ _ _ (rdN_nu _ _ _ _ _ h0)
          · exact ⟨rfl, rfl⟩
theorem stS_nu (t : Nat → Int32) (p : Nat) (nu nu' : Nat → Int32) : (stS t p nu).1 = (stS t p nu').1 ∧ (stS t p nu).2.1 = (stS t p nu').2.1 := by
  obtain ⟨h1, h2⟩ := stN_nu t p nu nu'
  rw [stS, stS, h1, h2]
  split
  · split
    · exact ⟨rfl, rfl⟩
    · exact ⟨rfl, h2⟩
  · exact ⟨h1, h2⟩
/-- the first reading: the fault or 0, how many statements -/
def ps1 (t : Nat → Int32) (re : Nat) : Nat → Nat → Nat → (Nat → Int32) → Int32 × Nat × (Nat → Int32)
  | 0, _, k, nu => (0, k, nu)
  | f + 1, p, k, nu => if (stS t p nu).1 = true then (if (stS t p nu).2.1 < re then ps1 t re f (stS t p nu).2.1 (k + 1) (stS t p nu).2.2 else (0, k + 1, (stS t p nu).2.2)) else (-1000 - nI (stS t p nu).2.1, k + 1, (stS t p nu).2.2)
def okp (t : Nat → Int32) (re : Nat) : Nat → Nat → Bool
  | 0, _ => false
  | f + 1, p => (stS t p (fun _ => 0)).1 && (decide (re ≤ (stS t p (fun _ => 0)).2.1) || okp t re f (stS t p (fun _ => 0)).2.1)
def sDoN (N : Nat) (c : Int32) : Nat := if c = 112 then N + 1 else N
/-- the second reading: the fault or 0, the row -/
def ps2 (t : Nat → Int32) (re : Nat) (r0 : Nat → Int32) : Nat → Nat → (Nat → Int32) → Nat → (Nat → Int32) → Int32 × (Nat → Int32)
  | 0, _, r, _, _ => (0, r)
  | f + 1, p, r, N, nu => if p < re then (match sDo r N (t p) (stS t p nu).2.2 with
    | none => (-2000 - nI p, r0)
    | some r1 => ps2 t re r0 f (stS t p nu).2.1 r1 (sDoN N (t p)) (stS t p nu).2.2) else (0, r)
def sFeteA (t : Nat → Int32) (re : Nat) (r : Nat → Int32) (N : Nat) (nu : Nat → Int32) : Int32 := if (ps1 t re (re + 1) 0 0 nu).1 = 0 then (if (ps2 t re r re 0 r N (ps1 t re (re + 1) 0 0 nu).2.2).1 = 0 then nI (ps1 t re (re + 1) 0 0 nu).2.1 else (ps2 t re r re 0 r N (ps1 t re (re + 1) 0 0 nu).2.2).1) else (ps1 t re (re + 1) 0 0 nu).1
def sFeteS (t : Nat → Int32) (re : Nat) (r : Nat → Int32) (N : Nat) (nu : Nat → Int32) : Nat → Int32 := if (ps1 t re (re + 1) 0 0 nu).1 = 0 then (ps2 t re r re 0 r N (ps1 t re (re + 1) 0 0 nu).2.2).2 else r
theorem fault1 {x : Nat} (h : x < 2 ^ 30) : ¬ (-1000 - nI x : Int32) = 0 := by
  intro q
  have := congrArg Int32.toInt q
  rw [Int32.toInt_sub, nI_toInt (by omega)] at this
  have e1 : (-1000 : Int32).toInt = -1000 := rfl
  have e2 : (0 : Int32).toInt = 0 := rfl
  rw [e1, e2, Int.bmod_def] at this
  split at this <;> omega
theorem fault2 {x : Nat} (h : x < 2 ^ 30) : ¬ (-2000 - nI x : Int32) = 0 := by
  intro q
  have := congrArg Int32.toInt q
  rw [Int32.toInt_sub, nI_toInt (by omega)] at this
  have e1 : (-2000 : Int32).toInt = -2000 := rfl
  have e2 : (0 : Int32).toInt = 0 := rfl
  rw [e1, e2, Int.bmod_def] at this
  split at this <;> omega
theorem sDo_0 {r r1 : Nat → Int32} {N : Nat} {c : Int32} {nu : Nat → Int32} (hN : N ≤ 8) (hr : r 0 = nI N) (h : sDo r N c nu = some r1) : r1 0 = nI (sDoN N c) ∧ sDoN N c ≤ 8 := by
  unfold sDo at h
  unfold sDoN
  split at h
  · rename_i hc
    rw [if_pos hc]
    repeat (split at h; (· cases h))
    cases h
    exact ⟨rfl, by omega⟩
  · rename_i hc
    rw [if_neg hc]
    refine ⟨?_, hN⟩
    split at h
    · cases h; exact hr
    · split at h
      · repeat (split at h; (· cases h))
        cases h
        exact (sTurn_0 _ _ _).trans hr
      · repeat (split at h; (· cases h))
        cases h
        refine Eq.trans ?_ hr
        show upd r _ _ 0 = r 0
        simp only [upd]
        rw [if_neg (by split <;> omega)]
theorem ps1_ok {t : Nat → Int32} {re : Nat} (hre : re ≤ 100) : ∀ (f p k : Nat) (nu : Nat → Int32), re < f + p → p ≤ re → (ps1 t re f p k nu).1 = 0 → okp t re f p = true := by
  intro f
  induction f with
  | zero => intro p k nu h1 h2; omega
  | succ f ih =>
    intro p k nu h1 h2 h
    obtain ⟨e1, e2⟩ := stS_nu t p nu (fun _ => 0)
    have hle := stS_le t p nu
    rw [ps1] at h
    rw [okp]
    split at h
    · rename_i h3
      rw [← e1, h3, ← e2]
      split at h
      · rename_i h4
        have := ih _ _ _ (by have := hle.2.2 h3; omega) (by omega) h
        rw [this]
        simp
      · rename_i h4
        simp [show re ≤ (stS t p nu).2.1 by omega]
    · exact absurd h (fault1 (by omega))
theorem okp_s {t : Nat → Int32} {re p : Nat} (nu : Nat → Int32) (h : ∃ f, okp t re f p = true) : (stS t p nu).1 = true ∧ (re ≤ (stS t p nu).2.1 ∨ ∃ f, okp t re f (stS t p nu).2.1 = true) := by
  obtain ⟨f, h⟩ := h
  obtain ⟨e1, e2⟩ := stS_nu t p nu (fun _ => 0)
  cases f with
  | zero => cases h
  | succ f =>
    rw [okp] at h
    simp only [Bool.and_eq_true, Bool.or_eq_true, decide_eq_true_eq] at h
    rw [e1, e2]
    exact ⟨h.1, h.2.imp id fun q => ⟨f, q⟩⟩
theorem sDoB_t {o : Option (Nat → Int32)} (h : sDoB o = true) : ∃ r1, o = some r1 := by
  cases o with
  | none => cases h
  | some r1 => exact ⟨r1, rfl⟩
theorem sDoB_f {o : Option (Nat → Int32)} (h : sDoB o = false) : o = none := by
  cases o with
  | none => rfl
  | some r1 => cases h
def sFA (ke so : Nat → Int32) (zz : Nat → Nat) (el r : Nat → Int32) (N : Nat) (nu : Nat → Int32) (d : Int32) : Int32 := if sWR ke so d 0 = 0 then sFeteA (tM el (100 * tn d) (zz (tn d))) (zz (tn d)) r N nu else sWR ke so d 0
def sFS (ke so : Nat → Int32) (zz : Nat → Nat) (el r : Nat → Int32) (N : Nat) (nu : Nat → Int32) (d : Int32) : Nat → Int32 := if sWR ke so d 0 = 0 then sFeteS (tM el (100 * tn d) (zz (tn d))) (zz (tn d)) r N nu else r
