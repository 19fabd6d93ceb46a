/-! SPEC 4: turns in mind: twoTurns, greedily, bring, forged, judge, fetes -/
theorem sTurn_0 (r : Nat → Int32) (p q : Nat) : sTurn r p q 0 = r 0 := by
  have e1 : ¬ (0 = 3 + 6 * p + 2) := by omega
  have e2 : ¬ (0 = 3 + 6 * q + 3) := by omega
  have e3 : ¬ (0 = 3 + 6 * p + 4) := by omega
  have e4 : ¬ (0 = 3 + 6 * q + 5) := by omega
  simp only [sTurn, sT5, sT4, sT3, sT2, sT1, upd, e1, e2, e3, e4, if_false]
  rfl
def ttV (r : Nat → Int32) (N p l : Nat) : Int32 := sJoy r p l + sBJ (sTurn r p l) N
def ttB (r : Nat → Int32) (N : Nat) : Option (Nat × Nat) → Int32
  | none => -1
  | some q => ttV r N q.1 q.2
theorem ttBS (r : Nat → Int32) (N : Nat) (q : Nat × Nat) : ttB r N (some q) = ttV r N q.1 q.2 := rfl
def ttS (r : Nat → Int32) (N p l : Nat) (o : Option (Nat × Nat)) : Option (Nat × Nat) := if sEat r p l = false then o else if ttB r N o < ttV r N p l then some (p, l) else o
def ttI (r : Nat → Int32) (N p : Nat) (o : Option (Nat × Nat)) : Nat → Option (Nat × Nat)
  | 0 => o
  | l + 1 => ttS r N p l (ttI r N p o l)
def ttO (r : Nat → Int32) (N : Nat) : Nat → Option (Nat × Nat)
  | 0 => none
  | p + 1 => ttI r N p (ttO r N p) N
def sTTA (r : Nat → Int32) (N : Nat) (what : Int32) : Int32 := if sIn what 0 1 = false then -1 else if what = 1 then enc (ttO r N N) else mx 0 (ttB r N (ttO r N N))
def grd (N : Nat) : Nat → (Nat → Int32) → Int32 → Nat → Int32 × Nat
  | 0, _, v, k => (v, k)
  | f + 1, r, v, k => match sBestO r N with
    | none => (v, k)
    | some q => grd N f (sTurn r q.1 q.2) (v + sJoy r q.1 q.2) (k + 1)
def sGreA (r : Nat → Int32) (N : Nat) (u what : Int32) : Int32 := if sIn u 0 30 = false then -1 else if sIn what 0 1 = false then -1 else if what = 0 then (grd N (tn u) r 0 0).1 else nI (grd N (tn u) r 0 0).2
def brV (r : Nat → Int32) (N : Nat) (f : Int32) (k : Nat) : Int32 := sBJ (sAdds r N (nI k) f 0 9) (N + 1)
def brP (r : Nat → Int32) (N : Nat) (f : Int32) : Nat → Option Nat × Int32
  | 0 => (none, sBJ r N)
  | k + 1 => if (brP r N f k).2 < brV r N f k then (some k, brV r N f k) else brP r N f k
def sBringA (r : Nat → Int32) (N : Nat) (f : Int32) : Int32 := if sIn f 0 9 = false then -1 else encL (brP r N f 8).1
/-- told turns: el holds them from b on -/
def frg (N : Nat) (el : Nat → Int32) (b : Nat) : Nat → (Nat → Int32) → Nat → Int32
  | 0, _, _ => -4
  | f + 1, r, i => if sPer N (el (b + 2 * i)) = false then nI i else if sPer N (el (b + 2 * i + 1)) = false then nI i else if sEat r (tn (el (b + 2 * i))) (tn (el (b + 2 * i + 1))) = false then nI i else frg N el b f (sTurn r (tn (el (b + 2 * i))) (tn (el (b + 2 * i + 1)))) (i + 1)
def sForgA (r : Nat → Int32) (N : Nat) (ke so : Nat → Int32) (zz : Nat → Nat) (el : Nat → Int32) (d : Int32) : Int32 := if sWR ke so d (-1) = 0 then (if zz (tn d) % 2 = 1 then -13 else frg N el (100 * tn d) (zz (tn d) / 2) r 0) else sWR ke so d (-1)
def jdg (N : Nat) (el : Nat → Int32) (b : Nat) (lo : Int32) : Nat → (Nat → Int32) → Nat → Int32
  | 0, _, _ => -4
  | f + 1, r, i => match sBestO r N with
    | none => if el (b + i) = lo then jdg N el b lo f r (i + 1) else nI i
    | some q => if el (b + i) = lo then jdg N el b lo f (sTurn r q.1 q.2) (i + 1) else if el (b + i) = sJoy r q.1 q.2 then jdg N el b lo f (sTurn r q.1 q.2) (i + 1) else nI i
def sJudgeA (r : Nat → Int32) (N : Nat) (ke so : Nat → Int32) (zz : Nat → Nat) (el : Nat → Int32) (d : Int32) : Int32 := if sWR ke so d (-1) = 0 then jdg N el (100 * tn d) (sLeast (so (tn d))) (zz (tn d)) r 0 else sWR ke so d (-1)
/-- fetes by seeds: the row in mind, the seed, joys, turns -/
noncomputable def ftS (N : Nat) (x : (Nat → Int32) × Int32 × Int32 × Nat) : (Nat → Int32) × Int32 × Int32 × Nat :=
  if sEat x.1 (sRnd x.2.1 N) (sRnd (sDraw x.2.1) N) = false then (x.1, sDraw (sDraw x.2.1), x.2.2.1, x.2.2.2) else (sTurn x.1 (sRnd x.2.1 N) (sRnd (sDraw x.2.1) N), sDraw (sDraw x.2.1), x.2.2.1 + sJoy x.1 (sRnd x.2.1 N) (sRnd (sDraw x.2.1) N), x.2.2.2 + 1)
noncomputable def ftI (N : Nat) (x : (Nat → Int32) × Int32 × Int32 × Nat) : Nat → (Nat → Int32) × Int32 × Int32 × Nat
  | 0 => x
  | k + 1 => ftS N (ftI N x k)
noncomputable def ftO (r : Nat → Int32) (N : Nat) (z : Int32) : Nat → Int32 × Int32 × Nat
  | 0 => (z, 0, 0)
  | k + 1 => (ftI N (r, ftO r N z k) 10).2
noncomputable def sFetesA (r : Nat → Int32) (N : Nat) (u z what : Int32) : Int32 := if sIn u 1 20 = false then -1 else if sIn what 0 1 = false then -1 else if N = 0 then -3 else if what = 0 then (ftO r N z (tn u)).2.1 else nI (ftO r N z (tn u)).2.2
theorem ftI_0 (N : Nat) (x : (Nat → Int32) × Int32 × Int32 × Nat) : ∀ k, (ftI N x k).1 0 = x.1 0 := by
  intro k
  induction k with
  | zero => rw [ftI]
  | succ k ih =>
    rw [ftI]
    generalize ftI N x k = y at ih ⊢
    rw [ftS]
    split
    · exact ih
    · refine Eq.trans ?_ ih; exact sTurn_0 y.1 (sRnd y.2.1 N) (sRnd (sDraw y.2.1) N)
theorem ftS_k (N : Nat) (x : (Nat → Int32) × Int32 × Int32 × Nat) : (ftS N x).2.2.2 ≤ x.2.2.2 + 1 := by
  rw [ftS]
  split
  · exact Nat.le_succ _
  · exact Nat.le_refl _
theorem ftI_k (N : Nat) (x : (Nat → Int32) × Int32 × Int32 × Nat) : ∀ k, (ftI N x k).2.2.2 ≤ x.2.2.2 + k := by
  intro k
  induction k with
  | zero => rw [ftI]; exact Nat.le_refl _
  | succ k ih =>
    rw [ftI]
    generalize ftI N x k = y at ih ⊢
    have := ftS_k N y
    omega
theorem ftO_k (r : Nat → Int32) (N : Nat) (z : Int32) : ∀ k, (ftO r N z k).2.2 ≤ 10 * k := by
  intro k
  induction k with
  | zero => rw [ftO]; exact Nat.zero_le _
  | succ k ih =>
    rw [ftO]
    generalize ftO r N z k = y at ih ⊢
    have := ftI_k N (r, y) 10
    generalize ftI N (r, y) 10 = w at this ⊢
    simp only at this
    omega
/-! SPEC 5: told pairs, swaps, throats, crowds, rows copied -/
def bitX (x y : Int32) : Int32 := (x >>> (y &&& 31)) &&& 1
def wpSeen (el : Nat → Int32) (b : Nat) : Nat → Int32
  | 0 => 0
  | k + 1 => wpSeen el b k ||| ((1 : Int32) <<< (el (b + k) &&& 31))
def wpA (N : Nat) (el : Nat → Int32) (b : Nat) : Nat → Bool
  | 0 => true
  | k + 1 => wpA N el b k && (sPer N (el (b + k)) && !decide (bitX (wpSeen el b k) (el (b + k)) = 1))
def wpB (r el : Nat → Int32) (b : Nat) : Nat → Bool
  | 0 => true
  | i + 1 => wpB r el b i && sEat r (tn (el (b + 2 * i))) (tn (el (b + 2 * i + 1)))
theorem wpA_le {N : Nat} {el : Nat → Int32} {b : Nat} : ∀ {k j : Nat}, j ≤ k → wpA N el b k = true → wpA N el b j = true := by
  intro k
  induction k with
  | zero => intro j hj h; rw [Nat.le_zero.mp hj]; exact h
  | succ k ih =>
    intro j hj h
    rcases Nat.lt_or_ge j (k + 1) with q | q
    · unfold wpA at h
      simp only [Bool.and_eq_true] at h
      exact ih (by omega) h.1
    · rw [show j = k + 1 by omega]; exact h
theorem wpB_le {r el : Nat → Int32} {b : Nat} : ∀ {k j : Nat}, j ≤ k → wpB r el b k = true → wpB r el b j = true := by
  intro k
  induction k with
  | zero => intro j hj h; rw [Nat.le_zero.mp hj]; exact h
  | succ k ih =>
    intro j hj h
    rcases Nat.lt_or_ge j (k + 1) with q | q
    · unfold wpB at h
      simp only [Bool.and_eq_true] at h
      exact ih (by omega) h.1
    · rw [show j = k + 1 by omega]; exact h
theorem wpA_no {N : Nat} {el : Nat → Int32} {b k j : Nat} (hj : j ≤ k) (h : wpA N el b j = false) : wpA N el b k = false := by
  cases e : wpA N el b k with
  | false => rfl
  | true => rw [wpA_le hj e] at h; exact absurd h (by decide)
theorem wpB_no {r el : Nat → Int32} {b k j : Nat} (hj : j ≤ k) (h : wpB r el b j = false) : wpB r el b k = false := by
  cases e : wpB r el b k with
  | false => rfl
  | true => rw [wpB_le hj e] at h; exact absurd h (by decide)
theorem wpA_at {N : Nat} {el : Nat → Int32} {b k j : Nat} (hN : N < 2 ^ 31) (hj : j < k) (h : wpA N el b k = true) : ∃ x, x < N ∧ el (b + j) = nI x := by
  have h1 := wpA_le (j := j + 1) hj h
  unfold wpA at h1
  simp only [Bool.and_eq_true] at h1
  exact sPer_t hN h1.2.1
def sWPA (r : Nat → Int32) (N : Nat) (ke so : Nat → Int32) (zz : Nat → Nat) (el : Nat → Int32) (d : Int32) : Int32 := if sWR ke so d (-1) = 0 then (if zz (tn d) % 2 = 1 then -13 else if 8 < zz (tn d) then -13 else if wpA N el (100 * tn d) (zz (tn d)) = false then -13 else if wpB r el (100 * tn d) (zz (tn d) / 2) = false then -13 else 0) else sWR ke so d (-1)
theorem sWPA_0 {r : Nat → Int32} {N : Nat} {ke so : Nat → Int32} {zz : Nat → Nat} {el : Nat → Int32} {d : Int32} (h : sWPA r N ke so zz el d = 0) : ∃ j : Nat, j ≤ 7 ∧ ke j = 2 ∧ zz j % 2 ≠ 1 ∧ zz j ≤ 8 ∧ wpA N el (100 * j) (zz j) = true ∧ d = nI j := by
  unfold sWPA at h
  split at h
  · rename_i h0
    obtain ⟨j, hj, h1, -, rfl⟩ := sWR_0 h0
    have e : tn (nI j) = j := nI_clamp (by omega)
    rw [e] at h
    split at h
    · exact absurd h (by decide)
    · rename_i h2
      split at h
      · exact absurd h (by decide)
      · rename_i h3
        split at h
        · exact absurd h (by decide)
        · rename_i h4
          exact ⟨j, hj, h1, h2, by omega, by simpa using h4, rfl⟩
  · rename_i h0; exact absurd h h0
/-- what a swap brings -/
def swV (r el : Nat → Int32) (b i j : Nat) : Int32 := sJoy r (tn (el (b + 2 * i))) (tn (el (b + 2 * j + 1))) + sJoy r (tn (el (b + 2 * j))) (tn (el (b + 2 * i + 1))) - sJoy r (tn (el (b + 2 * i))) (tn (el (b + 2 * i + 1))) - sJoy r (tn (el (b + 2 * j))) (tn (el (b + 2 * j + 1)))
def swB (r el : Nat → Int32) (b : Nat) : Option (Nat × Nat) → Int32
  | none => 0
  | some q => swV r el b q.1 q.2
theorem swBS (r el : Nat → Int32) (b : Nat) (q : Nat × Nat) : swB r el b (some q) = swV r el b q.1 q.2 := rfl
def swS (r el : Nat → Int32) (b i j : Nat) (o : Option (Nat × Nat)) : Option (Nat × Nat) := if swB r el b o < swV r el b i j then some (i, j) else o
def swI (r el : Nat → Int32) (b i : Nat) (o : Option (Nat × Nat)) : Nat → Option (Nat × Nat)
  | 0 => o
  | j + 1 => if i < j then swS r el b i j (swI r el b i o j) else swI r el b i o j
theorem swI_0 (r el : Nat → Int32) (b i : Nat) (o : Option (Nat × Nat)) : ∀ j, j ≤ i + 1 → swI r el b i o j = o := by
  intro j
  induction j with
  | zero => intro _; rfl
  | succ j ih => intro h; unfold swI; rw [if_neg (by omega)]; exact ih (by omega)
def swO (r el : Nat → Int32) (b n : Nat) : Nat → Option (Nat × Nat)
  | 0 => none
  | i + 1 => swI r el b i (swO r el b n i) (if i + 1 ≤ n then n else i + 1)
def sSwapA (r : Nat → Int32) (N : Nat) (ke so : Nat → Int32) (zz : Nat → Nat) (el : Nat → Int32) (d : Int32) : Int32 := if sWPA r N ke so zz el d = 0 then enc (swO r el (100 * tn d) (zz (tn d) / 2) (zz (tn d) / 2)) else sWPA r N ke so zz el d
/-- throats -/
def tl (h w : Int32) : Nat → Int32
  | 0 => h
  | i + 1 => tl h w i - mn (tl h w i) w
def tk (el : Nat → Int32) (b : Nat) (h w : Int32) : Nat → Bool
  | 0 => true
  | i + 1 => tk el b h w i && decide (el (b + i) = mn (tl h w i) w)
def thS (el : Nat → Int32) (b z : Nat) (h f : Int32) : Nat → Int32
  | 0 => 0
  | k + 1 => thS el b z h f k ||| (if tk el b h (sBite (nI k) f) z = true then (1 : Int32) <<< (nI k &&& 31) else 0)
def sThroatA (ke so : Nat → Int32) (zz : Nat → Nat) (el : Nat → Int32) (d h f what : Int32) : Int32 := if sIn h 0 30 = false then -1 else if sIn f 0 9 = false then -1 else if sIn what 0 1 = false then -1 else if sWR ke so d (-1) = 0 then (if what = 0 then thS el (100 * tn d) (zz (tn d)) h f 8 else sBits (thS el (100 * tn d) (zz (tn d)) h f 8) 10) else sWR ke so d (-1)
theorem bI_and1 (b : Bool) : bI b &&& 1 = bI b := by cases b <;> decide
theorem bI_and0 (b : Bool) : bI b &&& 0 = bI false := by cases b <;> decide
/-- crowds -/
def pcn (x : Nat) : Nat → Nat
  | 0 => 0
  | k + 1 => pcn x k + x / 2 ^ k % 2
theorem pcn_le (x : Nat) : ∀ k, pcn x k ≤ k := by
  intro k; induction k with
  | zero => exact Nat.le_refl 0
  | succ k ih => unfold pcn; have := Nat.mod_lt (x / 2 ^ k) (show 2 > 0 by decide); omega
def crS (u t k : Nat) : Nat → Nat
  | 0 => 0
  | x + 1 => crS u t k x + (if k ≤ pcn x 10 / 2 then (t - 1) ^ (u - pcn x 10) else 0)
def sCrowdOk (u t k p : Int32) : Bool := sIn u 0 8 && sIn t 2 20 && sIn k 0 4 && sIn p 0 1
def sCrowdA (u t k p : Int32) : Int64 := if sCrowdOk u t k p = true then lN (sPOf (crS (tn u) (tn t) (tn k) (2 ^ tn u)) (tn t ^ tn u) (tn p)) else 1000000001
theorem sBits_n : ∀ x, x < 256 → sBits (nI x) 10 = nI (pcn x 10) := by decide +kernel
theorem crS_le {u t k : Nat} (hu : u ≤ 8) (h2 : 2 ≤ t) (ht : t ≤ 20) : ∀ x, crS u t k x ≤ x * 20 ^ 8 := by
  intro x; induction x with
  | zero => simp [crS]
  | succ x ih =>
    unfold crS
    have h : (if k ≤ pcn x 10 / 2 then (t - 1) ^ (u - pcn x 10) else 0) ≤ 20 ^ 8 := by
      split
      · exact Nat.le_trans (Nat.pow_le_pow_left (show t - 1 ≤ 20 by omega) _) (Nat.pow_le_pow_right (by decide) (by omega))
      · exact Nat.zero_le _
    omega
/-- rows copied, in place or not -/
def cpr (el : Nat → Int32) (a b u k : Nat) (up : Bool) : Nat → Int32 := fun j => if b ≤ j ∧ j < b + u ∧ (if up = true then j < b + k else b + (u - k) ≤ j) then el (a + (j - b)) else el j
