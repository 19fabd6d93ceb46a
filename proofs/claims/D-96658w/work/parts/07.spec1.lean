/-! SPEC 1: a fete as one row r of ints: r 0 people, r 1 slices, r 2 step; of the person p: r (3 + 6 * p) kind, 1 figure, 2 hunger, 3 wish, 4 eaten, 5 watched. All in Int32. -/
def sIn (v lo hi : Int32) : Bool := !decide (v < lo) && !decide (hi < v)
def mn (a b : Int32) : Int32 := if b ≤ a then b else a
def mx (a b : Int32) : Int32 := if a ≤ b then b else a
def sPer (N : Nat) (p : Int32) : Bool := sIn p 0 (nI N - 1)
def sBits (x : Int32) : Nat → Int32
  | 0 => 0
  | k + 1 => sBits x k + ((x >>> (nI k &&& 31)) &&& 1)
def sBite (k f : Int32) : Int32 := if k = 1 then 5 else if k = 2 then 3 + f / 2 else if k = 3 then 1 else if k = 5 then 2 else if k = 6 then 2 else if k = 7 then 9 else 3
def sGaze (k f : Int32) : Int32 := if k = 1 then 1 else if k = 2 then 4 else if k = 3 then 2 + f / 3 else if k = 4 then 0 else if k = 5 then 2 * (2 + f / 3) else if k = 6 then 1 else if k = 7 then 0 else 2
def sShy (k : Int32) : Int32 := if k = 6 then 2 else if k = 1 then 1 else if k = 2 then 1 else 0
def sBites (r : Nat → Int32) (p : Nat) : Int32 := mn (r (3 + 6 * p + 2)) (sBite (r (3 + 6 * p)) (r (3 + 6 * p + 1)))
def sGazes (r : Nat → Int32) (p : Nat) : Int32 := mn (r (3 + 6 * p + 3)) (sGaze (r (3 + 6 * p)) (r (3 + 6 * p + 1)))
def sLook (r : Nat → Int32) (p : Nat) : Bool := decide (r (3 + 6 * p + 4) = 0) && !decide (r (3 + 6 * p) = 4)
def sEat (r : Nat → Int32) (p l : Nat) : Bool := !decide (p = l) && !decide (r 1 ≤ 0) && !decide (r (3 + 6 * p + 2) ≤ 0) && sLook r l
def sJoyE (r : Nat → Int32) (p l : Nat) : Int32 := mx 0 (sBites r p - sShy (r (3 + 6 * p)) * r (3 + 6 * l + 5))
def sJoy (r : Nat → Int32) (p l : Nat) : Int32 := sJoyE r p l + sGazes r l
/-- a turn, store by store -/
def sT1 (r : Nat → Int32) (p : Nat) : Nat → Int32 := upd r (3 + 6 * p + 2) (r (3 + 6 * p + 2) - sBites r p)
def sT2 (r : Nat → Int32) (p l : Nat) : Nat → Int32 := upd (sT1 r p) (3 + 6 * l + 3) (sT1 r p (3 + 6 * l + 3) - sGazes (sT1 r p) l)
def sT3 (r : Nat → Int32) (p l : Nat) : Nat → Int32 := upd (sT2 r p l) (3 + 6 * p + 4) (mn 99 (sT2 r p l (3 + 6 * p + 4) + 1))
def sT4 (r : Nat → Int32) (p l : Nat) : Nat → Int32 := upd (sT3 r p l) (3 + 6 * l + 5) (mn 99 (sT3 r p l (3 + 6 * l + 5) + 1))
def sT5 (r : Nat → Int32) (p l : Nat) : Nat → Int32 := upd (sT4 r p l) 1 (sT4 r p l 1 - 1)
def sTurn (r : Nat → Int32) (p l : Nat) : Nat → Int32 := upd (sT5 r p l) 2 (sT5 r p l 2 + 1)
/-- a guest comes -/
def sA6 (r : Nat → Int32) (N : Nat) (k f h w : Int32) : Nat → Int32 :=
  upd (upd (upd (upd (upd (upd r (3 + 6 * N) k) (3 + 6 * N + 1) f) (3 + 6 * N + 2) h) (3 + 6 * N + 3) w) (3 + 6 * N + 4) 0) (3 + 6 * N + 5) 0
def sAdds (r : Nat → Int32) (N : Nat) (k f h w : Int32) : Nat → Int32 := upd (sA6 r N k f h w) 0 (nI (N + 1))
theorem sA6_0 (r : Nat → Int32) (N : Nat) (k f h w : Int32) : sA6 r N k f h w 0 = r 0 := by
  have e0 : ¬ (0 = 3 + 6 * N) := by omega
  have e1 : ¬ (0 = 3 + 6 * N + 1) := by omega
  have e2 : ¬ (0 = 3 + 6 * N + 2) := by omega
  have e3 : ¬ (0 = 3 + 6 * N + 3) := by omega
  have e4 : ¬ (0 = 3 + 6 * N + 4) := by omega
  have e5 : ¬ (0 = 3 + 6 * N + 5) := by omega
  simp only [sA6, upd, e0, e1, e2, e3, e4, e5, if_false]
/-- the best pair: none, or the pair; as the reference keeps it -/
def enc : Option (Nat × Nat) → Int32
  | none => -4
  | some q => nI (10 * q.1 + q.2)
def bval (r : Nat → Int32) : Option (Nat × Nat) → Int32
  | none => -1
  | some q => sJoy r q.1 q.2
theorem encS (q : Nat × Nat) : enc (some q) = nI (10 * q.1 + q.2) := rfl
theorem encN : enc none = -4 := rfl
theorem bvalS (r : Nat → Int32) (q : Nat × Nat) : bval r (some q) = sJoy r q.1 q.2 := rfl
def bstp (r : Nat → Int32) (p l : Nat) (o : Option (Nat × Nat)) : Option (Nat × Nat) := if sEat r p l = false then o else if bval r o < sJoy r p l then some (p, l) else o
def bin (r : Nat → Int32) (p : Nat) (o : Option (Nat × Nat)) : Nat → Option (Nat × Nat)
  | 0 => o
  | l + 1 => bstp r p l (bin r p o l)
def bout (r : Nat → Int32) (N : Nat) : Nat → Option (Nat × Nat)
  | 0 => none
  | p + 1 => bin r p (bout r N p) N
def sBestO (r : Nat → Int32) (N : Nat) : Option (Nat × Nat) := bout r N N
def sBest (r : Nat → Int32) (N : Nat) : Int32 := enc (sBestO r N)
def sBJ (r : Nat → Int32) (N : Nat) : Int32 := match sBestO r N with
  | none => 0
  | some q => sJoy r q.1 q.2
theorem bstp_in {r : Nat → Int32} {N p l : Nat} (hp : p < N) (hl : l < N) {o : Option (Nat × Nat)} (h : ∀ q, o = some q → q.1 < N ∧ q.2 < N) : ∀ q, bstp r p l o = some q → q.1 < N ∧ q.2 < N := by
  intro q hq
  unfold bstp at hq
  split at hq
  · exact h q hq
  · split at hq
    · cases hq; exact ⟨hp, hl⟩
    · exact h q hq
theorem bin_in {r : Nat → Int32} {N p : Nat} (hp : p < N) {o : Option (Nat × Nat)} (h : ∀ q, o = some q → q.1 < N ∧ q.2 < N) : ∀ l, l ≤ N → ∀ q, bin r p o l = some q → q.1 < N ∧ q.2 < N := by
  intro l
  induction l with
  | zero => intro _ q hq; exact h q hq
  | succ l ih => intro hl; exact bstp_in hp (by omega) (ih (by omega))
theorem bout_in {r : Nat → Int32} {N : Nat} : ∀ p, p ≤ N → ∀ q, bout r N p = some q → q.1 < N ∧ q.2 < N := by
  intro p
  induction p with
  | zero => intro _ q hq; cases hq
  | succ p ih => intro hp; exact bin_in (by omega) (ih (by omega)) N (Nat.le_refl N)
theorem sBestO_in {r : Nat → Int32} {N : Nat} {q : Nat × Nat} (h : sBestO r N = some q) : q.1 < N ∧ q.2 < N := bout_in N (Nat.le_refl N) q h
theorem enc_neg {o : Option (Nat × Nat)} {N : Nat} (hN : N ≤ 9) (h : ∀ q, o = some q → q.1 < N ∧ q.2 < N) : enc o < 0 ↔ o = none := by
  cases o with
  | none => exact ⟨fun _ => rfl, fun _ => by decide⟩
  | some q =>
    have := h q rfl
    exact ⟨fun hh => absurd hh (nI_pos (by omega)), fun hh => by cases hh⟩
theorem Int32_le_of_not {a b : Int32} (h : ¬ a < b) : b ≤ a := Int32.not_lt.mp h
theorem sIn_t {v : Int32} {a b : Nat} (ha : a < 2 ^ 31) (hb : b < 2 ^ 31) (h : sIn v (nI a) (nI b) = true) : ∃ j : Nat, a ≤ j ∧ j ≤ b ∧ v = nI j := by
  unfold sIn at h
  simp only [Bool.and_eq_true, Bool.not_eq_true', decide_eq_false_iff_not] at h
  have h1 := Int32_le_of_not h.1
  have h2 := Int32_le_of_not h.2
  have h0 : ¬ v < 0 := fun q => h.1 (by
    rw [Int32.lt_iff_toInt_lt] at q ⊢
    rw [nI_toInt ha]
    have e : (0 : Int32).toInt = 0 := rfl
    omega)
  obtain ⟨j, hj, rfl⟩ := nI_of h0
  exact ⟨j, (nI_leI ha hj).mp h1, (nI_leI hj hb).mp h2, rfl⟩
theorem sIn_n {j a b : Nat} (ha : a < 2 ^ 31) (hb : b < 2 ^ 31) (hj : j < 2 ^ 31) (h : sIn (nI j) (nI a) (nI b) = true) : a ≤ j ∧ j ≤ b := by
  unfold sIn at h
  simp only [Bool.and_eq_true, Bool.not_eq_true', decide_eq_false_iff_not] at h
  exact ⟨(nI_leI ha hj).mp (Int32_le_of_not h.1), (nI_leI hj hb).mp (Int32_le_of_not h.2)⟩
theorem sIn_i {j a b : Nat} (ha : a ≤ j) (hb : j ≤ b) (h : b < 2 ^ 31) : sIn (nI j) (nI a) (nI b) = true := by
  unfold sIn
  simp only [Bool.and_eq_true, Bool.not_eq_true', decide_eq_false_iff_not]
  exact ⟨nI_nlt ha (by omega), nI_nlt hb (by omega)⟩
theorem sPer_t {N : Nat} {v : Int32} (hN : N < 2 ^ 31) (h : sPer N v = true) : ∃ j : Nat, j < N ∧ v = nI j := by
  unfold sPer at h
  cases N with
  | zero =>
    exfalso
    unfold sIn at h
    simp only [Bool.and_eq_true, Bool.not_eq_true', decide_eq_false_iff_not] at h
    have h1 := h.1
    have h2 := h.2
    rw [Int32.lt_iff_toInt_lt] at h1 h2
    have e1 : (0 : Int32).toInt = 0 := rfl
    have e2 : (nI 0 - 1).toInt = -1 := rfl
    omega
  | succ n =>
    rw [nI_pred] at h
    obtain ⟨j, -, h2, e⟩ := sIn_t (a := 0) (by omega) (by omega) h
    exact ⟨j, by omega, e⟩
theorem sPer_n {N j : Nat} (hN : N < 2 ^ 31) (hj : j < 2 ^ 31) (h : sPer N (nI j) = true) : j < N := by
  obtain ⟨i, hi, e⟩ := sPer_t hN h
  have := (nI_eq hj (by omega)).mp e
  omega
theorem sPer_i {N j : Nat} (hN : N < 2 ^ 31) (hj : j < N) : sPer N (nI j) = true := by
  unfold sPer
  cases N with
  | zero => omega
  | succ n =>
    rw [nI_pred]
    exact sIn_i (a := 0) (Nat.zero_le _) (by omega) (by omega)
/-! SPEC 2: the calls on a row -/
def tn (x : Int32) : Nat := x.toNatClampNeg
def sWR (ke so : Nat → Int32) (d w : Int32) : Int32 := if sIn d 0 7 = false then -1 else if ke (tn d) = 0 then -11 else if ke (tn d) = 2 then (if w < 0 then 0 else if so (tn d) = w then 0 else -12) else -12
def sWK (ke : Nat → Int32) (d : Int32) : Int32 := if sIn d 0 7 = false then -1 else if ke (tn d) = 0 then -11 else if ke (tn d) = 2 then -12 else 0
def sWT (r : Nat → Int32) (N : Nat) (p q : Int32) : Int32 := if sPer N p = false then -1 else if sPer N q = false then -1 else if p = q then -1 else if sEat r (tn p) (tn q) = true then 0 else -3
def sPerson (r : Nat → Int32) (N : Nat) (p what : Int32) : Int32 :=
  if sPer N p = false then -1 else if sIn what 0 8 = false then -1 else if tn what < 6 then r (3 + 6 * tn p + tn what) else if tn what = 6 then sBite (r (3 + 6 * tn p)) (r (3 + 6 * tn p + 1)) else if tn what = 7 then sGaze (r (3 + 6 * tn p)) (r (3 + 6 * tn p + 1)) else sShy (r (3 + 6 * tn p))
/-- comes(d, h, w): the answer, the row after it -/
def sComesOk (ke : Nat → Int32) (N : Nat) (d h w : Int32) : Int32 := if sIn h 0 30 = false then -1 else if sIn w 0 30 = false then -1 else if sWK ke d = 0 then (if N = 8 then -2 else 0) else sWK ke d
def sComesA (ke : Nat → Int32) (N : Nat) (d h w : Int32) : Int32 := if sComesOk ke N d h w = 0 then nI N else sComesOk ke N d h w
def sComesS (ke kk kf r : Nat → Int32) (N : Nat) (d h w : Int32) : Nat → Int32 := if sComesOk ke N d h w = 0 then sAdds r N (kk (tn d)) (kf (tn d)) h w else r
def sFeelsOk (N : Nat) (p what v : Int32) : Bool := sPer N p && sIn what 0 1 && sIn v 0 30
def sFeelsAt (p what : Int32) : Nat := if what = 0 then 3 + 6 * tn p + 2 else 3 + 6 * tn p + 3
def sFeelsA (r : Nat → Int32) (N : Nat) (p what v : Int32) : Int32 := if sFeelsOk N p what v = true then r (sFeelsAt p what) else -1
def sFeelsS (r : Nat → Int32) (N : Nat) (p what v : Int32) : Nat → Int32 := if sFeelsOk N p what v = true then upd r (sFeelsAt p what) v else r
def sSlicesA (r : Nat → Int32) (v : Int32) : Int32 := if sIn v 0 99 = true then r 1 else -1
def sSlicesS (r : Nat → Int32) (v : Int32) : Nat → Int32 := if sIn v 0 99 = true then upd r 1 v else r
def sEatsA (r : Nat → Int32) (N : Nat) (p q : Int32) : Int32 := if sWT r N p q = 0 then (if r 2 = 999 then -3 else sJoy r (tn p) (tn q)) else sWT r N p q
def sEatsS (r : Nat → Int32) (N : Nat) (p q : Int32) : Nat → Int32 := if sWT r N p q = 0 then (if r 2 = 999 then r else sTurn r (tn p) (tn q)) else r
def sJoysA (r : Nat → Int32) (N : Nat) (p q what : Int32) : Int32 := if sIn what 0 2 = false then -1 else if sWT r N p q = 0 then (if what = 0 then sJoy r (tn p) (tn q) else if what = 1 then sJoyE r (tn p) (tn q) else sGazes r (tn q)) else sWT r N p q
def whS (what : Int32) (p l : Nat) : Int32 := if what = 0 then nI p else nI l
def whI (r : Nat → Int32) (what : Int32) (p : Nat) (x : Int32) : Nat → Int32
  | 0 => x
  | l + 1 => whI r what p x l ||| (if sEat r p l = true then (1 : Int32) <<< (whS what p l &&& 31) else 0)
def whO (r : Nat → Int32) (what : Int32) (N : Nat) : Nat → Int32
  | 0 => 0
  | p + 1 => whI r what p (whO r what N p) N
def sWhoA (r : Nat → Int32) (N : Nat) (what : Int32) : Int32 := if sIn what 0 1 = false then -1 else whO r what N N
def sBPA (r : Nat → Int32) (N : Nat) (what : Int32) : Int32 := if sIn what 0 1 = false then -1 else if what = 0 then sBest r N else match sBestO r N with
  | none => -4
  | some q => sJoy r q.1 q.2
def encL : Option Nat → Int32
  | none => -4
  | some l => nI l
theorem encLS (l : Nat) : encL (some l) = nI l := rfl
theorem encLN : encL none = -4 := rfl
def blS (r : Nat → Int32) (p l : Nat) (o : Option Nat) : Option Nat := if sEat r p l = false then o else match o with
  | none => some l
  | some b => if sJoy r p b < sJoy r p l then some l else some b
def blO (r : Nat → Int32) (p : Nat) : Nat → Option Nat
  | 0 => none
  | l + 1 => blS r p l (blO r p l)
def sBLA (r : Nat → Int32) (N : Nat) (p : Int32) : Int32 := if sPer N p = false then -1 else encL (blO r (tn p) N)
theorem blO_in {r : Nat → Int32} {p : Nat} : ∀ l b, blO r p l = some b → b < l := by
  intro l
  induction l with
  | zero => intro b h; cases h
  | succ l ih =>
    intro b h
    unfold blO blS at h
    split at h
    · exact Nat.lt_succ_of_lt (ih b h)
    · split at h
      · cases h; exact Nat.lt_succ_self l
      · rename_i b' hb'
        split at h
        · cases h; exact Nat.lt_succ_self l
        · cases h; exact Nat.lt_succ_of_lt (ih _ hb')
theorem sWT_0 {r : Nat → Int32} {N : Nat} {p q : Int32} (hN : N < 2 ^ 31) (h : sWT r N p q = 0) : ∃ j k : Nat, j < N ∧ k < N ∧ j ≠ k ∧ sEat r j k = true ∧ p = nI j ∧ q = nI k := by
  unfold sWT at h
  split at h
  · exact absurd h (by decide)
  · rename_i h1
    split at h
    · exact absurd h (by decide)
    · rename_i h2
      split at h
      · exact absurd h (by decide)
      · rename_i h3
        split at h
        · rename_i h4
          obtain ⟨j, hj, rfl⟩ := sPer_t hN (Bool.not_eq_false _ ▸ h1 : sPer N p = true)
          obtain ⟨k, hk, rfl⟩ := sPer_t hN (Bool.not_eq_false _ ▸ h2 : sPer N q = true)
          unfold tn at h4
          rw [nI_clamp (by omega), nI_clamp (by omega)] at h4
          exact ⟨j, k, hj, hk, fun e => h3 (by rw [e]), h4, rfl, rfl⟩
        · exact absurd h (by decide)
theorem sWR_0 {ke so : Nat → Int32} {d w : Int32} (h : sWR ke so d w = 0) : ∃ j : Nat, j ≤ 7 ∧ ke j = 2 ∧ (0 ≤ w → so j = w) ∧ d = nI j := by
  unfold sWR at h
  split at h
  · exact absurd h (by decide)
  · rename_i h1
    obtain ⟨j, -, hj, rfl⟩ := sIn_t (a := 0) (b := 7) (by decide) (by decide) (Bool.not_eq_false _ ▸ h1 : sIn d 0 7 = true)
    have e : tn (nI j) = j := nI_clamp (by omega)
    rw [e] at h
    split at h
    · exact absurd h (by decide)
    · split at h
      · rename_i h3
        refine ⟨j, hj, h3, fun hw => ?_, rfl⟩
        split at h
        · rename_i h4
          exact absurd h4 (Int32.not_lt.mpr hw)
        · split at h
          · rename_i h5; exact h5
          · exact absurd h (by decide)
      · exact absurd h (by decide)
theorem sWK_0 {ke : Nat → Int32} {d : Int32} (h : sWK ke d = 0) : ∃ j : Nat, j ≤ 7 ∧ ke j ≠ 0 ∧ ke j ≠ 2 ∧ d = nI j := by
  unfold sWK at h
  split at h
  · exact absurd h (by decide)
  · rename_i h1
    obtain ⟨j, -, hj, rfl⟩ := sIn_t (a := 0) (b := 7) (by decide) (by decide) (Bool.not_eq_false _ ▸ h1 : sIn d 0 7 = true)
    have e : tn (nI j) = j := nI_clamp (by omega)
    rw [e] at h
    split at h
    · exact absurd h (by decide)
    · rename_i h2
      split at h
      · exact absurd h (by decide)
      · rename_i h3
        exact ⟨j, hj, h2, h3, rfl⟩
/-! SPEC 3: sums, counts and prices on a row; numbers -/
def sHun (r : Nat → Int32) : Nat → Int32
  | 0 => 0
  | p + 1 => sHun r p + r (3 + 6 * p + 2)
def sPart (r : Nat → Int32) (N p : Nat) : Int32 := if sHun r N = 0 then 0 else r 1 * r (3 + 6 * p + 2) / sHun r N
def sShL (r : Nat → Int32) (N : Nat) : Nat → Int32
  | 0 => r 1
  | q + 1 => sShL r N q - sPart r N q
def sSharesA (r : Nat → Int32) (N : Nat) (p : Int32) : Int32 := if p = -1 then sShL r N N else if sPer N p = false then -1 else sPart r N (tn p)
def sPOf (u v p : Nat) : Nat := if u = 0 then p else if p = 0 then u / Nat.gcd u v else v / Nat.gcd u v
def sMeanA (hs N : Nat) (p : Int32) : Int64 := if sIn p 0 1 = true then lN (sPOf hs N (tn p)) else 1000000001
def jlI (r : Nat → Int32) (p : Nat) (x : Int32) : Nat → Int32
  | 0 => x
  | l + 1 => jlI r p x l + (if sEat r p l = true then (if sJoy r p l = 0 then 1 else 0) else 0)
def jlO (r : Nat → Int32) (N : Nat) : Nat → Int32
  | 0 => 0
  | p + 1 => jlI r p (jlO r N p) N
def bitI (x : Int32) (l : Nat) : Int32 := (x >>> (nI l &&& 31)) &&& 1
def seN (r : Nat → Int32) (x : Int32) : Nat → Int32
  | 0 => 0
  | l + 1 => seN r x l + (if bitI x l = 0 then (if sLook r l = true then 1 else 0) else 0)
def seB (r : Nat → Int32) (x : Int32) : Nat → Bool
  | 0 => false
  | p + 1 => seB r x p || (decide (bitI x p = 1) && (decide (r 1 = 0) || decide (r (3 + 6 * p + 2) = 0)))
def seV (b : Bool) (x : Int32) : Int32 := if b = true then 0 else x
def sSeenA (r : Nat → Int32) (N : Nat) (x : Int32) : Int32 := if sIn x 0 (nI (2 ^ N - 1)) = false then -1 else seV (seB r x N) (seN r x N)
def sBuy (r : Nat → Int32) (v : Int32) : Nat → Int32
  | 0 => 0
  | p + 1 => sBuy r v p + (if r (3 + 6 * p + 2) ≤ 0 then 0 else if sBites r p < v then 0 else 1)
def sSel (r : Nat → Int32) (v : Int32) : Nat → Int32
  | 0 => 0
  | p + 1 => sSel r v p + (if sLook r p = true then (if v ≤ sGazes r p then 0 else 1) else 0)
def sPricesA (r : Nat → Int32) (N : Nat) (v what : Int32) : Int32 := if sIn v 0 31 = false then -1 else if sIn what 0 1 = false then -1 else if what = 0 then sBuy r v N else sSel r v N
def clP (r : Nat → Int32) (N : Nat) (g : Int32) (v : Nat) : Bool := !decide (r 1 < sBuy r (nI v) N) && !decide (sSel r g N < sBuy r (nI v) N)
def clr (P : Nat → Bool) : Nat → Nat → Int32
  | 0, _ => -4
  | k + 1, v => if P v = true then nI v else clr P k (v + 1)
def sClearsA (r : Nat → Int32) (N : Nat) (g : Int32) : Int32 := if sIn g 0 31 = false then -1 else clr (clP r N g) 32 0
def sStuckA (r : Nat → Int32) (N : Nat) : Int32 := if r 1 ≤ 0 then 0 else if sHun r N ≤ 0 then 0 else match sBestO r N with
  | none => 1
  | some _ => 0
def sFeedsA (r : Nat → Int32) (N : Nat) (p : Int32) : Int32 := if sPer N p = false then -1 else (r (3 + 6 * tn p + 2) + sBite (r (3 + 6 * tn p)) (r (3 + 6 * tn p + 1)) - 1) / sBite (r (3 + 6 * tn p)) (r (3 + 6 * tn p + 1))
/-- of the reference's atAll: whom it finds, how many are hungry, see, don't -/
def isOne (r : Nat → Int32) (p : Nat) : Bool := !decide (r (3 + 6 * p + 2) ≤ 0) && decide (r (3 + 6 * p + 4) = 0)
def aF (r : Nat → Int32) : Nat → Option Nat
  | 0 => none
  | p + 1 => if sLook r p = false then aF r p else match aF r p with
    | none => some p
    | some b => if r (3 + 6 * p + 2) < r (3 + 6 * b + 2) then some p else some b
def aH (r : Nat → Int32) : Nat → Nat
  | 0 => 0
  | p + 1 => aH r p + (if isOne r p = true then 1 else 0)
def aS (r : Nat → Int32) : Nat → Nat
  | 0 => 0
  | p + 1 => aS r p + (if sLook r p = true then (if isOne r p = true then 1 else 0) else 0)
def aO (r : Nat → Int32) : Nat → Nat
  | 0 => 0
  | p + 1 => aO r p + (if sLook r p = true then (if isOne r p = true then 0 else 1) else 0)
theorem aH_le (r : Nat → Int32) : ∀ p, aH r p ≤ p := by
  intro p; induction p with
  | zero => exact Nat.le_refl 0
  | succ p ih => unfold aH; split <;> omega
theorem aS_le (r : Nat → Int32) : ∀ p, aS r p ≤ p := by
  intro p; induction p with
  | zero => exact Nat.le_refl 0
  | succ p ih => unfold aS; split <;> (try split) <;> omega
theorem aO_le (r : Nat → Int32) : ∀ p, aO r p ≤ p := by
  intro p; induction p with
  | zero => exact Nat.le_refl 0
  | succ p ih => unfold aO; split <;> (try split) <;> omega
theorem aF_in {r : Nat → Int32} : ∀ l b, aF r l = some b → b < l := by
  intro l
  induction l with
  | zero => intro b h; cases h
  | succ l ih =>
    intro b h
    unfold aF at h
    split at h
    · exact Nat.lt_succ_of_lt (ih b h)
    · split at h
      · cases h; exact Nat.lt_succ_self l
      · rename_i b' hb'
        split at h
        · cases h; exact Nat.lt_succ_self l
        · cases h; exact Nat.lt_succ_of_lt (ih _ hb')
def sAtAllA (r : Nat → Int32) (N : Nat) (what : Int32) : Int32 := if sIn what 0 1 = false then -1 else if what = 1 then encL (aF r N) else mn (r 1) (if 0 < aO r N then nI (aH r N) else if 0 < aS r N then nI (aH r N) - 1 else 0)
theorem sDraw_ex : ∃ f : Int32 → Int32, ∀ z, f z = z * 1103515245 + 12345 := ⟨_, fun _ => rfl⟩
/-- the next seed (chosen, so that nothing ever computes it) -/
noncomputable def sDraw : Int32 → Int32 := Classical.choose sDraw_ex
theorem sDraw_eq (z : Int32) : sDraw z = z * 1103515245 + 12345 := Classical.choose_spec sDraw_ex z
theorem sRnd_ex : ∃ f : Int32 → Nat → Nat, ∀ z N, f z N = (sDraw z).toBitVec.toNat % 2147483648 / 65536 % N := ⟨_, fun _ _ => rfl⟩
noncomputable def sRnd : Int32 → Nat → Nat := Classical.choose sRnd_ex
theorem sRnd_eq (z : Int32) (N : Nat) : sRnd z N = (sDraw z).toBitVec.toNat % 2147483648 / 65536 % N := Classical.choose_spec sRnd_ex z N
theorem sRnd_lt (z : Int32) {N : Nat} (h : 0 < N) : sRnd z N < N := by rw [sRnd_eq]; exact Nat.mod_lt _ h
theorem rnd31 (x : Int32) : x &&& 2147483647 = nI (x.toBitVec.toNat % 2147483648) := pk_and x 31 (by decide)
theorem drw (z : Int32) {N : Nat} (h0 : 0 < N) (h : N ≤ 9) : (sDraw z &&& 2147483647) / 65536 - (sDraw z &&& 2147483647) / 65536 / nI N * nI N = nI (sRnd z N) := by
  rw [sRnd_eq]
  generalize sDraw z = x
  rw [rnd31]
  generalize x.toBitVec.toNat = k
  have h1 : k % 2147483648 < 2 ^ 31 := Nat.mod_lt _ (by decide)
  rw [show (65536 : Int32) = nI 65536 from by decide, pk_div h1 (by decide) (by decide)]
  exact pk_rem (Nat.lt_of_le_of_lt (Nat.div_le_self _ _) h1) h0 (by omega)
def sLeast (k : Int32) : Int32 := if k = 0 then -128 else if k = 1 then -32768 else -2147483648
def sLastA (u k what : Int32) : Int32 := if sIn u 0 99 = false then -1 else if sIn k 1 9 = false then -1 else if sIn what 0 1 = false then -1 else if what = 1 then nI (tn u % (tn k + 1)) else if tn u % (tn k + 1) = 0 then 0 else 1
def sCost (k f : Int32) : Int32 := if k = 1 then 3 else if k = 2 then 4 + f else if k = 3 then 10 else if k = 4 then 2 else if k = 5 then 10 + f else if k = 6 then 6 else if k = 7 then 1 else 4
def sCostA (ke kk kf : Nat → Int32) (d : Int32) : Int32 := if sWK ke d = 0 then sCost (kk (tn d)) (kf (tn d)) else sWK ke d
def sToss (k f : Int32) : Int32 := if k = 4 then -15 else if k = 7 then -15 else if f = 0 then -15 else if k = 5 then 200 + sCost k f else if k = 3 then 100 + f else f
def sTossA (ke kk kf : Nat → Int32) (d : Int32) : Int32 := if sWK ke d = 0 then sToss (kk (tn d)) (kf (tn d)) else sWK ke d
def sKeepOk (d what k f : Int32) : Bool := sIn d 0 7 && sIn what 0 1 && (!decide (what = 1) || (sIn k 0 7 && sIn f 0 9))
def sKeepA (d what k f : Int32) : Int32 := if sKeepOk d what k f = true then 0 else -1
def sKeepS (d what k f : Int32) (g : Nat → Int32) (x : Int32) : Nat → Int32 := if sKeepOk d what k f = true then upd g (tn d) x else g
abbrev nIf (z : Nat → Nat) : Nat → Int32 := fun d => nI (z d)
def upN (z : Nat → Nat) (k x : Nat) : Nat → Nat := fun j => if j = k then x else z j
theorem nIf_upd (z : Nat → Nat) (k x : Nat) : upd (nIf z) k (nI x) = nIf (upN z k x) := funext fun j => by
  unfold upd upN nIf
  by_cases h : j = k <;> simp [h]
def zer (el : Nat → Int32) (d k : Nat) : Nat → Int32 := fun j => if 100 * d ≤ j ∧ j < 100 * d + k then 0 else el j
theorem zer_0 (el : Nat → Int32) (d : Nat) : zer el d 0 = el := funext fun j => by
  simp only [zer]
  rw [if_neg (by omega)]
theorem zer_s (el : Nat → Int32) (d k : Nat) : zer el d (k + 1) = upd (zer el d k) (100 * d + k) 0 := funext fun j => by
  simp only [zer, upd]
  by_cases h : j = 100 * d + k
  · rw [if_pos (by omega), if_pos h]
  · rw [if_neg h]
    by_cases h2 : 100 * d ≤ j ∧ j < 100 * d + k
    · rw [if_pos h2, if_pos (by omega)]
    · rw [if_neg h2, if_neg (by omega)]
/-- row(d, sort, n): 0 and it is made, or why not -/
def sRowA (d so n : Int32) : Int32 := if sIn d 0 7 = false then -1 else if sIn so 0 2 = false then -1 else if 100 < n then -1 else if n < 0 then -14 else 0
def sNar (so v : Int32) : Int32 := if so = 0 then v.toInt8.toInt32 else if so = 1 then v.toInt16.toInt32 else v
def sPutA (ke so : Nat → Int32) (zz : Nat → Nat) (d i : Int32) : Int32 := if sWR ke so d (-1) = 0 then (if sPer (zz (tn d)) i = true then 0 else -13) else sWR ke so d (-1)
def sPutS (ke so : Nat → Int32) (zz : Nat → Nat) (el : Nat → Int32) (d i v : Int32) : Nat → Int32 := if sPutA ke so zz d i = 0 then upd el (100 * tn d + tn i) (sNar (so (tn d)) v) else el
def sThr (ke : Nat → Int32) (zz : Nat → Nat) (d i : Int32) : Int32 := if sIn d 0 7 = false then 1 else if ke (tn d) = 2 then (if sPer (zz (tn d)) i = true then 0 else 2) else 2
def sElemA (ke : Nat → Int32) (zz : Nat → Nat) (el : Nat → Int32) (d i : Int32) : Int64 := if sThr ke zz d i = 0 then (el (100 * tn d + tn i)).toInt64 else 0
def cntS (r : Nat → Int32) (w : Int32) : Nat → Int32
  | 0 => 0
  | p + 1 => cntS r w p + (if w = 3 then r (3 + 6 * p + 2) else if w = 4 then r (3 + 6 * p + 3) else if w = 5 then r (3 + 6 * p + 4) else if r (3 + 6 * p + 4) = 0 then (1 : Int32) <<< (nI p &&& 31) else 0)
def sCountA (r : Nat → Int32) (N : Nat) (what : Int32) : Int32 := if sIn what 0 2 = true then r (tn what) else if sIn what 3 6 = false then -1 else cntS r what N
theorem shl1 : ∀ N, N < 31 → (1 : Int32) <<< (nI N &&& 31) = nI (2 ^ N) := by decide
theorem pow_le9 {N : Nat} (h : N ≤ 9) : 1 ≤ 2 ^ N ∧ 2 ^ N ≤ 512 := ⟨Nat.one_le_two_pow, Nat.pow_le_pow_right (by decide) h⟩
