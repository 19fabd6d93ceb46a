/-! SPEC 14: sets of people as numbers; pairs all at once as the class computes them -/
def ntz (s : Nat) : Nat := if s % 2 = 1 then 0 else if s / 2 % 2 = 1 then 1 else if s / 4 % 2 = 1 then 2 else if s / 8 % 2 = 1 then 3 else if s / 16 % 2 = 1 then 4 else if s / 32 % 2 = 1 then 5 else if s / 64 % 2 = 1 then 6 else 7
def tzm (s : Nat) : Nat := 2 ^ ntz s - 1
def rmv (s p : Nat) : Nat := if s / 2 ^ p % 2 = 1 then s - 2 ^ p else s
def wo (s p q : Nat) : Nat := rmv (rmv s p) q
theorem tzm_n : ∀ s, s < 256 → s ≠ 0 → (nI s ^^^ -1) &&& (nI s - 1) = nI (tzm s) := by decide +kernel
theorem tzm_0 : (nI 0 ^^^ -1) &&& (nI 0 - 1) = -1 := by decide +kernel
theorem tzm_lt : ∀ s, s < 256 → tzm s < 128 := by decide +kernel
theorem tz_1 : ∀ s, s < 256 → s ≠ 0 → tzm s = 0 → ntz s = 0 := by decide +kernel
theorem tz_2 : ∀ s, s < 256 → s ≠ 0 → 0 < tzm s → ntz s = (if 16 < tzm s then (if 4 < tzm s / 16 then 1 + 4 + 2 + tzm s / 16 / 4 / 2 else 1 + 4 + tzm s / 16 / 2) else if 4 < tzm s then 1 + 2 + tzm s / 4 / 2 else 1 + tzm s / 2) := by decide +kernel
theorem ntz_spec : ∀ s, s < 256 → s ≠ 0 → s / 2 ^ ntz s % 2 = 1 ∧ 2 ^ ntz s ≤ s ∧ ntz s < 8 := by decide +kernel
theorem low_n : ∀ s, s < 256 → s ≠ 0 → nI s &&& (nI s - 1) = nI (rmv s (ntz s)) := by decide +kernel
theorem rmv_le (s p : Nat) : rmv s p ≤ s := by
  unfold rmv
  split
  · exact Nat.sub_le _ _
  · exact Nat.le_refl _
theorem wo_le (s p q : Nat) : wo s p q ≤ s := Nat.le_trans (rmv_le _ _) (rmv_le _ _)
theorem wo_n : ∀ s, s < 256 → ∀ p, p < 8 → ∀ q, q < 8 → (nI s &&& (((1 : Int32) <<< (nI p &&& 31)) ^^^ -1)) &&& (((1 : Int32) <<< (nI q &&& 31)) ^^^ -1) = nI (wo s p q) := by decide +kernel
theorem ntz_lt {s N : Nat} (h : s < 2 ^ N) (hN : N ≤ 8) (h0 : s ≠ 0) : ntz s < N := by
  have h2 : 2 ^ N ≤ 256 := Nat.pow_le_pow_right (by decide) hN
  have h1 := (ntz_spec s (by omega) h0).2.1
  rcases Nat.lt_or_ge (ntz s) N with q | q
  · exact q
  · have := Nat.pow_le_pow_right (show 2 > 0 by decide) q; omega
theorem rmv_lt {s : Nat} (h : s < 256) (h0 : s ≠ 0) : rmv s (ntz s) < s := by
  obtain ⟨h1, h2, h3⟩ := ntz_spec s h h0
  unfold rmv
  rw [if_pos h1]
  have : 0 < 2 ^ ntz s := Nat.pow_pos (by decide)
  omega
theorem sBt_n {s k : Nat} (h : s < 2 ^ 31) (hk : k < 31) : sBt (nI s) k = decide (s / 2 ^ k % 2 = 1) := by
  unfold sBt bitI
  have hs : nI s >>> (nI k &&& 31) = nI (s / 2 ^ k) := by
    have : nI k &&& 31 = nI k := by
      have this : nI k &&& 31 = nI ((nI k).toBitVec.toNat % 2 ^ 5) := pk_and (nI k) 5 (by decide)
      have h2 : (nI k).toBitVec.toNat = k := by
        show (BitVec.ofNat 32 k).toNat = k
        rw [BitVec.toNat_ofNat]; omega
      rw [h2] at this
      rw [show k % 2 ^ 5 = k by omega] at this
      exact this
    rw [this]
    exact pk_shrN h _ k (by
      have h2 : (nI k).toBitVec = BitVec.ofNat 32 k := rfl
      rw [h2]
      have h3 : BitVec.smod (BitVec.ofNat 32 k) 32 = BitVec.ofNat 32 k := by
        have : ∀ k, k < 31 → BitVec.smod (BitVec.ofNat 32 k) 32 = BitVec.ofNat 32 k := by decide +kernel
        exact this k hk
      rw [h3, BitVec.toNat_ofNat]; omega)
  rw [hs]
  have h4 : nI (s / 2 ^ k) &&& 1 = nI (s / 2 ^ k % 2) := by
    have this : nI (s / 2 ^ k) &&& 1 = nI ((nI (s / 2 ^ k)).toBitVec.toNat % 2 ^ 1) := pk_and (nI (s / 2 ^ k)) 1 (by decide)
    have h2 : (nI (s / 2 ^ k)).toBitVec.toNat = s / 2 ^ k := by
      show (BitVec.ofNat 32 (s / 2 ^ k)).toNat = _
      rw [BitVec.toNat_ofNat]
      exact Nat.mod_eq_of_lt (Nat.lt_of_le_of_lt (Nat.div_le_self _ _) (by omega))
    rw [h2] at this
    exact this
  rw [h4]
  rcases Nat.mod_two_eq_zero_or_one (s / 2 ^ k) with e | e <;> rw [e] <;> rfl
theorem mx_n {a b : Nat} (ha : a < 2 ^ 31) (hb : b < 2 ^ 31) : mx (nI a) (nI b) = nI (max a b) := by
  unfold mx
  by_cases h : a ≤ b
  · rw [if_pos ((nI_leI ha hb).mpr h), Nat.max_eq_right h]
  · rw [if_neg (fun q => h ((nI_leI ha hb).mp q)), Nat.max_eq_left (by omega)]
theorem RI.jn {r : Nat → Int32} {N p q : Nat} (h : RI r N) (hp : p < N) (hq : q < N) : sJoy r p q = nI (tn (sJoy r p q)) ∧ tn (sJoy r p q) ≤ 60 := by
  obtain ⟨x, hx, e⟩ := h.joy hp hq
  rw [e]
  have : tn (nI x) = x := nI_clamp (by omega)
  rw [this]
  exact ⟨rfl, hx⟩
def pvS (r : Nat → Int32) (E : Nat → Nat → Nat) (m s p q v : Nat) : Nat :=
  if sBt (nI s) q = false then v else
    if sEat r q p = true then max (if sEat r p q = true then max v (tn (sJoy r p q) + E (m - 1) (wo s p q)) else v) (tn (sJoy r q p) + E (m - 1) (wo s q p))
    else if sEat r p q = true then max v (tn (sJoy r p q) + E (m - 1) (wo s p q)) else v
def pvI (r : Nat → Int32) (E : Nat → Nat → Nat) (m s p b : Nat) : Nat → Nat
  | 0 => b
  | q + 1 => if q ≤ p then b else pvS r E m s p q (pvI r E m s p b q)
theorem pvI_0 (r : Nat → Int32) (E : Nat → Nat → Nat) (m s p b : Nat) : ∀ q, q ≤ p + 1 → pvI r E m s p b q = b := by
  intro q; induction q with
  | zero => intro _; rfl
  | succ q ih => intro h; unfold pvI; rw [if_pos (by omega)]
def pV (r : Nat → Int32) (N : Nat) : Nat → Nat → Nat → Nat
  | 0, _, _ => 0
  | f + 1, m, s => if s = 0 then 0 else if m = 0 then pV r N f 0 (rmv s (ntz s)) else pvI r (fun m' s' => pV r N f m' s') m s (ntz s) (pV r N f m (rmv s (ntz s))) N
def xV (r : Nat → Int32) (N m s : Nat) : Nat := pV r N s m s
theorem pvS_congr {r : Nat → Int32} {E F : Nat → Nat → Nat} {m s p q v : Nat} (h1 : E (m - 1) (wo s p q) = F (m - 1) (wo s p q)) (h2 : sBt (nI s) q = true → E (m - 1) (wo s q p) = F (m - 1) (wo s q p)) : pvS r E m s p q v = pvS r F m s p q v := by
  unfold pvS
  split
  · rfl
  · rename_i h; rw [h1, h2 (by simpa using h)]
theorem pvI_congr {r : Nat → Int32} {E F : Nat → Nat → Nat} {m s p b : Nat} : ∀ {q : Nat}, (∀ j, p < j → j < q → E (m - 1) (wo s p j) = F (m - 1) (wo s p j) ∧ (sBt (nI s) j = true → E (m - 1) (wo s j p) = F (m - 1) (wo s j p))) → pvI r E m s p b q = pvI r F m s p b q := by
  intro q; induction q with
  | zero => intro _; rfl
  | succ q ih =>
    intro h
    unfold pvI
    split
    · rfl
    · rename_i hq
      rw [ih (fun j h1 h2 => h j h1 (by omega))]
      obtain ⟨g1, g2⟩ := h q (by omega) (by omega)
      exact pvS_congr g1 g2
theorem rmv_bit {s k : Nat} (h : s / 2 ^ k % 2 = 1) : rmv s k < s := by
  unfold rmv
  rw [if_pos h]
  have h1 : 0 < 2 ^ k := Nat.pow_pos (by decide)
  have h2 : 2 ^ k ≤ s := by
    rcases Nat.lt_or_ge s (2 ^ k) with q | q
    · rw [Nat.div_eq_of_lt q] at h; omega
    · exact q
  omega
theorem pV_fuel {r : Nat → Int32} {N : Nat} (hN : N ≤ 8) : ∀ (f g m s : Nat), s < 256 → s ≤ f → s ≤ g → pV r N f m s = pV r N g m s := by
  intro f
  induction f with
  | zero =>
    intro g m s hs h1 h2
    rw [show s = 0 by omega]
    cases g with
    | zero => rfl
    | succ g => rw [pV, pV]; simp
  | succ f ih =>
    intro g m s hs h1 h2
    cases g with
    | zero => rw [show s = 0 by omega]; rw [pV, pV]; simp
    | succ g =>
      rw [pV, pV]
      by_cases h0 : s = 0
      · rw [if_pos h0, if_pos h0]
      · rw [if_neg h0, if_neg h0]
        have hl := rmv_lt hs h0
        by_cases hm : m = 0
        · rw [if_pos hm, if_pos hm]; exact ih g 0 _ (by omega) (by omega) (by omega)
        · rw [if_neg hm, if_neg hm, ih g m _ (by omega) (by omega) (by omega)]
          refine pvI_congr fun j h3 h4 => ⟨?_, fun hb => ?_⟩
          · have := rmv_le (rmv s (ntz s)) j
            exact ih g _ _ (Nat.lt_of_le_of_lt (wo_le _ _ _) hs) (by unfold wo; omega) (by unfold wo; omega)
          · rw [sBt_n (by omega) (by omega)] at hb
            have h5 := rmv_bit (of_decide_eq_true hb)
            have := rmv_le (rmv s j) (ntz s)
            exact ih g _ _ (Nat.lt_of_le_of_lt (wo_le _ _ _) hs) (by unfold wo; omega) (by unfold wo; omega)
theorem xV_0 (r : Nat → Int32) (N m : Nat) : xV r N m 0 = 0 := rfl
theorem xV_m0 {r : Nat → Int32} {N s : Nat} (hN : N ≤ 8) (hs : s < 256) (h0 : s ≠ 0) : xV r N 0 s = xV r N 0 (rmv s (ntz s)) := by
  have hl := rmv_lt hs h0
  unfold xV
  cases s with
  | zero => exact absurd rfl h0
  | succ k => rw [pV, if_neg h0, if_pos rfl]; exact pV_fuel hN _ _ _ _ (by omega) (by omega) (by omega)
theorem xV_eq {r : Nat → Int32} {N m s : Nat} (hN : N ≤ 8) (hs : s < 256) (h0 : s ≠ 0) (hm : m ≠ 0) : xV r N m s = pvI r (xV r N) m s (ntz s) (xV r N m (rmv s (ntz s))) N := by
  have hl := rmv_lt hs h0
  unfold xV
  cases s with
  | zero => exact absurd rfl h0
  | succ k =>
    rw [pV, if_neg h0, if_neg hm, pV_fuel hN _ _ _ _ (by omega) (by omega) (Nat.le_refl _)]
    refine pvI_congr fun j h3 h4 => ⟨?_, fun hb => ?_⟩
    · have h6 := rmv_le (rmv (k + 1) (ntz (k + 1))) j
      exact pV_fuel hN _ _ _ _ (Nat.lt_of_le_of_lt (wo_le _ _ _) hs) (by unfold wo; omega) (Nat.le_refl _)
    · rw [sBt_n (by omega) (by omega)] at hb
      have h5 := rmv_bit (of_decide_eq_true hb)
      have h6 := rmv_le (rmv (k + 1) j) (ntz (k + 1))
      exact pV_fuel hN _ _ _ _ (Nat.lt_of_le_of_lt (wo_le _ _ _) hs) (by unfold wo; omega) (Nat.le_refl _)
theorem pvS_le {r : Nat → Int32} {E : Nat → Nat → Nat} {N m s p q v B : Nat} (hri : RI r N) (hp : p < N) (hq : q < N) (hE : ∀ t, E (m - 1) t ≤ B) (hv : v ≤ B + 60) : pvS r E m s p q v ≤ B + 60 := by
  have h1 := (hri.jn hp hq).2
  have h2 := (hri.jn hq hp).2
  have h3 := hE (wo s p q)
  have h4 := hE (wo s q p)
  unfold pvS
  split
  · exact hv
  · split
    · split <;> omega
    · split <;> omega
theorem pvI_le {r : Nat → Int32} {E : Nat → Nat → Nat} {N m s p b B : Nat} (hri : RI r N) (hp : p < N) (hE : ∀ t, E (m - 1) t ≤ B) (hb : b ≤ B + 60) : ∀ q, q ≤ N → pvI r E m s p b q ≤ B + 60 := by
  intro q; induction q with
  | zero => intro _; exact hb
  | succ q ih =>
    intro h
    unfold pvI
    split
    · exact hb
    · exact pvS_le hri hp (by omega) hE (ih (by omega))
theorem pV_le {r : Nat → Int32} {N : Nat} (hri : RI r N) (hN : N ≤ 8) : ∀ (f m s : Nat), s < 2 ^ N → pV r N f m s ≤ 60 * m := by
  have h28 : 2 ^ N ≤ 256 := Nat.pow_le_pow_right (by decide) hN
  intro f
  induction f with
  | zero => intro m s _; exact Nat.zero_le _
  | succ f ih =>
    intro m s hs
    rw [pV]
    by_cases h0 : s = 0
    · rw [if_pos h0]; omega
    · rw [if_neg h0]
      have hr := rmv_le s (ntz s)
      by_cases hm : m = 0
      · rw [if_pos hm]; have := ih 0 (rmv s (ntz s)) (by omega); omega
      · rw [if_neg hm]
        have h1 := ih m (rmv s (ntz s)) (by omega)
        have h3 : pvI r (fun m' s' => if s' < 2 ^ N then pV r N f m' s' else 0) m s (ntz s) (pV r N f m (rmv s (ntz s))) N ≤ 60 * (m - 1) + 60 := by
          refine pvI_le hri (ntz_lt hs hN h0) (fun t => ?_) (by omega) N (Nat.le_refl N)
          split
          · rename_i ht; exact ih (m - 1) t ht
          · omega
        have h4 : pvI r (fun m' s' => pV r N f m' s') m s (ntz s) (pV r N f m (rmv s (ntz s))) N = pvI r (fun m' s' => if s' < 2 ^ N then pV r N f m' s' else 0) m s (ntz s) (pV r N f m (rmv s (ntz s))) N := by
          refine pvI_congr fun j _ _ => ⟨?_, fun _ => ?_⟩
          · rw [if_pos (Nat.lt_of_le_of_lt (wo_le _ _ _) hs)]
          · rw [if_pos (Nat.lt_of_le_of_lt (wo_le _ _ _) hs)]
        rw [h4]
        omega
theorem xV_le {r : Nat → Int32} {N m s : Nat} (hri : RI r N) (hN : N ≤ 8) (hs : s < 2 ^ N) : xV r N m s ≤ 60 * m := pV_le hri hN s m s hs
def tzX (s : Nat) : Nat := if s = 0 then 32 else ntz s
def prS (r : Nat → Int32) (N m s p : Nat) (e : Bool) (q : Nat) : Bool := sBt (nI s) q && ((if e = true then sEat r p q else sEat r q p) && decide ((if e = true then tn (sJoy r p q) + xV r N (m - 1) (wo s p q) else tn (sJoy r q p) + xV r N (m - 1) (wo s q p)) = xV r N m s))
def fstq (P : Nat → Bool) : Nat → Nat → Option Nat
  | 0, _ => none
  | k + 1, q => if P q = true then some q else fstq P k (q + 1)
def prt (r : Nat → Int32) (N m s p : Nat) (e : Bool) : Option Nat := if m = 0 then none else fstq (prS r N m s p e) (N - (p + 1)) (p + 1)
theorem fstq_in {P : Nat → Bool} : ∀ {k q b : Nat}, fstq P k q = some b → q ≤ b ∧ b < q + k ∧ P b = true := by
  intro k; induction k with
  | zero => intro q b h; cases h
  | succ k ih =>
    intro q b h
    rw [fstq] at h
    split at h
    · rename_i hp; cases h; exact ⟨Nat.le_refl _, by omega, hp⟩
    · have := ih h; exact ⟨by omega, by omega, this.2.2⟩
theorem prt_in {r : Nat → Int32} {N m s p b : Nat} {e : Bool} (h : prt r N m s p e = some b) : p < b ∧ b < N ∧ m ≠ 0 ∧ prS r N m s p e b = true := by
  unfold prt at h
  split at h
  · cases h
  · rename_i hm; have := fstq_in h; exact ⟨by omega, by omega, hm, this.2.2⟩
def pB (r : Nat → Int32) (N : Nat) : Nat → Nat → Nat → (Nat → Int32) → Nat → Int32
  | 0, _, _, b => b
  | f + 1, m, s, b => if s = 0 then b else match prt r N m s (ntz s) true with
    | some q => pB r N f (m - 1) (wo s (ntz s) q) (upd b (ntz s) (nI q))
    | none => match prt r N m s (ntz s) false with
      | some q => pB r N f (m - 1) (wo s (ntz s) q) (upd b q (nI (ntz s)))
      | none => pB r N f m (rmv s (ntz s)) b
def sPairsX2 (r : Nat → Int32) (N sl : Nat) (i : Int32) : Int32 := if i = -1 then nI (xV r N (min 4 sl) (2 ^ N - 1)) else if sPer N i = false then -1 else pB r N (2 ^ N - 1) (min 4 sl) (2 ^ N - 1) (fun _ => 9) (tn i)
theorem mx_l {a : Nat} (h : a < 2 ^ 31) : mx (nI a) (-4) = nI a := by
  unfold mx
  rw [if_neg]
  intro q
  exact nI_pos h (Int32.lt_of_le_of_lt q (by decide))
theorem mx_r {a : Nat} (h : a < 2 ^ 31) : mx (-4) (nI a) = nI a := by
  unfold mx
  rw [if_pos]
  exact Int32.le_of_lt (Int32.lt_of_lt_of_le (by decide) (nI_pos' h))
theorem wo_lt {s q : Nat} (h : s < 256) (h0 : s ≠ 0) : wo s (ntz s) q < s := Nat.lt_of_le_of_lt (rmv_le _ _) (rmv_lt h h0)
theorem tzX_s {s : Nat} (h : s ≠ 0) : tzX s = ntz s := if_neg h
theorem p28 {N : Nat} (h : N ≤ 8) : 1 ≤ 2 ^ N ∧ 2 ^ N ≤ 256 := ⟨Nat.one_le_two_pow, Nat.pow_le_pow_right (by decide) h⟩
theorem pB_0 (r : Nat → Int32) (N f m : Nat) (b : Nat → Int32) : pB r N f m 0 b = b := by
  cases f with
  | zero => rfl
  | succ f => rw [pB, if_pos rfl]
