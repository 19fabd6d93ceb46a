/-! SPEC 11: the class's readers of now -/
theorem sWT_eq (r : Nat → Int32) (N : Nat) (p q : Int32) : sWT r N p q = if sTwo N p q = false then -1 else if sEat r (tn p) (tn q) = true then 0 else -3 := by
  unfold sWT sTwo
  cases sPer N p <;> cases sPer N q <;> by_cases h : p = q <;> simp [h]
def sMay (r : Nat → Int32) (N : Nat) (p q : Int32) : Bool := sEatP r N p q && decide (r 2 < 999)
theorem h999 {x : Int32} (h : x ≤ 999) : (x = 999) ↔ ¬ x < 999 := ⟨fun e => by rw [e]; decide, fun q => Int32.le_antisymm h (Int32.not_lt.mp q)⟩
theorem sEatsA_eq {r : Nat → Int32} {N : Nat} (h : r 2 ≤ 999) (p q : Int32) : sEatsA r N p q = if sTwo N p q = false then -1 else if sMay r N p q = true then sJoy r (tn p) (tn q) else -3 := by
  unfold sEatsA sMay sEatP
  rw [sWT_eq]
  cases sTwo N p q with
  | false => simp
  | true =>
    cases sEat r (tn p) (tn q) with
    | false => simp
    | true =>
      by_cases g : r 2 < 999
      · have g2 : ¬ r 2 = 999 := fun e => (h999 h).mp e g
        simp [g, g2]
      · have g2 : r 2 = 999 := (h999 h).mpr g
        simp [g2]
theorem sEatsS_eq {r : Nat → Int32} {N : Nat} (h : r 2 ≤ 999) (p q : Int32) : sEatsS r N p q = if sMay r N p q = true then sTurn r (tn p) (tn q) else r := by
  unfold sEatsS sMay sEatP
  rw [sWT_eq]
  cases sTwo N p q with
  | false => simp
  | true =>
    cases sEat r (tn p) (tn q) with
    | false => simp
    | true =>
      by_cases g : r 2 < 999
      · have g2 : ¬ r 2 = 999 := fun e => (h999 h).mp e g
        simp [g, g2]
      · have g2 : r 2 = 999 := (h999 h).mpr g
        simp [g2]
theorem sMay_t {r : Nat → Int32} {N : Nat} {p q : Int32} (hN : N < 2 ^ 31) (h : sMay r N p q = true) : ∃ j k : Nat, j < N ∧ k < N ∧ j ≠ k ∧ sEat r j k = true ∧ p = nI j ∧ q = nI k := by
  unfold sMay at h
  simp only [Bool.and_eq_true] at h
  exact sEatP_t hN h.1
def sFlOk (N : Nat) (p v : Int32) : Bool := sPer N p && sIn v 0 30
def sFlS (r : Nat → Int32) (N : Nat) (p what v : Int32) : Nat → Int32 := if sFlOk N p v = true then upd r (sFeelsAt p what) v else r
theorem sFlS_in {r : Nat → Int32} {N : Nat} {p what v : Int32} (h : sIn what 0 1 = true) : sFlS r N p what v = sFeelsS r N p what v := by
  unfold sFlS sFeelsS sFlOk sFeelsOk
  rw [h]
  simp
theorem sFlS_0 (r : Nat → Int32) (N : Nat) (p what v : Int32) : sFlS r N p what v 0 = r 0 := by
  unfold sFlS sFeelsAt
  split
  · simp only [upd]; rw [if_neg (by split <;> omega)]
  · rfl
theorem WK.fl {gm : GM} {wh : Nat → Option Nat} {r : Nat → Int32} {N : Nat} {p what v : Int32} (h : WK gm wh r N) : WK gm wh (sFlS r N p what v) N := by
  unfold sFlS sFeelsAt
  split
  · split
    · exact WK.u h (by decide)
    · exact WK.u h (by decide)
  · exact h
theorem le_mn {a b c : Int32} : a ≤ mn b c ↔ a ≤ b ∧ a ≤ c := by
  unfold mn
  split
  · rename_i h; exact ⟨fun q => ⟨Int32.le_trans q h, q⟩, fun q => q.2⟩
  · rename_i h; exact ⟨fun q => ⟨q, Int32.le_trans q (Int32.le_of_lt (Int32.not_le.mp h))⟩, fun q => q.1⟩
theorem lt_mn {a b c : Int32} : mn b c < a ↔ b < a ∨ c < a := by
  rw [← Int32.not_le, le_mn, Decidable.not_and_iff_or_not, Int32.not_le, Int32.not_le]
def aX (r : Nat → Int32) (b : Nat) : Nat → Nat
  | 0 => 0
  | p + 1 => aX r b p + (if p = b then 0 else if isOne r p = true then 1 else 0)
theorem aX_le (r : Nat → Int32) (b : Nat) : ∀ p, aX r b p ≤ p := by
  intro p; induction p with
  | zero => exact Nat.le_refl 0
  | succ p ih => unfold aX; split <;> (try split) <;> omega
def sAtAllX (r : Nat → Int32) (N : Nat) (what : Int32) : Int32 := if sIn what 0 1 = false then -1 else if what = 1 then encL (aF r N) else match aF r N with
  | none => 0
  | some b => mn (nI (aX r b N)) (r 1)
def stH (r : Nat → Int32) : Nat → Bool
  | 0 => false
  | p + 1 => stH r p || !decide (r (3 + 6 * p + 2) ≤ 0)
theorem bI_or1 (b : Bool) : bI b ||| 1 = bI true := by cases b <;> decide
theorem bI_or0 (b : Bool) : bI b ||| 0 = bI b := by cases b <;> decide
def sStuckX (r : Nat → Int32) (N : Nat) : Int32 := if r 1 ≤ 0 then 0 else if stH r N = false then 0 else match sBestO r N with
  | none => 1
  | some _ => 0
def cnOr (r : Nat → Int32) : Nat → Int32
  | 0 => 0
  | p + 1 => cnOr r p ||| (if r (3 + 6 * p + 4) = 0 then (1 : Int32) <<< (nI p &&& 31) else 0)
def cnA (r : Nat → Int32) (k : Nat) : Nat → Int32
  | 0 => 0
  | p + 1 => cnA r k p + r (3 + 6 * p + k)
def sCountX (r : Nat → Int32) (N : Nat) (what : Int32) : Int32 := if what = 0 then r 0 else if what = 1 then r 1 else if what = 2 then r 2 else if what = 3 then sHun r N else if what = 4 then cnA r 3 N else if what = 5 then cnA r 4 N else if what = 6 then cnOr r N else -1
theorem bitI_01 (x : Int32) (l : Nat) : bitI x l = 0 ∨ bitI x l = 1 := by
  unfold bitI
  generalize x >>> (nI l &&& 31) = y
  have h : y &&& 1 = nI (y.toBitVec.toNat % 2) := pk_and y 1 (by decide)
  rw [h]
  rcases Nat.mod_two_eq_zero_or_one y.toBitVec.toNat with e | e <;> rw [e]
  · exact Or.inl rfl
  · exact Or.inr rfl
theorem bitI_n1 {x : Int32} {l : Nat} (h : ¬ bitI x l = 1) : bitI x l = 0 := (bitI_01 x l).resolve_right h
theorem shr_lt {N : Nat} {p : Int32} (h : p < -1) : ¬ p = -1 ∧ sPer N p = false := by
  refine ⟨fun e => by rw [e] at h; exact absurd h (by decide), ?_⟩
  unfold sPer sIn
  have : p < 0 := Int32.lt_trans h (by decide)
  simp [this]
theorem shr_ge {N : Nat} {p : Int32} (hN : N ≤ 9) (h : nI N ≤ p) : ¬ p = -1 ∧ sPer N p = false := by
  have h0 : ¬ p < 0 := fun q => absurd (Int32.lt_of_le_of_lt h q) (nI_pos (by omega))
  refine ⟨fun e => by rw [e] at h0; exact h0 (by decide), ?_⟩
  cases e : sPer N p with
  | false => rfl
  | true =>
    obtain ⟨j, hj, rfl⟩ := sPer_t (by omega) e
    exact absurd ((nI_leI (by omega) (by omega)).mp h) (by omega)
theorem shr_m1 {p : Int32} (h : ¬ p < -1) (h2 : p < 0) : p = -1 := by
  rw [Int32.lt_iff_toInt_lt] at h h2
  have e1 : (-1 : Int32).toInt = -1 := rfl
  have e0 : (0 : Int32).toInt = 0 := rfl
  apply Int32.toInt.inj
  omega
theorem shr_in {N : Nat} {p : Int32} (hN : N ≤ 9) (h : ¬ p < 0) (h2 : p < nI N) : ∃ j, j < N ∧ p = nI j := by
  obtain ⟨j, hj, rfl⟩ := nI_of h
  exact ⟨j, (nI_ltI hj (by omega)).mp h2, rfl⟩
theorem clP_f {r : Nat → Int32} {N v : Nat} {g : Int32} (h : r 1 < sBuy r (nI v) N ∨ sSel r g N < sBuy r (nI v) N) : ¬ clP r N g v = true := by
  unfold clP
  rcases h with h | h <;> simp [h]
theorem clP_t {r : Nat → Int32} {N v : Nat} {g : Int32} (h1 : sBuy r (nI v) N ≤ r 1) (h2 : sBuy r (nI v) N ≤ sSel r g N) : clP r N g v = true := by
  unfold clP
  have g1 := Int32.not_lt.mpr h1
  have g2 := Int32.not_lt.mpr h2
  simp [g1, g2]
theorem tn_0 : tn 0 = 0 := rfl
theorem tn_1 : tn 1 = 1 := rfl
theorem tn_2 : tn 2 = 2 := rfl
theorem tn_3 : tn 3 = 3 := rfl
theorem tn_4 : tn 4 = 4 := rfl
theorem tn_5 : tn 5 = 5 := rfl
theorem tn_6 : tn 6 = 6 := rfl
theorem tn_7 : tn 7 = 7 := rfl
theorem tn_8 : tn 8 = 8 := rfl
theorem sIn08_f {w : Int32} (h0 : ¬ w = 0) (h1 : ¬ w = 1) (h2 : ¬ w = 2) (h3 : ¬ w = 3) (h4 : ¬ w = 4) (h5 : ¬ w = 5) (h6 : ¬ w = 6) (h7 : ¬ w = 7) (h8 : ¬ w = 8) : sIn w 0 8 = false := by
  cases e : sIn w 0 8 with
  | false => rfl
  | true =>
    obtain ⟨j, -, hj, rfl⟩ := sIn_t (a := 0) (b := 8) (by decide) (by decide) e
    have h9 : j = 0 ∨ j = 1 ∨ j = 2 ∨ j = 3 ∨ j = 4 ∨ j = 5 ∨ j = 6 ∨ j = 7 ∨ j = 8 := by omega
    rcases h9 with rfl | rfl | rfl | rfl | rfl | rfl | rfl | rfl | rfl
    · exact absurd rfl h0
    · exact absurd rfl h1
    · exact absurd rfl h2
    · exact absurd rfl h3
    · exact absurd rfl h4
    · exact absurd rfl h5
    · exact absurd rfl h6
    · exact absurd rfl h7
    · exact absurd rfl h8
section
variable {p : Program} {l : Launch} {e : Env} {R : Room} {s : State} {m : MethodId} {args : Array Value} {below : List Frame} {meth : Method} {c : Code} {H : Heap} {locs : List Loc} {cells slots : Nat} {Q : State → Prop}
variable {cc : ByteArray} {pc : Nat} {ls : Array Slot} {rest : List Value} {L0 : Nat} {rt0 : Option FieldType}
theorem g_figure {G : GG} {k : Nat} {f : Int32} {ws : va_W} {o q0 : Nat} (C : Cx p c meth s args m cc L0 rt0 RX1) (hK : KM G s) (hk : k < 8) (he : ws[q0]? = some (o, .inr (6 + k, [.int f]))) (hP : PP G ws H) (hdg : decode cc pc = .ok (.getfield 157, 3)) (kk : W p l e R s m args below meth c H locs cells slots Q (F0 m (pc + 3) ls (.int f :: rest))) : W p l e R s m args below meth c H locs cells slots Q (F0 m pc ls (.ref o :: rest)) := by
  have hts := C.2.2.2.2.2.2
  have hk8 : k = 0 ∨ k = 1 ∨ k = 2 ∨ k = 3 ∨ k = 4 ∨ k = 5 ∨ k = 6 ∨ k = 7 := by omega
  rcases hk8 with rfl | rfl | rfl | rfl | rfl | rfl | rfl | rfl
  · exact va_get (D := gD G) (ci := 6) (v := .int f) (C := RX8) (T := TX8) (N := 1) C.1 C.2.1 hts in_X8 C.2.2.2.2.2.1 hK hP q0 he rfl 0 (by decide) (hts _ q300) (fun _ h9 => h9) rfl hdg kk
  · exact va_get (D := gD G) (ci := 7) (v := .int f) (C := RX9) (T := TX9) (N := 1) C.1 C.2.1 hts in_X9 C.2.2.2.2.2.1 hK hP q0 he rfl 0 (by decide) (hts _ q300) (fun _ h9 => h9) rfl hdg kk
  · exact va_get (D := gD G) (ci := 8) (v := .int f) (C := RX10) (T := TX10) (N := 1) C.1 C.2.1 hts in_X10 C.2.2.2.2.2.1 hK hP q0 he rfl 0 (by decide) (hts _ q300) (fun _ h9 => h9) rfl hdg kk
  · exact va_get (D := gD G) (ci := 9) (v := .int f) (C := RX11) (T := TX11) (N := 1) C.1 C.2.1 hts in_X11 C.2.2.2.2.2.1 hK hP q0 he rfl 0 (by decide) (hts _ q300) (fun _ h9 => h9) rfl hdg kk
  · exact va_get (D := gD G) (ci := 10) (v := .int f) (C := RX12) (T := TX12) (N := 1) C.1 C.2.1 hts in_X12 C.2.2.2.2.2.1 hK hP q0 he rfl 0 (by decide) (hts _ q300) (fun _ h9 => h9) rfl hdg kk
  · exact va_get (D := gD G) (ci := 11) (v := .int f) (C := RX13) (T := TX13) (N := 1) C.1 C.2.1 hts in_X13 C.2.2.2.2.2.1 hK hP q0 he rfl 0 (by decide) (hts _ q300) (fun _ h9 => h9) rfl hdg kk
  · exact va_get (D := gD G) (ci := 12) (v := .int f) (C := RX14) (T := TX14) (N := 1) C.1 C.2.1 hts in_X14 C.2.2.2.2.2.1 hK hP q0 he rfl 0 (by decide) (hts _ q300) (fun _ h9 => h9) rfl hdg kk
  · exact va_get (D := gD G) (ci := 13) (v := .int f) (C := RX15) (T := TX15) (N := 1) C.1 C.2.1 hts in_X15 C.2.2.2.2.2.1 hK hP q0 he rfl 0 (by decide) (hts _ q300) (fun _ h9 => h9) rfl hdg kk
end
