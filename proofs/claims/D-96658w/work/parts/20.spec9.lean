/-! SPEC 9: pairs all at once, as the reference searches: the state is the best sum, by whom each is watched in the best, and now -/
abbrev Ps : Type := Int32 × (Nat → Int32) × (Nat → Int32)
def pfE (v : Int32) (x : Ps) : Ps := (mx x.1 v, if x.1 < v then cpf x.2.2 x.2.1 8 else x.2.1, x.2.2)
def pfS (rec : Int32 → Int32 → Int32 → Ps → Ps) (r : Nat → Int32) (p : Nat) (tk lf v : Int32) (t q : Nat) (x : Ps) : Ps :=
  if bitI tk q = 1 then x else if sEat r (if t = 0 then p else q) (if t = 0 then q else p) = false then x else
    ((rec ((tk ||| ((1 : Int32) <<< (nI p &&& 31))) ||| ((1 : Int32) <<< (nI q &&& 31))) (lf - 1) (v + sJoy r (if t = 0 then p else q) (if t = 0 then q else p)) (x.1, x.2.1, upd x.2.2 (if t = 0 then p else q) (nI (if t = 0 then q else p)))).1,
     (rec ((tk ||| ((1 : Int32) <<< (nI p &&& 31))) ||| ((1 : Int32) <<< (nI q &&& 31))) (lf - 1) (v + sJoy r (if t = 0 then p else q) (if t = 0 then q else p)) (x.1, x.2.1, upd x.2.2 (if t = 0 then p else q) (nI (if t = 0 then q else p)))).2.1,
     upd (rec ((tk ||| ((1 : Int32) <<< (nI p &&& 31))) ||| ((1 : Int32) <<< (nI q &&& 31))) (lf - 1) (v + sJoy r (if t = 0 then p else q) (if t = 0 then q else p)) (x.1, x.2.1, upd x.2.2 (if t = 0 then p else q) (nI (if t = 0 then q else p)))).2.2 (if t = 0 then p else q) 9)
def pfQ (rec : Int32 → Int32 → Int32 → Ps → Ps) (r : Nat → Int32) (p : Nat) (tk lf v : Int32) (t : Nat) (x : Ps) : Nat → Ps
  | 0 => x
  | q + 1 => if p < q then pfS rec r p tk lf v t q (pfQ rec r p tk lf v t x q) else pfQ rec r p tk lf v t x q
def pfT (rec : Int32 → Int32 → Int32 → Ps → Ps) (r : Nat → Int32) (N p : Nat) (tk lf v : Int32) (x : Ps) : Nat → Ps
  | 0 => x
  | t + 1 => if lf ≤ 0 then pfT rec r N p tk lf v x t else pfQ rec r p tk lf v t (pfT rec r N p tk lf v x t) N
def pf (r : Nat → Int32) (N : Nat) : Nat → Nat → Int32 → Int32 → Int32 → Ps → Ps
  | 0, _, _, _, v, x => pfE v x
  | f + 1, p, tk, lf, v, x => if bitI tk p = 1 then pf r N f (p + 1) tk lf v x else pf r N f (p + 1) tk lf v (pfT (pf r N f (p + 1)) r N p tk lf v x 2)
theorem pfQ_0 (rec : Int32 → Int32 → Int32 → Ps → Ps) (r : Nat → Int32) (p : Nat) (tk lf v : Int32) (t : Nat) (x : Ps) : ∀ q, q ≤ p + 1 → pfQ rec r p tk lf v t x q = x := by
  intro q
  induction q with
  | zero => intro _; rw [pfQ]
  | succ q ih => intro h; rw [pfQ, if_neg (by omega)]; exact ih (by omega)
theorem pfT_0 (rec : Int32 → Int32 → Int32 → Ps → Ps) (r : Nat → Int32) (N p : Nat) (tk lf v : Int32) (x : Ps) (h : lf ≤ 0) : ∀ t, pfT rec r N p tk lf v x t = x := by
  intro t
  induction t with
  | zero => rw [pfT]
  | succ t ih => rw [pfT, if_pos h]; exact ih
def st9 : Nat → Int32 := fun _ => 9
def sPairsX (r : Nat → Int32) (N : Nat) (bb wb : Nat → Int32) : Ps := pf r N N 0 0 (r 1) 0 (-1, bb, cpf st9 wb 8)
def sPairsA (r : Nat → Int32) (N : Nat) (bb wb : Nat → Int32) (i : Int32) : Int32 := if i = -1 then (sPairsX r N bb wb).1 else if sPer N i = true then (sPairsX r N bb wb).2.1 (tn i) else -1
