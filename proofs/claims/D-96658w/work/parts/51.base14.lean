/-! BASE 14: a guest that was made becomes known -/
theorem NG1 {gm : GM} {A : Nat → Prop} {ws : va_W} {q : Nat} {e : va_E} (hA : GA gm A) (hD : va_D A ws) (q0 : Nat) (he : ws[q0]? = some (q, e)) : gm q = none := by
  cases h : gm q with
  | none => rfl
  | some z => exact absurd (hD.2 q0 _ he) (hA q (by rw [h]; exact fun g => by cases g))
theorem upG_o {gm : GM} {q k y : Nat} {f : Int32} (hq : gm q = none) (hy : gm y ≠ none) : upG gm q k f y = gm y := by
  unfold upG
  rw [if_neg (fun e => hy (by rw [e]; exact hq))]
theorem WK.upG {gm : GM} {wh : Nat → Option Nat} {r : Nat → Int32} {N q k : Nat} {f : Int32} (h : WK gm wh r N) (hq : gm q = none) : WK (upG gm q k f) wh r N := by
  refine ⟨fun i y hi hy => ?_, fun i hi => ?_⟩
  · rw [upG_o hq (h.1 i y hi hy)]; exact h.1 i y hi hy
  · obtain ⟨y, z, h1, h2, h3⟩ := h.2 i hi
    exact ⟨y, z, h1, by rw [upG_o hq (by rw [h2]; exact fun g => by cases g)]; exact h2, h3⟩
theorem G_int {r : Nat → Int32} {N k f : Nat} (h : RI r N) (hk : k < 8) (hf : f ≤ 9) : RI (sAdds r N (nI k) (nI f) 0 9) (N + 1) := h.adds (u := 0) (w := 9) hk (by omega) (by decide) (by decide)
def brVX (r : Nat → Int32) (N : Nat) (f : Int32) (k : Nat) : Int32 := sBJX (sAdds r N (nI k) f 0 9) (N + 1)
def brPX (r : Nat → Int32) (N : Nat) (f : Int32) : Nat → Option Nat × Int32
  | 0 => (none, mx 0 (sBJX r N))
  | k + 1 => if (brPX r N f k).2 < brVX r N f k then (some k, brVX r N f k) else brPX r N f k
def sBringX (r : Nat → Int32) (N : Nat) (f : Int32) : Int32 := if sIn f 0 9 = false then -1 else encL (brPX r N f 8).1
def shf (sh : Nat → Nat) : Nat → Option Nat := fun d => some (sh d)
