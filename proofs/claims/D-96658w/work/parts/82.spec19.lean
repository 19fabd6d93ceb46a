/-! SPEC 19: a text's statements done one by one; the reference's text and the class's -/
def cmX (t : Nat → Int32) : Nat → Nat → (Nat → Int32) → Nat → Int32 × (Nat → Int32)
  | 0, _, r, _ => (0, r)
  | f + 1, k, r, N => match sDo r N (t (pos t k)) (stS t (pos t k) (fun _ => 0)).2.2 with
    | none => (-2000 - nI (pos t k), r)
    | some r1 => cmX t f (k + 1) r1 (sDoN N (t (pos t k)))
/-- what reads(text) answers, and the row after it -/
def rdA (t : Nat → Int32) (z : Nat) (r : Nat → Int32) (N : Nat) : Int32 × (Nat → Int32) :=
  if (whX t z (z + 1) 0 0).1 = 0 then (if (cmX t (whX t z (z + 1) 0 0).2 0 r N).1 = 0 then (nI (whX t z (z + 1) 0 0).2, (cmX t (whX t z (z + 1) 0 0).2 0 r N).2) else ((cmX t (whX t z (z + 1) 0 0).2 0 r N).1, r)) else ((whX t z (z + 1) 0 0).1, r)
theorem rd_1 {t : Nat → Int32} {p : Nat} (h : (rdN t 1 p 0).1 = true) : ∃ a : Nat, a < 10 ∧ (rdN t 1 p 0).2.2 = nI a := by
  have e : rdN t 1 p 0 = if sIn (t p) 48 57 = true then (true, p + 1, 10 * 0 + t p - 48) else (false, p, 0) := rfl
  rw [e] at h ⊢
  by_cases g : sIn (t p) 48 57 = true
  · rw [if_pos g]
    obtain ⟨j, h1, h2, ej⟩ := sIn_t (a := 48) (b := 57) (by decide) (by decide) g
    refine ⟨j - 48, by omega, ?_⟩
    show (10 * 0 + t p - 48 : Int32) = nI (j - 48)
    rw [ej, show (10 * 0 : Int32) = nI 0 by decide, nI_add, Nat.zero_add]
    exact nI_sub (b := 48) h1 (by omega)
  · rw [if_neg g] at h; cases h
theorem rd_2 {t : Nat → Int32} {p : Nat} (h : (rdN t 2 p 0).1 = true) : ∃ a : Nat, a < 100 ∧ (rdN t 2 p 0).2.2 = nI a := by
  have e : rdN t 2 p 0 = if sIn (t p) 48 57 = true then (if sIn (t (p + 1)) 48 57 = true then (true, p + 1 + 1, 10 * (10 * 0 + t p - 48) + t (p + 1) - 48) else (false, p + 1, 10 * 0 + t p - 48)) else (false, p, 0) := rfl
  rw [e] at h ⊢
  by_cases g : sIn (t p) 48 57 = true
  · rw [if_pos g] at h ⊢
    by_cases g2 : sIn (t (p + 1)) 48 57 = true
    · rw [if_pos g2]
      obtain ⟨j, h1, h2, ej⟩ := sIn_t (a := 48) (b := 57) (by decide) (by decide) g
      obtain ⟨k, h3, h4, ek⟩ := sIn_t (a := 48) (b := 57) (by decide) (by decide) g2
      refine ⟨10 * (j - 48) + k - 48, by omega, ?_⟩
      show (10 * (10 * 0 + t p - 48) + t (p + 1) - 48 : Int32) = nI (10 * (j - 48) + k - 48)
      have e1 : (10 * 0 + t p - 48 : Int32) = nI (j - 48) := by
        rw [ej, show (10 * 0 : Int32) = nI 0 by decide, nI_add, Nat.zero_add]
        exact nI_sub (b := 48) h1 (by omega)
      rw [e1, ek, show (10 : Int32) = nI 10 from rfl, nI_mul, nI_add]
      exact nI_sub (b := 48) (by omega) (by omega)
    · rw [if_neg g2] at h; cases h
  · rw [if_neg g] at h; cases h
theorem rn_t {t : Nat → Int32} {k d : Nat} {x : Rd} (h : (rn t k d x).1 = true) : x.1 = true ∧ (rdN t d x.2.1 0).1 = true ∧ rn t k d x = (true, (rdN t d x.2.1 0).2.1, upd x.2.2 k (rdN t d x.2.1 0).2.2) := by
  unfold rn at h ⊢
  by_cases g : x.1 = true
  · rw [if_pos g] at h ⊢
    have h : (rdN t d x.2.1 0).1 = true := h
    exact ⟨g, h, by rw [h]⟩
  · rw [if_neg g] at h
    exact absurd h g
theorem rn1_k {t : Nat → Int32} {p d : Nat} {nu : Nat → Int32} (h : (rn t 0 d (true, p + 1, nu)).1 = true) : (rdN t d (p + 1) 0).1 = true ∧ (rn t 0 d (true, p + 1, nu)).2.2 0 = (rdN t d (p + 1) 0).2.2 := by
  obtain ⟨-, a2, a3⟩ := rn_t h
  rw [a3]
  exact ⟨a2, rfl⟩
theorem rn2_k {t : Nat → Int32} {p d : Nat} {nu : Nat → Int32} (h : (rn t 1 d (rn t 0 1 (true, p + 1, nu))).1 = true) : (rdN t 1 (p + 1) 0).1 = true ∧ (rdN t d (rdN t 1 (p + 1) 0).2.1 0).1 = true ∧ (rn t 1 d (rn t 0 1 (true, p + 1, nu))).2.2 0 = (rdN t 1 (p + 1) 0).2.2 ∧ (rn t 1 d (rn t 0 1 (true, p + 1, nu))).2.2 1 = (rdN t d (rdN t 1 (p + 1) 0).2.1 0).2.2 := by
  obtain ⟨a1, a2, a3⟩ := rn_t h
  obtain ⟨-, b2, b3⟩ := rn_t a1
  rw [b3] at a2 a3
  rw [b3, a3]
  exact ⟨b2, a2, rfl, rfl⟩
theorem rn4_k {t : Nat → Int32} {p : Nat} {nu : Nat → Int32} (h : (rn t 3 2 (rn t 2 2 (rn t 1 1 (rn t 0 1 (true, p + 1, nu))))).1 = true) :
    ((rdN t 1 (p + 1) 0).1 = true ∧ (rdN t 1 (rdN t 1 (p + 1) 0).2.1 0).1 = true ∧ (rdN t 2 (rdN t 1 (rdN t 1 (p + 1) 0).2.1 0).2.1 0).1 = true ∧ (rdN t 2 (rdN t 2 (rdN t 1 (rdN t 1 (p + 1) 0).2.1 0).2.1 0).2.1 0).1 = true) ∧
    (rn t 3 2 (rn t 2 2 (rn t 1 1 (rn t 0 1 (true, p + 1, nu))))).2.2 0 = (rdN t 1 (p + 1) 0).2.2 ∧ (rn t 3 2 (rn t 2 2 (rn t 1 1 (rn t 0 1 (true, p + 1, nu))))).2.2 1 = (rdN t 1 (rdN t 1 (p + 1) 0).2.1 0).2.2 ∧
    (rn t 3 2 (rn t 2 2 (rn t 1 1 (rn t 0 1 (true, p + 1, nu))))).2.2 2 = (rdN t 2 (rdN t 1 (rdN t 1 (p + 1) 0).2.1 0).2.1 0).2.2 ∧ (rn t 3 2 (rn t 2 2 (rn t 1 1 (rn t 0 1 (true, p + 1, nu))))).2.2 3 = (rdN t 2 (rdN t 2 (rdN t 1 (rdN t 1 (p + 1) 0).2.1 0).2.1 0).2.1 0).2.2 := by
  obtain ⟨a1, a2, a3⟩ := rn_t h
  obtain ⟨b1, b2, b3⟩ := rn_t a1
  obtain ⟨c1, c2, c3⟩ := rn_t b1
  obtain ⟨-, d2, d3⟩ := rn_t c1
  rw [d3] at c2 c3
  rw [d3, c3] at b2 b3
  rw [d3, c3, b3] at a2 a3
  rw [d3, c3, b3, a3]
  exact ⟨⟨d2, c2, b2, a2⟩, rfl, rfl, rfl, rfl⟩
theorem stS_t {t : Nat → Int32} {p : Nat} {nu : Nat → Int32} (h : (stS t p nu).1 = true) : (stN t p nu).1 = true ∧ (stS t p nu).2.2 = (stN t p nu).2.2 := by
  unfold stS at h ⊢
  by_cases g : (stN t p nu).1 = true
  · rw [if_pos g] at h ⊢
    refine ⟨g, ?_⟩
    split <;> rfl
  · rw [if_neg g] at h
    exact absurd h g
theorem sDo_c {r : Nat → Int32} {N : Nat} {c : Int32} {nu nu' : Nat → Int32} (h0 : nu 0 = nu' 0) (h1 : ¬ c = 99 → nu 1 = nu' 1) (h2 : c = 112 → nu 2 = nu' 2 ∧ nu 3 = nu' 3) : sDo r N c nu = sDo r N c nu' := by
  unfold sDo
  rw [h0]
  by_cases g : c = 112
  · rw [if_pos g, if_pos g, (h2 g).1, (h2 g).2, h1 (by rw [g]; decide)]
  · rw [if_neg g, if_neg g]
    by_cases g2 : c = 99
    · rw [if_pos g2, if_pos g2]
    · rw [if_neg g2, if_neg g2, h1 g2]
theorem st_num {t : Nat → Int32} {p : Nat} {nu : Nat → Int32} (h : (stS t p nu).1 = true) : NumOk (t p) (stS t p nu).2.2 ∧ ∀ (nu' r : Nat → Int32) (N : Nat), sDo r N (t p) (stS t p nu').2.2 = sDo r N (t p) (stS t p nu).2.2 := by
  have hx : ∀ nu', (stN t p nu').1 = true ∧ (stS t p nu').2.2 = (stN t p nu').2.2 := fun nu' => stS_t ((stS_nu t p nu' nu).1.trans h)
  by_cases c1 : t p = 112
  · have e : ∀ nu', stN t p nu' = rn t 3 2 (rn t 2 2 (rn t 1 1 (rn t 0 1 (true, p + 1, nu')))) := fun nu' => by unfold stN; rw [if_pos c1]
    have k := fun nu' => rn4_k (nu := nu') (by rw [← e]; exact (hx nu').1)
    obtain ⟨⟨g0, g1, g2, g3⟩, k0, k1, k2, k3⟩ := k nu
    obtain ⟨a, ha, ea⟩ := rd_1 g0
    obtain ⟨b, hb, eb⟩ := rd_1 g1
    obtain ⟨c, hc, ec⟩ := rd_2 g2
    obtain ⟨d, hd, ed⟩ := rd_2 g3
    refine ⟨?_, fun nu' r N => ?_⟩
    · rw [(hx nu).2, e]
      exact Or.inl ⟨c1, a, b, c, d, by rw [k0, ea], by rw [k1, eb], by rw [k2, ec], by rw [k3, ed], ha, hb, hc, hd⟩
    · rw [(hx nu).2, (hx nu').2, e, e]
      obtain ⟨-, m0, m1, m2, m3⟩ := k nu'
      exact sDo_c (by rw [k0, m0]) (fun _ => by rw [k1, m1]) (fun _ => ⟨by rw [k2, m2], by rw [k3, m3]⟩)
  · by_cases c2 : t p = 99
    · have e : ∀ nu', stN t p nu' = rn t 0 2 (true, p + 1, nu') := fun nu' => by unfold stN; rw [if_neg c1, if_pos c2]
      have k := fun nu' => rn1_k (nu := nu') (by rw [← e]; exact (hx nu').1)
      obtain ⟨g0, k0⟩ := k nu
      obtain ⟨a, ha, ea⟩ := rd_2 g0
      refine ⟨?_, fun nu' r N => ?_⟩
      · rw [(hx nu).2, e]
        exact Or.inr (Or.inl ⟨c2, a, by rw [k0, ea], ha⟩)
      · rw [(hx nu).2, (hx nu').2, e, e]
        obtain ⟨-, m0⟩ := k nu'
        exact sDo_c (by rw [k0, m0]) (fun q => absurd c2 q) (fun q => absurd q c1)
    · by_cases c3 : t p = 116
      · have e : ∀ nu', stN t p nu' = rn t 1 1 (rn t 0 1 (true, p + 1, nu')) := fun nu' => by unfold stN; rw [if_neg c1, if_neg c2, if_pos c3]
        have k := fun nu' => rn2_k (nu := nu') (by rw [← e]; exact (hx nu').1)
        obtain ⟨g0, g1, k0, k1⟩ := k nu
        obtain ⟨a, ha, ea⟩ := rd_1 g0
        obtain ⟨b, hb, eb⟩ := rd_1 g1
        refine ⟨?_, fun nu' r N => ?_⟩
        · rw [(hx nu).2, e]
          exact Or.inr (Or.inr (Or.inl ⟨c3, a, b, by rw [k0, ea], by rw [k1, eb], ha, hb⟩))
        · rw [(hx nu).2, (hx nu').2, e, e]
          obtain ⟨-, -, m0, m1⟩ := k nu'
          exact sDo_c (by rw [k0, m0]) (fun _ => by rw [k1, m1]) (fun q => absurd q c1)
      · have c9 : t p = 104 ∨ t p = 108 := by
          have h1 := (hx nu).1
          unfold stN at h1
          rw [if_neg c1, if_neg c2, if_neg c3] at h1
          by_cases c4 : t p = 104
          · exact Or.inl c4
          · by_cases c5 : t p = 108
            · exact Or.inr c5
            · rw [if_neg c4, if_neg c5] at h1; cases h1
        have e : ∀ nu', stN t p nu' = rn t 1 2 (rn t 0 1 (true, p + 1, nu')) := fun nu' => by
          unfold stN
          rw [if_neg c1, if_neg c2, if_neg c3]
          rcases c9 with c9 | c9
          · rw [if_pos c9]
          · rw [if_neg (by rw [c9]; decide), if_pos c9]
        have k := fun nu' => rn2_k (nu := nu') (by rw [← e]; exact (hx nu').1)
        obtain ⟨g0, g1, k0, k1⟩ := k nu
        obtain ⟨a, ha, ea⟩ := rd_1 g0
        obtain ⟨b, hb, eb⟩ := rd_2 g1
        refine ⟨?_, fun nu' r N => ?_⟩
        · rw [(hx nu).2, e]
          exact Or.inr (Or.inr (Or.inr ⟨c9, a, b, by rw [k0, ea], by rw [k1, eb], ha, hb⟩))
        · rw [(hx nu).2, (hx nu').2, e, e]
          obtain ⟨-, -, m0, m1⟩ := k nu'
          exact sDo_c (by rw [k0, m0]) (fun _ => by rw [k1, m1]) (fun q => absurd q c1)
/-! characters that say nothing may differ -/
def nsp (c : Int32) : Bool := !sIn c 48 57 && (!decide (c = 59) && (!decide (c = 99) && (!decide (c = 104) && (!decide (c = 108) && (!decide (c = 112) && !decide (c = 116))))))
theorem nsp_t {c : Int32} (h : nsp c = true) : sIn c 48 57 = false ∧ ¬ c = 59 ∧ ¬ c = 99 ∧ ¬ c = 104 ∧ ¬ c = 108 ∧ ¬ c = 112 ∧ ¬ c = 116 := by
  unfold nsp at h
  simp only [Bool.and_eq_true, Bool.not_eq_true', decide_eq_false_iff_not] at h
  exact h
def REq (t u : Nat → Int32) : Prop := ∀ k, t k = u k ∨ (nsp (t k) = true ∧ nsp (u k) = true)
theorem rdN_q {t u : Nat → Int32} (h : REq t u) : ∀ (d p : Nat) (v : Int32), rdN t d p v = rdN u d p v := by
  intro d; induction d with
  | zero => intro p v; rfl
  | succ d ih =>
    intro p v
    rw [rdN, rdN]
    rcases h p with e | ⟨e1, e2⟩
    · rw [e, ih]
    · rw [(nsp_t e1).1, (nsp_t e2).1, if_neg (by decide), if_neg (by decide)]
theorem rn_q {t u : Nat → Int32} (h : REq t u) (k d : Nat) (x : Rd) : rn t k d x = rn u k d x := by
  unfold rn
  rw [rdN_q h]
theorem stN_no {t : Nat → Int32} {p : Nat} {nu : Nat → Int32} (h : nsp (t p) = true) : stN t p nu = (false, p, nu) := by
  obtain ⟨-, -, h1, h2, h3, h4, h5⟩ := nsp_t h
  unfold stN
  rw [if_neg h4, if_neg h1, if_neg h5, if_neg h2, if_neg h3]
theorem stN_q {t u : Nat → Int32} (h : REq t u) (p : Nat) (nu : Nat → Int32) : stN t p nu = stN u p nu := by
  rcases h p with e | ⟨e1, e2⟩
  · unfold stN
    rw [e]
    simp only [rn_q h]
  · rw [stN_no e1, stN_no e2]
theorem stS_q {t u : Nat → Int32} (h : REq t u) (p : Nat) (nu : Nat → Int32) : stS t p nu = stS u p nu := by
  unfold stS
  rw [stN_q h]
  rcases h (stN u p nu).2.1 with e | ⟨e1, e2⟩
  · rw [e]
  · rw [if_neg (nsp_t e1).2.1, if_neg (nsp_t e2).2.1]
theorem stS_let {t u : Nat → Int32} (h : REq t u) {p : Nat} {nu : Nat → Int32} (hs : (stS t p nu).1 = true) : t p = u p := by
  rcases h p with e | ⟨e1, -⟩
  · exact e
  · have := (stS_t hs).1
    rw [stN_no e1] at this
    cases this
theorem whX_q {t u : Nat → Int32} (h : REq t u) (re : Nat) : ∀ (f p k : Nat), whX t re f p k = whX u re f p k := by
  intro f; induction f with
  | zero => intro p k; rfl
  | succ f ih => intro p k; rw [whX, whX, stS_q h, ih]
theorem pos_q {t u : Nat → Int32} (h : REq t u) : ∀ k, pos t k = pos u k := by
  intro k; induction k with
  | zero => rfl
  | succ k ih => rw [pos, pos, ih, stS_q h]
theorem cmX_q {t u : Nat → Int32} (h : REq t u) : ∀ (m k : Nat) (r : Nat → Int32) (N : Nat), (∀ j, k ≤ j → j < k + m → (stS t (pos t j) (fun _ => 0)).1 = true) → cmX t m k r N = cmX u m k r N := by
  intro m; induction m with
  | zero => intro k r N _; rfl
  | succ m ih =>
    intro k r N hs
    have e1 := stS_let h (hs k (Nat.le_refl k) (by omega))
    rw [cmX, cmX, e1, stS_q h, pos_q h k]
    cases sDo r N (u (pos u k)) (stS u (pos u k) (fun _ => 0)).2.2 with
    | none => rfl
    | some r1 => exact ih (k + 1) r1 _ fun j h1 h2 => hs j (by omega) (by omega)
/-! the first reading -/
theorem ps1_wh (t : Nat → Int32) (re : Nat) : ∀ (f p k : Nat) (nu : Nat → Int32), (ps1 t re f p k nu).1 = (whX t re f p k).1 ∧ (ps1 t re f p k nu).2.1 = (whX t re f p k).2 := by
  intro f; induction f with
  | zero => intro p k nu; exact ⟨rfl, rfl⟩
  | succ f ih =>
    intro p k nu
    obtain ⟨e1, e2⟩ := stS_nu t p nu (fun _ => 0)
    rw [ps1, whX, e1, e2]
    by_cases g : (stS t p (fun _ => 0)).1 = true
    · rw [if_pos g, if_pos g]
      by_cases g2 : (stS t p (fun _ => 0)).2.1 < re
      · rw [if_pos g2, if_pos g2]; exact ih _ _ _
      · rw [if_neg g2, if_neg g2]; exact ⟨rfl, rfl⟩
    · rw [if_neg g, if_neg g]; exact ⟨rfl, rfl⟩
theorem whX_ok {t : Nat → Int32} {re : Nat} (hre : re ≤ 100) : ∀ (f k : Nat), (whX t re f (pos t k) k).1 = 0 → re < f + pos t k → (k = 0 ∨ pos t k < re) →
    k < (whX t re f (pos t k) k).2 ∧ re ≤ pos t (whX t re f (pos t k) k).2 ∧ ∀ j, k ≤ j → j < (whX t re f (pos t k) k).2 → (stS t (pos t j) (fun _ => 0)).1 = true ∧ (j = 0 ∨ pos t j < re) := by
  intro f; induction f with
  | zero =>
    intro k h h1 h2
    exfalso
    rcases h2 with rfl | h2
    · rw [pos] at h1; omega
    · omega
  | succ f ih =>
    intro k h h1 h2
    have hp : pos t k ≤ 100 := by
      rcases h2 with rfl | h2
      · rw [pos]; omega
      · omega
    have hle := stS_le t (pos t k) (fun _ => 0)
    rw [whX] at h ⊢
    by_cases g : (stS t (pos t k) (fun _ => 0)).1 = true
    · rw [if_pos g] at h ⊢
      have hs : k + 1 - 1 = k := rfl
      have hlt := hle.2.2 g
      have ep : (stS t (pos t k) (fun _ => 0)).2.1 = pos t (k + 1) := rfl
      rw [ep] at h hlt ⊢
      by_cases g2 : pos t (k + 1) < re
      · rw [if_pos g2] at h ⊢
        obtain ⟨i1, i2, i3⟩ := ih (k + 1) h (by omega) (Or.inr g2)
        refine ⟨by omega, i2, fun j hj hj2 => ?_⟩
        by_cases e : j = k
        · subst e; exact ⟨g, h2⟩
        · exact i3 j (by omega) hj2
      · rw [if_neg g2]
        refine ⟨Nat.lt_succ_self k, by show re ≤ pos t (k + 1); omega, fun j hj hj2 => ?_⟩
        have hj2 : j < k + 1 := hj2
        have e : j = k := by omega
        subst e
        exact ⟨g, h2⟩
    · rw [if_neg g] at h
      exact absurd h (fault1 (by omega))
theorem ps2_cm {t : Nat → Int32} {re n : Nat} (hre : 0 < re) (hn : re ≤ pos t n) (hok : ∀ j, j < n → (stS t (pos t j) (fun _ => 0)).1 = true ∧ (j = 0 ∨ pos t j < re)) (hre2 : re ≤ 100) (r0 : Nat → Int32) : ∀ (m k : Nat) (r : Nat → Int32) (N : Nat) (nu : Nat → Int32) (f : Nat), n = k + m → m ≤ f →
    ps2 t re r0 f (pos t k) r N nu = if (cmX t m k r N).1 = 0 then cmX t m k r N else ((cmX t m k r N).1, r0) := by
  intro m; induction m with
  | zero =>
    intro k r N nu f hk hf
    rw [cmX, if_pos rfl]
    cases f with
    | zero => rfl
    | succ f => rw [ps2, if_neg (by rw [show k = n by omega]; omega)]
  | succ m ih =>
    intro k r N nu f hk hf
    cases f with
    | zero => omega
    | succ f =>
      obtain ⟨h1, h2⟩ := hok k (by omega)
      have hlt : pos t k < re := by
        rcases h2 with rfl | h2
        · rw [pos]; exact hre
        · exact h2
      obtain ⟨-, e2⟩ := stS_nu t (pos t k) nu (fun _ => 0)
      rw [ps2, if_pos hlt, cmX, (st_num h1).2 nu r N]
      cases sDo r N (t (pos t k)) (stS t (pos t k) (fun _ => 0)).2.2 with
      | none =>
        show (-2000 - nI (pos t k), r0) = if (-2000 - nI (pos t k)) = 0 then _ else _
        rw [if_neg (fault2 (by omega))]
      | some r1 =>
        show ps2 t re r0 f (stS t (pos t k) nu).2.1 r1 _ _ = if (cmX t m (k + 1) r1 _).1 = 0 then cmX t m (k + 1) r1 _ else _
        rw [e2]
        exact ih (k + 1) r1 _ _ f (by omega) (by omega)
theorem fete_eq {t u : Nat → Int32} {z : Nat} (hz : z ≤ 100) (h0 : z = 0 → u 0 = -1) (h : REq t u) (r : Nat → Int32) (N : Nat) (nu : Nat → Int32) : sFeteA t z r N nu = (rdA u z r N).1 ∧ sFeteS t z r N nu = (rdA u z r N).2 := by
  obtain ⟨e1, e2⟩ := ps1_wh t z (z + 1) 0 0 nu
  unfold sFeteA sFeteS rdA
  rw [e1, e2, whX_q h]
  by_cases g : (whX u z (z + 1) 0 0).1 = 0
  · rw [if_pos g, if_pos g, if_pos g]
    obtain ⟨k1, k2, k3⟩ := whX_ok (t := u) hz (z + 1) 0 g (by omega) (Or.inl rfl)
    have k1 : 0 < (whX u z (z + 1) 0 0).2 := k1
    have k2 : z ≤ pos u (whX u z (z + 1) 0 0).2 := k2
    have k3 : ∀ j, 0 ≤ j → j < (whX u z (z + 1) 0 0).2 → (stS u (pos u j) (fun _ => 0)).1 = true ∧ (j = 0 ∨ pos u j < z) := k3
    generalize hn : (whX u z (z + 1) 0 0).2 = n at k1 k2 k3 ⊢
    have hz0 : 0 < z := by
      rcases Nat.eq_zero_or_pos z with e | e
      · exfalso
        have h1 := (k3 0 (Nat.le_refl 0) k1).1
        have h2 := (stS_t h1).1
        rw [stN_no (by rw [show pos u 0 = 0 from rfl, h0 e]; decide)] at h2
        cases h2
      · exact e
    have k4 : ∀ j, j < n → (stS t (pos t j) (fun _ => 0)).1 = true ∧ (j = 0 ∨ pos t j < z) := fun j hj => by
      rw [stS_q h, pos_q h]
      exact k3 j (Nat.zero_le j) hj
    have hnz : n ≤ z := by
      have h3 := pos_le (t := u) (n - 1) fun j hj => (k3 j (Nat.zero_le j) (by omega)).1
      rcases (k3 (n - 1) (Nat.zero_le _) (by omega)).2 with e | e
      · omega
      · omega
    have e3 := ps2_cm hz0 (by rw [pos_q h]; exact k2) k4 hz r n 0 r N (ps1 t z (z + 1) 0 0 nu).2.2 z (by omega) hnz
    rw [show pos t 0 = 0 from rfl, cmX_q h n 0 r N (fun j _ hj => (k4 j (by omega)).1)] at e3
    rw [e3]
    by_cases g2 : (cmX u n 0 r N).1 = 0
    · rw [if_pos g2, if_pos g2, if_pos g2]
      exact ⟨rfl, rfl⟩
    · simp [g2]
  · rw [if_neg g, if_neg g, if_neg g]
    exact ⟨rfl, rfl⟩
/-! bytes -/
def BR (c : Int32) : Prop := ∃ j : Nat, j < 128 ∧ (c = nI j ∨ c = -(nI (j + 1)))
theorem BR_neg : ∀ j, j < 128 → nsp (-(nI (j + 1))) = true ∧ nsp (-(nI (j + 1)) &&& 255) = true := by decide +kernel
theorem BR_pos : ∀ j, j < 128 → nI j &&& 255 = nI j := by decide +kernel
theorem BR_0 : BR 0 := ⟨0, by decide, Or.inl rfl⟩
theorem BR_nar (v : Int32) : BR v.toInt8.toInt32 := by
  generalize v.toInt8 = b
  have h1 := Int8.le_toInt b
  have h2 := Int8.toInt_lt b
  by_cases g : 0 ≤ b.toInt
  · refine ⟨b.toInt.toNat, by omega, Or.inl (Int32.toInt.inj ?_)⟩
    rw [Int8.toInt_toInt32, nI_toInt (by omega)]
    omega
  · refine ⟨(-b.toInt - 1).toNat, by omega, Or.inr (Int32.toInt.inj ?_)⟩
    rw [Int8.toInt_toInt32, Int32.toInt_neg, nI_toInt (by omega), Int.bmod_def]
    split <;> omega
theorem tM_tS {el : Nat → Int32} {b z : Nat} (h : ∀ k, k < z → BR (el (b + k))) : REq (tM el b z) (tS (rwE el b) z) := by
  intro k
  unfold tM tS rwE
  by_cases g : z ≤ k
  · rw [if_pos g, if_pos g]; exact Or.inl rfl
  · rw [if_neg g, if_neg g]
    obtain ⟨j, hj, e | e⟩ := h k (by omega)
    · rw [e, BR_pos j hj]; exact Or.inl rfl
    · rw [e]; exact Or.inr ⟨(BR_neg j hj).2, (BR_neg j hj).1⟩
/-! what a statement leaves -/
theorem sT5_2 (r : Nat → Int32) (p q : Nat) : sT5 r p q 2 = r 2 := by
  have e1 : ¬ (2 = 3 + 6 * p + 2) := by omega
  have e2 : ¬ (2 = 3 + 6 * q + 3) := by omega
  have e3 : ¬ (2 = 3 + 6 * p + 4) := by omega
  have e4 : ¬ (2 = 3 + 6 * q + 5) := by omega
  have e5 : ¬ (2 = 1) := by omega
  simp only [sT5, sT4, sT3, sT2, sT1, upd, e1, e2, e3, e4, e5, if_false]
theorem S9.turn {r : Nat → Int32} {p q : Nat} (h : S9 r) (hn : ¬ r 2 = 999) : S9 (sTurn r p q) := by
  obtain ⟨z, hz, e⟩ := h
  have hz2 : z ≠ 999 := fun g => hn (by rw [e, g]; rfl)
  refine ⟨z + 1, by omega, ?_⟩
  have e2 : sTurn r p q 2 = sT5 r p q 2 + 1 := rfl
  rw [e2, sT5_2, e, nI_1]
theorem sDo_RI {r r1 : Nat → Int32} {N : Nat} {lc : Int32} {nu : Nat → Int32} (h : RI r N) (hN : N ≤ 8) (h9 : S9 r) (hn : NumOk lc nu) (e : sDo r N lc nu = some r1) : RI r1 (sDoN N lc) ∧ S9 r1 := by
  unfold sDo at e
  unfold sDoN
  rcases hn with ⟨rfl, a, b, c, d, e0, e1, e2, e3, l0, l1, l2, l3⟩ | ⟨rfl, a, e0, l0⟩ | ⟨rfl, a, b, e0, e1, l0, l1⟩ | ⟨hlc, a, b, e0, e1, l0, l1⟩
  · rw [if_pos rfl] at e ⊢
    rw [e0, e1, e2, e3] at e
    by_cases c1 : (8 : Int32) ≤ nI a
    · rw [if_pos c1] at e; cases e
    rw [if_neg c1] at e
    by_cases c2 : (30 : Int32) < nI c
    · rw [if_pos c2] at e; cases e
    rw [if_neg c2] at e
    by_cases c3 : (30 : Int32) < nI d
    · rw [if_pos c3] at e; cases e
    rw [if_neg c3] at e
    by_cases c4 : N = 8
    · rw [if_pos c4] at e; cases e
    rw [if_neg c4] at e
    cases e
    have q1 : a < 8 := by
      rcases Nat.lt_or_ge a 8 with q | q
      · exact q
      · exact absurd ((n8 (by omega)).mpr q) c1
    have q2 : c ≤ 30 := by
      rcases Nat.lt_or_ge 30 c with q | q
      · exact absurd ((n30 l2).mpr q) c2
      · exact q
    have q3 : d ≤ 30 := by
      rcases Nat.lt_or_ge 30 d with q | q
      · exact absurd ((n30 l3).mpr q) c3
      · exact q
    refine ⟨h.adds q1 l1 q2 q3, ?_⟩
    obtain ⟨z, hz, ez⟩ := h9
    exact ⟨z, hz, by rw [← ez]; exact sAdds_o (by decide) (by omega)⟩
  · rw [if_neg (by decide)] at e ⊢
    rw [if_pos rfl] at e
    cases e
    obtain ⟨z, hz, ez⟩ := h9
    exact ⟨h.h (by decide) (fun _ => ⟨a, by omega, e0⟩), z, hz, by rw [← ez]; exact r_h (by decide)⟩
  · rw [if_neg (by decide)] at e ⊢
    rw [if_neg (by decide), if_pos rfl] at e
    cases p1 : sPer N (nu 0) with
    | false => rw [p1, if_pos rfl] at e; cases e
    | true =>
      cases p2 : sPer N (nu 1) with
      | false => rw [p1, p2, if_neg (by decide), if_pos rfl] at e; cases e
      | true =>
        rw [p1, p2, if_neg (by decide), if_neg (by decide)] at e
        cases p3 : sEat r (tn (nu 0)) (tn (nu 1)) with
        | false => rw [p3, if_pos rfl] at e; cases e
        | true =>
          rw [p3, if_neg (by decide)] at e
          by_cases p4 : r 2 = 999
          · rw [if_pos p4] at e; cases e
          · rw [if_neg p4] at e
            cases e
            obtain ⟨i, hi, ei⟩ := sPer_t (by omega) p1
            obtain ⟨j, hj, ej⟩ := sPer_t (by omega) p2
            rw [ei, ej, show tn (nI i) = i from nI_clamp (by omega), show tn (nI j) = j from nI_clamp (by omega)] at p3 ⊢
            exact ⟨h.turn hi hj p3, h9.turn p4⟩
  · have c1 : ¬ lc = 112 := by rcases hlc with rfl | rfl <;> decide
    have c2 : ¬ lc = 99 := by rcases hlc with rfl | rfl <;> decide
    have c3 : ¬ lc = 116 := by rcases hlc with rfl | rfl <;> decide
    rw [if_neg c1] at e ⊢
    rw [if_neg c2, if_neg c3] at e
    cases p1 : sPer N (nu 0) with
    | false => rw [p1, if_pos rfl] at e; cases e
    | true =>
      rw [p1, if_neg (by decide)] at e
      by_cases p2 : 30 < nu 1
      · rw [if_pos p2] at e; cases e
      · rw [if_neg p2] at e
        cases e
        have q3 : b ≤ 30 := by
          rcases Nat.lt_or_ge 30 b with q | q
          · rw [e1] at p2; exact absurd ((n30 l1).mpr q) p2
          · exact q
        obtain ⟨z, hz, ez⟩ := h9
        by_cases c4 : lc = 104
        · rw [if_pos c4]
          exact ⟨h.u (by decide) ⟨b, q3, e1⟩, z, hz, by rw [← ez]; exact r_n (by decide)⟩
        · rw [if_neg c4]
          exact ⟨h.u (by decide) ⟨b, q3, e1⟩, z, hz, by rw [← ez]; exact r_n (by decide)⟩
theorem cmX_RI {t : Nat → Int32} : ∀ (m k : Nat) (r : Nat → Int32) (N : Nat), (∀ j, k ≤ j → j < k + m → (stS t (pos t j) (fun _ => 0)).1 = true) → pos t k ≤ 100000 → RI r N → N ≤ 8 → r 0 = nI N → S9 r → (∀ j, k ≤ j → j < k + m → pos t j ≤ 100) → (cmX t m k r N).1 = 0 →
    ∃ N', N' ≤ 8 ∧ (cmX t m k r N).2 0 = nI N' ∧ RI (cmX t m k r N).2 N' ∧ S9 (cmX t m k r N).2 := by
  intro m; induction m with
  | zero => intro k r N _ _ h hN hr h9 _ _; exact ⟨N, hN, hr, h, h9⟩
  | succ m ih =>
    intro k r N hs hp h hN hr h9 hps hc
    rw [cmX] at hc ⊢
    cases e : sDo r N (t (pos t k)) (stS t (pos t k) (fun _ => 0)).2.2 with
    | none =>
      rw [e] at hc
      have hc : (-2000 - nI (pos t k) : Int32) = 0 := hc
      exact absurd hc (fault2 (by have := hps k (Nat.le_refl k) (by omega); omega))
    | some r1 =>
      rw [e] at hc
      have hc : (cmX t m (k + 1) r1 (sDoN N (t (pos t k)))).1 = 0 := hc
      show ∃ N', N' ≤ 8 ∧ (cmX t m (k + 1) r1 (sDoN N (t (pos t k)))).2 0 = nI N' ∧ RI (cmX t m (k + 1) r1 (sDoN N (t (pos t k)))).2 N' ∧ S9 (cmX t m (k + 1) r1 (sDoN N (t (pos t k)))).2
      obtain ⟨g1, g2⟩ := sDo_RI h hN h9 (st_num (hs k (Nat.le_refl k) (by omega))).1 e
      obtain ⟨g3, g4⟩ := sDo_0 hN hr e
      have hle := (stS_le t (pos t k) (fun _ => 0)).2.1
      exact ih (k + 1) r1 _ (fun j h1 h2 => hs j (by omega) (by omega)) (by rw [pos]; have := hps k (Nat.le_refl k) (by omega); omega) g1 g4 g3 g2 (fun j h1 h2 => hps j (by omega) (by omega)) hc
