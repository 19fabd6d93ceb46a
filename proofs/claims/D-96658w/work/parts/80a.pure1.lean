/-! PURE 1: the class's answers are the reference's: counts, sums, two turns, who brings most, crowds and means -/
theorem sIn_no {w : Int32} {a b : Nat} (ha : a < 2 ^ 31) (hb : b < 2 ^ 31) (h : ∀ j : Nat, a ≤ j → j ≤ b → ¬ w = nI j) : sIn w (nI a) (nI b) = false := by
  cases e : sIn w (nI a) (nI b) with
  | false => rfl
  | true => obtain ⟨j, h1, h2, h3⟩ := sIn_t ha hb e; exact absurd h3 (h j h1 h2)
theorem sIn01 {w : Int32} (h : sIn w 0 1 = true) : w = 0 ∨ w = 1 := by
  obtain ⟨j, -, h2, rfl⟩ := sIn_t (a := 0) (b := 1) (by decide) (by decide) h
  have h3 : j = 0 ∨ j = 1 := by omega
  rcases h3 with rfl | rfl
  · exact Or.inl rfl
  · exact Or.inr rfl
theorem mx0_n {x : Nat} (h : x < 2 ^ 31) : mx 0 (nI x) = nI x := by
  have := mx_n (a := 0) (by decide) h
  rw [Nat.max_eq_right (Nat.zero_le _)] at this
  exact this
/-! counts -/
theorem cnt3 (r : Nat → Int32) : ∀ N, cntS r 3 N = sHun r N := by
  intro N; induction N with
  | zero => rfl
  | succ p ih => rw [cntS, sHun, ih, if_pos rfl]
theorem cnt4 (r : Nat → Int32) : ∀ N, cntS r 4 N = cnA r 3 N := by
  intro N; induction N with
  | zero => rfl
  | succ p ih => rw [cntS, cnA, ih, if_neg (by decide), if_pos rfl]
theorem cnt5 (r : Nat → Int32) : ∀ N, cntS r 5 N = cnA r 4 N := by
  intro N; induction N with
  | zero => rfl
  | succ p ih => rw [cntS, cnA, ih, if_neg (by decide), if_neg (by decide), if_pos rfl]
theorem or_pw : ∀ n, n < 9 → ∀ x, x < 2 ^ n → nI x ||| nI (2 ^ n) = nI (x + 2 ^ n) := by decide +kernel
theorem or_0 (x : Int32) : x ||| 0 = x := by simp
theorem cnt6 (r : Nat → Int32) : ∀ N, N ≤ 9 → ∃ x, x < 2 ^ N ∧ cntS r 6 N = nI x ∧ cnOr r N = nI x := by
  intro N; induction N with
  | zero => intro _; exact ⟨0, by decide, rfl, rfl⟩
  | succ p ih =>
    intro h
    obtain ⟨x, hx, e1, e2⟩ := ih (by omega)
    rw [cntS, cnOr, e1, e2, if_neg (by decide), if_neg (by decide), if_neg (by decide), shl1 p (by omega)]
    have h2 : 2 ^ (p + 1) = 2 * 2 ^ p := by rw [Nat.pow_succ]; omega
    by_cases g : r (3 + 6 * p + 4) = 0
    · rw [if_pos g, nI_add, or_pw p (by omega) x hx]
      exact ⟨x + 2 ^ p, by omega, rfl, rfl⟩
    · rw [if_neg g, or_0]
      exact ⟨x, by omega, by rw [show (0 : Int32) = nI 0 from rfl, nI_add, Nat.add_zero], rfl⟩
theorem sCA_lo {r : Nat → Int32} {N : Nat} {w : Int32} (h : sIn w 0 2 = true) : sCountA r N w = r (tn w) := by unfold sCountA; rw [if_pos h]
theorem sCA_mid {r : Nat → Int32} {N : Nat} {w : Int32} (h1 : sIn w 0 2 = false) (h2 : sIn w 3 6 = true) : sCountA r N w = cntS r w N := by
  unfold sCountA
  rw [h1, h2, if_neg (show ¬ (false = true) by decide), if_neg (show ¬ (true = false) by decide)]
theorem sCA_no {r : Nat → Int32} {N : Nat} {w : Int32} (h1 : sIn w 0 2 = false) (h2 : sIn w 3 6 = false) : sCountA r N w = -1 := by
  unfold sCountA
  rw [h1, h2, if_neg (show ¬ (false = true) by decide), if_pos (show false = false from rfl)]
theorem sCount_eq {r : Nat → Int32} {N : Nat} (hN : N ≤ 9) (w : Int32) : sCountX r N w = sCountA r N w := by
  by_cases h0 : w = 0
  · rw [sCA_lo (show sIn w 0 2 = true by rw [h0]; decide), h0, tn_0]; unfold sCountX; rw [if_pos rfl]
  by_cases h1 : w = 1
  · rw [sCA_lo (show sIn w 0 2 = true by rw [h1]; decide), h1, tn_1]; unfold sCountX; rw [if_neg (show ¬ (1 : Int32) = 0 by decide), if_pos rfl]
  by_cases h2 : w = 2
  · rw [sCA_lo (show sIn w 0 2 = true by rw [h2]; decide), h2, tn_2]; unfold sCountX; rw [if_neg (show ¬ (2 : Int32) = 0 by decide), if_neg (show ¬ (2 : Int32) = 1 by decide), if_pos rfl]
  have k1 : sIn w 0 2 = false := sIn_no (a := 0) (b := 2) (by decide) (by decide) fun j _ hj => by
    have : j = 0 ∨ j = 1 ∨ j = 2 := by omega
    rcases this with rfl | rfl | rfl
    · exact h0
    · exact h1
    · exact h2
  by_cases h3 : w = 3
  · rw [sCA_mid k1 (show sIn w 3 6 = true by rw [h3]; decide)]; unfold sCountX; rw [if_neg h0, if_neg h1, if_neg h2, if_pos h3, h3, cnt3]
  by_cases h4 : w = 4
  · rw [sCA_mid k1 (show sIn w 3 6 = true by rw [h4]; decide)]; unfold sCountX; rw [if_neg h0, if_neg h1, if_neg h2, if_neg h3, if_pos h4, h4, cnt4]
  by_cases h5 : w = 5
  · rw [sCA_mid k1 (show sIn w 3 6 = true by rw [h5]; decide)]; unfold sCountX; rw [if_neg h0, if_neg h1, if_neg h2, if_neg h3, if_neg h4, if_pos h5, h5, cnt5]
  by_cases h6 : w = 6
  · obtain ⟨x, -, e1, e2⟩ := cnt6 r N hN
    rw [sCA_mid k1 (show sIn w 3 6 = true by rw [h6]; decide)]; unfold sCountX; rw [if_neg h0, if_neg h1, if_neg h2, if_neg h3, if_neg h4, if_neg h5, if_pos h6, h6, e1, e2]
  have k2 : sIn w 3 6 = false := sIn_no (a := 3) (b := 6) (by decide) (by decide) fun j hl hj => by
    have : j = 3 ∨ j = 4 ∨ j = 5 ∨ j = 6 := by omega
    rcases this with rfl | rfl | rfl | rfl
    · exact h3
    · exact h4
    · exact h5
    · exact h6
  rw [sCA_no k1 k2]; unfold sCountX; rw [if_neg h0, if_neg h1, if_neg h2, if_neg h3, if_neg h4, if_neg h5, if_neg h6]
/-! hunger all in all -/
theorem RI.hun {r : Nat → Int32} {N : Nat} (h : RI r N) : ∀ p, p ≤ N → ∃ x, x ≤ 30 * p ∧ sHun r p = nI x ∧ stH r p = decide (0 < x) ∧ ∀ j, j < p → ¬ r (3 + 6 * j + 2) = 0 → 0 < x := by
  intro p; induction p with
  | zero => intro _; exact ⟨0, by omega, rfl, rfl, fun j hj => absurd hj (Nat.not_lt_zero j)⟩
  | succ p ih =>
    intro hp
    obtain ⟨x, hx, e1, e2, e3⟩ := ih (by omega)
    obtain ⟨-, -, ⟨y, hy, ey⟩, -⟩ := h.2 p (by omega)
    refine ⟨x + y, by omega, by rw [sHun, e1, ey, nI_add], ?_, fun j hj hn => ?_⟩
    · rw [stH, e2, ey]
      by_cases g : y = 0
      · subst g
        rw [Nat.add_zero, show (!decide (nI 0 ≤ 0)) = false by decide, Bool.or_false]
      · rw [show (!decide (nI y ≤ 0)) = true by rw [decide_eq_false (nI_nle (by omega) (by omega))]; rfl, Bool.or_true, decide_eq_true (by omega)]
    · by_cases g : j = p
      · subst g
        rw [ey] at hn
        have : y ≠ 0 := fun q => hn (by rw [q]; rfl)
        omega
      · have := e3 j (by omega) hn; omega
theorem sStuck_eq {r : Nat → Int32} {N : Nat} (h : RI r N) (hN : N ≤ 9) : sStuckX r N = sStuckA r N := by
  obtain ⟨x, hx, e1, e2, -⟩ := h.hun N (Nat.le_refl N)
  unfold sStuckX sStuckA
  rw [e1, e2]
  by_cases g : x = 0
  · subst g
    rw [show decide (0 < 0) = false by decide, if_pos rfl, if_pos (show nI 0 ≤ 0 by decide)]
  · rw [decide_eq_true (show 0 < x by omega), if_neg (show ¬ (true = false) by decide), if_neg (show ¬ nI x ≤ 0 from nI_nle (by omega) (by omega))]
    cases sBestO r N <;> rfl
theorem RI.shs {r : Nat → Int32} {N : Nat} (h : RI r N) (hN : N ≤ 9) : ∀ p, p < N → ¬ r (3 + 6 * p + 2) = 0 → ¬ sHun r N = 0 := by
  intro p hp hn
  obtain ⟨x, hx, e1, -, e3⟩ := h.hun N (Nat.le_refl N)
  rw [e1]
  exact nI_ne0 (e3 p hp hn) (by omega)
theorem RI.bt {r : Nat → Int32} {N : Nat} (h : RI r N) : ∀ p, p < N → ¬ sBite (r (3 + 6 * p)) (r (3 + 6 * p + 1)) = 0 := by
  intro p hp
  obtain ⟨⟨k, hk, ek⟩, ⟨f, hf, ef⟩, -⟩ := h.2 p hp
  obtain ⟨b, hb, h1, eb⟩ := bite_n k hk f hf
  rw [ek, ef, eb]
  exact nI_ne0 (by omega) (by omega)
theorem sMean_eq {hs N : Nat} (h : hs ≤ 30 * N) (p : Int32) : sMeanX hs N p = sMeanA hs N p := by
  unfold sMeanX sMeanA
  by_cases g : sIn p 0 1 = true
  · rw [if_pos g, if_pos g]
    have hp : tn p ≤ 1 := by
      rcases sIn01 g with rfl | rfl
      · decide
      · decide
    by_cases e : N = 0
    · subst e
      rw [if_pos rfl, show hs = 0 by omega]
      rfl
    · rw [if_neg e, xPOf_eq (by omega) hp]
  · rw [if_neg g, if_neg g]
/-! at all -/
theorem aF_none {r : Nat → Int32} : ∀ p, aF r p = none → aO r p = 0 ∧ aS r p = 0 := by
  intro p; induction p with
  | zero => intro _; exact ⟨rfl, rfl⟩
  | succ p ih =>
    intro h
    rw [aF] at h
    cases e : sLook r p with
    | false =>
      rw [e, if_pos rfl] at h
      rw [aO, aS, e, if_neg (by decide), if_neg (by decide)]
      exact ih h
    | true =>
      rw [e, if_neg (by decide)] at h
      split at h
      · cases h
      · split at h <;> cases h
theorem aF_some {r : Nat → Int32} : ∀ p b, aF r p = some b → b < p ∧ sLook r b = true ∧ ∀ j, j < p → sLook r j = true → r (3 + 6 * b + 2) ≤ r (3 + 6 * j + 2) := by
  intro p; induction p with
  | zero => intro b h; cases h
  | succ p ih =>
    intro b h
    rw [aF] at h
    cases e : sLook r p with
    | false =>
      rw [e, if_pos rfl] at h
      obtain ⟨h1, h2, h3⟩ := ih b h
      refine ⟨by omega, h2, fun j hj hl => ?_⟩
      by_cases g : j = p
      · subst g; rw [e] at hl; cases hl
      · exact h3 j (by omega) hl
    | true =>
      rw [e, if_neg (by decide)] at h
      cases e2 : aF r p with
      | none =>
        rw [e2] at h
        cases h
        refine ⟨by omega, e, fun j hj hl => ?_⟩
        by_cases g : j = p
        · subst g; exact Int32.le_refl _
        · exfalso
          have hn : ∀ q, aF r q = none → ∀ j, j < q → sLook r j = false := by
            intro q; induction q with
            | zero => intro _ j hj; omega
            | succ q ihq =>
              intro hq j hj
              rw [aF] at hq
              cases e4 : sLook r q with
              | false =>
                rw [e4, if_pos rfl] at hq
                by_cases g4 : j = q
                · subst g4; exact e4
                · exact ihq hq j (by omega)
              | true =>
                rw [e4, if_neg (by decide)] at hq
                split at hq
                · cases hq
                · split at hq <;> cases hq
          rw [hn _ e2 j (by omega)] at hl
          cases hl
      | some c =>
        rw [e2] at h
        obtain ⟨h1, h2, h3⟩ := ih c e2
        simp only at h
        by_cases g : r (3 + 6 * p + 2) < r (3 + 6 * c + 2)
        · rw [if_pos g] at h
          cases h
          refine ⟨by omega, e, fun j hj hl => ?_⟩
          by_cases g2 : j = p
          · subst g2; exact Int32.le_refl _
          · exact Int32.le_trans (Int32.le_of_lt g) (h3 j (by omega) hl)
        · rw [if_neg g] at h
          cases h
          refine ⟨by omega, h2, fun j hj hl => ?_⟩
          by_cases g2 : j = p
          · subst g2; exact Int32.not_lt.mp g
          · exact h3 j (by omega) hl
theorem aX_aH {r : Nat → Int32} {b : Nat} : ∀ p, aX r b p + (if b < p ∧ isOne r b = true then 1 else 0) = aH r p := by
  intro p; induction p with
  | zero => rw [if_neg (by omega)]; rfl
  | succ p ih =>
    rw [aX, aH]
    by_cases g : p = b
    · subst g
      rw [if_neg (by omega)] at ih
      rw [if_pos rfl]
      by_cases g2 : isOne r p = true
      · rw [if_pos ⟨Nat.lt_succ_self p, g2⟩, if_pos g2]; omega
      · rw [if_neg (fun q => g2 q.2), if_neg g2]; omega
    · rw [if_neg g]
      by_cases g2 : b < p ∧ isOne r b = true
      · rw [if_pos g2] at ih
        rw [if_pos (show b < p + 1 ∧ isOne r b = true from ⟨by omega, g2.2⟩)]
        omega
      · rw [if_neg g2] at ih
        rw [if_neg (show ¬ (b < p + 1 ∧ isOne r b = true) from fun q => g2 ⟨by omega, q.2⟩)]
        omega
theorem aO_pos {r : Nat → Int32} : ∀ p, 0 < aO r p → ∃ j, j < p ∧ sLook r j = true ∧ isOne r j = false := by
  intro p; induction p with
  | zero => intro h; exact absurd h (Nat.not_lt_zero 0)
  | succ p ih =>
    intro h
    rw [aO] at h
    by_cases g : sLook r p = true
    · rw [if_pos g] at h
      cases g2 : isOne r p with
      | false => exact ⟨p, Nat.lt_succ_self p, g, g2⟩
      | true =>
        rw [g2, if_pos rfl] at h
        obtain ⟨j, h1, h2⟩ := ih (by omega)
        exact ⟨j, by omega, h2⟩
    · rw [if_neg g] at h
      obtain ⟨j, h1, h2⟩ := ih (by omega)
      exact ⟨j, by omega, h2⟩
theorem aO_zero {r : Nat → Int32} : ∀ p, aO r p = 0 → ∀ j, j < p → sLook r j = true → isOne r j = true := by
  intro p; induction p with
  | zero => intro _ j hj; omega
  | succ p ih =>
    intro h j hj hl
    rw [aO] at h
    by_cases g : j = p
    · subst g
      rw [if_pos hl] at h
      cases g2 : isOne r j with
      | true => rfl
      | false => rw [g2, if_neg (by decide)] at h; omega
    · exact ih (by omega) j (by omega) hl
theorem aS_pos {r : Nat → Int32} {b : Nat} (h1 : sLook r b = true) (h2 : isOne r b = true) : ∀ p, b < p → 0 < aS r p := by
  intro p; induction p with
  | zero => intro h; omega
  | succ p ih =>
    intro h
    rw [aS]
    by_cases g : b = p
    · subst g; rw [if_pos h1, if_pos h2]; omega
    · have := ih (by omega); omega
theorem sLook_e {r : Nat → Int32} {p : Nat} (h : sLook r p = true) : r (3 + 6 * p + 4) = 0 := by
  unfold sLook at h
  simp only [Bool.and_eq_true, decide_eq_true_eq] at h
  exact h.1
theorem sAtAll_eq {r : Nat → Int32} {N : Nat} (h : RI r N) (hN : N ≤ 9) (w : Int32) : sAtAllX r N w = sAtAllA r N w := by
  unfold sAtAllX sAtAllA
  by_cases h0 : sIn w 0 1 = false
  · rw [if_pos h0, if_pos h0]
  rw [if_neg h0, if_neg h0]
  by_cases h1 : w = 1
  · rw [if_pos h1, if_pos h1]
  rw [if_neg h1, if_neg h1]
  obtain ⟨s1, hs1, es1⟩ := h.1
  have hH := aH_le r N
  rw [es1]
  cases e : aF r N with
  | none =>
    obtain ⟨k1, k2⟩ := aF_none N e
    rw [k1, k2, if_neg (by omega), if_neg (by omega)]
    have := mn_n (a := s1) (b := 0) (by omega) (by decide)
    rw [Nat.min_eq_right (Nat.zero_le _)] at this
    exact this.symm
  | some b =>
    obtain ⟨k1, k2, k3⟩ := aF_some N b e
    have k4 := aX_aH (r := r) (b := b) N
    have hc : ∀ x : Nat, x ≤ 9 → mn (nI x) (nI s1) = mn (nI s1) (nI x) := fun x hx => by
      rw [mn_n (by omega) (by omega), mn_n (by omega) (by omega), Nat.min_comm]
    show mn (nI (aX r b N)) (nI s1) = _
    by_cases g : 0 < aO r N
    · rw [if_pos g]
      obtain ⟨j, hj, hl, h1⟩ := aO_pos N g
      have hb : isOne r b = false := by
        have q1 := k3 j hj hl
        unfold isOne at h1 ⊢
        rw [decide_eq_true (sLook_e hl), Bool.and_true] at h1
        rw [decide_eq_true (sLook_e k2), Bool.and_true]
        have q2 : r (3 + 6 * j + 2) ≤ 0 := by simpa using h1
        have q3 : r (3 + 6 * b + 2) ≤ 0 := Int32.le_trans q1 q2
        simp [q3]
      rw [hb, if_neg (by simp)] at k4
      rw [hc _ (by omega), ← k4, Nat.add_zero]
    · rw [if_neg g]
      have hb := aO_zero N (by omega) b k1 k2
      rw [if_pos (aS_pos k2 hb N k1)]
      rw [hb, if_pos ⟨k1, rfl⟩] at k4
      rw [← k4, nI_pred, hc _ (by omega)]
/-! who brings most -/
theorem RI.bj {r : Nat → Int32} {N : Nat} (h : RI r N) : ∃ x, x ≤ 60 ∧ sBJ r N = nI x ∧ (sBJX r N = -4 ∧ x = 0 ∨ sBJX r N = nI x) := by
  unfold sBJ sBJX
  cases e : sBestO r N with
  | none => exact ⟨0, by omega, rfl, Or.inl ⟨rfl, rfl⟩⟩
  | some q =>
    have h1 := sBestO_in e
    obtain ⟨x, hx, ex⟩ := h.joy h1.1 h1.2
    exact ⟨x, hx, ex, Or.inr ex⟩
theorem RI.bjx {r : Nat → Int32} {N : Nat} (h : RI r N) : mx 0 (sBJX r N) = sBJ r N := by
  obtain ⟨x, hx, e1, e2⟩ := h.bj
  rw [e1]
  rcases e2 with ⟨e2, rfl⟩ | e2
  · rw [e2]; decide
  · rw [e2]; exact mx0_n (by omega)
theorem brP_eq {r : Nat → Int32} {N f : Nat} (h : RI r N) (hf : f ≤ 9) : ∀ k, k ≤ 8 → brPX r N (nI f) k = brP r N (nI f) k ∧ ∃ x, x ≤ 60 ∧ (brP r N (nI f) k).2 = nI x := by
  intro k; induction k with
  | zero =>
    intro _
    obtain ⟨x, hx, e1, -⟩ := h.bj
    exact ⟨by rw [brPX, brP, h.bjx], x, hx, e1⟩
  | succ k ih =>
    intro hk
    obtain ⟨e1, x, hx, e2⟩ := ih (by omega)
    obtain ⟨y, hy, e3, e4⟩ := (G_int h (k := k) (by omega) hf).bj
    rw [brPX, brP, e1, e2]
    have e5 : brV r N (nI f) k = nI y := e3
    rcases e4 with ⟨e4, rfl⟩ | e4
    · have e6 : brVX r N (nI f) k = -4 := e4
      rw [e5, e6, if_neg (fun q => nI_pos (n := x) (by omega) (Int32.lt_trans q (by decide))), if_neg (show ¬ nI x < nI 0 from nI_pos (by omega))]
      exact ⟨rfl, x, hx, e2⟩
    · have e6 : brVX r N (nI f) k = nI y := e4
      rw [e5, e6]
      refine ⟨rfl, ?_⟩
      by_cases g : nI x < nI y
      · rw [if_pos g]; exact ⟨y, hy, rfl⟩
      · rw [if_neg g]; exact ⟨x, hx, e2⟩
theorem sBring_eq {r : Nat → Int32} {N : Nat} (h : RI r N) (f : Int32) : sBringX r N f = sBringA r N f := by
  unfold sBringX sBringA
  by_cases g : sIn f 0 9 = false
  · rw [if_pos g, if_pos g]
  · rw [if_neg g, if_neg g]
    obtain ⟨j, -, hj, rfl⟩ := sIn_t (a := 0) (b := 9) (by decide) (by decide) (show sIn f (nI 0) (nI 9) = true from (by simpa using g : sIn f 0 9 = true))
    rw [(brP_eq h hj 8 (Nat.le_refl 8)).1]
