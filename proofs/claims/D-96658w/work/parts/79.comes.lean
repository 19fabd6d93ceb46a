/-! COMES: X1.comes(Told) to the reference's sDo, by hand -/
def NumOk (lc : Int32) (nu : Nat → Int32) : Prop :=
  (lc = 112 ∧ ∃ a b c d : Nat, nu 0 = nI a ∧ nu 1 = nI b ∧ nu 2 = nI c ∧ nu 3 = nI d ∧ a < 10 ∧ b < 10 ∧ c < 100 ∧ d < 100) ∨ (lc = 99 ∧ ∃ a : Nat, nu 0 = nI a ∧ a < 100) ∨
  (lc = 116 ∧ ∃ a b : Nat, nu 0 = nI a ∧ nu 1 = nI b ∧ a < 10 ∧ b < 10) ∨ ((lc = 104 ∨ lc = 108) ∧ ∃ a b : Nat, nu 0 = nI a ∧ nu 1 = nI b ∧ a < 10 ∧ b < 100)
def WM (G : GG) (h : Nat) (xa : Nat → Nat) (xi : Nat → Int32) (fm : Nat → Nat) (wh : Nat → Option Nat) (r : Nat → Int32) (o nb : Nat) (lc a mm : Int32) (nu : Nat → Int32) : va_W :=
  [(h, xO xa xi), (xa 2, fO fm r), (fm 0, qA G 3 9 wh), (fm 1, iA G 9 (fA r 2)), (fm 2, iA G 9 (fA r 3)), (fm 3, iA G 9 (fA r 4)), (fm 4, iA G 9 (fA r 5)), (o, .inr (4, [.int lc, .int a, .ref nb, .int mm])), (nb, iA G 4 nu)]
def S9 (r : Nat → Int32) : Prop := ∃ z : Nat, z ≤ 999 ∧ r 2 = nI z
theorem n30 {c : Nat} (hc : c < 100) : (30 : Int32) < nI c ↔ 30 < c := by
  rw [show (30 : Int32) = nI 30 from rfl]
  exact nI_ltI (by decide) (by omega)
theorem in30 {c : Nat} (hc : c < 100) : sIn (nI c) 0 30 = decide (c ≤ 30) := by
  by_cases h : c ≤ 30
  · rw [decide_eq_true h]; exact sIn_i (a := 0) (b := 30) (Nat.zero_le _) h (by decide)
  · rw [decide_eq_false h]
    cases e : sIn (nI c) 0 30 with
    | false => rfl
    | true => exact absurd (sIn_n (a := 0) (b := 30) (by decide) (by decide) (by omega) e).2 h
theorem n8 {c : Nat} (hc : c < 100) : (8 : Int32) ≤ nI c ↔ 8 ≤ c := by
  rw [show (8 : Int32) = nI 8 from rfl]
  exact nI_leI (by decide) (by omega)
set_option maxHeartbeats 2000000 in
theorem metX1_comes_u (l : Launch) (G : GG) (h : Nat) (xa : Nat → Nat) (xi : Nat → Int32) (fm : Nat → Nat) (gm : GM) (wh : Nat → Option Nat) (r : Nat → Int32) (N o nb : Nat) (lc a mm : Int32) (nu : Nat → Int32) (hnum : NumOk lc nu) (hng : NG gm (WM G h xa xi fm wh r o nb lc a mm nu)) (hN : N ≤ 8) (hr : r 0 = nI N) (hwk : WK gm wh r N) (h9 : S9 r) :
    MW l yX1_comes cX1_comes 3 (some .boolean) ({ frames := 10, cells := 1, slots := 1, locals := 288 }) [.ref h, .ref o] (WM G h xa xi fm wh r o nb lc a mm nu) G (KG G gm) 1 1
      (fun rv w1 => rv = bI (sDoB (sDo r N lc nu)) ∧ ∃ (wh1 : Nat → Option Nat) (gm1 : GM) (tg : va_W), GT gm gm1 tg ∧ (∀ q ∈ tg, gm q.1 = none) ∧ (sDoB (sDo r N lc nu) = true → WK gm1 wh1 (sDoR (sDo r N lc nu) r) (sDoN N lc)) ∧ w1 = WM G h xa xi fm wh1 (sDoR (sDo r N lc nu) r) o nb lc a mm nu ++ tg) := by
  have RM : ∀ {f c s z : Nat}, f ≤ 10 → c ≤ 1 → s ≤ 1 → z ≤ 288 → ({ frames := f, cells := c, slots := s, locals := z } : Room).frames ≤ ({ frames := 10, cells := 1, slots := 1, locals := 288 } : Room).frames ∧ ({ frames := f, cells := c, slots := s, locals := z } : Room).locals ≤ ({ frames := 10, cells := 1, slots := 1, locals := 288 } : Room).locals ∧ ({ frames := f, cells := c, slots := s, locals := z } : Room).cells ≤ ({ frames := 10, cells := 1, slots := 1, locals := 288 } : Room).cells ∧ ({ frames := f, cells := c, slots := s, locals := z } : Room).slots ≤ ({ frames := 10, cells := 1, slots := 1, locals := 288 } : Room).slots := fun a b c d => ⟨a, d, b, c⟩
  have NO : ∀ (e : sDo r N lc nu = none) (rv : Int32) (w1 : va_W), (rv = bI false ∧ w1 = WM G h xa xi fm wh r o nb lc a mm nu) → (rv = bI (sDoB (sDo r N lc nu)) ∧ ∃ (wh1 : Nat → Option Nat) (gm1 : GM) (tg : va_W), GT gm gm1 tg ∧ (∀ q ∈ tg, gm q.1 = none) ∧ (sDoB (sDo r N lc nu) = true → WK gm1 wh1 (sDoR (sDo r N lc nu) r) (sDoN N lc)) ∧ w1 = WM G h xa xi fm wh1 (sDoR (sDo r N lc nu) r) o nb lc a mm nu ++ tg) := by
    intro e rv w1 hq
    rw [e]
    exact ⟨hq.1, wh, gm, [], GT.rf _ _, fun _ h => (nomatch h), fun h => (by cases h), by rw [hq.2, List.append_nil]; rfl⟩
  have YES : ∀ (r1 : Nat → Int32) (e : sDo r N lc nu = some r1) (e2 : sDoN N lc = N) (hw : WK gm wh r1 N) (rv : Int32) (w1 : va_W), (rv = bI true ∧ w1 = WM G h xa xi fm wh r1 o nb lc a mm nu) → (rv = bI (sDoB (sDo r N lc nu)) ∧ ∃ (wh1 : Nat → Option Nat) (gm1 : GM) (tg : va_W), GT gm gm1 tg ∧ (∀ q ∈ tg, gm q.1 = none) ∧ (sDoB (sDo r N lc nu) = true → WK gm1 wh1 (sDoR (sDo r N lc nu) r) (sDoN N lc)) ∧ w1 = WM G h xa xi fm wh1 (sDoR (sDo r N lc nu) r) o nb lc a mm nu ++ tg) := by
    intro r1 e e2 hw rv w1 hq
    rw [e, e2]
    exact ⟨hq.1, wh, gm, [], GT.rf _ _, fun _ h => (nomatch h), fun _ => hw, by rw [hq.2, List.append_nil]; rfl⟩
  rcases hnum with ⟨rfl, a0, b0, c0, d0, e0, e1, e2, e3, l0, l1, l2, l3⟩ | ⟨rfl, a0, e0, l0⟩ | ⟨rfl, a0, b0, e0, e1, l0, l1⟩ | ⟨hlc, a0, b0, e0, e1, l0, l1⟩
  · by_cases c1 : 8 ≤ a0
    · exact MW.weak (metX1_comes_p1 l G h xa xi fm gm wh r N o nb a mm nu a0 hng hN hr hwk e0 (by omega) c1) (RM (by decide) (by decide) (by decide) (by decide)) (by decide) (by decide) (fun _ z => z) (NO (by unfold sDo; rw [if_pos rfl, e0, if_pos ((n8 (by omega)).mpr c1)]))
    by_cases c2 : c0 ≤ 30
    · by_cases c3 : d0 ≤ 30
      · have f1 : sIn (nu 2) 0 30 = true := by rw [e2, in30 l2, decide_eq_true c2]
        have f2 : sIn (nu 3) 0 30 = true := by rw [e3, in30 l3, decide_eq_true c3]
        by_cases c4 : N = 8
        · exact MW.weak (metX1_comes_p4 l G h xa xi fm gm wh r N o nb a mm nu a0 hng hN hr hwk e0 (by omega) (by omega) f1 f2 c4) (RM (by decide) (by decide) (by decide) (by decide)) (by decide) (by decide) (fun _ z => z) (NO (by unfold sDo; rw [if_pos rfl, e0, if_neg (fun z => c1 ((n8 (by omega)).mp z)), e2, if_neg (fun z => by have := (n30 l2).mp z; omega), e3, if_neg (fun z => by have := (n30 l3).mp z; omega), if_pos c4]))
        · have e : sDo r N 112 nu = some (sAdds r N (nI a0) (nu 1) (nu 2) (nu 3)) := by
            unfold sDo
            rw [if_pos rfl, e0, if_neg (fun z => c1 ((n8 (by omega)).mp z)), e2, if_neg (fun z => by have := (n30 l2).mp z; omega), e3, if_neg (fun z => by have := (n30 l3).mp z; omega), if_neg c4]
          refine MW.weak (metX1_comes_p5 l G h xa xi fm gm wh r N o nb a mm nu a0 hng hN hr hwk e0 (by omega) (by omega) f1 f2 (by omega)) (RM (by decide) (by decide) (by decide) (by decide)) (by decide) (by decide) (fun _ z => z) (fun rv w1 hq => ?_)
          obtain ⟨q1, q, hq0, hq2⟩ := hq
          rw [e]
          refine ⟨q1, va_up wh N (some q), upG gm q a0 (nu 1), [(q, .inr (6 + a0, [.int (nu 1)]))], GT.up (GT.rf gm []) hq0 (by omega), fun x hx => ?_, fun _ => ?_, ?_⟩
          · rw [List.mem_singleton.mp hx]; exact hq0
          · have : sDoN N 112 = N + 1 := by unfold sDoN; rw [if_pos rfl]
            rw [this]
            exact WK.adds (hwk.upG hq0) (upG_s _ _ _ _)
          · rw [hq2]; rfl
      · exact MW.weak (metX1_comes_p3 l G h xa xi fm gm wh r N o nb a mm nu a0 hng hN hr hwk e0 (by omega) (by omega) (by rw [e2, in30 l2, decide_eq_true c2]) (by rw [e3, in30 l3, decide_eq_false c3])) (RM (by decide) (by decide) (by decide) (by decide)) (by decide) (by decide) (fun _ z => z) (NO (by unfold sDo; rw [if_pos rfl, e0, if_neg (fun z => c1 ((n8 (by omega)).mp z)), e2, if_neg (fun z => by have := (n30 l2).mp z; omega), e3, if_pos ((n30 l3).mpr (by omega))]))
    · exact MW.weak (metX1_comes_p2 l G h xa xi fm gm wh r N o nb a mm nu a0 hng hN hr hwk e0 (by omega) (by omega) (by rw [e2, in30 l2, decide_eq_false c2])) (RM (by decide) (by decide) (by decide) (by decide)) (by decide) (by decide) (fun _ z => z) (NO (by unfold sDo; rw [if_pos rfl, e0, if_neg (fun z => c1 ((n8 (by omega)).mp z)), e2, if_pos ((n30 l2).mpr (by omega))]))
  · exact MW.weak (metX1_comes_c l G h xa xi fm gm wh r N o nb a mm nu hng hN hr hwk) (RM (by decide) (by decide) (by decide) (by decide)) (by decide) (by decide) (fun _ z => z) (YES (upd r 1 (nu 0)) (by unfold sDo; rw [if_neg (by decide), if_pos rfl]) (by unfold sDoN; rw [if_neg (by decide)]) (hwk.h (by decide)))
  · obtain ⟨z9, hz9, ez9⟩ := h9
    have e : sDo r N 116 nu = if sMay r N (nu 0) (nu 1) = true then some (sTurn r (tn (nu 0)) (tn (nu 1))) else none := by
      unfold sDo
      rw [if_neg (by decide), if_neg (by decide), if_pos rfl]
      have hle : r 2 ≤ 999 := by rw [ez9]; exact (nI_leI (b := 999) (by omega) (by decide)).mpr hz9
      unfold sMay sEatP sTwo
      cases h1 : sPer N (nu 0) with
      | false => simp
      | true =>
        cases h2 : sPer N (nu 1) with
        | false => simp
        | true =>
          by_cases h3 : nu 0 = nu 1
          · have h4 : sEat r (tn (nu 0)) (tn (nu 1)) = false := by rw [h3]; unfold sEat; simp
            simp [h4]
          · cases h4 : sEat r (tn (nu 0)) (tn (nu 1)) with
            | false => simp
            | true =>
              by_cases h5 : r 2 < 999
              · have h6 : ¬ r 2 = 999 := fun q => by rw [q] at h5; exact absurd h5 (by decide)
                simp [h3, h5, h6]
              · have h6 : r 2 = 999 := Int32.le_antisymm hle (Int32.not_lt.mp h5)
                simp [h6]
    by_cases c1 : sMay r N (nu 0) (nu 1) = true
    · have c2 : sMay r N (nI a0) (nI b0) = true := by rw [← e0, ← e1]; exact c1
      obtain ⟨g1, g2, g3, g4⟩ := sMay_n2 (by omega) (by omega) (by omega) c2
      exact MW.weak (metX1_comes_t1 l G h xa xi fm gm wh r N o nb a mm nu a0 b0 hng hN hr hwk e0 e1 g1 g2 c2) (RM (by decide) (by decide) (by decide) (by decide)) (by decide) (by decide) (fun _ z => z) (YES (sTurn r a0 b0) (by rw [e, if_pos c1, e0, e1, show tn (nI a0) = a0 from nI_clamp (by omega), show tn (nI b0) = b0 from nI_clamp (by omega)]) (by unfold sDoN; rw [if_neg (by decide)]) hwk.turn)
    · exact MW.weak (metX1_comes_t0 l G h xa xi fm gm wh r N o nb a mm nu hng hN hr hwk (by simpa using c1)) (RM (by decide) (by decide) (by decide) (by decide)) (by decide) (by decide) (fun _ z => z) (NO (by rw [e, if_neg c1]))
  · have e : sDo r N lc nu = if sFlOk N (nu 0) (nu 1) = true then some (upd r (if lc = 104 then 3 + 6 * tn (nu 0) + 2 else 3 + 6 * tn (nu 0) + 3) (nu 1)) else none := by
      unfold sDo
      rw [if_neg (by rcases hlc with rfl | rfl <;> decide), if_neg (by rcases hlc with rfl | rfl <;> decide), if_neg (by rcases hlc with rfl | rfl <;> decide)]
      unfold sFlOk
      rw [e1, in30 l1]
      cases sPer N (nu 0) with
      | false => rfl
      | true =>
        by_cases c2 : b0 ≤ 30
        · rw [if_neg (by decide), if_neg (fun z => by have := (n30 l1).mp z; omega), decide_eq_true c2]; rfl
        · rw [if_neg (by decide), if_pos ((n30 l1).mpr (by omega)), decide_eq_false c2]; rfl
    have e2 : sDoN N lc = N := by unfold sDoN; rw [if_neg (by rcases hlc with rfl | rfl <;> decide)]
    by_cases c1 : sFlOk N (nu 0) (nu 1) = true
    · rcases hlc with rfl | rfl
      · refine MW.weak (metX1_comes_h l G h xa xi fm gm wh r N o nb a mm nu hng hN hr hwk) (RM (by decide) (by decide) (by decide) (by decide)) (by decide) (by decide) (fun _ z => z) (fun rv w1 hq => YES (sFlS r N (nu 0) 0 (nu 1)) ?_ e2 hwk.fl rv w1 ⟨by rw [hq.1, c1], hq.2⟩)
        rw [e, if_pos c1, if_pos rfl]; unfold sFlS sFeelsAt; rw [if_pos c1, if_pos rfl]
      · refine MW.weak (metX1_comes_l l G h xa xi fm gm wh r N o nb a mm nu hng hN hr hwk) (RM (by decide) (by decide) (by decide) (by decide)) (by decide) (by decide) (fun _ z => z) (fun rv w1 hq => YES (sFlS r N (nu 0) 1 (nu 1)) ?_ e2 hwk.fl rv w1 ⟨by rw [hq.1, c1], hq.2⟩)
        rw [e, if_pos c1, if_neg (by decide)]; unfold sFlS sFeelsAt; rw [if_pos c1, if_neg (by decide)]
    · have e3 : ∀ x, sFlS r N (nu 0) x (nu 1) = r := fun x => by unfold sFlS; rw [if_neg c1]
      have c1' : sFlOk N (nu 0) (nu 1) = false := by simpa using c1
      rcases hlc with rfl | rfl
      · exact MW.weak (metX1_comes_h l G h xa xi fm gm wh r N o nb a mm nu hng hN hr hwk) (RM (by decide) (by decide) (by decide) (by decide)) (by decide) (by decide) (fun _ z => z) (fun rv w1 hq => NO (by rw [e, if_neg c1]) rv w1 ⟨by rw [hq.1, c1'], by rw [hq.2, e3]; rfl⟩)
      · exact MW.weak (metX1_comes_l l G h xa xi fm gm wh r N o nb a mm nu hng hN hr hwk) (RM (by decide) (by decide) (by decide) (by decide)) (by decide) (by decide) (fun _ z => z) (fun rv w1 hq => NO (by rw [e, if_neg c1]) rv w1 ⟨by rw [hq.1, c1'], by rw [hq.2, e3]; rfl⟩)
