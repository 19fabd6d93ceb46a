/-! LAW BASE: the world between two calls: the class's object, the reference's, the long's row; the shelves (SL), the rows held (RL), the guests made (tg) -/
abbrev lA (G : GG) (n : Nat) (f : Nat → Int64) : va_E := .inl (G.2.2 6, n, .inr (.inl f))
def PT : Nat → Bool := fun _ => true
def rmP (P : Nat → Bool) (d : Nat) : Nat → Bool := fun j => P j && !decide (j = d)
theorem rmP_n {P : Nat → Bool} {d j : Nat} (h : j ≠ d) : rmP P d j = P j := by unfold rmP; rw [decide_eq_false h]; simp
theorem rmP_s (P : Nat → Bool) (d : Nat) : rmP P d d = false := by unfold rmP; simp
def SL (sh : Nat → Nat) (hv : Nat → Value) (P : Nat → Bool) : Nat → va_W
  | 0 => []
  | n + 1 => SL sh hv P n ++ (if P n = true then [(sh n, .inr (3, [hv n]))] else [])
abbrev RWT : Type := Nat → Option (Nat × Nat × Nat)
def rl1 (G : GG) (rw : RWT) (el : Nat → Int32) (d : Nat) : va_W := match rw d with
  | none => []
  | some q => [(q.1, tA G q.2.1 q.2.2 (rwE el (100 * d)))]
def RL (G : GG) (rw : RWT) (el : Nat → Int32) (P : Nat → Bool) : Nat → va_W
  | 0 => []
  | n + 1 => RL G rw el P n ++ (if P n = true then rl1 G rw el n else [])
theorem rl1_n {G : GG} {rw : RWT} {el : Nat → Int32} {d : Nat} (h : rw d = none) : rl1 G rw el d = [] := by unfold rl1; rw [h]
theorem rl1_s {G : GG} {rw : RWT} {el : Nat → Int32} {d a t z : Nat} (h : rw d = some (a, t, z)) : rl1 G rw el d = [(a, tA G t z (rwE el (100 * d)))] := by unfold rl1; rw [h]
theorem SL_c {sh : Nat → Nat} {hv hv' : Nat → Value} {P P' : Nat → Bool} : ∀ n, (∀ d, d < n → P d = P' d ∧ (P d = true → hv d = hv' d)) → SL sh hv P n = SL sh hv' P' n := by
  intro n; induction n with
  | zero => intro _; rfl
  | succ n ih =>
    intro h
    obtain ⟨h1, h2⟩ := h n (Nat.lt_succ_self n)
    rw [SL, SL, ih (fun d hd => h d (by omega)), ← h1]
    by_cases g : P n = true
    · rw [if_pos g, if_pos g, h2 g]
    · rw [if_neg g, if_neg g]
theorem SL_out {sh : Nat → Nat} {hv : Nat → Value} {P : Nat → Bool} {d : Nat} (hp : P d = true) : ∀ n, d < n → (SL sh hv P n).Perm ([(sh d, .inr (3, [hv d]))] ++ SL sh hv (rmP P d) n) := by
  intro n; induction n with
  | zero => intro h; omega
  | succ n ih =>
    intro h
    rw [SL, SL]
    by_cases e : d = n
    · subst e
      rw [if_pos hp, rmP_s, if_neg (show ¬ (false = true) by decide), List.append_nil, SL_c (P' := P) (hv' := hv) d (fun j hj => ⟨rmP_n (by omega), fun _ => rfl⟩)]
      exact List.perm_append_comm
    · rw [rmP_n (show n ≠ d by omega), ← List.append_assoc]
      exact (ih (by omega)).append_right _
theorem RL_c {G : GG} {rw rw' : RWT} {el : Nat → Int32} {P P' : Nat → Bool} : ∀ n, (∀ d, d < n → P d = P' d ∧ (P d = true → rw d = rw' d)) → RL G rw el P n = RL G rw' el P' n := by
  intro n; induction n with
  | zero => intro _; rfl
  | succ n ih =>
    intro h
    obtain ⟨h1, h2⟩ := h n (Nat.lt_succ_self n)
    rw [RL, RL, ih (fun d hd => h d (by omega)), ← h1]
    by_cases g : P n = true
    · rw [if_pos g, if_pos g]; unfold rl1; rw [h2 g]
    · rw [if_neg g, if_neg g]
theorem RL_out {G : GG} {rw : RWT} {el : Nat → Int32} {P : Nat → Bool} {d : Nat} (hp : P d = true) : ∀ n, d < n → (RL G rw el P n).Perm (rl1 G rw el d ++ RL G rw el (rmP P d) n) := by
  intro n; induction n with
  | zero => intro h; omega
  | succ n ih =>
    intro h
    rw [RL, RL]
    by_cases e : d = n
    · subst e
      rw [if_pos hp, rmP_s, if_neg (show ¬ (false = true) by decide), List.append_nil, RL_c (P' := P) (rw' := rw) d (fun j hj => ⟨rmP_n (by omega), fun _ => rfl⟩)]
      exact List.perm_append_comm
    · rw [rmP_n (show n ≠ d by omega), ← List.append_assoc]
      exact (ih (by omega)).append_right _
theorem RL_ext {G : GG} {rw : RWT} {el el' : Nat → Int32} {P : Nat → Bool} {H : Heap} : ∀ n, (∀ d, d < n → P d = true → ∀ q, rw d = some q → ∀ k, k < q.2.2 → el (100 * d + k) = el' (100 * d + k)) → PP G (RL G rw el P n) H → PP G (RL G rw el' P n) H := by
  intro n; induction n with
  | zero => intro _ h; exact h
  | succ n ih =>
    intro h hP
    rw [RL] at hP ⊢
    obtain ⟨h1, h2⟩ := PP_app.mp hP
    refine PP_app.mpr ⟨ih (fun d hd => h d (by omega)) h1, ?_⟩
    by_cases g : P n = true
    · rw [if_pos g] at h2 ⊢
      cases e : rw n with
      | none => rw [rl1_n e]; exact fun k q hk => by cases hk
      | some q =>
        obtain ⟨a, t, z⟩ := q
        rw [rl1_s e] at h2 ⊢
        have hx := h n (Nat.lt_succ_self n) g _ e
        have h3 : va_at (gD G) clAll (a, tA G t z (rwE el (100 * n))) H := h2 0 _ rfl
        have h4 : va_at (gD G) clAll (a, tA G t z (rwE el' (100 * n))) H := by
          show H[a]? = some (vp_cell (G.2.2 t) (z, .inl (rwE el' (100 * n))))
          have e9 := cell_ext (cA := G.2.2 t) (n := z) (f := rwE el (100 * n)) (g := rwE el' (100 * n)) (fun j hj => hx j hj)
          rw [← e9]
          exact h3
        intro k q hk
        cases k with
        | zero => cases hk; exact h4
        | succ k => cases hk
    · rw [if_neg g] at h2 ⊢; exact h2
theorem RL_fst {G : GG} {rw : RWT} {el el' : Nat → Int32} {P : Nat → Bool} : ∀ n, (RL G rw el P n).map (·.1) = (RL G rw el' P n).map (·.1) := by
  intro n; induction n with
  | zero => rfl
  | succ n ih =>
    rw [RL, RL, List.map_append, List.map_append, ih]
    by_cases g : P n = true
    · rw [if_pos g, if_pos g]
      unfold rl1
      cases rw n <;> rfl
    · rw [if_neg g, if_neg g]
theorem D_fst {A : Nat → Prop} {w w' : va_W} (e : w.map (·.1) = w'.map (·.1)) (h : va_D A w) : va_D A w' := by
  obtain ⟨h1, h2⟩ := D_mem.mp h
  refine D_mem.mpr ⟨by rw [← e]; exact h1, fun q hq => ?_⟩
  have h3 : q.1 ∈ w.map (·.1) := by rw [e]; exact List.mem_map.mpr ⟨q, hq, rfl⟩
  obtain ⟨q', hq', e'⟩ := List.mem_map.mp h3
  rw [← e']
  exact h2 q' hq'
theorem wo_out {G : GG} {X tg : va_W} {sh : Nat → Nat} {hv : Nat → Value} {rw : RWT} {el : Nat → Int32} {P : Nat → Bool} {d : Nat} (hp : P d = true) (hd : d < 8) : (X ++ (SL sh hv P 8 ++ (RL G rw el P 8 ++ tg))).Perm (((X ++ [(sh d, .inr (3, [hv d]))]) ++ rl1 G rw el d) ++ (SL sh hv (rmP P d) 8 ++ (RL G rw el (rmP P d) 8 ++ tg))) := by
  refine (pm_in (SL_out hp 8 hd)).trans ?_
  refine (List.Perm.append_left _ (List.perm_append_comm_assoc _ _ _)).trans ?_
  refine (pm_in (RL_out hp 8 hd)).trans ?_
  exact List.Perm.append_left _ (List.perm_append_comm_assoc _ _ _)
/-- what a shelf holds, on both sides -/
def SHd (gm : GM) (hv : Nat → Value) (rw : RWT) (ke kk kf so : Nat → Int32) (zz : Nat → Nat) (el : Nat → Int32) (d : Nat) : Prop :=
  (hv d = .null ∧ rw d = none ∧ ke d = 0) ∨
  (∃ y k f : Nat, hv d = .ref y ∧ rw d = none ∧ gm y = some (k, nI f) ∧ k < 8 ∧ f ≤ 9 ∧ ke d = 1 ∧ kk d = nI k ∧ kf d = nI f) ∨
  (∃ a t : Nat, hv d = .ref a ∧ rw d = some (a, t, zz d) ∧ t < 3 ∧ ke d = 2 ∧ so d = sSrt t ∧ (t = 1 → ∀ k, k < 100 → BR (el (100 * d + k))))
def G0 : GM := fun _ => none
theorem G0_GP (G : GG) (H : Heap) : GP G G0 H := fun y k f h => by cases h
theorem G0_GA (A : Nat → Prop) : GA G0 A := fun y h => absurd rfl h
theorem SHd.gt {gm gm' : GM} {hv : Nat → Value} {rw : RWT} {ke kk kf so : Nat → Int32} {zz : Nat → Nat} {el : Nat → Int32} {d : Nat} (h : SHd gm hv rw ke kk kf so zz el d) (hg : ∀ y, gm y ≠ none → gm' y = gm y) : SHd gm' hv rw ke kk kf so zz el d := by
  rcases h with h | ⟨y, k, f, h1, h2, h3, h4⟩ | h
  · exact Or.inl h
  · exact Or.inr (Or.inl ⟨y, k, f, h1, h2, by rw [hg y (by rw [h3]; exact fun q => by cases q)]; exact h3, h4⟩)
  · exact Or.inr (Or.inr h)
theorem WK.gt {gm gm' : GM} {wh : Nat → Option Nat} {r : Nat → Int32} {N : Nat} (h : WK gm wh r N) (hg : ∀ y, gm y ≠ none → gm' y = gm y) : WK gm' wh r N := by
  refine ⟨fun i y hi hy => ?_, fun i hi => ?_⟩
  · have h1 := h.1 i y hi hy
    rw [hg y h1]; exact h1
  · obtain ⟨y, k, h1, h2, h3⟩ := h.2 i hi
    exact ⟨y, k, h1, by rw [hg y (by rw [h2]; exact fun q => by cases q)]; exact h2, h3⟩
/-- what holds between two calls -/
def LF (gm : GM) (tg : va_W) (xi r : Nat → Int32) (N : Nat) (wh : Nat → Option Nat) (rk : Nat → Int32) (N2 : Nat) (wk : Nat → Option Nat) (hv : Nat → Value) (rw : RWT) (iv ke kk kf so : Nat → Int32) (zz : Nat → Nat) (el : Nat → Int32) : Prop :=
  N ≤ 8 ∧ r 0 = nI N ∧ WK gm wh r N ∧ RI r N ∧ S9 r ∧ N2 ≤ 8 ∧ rk 0 = nI N2 ∧ WK gm wk rk N2 ∧ RI rk N2 ∧ S9 rk ∧ iv 4 = xi 3 ∧ GT G0 gm tg ∧ (∀ d, zz d ≤ 100) ∧ ∀ d, d < 8 → SHd gm hv rw ke kk kf so zz el d
theorem S9.le {r : Nat → Int32} (h : S9 r) : r 2 ≤ 999 := by
  obtain ⟨z, hz, e⟩ := h
  rw [e]
  exact (nI_leI (b := 999) (by omega) (by decide)).mpr hz
theorem lgc_0 (a : Int64) : lg_cmp a a = 0 := by unfold lg_cmp; simp
theorem upd_self (f : Nat → Int32) (k : Nat) : f = upd f k (f k) := funext fun j => by
  unfold upd
  by_cases h : j = k
  · rw [if_pos h, h]
  · rw [if_neg h]
theorem vp_in_nI2 {j n : Nat} (h : j < n) (hn : n < 2 ^ 31) : vp_in (nI j) n := vp_in_nI h hn
theorem fA_sl (r : Nat → Int32) (v : Int32) (k : Nat) : fA (sSlicesS r v) k = fA r k := by
  unfold sSlicesS
  split
  · exact fA_h (by decide)
  · rfl
theorem sl_keep {r : Nat → Int32} {N : Nat} {gm : GM} {wh : Nat → Option Nat} (v : Int32) (hr : r 0 = nI N) (hw : WK gm wh r N) (hi : RI r N) (h9 : S9 r) : sSlicesS r v 0 = nI N ∧ WK gm wh (sSlicesS r v) N ∧ RI (sSlicesS r v) N ∧ S9 (sSlicesS r v) := by
  unfold sSlicesS
  by_cases h : sIn v 0 99 = true
  · rw [if_pos h]
    obtain ⟨j, -, hj, ej⟩ := sIn_t (a := 0) (b := 99) (by decide) (by decide) h
    obtain ⟨z, hz, ez⟩ := h9
    exact ⟨by rw [← hr]; exact r_h (by decide), hw.h (by decide), hi.h (by decide) (fun _ => ⟨j, hj, ej⟩), z, hz, by rw [← ez]; exact r_h (by decide)⟩
  · rw [if_neg h]; exact ⟨hr, hw, hi, h9⟩
theorem ea_keep {r : Nat → Int32} {N : Nat} {gm : GM} {wh : Nat → Option Nat} (p q : Int32) (hN : N ≤ 8) (hr : r 0 = nI N) (hw : WK gm wh r N) (hi : RI r N) (h9 : S9 r) : sEatsS r N p q 0 = nI N ∧ WK gm wh (sEatsS r N p q) N ∧ RI (sEatsS r N p q) N ∧ S9 (sEatsS r N p q) := by
  unfold sEatsS
  by_cases h : sWT r N p q = 0
  · rw [if_pos h]
    by_cases g : r 2 = 999
    · rw [if_pos g]; exact ⟨hr, hw, hi, h9⟩
    · rw [if_neg g]
      obtain ⟨j, k, hj, hk, -, he, rfl, rfl⟩ := sWT_0 (by omega) h
      rw [show tn (nI j) = j from nI_clamp (by omega), show tn (nI k) = k from nI_clamp (by omega)]
      exact ⟨(sTurn_0 _ _ _).trans hr, hw.turn, hi.turn hj hk he, h9.turn g⟩
  · rw [if_neg h]; exact ⟨hr, hw, hi, h9⟩
theorem fe_keep {r : Nat → Int32} {N : Nat} {gm : GM} {wh : Nat → Option Nat} (p w v : Int32) (hN : N ≤ 8) (hr : r 0 = nI N) (hw : WK gm wh r N) (hi : RI r N) (h9 : S9 r) : sFeelsS r N p w v 0 = nI N ∧ WK gm wh (sFeelsS r N p w v) N ∧ RI (sFeelsS r N p w v) N ∧ S9 (sFeelsS r N p w v) := by
  unfold sFeelsS
  by_cases h : sFeelsOk N p w v = true
  · rw [if_pos h]
    unfold sFeelsOk at h
    simp only [Bool.and_eq_true] at h
    obtain ⟨⟨h1, h2⟩, h3⟩ := h
    obtain ⟨j, -, hj, ej⟩ := sIn_t (a := 0) (b := 30) (by decide) (by decide) h3
    obtain ⟨z, hz, ez⟩ := h9
    unfold sFeelsAt
    by_cases g : w = 0
    · rw [if_pos g]
      exact ⟨by rw [← hr]; exact r_n (by decide), hw.u (by decide), hi.u (by decide) ⟨j, hj, ej⟩, z, hz, by rw [← ez]; exact r_n (by decide)⟩
    · rw [if_neg g]
      exact ⟨by rw [← hr]; exact r_n (by decide), hw.u (by decide), hi.u (by decide) ⟨j, hj, ej⟩, z, hz, by rw [← ez]; exact r_n (by decide)⟩
  · rw [if_neg h]; exact ⟨hr, hw, hi, h9⟩
abbrev LW (G : GG) (ax am ao : Nat) (xa fn fk fm sh ad : Nat → Nat) (xi : Nat → Int32) (rx : Nat → Int32) (wh : Nat → Option Nat) (rk : Nat → Int32) (wk : Nat → Option Nat) (gw : Nat → Option Nat) (ga2 : Nat → Int32) (ga3 : Nat → Int32) (ga4 : Nat → Int32) (ga5 : Nat → Int32) (g0 : Int32) (g1 : Int32) (g2 : Int32) (ft : Nat → Option Nat) (vv : Nat → Int32) (by9 : Nat → Int32) (iv : Nat → Int32) (rm : Nat → Int32) (m9 : Nat → Int32) (im : Nat → Int32) (w9 : Nat → Int32) (nu : Nat → Int32) (wb : Nat → Int32) (bb : Nat → Int32) (ke : Nat → Int32) (kk : Nat → Int32) (kf : Nat → Int32) (so : Nat → Int32) (zz : Nat → Nat) (el : Nat → Int32) (out : Nat → Int64) : va_W := [(ax, xO xa xi), (xa 0, fO fn rx), (fn 0, qA G 3 9 wh), (fn 1, iA G 9 (fA rx 2)), (fn 2, iA G 9 (fA rx 3)), (fn 3, iA G 9 (fA rx 4)), (fn 4, iA G 9 (fA rx 5)), (xa 1, fO fk rk), (fk 0, qA G 3 9 wk), (fk 1, iA G 9 (fA rk 2)), (fk 2, iA G 9 (fA rk 3)), (fk 3, iA G 9 (fA rk 4)), (fk 4, iA G 9 (fA rk 5)), (xa 2, fR fm g0 g1 g2), (fm 0, qA G 3 9 gw), (fm 1, iA G 9 ga2), (fm 2, iA G 9 ga3), (fm 3, iA G 9 ga4), (fm 4, iA G 9 ga5), (xa 4, qA G 4 100 ft), (xa 5, iA G 1280 vv), (xa 6, iA G 8 by9), (xa 8, qA G 5 8 (shf sh)), (am, mO ad iv), (ad 0, iA G 57 rm), (ad 1, iA G 57 m9), (ad 2, iA G 57 im), (ad 3, iA G 57 w9), (ad 8, iA G 4 nu), (ad 9, iA G 8 wb), (ad 10, iA G 8 bb), (ad 13, iA G 8 ke), (ad 14, iA G 8 kk), (ad 15, iA G 8 kf), (ad 16, iA G 8 so), (ad 17, iA G 8 (nIf zz)), (ad 18, iA G 800 el), (ao, lA G 1 out)]
def LI (G : GG) (ax am ao : Nat) (xa fn fk fm sh ad : Nat → Nat) (A : Nat → Prop) (H : Heap) : Prop :=
  ∃ (gm : GM) (tg : va_W) (N N2 : Nat) (hv : Nat → Value) (rw : RWT) (r rk : Nat → Int32) (xi : Nat → Int32) (wh : Nat → Option Nat) (wk : Nat → Option Nat) (gw : Nat → Option Nat) (ga2 : Nat → Int32) (ga3 : Nat → Int32) (ga4 : Nat → Int32) (ga5 : Nat → Int32) (g0 : Int32) (g1 : Int32) (g2 : Int32) (ft : Nat → Option Nat) (vv : Nat → Int32) (by9 : Nat → Int32) (iv : Nat → Int32) (m9 : Nat → Int32) (w9 : Nat → Int32) (nu : Nat → Int32) (wb : Nat → Int32) (bb : Nat → Int32) (ke : Nat → Int32) (kk : Nat → Int32) (kf : Nat → Int32) (so : Nat → Int32) (zz : Nat → Nat) (el : Nat → Int32) (out : Nat → Int64), LF gm tg xi r N wh rk N2 wk hv rw iv ke kk kf so zz el ∧ PP G ((LW G ax am ao xa fn fk fm sh ad xi r wh rk wk gw ga2 ga3 ga4 ga5 g0 g1 g2 ft vv by9 iv r m9 rk w9 nu wb bb ke kk kf so zz el out) ++ (SL sh hv PT 8 ++ (RL G rw el PT 8 ++ tg))) H ∧ va_D A ((LW G ax am ao xa fn fk fm sh ad xi r wh rk wk gw ga2 ga3 ga4 ga5 g0 g1 g2 ft vv by9 iv r m9 rk w9 nu wb bb ke kk kf so zz el out) ++ (SL sh hv PT 8 ++ (RL G rw el PT 8 ++ tg)))
