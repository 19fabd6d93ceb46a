/-! LAW S2: shelves that change -/
theorem u_s (f : Nat → Int32) (k : Nat) (v : Int32) : upd f k v k = v := by unfold upd; rw [if_pos rfl]
theorem u_n {f : Nat → Int32} {k j : Nat} {v : Int32} (h : j ≠ k) : upd f k v j = f j := by unfold upd; rw [if_neg h]
def vU {α : Type} (f : Nat → α) (k : Nat) (v : α) : Nat → α := fun j => if j = k then v else f j
theorem vU_s {α : Type} (f : Nat → α) (k : Nat) (v : α) : vU f k v k = v := by unfold vU; rw [if_pos rfl]
theorem vU_n {α : Type} {f : Nat → α} {k j : Nat} {v : α} (h : j ≠ k) : vU f k v j = f j := by unfold vU; rw [if_neg h]
theorem wo_dr {G : GG} {Y R T : va_W} {H : Heap} {A : Nat → Prop} (hP : PP G ((Y ++ R) ++ T) H) (hD : va_D A ((Y ++ R) ++ T)) : PP G (Y ++ T) H ∧ va_D A (Y ++ T) := by
  have hs : (Y ++ T).Sublist ((Y ++ R) ++ T) := (List.sublist_append_left Y R).append_right T
  refine ⟨PP_sub hs hP, D_mem.mpr ⟨?_, fun q hq => (D_mem.mp hD).2 q (hs.subset hq)⟩⟩
  exact (D_mem.mp hD).1.sublist (hs.map _)
theorem wo_ex {G : GG} {Y T : va_W} {H : Heap} {A : Nat → Prop} {q t n : Nat} {f g : Nat → Int32} (h : ∀ k, k < n → f k = g k) (hP : PP G ((Y ++ [(q, tA G t n f)]) ++ T) H) (hD : va_D A ((Y ++ [(q, tA G t n f)]) ++ T)) : PP G ((Y ++ [(q, tA G t n g)]) ++ T) H ∧ va_D A ((Y ++ [(q, tA G t n g)]) ++ T) := by
  obtain ⟨p1, p2⟩ := PP_app.mp hP
  obtain ⟨p3, p4⟩ := PP_app.mp p1
  refine ⟨PP_app.mpr ⟨PP_app.mpr ⟨p3, ?_⟩, p2⟩, D_fst (by simp only [List.map_append]; rfl) hD⟩
  have h3 : va_at (gD G) clAll (q, tA G t n f) H := p4 0 _ rfl
  have h4 : va_at (gD G) clAll (q, tA G t n g) H := by
    show H[q]? = some (vp_cell (G.2.2 t) (n, .inl g))
    rw [← cell_ext (cA := G.2.2 t) (n := n) (f := f) (g := g) h]
    exact h3
  intro k x hk
  cases k with
  | zero => cases hk; exact h4
  | succ k => cases hk
theorem SHd.cg {gm : GM} {hv hv' : Nat → Value} {rw rw' : RWT} {ke kk kf so ke' kk' kf' so' : Nat → Int32} {zz zz' : Nat → Nat} {el el' : Nat → Int32} {d : Nat} (h : SHd gm hv rw ke kk kf so zz el d) (h1 : hv' d = hv d) (h2 : rw' d = rw d) (h3 : ke' d = ke d) (h4 : kk' d = kk d) (h5 : kf' d = kf d) (h6 : so' d = so d) (h7 : zz' d = zz d) (h8 : ∀ k, k < 100 → el' (100 * d + k) = el (100 * d + k)) : SHd gm hv' rw' ke' kk' kf' so' zz' el' d := by
  rcases h with ⟨a1, a2, a3⟩ | ⟨y, k, f, a1, a2, a3, a4, a5, a6, a7, a8⟩ | ⟨a, t, a1, a2, a3, a4, a5, a6⟩
  · exact Or.inl ⟨h1.trans a1, h2.trans a2, h3.trans a3⟩
  · exact Or.inr (Or.inl ⟨y, k, f, h1.trans a1, h2.trans a2, a3, a4, a5, h3.trans a6, h4.trans a7, h5.trans a8⟩)
  · exact Or.inr (Or.inr ⟨a, t, h1.trans a1, by rw [h7]; exact h2.trans a2, a3, h3.trans a4, h6.trans a5, fun e k hk => by rw [h8 k hk]; exact a6 e k hk⟩)
/-- comes -/
theorem cm_w {ke kk kf r : Nat → Int32} {N : Nat} {d h w y : Int32} (e : sComesOk ke N d h w = y) (hy : ¬ y = 0) : y = sComesA ke N d h w ∧ sComesS ke kk kf r N d h w = r := by unfold sComesA sComesS; rw [e, if_neg hy, if_neg hy]; exact ⟨rfl, rfl⟩
theorem ok_1 {ke : Nat → Int32} {N : Nat} {d h w : Int32} (e : sIn h 0 30 = false) : sComesOk ke N d h w = -1 := by unfold sComesOk; rw [if_pos e]
theorem ok_2 {ke : Nat → Int32} {N : Nat} {d h w : Int32} (e1 : sIn h 0 30 = true) (e : sIn w 0 30 = false) : sComesOk ke N d h w = -1 := by unfold sComesOk; rw [e1, if_neg (show ¬ true = false by decide), if_pos e]
theorem ok_3 {ke : Nat → Int32} {N : Nat} {d h w y : Int32} (e1 : sIn h 0 30 = true) (e2 : sIn w 0 30 = true) (e : sWK ke d = y) (hy : ¬ y = 0) : sComesOk ke N d h w = y := by unfold sComesOk; rw [e1, e2, if_neg (show ¬ true = false by decide), if_neg (show ¬ true = false by decide), e, if_neg hy]
theorem ok_b {ke : Nat → Int32} {N : Nat} {d h w : Int32} (e : sIn d 0 7 = false) : sComesOk ke N d h w = -1 := by
  cases e1 : sIn h 0 30 with
  | false => exact ok_1 e1
  | true =>
    cases e2 : sIn w 0 30 with
    | false => exact ok_2 e1 e2
    | true => exact ok_3 e1 e2 (wk_b e) (by decide)
theorem ok_g {ke : Nat → Int32} {N : Nat} {d h w : Int32} (e1 : sIn h 0 30 = true) (e2 : sIn w 0 30 = true) (e : sWK ke d = 0) : sComesOk ke N d h w = if N = 8 then -2 else 0 := by unfold sComesOk; rw [e1, e2, if_neg (show ¬ true = false by decide), if_neg (show ¬ true = false by decide), if_pos e]
theorem ok_f {ke : Nat → Int32} {N : Nat} {d h w : Int32} (e1 : sIn h 0 30 = true) (e2 : sIn w 0 30 = true) (e : sWK ke d = 0) (h8 : N = 8) : sComesOk ke N d h w = -2 := by rw [ok_g e1 e2 e, if_pos h8]
theorem cm_g {ke kk kf r : Nat → Int32} {N d k f : Nat} {h w : Int32} (hd : d < 8) (e1 : sIn h 0 30 = true) (e2 : sIn w 0 30 = true) (e : ke d = 1) (e3 : kk d = nI k) (e4 : kf d = nI f) (h8 : N < 8) : nI N = sComesA ke N (nI d) h w ∧ sComesS ke kk kf r N (nI d) h w = sAdds r N (nI k) (nI f) h w := by
  unfold sComesA sComesS; rw [ok_g e1 e2 (wk_g hd e), if_neg (show ¬ N = 8 by omega), if_pos rfl, if_pos rfl, tn_d hd, e3, e4]; exact ⟨rfl, rfl⟩
theorem ad_keep {r : Nat → Int32} {N k f y : Nat} {gm : GM} {wh : Nat → Option Nat} {u w : Int32} (hk : k < 8) (hf : f ≤ 9) (hw : WK gm wh r N) (hi : RI r N) (h9 : S9 r) (hy : gm y = some (k, nI f)) (e1 : sIn u 0 30 = true) (e2 : sIn w 0 30 = true) : sAdds r N (nI k) (nI f) u w 0 = nI (N + 1) ∧ WK gm (va_up wh N (some y)) (sAdds r N (nI k) (nI f) u w) (N + 1) ∧ RI (sAdds r N (nI k) (nI f) u w) (N + 1) ∧ S9 (sAdds r N (nI k) (nI f) u w) := by
  obtain ⟨a, -, ha, rfl⟩ := sIn_t (a := 0) (b := 30) (by decide) (by decide) e1
  obtain ⟨b, -, hb, rfl⟩ := sIn_t (a := 0) (b := 30) (by decide) (by decide) e2
  obtain ⟨z, hz, ez⟩ := h9
  exact ⟨by unfold sAdds; exact u_s _ _ _, hw.adds hy, hi.adds hk (by omega) ha hb, z, hz, by rw [← ez]; exact sAdds_o (by decide) (by omega)⟩
/-- keep -/
theorem kp_w {d what k f : Int32} (h : sKeepOk d what k f = false) : -1 = sKeepA d what k f ∧ ∀ g x, sKeepS d what k f g x = g := by unfold sKeepA sKeepS; rw [h, if_neg (show ¬ false = true by decide)]; exact ⟨rfl, fun _ _ => by rw [if_neg (show ¬ false = true by decide)]⟩
theorem kp_o {d what k f : Int32} (h : sKeepOk d what k f = true) : 0 = sKeepA d what k f ∧ ∀ g x, sKeepS d what k f g x = upd g (tn d) x := by unfold sKeepA sKeepS; rw [h, if_pos rfl]; exact ⟨rfl, fun _ _ => by rw [if_pos rfl]⟩
theorem ko_1 {d what k f : Int32} (h : sIn d 0 7 = false) : sKeepOk d what k f = false := by unfold sKeepOk; rw [h]; rfl
theorem ko_2 {d what k f : Int32} (h : sIn what 0 1 = false) : sKeepOk d what k f = false := by unfold sKeepOk; rw [h, Bool.and_false]; rfl
theorem ko_3 {d k f : Int32} (h : sIn k 0 7 = false) : sKeepOk d 1 k f = false := by unfold sKeepOk; rw [h, show decide ((1 : Int32) = 1) = true by decide]; simp
theorem ko_4 {d k f : Int32} (h : sIn f 0 9 = false) : sKeepOk d 1 k f = false := by unfold sKeepOk; rw [h, show decide ((1 : Int32) = 1) = true by decide]; simp
theorem ko_n {d : Nat} {k f : Int32} (hd : d < 8) : sKeepOk (nI d) 0 k f = true := by unfold sKeepOk; rw [in_d hd, show decide ((0 : Int32) = 1) = false by decide, show sIn 0 0 1 = true by decide]; rfl
theorem ko_g {d kn f0 : Nat} (hd : d < 8) (h1 : sIn (nI kn) 0 7 = true) (h2 : sIn (nI f0) 0 9 = true) : sKeepOk (nI d) 1 (nI kn) (nI f0) = true := by unfold sKeepOk; rw [in_d hd, h1, h2, show decide ((1 : Int32) = 1) = true by decide, show sIn 1 0 1 = true by decide]; rfl
theorem wt_01 {x : Int32} (h : ¬ sIn x 0 1 = false) : x = 0 ∨ x = 1 := by
  obtain ⟨j, -, hj, ej⟩ := sIn_t (a := 0) (b := 1) (v := x) (by decide) (by decide) (by cases g : sIn x (nI 0) (nI 1) with
    | false => exact absurd g h
    | true => rfl)
  rcases (show j = 0 ∨ j = 1 by omega) with rfl | rfl
  · exact Or.inl ej
  · exact Or.inr ej
theorem wt_012 {x : Int32} (h : ¬ sIn x 0 2 = false) : x = 0 ∨ x = 1 ∨ x = 2 := by
  obtain ⟨j, -, hj, ej⟩ := sIn_t (a := 0) (b := 2) (v := x) (by decide) (by decide) (by cases g : sIn x (nI 0) (nI 2) with
    | false => exact absurd g h
    | true => rfl)
  rcases (show j = 0 ∨ j = 1 ∨ j = 2 by omega) with rfl | rfl | rfl
  · exact Or.inl ej
  · exact Or.inr (Or.inl ej)
  · exact Or.inr (Or.inr ej)
theorem nf_t {b : Bool} (h : ¬ b = false) : b = true := by cases b with
  | false => exact absurd rfl h
  | true => rfl
theorem sh_f {x : Int32} (h : ¬ sIn x 0 9 = false) : ∃ f : Nat, f ≤ 9 ∧ x = nI f := by
  obtain ⟨j, -, hj, ej⟩ := sIn_t (a := 0) (b := 9) (v := x) (by decide) (by decide) (nf_t h)
  exact ⟨j, hj, ej⟩
theorem sd_keepn {gm : GM} {hv : Nat → Value} {rw : RWT} {ke kk kf so : Nat → Int32} {zz : Nat → Nat} {el : Nat → Int32} {d : Nat} {k f : Int32} (hd : d < 8) (h : ∀ j, j < 8 → SHd gm hv rw ke kk kf so zz el j) : ∀ j, j < 8 → SHd gm (vU hv d .null) (vU rw d none) (sKeepS (nI d) 0 k f ke 0) (sKeepS (nI d) 0 k f kk k) (sKeepS (nI d) 0 k f kf f) so zz el j := by
  intro j hj
  have e := (kp_o (ko_n (k := k) (f := f) hd)).2
  rw [e, e, e, tn_d hd]
  by_cases q : j = d
  · subst q; exact Or.inl ⟨vU_s _ _ _, vU_s _ _ _, u_s _ _ _⟩
  · exact (h j hj).cg (vU_n q) (vU_n q) (u_n q) (u_n q) (u_n q) rfl rfl (fun _ _ => rfl)
theorem sd_keepg {gm : GM} {hv : Nat → Value} {rw : RWT} {ke kk kf so : Nat → Int32} {zz : Nat → Nat} {el : Nat → Int32} {d kn f0 q0 : Nat} (hd : d < 8) (hk : kn < 8) (hf : f0 ≤ 9) (h1 : sIn (nI kn) 0 7 = true) (h2 : sIn (nI f0) 0 9 = true) (hq : gm q0 = none) (h : ∀ j, j < 8 → SHd gm hv rw ke kk kf so zz el j) : ∀ j, j < 8 → SHd (upG gm q0 kn (nI f0)) (vU hv d (.ref q0)) (vU rw d none) (sKeepS (nI d) 1 (nI kn) (nI f0) ke 1) (sKeepS (nI d) 1 (nI kn) (nI f0) kk (nI kn)) (sKeepS (nI d) 1 (nI kn) (nI f0) kf (nI f0)) so zz el j := by
  intro j hj
  have e := (kp_o (ko_g hd h1 h2)).2
  rw [e, e, e, tn_d hd]
  by_cases q : j = d
  · subst q; exact Or.inr (Or.inl ⟨q0, kn, f0, vU_s _ _ _, vU_s _ _ _, upG_s _ _ _ _, hk, hf, u_s _ _ _, u_s _ _ _, u_s _ _ _⟩)
  · exact ((h j hj).gt fun y hy => upG_o hq hy).cg (vU_n q) (vU_n q) (u_n q) (u_n q) (u_n q) rfl rfl (fun _ _ => rfl)
/-- row -/
theorem ro_w {d o u y : Int32} (h : sRowA d o u = y) (hy : ¬ y = 0) : y = sRowA d o u ∧ (∀ g x, sRowS d o u g x = g) ∧ (∀ z, sRowZ d o u z = z) ∧ ∀ el, sRowE d o u el = el := by
  unfold sRowS sRowZ sRowE; rw [h]
  exact ⟨rfl, fun _ _ => if_neg hy, fun _ => if_neg hy, fun _ => if_neg hy⟩
theorem ro_o {d o u : Int32} (h : sRowA d o u = 0) : 0 = sRowA d o u ∧ (∀ g x, sRowS d o u g x = upd g (tn d) x) ∧ (∀ z, sRowZ d o u z = upN z (tn d) (tn u)) ∧ ∀ el, sRowE d o u el = zer el (tn d) 100 := by
  unfold sRowS sRowZ sRowE; rw [h]
  exact ⟨rfl, fun _ _ => if_pos rfl, fun _ => if_pos rfl, fun _ => if_pos rfl⟩
theorem ra_1 {d o u : Int32} (h : sIn d 0 7 = false) : sRowA d o u = -1 := by unfold sRowA; rw [if_pos h]
theorem ra_2 {d : Nat} {o u : Int32} (hd : d < 8) (h : sIn o 0 2 = false) : sRowA (nI d) o u = -1 := by unfold sRowA; rw [in_d hd, if_neg (show ¬ true = false by decide), if_pos h]
theorem ra_3 {d : Nat} {o u : Int32} (hd : d < 8) (h1 : sIn o 0 2 = true) (h : ¬ u ≤ 100) : sRowA (nI d) o u = -1 := by unfold sRowA; rw [in_d hd, h1, if_neg (show ¬ true = false by decide), if_neg (show ¬ true = false by decide), if_pos (Int32.not_le.mp h)]
theorem ra_4 {d : Nat} {o u : Int32} (hd : d < 8) (h1 : sIn o 0 2 = true) (h2 : u ≤ 100) (h : u < 0) : sRowA (nI d) o u = -14 := by unfold sRowA; rw [in_d hd, h1, if_neg (show ¬ true = false by decide), if_neg (show ¬ true = false by decide), if_neg (Int32.not_lt.mpr h2), if_pos h]
theorem ra_5 {d : Nat} {o u : Int32} (hd : d < 8) (h1 : sIn o 0 2 = true) (h2 : u ≤ 100) (h : ¬ u < 0) : sRowA (nI d) o u = 0 := by unfold sRowA; rw [in_d hd, h1, if_neg (show ¬ true = false by decide), if_neg (show ¬ true = false by decide), if_neg (Int32.not_lt.mpr h2), if_neg h]
theorem nn_100 {u : Int32} (h2 : u ≤ 100) (h : ¬ u < 0) : ∃ n : Nat, n ≤ 100 ∧ u = nI n := by
  obtain ⟨j, hj, rfl⟩ := nI_of h
  exact ⟨j, (nI_leI (b := 100) hj (by decide)).mp h2, rfl⟩
theorem zer_i {el : Nat → Int32} {d k : Nat} (h : k < 100) : zer el d 100 (100 * d + k) = 0 := by unfold zer; rw [if_pos (by omega)]
theorem zer_o {el : Nat → Int32} {d j k : Nat} (h : k < 100) (hj : j ≠ d) : zer el d 100 (100 * j + k) = el (100 * j + k) := by unfold zer; rw [if_neg (by omega)]
theorem upN_s (z : Nat → Nat) (k x : Nat) : upN z k x k = x := by unfold upN; rw [if_pos rfl]
theorem upN_n {z : Nat → Nat} {k x j : Nat} (h : j ≠ k) : upN z k x j = z j := by unfold upN; rw [if_neg h]
theorem sd_row {gm : GM} {hv : Nat → Value} {rw : RWT} {ke kk kf so : Nat → Int32} {zz : Nat → Nat} {el : Nat → Int32} {d n q t : Nat} (hd : d < 8) (ht : t < 3) (h : ∀ j, j < 8 → SHd gm hv rw ke kk kf so zz el j) : ∀ j, j < 8 → SHd gm (vU hv d (.ref q)) (vU rw d (some (q, t, n))) (upd ke d 2) kk kf (upd so d (sSrt t)) (upN zz d n) (zer el d 100) j := by
  intro j hj
  by_cases e : j = d
  · subst e; exact Or.inr (Or.inr ⟨q, t, vU_s _ _ _, by rw [upN_s]; exact vU_s _ _ _, ht, u_s _ _ _, u_s _ _ _, fun _ k hk => by rw [zer_i hk]; exact BR_0⟩)
  · exact (h j hj).cg (vU_n e) (vU_n e) (u_n e) rfl rfl (u_n e) (upN_n e) (fun k hk => zer_o hk e)
theorem upN_100 {zz : Nat → Nat} (h : ∀ d, zz d ≤ 100) {d n : Nat} (hn : n ≤ 100) : ∀ j, upN zz d n j ≤ 100 := by
  intro j; unfold upN; split
  · exact hn
  · exact h j
theorem ro_3 {gm : GM} {hv : Nat → Value} {rw : RWT} {kk kf : Nat → Int32} {ke so el : Nat → Int32} {zz : Nat → Nat} {d n q t : Nat} {o : Int32} (hd : d < 8) (ht : t < 3) (hn : n ≤ 100) (h1 : sIn o 0 2 = true) (ho : o = sSrt t) (hz : ∀ d, zz d ≤ 100) (h : ∀ j, j < 8 → SHd gm hv rw ke kk kf so zz el j) :
    0 = sRowA (nI d) o (nI n) ∧ (∀ j, sRowZ (nI d) o (nI n) zz j ≤ 100) ∧ (∀ j, j < 8 → SHd gm (vU hv d (.ref q)) (vU rw d (some (q, t, n))) (sRowS (nI d) o (nI n) ke 2) kk kf (sRowS (nI d) o (nI n) so o) (sRowZ (nI d) o (nI n) zz) (sRowE (nI d) o (nI n) el) j) ∧ (∀ k, k < n → (0 : Int32) = rwE (sRowE (nI d) o (nI n) el) (100 * d) k) ∧ ∀ j, j ≠ d → ∀ k, k < 100 → el (100 * j + k) = sRowE (nI d) o (nI n) el (100 * j + k) := by
  obtain ⟨r1, r2, r3, r4⟩ := ro_o (ra_5 (d := d) (u := nI n) hd h1 ((nI_leI (b := 100) (by omega) (by decide)).mpr hn) (nI_pos (by omega)))
  refine ⟨r1, ?_, ?_, ?_, ?_⟩
  · rw [r3, tn_d hd, show tn (nI n) = n from nI_clamp (by omega)]; exact upN_100 hz hn
  · rw [r2, r2, r3, r4, tn_d hd, show tn (nI n) = n from nI_clamp (by omega), ho]; exact sd_row hd ht h
  · intro k hk; rw [r4, tn_d hd]; exact (zer_i (by omega)).symm
  · intro j hj k hk; rw [r4, tn_d hd]; exact (zer_o hk hj).symm
/-- put -/
theorem pu_w {ke so el : Nat → Int32} {zz : Nat → Nat} {d i v y : Int32} (h : sPutA ke so zz d i = y) (hy : ¬ y = 0) : y = sPutA ke so zz d i ∧ sPutS ke so zz el d i v = el := by unfold sPutS; rw [h]; exact ⟨rfl, if_neg hy⟩
theorem pa_w {ke so : Nat → Int32} {zz : Nat → Nat} {d i y : Int32} (h : sWR ke so d (-1) = y) (hy : ¬ y = 0) : sPutA ke so zz d i = y := by unfold sPutA; rw [h, if_neg hy]
theorem pa_o {ke so : Nat → Int32} {zz : Nat → Nat} {d : Nat} {i : Int32} (hd : d < 8) (e : ke d = 2) (h : ¬ sPer (zz d) i = true) : sPutA ke so zz (nI d) i = -13 := by unfold sPutA; rw [wr_r hd e, if_pos rfl, tn_d hd, if_neg h]
theorem pa_i {ke so : Nat → Int32} {zz : Nat → Nat} {d j : Nat} (hd : d < 8) (e : ke d = 2) (hz : zz d ≤ 100) (h : j < zz d) : sPutA ke so zz (nI d) (nI j) = 0 := by unfold sPutA; rw [wr_r hd e, if_pos rfl, tn_d hd, if_pos (sPer_i (by omega) h)]
theorem no_in {n : Nat} {i : Int32} (hn : n ≤ 100) (h : ¬ sPer n i = true) : ¬ vp_in i n := by
  intro q
  obtain ⟨j, hj, rfl⟩ := nI_of (x := i) (fun z => q (Or.inl z))
  have e : (nI j).toNatClampNeg = j := nI_clamp hj
  refine h (sPer_i (by omega) ?_)
  rcases Nat.lt_or_ge j n with g | g
  · exact g
  · exact absurd (Or.inr (by rw [e]; exact g)) q
def narT (t : Nat) (v : Int32) : Int32 := if t = 1 then vp_nar .byte v.toInt8.toInt32 else if t = 2 then vp_nar .short v.toInt16.toInt32 else v
theorem i8_8 (v : Int32) : v.toInt8.toInt32.toInt8.toInt32 = v.toInt8.toInt32 := by rw [Int8.toInt8_toInt32]
theorem i16_16 (v : Int32) : v.toInt16.toInt32.toInt16.toInt32 = v.toInt16.toInt32 := by rw [Int16.toInt16_toInt32]
theorem narT_eq {t : Nat} (ht : t < 3) (v : Int32) : narT t v = sNar (sSrt t) v := by
  rcases (show t = 0 ∨ t = 1 ∨ t = 2 by omega) with rfl | rfl | rfl
  · unfold narT sNar; rw [show sSrt 0 = 2 by decide, if_neg (show ¬ (0 : Nat) = 1 by decide), if_neg (show ¬ (0 : Nat) = 2 by decide), if_neg (show ¬ (2 : Int32) = 0 by decide), if_neg (show ¬ (2 : Int32) = 1 by decide)]
  · unfold narT sNar; rw [show sSrt 1 = 0 by decide, if_pos rfl, if_pos rfl, vp_nar_byte, i8_8]
  · unfold narT sNar; rw [show sSrt 2 = 1 by decide, if_neg (show ¬ (2 : Nat) = 1 by decide), if_pos rfl, if_neg (show ¬ (1 : Int32) = 0 by decide), if_pos rfl, vp_nar_short, i16_16]
theorem rwE_u {el : Nat → Int32} {b j : Nat} {x : Int32} : rwE (upd el (b + j) x) b = upd (rwE el b) j x := funext fun k => by
  unfold rwE upd
  by_cases h : k = j
  · rw [if_pos (by omega), if_pos h]
  · rw [if_neg (by omega), if_neg h]
theorem pu_r {gm : GM} {hv : Nat → Value} {rw : RWT} {ke kk kf so el : Nat → Int32} {zz : Nat → Nat} {d j a t : Nat} {v : Int32} (hd : d < 8) (ht : t < 3) (hz : zz d ≤ 100) (hj : j < zz d) (e2 : rw d = some (a, t, zz d)) (e : ke d = 2) (e5 : so d = sSrt t) (h : ∀ j, j < 8 → SHd gm hv rw ke kk kf so zz el j) :
    0 = sPutA ke so zz (nI d) (nI j) ∧ rwE (sPutS ke so zz el (nI d) (nI j) v) (100 * d) = upd (rwE el (100 * d)) j (narT t v) ∧ (∀ q, q < 8 → SHd gm hv rw ke kk kf so zz (sPutS ke so zz el (nI d) (nI j) v) q) ∧ ∀ q, q ≠ d → ∀ k, k < 100 → el (100 * q + k) = sPutS ke so zz el (nI d) (nI j) v (100 * q + k) := by
  have g : sPutS ke so zz el (nI d) (nI j) v = upd el (100 * d + j) (narT t v) := by
    unfold sPutS; rw [pa_i hd e hz hj, if_pos rfl, tn_d hd, show tn (nI j) = j from nI_clamp (by omega), e5, narT_eq ht]
  rw [g]
  refine ⟨(pa_i hd e hz hj).symm, rwE_u, fun q hq => ?_, fun q hq k hk => (u_n (by omega)).symm⟩
  by_cases s : q = d
  · subst s
    rcases h q hq with ⟨-, b, -⟩ | ⟨_, _, _, _, b, _⟩ | ⟨a2, t2, b1, b2, b3, b4, b5, b6⟩
    · rw [e2] at b; cases b
    · rw [e2] at b; cases b
    · refine Or.inr (Or.inr ⟨a2, t2, b1, b2, b3, b4, b5, fun ht1 k hk => ?_⟩)
      by_cases w : k = j
      · subst w
        rw [u_s]
        have e9 := e2.symm.trans b2
        have et : t = t2 := by cases e9; rfl
        subst et; subst ht1
        rw [narT_eq ht, show sSrt 1 = 0 by decide]; unfold sNar; rw [if_pos rfl]; exact BR_nar v
      · rw [u_n (by omega)]; exact b6 ht1 k hk
  · exact (h q hq).cg rfl rfl rfl rfl rfl rfl rfl (fun k hk => u_n (by omega))
theorem SHd.z {gm : GM} {hv : Nat → Value} {rw : RWT} {ke kk kf so : Nat → Int32} {zz : Nat → Nat} {el : Nat → Int32} {d : Nat} {q : Nat × Nat × Nat} (h : SHd gm hv rw ke kk kf so zz el d) (hz : ∀ d, zz d ≤ 100) (e : rw d = some q) : q.2.2 ≤ 100 := by
  rcases h with ⟨-, b, -⟩ | ⟨_, _, _, _, b, _⟩ | ⟨a2, t2, b1, b2, _⟩
  · rw [e] at b; cases b
  · rw [e] at b; cases b
  · rw [e] at b2; cases b2; exact hz d
theorem narT_0 (v : Int32) : narT 0 v = v := by unfold narT; rw [if_neg (show ¬ (0 : Nat) = 1 by decide), if_neg (show ¬ (0 : Nat) = 2 by decide)]
theorem narT_1 (v : Int32) : narT 1 v = vp_nar .byte v.toInt8.toInt32 := by unfold narT; rw [if_pos rfl]
theorem narT_2 (v : Int32) : narT 2 v = vp_nar .short v.toInt16.toInt32 := by unfold narT; rw [if_neg (show ¬ (2 : Nat) = 1 by decide), if_pos rfl]
theorem wo_q1 {Y S R tg : va_W} {z : Nat × va_E} : ((Y ++ [z]) ++ (S ++ (R ++ tg))).Perm (Y ++ (S ++ (R ++ (z :: tg)))) := wo_q (Z := [z])
