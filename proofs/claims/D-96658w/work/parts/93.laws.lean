/-! LAW S: shelves: the world opened at a shelf and closed again; answers at a shelf -/
theorem MR.weak {l : Launch} {y : MethodName} {b : ByteArray} {L : Nat} {rt : Option FieldType} {rm : Room} {av : List Value} {w : va_W} {G : GG} {K K' : State → Prop} {F : Int32} (h : MR l y b L rt rm av w G K F) (hK : ∀ U, K' U → K U) : MR l y b L rt rm av w G K' F :=
  Met.weakG h ⟨Nat.le_refl _, Nat.le_refl _, Nat.le_refl _, Nat.le_refl _⟩ (Nat.le_refl _) (Nat.le_refl _) (fun a s q => ⟨q.1, q.2.1, hK _ q.2.2⟩) (fun _ _ _ _ _ q => q) (fun _ z => z)
theorem rmP_ne {P : Nat → Bool} {d j : Nat} (h : rmP P d j = true) : j ≠ d := fun e => by rw [e, rmP_s] at h; exact absurd h (by decide)
theorem wo_bk {G : GG} {X R tg : va_W} {sh : Nat → Nat} {hv : Nat → Value} {rw : RWT} {el : Nat → Int32} {d : Nat} {v : Value} (hv' : Nat → Value) (rw' : RWT) (el' : Nat → Int32) {H : Heap} {A : Nat → Prop} (hd : d < 8) (h1 : hv' d = v) (h2 : rl1 G rw' el' d = R) (h3 : ∀ j, j < 8 → j ≠ d → hv' j = hv j ∧ rw' j = rw j ∧ ∀ q, rw j = some q → ∀ k, k < q.2.2 → el (100 * j + k) = el' (100 * j + k))
    (hP : PP G (((X ++ [(sh d, .inr (3, [v]))]) ++ R) ++ (SL sh hv (rmP PT d) 8 ++ (RL G rw el (rmP PT d) 8 ++ tg))) H) (hD : va_D A (((X ++ [(sh d, .inr (3, [v]))]) ++ R) ++ (SL sh hv (rmP PT d) 8 ++ (RL G rw el (rmP PT d) 8 ++ tg)))) :
    PP G (X ++ (SL sh hv' PT 8 ++ (RL G rw' el' PT 8 ++ tg))) H ∧ va_D A (X ++ (SL sh hv' PT 8 ++ (RL G rw' el' PT 8 ++ tg))) := by
  have e1 : SL sh hv (rmP PT d) 8 = SL sh hv' (rmP PT d) 8 := SL_c 8 fun j hj => ⟨rfl, fun hp => (h3 j hj (rmP_ne hp)).1.symm⟩
  have e2 : RL G rw el (rmP PT d) 8 = RL G rw' el (rmP PT d) 8 := RL_c 8 fun j hj => ⟨rfl, fun hp => (h3 j hj (rmP_ne hp)).2.1.symm⟩
  rw [e1, e2] at hP hD
  subst h1
  subst h2
  obtain ⟨p1, p2⟩ := PP_app.mp hP
  obtain ⟨p3, p4⟩ := PP_app.mp p2
  obtain ⟨p5, p6⟩ := PP_app.mp p4
  have p7 := RL_ext (el' := el') 8 (fun j hj hp q hq k hk => (h3 j hj (rmP_ne hp)).2.2 q ((h3 j hj (rmP_ne hp)).2.1 ▸ hq) k hk) p5
  refine ⟨PP_perm (wo_out (P := PT) (hv := hv') (rw := rw') (el := el') rfl hd).symm (PP_app.mpr ⟨p1, PP_app.mpr ⟨p3, PP_app.mpr ⟨p7, p6⟩⟩⟩), D_perm (wo_out (P := PT) (hv := hv') (rw := rw') (el := el') rfl hd).symm (D_fst ?_ hD)⟩
  simp only [List.map_append]
  rw [RL_fst (el := el) (el' := el')]
theorem wo_q {Y Z S R tg : va_W} : ((Y ++ Z) ++ (S ++ (R ++ tg))).Perm (Y ++ (S ++ (R ++ (Z ++ tg)))) := by
  rw [List.append_assoc]
  refine List.Perm.append_left _ ?_
  refine (List.perm_append_comm_assoc Z S (R ++ tg)).trans ?_
  exact List.Perm.append_left _ (List.perm_append_comm_assoc Z R tg)
theorem tn_d {d : Nat} (h : d < 8) : tn (nI d) = d := nI_clamp (by omega)
theorem in_d {d : Nat} (h : d < 8) : sIn (nI d) 0 7 = true := sIn07 (by omega)
theorem wk_b {ke : Nat → Int32} {d : Int32} (h : sIn d 0 7 = false) : sWK ke d = -1 := by unfold sWK; rw [if_pos h]
theorem wk_n {ke : Nat → Int32} {d : Nat} (h : d < 8) (e : ke d = 0) : sWK ke (nI d) = -11 := by unfold sWK; rw [in_d h, if_neg (show ¬ true = false by decide), tn_d h, e, if_pos rfl]
theorem wk_g {ke : Nat → Int32} {d : Nat} (h : d < 8) (e : ke d = 1) : sWK ke (nI d) = 0 := by unfold sWK; rw [in_d h, if_neg (show ¬ true = false by decide), tn_d h, e, if_neg (show ¬ (1 : Int32) = 0 by decide), if_neg (show ¬ (1 : Int32) = 2 by decide)]
theorem wk_r {ke : Nat → Int32} {d : Nat} (h : d < 8) (e : ke d = 2) : sWK ke (nI d) = -12 := by unfold sWK; rw [in_d h, if_neg (show ¬ true = false by decide), tn_d h, e, if_neg (show ¬ (2 : Int32) = 0 by decide), if_pos rfl]
theorem wr_b {ke so : Nat → Int32} {d w : Int32} (h : sIn d 0 7 = false) : sWR ke so d w = -1 := by unfold sWR; rw [if_pos h]
theorem wr_n {ke so : Nat → Int32} {d : Nat} {w : Int32} (h : d < 8) (e : ke d = 0) : sWR ke so (nI d) w = -11 := by unfold sWR; rw [in_d h, if_neg (show ¬ true = false by decide), tn_d h, e, if_pos rfl]
theorem wr_g {ke so : Nat → Int32} {d : Nat} {w : Int32} (h : d < 8) (e : ke d = 1) : sWR ke so (nI d) w = -12 := by unfold sWR; rw [in_d h, if_neg (show ¬ true = false by decide), tn_d h, e, if_neg (show ¬ (1 : Int32) = 0 by decide), if_neg (show ¬ (1 : Int32) = 2 by decide)]
theorem wr_r {ke so : Nat → Int32} {d : Nat} (h : d < 8) (e : ke d = 2) : sWR ke so (nI d) (-1) = 0 := by unfold sWR; rw [in_d h, if_neg (show ¬ true = false by decide), tn_d h, e, if_neg (show ¬ (2 : Int32) = 0 by decide), if_pos rfl, if_pos (show (-1 : Int32) < 0 by decide)]
theorem wr_r0 {ke so : Nat → Int32} {d : Nat} (h : d < 8) (e : ke d = 2) (e2 : so d = 0) : sWR ke so (nI d) 0 = 0 := by unfold sWR; rw [in_d h, if_neg (show ¬ true = false by decide), tn_d h, e, if_neg (show ¬ (2 : Int32) = 0 by decide), if_pos rfl, if_neg (show ¬ (0 : Int32) < 0 by decide), e2, if_pos rfl]
theorem wr_rn {ke so : Nat → Int32} {d : Nat} (h : d < 8) (e : ke d = 2) (e2 : ¬ so d = 0) : sWR ke so (nI d) 0 = -12 := by unfold sWR; rw [in_d h, if_neg (show ¬ true = false by decide), tn_d h, e, if_neg (show ¬ (2 : Int32) = 0 by decide), if_pos rfl, if_neg (show ¬ (0 : Int32) < 0 by decide), if_neg e2]
theorem co_w {ke kk kf : Nat → Int32} {d y : Int32} (h : sWK ke d = y) (hy : ¬ y = 0) : y = sCostA ke kk kf d := by unfold sCostA; rw [h, if_neg hy]
theorem co_g {ke kk kf : Nat → Int32} {d k f : Nat} (hd : d < 8) (e : ke d = 1) (e1 : kk d = nI k) (e2 : kf d = nI f) : sCost (nI k) (nI f) = sCostA ke kk kf (nI d) := by unfold sCostA; rw [wk_g hd e, if_pos rfl, tn_d hd, e1, e2]
theorem tos_eq : ∀ k f : Nat, k < 8 → f ≤ 9 → sTosX k (nI f) = sToss (nI k) (nI f) := by
  intro k f hk hf
  have h : ∀ k, k < 8 → ∀ f, f < 10 → sTosX k (nI f) = sToss (nI k) (nI f) := by decide
  exact h k hk f (by omega)
theorem to_w {ke kk kf : Nat → Int32} {d y : Int32} (h : sWK ke d = y) (hy : ¬ y = 0) : y = sTossA ke kk kf d := by unfold sTossA; rw [h, if_neg hy]
theorem to_g {ke kk kf : Nat → Int32} {d k f : Nat} (hd : d < 8) (hk : k < 8) (hf : f ≤ 9) (e : ke d = 1) (e1 : kk d = nI k) (e2 : kf d = nI f) : sTosX k (nI f) = sTossA ke kk kf (nI d) := by unfold sTossA; rw [wk_g hd e, if_pos rfl, tn_d hd, e1, e2]; exact tos_eq k f hk hf
theorem sw_w {r : Nat → Int32} {N : Nat} {ke so : Nat → Int32} {zz : Nat → Nat} {el : Nat → Int32} {d y : Int32} (h : sWR ke so d (-1) = y) (hy : ¬ y = 0) : y = sSwapA r N ke so zz el d := by
  have e : sWPA r N ke so zz el d = y := by unfold sWPA; rw [h, if_neg hy]
  unfold sSwapA; rw [e, if_neg hy]
theorem sw_r {r : Nat → Int32} {N : Nat} {ke so : Nat → Int32} {zz : Nat → Nat} {el : Nat → Int32} {d : Nat} (hd : d < 8) (e : ke d = 2) : sSwapX r N (zz d) (rwE el (100 * d)) = sSwapA r N ke so zz el (nI d) := by
  have h := sSwap_eq (r := r) (N := N) (zz := zz) (el := el) (wr_r (so := so) hd e)
  rwa [tn_d hd] at h
theorem th_w {ke so : Nat → Int32} {zz : Nat → Nat} {el : Nat → Int32} {d y : Int32} (h : sWR ke so d (-1) = y) (hy : ¬ y = 0) (u f w : Int32) : sThW u f w y = sThroatA ke so zz el d u f w := by
  unfold sThW sThroatA; rw [h, if_neg hy]
theorem th_r {ke so : Nat → Int32} {zz : Nat → Nat} {el : Nat → Int32} {d : Nat} (hd : d < 8) (e : ke d = 2) (u f w : Int32) : sThroatX (zz d) (rwE el (100 * d)) u f w = sThroatA ke so zz el (nI d) u f w := by
  have h := sThroat_eq (zz := zz) (el := el) (wr_r (so := so) hd e) u f w
  rwa [tn_d hd] at h
theorem fo_w {r : Nat → Int32} {N : Nat} {ke so : Nat → Int32} {zz : Nat → Nat} {el : Nat → Int32} {d y : Int32} (h : sWR ke so d (-1) = y) (hy : ¬ y = 0) : y = sForgA r N ke so zz el d := by unfold sForgA; rw [h, if_neg hy]
theorem fo_r {r : Nat → Int32} {N : Nat} {ke so : Nat → Int32} {zz : Nat → Nat} {el : Nat → Int32} {d : Nat} (hd : d < 8) (e : ke d = 2) : sForgX r N (zz d) (rwE el (100 * d)) = sForgA r N ke so zz el (nI d) := by
  have h := sForg_eq (r := r) (N := N) (zz := zz) (el := el) (wr_r (so := so) hd e)
  rwa [tn_d hd] at h
theorem ju_w {r : Nat → Int32} {N : Nat} {ke so : Nat → Int32} {zz : Nat → Nat} {el : Nat → Int32} {d y : Int32} (h : sWR ke so d (-1) = y) (hy : ¬ y = 0) : y = sJudgeA r N ke so zz el d := by unfold sJudgeA; rw [h, if_neg hy]
theorem lst_eq : ∀ t : Nat, t < 3 → sLst t = sLeast (sSrt t) := by decide
theorem ju_r {r : Nat → Int32} {N : Nat} {ke so : Nat → Int32} {zz : Nat → Nat} {el : Nat → Int32} {d t : Nat} (hd : d < 8) (e : ke d = 2) (ht : t < 3) (e2 : so d = sSrt t) : jdgX N (rwE el (100 * d)) (sLst t) (zz d) r 0 = sJudgeA r N ke so zz el (nI d) := by
  unfold sJudgeA; rw [wr_r hd e, if_pos rfl, tn_d hd, e2, ← lst_eq t ht]; exact jdg_eq _ _ _ _ _ _ _
theorem srt_0 : ∀ t : Nat, t < 3 → (sSrt t = 0 ↔ t = 1) := by decide
theorem fe_w {ke so : Nat → Int32} {zz : Nat → Nat} {el r : Nat → Int32} {N : Nat} {nu : Nat → Int32} {d y : Int32} (h : sWR ke so d 0 = y) (hy : ¬ y = 0) : y = sFA ke so zz el r N nu d ∧ sFS ke so zz el r N nu d = r := by unfold sFA sFS; rw [h, if_neg hy, if_neg hy]; exact ⟨rfl, rfl⟩
theorem tS_0 (rf : Nat → Int32) : tS rf 0 0 = -1 := rfl
theorem fe_r {ke so : Nat → Int32} {zz : Nat → Nat} {el r : Nat → Int32} {N : Nat} {nu : Nat → Int32} {d : Nat} (hd : d < 8) (e : ke d = 2) (e2 : so d = 0) (hz : zz d ≤ 100) (hb : ∀ k, k < 100 → BR (el (100 * d + k))) : (rdA (tS (rwE el (100 * d)) (zz d)) (zz d) r N).1 = sFA ke so zz el r N nu (nI d) ∧ sFS ke so zz el r N nu (nI d) = (rdA (tS (rwE el (100 * d)) (zz d)) (zz d) r N).2 := by
  unfold sFA sFS; rw [wr_r0 hd e e2, if_pos rfl, if_pos rfl, tn_d hd]
  have h := fete_eq (t := tM el (100 * d) (zz d)) (u := tS (rwE el (100 * d)) (zz d)) hz (fun h0 => by rw [h0]; exact tS_0 _) (tM_tS fun k hk => hb k (by omega)) r N nu
  exact ⟨h.1.symm, h.2⟩
theorem sh_d {x : Int32} (h : ¬ sIn x 0 7 = false) : ∃ d : Nat, d < 8 ∧ x = nI d := by
  cases g : sIn x 0 7 with
  | false => exact absurd g h
  | true =>
    obtain ⟨d, -, hd, ed⟩ := sIn_t (a := 0) (b := 7) (by decide) (by decide) g
    exact ⟨d, by omega, ed⟩
