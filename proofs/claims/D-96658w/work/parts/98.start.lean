/-! START: the classes' numbers out of the tables -/
theorem i_g1 : ∀ q ∈ xl, Cond.landsInDefault q.1 q.2.1 q.2.2 ∈ flatC (Jvm.Cond.and given_1 narrow_1) := by decide +kernel
def isNC : Cond → Bool
  | .not (.castable _ _) => true
  | _ => false
theorem i_gn : xn.map (fun q => Cond.not (.castable q.1 q.2)) = (flatC (Jvm.Cond.and given_1 narrow_1)).filter isNC := by decide +kernel
theorem i_g2 : ∀ q ∈ xn, Cond.not (.castable q.1 q.2) ∈ flatC (Jvm.Cond.and given_1 narrow_1) := fun q hq => by
  have h := List.mem_map_of_mem (f := fun q : String × String => Cond.not (.castable q.1 q.2)) hq
  rw [i_gn] at h
  exact (List.mem_filter.mp h).1
theorem i_g3 : ∀ w ∈ defaultWords_1, w ∈ flatC (Jvm.Cond.and given_1 narrow_1) := by decide +kernel
theorem i_g4 : Cond.isRef (.static Bundle.tN "UNASSIGNED_STACK" Bundle.steD) ∈ flatC (Jvm.Cond.and given_1 narrow_1) := by decide +kernel
theorem i_g5 : Cond.isRef (.static Bundle.tN "SUPPRESSED_SENTINEL" Bundle.listD) ∈ flatC (Jvm.Cond.and given_1 narrow_1) := by decide +kernel
theorem i_x1 : ∀ q ∈ xc, Cond.castable q.1 q.2 ∈ lw_tbl := by decide +kernel
theorem i_x2 : ∀ q ∈ xd, Cond.declares q ∈ lw_tbl := by decide +kernel
theorem i_x3 : ∀ q ∈ xe, Cond.methodLinkNest q.1 q.2.1 q.2.2.1 q.2.2.2 ∈ lw_tbl := by decide +kernel
theorem i_c1 : ∀ q ∈ clAll, ∀ w ∈ u_ws q.1 q.2.1 q.2.2, w ∈ lw_tbl := by decide +kernel
theorem i_c2 : ∀ q ∈ clAll, ((List.range 30).any fun n => decide (Cond.instantiable q.1 n ∈ lw_tbl)) = true := by decide +kernel
theorem i_a1 : ∀ t ∈ [FieldType.int, .byte, .short, .long], Cond.arrayClass t ∈ lw_tbl := by decide +kernel
theorem i_a2 : ∀ n ∈ ["CakesToTheWatched$Guest", "CakesToTheWatched$Told", "CakesToTheWatched$Shelf"], Cond.arrayOver (.object n) ∈ lw_tbl := by decide +kernel
theorem i_l1 : Cond.laysStatic Bundle.tN "UNASSIGNED_STACK" Bundle.steD ∈ lw_tbl := by decide +kernel
theorem i_l2 : Cond.laysStatic Bundle.tN "SUPPRESSED_SENTINEL" Bundle.listD ∈ lw_tbl := by decide +kernel
theorem i_l3 : Cond.initialized Bundle.tN ∈ lw_tbl := by decide +kernel
theorem st_XK {s : State} {b : Nat} (hts : ∀ w ∈ lw_tbl, w.before #[Value.ref b] s = true) (hg : (Jvm.Cond.and given_1 narrow_1).before #[Value.ref b] s = true) : XK s := by
  have hf := flat_of_before _ hg
  have hd : ∀ w ∈ defaultWords_1, w.onTables = true := by decide +kernel
  refine ⟨fun w hw => va_Nw.of (hd w hw) (hf w (i_g3 w hw)), fun q hq => (show (Cond.landsInDefault q.1 q.2.1 q.2.2).before #[] s = true from hf _ (i_g1 q hq)), fun q hq => va_Nw.of rfl (hts _ (i_x2 q hq)), fun q hq => va_Nw.of rfl (hts _ (i_x1 q hq)), fun q hq => va_Nw.of rfl (hts _ (i_x3 q hq)), fun q hq => va_Nc.of (hf _ (i_g2 q hq)), ?_, ?_, ?_⟩
  · exact va_AO.of (hts _ (i_a2 _ (by decide)))
  · exact va_AO.of (hts _ (i_a2 _ (by decide)))
  · exact va_AO.of (hts _ (i_a2 _ (by decide)))
theorem st_arr {s : State} {A : Array Value} {t : FieldType} (h : (Cond.arrayClass t).before A s = true) (ht : t = .int ∨ t = .byte ∨ t = .short ∨ t = .long) : ∃ cA : ClassId, ArrOfT s cA t ∧ va_RA s cA t := by
  obtain ⟨cA, kA, comp, h1, h2, h3⟩ := Cond.arrayClass_spec h
  refine ⟨cA, fun n z => ⟨(fun k q => by cases q), kA, h2, comp, h3⟩, ?_⟩
  rcases ht with rfl | rfl | rfl | rfl <;> exact h1
theorem st_arq {s : State} {A : Array Value} {n : String} (h : (Cond.arrayOver (.object n)).before A s = true) : ∃ cA : ClassId, ArrOfT s cA (.object n) ∧ va_RA s cA (.object n) := by
  obtain ⟨comp, c, k, h1, h2, h3, h4, h5⟩ := Cond.arrayOver_spec h
  exact ⟨c, fun n z => ⟨(fun k q => by cases q), k, h3, comp, h4⟩, k, comp, h3, h4, h1, h5⟩
theorem st_K {s : State} {b : Nat} (hts : ∀ w ∈ lw_tbl, w.before #[Value.ref b] s = true) (hg : (Jvm.Cond.and given_1 narrow_1).before #[Value.ref b] s = true) : ∃ G : GG, KX G s := by
  have hc : ∀ c : Nat, ∃ (cC : ClassId) (iS : Nat → Nat), ∀ q : vw_C, clAll[c]? = some q → u_Kn s q.1 q.2.1 q.2.2 cC iS := by
    intro c
    cases h : clAll[c]? with
    | none => exact ⟨0, fun _ => 0, fun q hq => by cases hq⟩
    | some q =>
      have hq := List.mem_of_getElem? h
      obtain ⟨n, -, hn⟩ := List.any_eq_true.mp (i_c2 q hq)
      obtain ⟨cC, iS, hk⟩ := u_known (N := q.2.2) (n := n) hts (i_c1 q hq) (hts _ (of_decide_eq_true hn))
      exact ⟨cC, iS, fun q' hq' => by cases hq'; exact hk⟩
  obtain ⟨D1, hD1⟩ := Classical.axiomOfChoice hc
  obtain ⟨D2, hD2⟩ := Classical.axiomOfChoice hD1
  obtain ⟨a0, r0⟩ := st_arr (hts _ (i_a1 .int (by decide))) (Or.inl rfl)
  obtain ⟨a1, r1⟩ := st_arr (hts _ (i_a1 .byte (by decide))) (Or.inr (Or.inl rfl))
  obtain ⟨a2, r2⟩ := st_arr (hts _ (i_a1 .short (by decide))) (Or.inr (Or.inr (Or.inl rfl)))
  obtain ⟨a3, r3⟩ := st_arq (hts _ (i_a2 _ (show "CakesToTheWatched$Guest" ∈ _ by decide)))
  obtain ⟨a4, r4⟩ := st_arq (hts _ (i_a2 _ (show "CakesToTheWatched$Told" ∈ _ by decide)))
  obtain ⟨a5, r5⟩ := st_arq (hts _ (i_a2 _ (show "CakesToTheWatched$Shelf" ∈ _ by decide)))
  obtain ⟨a6, r6⟩ := st_arr (hts _ (i_a1 .long (by decide))) (Or.inr (Or.inr (Or.inr rfl)))
  refine ⟨(D1, D2, fun k => match k with | 0 => a0 | 1 => a1 | 2 => a2 | 3 => a3 | 4 => a4 | 5 => a5 | _ => a6), ⟨hD2, fun k q hk => ?_⟩, st_XK hts hg⟩
  match k, hk with
  | 0, hk => cases hk; exact r0
  | 1, hk => cases hk; exact r1
  | 2, hk => cases hk; exact r2
  | 3, hk => cases hk; exact r3
  | 4, hk => cases hk; exact r4
  | 5, hk => cases hk; exact r5
  | 6, hk => cases hk; exact r6
  | k + 7, hk => cases hk
theorem st_Z {s : State} {b : Nat} (hts : ∀ w ∈ lw_tbl, w.before #[Value.ref b] s = true) (hg : (Jvm.Cond.and given_1 narrow_1).before #[Value.ref b] s = true) : ZA (fun q : Nat => s.heap.size ≤ q) s :=
  ⟨vx_Zqof (hts _ i_l1) (hts _ i_l3) (flat_of_before _ hg _ i_g4) (fun a h q => absurd h (Nat.not_lt.mpr q)), vx_Zqof (hts _ i_l2) (hts _ i_l3) (flat_of_before _ hg _ i_g5) (fun a h q => absurd h (Nat.not_lt.mpr q))⟩
