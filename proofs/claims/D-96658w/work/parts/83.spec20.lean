/-! SPEC 20: worlds put in order, guests made in turn -/
theorem PP_sub {G : GG} {w w' : va_W} {H : Heap} (p : w'.Sublist w) (h : PP G w H) : PP G w' H := PP_mem.mpr fun q hq => PP_mem.mp h q (p.subset hq)
theorem pm_as (a b c d : va_W) : ((a ++ (b ++ c)) ++ d).Perm ((a ++ b) ++ (c ++ d)) := List.Perm.of_eq (by simp only [List.append_assoc])
theorem pm_in {a b b1 B t : va_W} (h : b.Perm (b1 ++ B)) : (a ++ (b ++ t)).Perm ((a ++ b1) ++ (B ++ t)) := by
  have h1 : (b ++ t).Perm (b1 ++ (B ++ t)) := by
    rw [← List.append_assoc]
    exact h.append_right t
  rw [List.append_assoc a b1]
  exact h1.append_left a
theorem pm_back {a b b1 B t t' : va_W} (h : b.Perm (b1 ++ B)) : ((a ++ b1) ++ (t' ++ (B ++ t))).Perm (a ++ (b ++ (t' ++ t))) := by
  refine List.Perm.trans ?_ (pm_in (t := t' ++ t) h).symm
  exact List.Perm.append_left _ (List.perm_append_comm_assoc t' B t)
theorem GT.none {gm gm' : GM} {tg : va_W} (h : GT gm gm' tg) {y : Nat} (hy : gm' y = none) : gm y = none := by
  cases e : gm y with
  | none => rfl
  | some z =>
    have := h.1 y (by rw [e]; exact fun q => by cases q)
    rw [hy, e] at this
    cases this
theorem GT.trans {gm gm' gm2 : GM} {tg tg2 : va_W} (h : GT gm gm' tg) (h2 : GT gm' gm2 tg2) : GT gm gm2 (tg2 ++ tg) := by
  refine ⟨fun y hy => ?_, fun y k f hy => ?_⟩
  · have e := h.1 y hy
    rw [h2.1 y (by rw [e]; exact hy), e]
  · rcases h2.2 y k f hy with g | ⟨g1, g2⟩
    · rcases h.2 y k f g with k1 | ⟨k1, k2⟩
      · exact Or.inl k1
      · exact Or.inr ⟨k1, List.mem_append_right _ k2⟩
    · exact Or.inr ⟨g1, List.mem_append_left _ g2⟩
theorem gt_NG9 {gm gm' : GM} {tg X rest wc : va_W} {A : Nat → Prop} (h : GT gm gm' tg) (hA : GA gm A) (hD : va_D A (X ++ rest)) {isC : List Nat} (hC : isC.map (fun i => X[i]?) = wc.map some) (ht : ∀ q ∈ tg, q ∈ rest) : NG gm' wc := by
  intro k q hk
  have h1 : (isC.map (fun i => X[i]?))[k]? = some (some q) := by rw [hC, List.getElem?_map, hk]; rfl
  rw [List.getElem?_map] at h1
  cases h2 : isC[k]? with
  | none => rw [h2] at h1; cases h1
  | some i =>
    rw [h2] at h1
    have h3 : X[i]? = some q := Option.some.inj h1
    have hi : i < X.length := (List.getElem?_eq_some_iff.mp h3).1
    have h4 : (X ++ rest)[i]? = some q := by rw [List.getElem?_append_left hi]; exact h3
    cases e : gm' q.1 with
    | none => rfl
    | some z =>
      exfalso
      obtain ⟨kk, f⟩ := z
      rcases h.2 q.1 kk f e with g | ⟨-, g⟩
      · exact hA q.1 (by rw [g]; exact fun q => by cases q) (hD.2 i q h4)
      · obtain ⟨j, hj⟩ := List.getElem?_of_mem (ht _ g)
        have h5 : (X ++ rest)[X.length + j]? = some (q.1, .inr (6 + kk, [.int f])) := by
          rw [List.getElem?_append_right (by omega), Nat.add_sub_cancel_left]
          exact hj
        have := hD.1 i (X.length + j) _ _ h4 h5 rfl
        omega
