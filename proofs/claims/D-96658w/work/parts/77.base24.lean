/-! BASE 24: worlds up to their order -/
theorem PP_mem {G : GG} {w : va_W} {H : Heap} : PP G w H ↔ ∀ q ∈ w, va_at (gD G) clAll q H :=
  ⟨fun h q hq => by obtain ⟨k, hk⟩ := List.getElem?_of_mem hq; exact h k q hk, fun h k q hk => h q (List.mem_of_getElem? hk)⟩
theorem D_mem {A : Nat → Prop} {w : va_W} : va_D A w ↔ (w.map (·.1)).Nodup ∧ ∀ q ∈ w, A q.1 := by
  constructor
  · intro h
    refine ⟨?_, fun q hq => by obtain ⟨k, hk⟩ := List.getElem?_of_mem hq; exact h.2 k q hk⟩
    rw [List.nodup_iff_pairwise_ne, List.pairwise_iff_getElem]
    intro i j hi hj hij e
    rw [List.length_map] at hi hj
    rw [List.getElem_map, List.getElem_map] at e
    have := h.1 i j _ _ (List.getElem?_eq_getElem hi) (List.getElem?_eq_getElem hj) e
    omega
  · intro h
    refine ⟨fun i j p q hi hj e => ?_, fun k q hk => h.2 q (List.mem_of_getElem? hk)⟩
    have hn := h.1
    rw [List.nodup_iff_pairwise_ne, List.pairwise_iff_getElem] at hn
    obtain ⟨hi1, hi2⟩ := List.getElem?_eq_some_iff.mp hi
    obtain ⟨hj1, hj2⟩ := List.getElem?_eq_some_iff.mp hj
    rcases Nat.lt_trichotomy i j with z | z | z
    · have := hn i j (by rw [List.length_map]; exact hi1) (by rw [List.length_map]; exact hj1) z
      rw [List.getElem_map, List.getElem_map, hi2, hj2] at this
      exact absurd e this
    · exact z
    · have := hn j i (by rw [List.length_map]; exact hj1) (by rw [List.length_map]; exact hi1) z
      rw [List.getElem_map, List.getElem_map, hi2, hj2] at this
      exact absurd e.symm this
theorem PP_perm {G : GG} {w w' : va_W} {H : Heap} (p : w.Perm w') (h : PP G w H) : PP G w' H := PP_mem.mpr fun q hq => PP_mem.mp h q (p.mem_iff.mpr hq)
theorem D_perm {A : Nat → Prop} {w w' : va_W} (p : w.Perm w') (h : va_D A w) : va_D A w' := by
  have h1 := D_mem.mp h
  exact D_mem.mpr ⟨(p.map _).nodup_iff.mp h1.1, fun q hq => h1.2 q (p.mem_iff.mpr hq)⟩
theorem PP_app {G : GG} {a b : va_W} {H : Heap} : PP G (a ++ b) H ↔ PP G a H ∧ PP G b H := by
  rw [PP_mem, PP_mem, PP_mem]
  exact ⟨fun h => ⟨fun q hq => h q (List.mem_append_left _ hq), fun q hq => h q (List.mem_append_right _ hq)⟩, fun h q hq => (List.mem_append.mp hq).elim (h.1 q) (h.2 q)⟩
theorem D_sub {A : Nat → Prop} {w w' : va_W} (p : w'.Sublist w) (h : va_D A w) : va_D A w' := by
  have h1 := D_mem.mp h
  exact D_mem.mpr ⟨(p.map _).nodup h1.1, fun q hq => h1.2 q (p.subset hq)⟩
/-- one told statement brought forward -/
theorem tb_split {G : GG} {t : Nat → Int32} {to tn9 : Nat → Nat} {k : Nat} : ∀ {n : Nat}, k < n → ∃ B : va_W, (tb G t to tn9 n).Perm (tb1 G t to tn9 k ++ B) := by
  intro n
  induction n with
  | zero => intro h; omega
  | succ n ih =>
    intro h
    rw [tb]
    by_cases e : k = n
    · subst e
      exact ⟨tb G t to tn9 k, List.perm_append_comm⟩
    · obtain ⟨B, hB⟩ := ih (by omega)
      refine ⟨B ++ tb1 G t to tn9 n, ?_⟩
      rw [← List.append_assoc]
      exact List.Perm.append_right _ hB
/-- guests that were made: gm' knows beside gm's those of tg -/
def GT (gm gm' : GM) (tg : va_W) : Prop := (∀ y, gm y ≠ none → gm' y = gm y) ∧ ∀ y k f, gm' y = some (k, f) → gm y = some (k, f) ∨ (k < 8 ∧ (y, (.inr (6 + k, [.int f]) : va_E)) ∈ tg)
theorem GT.rf (gm : GM) (tg : va_W) : GT gm gm tg := ⟨fun _ _ => rfl, fun _ _ _ h => Or.inl h⟩
theorem GT.GP {G : GG} {gm gm' : GM} {tg w : va_W} {H : Heap} (h : GT gm gm' tg) (hG : GP G gm H) (hP : PP G w H) (ht : ∀ q ∈ tg, q ∈ w) : GP G gm' H := by
  intro y k f hy
  rcases h.2 y k f hy with h1 | ⟨h1, h2⟩
  · exact hG y k f h1
  · exact ⟨h1, PP_mem.mp hP _ (ht _ h2)⟩
theorem GT.up {gm gm' : GM} {tg : va_W} {q k : Nat} {f : Int32} (h : GT gm gm' tg) (hq : gm' q = none) (hk : k < 8) : GT gm (upG gm' q k f) ((q, .inr (6 + k, [.int f])) :: tg) := by
  refine ⟨fun y hy => ?_, fun y k1 f1 hy => ?_⟩
  · rw [upG_o hq (by rw [h.1 y hy]; exact hy)]
    exact h.1 y hy
  · by_cases e : y = q
    · subst e
      rw [upG_s] at hy
      cases hy
      exact Or.inr ⟨hk, List.mem_cons_self⟩
    · unfold upG at hy
      rw [if_neg e] at hy
      exact (h.2 y k1 f1 hy).imp id (fun z => ⟨z.1, List.mem_cons_of_mem _ z.2⟩)
theorem GT.NG {gm gm' : GM} {tg w : va_W} (h : GT gm gm' tg) (hn : NG gm w) (hd : ((w ++ tg).map (·.1)).Nodup) : NG gm' w := by
  intro k q hk
  cases e : gm' q.1 with
  | none => rfl
  | some z =>
    obtain ⟨kk, f⟩ := z
    rcases h.2 q.1 kk f e with h1 | ⟨-, h2⟩
    · rw [hn k q hk] at h1; cases h1
    · exfalso
      rw [List.map_append, List.nodup_append] at hd
      exact hd.2.2 q.1 (List.mem_map.mpr ⟨q, List.mem_of_getElem? hk, rfl⟩) q.1 (List.mem_map.mpr ⟨_, h2, rfl⟩) rfl
