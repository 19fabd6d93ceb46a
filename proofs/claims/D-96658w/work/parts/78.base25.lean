/-! BASE 25: contracts weakened, framed -/
theorem room_le {s : State} {pl : Platform} {rm rm' : Room} (h : s.hasRoom pl rm' = true) (hr : rm.frames ≤ rm'.frames ∧ rm.locals ≤ rm'.locals ∧ rm.cells ≤ rm'.cells ∧ rm.slots ≤ rm'.slots) : s.hasRoom pl rm = true := by
  simp only [State.hasRoom, Bool.and_eq_true, decide_eq_true_eq] at h ⊢
  obtain ⟨⟨⟨⟨h1, h2, h3, h4, h5, h6⟩, h7⟩, h8⟩, h9⟩ := h
  exact ⟨⟨⟨⟨by omega, by omega, by omega, by omega, by omega, h6⟩, by omega⟩, by omega⟩, h9⟩
theorem Met.weakG {l : Launch} {y : MethodName} {ws : List Cond} {rm rm' : Room} {Pc Pc' : Array Value → State → Prop} {Qc Qc' : Array Value → State → Outcome → State → Prop} {mc ms mc' ms' : Nat} {free free' : Addr → Prop} (h : Met l y ws rm Pc Qc mc ms free) (hr : rm.frames ≤ rm'.frames ∧ rm.locals ≤ rm'.locals ∧ rm.cells ≤ rm'.cells ∧ rm.slots ≤ rm'.slots) (hm : mc ≤ mc') (hs : ms ≤ ms')
    (hP : ∀ a s, Pc' a s → Pc a s) (hQ : ∀ a s o t, Pc' a s → Qc a s o t → Qc' a s o t) (hf : ∀ q, free q → free' q) : Met l y ws rm' Pc' Qc' mc' ms' free' := by
  intro p e h1 h2 h3 s m args below hfr happ hPc _
  have happ' : (headSpec ws rm).appliesLoose y e.platform s = true := by
    unfold Spec.appliesLoose at happ ⊢
    rw [hfr] at happ ⊢
    simp only [Bool.and_eq_true] at happ ⊢
    exact ⟨⟨happ.1.1, room_le happ.1.2 hr⟩, happ.2⟩
  obtain ⟨n, o, a1, a2, a3, hq, L, he, hL⟩ := h p e h1 h2 h3 s m args below hfr happ' (hP _ _ hPc) trivial
  exact ⟨n, o, a1, a2, a3, hQ _ _ _ _ hPc hq, L, ⟨he.1, he.2.1, he.2.2.mono hm hs⟩, fun q hq => hf _ (hL q hq)⟩
theorem MW.weak {l : Launch} {y : MethodName} {b : ByteArray} {L : Nat} {rt : Option FieldType} {rm rm' : Room} {av : List Value} {w : va_W} {G : GG} {K K' : State → Prop} {mc ms mc' ms' : Nat} {post post' : Int32 → va_W → Prop} (h : MW l y b L rt rm av w G K mc ms post) (hr : rm.frames ≤ rm'.frames ∧ rm.locals ≤ rm'.locals ∧ rm.cells ≤ rm'.cells ∧ rm.slots ≤ rm'.slots) (hm : mc ≤ mc') (hs : ms ≤ ms') (hK : ∀ U, K' U → K U) (hp : ∀ r w1, post r w1 → post' r w1) : MW l y b L rt rm' av w G K' mc' ms' post' := fun sz =>
  Met.weakG (h sz) hr hm hs (fun a s q => ⟨q.1, q.2.1, q.2.2.1, hK _ q.2.2.2.1, q.2.2.2.2⟩) (fun a s o t _ q => by
    obtain ⟨⟨r, w1, h1, h2, h3⟩, h4⟩ := q
    exact ⟨⟨r, w1, h1, hp r w1 h2, h3⟩, h4⟩) (fun q z => z)
