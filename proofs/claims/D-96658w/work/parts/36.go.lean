section
variable {p : Program} {l : Launch} {e : Env} {R : Room} {s : State} {m : MethodId} {args : Array Value} {below : List Frame} {meth : Method} {c : Code} {H : Heap} {locs : List Loc} {cells slots : Nat} {Q : State → Prop}
variable {cc : ByteArray} {pc : Nat} {ls : Array Slot} {rest : List Value} {L0 : Nat} {rt0 : Option FieldType}
theorem g_kind {G : GG} {k : Nat} {f : Int32} {ws : va_W} {o q0 : Nat} {lv : List (Nat × Value)} (C : Cx p c meth s args m cc L0 rt0 RX1) (hK : KM G s) (hk : k < 8) (he : ws[q0]? = some (o, .inr (6 + k, [.int f]))) (hP : PP G ws H) (hR : 6 ≤ R.frames ∧ 200 ≤ R.locals) (hl : lv_has ls L0 lv) (hW : (rest.map fun v => v.category).sum ≤ 8) (hcs : cells ≤ R.cells ∧ slots ≤ R.slots) (hdg : decode cc pc = .ok (.invokevirtual 153, 3)) (kk : W p l e R s m args below meth c H locs cells slots Q (F0 m (pc + 3) ls (.int (nI k) :: rest))) : W p l e R s m args below meth c H locs cells slots Q (F0 m pc ls (.ref o :: rest)) := by
  have hk8 : k = 0 ∨ k = 1 ∨ k = 2 ∨ k = 3 ∨ k = 4 ∨ k = 5 ∨ k = 6 ∨ k = 7 := by omega
  rcases hk8 with rfl | rfl | rfl | rfl | rfl | rfl | rfl | rfl
  · refine c_VO (CC := "CakesToTheWatched$Guest") (rest := rest) C (metX8_kind l G o) ⟨"CakesToTheWatched$Guest", "kind", "()I"⟩ 0 (lw_O q503 q506 q504 q505 q504 q52 q528) q528 (by decide +kernel) ⟨rfl, rfl⟩ ⟨Nat.le_trans (by decide) hR.1, Nat.le_trans (by decide) hR.2⟩ (KM_mv G) (va_recv hK hP rfl he) (hP.sub (ws' := []) [] rfl) hK hl rfl rfl hW hcs hdg ?_
    exact kk
  · refine c_VO (CC := "CakesToTheWatched$Child") (rest := rest) C (metX9_kind l G o) ⟨"CakesToTheWatched$Guest", "kind", "()I"⟩ 0 (lw_O q503 q506 q504 q510 q511 q53 q512) q528 (by decide +kernel) ⟨rfl, rfl⟩ ⟨Nat.le_trans (by decide) hR.1, Nat.le_trans (by decide) hR.2⟩ (KM_mv G) (va_recv hK hP rfl he) (hP.sub (ws' := []) [] rfl) hK hl rfl rfl hW hcs hdg ?_
    exact kk
  · refine c_VO (CC := "CakesToTheWatched$Deacon") (rest := rest) C (metX10_kind l G o) ⟨"CakesToTheWatched$Guest", "kind", "()I"⟩ 0 (lw_O q503 q506 q504 q516 q517 q54 q518) q528 (by decide +kernel) ⟨rfl, rfl⟩ ⟨Nat.le_trans (by decide) hR.1, Nat.le_trans (by decide) hR.2⟩ (KM_mv G) (va_recv hK hP rfl he) (hP.sub (ws' := []) [] rfl) hK hl rfl rfl hW hcs hdg ?_
    exact kk
  · refine c_VO (CC := "CakesToTheWatched$Taster") (rest := rest) C (metX11_kind l G o) ⟨"CakesToTheWatched$Guest", "kind", "()I"⟩ 0 (lw_O q503 q506 q504 q522 q523 q55 q524) q528 (by decide +kernel) ⟨rfl, rfl⟩ ⟨Nat.le_trans (by decide) hR.1, Nat.le_trans (by decide) hR.2⟩ (KM_mv G) (va_recv hK hP rfl he) (hP.sub (ws' := []) [] rfl) hK hl rfl rfl hW hcs hdg ?_
    exact kk
  · refine c_VO (CC := "CakesToTheWatched$Blind") (rest := rest) C (metX12_kind l G o) ⟨"CakesToTheWatched$Guest", "kind", "()I"⟩ 0 (lw_O q503 q506 q504 q507 q508 q56 q509) q528 (by decide +kernel) ⟨rfl, rfl⟩ ⟨Nat.le_trans (by decide) hR.1, Nat.le_trans (by decide) hR.2⟩ (KM_mv G) (va_recv hK hP rfl he) (hP.sub (ws' := []) [] rfl) hK hl rfl rfl hW hcs hdg ?_
    exact kk
  · refine c_VO (CC := "CakesToTheWatched$Expert") (rest := rest) C (metX13_kind l G o) ⟨"CakesToTheWatched$Guest", "kind", "()I"⟩ 0 (lw_O q503 q506 q504 q519 q520 q57 q521) q528 (by decide +kernel) ⟨rfl, rfl⟩ ⟨Nat.le_trans (by decide) hR.1, Nat.le_trans (by decide) hR.2⟩ (KM_mv G) (va_recv hK hP rfl he) (hP.sub (ws' := []) [] rfl) hK hl rfl rfl hW hcs hdg ?_
    exact kk
  · refine c_VO (CC := "CakesToTheWatched$Twin") (rest := rest) C (metX14_kind l G o) ⟨"CakesToTheWatched$Guest", "kind", "()I"⟩ 0 (lw_O q503 q506 q504 q525 q526 q58 q527) q528 (by decide +kernel) ⟨rfl, rfl⟩ ⟨Nat.le_trans (by decide) hR.1, Nat.le_trans (by decide) hR.2⟩ (KM_mv G) (va_recv hK hP rfl he) (hP.sub (ws' := []) [] rfl) hK hl rfl rfl hW hcs hdg ?_
    exact kk
  · refine c_VO (CC := "CakesToTheWatched$Cow") (rest := rest) C (metX15_kind l G o) ⟨"CakesToTheWatched$Guest", "kind", "()I"⟩ 0 (lw_O q503 q506 q504 q513 q514 q59 q515) q528 (by decide +kernel) ⟨rfl, rfl⟩ ⟨Nat.le_trans (by decide) hR.1, Nat.le_trans (by decide) hR.2⟩ (KM_mv G) (va_recv hK hP rfl he) (hP.sub (ws' := []) [] rfl) hK hl rfl rfl hW hcs hdg ?_
    exact kk
theorem g_cost {G : GG} {k : Nat} {f : Int32} {ws : va_W} {o q0 : Nat} {lv : List (Nat × Value)} (C : Cx p c meth s args m cc L0 rt0 RX1) (hK : KM G s) (hk : k < 8) (he : ws[q0]? = some (o, .inr (6 + k, [.int f]))) (hP : PP G ws H) (hR : 6 ≤ R.frames ∧ 200 ≤ R.locals) (hl : lv_has ls L0 lv) (hW : (rest.map fun v => v.category).sum ≤ 8) (hcs : cells ≤ R.cells ∧ slots ≤ R.slots) (hdg : decode cc pc = .ok (.invokevirtual 363, 3)) (kk : W p l e R s m args below meth c H locs cells slots Q (F0 m (pc + 3) ls (.int (sCost (nI k) f) :: rest))) : W p l e R s m args below meth c H locs cells slots Q (F0 m pc ls (.ref o :: rest)) := by
  have hk8 : k = 0 ∨ k = 1 ∨ k = 2 ∨ k = 3 ∨ k = 4 ∨ k = 5 ∨ k = 6 ∨ k = 7 := by omega
  rcases hk8 with rfl | rfl | rfl | rfl | rfl | rfl | rfl | rfl
  · refine c_VO (CC := "CakesToTheWatched$Guest") (rest := rest) C (metX8_cost l G o) ⟨"CakesToTheWatched$Guest", "cost", "()I"⟩ 0 (lw_O q944 q947 q945 q946 q945 q52 q952) q952 (by decide +kernel) ⟨rfl, rfl⟩ ⟨Nat.le_trans (by decide) hR.1, Nat.le_trans (by decide) hR.2⟩ (KM_mv G) (va_recv hK hP rfl he) (hP.sub (ws' := []) [] rfl) hK hl rfl rfl hW hcs hdg ?_
    exact kk
  · refine c_VO (CC := "CakesToTheWatched$Child") (rest := rest) C (metX9_cost l G o f) ⟨"CakesToTheWatched$Guest", "cost", "()I"⟩ 0 (lw_O q944 q947 q945 q953 q954 q53 q955) q952 (by decide +kernel) ⟨rfl, rfl⟩ ⟨Nat.le_trans (by decide) hR.1, Nat.le_trans (by decide) hR.2⟩ (KM_mv G) (va_recv hK hP rfl he) (hP.sub [q0] (by simp [he])) hK hl rfl rfl hW hcs hdg ?_
    exact kk
  · refine c_VO (CC := "CakesToTheWatched$Deacon") (rest := rest) C (metX10_cost l G o f) ⟨"CakesToTheWatched$Guest", "cost", "()I"⟩ 0 (lw_O q944 q947 q945 q960 q961 q54 q962) q952 (by decide +kernel) ⟨rfl, rfl⟩ ⟨Nat.le_trans (by decide) hR.1, Nat.le_trans (by decide) hR.2⟩ (KM_mv G) (va_recv hK hP rfl he) (hP.sub [q0] (by simp [he])) hK hl rfl rfl hW hcs hdg ?_
    exact kk
  · refine c_VO (CC := "CakesToTheWatched$Taster") (rest := rest) C (metX11_cost l G o f) ⟨"CakesToTheWatched$Guest", "cost", "()I"⟩ 0 (lw_O q944 q947 q945 q971 q968 q55 q969) q952 (by decide +kernel) ⟨rfl, rfl⟩ ⟨Nat.le_trans (by decide) hR.1, Nat.le_trans (by decide) hR.2⟩ (KM_mv G) (va_recv hK hP rfl he) (hP.sub [q0] (by simp [he])) hK hl rfl rfl hW hcs hdg ?_
    exact kk
  · refine c_VO (CC := "CakesToTheWatched$Blind") (rest := rest) C (metX12_cost l G o f) ⟨"CakesToTheWatched$Guest", "cost", "()I"⟩ 0 (lw_O q944 q947 q945 q948 q949 q56 q950) q952 (by decide +kernel) ⟨rfl, rfl⟩ ⟨Nat.le_trans (by decide) hR.1, Nat.le_trans (by decide) hR.2⟩ (KM_mv G) (va_recv hK hP rfl he) (hP.sub [q0] (by simp [he])) hK hl rfl rfl hW hcs hdg ?_
    exact kk
  · refine c_VO (CC := "CakesToTheWatched$Expert") (rest := rest) C (metX13_cost l G o f) ⟨"CakesToTheWatched$Guest", "cost", "()I"⟩ 0 (lw_O q944 q947 q945 q964 q965 q57 q966) q952 (by decide +kernel) ⟨rfl, rfl⟩ ⟨Nat.le_trans (by decide) hR.1, Nat.le_trans (by decide) hR.2⟩ (KM_mv G) (va_recv hK hP rfl he) (hP.sub [q0] (by simp [he])) hK hl rfl rfl hW hcs hdg ?_
    exact kk
  · refine c_VO (CC := "CakesToTheWatched$Twin") (rest := rest) C (metX14_cost l G o f) ⟨"CakesToTheWatched$Guest", "cost", "()I"⟩ 0 (lw_O q944 q947 q945 q972 q973 q58 q974) q952 (by decide +kernel) ⟨rfl, rfl⟩ ⟨Nat.le_trans (by decide) hR.1, Nat.le_trans (by decide) hR.2⟩ (KM_mv G) (va_recv hK hP rfl he) (hP.sub [q0] (by simp [he])) hK hl rfl rfl hW hcs hdg ?_
    exact kk
  · refine c_VO (CC := "CakesToTheWatched$Cow") (rest := rest) C (metX15_cost l G o) ⟨"CakesToTheWatched$Guest", "cost", "()I"⟩ 0 (lw_O q944 q947 q945 q957 q958 q59 q959) q952 (by decide +kernel) ⟨rfl, rfl⟩ ⟨Nat.le_trans (by decide) hR.1, Nat.le_trans (by decide) hR.2⟩ (KM_mv G) (va_recv hK hP rfl he) (hP.sub (ws' := []) [] rfl) hK hl rfl rfl hW hcs hdg ?_
    exact kk
end
