/-! THE START -/
set_option maxRecDepth 100000
theorem hp_k1 {ty : FieldType} {A : Array Value} {s : State} (h : (Cond.arrayClass ty).before A s = true) : ∃ cA : ClassId, ArrOfT s cA ty ∧ s.vm.findClass ("[" ++ ty.toString) = some cA := by
  obtain ⟨c, k, comp, h1, h2, h3⟩ := Cond.arrayClass_spec (first := s) (o := none) (idx := []) h
  exact ⟨c, fun n z => ⟨fun k h => (by cases h), k, h2, comp, h3⟩, h1⟩
theorem hp_k2 {t : FieldType} {A : Array Value} {s : State} (h : (Cond.arrayOver (.array t)).before A s = true) : ∃ cA : ClassId, ArrOfT s cA (.array t) ∧ s.vm.findClass ("[" ++ (FieldType.array t).toString) = some cA := by
  obtain ⟨comp, c, k, -, -, h2, h3, h1⟩ := arrayOverA_spec (first := s) (o := none) (idx := []) h
  exact ⟨c, fun n z => ⟨fun k h => (by cases h), k, h2, comp, h3⟩, h1⟩
theorem hp_k3 {C : String} {A : Array Value} {s : State} (h : (Cond.arrayOver (.object C)).before A s = true) : ∃ cA : ClassId, ArrOfT s cA (.object C) ∧ va_RA s cA (.object C) := by
  obtain ⟨comp, c, k, h0, -, h2, h3, h1⟩ := Cond.arrayOver_spec (first := s) (o := none) (idx := []) h
  exact ⟨c, fun n z => ⟨fun k h => (by cases h), k, h2, comp, h3⟩, k, comp, h2, h3, h0, h1⟩
theorem hp_k4 {A : Array Value} {s : State} (hts : ∀ w ∈ lw_tbl, w.before A s = true) : ∃ D : va_G, va_K D hp_cl (hp_tys D) s := by
  have hall : ∀ w ∈ lw_all, w.before A s = true := fun w h => hts w (lw_all_tbl h)
  have h0 : ∀ c : Nat, ∃ x : ClassId × (Nat → Nat), ∀ q, hp_cl[c]? = some q → u_Kn s q.1 q.2.1 q.2.2 x.1 x.2 := by
    intro c
    by_cases hc : c < 18
    · have hk : c = 0 ∨ c = 1 ∨ c = 2 ∨ c = 3 ∨ c = 4 ∨ c = 5 ∨ c = 6 ∨ c = 7 ∨ c = 8 ∨ c = 9 ∨ c = 10 ∨ c = 11 ∨ c = 12 ∨ c = 13 ∨ c = 14 ∨ c = 15 ∨ c = 16 ∨ c = 17 := by omega
      rcases hk with rfl | rfl | rfl | rfl | rfl | rfl | rfl | rfl | rfl | rfl | rfl | rfl | rfl | rfl | rfl | rfl | rfl | rfl
      · obtain ⟨cC, iS, h⟩ := u_known hall in_X1 (hall _ q110)
        exact ⟨(cC, iS), fun q hq => by cases hq; exact h⟩
      · obtain ⟨cC, iS, h⟩ := u_known hall in_X2 (hall _ q118)
        exact ⟨(cC, iS), fun q hq => by cases hq; exact h⟩
      · obtain ⟨cC, iS, h⟩ := u_known hall in_X3 (hall _ q150)
        exact ⟨(cC, iS), fun q hq => by cases hq; exact h⟩
      · obtain ⟨cC, iS, h⟩ := u_known hall in_X4 (hall _ q219)
        exact ⟨(cC, iS), fun q hq => by cases hq; exact h⟩
      · obtain ⟨cC, iS, h⟩ := u_known hall in_X5 (hall _ q252)
        exact ⟨(cC, iS), fun q hq => by cases hq; exact h⟩
      · obtain ⟨cC, iS, h⟩ := u_known hall in_X6 (hall _ q271)
        exact ⟨(cC, iS), fun q hq => by cases hq; exact h⟩
      · obtain ⟨cC, iS, h⟩ := u_known hall in_X7 (hall _ q1248)
        exact ⟨(cC, iS), fun q hq => by cases hq; exact h⟩
      · obtain ⟨cC, iS, h⟩ := u_known hall in_N8 (hall _ q475)
        exact ⟨(cC, iS), fun q hq => by cases hq; exact h⟩
      · obtain ⟨cC, iS, h⟩ := u_known hall in_X9 (hall _ q557)
        exact ⟨(cC, iS), fun q hq => by cases hq; exact h⟩
      · obtain ⟨cC, iS, h⟩ := u_known hall in_X10 (hall _ q693)
        exact ⟨(cC, iS), fun q hq => by cases hq; exact h⟩
      · obtain ⟨cC, iS, h⟩ := u_known hall in_X11 (hall _ q779)
        exact ⟨(cC, iS), fun q hq => by cases hq; exact h⟩
      · obtain ⟨cC, iS, h⟩ := u_known hall in_X12 (hall _ q819)
        exact ⟨(cC, iS), fun q hq => by cases hq; exact h⟩
      · obtain ⟨cC, iS, h⟩ := u_known hall in_X13 (hall _ q853)
        exact ⟨(cC, iS), fun q hq => by cases hq; exact h⟩
      · obtain ⟨cC, iS, h⟩ := u_known hall in_N16 (hall _ q887)
        exact ⟨(cC, iS), fun q hq => by cases hq; exact h⟩
      · obtain ⟨cC, iS, h⟩ := u_known hall in_N17 (hall _ q918)
        exact ⟨(cC, iS), fun q hq => by cases hq; exact h⟩
      · obtain ⟨cC, iS, h⟩ := u_known hall in_X18 (hall _ q932)
        exact ⟨(cC, iS), fun q hq => by cases hq; exact h⟩
      · obtain ⟨cC, iS, h⟩ := u_known hall in_J2 (hall _ q156)
        exact ⟨(cC, iS), fun q hq => by cases hq; exact h⟩
      · obtain ⟨cC, iS, h⟩ := u_known hall in_X8 (hall _ q475)
        exact ⟨(cC, iS), fun q hq => by cases hq; exact h⟩
    · refine ⟨(default, fun _ => 0), fun q hq => ?_⟩
      exact absurd (List.getElem?_eq_some_iff.mp hq).1 hc
  obtain ⟨ad, had⟩ := Classical.axiomOfChoice h0
  obtain ⟨c50, a50, r50⟩ := hp_k1 (hall _ q249)
  obtain ⟨c51, a51, r51⟩ := hp_k1 (hall _ q250)
  obtain ⟨c52, a52, r52⟩ := hp_k1 (hall _ q148)
  obtain ⟨c53, a53, r53⟩ := hp_k1 (hall _ q1720)
  obtain ⟨c54, a54, r54⟩ := hp_k3 (hts _ q168)
  obtain ⟨c55, a55, r55⟩ := hp_k2 (hts _ q217)
  obtain ⟨c56, a56, r56⟩ := hp_k2 (hts _ q225)
  refine ⟨(fun c => if c < 50 then (ad c).1 else if c = 50 then c50 else if c = 51 then c51 else if c = 52 then c52 else if c = 53 then c53 else if c = 54 then c54 else if c = 55 then c55 else c56, fun c => (ad c).2), fun c q hq => ?_, fun k q hq => ?_⟩
  · have hc : c < 18 := (List.getElem?_eq_some_iff.mp hq).1
    show u_Kn s q.1 q.2.1 q.2.2 (if c < 50 then (ad c).1 else _) (ad c).2
    rw [if_pos (by omega)]
    exact had c q hq
  · have hk : k < 7 := (List.getElem?_eq_some_iff.mp hq).1
    rcases (by omega : k = 0 ∨ k = 1 ∨ k = 2 ∨ k = 3 ∨ k = 4 ∨ k = 5 ∨ k = 6) with rfl | rfl | rfl | rfl | rfl | rfl | rfl <;> cases hq
    · exact ⟨a50, r50⟩
    · exact ⟨a51, r51⟩
    · exact ⟨a52, r52⟩
    · exact ⟨a53, r53⟩
    · exact ⟨a54, r54⟩
    · exact ⟨a55, r55⟩
    · exact ⟨a56, r56⟩
/-- the state at the start: nothing made -/
def st_0 : hp_St := (1, fun _ => 0, fun _ => 0, fun _ _ => 0, fun _ _ => 0, fun _ _ => 0)
theorem hp_mir : hp_ni (.isRef (.mirror "[Ljava/lang/Object;")) = true := by decide +kernel
