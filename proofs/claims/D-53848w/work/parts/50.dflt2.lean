/-- what every state bears of State.width -/
def dfW (U : State) : Prop := ((Cond.methodLink "CorridorPlan" 193 yW2).before #[] U = true ∧ (Cond.sameMethod "CorridorPlan$State" "CorridorPlan$Walkers" "width" "(II)I").before #[] U = true ∧ (Cond.declares yW5).before #[] U = true) ∧
  ∃ c r m rm, U.vm.findClass "CorridorPlan$State" = some c ∧ U.methodNamed? yW5 = some r ∧ U.methodNamed? yW5 = some m ∧ U.vm.method? r = some rm ∧ selectMethod {} U.vm c r = .method m ∧ (∃ mk, U.vm.classes[m.cls]? = some mk ∧ mk.isInterface = true) ∧ nrOk U.vm c rm.name rm.desc m
theorem dfW.warm {s U : State} (hW : s.WarmedH U.vm) (h : dfW s) : dfW U := by
  obtain ⟨⟨h1, h2, h3⟩, c, r, m, rm, g1, g2, g3, g4, g5, ⟨mk, g6, g7⟩, g8⟩ := h
  obtain ⟨mk', k1, k2⟩ := hW.alike.2.2 _ _ g6
  have tr : ∀ {c : Cond}, c.onTables = true → c.before #[] (s.setVm U.vm) = true → c.before #[] U = true := fun hc h => va_tabs (A := #[]) (A' := #[]) (u := s.setVm U.vm) (U := U) hc rfl h
  have nm : U.methodNamed? yW5 = s.methodNamed? yW5 := by
    have := State.methodNamed?_setVm hW.alike yW5
    exact this
  refine ⟨⟨word_at hW (Or.inl rfl) h1, word_at hW (Or.inl rfl) h2, tr rfl (by rw [Cond.declares_setVm hW.alike]; exact h3)⟩, c, r, m, rm, by rw [hW.alike.findClass]; exact g1, by rw [nm]; exact g2, by rw [nm]; exact g3, by rw [hW.alike.method?]; exact g4, by rw [hW.alike.selectMethod]; exact g5, ⟨mk', k1, by rw [k2]; exact g7⟩, g8.alike hW.alike⟩
