theorem toP_0 {T : Int → Int} {n : Int} {O : Int → Int} : toP T n O 0 := fun j hj => absurd hj (Nat.not_lt_zero j)
theorem toP_keep {T : Int → Int} {n : Int} {O O1 : Int → Int} {t : Nat} (h : toP T n O t) (hk : ∀ j : Int, 0 ≤ j → j < 3 * (t : Int) → O1 j = O j) : toP T n O1 t := fun j hj => by
  obtain ⟨a, b, c⟩ := h j hj
  rw [hk (3 * (j : Int)) (by omega) (by omega), hk (3 * (j : Int) + 1) (by omega) (by omega), hk (3 * (j : Int) + 2) (by omega) (by omega)]
  exact ⟨a, b, c⟩
theorem toP_add {T : Int → Int} {n : Int} {O : Int → Int} {t : Nat} (h : toP T n O t) (h1 : O (3 * (t : Int)) = T (txA T n t) - 65) (h2 : O (3 * (t : Int) + 1) = T (txA T n t + 1) - 65) (h3 : O (3 * (t : Int) + 2) = orW T n (txA T n t)) : toP T n O (t + 1) := fun j hj => by
  by_cases e : j = t
  · subst e; exact ⟨h1, h2, h3⟩
  · exact h j (by omega)
/-- an order by its parts -/
theorem or_1 {T : Int → Int} {n a : Int} (h : ¬ ltP T n a (-1)) : ¬ orOK T n a ∧ orA T n a = a := ⟨fun z => h z.1.1, by unfold orA; rw [zi_f h]⟩
theorem or_2 {T : Int → Int} {n a : Int} (h1 : ltP T n a (-1)) (h : ¬ ltP T n (a + 1) (T a - 65)) : ¬ orOK T n a ∧ orA T n a = a + 1 := ⟨fun z => h z.1.2.1, by unfold orA; rw [zi_t h1, zi_f h]⟩
theorem or_3 {T : Int → Int} {n a : Int} (h1 : ltP T n a (-1)) (h2 : ltP T n (a + 1) (T a - 65)) (h : ¬ (a + 2 < n ∧ T (a + 2) = 58)) : ¬ orOK T n a ∧ orA T n a = a + 2 := ⟨fun z => h z.1.2.2, by unfold orA; rw [zi_t h1, zi_t h2, zi_f h]⟩
theorem or_4 {T : Int → Int} {n a : Int} (h1 : ltP T n a (-1)) (h2 : ltP T n (a + 1) (T a - 65)) (h3 : a + 2 < n ∧ T (a + 2) = 58) (h : exP T n a) : orOK T n a ∧ orA T n a = a + 4 ∧ orW T n a = -1 := ⟨⟨⟨h1, h2, h3⟩, Or.inl h⟩, by unfold orA; rw [zi_t h1, zi_t h2, zi_t h3, zi_t h], by unfold orW; rw [zi_t h]⟩
theorem or_5 {T : Int → Int} {n a : Int} (h1 : ltP T n a (-1)) (h2 : ltP T n (a + 1) (T a - 65)) (h3 : a + 2 < n ∧ T (a + 2) = 58) (h : ¬ exP T n a) : (orOK T n a ↔ omt T n a = wlen (owd T n a)) ∧ orA T n a = a + 3 + omt T n a ∧ orW T n a = owd T n a := ⟨⟨fun z => z.2.resolve_left h, fun z => ⟨⟨h1, h2, h3⟩, Or.inr z⟩⟩, by unfold orA; rw [zi_t h1, zi_t h2, zi_t h3, zi_f h], by unfold orW; rw [zi_f h]⟩
theorem omt_k {T : Int → Int} {n a k : Int} {N : Nat} (h : owd T n a = k) (hN : wlen k = N) : omt T n a = mt T n (a + 3) (wd k) N ∧ wlen (owd T n a) = N := by
  unfold omt
  rw [h, hN]
  exact ⟨rfl, rfl⟩
