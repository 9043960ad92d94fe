/-! texts: orders, read from the left -/
def mtc (T : Int → Int) (n a : Int) (w : Int → Int) (k : Int) : Prop := a + k < n ∧ T (a + k) = w k
noncomputable def mt (T : Int → Int) (n a : Int) (w : Int → Int) : Nat → Int
  | 0 => 0
  | k + 1 => zi (mt T n a w k = (k : Int) ∧ mtc T n a w (k : Int)) ((k : Int) + 1) (mt T n a w k)
theorem mt_full {T : Int → Int} {n a : Int} {w : Int → Int} : ∀ N : Nat, (∀ i : Int, 0 ≤ i → i < N → mtc T n a w i) → mt T n a w N = N
  | 0, _ => rfl
  | N + 1, h => by
    have i := mt_full (T := T) (n := n) (a := a) (w := w) N (fun i a b => h i a (by omega))
    unfold mt
    rw [i, zi_t ⟨rfl, h N (by omega) (by omega)⟩]
    rfl
theorem mt_stop {T : Int → Int} {n a : Int} {w : Int → Int} {j : Nat} (h1 : ∀ i : Int, 0 ≤ i → i < j → mtc T n a w i) (h2 : ¬ mtc T n a w (j : Int)) : ∀ N : Nat, j ≤ N → mt T n a w N = j
  | 0, h => by
    have : j = 0 := by omega
    subst this; rfl
  | N + 1, h => by
    rcases Nat.lt_or_ge N j with z | z
    · have : j = N + 1 := by omega
      subst this
      exact mt_full (N + 1) h1
    · have i := mt_stop h1 h2 N z
      unfold mt
      rw [i, zi_f]
      intro q
      have e : j = N := by omega
      subst e
      exact h2 q.2
theorem mt_rng (T : Int → Int) (n a : Int) (w : Int → Int) : ∀ N : Nat, 0 ≤ mt T n a w N ∧ mt T n a w N ≤ N ∧ (0 ≤ a → a ≤ n → a + mt T n a w N ≤ n)
  | 0 => by
    show (0 : Int) ≤ 0 ∧ (0 : Int) ≤ ((0 : Nat) : Int) ∧ (0 ≤ a → a ≤ n → a + 0 ≤ n)
    omega
  | N + 1 => by
    obtain ⟨h1, h2, h3⟩ := mt_rng T n a w N
    unfold mt
    rcases zi_or (mt T n a w N = (N : Int) ∧ mtc T n a w (N : Int)) ((N : Int) + 1) (mt T n a w N) with ⟨⟨q1, q2⟩, e⟩ | ⟨-, e⟩
    · rw [e]
      have q3 := q2.1
      exact ⟨by omega, by omega, fun _ _ => by omega⟩
    · rw [e]; exact ⟨h1, by omega, h3⟩
/-- the words: none, one, pair, cart -/
def wd (k j : Int) : Int := if k = 0 then (if j = 0 then 110 else if j = 1 then 111 else if j = 2 then 110 else 101) else if k = 1 then (if j = 0 then 111 else if j = 1 then 110 else 101) else if k = 2 then (if j = 0 then 112 else if j = 1 then 97 else if j = 2 then 105 else 114) else (if j = 0 then 99 else if j = 1 then 97 else if j = 2 then 114 else 116)
def wlen (k : Int) : Nat := if k = 1 then 3 else 4
abbrev ltP (T : Int → Int) (n a o : Int) : Prop := ¬ a = n ∧ (65 ≤ T a ∧ T a ≤ 70) ∧ ¬ T a - 65 = o
/-- one order at a: two letters, a colon, then ! or a word -/
abbrev o3P (T : Int → Int) (n a : Int) : Prop := ltP T n a (-1) ∧ ltP T n (a + 1) (T a - 65) ∧ (a + 2 < n ∧ T (a + 2) = 58)
abbrev exP (T : Int → Int) (n a : Int) : Prop := a + 3 < n ∧ T (a + 3) = 33
noncomputable def owd (T : Int → Int) (n a : Int) : Int := zi (a + 3 < n ∧ T (a + 3) = 110) 0 (zi (a + 3 < n ∧ T (a + 3) = 111) 1 (zi (a + 3 < n ∧ T (a + 3) = 112) 2 3))
theorem owd_rng (T : Int → Int) (n a : Int) : 0 ≤ owd T n a ∧ owd T n a ≤ 3 := zi_b (by decide) (zi_b (by decide) (zi_b (by decide) (by decide)))
noncomputable def omt (T : Int → Int) (n a : Int) : Int := mt T n (a + 3) (wd (owd T n a)) (wlen (owd T n a))
def orOK (T : Int → Int) (n a : Int) : Prop := o3P T n a ∧ (exP T n a ∨ omt T n a = wlen (owd T n a))
noncomputable def orW (T : Int → Int) (n a : Int) : Int := zi (exP T n a) (-1) (owd T n a)
noncomputable def orA (T : Int → Int) (n a : Int) : Int := zi (ltP T n a (-1)) (zi (ltP T n (a + 1) (T a - 65)) (zi (a + 2 < n ∧ T (a + 2) = 58) (zi (exP T n a) (a + 4) (a + 3 + omt T n a)) (a + 2)) (a + 1)) a
theorem orA_rng {T : Int → Int} {n a : Int} (h : 0 ≤ a ∧ a ≤ n) : a ≤ orA T n a ∧ orA T n a ≤ n := by
  unfold orA
  rcases zi_or (ltP T n a (-1)) (zi (ltP T n (a + 1) (T a - 65)) (zi (a + 2 < n ∧ T (a + 2) = 58) (zi (exP T n a) (a + 4) (a + 3 + omt T n a)) (a + 2)) (a + 1)) a with ⟨h1, e⟩ | ⟨-, e⟩
  · rw [e]
    rcases zi_or (ltP T n (a + 1) (T a - 65)) (zi (a + 2 < n ∧ T (a + 2) = 58) (zi (exP T n a) (a + 4) (a + 3 + omt T n a)) (a + 2)) (a + 1) with ⟨h2, e⟩ | ⟨-, e⟩
    · rw [e]
      rcases zi_or (a + 2 < n ∧ T (a + 2) = 58) (zi (exP T n a) (a + 4) (a + 3 + omt T n a)) (a + 2) with ⟨h3, e⟩ | ⟨-, e⟩
      · rw [e]
        rcases zi_or (exP T n a) (a + 4) (a + 3 + omt T n a) with ⟨h4, e⟩ | ⟨-, e⟩
        · rw [e]; omega
        · rw [e]
          have := mt_rng T n (a + 3) (wd (owd T n a)) (wlen (owd T n a))
          unfold omt
          omega
      · rw [e]; omega
    · rw [e]; omega
  · rw [e]; omega
/-- where the orders begin -/
noncomputable def txA (T : Int → Int) (n : Int) : Nat → Int
  | 0 => 0
  | t + 1 => orA T n (txA T n t) + 1
def smP (T : Int → Int) (n a : Int) : Prop := orOK T n a ∧ (orA T n a < n ∧ T (orA T n a) = 59)
theorem orOK_ge {T : Int → Int} {n a : Int} (h : orOK T n a) : a + 4 ≤ orA T n a := by
  obtain ⟨⟨h1, h2, h3⟩, h4⟩ := h
  unfold orA
  rw [zi_t h1, zi_t h2, zi_t h3]
  rcases zi_or (exP T n a) (a + 4) (a + 3 + omt T n a) with ⟨-, e⟩ | ⟨q, e⟩
  · rw [e]; omega
  · rw [e, h4.resolve_left q]
    unfold wlen
    split <;> omega
theorem txA_rng {T : Int → Int} {n : Int} (hn : 0 ≤ n) : ∀ t : Nat, (∀ j : Nat, j < t → smP T n (txA T n j)) → 5 * (t : Int) ≤ txA T n t ∧ txA T n t ≤ n
  | 0, _ => by
    show 5 * ((0 : Nat) : Int) ≤ 0 ∧ (0 : Int) ≤ n
    omega
  | t + 1, h => by
    have i := txA_rng hn t (fun j hj => h j (by omega))
    have s := h t (by omega)
    have g := orOK_ge s.1
    have s2 := s.2.1
    show 5 * ((t + 1 : Nat) : Int) ≤ orA T n (txA T n t) + 1 ∧ orA T n (txA T n t) + 1 ≤ n
    omega
def ntP (T : Int → Int) (n : Int) (t : Nat) : Prop := (∀ j : Nat, j < t → smP T n (txA T n j)) ∧ ¬ smP T n (txA T n t)
noncomputable def nT (T : Int → Int) (n : Int) : Nat := Classical.epsilon (ntP T n)
theorem nT_eq {T : Int → Int} {n : Int} {t : Nat} (h : ntP T n t) : nT T n = t := by
  have h2 : ntP T n (nT T n) := Classical.epsilon_spec ⟨t, h⟩
  rcases Nat.lt_trichotomy (nT T n) t with z | z | z
  · exact absurd (h.1 _ z) h2.2
  · exact z
  · exact absurd (h2.1 _ z) h.2
noncomputable def txE (T : Int → Int) (n : Int) : Int := orA T n (txA T n (nT T n))
def txOK (T : Int → Int) (n : Int) : Prop := orOK T n (txA T n (nT T n)) ∧ txE T n = n
/-- what the orders tell, in the reference's array -/
def toP (T : Int → Int) (n : Int) (O : Int → Int) (t : Nat) : Prop := ∀ j : Nat, j < t → O (3 * (j : Int)) = T (txA T n j) - 65 ∧ O (3 * (j : Int) + 1) = T (txA T n j + 1) - 65 ∧ O (3 * (j : Int) + 2) = orW T n (txA T n j)
