/-! the text's orders done one by one -/
def txI (T : Int → Int) (n : Int) (t : Nat) (m : Prop) (a : Int) : Prop := (m → a = txA T n t ∧ ∀ j : Nat, j < t → smP T n (txA T n j)) ∧ (¬ m → ∃ r : Nat, t = r + 1 ∧ (∀ j : Nat, j < r → smP T n (txA T n j)) ∧ orOK T n (txA T n r) ∧ a = orA T n (txA T n r) ∧ ¬ (a < n ∧ T a = 59))
theorem txI_0 {T : Int → Int} {n : Int} : txI T n 0 True 0 := ⟨fun _ => ⟨rfl, fun j hj => absurd hj (Nat.not_lt_zero j)⟩, fun h => absurd trivial h⟩
theorem txI_next {T : Int → Int} {n : Int} {t : Nat} (h : ∀ j : Nat, j < t → smP T n (txA T n j)) (ho : orOK T n (txA T n t)) : txI T n (t + 1) (orA T n (txA T n t) < n ∧ T (orA T n (txA T n t)) = 59) (orA T n (txA T n t) + qz (orA T n (txA T n t) < n ∧ T (orA T n (txA T n t)) = 59)) := by
  refine ⟨fun m => ⟨by rw [qz_t m]; rfl, fun j hj => ?_⟩, fun m => ⟨t, rfl, h, ho, by rw [qz_f m, Int.add_zero], by rw [qz_f m, Int.add_zero]; exact m⟩⟩
  by_cases e : j = t
  · subst e; exact ⟨ho, m⟩
  · exact h j (by omega)
theorem txI_rng {T : Int → Int} {n : Int} {t : Nat} {m : Prop} {a : Int} (hn : 0 ≤ n ∧ n ≤ 60) (h : txI T n t m a) : (m → t ≤ 12) ∧ t ≤ 13 ∧ 0 ≤ a ∧ a ≤ n := by
  by_cases hm : m
  · obtain ⟨h1, h2⟩ := h.1 hm
    have := txA_rng hn.1 t h2
    rw [h1]
    exact ⟨fun _ => by omega, by omega, by omega, by omega⟩
  · obtain ⟨r, h1, h2, h3, h4, -⟩ := h.2 hm
    have := txA_rng hn.1 r h2
    have q := orA_rng (T := T) (n := n) (a := txA T n r) ⟨by omega, by omega⟩
    rw [h4]
    exact ⟨fun z => absurd z hm, by omega, by omega, by omega⟩
theorem tx_fail {T : Int → Int} {n : Int} {t : Nat} (h : ∀ j : Nat, j < t → smP T n (txA T n j)) (ho : ¬ orOK T n (txA T n t)) : ¬ txOK T n ∧ txE T n = orA T n (txA T n t) := by
  have e : nT T n = t := nT_eq ⟨h, fun z => ho z.1⟩
  unfold txOK txE
  rw [e]
  exact ⟨fun z => ho z.1, rfl⟩
theorem tx_end {T : Int → Int} {n a : Int} {r : Nat} (h : ∀ j : Nat, j < r → smP T n (txA T n j)) (ho : orOK T n (txA T n r)) (ha : a = orA T n (txA T n r)) (hs : ¬ (a < n ∧ T a = 59)) : (txOK T n ↔ a = n) ∧ txE T n = a ∧ nT T n = r := by
  have e : nT T n = r := nT_eq ⟨h, fun z => hs (by rw [ha]; exact z.2)⟩
  unfold txOK txE
  rw [e, ← ha]
  exact ⟨⟨fun z => z.2, fun z => ⟨ho, z⟩⟩, rfl, rfl⟩
def doOK (S : Int → Int) (a o w : Int) : Prop := (isTh S a ∧ isTh S o) ∧ (¬ w = -1 ∨ wYes S a o)
noncomputable def doS (S : Int → Int) (a o w : Int) : Int → Int := zf (isTh S a ∧ isTh S o) (zf (w = -1) (zf (wYes S a o) (dgS S (brW S a o) a o) S) (wkS S a o w)) S
theorem doS_no {S : Int → Int} {a o w : Int} (h : ¬ doOK S a o w) : doS S a o w = S := by
  unfold doS
  by_cases h1 : isTh S a ∧ isTh S o
  · rw [zf_t h1]
    by_cases h2 : w = -1
    · rw [zf_t h2, zf_f (fun z => h ⟨h1, Or.inr z⟩)]
    · exact absurd ⟨h1, Or.inl h2⟩ h
  · rw [zf_f h1]
theorem doS_ok {S : Int → Int} {a o w : Int} (h : rgS S) (kW : rgW S) (ha : 0 ≤ a ∧ a ≤ 5) (ho : 0 ≤ o ∧ o ≤ 5) (hw : -1 ≤ w ∧ w ≤ 3) : rgS (doS S a o w) ∧ rgW (doS S a o w) := by
  unfold doS
  by_cases h1 : isTh S a ∧ isTh S o
  · rw [zf_t h1]
    by_cases h2 : w = -1
    · rw [zf_t h2]
      by_cases h3 : wYes S a o
      · rw [zf_t h3]
        have hb := brW_rng kW ha ho
        have hl := wL_rng S (brW S a o) a o
        refine ⟨rgS_dgO h _, fun i x y => ?_⟩
        have e : dgS S (brW S a o) a o i = S i := dgO_hi hb (okPL_wPz hb) (by omega) _ (by omega)
        rw [e]; exact kW i x y
      · rw [zf_f h3]; exact ⟨h, kW⟩
    · rw [zf_f h2]
      refine ⟨rgS_u (rgS_u h (by omega)) (by omega), fun i x y => ?_⟩
      unfold wkS
      by_cases e1 : i = 216 + 6 * o + a
      · rw [e1, uZ_s]; omega
      · rw [uZ_n e1]
        by_cases e2 : i = 216 + 6 * a + o
        · rw [e2, uZ_s]; omega
        · rw [uZ_n e2]; exact kW i x y
  · rw [zf_f h1]; exact ⟨h, kW⟩
/-- the three numbers of order k -/
noncomputable abbrev oA (T : Int → Int) (n : Int) (k : Nat) : Int := T (txA T n k) - 65
noncomputable abbrev oB (T : Int → Int) (n : Int) (k : Nat) : Int := T (txA T n k + 1) - 65
noncomputable abbrev oW (T : Int → Int) (n : Int) (k : Nat) : Int := orW T n (txA T n k)
theorem o_rng {T : Int → Int} {n : Int} {k : Nat} (h : orOK T n (txA T n k)) : (0 ≤ oA T n k ∧ oA T n k ≤ 5) ∧ (0 ≤ oB T n k ∧ oB T n k ≤ 5) ∧ (-1 ≤ oW T n k ∧ oW T n k ≤ 3) ∧ ¬ oA T n k = oB T n k := by
  obtain ⟨⟨h1, h2, -⟩, -⟩ := h
  have q := owd_rng T n (txA T n k)
  have z := zi_or (exP T n (txA T n k)) (-1) (owd T n (txA T n k))
  refine ⟨by have := h1.2.1; unfold oA; omega, by have := h2.2.1; unfold oB; omega, by unfold oW orW; omega, fun e => h2.2.2 e.symm⟩
noncomputable def rnS (T : Int → Int) (n : Int) (S : Int → Int) : Nat → Int → Int
  | 0 => S
  | k + 1 => doS (rnS T n S k) (oA T n k) (oB T n k) (oW T n k)
def rnP (T : Int → Int) (n : Int) (S : Int → Int) (k : Nat) : Prop := (∀ j : Nat, j < k → doOK (rnS T n S j) (oA T n j) (oB T n j) (oW T n j)) ∧ k ≤ nT T n + 1 ∧ (k = nT T n + 1 ∨ ¬ doOK (rnS T n S k) (oA T n k) (oB T n k) (oW T n k))
noncomputable def rnN (T : Int → Int) (n : Int) (S : Int → Int) : Nat := Classical.epsilon (rnP T n S)
theorem rnN_eq {T : Int → Int} {n : Int} {S : Int → Int} {k : Nat} (h : rnP T n S k) : rnN T n S = k := by
  have h2 : rnP T n S (rnN T n S) := Classical.epsilon_spec ⟨k, h⟩
  rcases Nat.lt_trichotomy (rnN T n S) k with z | z | z
  · rcases h2.2.2 with q | q
    · have := h.2.1; omega
    · exact absurd (h.1 _ z) q
  · exact z
  · rcases h.2.2 with q | q
    · have := h2.2.1; omega
    · exact absurd (h2.1 _ z) q
theorem txOK_all {T : Int → Int} {n : Int} (hn : 0 ≤ n ∧ n ≤ 60) (h : txOK T n) : ∀ j : Nat, j < nT T n + 1 → orOK T n (txA T n j) := by
  have hex : ∃ t, ntP T n t := Classical.byContradiction fun hx => by
    have all : ∀ t : Nat, ∀ j : Nat, j < t → smP T n (txA T n j) := by
      intro t
      induction t with
      | zero => intro j hj; exact absurd hj (Nat.not_lt_zero j)
      | succ t ih =>
        intro j hj
        by_cases e : j = t
        · subst e; exact Classical.byContradiction fun z => hx ⟨j, ih, z⟩
        · exact ih j (by omega)
    have := txA_rng hn.1 13 (all 13)
    omega
  have h2 : ntP T n (nT T n) := Classical.epsilon_spec hex
  intro j hj
  by_cases e : j = nT T n
  · rw [e]; exact h.1
  · exact (h2.1 j (by omega)).1
theorem nT_rng {T : Int → Int} {n : Int} (hn : 0 ≤ n ∧ n ≤ 60) : nT T n ≤ 12 := by
  have hex : ∃ t, ntP T n t := Classical.byContradiction fun hx => by
    have all : ∀ t : Nat, ∀ j : Nat, j < t → smP T n (txA T n j) := by
      intro t
      induction t with
      | zero => intro j hj; exact absurd hj (Nat.not_lt_zero j)
      | succ t ih =>
        intro j hj
        by_cases e : j = t
        · subst e; exact Classical.byContradiction fun z => hx ⟨j, ih, z⟩
        · exact ih j (by omega)
    have := txA_rng hn.1 13 (all 13)
    omega
  have h2 : ntP T n (nT T n) := Classical.epsilon_spec hex
  have := txA_rng hn.1 (nT T n) h2.1
  omega
theorem rn_ok {T : Int → Int} {n : Int} {S : Int → Int} (hn : 0 ≤ n ∧ n ≤ 60) (ht : txOK T n) (h : rgS S) (kW : rgW S) : ∀ k : Nat, k ≤ nT T n + 1 → rgS (rnS T n S k) ∧ rgW (rnS T n S k)
  | 0, _ => ⟨h, kW⟩
  | k + 1, hk => by
    obtain ⟨i1, i2⟩ := rn_ok hn ht h kW k (by omega)
    obtain ⟨o1, o2, o3, -⟩ := o_rng (txOK_all hn ht k (by omega))
    exact doS_ok i1 i2 o1 o2 o3
theorem fe_eq {ok f : Prop} {n a e : Int} (h1 : a = e) (h2 : ¬ ok → (f ↔ a < n)) (h3 : 0 ≤ e ∧ e ≤ n ∧ (ok → e = n)) : zi ok n (zi f a n) = e := by
  by_cases h : ok
  · rw [zi_t h]; exact (h3.2.2 h).symm
  · rw [zi_f h]
    by_cases g : f
    · rw [zi_t g]; exact h1
    · rw [zi_f g]
      have : ¬ a < n := fun q => g ((h2 h).mpr q)
      omega
theorem may_i {S : Int → Int} {a b : Int} {F : Prop} (h : mayV S a b F = 0) : isTh S a ∧ isTh S b := by
  unfold mayV at h
  by_cases h1 : isTh S a
  · rw [zi_t h1] at h
    by_cases h2 : isTh S b
    · exact ⟨h1, h2⟩
    · rw [zi_f h2] at h; exact absurd h (by decide)
  · rw [zi_f h1] at h; exact absurd h (by decide)
