/-! PLAIN LAWS of the least ways: they exist, they end, digging them takes rock away -/
theorem dJ_run {S : Int → Int} {b r : Int} (hb : 1 ≤ b ∧ b ≤ 3) : ∀ (n : Nat) (RE : Int → Int) (SE : Int → Prop), dJ S b r RE SE (-1) 0 → (unsN SE).toNat = n → ∃ RE1, isDist S b r RE1 := by
  intro n
  refine Nat.strongRecOn n ?_
  intro n ih RE SE h hm
  by_cases hn : nearN RE SE 192 = -1
  · exact ⟨RE, dJ_exit h hn⟩
  · obtain ⟨h0, v0, v1, hl⟩ := dJ_settle h rfl hn
    have hs : uP SE (nearN RE SE 192) True (nearN RE SE 192) := uP_s.mpr trivial
    generalize nearN RE SE 192 = v at h0 v0 v1 hl hs
    have step : ∀ (R1 : Int → Int) (k : Int), 0 ≤ k → k < 4 → dJ S b r R1 (uP SE v True) v k → ∃ R2, dJ S b r R2 (uP SE v True) v (k + 1) := by
      intro R1 k k0 k1 hj
      by_cases e : nxM S b v k = -1
      · exact ⟨R1, dJ_skip hj e⟩
      · exact ⟨_, dJ_relax hb hj hs ⟨v0, v1⟩ ⟨k0, k1⟩ e⟩
    obtain ⟨R1, j1⟩ := step RE 0 (by decide) (by decide) h0
    obtain ⟨R2, j2⟩ := step R1 1 (by decide) (by decide) j1
    obtain ⟨R3, j3⟩ := step R2 2 (by decide) (by decide) j2
    obtain ⟨R4, j4⟩ := step R3 3 (by decide) (by decide) j3
    have u1 := unsN_rng (uP SE v True)
    exact ih _ (by omega) R4 (uP SE v True) (dJ_done j4) rfl
theorem dist_ex (S : Int → Int) {b : Int} (r : Int) (hb : 1 ≤ b ∧ b ≤ 3) : ∃ RE, isDist S b r RE :=
  dJ_run hb _ (re0 S b r) (fun _ => False) (dJ_init (fun _ _ _ => rfl) (fun _ _ _ h => h)) rfl
theorem dsX (S : Int → Int) {b : Int} (r : Int) (hb : 1 ≤ b ∧ b ≤ 3) : isDist S b r (dsF S b r) := by
  obtain ⟨RE, h⟩ := dist_ex S r hb
  exact dsF_is h
theorem sd1_rng {d : Int} (hd : 0 ≤ d ∧ d ≤ 3) : 0 ≤ sd1 d ∧ sd1 d ≤ 3 ∧ dx (sd1 d) = -dx d ∧ dy (sd1 d) = -dy d := by
  have : d = 0 ∨ d = 1 ∨ d = 2 ∨ d = 3 := by omega
  rcases this with rfl | rfl | rfl | rfl <;> decide
theorem nx_back {S : Int → Int} {b p d : Int} (hb : 1 ≤ b) (hp : 0 ≤ p ∧ p < 192) (hd : 0 ≤ d ∧ d ≤ 3) (hs : stP S b p) (h : ¬ nxM S b p d = -1) : nxM S b (nxM S b p d) (sd1 d) = p := by
  obtain ⟨h1, h2⟩ := nxM_ne h
  obtain ⟨s0, s3, s1, s2⟩ := sd1_rng hd
  have h3 := h1.1
  have h4 := dxy d hd
  have hh := hs.1
  generalize hq : nxM S b p d = q at h2
  have e1 : q % 16 = p % 16 + dx d := by omega
  have e2 : q / 16 = p / 16 + dy d := by omega
  unfold nxM
  rw [e1, e2, s1, s2, show p % 16 + dx d + -dx d = p % 16 from by omega, show p / 16 + dy d + -dy d = p / 16 from by omega, zi_t hs]
  omega
theorem st_of {S : Int → Int} {b r : Int} {RE : Int → Int} (h : isDist S b r RE) {q : Int} (a : 0 ≤ q) (c : q < 192) (e : RE q < 1000000) : stP S b q := Classical.byContradiction fun z => by
  have := h.2.2.1 q a c z
  omega
theorem dist_mod {S : Int → Int} {b r : Int} {RE : Int → Int} (hb : 1 ≤ b ∧ b ≤ 3) (h : isDist S b r RE) : ∀ (n : Nat) (q : Int), 0 ≤ q → q < 192 → RE q ≤ n → RE q < 1000000 → ∃ c m : Int, RE q = 1000 * c + m ∧ 0 ≤ c ∧ 1 ≤ m ∧ m ≤ cntN RE (RE q) + 1 ∧ (m = 1 → isEnd S b r q) := by
  intro n
  induction n with
  | zero => intro q a c e; have := h.1 q a c; omega
  | succ n ih =>
    intro q a c e f
    by_cases he : isEnd S b r q
    · have := h.2.1 q a c he
      have := cnt_nn RE (RE q)
      exact ⟨0, 1, by omega, by decide, by decide, by omega, fun _ => he⟩
    · obtain ⟨p, d, a1, a2, a3, a4, a5, a6, a7⟩ := h.2.2.2.2 q a c f he
      have hr := rk_rng S p q hb
      obtain ⟨c1, m1, b1, b2, b3, b4, -⟩ := ih p a1 a2 (by omega) a6
      have hc := cnt_lt (RE := RE) (p := p) (q := q) a1 a2 (by omega)
      exact ⟨c1 + rk S b p q, m1 + 1, by rw [a7, b1]; omega, by omega, by omega, by omega, fun z => by omega⟩
theorem mod_end {S : Int → Int} {b r : Int} {RE : Int → Int} (hb : 1 ≤ b ∧ b ≤ 3) (h : isDist S b r RE) {q : Int} (a : 0 ≤ q) (c : q < 192) (e : RE q < 1000000) : RE q % 1000 = 1 ↔ isEnd S b r q := by
  obtain ⟨c1, m, h1, h2, h3, h4, h5⟩ := dist_mod hb h 1000000 q a c (by omega) e
  have h6 := cnt_top (RE := RE) a c
  constructor
  · intro z; exact h5 (by omega)
  · intro z; have := h.2.1 q a c z; omega
theorem end_1 {S : Int → Int} {b r : Int} {RE : Int → Int} (hb : 1 ≤ b ∧ b ≤ 3) (h : isDist S b r RE) {q : Int} (a : 0 ≤ q) (c : q < 192) (e : RE q < 1000000) : RE q = 1 ↔ isEnd S b r q := by
  constructor
  · intro z; exact (mod_end hb h a c e).mp (by omega)
  · exact h.2.1 q a c
/-- a place that is no end goes on -/
theorem fol_ne {S RE : Int → Int} {b p : Int} {d : Int} (hd : 0 ≤ d) (h1 : ¬ nxM S b p d = -1) (h2 : RE (nxM S b p d) + 1 + 1000 * rk S b (nxM S b p d) p = RE p) : ∀ n : Nat, d < n → ¬ folN S RE b p n = -1
  | 0, h => by omega
  | n + 1, h => by
    by_cases e : d < n
    · have ih := fol_ne hd h1 h2 n e
      unfold folN
      generalize folN S RE b p n = A at ih ⊢
      generalize hq : nxM S b p (n : Int) = q
      by_cases c1 : q = -1
      · rw [zi_t c1]; exact ih
      · rw [zi_f c1]
        by_cases c2 : RE q + 1 + 1000 * rk S b q p = RE p
        · rw [zi_t c2, zi_f ih]
          rcases zi_or (q < A) q A with ⟨-, z⟩ | ⟨-, z⟩ <;> rw [z] <;> assumption
        · rw [zi_f c2]; exact ih
    · have e2 : d = (n : Int) := by omega
      subst e2
      unfold folN
      rw [zi_f h1, zi_t h2]
      generalize folN S RE b p n = A
      rcases zi_or (A = -1) (nxM S b p (n : Int)) (zi (nxM S b p (n : Int) < A) (nxM S b p (n : Int)) A) with ⟨-, z⟩ | ⟨y, z⟩
      · rw [z]; exact h1
      · rw [z]
        rcases zi_or (nxM S b p (n : Int) < A) (nxM S b p (n : Int)) A with ⟨-, w⟩ | ⟨-, w⟩ <;> rw [w] <;> assumption
theorem go_on {S : Int → Int} {b r : Int} {RE : Int → Int} (hb : 1 ≤ b ∧ b ≤ 3) (h : isDist S b r RE) {q : Int} (a : 0 ≤ q) (c : q < 192) (e : RE q < 1000000) (he : ¬ isEnd S b r q) : ¬ folN S RE b q 4 = -1 := by
  obtain ⟨p, d, a1, a2, a3, a4, a5, a6, a7⟩ := h.2.2.2.2 q a c e he
  have hn : ¬ nxM S b p d = -1 := by omega
  have hb2 := nx_back hb.1 ⟨a1, a2⟩ ⟨a3, by omega⟩ (st_of h a1 a2 a6) hn
  rw [a5] at hb2
  obtain ⟨s0, s3, -, -⟩ := sd1_rng (d := d) ⟨a3, by omega⟩
  refine fol_ne (d := sd1 d) s0 (by rw [hb2]; omega) ?_ 4 (by omega)
  rw [hb2]; omega
/-- the last place of a way is an end -/
theorem pth_end {S : Int → Int} {b r a : Int} {RE : Int → Int} (hb : 1 ≤ b ∧ b ≤ 3) (h : isDist S b r RE) (ha : -1 ≤ a ∧ a ≤ 191) (hl : ¬ a = -1 → RE a < 1000000) : ∀ n : Nat, ¬ pth S RE b a n = -1 → RE (pth S RE b a n) < 1000000 ∧ (pth S RE b a (n + 1) = -1 → RE (pth S RE b a n) = 1)
  | n, hn => by
    have low : RE (pth S RE b a n) < 1000000 := by
      induction n with
      | zero => exact hl hn
      | succ n ih =>
        obtain ⟨h1, -, -, h2⟩ := pth_step hb hn
        have := ih h1
        omega
    refine ⟨low, fun hz => ?_⟩
    have hr := pth_rng (S := S) (RE := RE) hb.1 ha n
    have q0 : 0 ≤ pth S RE b a n := by omega
    have q1 : pth S RE b a n < 192 := by omega
    refine (end_1 hb h q0 q1 low).mpr (Classical.byContradiction fun he => ?_)
    have hm : ¬ RE (pth S RE b a n) % 1000 = 1 := fun z => he ((mod_end hb h q0 q1 low).mp z)
    have e : pth S RE b a (n + 1) = zi (pth S RE b a n = -1) (-1) (zi (RE (pth S RE b a n) % 1000 = 1) (-1) (folN S RE b (pth S RE b a n) 4)) := rfl
    rw [zi_f hn, zi_f hm] at e
    exact go_on hb h q0 q1 low he (by rw [← e]; exact hz)
theorem wh_in {S : Int → Int} {x y : Int} (h : isSq x y) : wh S x y = S (16 * y + x) := zi_t h
/-- no rock on a place that lies in the plan: nothing to be dug there -/
theorem rk_0 {S : Int → Int} {b p q : Int} (hb : 1 ≤ b ∧ b ≤ 3) (hp : 0 ≤ p ∧ p ≤ 191 ∧ p % 16 + b ≤ 16 ∧ p / 16 + b ≤ 12) (h : ∀ k : Int, 0 ≤ k → k < b * b → ¬ S (p + k % b + 16 * (k / b)) = -2) : rk S b p q = 0 := by
  have bb := bb_rng hb
  have h2 : rk S b p q = sumN (fun _ => 0) (b * b).toNat := sumN_congr _ (fun k a c => by
    have d := dm (k := k) (b := b) a hb.1 (by omega)
    refine qz_f (fun z => h k a (by omega) ?_)
    have z2 := z.2
    rw [wh_in (by omega)] at z2
    rw [show p + k % b + 16 * (k / b) = 16 * (p / 16 + k / b) + (p % 16 + k % b) from by omega]
    exact z2)
  rw [h2]
  have : ∀ n : Nat, sumN (fun _ => 0) n = 0 := fun n => by
    induction n with
    | zero => rfl
    | succ n ih => show sumN (fun _ => 0) n + 0 = 0; rw [ih]; rfl
  exact this _
theorem way_0 {S : Int → Int} {b r a : Int} {RE : Int → Int} (hb : 1 ≤ b ∧ b ≤ 3) (h : isDist S b r RE) (ha : -1 ≤ a ∧ a ≤ 191) (hl : ¬ a = -1 → RE a < 1000000)
    (hno : ∀ n : Nat, ¬ pth S RE b a n = -1 → ∀ k : Int, 0 ≤ k → k < b * b → ¬ S (pth S RE b a n + k % b + 16 * (k / b)) = -2) : ∀ (m n : Nat), m + n = 192 → ¬ pth S RE b a n = -1 → RE (pth S RE b a n) ≤ m
  | 0, n, e, hn => by
    have := pth_len (S := S) (RE := RE) hb ha n hn
    have := cnt_nn RE (RE (pth S RE b a n))
    omega
  | m + 1, n, e, hn => by
    obtain ⟨low, he⟩ := pth_end hb h ha hl n hn
    by_cases hz : pth S RE b a (n + 1) = -1
    · have := he hz; omega
    · obtain ⟨-, ⟨d, d0, d1, d2⟩, h3, -⟩ := pth_step hb hz
      have ih := way_0 hb h ha hl hno m (n + 1) (by omega) hz
      have hr := pth_rng (S := S) (RE := RE) hb.1 ha (n + 1)
      have low2 := (pth_end hb h ha hl (n + 1) hz).1
      have hs := (st_of h (by omega) (by omega) low2).1
      have := rk_0 (q := pth S RE b a n) hb ⟨by omega, hr.2, hs.2.2.1, hs.2.2.2⟩ (hno (n + 1) hz)
      omega
/-- a way of some cost has rock on it -/
theorem way_rock {S : Int → Int} {b one other : Int} (hb : 1 ≤ b ∧ b ≤ 3) (hc : 0 < wC S b one other) (hy : ¬ wB S b one other = -1) : ∃ n : Nat, (n : Int) < wL S b one other ∧ ∃ k : Int, 0 ≤ k ∧ k < b * b ∧ S (wP S b one other n + k % b + 16 * (k / b)) = -2 := by
  refine Classical.byContradiction fun hx => ?_
  have h := dsX S other hb
  have hB := wB_rng (S := S) (one := one) hb h
  obtain ⟨g1, g2, g3, g4, g5, g6⟩ := bg_rng (S := S) (one := one) hb (dist_rg h) 192 (Nat.le_refl _)
  obtain ⟨l1, -, l3⟩ := g5 hy
  have l1 : dsF S b other (wB S b one other) < 1000000 := l1
  have l3 : (bg S (dsF S b other) b one 192).2 = dsF S b other (wB S b one other) + 1000 * rk S b (wB S b one other) (-1) := l3
  have hno : ∀ n : Nat, ¬ pth S (dsF S b other) b (wB S b one other) n = -1 → ∀ k : Int, 0 ≤ k → k < b * b → ¬ S (pth S (dsF S b other) b (wB S b one other) n + k % b + 16 * (k / b)) = -2 := fun n hn k k0 k1 hs => hx ⟨n, by
    rcases Int.lt_or_le (n : Int) (wL S b one other) with z | z
    · exact z
    · exfalso
      obtain ⟨j, j1, j2⟩ := pk_least (fun j => pth S (dsF S b other) b (wB S b one other) j = -1) ⟨192, Classical.byContradiction fun q => by
        have := pth_len (S := S) (RE := dsF S b other) hb hB 192 q
        have := cnt_nn (dsF S b other) (dsF S b other (pth S (dsF S b other) b (wB S b one other) 192))
        omega⟩
      have j9 : j ≤ 192 := by
        rcases Nat.lt_or_ge 192 j with q | q
        · have := pth_len (S := S) (RE := dsF S b other) hb hB 192 (j2 192 q)
          have := cnt_nn (dsF S b other) (dsF S b other (pth S (dsF S b other) b (wB S b one other) 192))
          omega
        · exact q
      have e := lenP_eq (S := S) (RE := dsF S b other) (b := b) (a := wB S b one other) j9 (fun i hi => j2 i hi) j1
      have e2 : wL S b one other = lenP S (dsF S b other) b (wB S b one other) := rfl
      have : n = j + (n - j) := by omega
      rw [this] at hn
      exact hn (pth_stay j1 (n - j)), k, k0, k1, hs⟩
  have w0 := way_0 hb h hB (fun _ => l1) hno 192 0 rfl hy
  have hs := (st_of h (by omega) (by omega) l1).1
  have r0 := rk_0 (p := wB S b one other) (q := -1) hb ⟨by omega, hB.2, hs.2.2.1, hs.2.2.2⟩ (hno 0 hy)
  have w1 : dsF S b other (wB S b one other) ≤ 192 := w0
  rw [r0] at l3
  unfold wC at hc
  omega
/-- rock counted -/
theorem sq_upd {S : Int → Int} {i : Int} (h0 : 0 ≤ i) : ∀ n : Nat, i < n → sumN (sqT (uZ S i (-1)) (-2)) n = sumN (sqT S (-2)) n - qz (S i = -2)
  | 0, h => by omega
  | n + 1, h => by
    show sumN (sqT (uZ S i (-1)) (-2)) n + qz (uZ S i (-1) (n : Int) = -2) = sumN (sqT S (-2)) n + qz (S (n : Int) = -2) - qz (S i = -2)
    by_cases e : i = (n : Int)
    · subst e
      rw [uZ_s, qz_f (P := (-1 : Int) = -2) (by decide), sumN_congr (f := sqT (uZ S (n : Int) (-1)) (-2)) (g := sqT S (-2)) n (fun k a c => by show qz (uZ S (n : Int) (-1) k = -2) = qz (S k = -2); rw [uZ_n (by omega)])]
      omega
    · rw [uZ_n (by omega), sq_upd h0 n (by omega)]
      omega
theorem dgI_cnt {PL : Int → Int} {b k : Int} {S : Int → Int} (hb : 1 ≤ b ∧ b ≤ 3) (hp : 0 ≤ PL k ∧ PL k ≤ 191 ∧ PL k % 16 + b ≤ 16 ∧ PL k / 16 + b ≤ 12) : ∀ q : Nat, (q : Int) ≤ b * b → sqC (dgI PL b k S q) (-2) = sqC S (-2) - dgIN PL b k S q ∧ (∀ j : Int, dgI PL b k S q j = S j ∨ dgI PL b k S q j = -1) ∧ ∀ i : Int, 0 ≤ i → i < q → dgI PL b k S q (dcell PL b k i) = -1
  | 0, _ => ⟨by show sqC S (-2) = sqC S (-2) - 0; omega, fun _ => Or.inl rfl, fun i a c => by omega⟩
  | q + 1, hq => by
    obtain ⟨i1, i2, i3⟩ := dgI_cnt (S := S) hb hp q (by omega)
    have d := dm (k := (q : Int)) (b := b) (by omega) hb.1 (by omega)
    have c0 : 0 ≤ dcell PL b k (q : Int) ∧ dcell PL b k (q : Int) < 192 := by unfold dcell; omega
    refine ⟨?_, fun j => ?_, fun i a c => ?_⟩
    · have := sq_upd (S := dgI PL b k S q) (i := dcell PL b k (q : Int)) c0.1 192 c0.2
      show sumN (sqT (uZ (dgI PL b k S q) (dcell PL b k (q : Int)) (-1)) (-2)) 192 = sqC S (-2) - (dgIN PL b k S q + qz (dgI PL b k S q (dcell PL b k (q : Int)) = -2))
      rw [this]
      have i1 : sumN (sqT (dgI PL b k S q) (-2)) 192 = sqC S (-2) - dgIN PL b k S q := i1
      omega
    · show uZ (dgI PL b k S q) (dcell PL b k (q : Int)) (-1) j = S j ∨ uZ (dgI PL b k S q) (dcell PL b k (q : Int)) (-1) j = -1
      by_cases e : j = dcell PL b k (q : Int)
      · right; rw [e]; exact uZ_s
      · rw [uZ_n e]; exact i2 j
    · show uZ (dgI PL b k S q) (dcell PL b k (q : Int)) (-1) (dcell PL b k i) = -1
      by_cases e : dcell PL b k i = dcell PL b k (q : Int)
      · rw [e]; exact uZ_s
      · rw [uZ_n e]
        exact i3 i a (by
          rcases Int.lt_or_le i (q : Int) with z | z
          · exact z
          · exfalso; exact e (by rw [show i = (q : Int) from by omega]))
theorem dgO_cnt {PL : Int → Int} {b n : Int} {S : Int → Int} (hb : 1 ≤ b ∧ b ≤ 3) (hp : okPL PL b n) : ∀ k : Nat, (k : Int) ≤ n → sqC (dgO PL b S k) (-2) = sqC S (-2) - dgON PL b S k ∧ (∀ j : Int, dgO PL b S k j = S j ∨ dgO PL b S k j = -1) ∧ ∀ i q : Int, 0 ≤ i → i < k → 0 ≤ q → q < b * b → dgO PL b S k (dcell PL b i q) = -1
  | 0, _ => ⟨by show sqC S (-2) = sqC S (-2) - 0; omega, fun _ => Or.inl rfl, fun i q a c => by omega⟩
  | k + 1, hk => by
    have bb := bb_rng hb
    obtain ⟨i1, i2, i3⟩ := dgO_cnt (S := S) hb hp k (by omega)
    obtain ⟨j1, j2, j3⟩ := dgI_cnt (S := dgO PL b S k) hb (hp k (by omega) (by omega)) (b * b).toNat (by omega)
    refine ⟨?_, fun j => ?_, fun i q a c q0 q1 => ?_⟩
    · show sqC (dgI PL b (k : Int) (dgO PL b S k) (b * b).toNat) (-2) = sqC S (-2) - (dgON PL b S k + dgIN PL b (k : Int) (dgO PL b S k) (b * b).toNat)
      omega
    · show dgI PL b (k : Int) (dgO PL b S k) (b * b).toNat j = S j ∨ dgI PL b (k : Int) (dgO PL b S k) (b * b).toNat j = -1
      rcases j2 j with z | z
      · rw [z]; exact i2 j
      · exact Or.inr z
    · show dgI PL b (k : Int) (dgO PL b S k) (b * b).toNat (dcell PL b i q) = -1
      by_cases e : i = (k : Int)
      · subst e; exact j3 q q0 (by omega)
      · rcases j2 (dcell PL b i q) with z | z
        · rw [z]; exact i3 i q a (by omega) q0 q1
        · exact z
theorem okPL_wPz {S : Int → Int} {b one other : Int} (hb : 1 ≤ b ∧ b ≤ 3) : okPL (wPz S b one other) b (wL S b one other) := okPL_way hb (dsX S other hb) (fun k _ => by unfold wPz; rw [Int.toNat_natCast])
theorem dg_cnt {S : Int → Int} {b one other : Int} (hb : 1 ≤ b ∧ b ≤ 3) : sqC (dgS S b one other) (-2) = sqC S (-2) - dgN S b one other ∧ (∀ j : Int, dgS S b one other j = S j ∨ dgS S b one other j = -1) ∧ (0 < wC S b one other → ¬ wB S b one other = -1 → 1 ≤ dgN S b one other) := by
  have hw := wL_rng S b one other
  have hp := okPL_wPz (S := S) (one := one) (other := other) hb
  obtain ⟨i1, i2, i3⟩ := dgO_cnt (S := S) hb hp (wL S b one other).toNat (by omega)
  refine ⟨i1, i2, fun hc hy => ?_⟩
  obtain ⟨n, n1, k, k0, k1, hk⟩ := way_rock hb hc hy
  have pk := hp (n : Int) (by omega) n1
  have bb := bb_rng hb
  have d := dm (k := k) (b := b) k0 hb.1 k1
  have c1 : dcell (wPz S b one other) b (n : Int) k = wP S b one other n + k % b + 16 * (k / b) := by unfold dcell wPz; rw [Int.toNat_natCast]
  have c0 : 0 ≤ dcell (wPz S b one other) b (n : Int) k ∧ dcell (wPz S b one other) b (n : Int) k < 192 := by unfold dcell; omega
  have hlt := sumN_lt (f := sqT (dgS S b one other) (-2)) (h := sqT S (-2)) (j := dcell (wPz S b one other) b (n : Int) k) 192 (fun j _ _ => by
    show qz (dgS S b one other j = -2) ≤ qz (S j = -2)
    rcases i2 j with z | z
    · have z : dgS S b one other j = S j := z
      rw [z]; exact Int.le_refl _
    · have z : dgS S b one other j = -1 := z
      rw [z, qz_f (P := (-1 : Int) = -2) (by decide)]; exact (qz_01 _).1) c0.1 c0.2 (by
    have z : dgS S b one other (dcell (wPz S b one other) b (n : Int) k) = -1 := i3 (n : Int) k (by omega) (by omega) k0 k1
    show qz (dgS S b one other (dcell (wPz S b one other) b (n : Int) k) = -2) < qz (S (dcell (wPz S b one other) b (n : Int) k) = -2)
    rw [z, qz_f (P := (-1 : Int) = -2) (by decide), c1, qz_t hk]; decide)
  have i1 : sumN (sqT (dgS S b one other) (-2)) 192 = sumN (sqT S (-2)) 192 - dgN S b one other := i1
  omega
theorem dnx_spec (S : Int → Int) : ∀ n : Nat, ¬ (dnx S n).1 = -1 → askP S (dnx S n).1 ∧ wYes S ((dnx S n).1 / 6) ((dnx S n).1 % 6) ∧ 0 < wCo S ((dnx S n).1 / 6) ((dnx S n).1 % 6)
  | 0, h => absurd rfl h
  | n + 1, h => by
    have ih := dnx_spec S n
    have e : (dnx S (n + 1)).1 = zi (askP S (n : Int) ∧ wYes S ((n : Int) / 6) ((n : Int) % 6) ∧ 0 < wCo S ((n : Int) / 6) ((n : Int) % 6)) (zi ((dnx S n).1 = -1 ∨ wCo S ((n : Int) / 6) ((n : Int) % 6) < (dnx S n).2) (n : Int) (dnx S n).1) (dnx S n).1 := rfl
    by_cases c1 : askP S (n : Int) ∧ wYes S ((n : Int) / 6) ((n : Int) % 6) ∧ 0 < wCo S ((n : Int) / 6) ((n : Int) % 6)
    · rw [zi_t c1] at e
      rcases zi_or ((dnx S n).1 = -1 ∨ wCo S ((n : Int) / 6) ((n : Int) % 6) < (dnx S n).2) (n : Int) (dnx S n).1 with ⟨-, z⟩ | ⟨-, z⟩
      · rw [z] at e; rw [e]; exact c1
      · rw [z] at e; rw [e] at h ⊢; exact ih h
    · rw [zi_f c1] at e
      rw [e] at h ⊢; exact ih h
/-- the next corridor takes rock away -/
theorem nx_dec {S : Int → Int} (kW : rgW S) (h : ¬ nxN S = -1) : 1 ≤ nxN S ∧ sqC (nxS S) (-2) = sqC S (-2) - nxN S ∧ (∀ j : Int, nxS S j = S j ∨ nxS S j = -1) ∧ ¬ (dnx S 36).1 = -1 ∧ wYes S ((dnx S 36).1 / 6) ((dnx S 36).1 % 6) := by
  have hr := dnx_rng S 36
  by_cases c1 : (dnx S 36).1 = -1
  · exact absurd (zi_t c1) h
  · obtain ⟨s1, s2, s3⟩ := dnx_spec S 36 c1
    have e1 : nxN S = dgN S (brW S ((dnx S 36).1 / 6) ((dnx S 36).1 % 6)) ((dnx S 36).1 / 6) ((dnx S 36).1 % 6) := (zi_f c1).trans (zi_t s2)
    have e2 : nxS S = dgS S (brW S ((dnx S 36).1 / 6) ((dnx S 36).1 % 6)) ((dnx S 36).1 / 6) ((dnx S 36).1 % 6) := (zf_f c1).trans (zf_t s2)
    obtain ⟨h1, h2, h3⟩ := dg_cnt (S := S) (one := (dnx S 36).1 / 6) (other := (dnx S 36).1 % 6) (brW_rng kW (one := (dnx S 36).1 / 6) (other := (dnx S 36).1 % 6) (by omega) (by omega))
    rw [e1, e2]
    exact ⟨h3 s3 s2, h1, h2, c1, s2⟩
theorem nxS_same {S : Int → Int} (h : nxN S = -1) (kW : rgW S) : nxS S = S := by
  by_cases c1 : (dnx S 36).1 = -1
  · exact zf_t c1
  · obtain ⟨s1, s2, s3⟩ := dnx_spec S 36 c1
    have hr := dnx_rng S 36
    have e1 : nxN S = dgN S (brW S ((dnx S 36).1 / 6) ((dnx S 36).1 % 6)) ((dnx S 36).1 / 6) ((dnx S 36).1 % 6) := (zi_f c1).trans (zi_t s2)
    obtain ⟨-, -, h3⟩ := dg_cnt (S := S) (one := (dnx S 36).1 / 6) (other := (dnx S 36).1 % 6) (brW_rng kW (one := (dnx S 36).1 / 6) (other := (dnx S 36).1 % 6) (by omega) (by omega))
    have := h3 s3 s2
    omega
