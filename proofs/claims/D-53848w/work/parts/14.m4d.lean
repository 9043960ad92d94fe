/-! the least way as a function of the squares -/
theorem dist_le {S : Int → Int} {b r : Int} {R1 R2 : Int → Int} (hb : 1 ≤ b ∧ b ≤ 3) (h1 : isDist S b r R1) (h2 : isDist S b r R2) : ∀ (n : Nat) (q : Int), 0 ≤ q → q < 192 → R1 q ≤ n → R1 q < 1000000 → R2 q ≤ R1 q := by
  intro n
  induction n with
  | zero => intro q a c e; have := h1.1 q a c; omega
  | succ n ih =>
    intro q a c e f
    by_cases he : isEnd S b r q
    · rw [h1.2.1 q a c he, h2.2.1 q a c he]; exact Int.le_refl _
    · obtain ⟨p, d, a1, a2, a3, a4, a5, a6, a7⟩ := h1.2.2.2.2 q a c f he
      have hr := rk_rng S p q hb
      have i1 := ih p a1 a2 (by omega) a6
      have hn : ¬ nxM S b p d = -1 := by omega
      have i2 := h2.2.2.2.1 p d a1 a2 a3 a4 hn (by omega)
      rw [a5] at i2
      omega
theorem dist_uniq {S : Int → Int} {b r : Int} {R1 R2 : Int → Int} (hb : 1 ≤ b ∧ b ≤ 3) (h1 : isDist S b r R1) (h2 : isDist S b r R2) {q : Int} (a : 0 ≤ q) (c : q < 192) : R1 q = R2 q := by
  have b1 := h1.1 q a c
  have b2 := h2.1 q a c
  by_cases e1 : R1 q < 1000000
  · have i1 := dist_le hb h1 h2 1000000 q a c (by omega) e1
    have i2 := dist_le hb h2 h1 1000000 q a c (by omega) (by omega)
    omega
  · by_cases e2 : R2 q < 1000000
    · have i2 := dist_le hb h2 h1 1000000 q a c (by omega) e2
      omega
    · omega
noncomputable def dsF (S : Int → Int) (b r : Int) : Int → Int := Classical.epsilon (isDist S b r)
theorem dsF_is {S : Int → Int} {b r : Int} {RE : Int → Int} (h : isDist S b r RE) : isDist S b r (dsF S b r) := Classical.epsilon_spec ⟨RE, h⟩
theorem dsF_eq {S : Int → Int} {b r : Int} {RE : Int → Int} (hb : 1 ≤ b ∧ b ≤ 3) (h : isDist S b r RE) {q : Int} (a : 0 ≤ q) (c : q < 192) : RE q = dsF S b r q := dist_uniq hb h (dsF_is h) a c
/-- the way's beginning: place and cost -/
noncomputable def bg (S RE : Int → Int) (b one : Int) : Nat → Int × Int
  | 0 => (-1, 1000000)
  | k + 1 => (zi (RE (k : Int) < 1000000) (zi (atR S b (k : Int) one) (zi (RE (k : Int) + 1000 * rk S b (k : Int) (-1) < (bg S RE b one k).2) (k : Int) (bg S RE b one k).1) (bg S RE b one k).1) (bg S RE b one k).1,
      zi (RE (k : Int) < 1000000) (zi (atR S b (k : Int) one) (zi (RE (k : Int) + 1000 * rk S b (k : Int) (-1) < (bg S RE b one k).2) (RE (k : Int) + 1000 * rk S b (k : Int) (-1)) (bg S RE b one k).2) (bg S RE b one k).2) (bg S RE b one k).2)
theorem bg_rng {S RE : Int → Int} {b one : Int} (hb : 1 ≤ b ∧ b ≤ 3) (hR : rgRE RE) : ∀ n : Nat, n ≤ 192 → -1 ≤ (bg S RE b one n).1 ∧ (bg S RE b one n).1 < n ∧ 0 ≤ (bg S RE b one n).2 ∧ (bg S RE b one n).2 ≤ 1000000 ∧ (¬ (bg S RE b one n).1 = -1 → RE (bg S RE b one n).1 < 1000000 ∧ atR S b (bg S RE b one n).1 one ∧ (bg S RE b one n).2 = RE (bg S RE b one n).1 + 1000 * rk S b (bg S RE b one n).1 (-1)) ∧ ((bg S RE b one n).1 = -1 → (bg S RE b one n).2 = 1000000)
  | 0, _ => ⟨by show (-1 : Int) ≤ -1; omega, by show (-1 : Int) < ((0 : Nat) : Int); omega, by show (0 : Int) ≤ 1000000; omega, by show (1000000 : Int) ≤ 1000000; omega, fun h => absurd rfl h, fun _ => rfl⟩
  | n + 1, hn => by
    obtain ⟨i1, i2, i3, i4, i5, i6⟩ := bg_rng hb hR n (by omega)
    have hk := hR (n : Int) (by omega) (by omega)
    have hr := rk_rng S (n : Int) (-1) hb
    unfold bg
    dsimp only
    generalize (bg S RE b one n).1 = A at i1 i2 i5 i6 ⊢
    generalize (bg S RE b one n).2 = L at i3 i4 i5 i6 ⊢
    by_cases c1 : RE (n : Int) < 1000000
    · rw [zi_t c1, zi_t c1]
      by_cases c2 : atR S b (n : Int) one
      · rw [zi_t c2, zi_t c2]
        by_cases c3 : RE (n : Int) + 1000 * rk S b (n : Int) (-1) < L
        · rw [zi_t c3, zi_t c3]
          exact ⟨by omega, by omega, by omega, by omega, fun _ => ⟨c1, c2, rfl⟩, fun z => by omega⟩
        · rw [zi_f c3, zi_f c3]
          exact ⟨i1, by omega, i3, i4, i5, i6⟩
      · rw [zi_f c2, zi_f c2]
        exact ⟨i1, by omega, i3, i4, i5, i6⟩
    · rw [zi_f c1, zi_f c1]
      exact ⟨i1, by omega, i3, i4, i5, i6⟩
theorem bg_congr {S R1 R2 : Int → Int} {b one : Int} (h : ∀ q : Int, 0 ≤ q → q < 192 → R1 q = R2 q) : ∀ n : Nat, n ≤ 192 → bg S R1 b one n = bg S R2 b one n
  | 0, _ => rfl
  | n + 1, hn => by
    unfold bg
    rw [bg_congr h n (by omega), h (n : Int) (by omega) (by omega)]
theorem fol_spec {S RE : Int → Int} {b p : Int} : ∀ n : Nat, n ≤ 4 → ¬ folN S RE b p n = -1 → ∃ d : Int, 0 ≤ d ∧ d < 4 ∧ nxM S b p d = folN S RE b p n ∧ RE (folN S RE b p n) + 1 + 1000 * rk S b (folN S RE b p n) p = RE p
  | 0, _, h => absurd rfl h
  | n + 1, hn, h => by
    have ih := fol_spec (S := S) (RE := RE) (b := b) (p := p) n (by omega)
    unfold folN at h ⊢
    generalize folN S RE b p n = A at ih h ⊢
    generalize hq : nxM S b p (n : Int) = q at h ⊢
    by_cases c1 : q = -1
    · rw [zi_t c1] at h ⊢; exact ih h
    · rw [zi_f c1] at h ⊢
      by_cases c2 : RE q + 1 + 1000 * rk S b q p = RE p
      · rw [zi_t c2] at h ⊢
        by_cases c3 : A = -1
        · rw [zi_t c3]; exact ⟨n, by omega, by omega, hq, c2⟩
        · rw [zi_f c3] at h ⊢
          by_cases c4 : q < A
          · rw [zi_t c4]; exact ⟨n, by omega, by omega, hq, c2⟩
          · rw [zi_f c4] at h ⊢; exact ih h
      · rw [zi_f c2] at h ⊢; exact ih h
theorem fol_congr {S R1 R2 : Int → Int} {b p : Int} (hb : 1 ≤ b) (hp : 0 ≤ p ∧ p < 192) (h : ∀ q : Int, 0 ≤ q → q < 192 → R1 q = R2 q) : ∀ n : Nat, folN S R1 b p n = folN S R2 b p n
  | 0 => rfl
  | n + 1 => by
    have hr := nxM_rng S p (n : Int) hb
    unfold folN
    rw [fol_congr hb hp h n, h p hp.1 hp.2]
    by_cases c1 : nxM S b p (n : Int) = -1
    · rw [zi_t c1, zi_t c1]
    · rw [h (nxM S b p (n : Int)) (by omega) (by omega)]
noncomputable def pth (S RE : Int → Int) (b a : Int) : Nat → Int
  | 0 => a
  | k + 1 => zi (pth S RE b a k = -1) (-1) (zi (RE (pth S RE b a k) % 1000 = 1) (-1) (folN S RE b (pth S RE b a k) 4))
theorem pth_rng {S RE : Int → Int} {b a : Int} (hb : 1 ≤ b) (ha : -1 ≤ a ∧ a ≤ 191) : ∀ n : Nat, -1 ≤ pth S RE b a n ∧ pth S RE b a n ≤ 191
  | 0 => ha
  | n + 1 => by
    have hf := folN_rng S RE (b := b) (pth S RE b a n) hb 4
    unfold pth
    have h1 := zi_or (pth S RE b a n = -1) (-1) (zi (RE (pth S RE b a n) % 1000 = 1) (-1) (folN S RE b (pth S RE b a n) 4))
    have h2 := zi_or (RE (pth S RE b a n) % 1000 = 1) (-1) (folN S RE b (pth S RE b a n) 4)
    omega
theorem pth_congr {S R1 R2 : Int → Int} {b a : Int} (hb : 1 ≤ b) (ha : -1 ≤ a ∧ a ≤ 191) (h : ∀ q : Int, 0 ≤ q → q < 192 → R1 q = R2 q) : ∀ n : Nat, pth S R1 b a n = pth S R2 b a n
  | 0 => rfl
  | n + 1 => by
    have hr := pth_rng (S := S) (RE := R2) (b := b) hb ha n
    unfold pth
    rw [pth_congr hb ha h n]
    by_cases c1 : pth S R2 b a n = -1
    · rw [zi_t c1, zi_t c1]
    · rw [fol_congr hb ⟨by omega, by omega⟩ h 4, h _ (by omega) (by omega)]
theorem pth_stay {S RE : Int → Int} {b a : Int} {n : Nat} (h : pth S RE b a n = -1) : ∀ k : Nat, pth S RE b a (n + k) = -1
  | 0 => h
  | k + 1 => by
    show pth S RE b a (n + k + 1) = -1
    unfold pth
    rw [zi_t (pth_stay h k)]
/-- one step of the way falls -/
theorem pth_step {S RE : Int → Int} {b a : Int} {n : Nat} (hb : 1 ≤ b ∧ b ≤ 3) (h : ¬ pth S RE b a (n + 1) = -1) : ¬ pth S RE b a n = -1 ∧ (∃ d : Int, 0 ≤ d ∧ d < 4 ∧ nxM S b (pth S RE b a n) d = pth S RE b a (n + 1)) ∧ RE (pth S RE b a (n + 1)) + 1 + 1000 * rk S b (pth S RE b a (n + 1)) (pth S RE b a n) = RE (pth S RE b a n) ∧ RE (pth S RE b a (n + 1)) < RE (pth S RE b a n) := by
  have c1 : ¬ pth S RE b a n = -1 := fun z => h (pth_stay z 1)
  have e : pth S RE b a (n + 1) = zi (pth S RE b a n = -1) (-1) (zi (RE (pth S RE b a n) % 1000 = 1) (-1) (folN S RE b (pth S RE b a n) 4)) := rfl
  rw [zi_f c1] at e
  have c2 : ¬ RE (pth S RE b a n) % 1000 = 1 := fun z => h (by rw [e, zi_t z])
  rw [zi_f c2] at e
  obtain ⟨d, h1, h2, h3, h4⟩ := fol_spec (S := S) (RE := RE) (b := b) (p := pth S RE b a n) 4 (Nat.le_refl 4) (by rw [← e]; exact h)
  rw [← e] at h3 h4
  have hr := rk_rng S (pth S RE b a (n + 1)) (pth S RE b a n) hb
  exact ⟨c1, ⟨d, h1, h2, h3⟩, h4, by omega⟩
noncomputable def cntN (RE : Int → Int) (v : Int) : Int := sumN (fun j => qz (RE j < v)) 192
theorem cnt_nn (RE : Int → Int) (v : Int) : 0 ≤ cntN RE v := sumN_nn 192 (fun k _ _ => (qz_01 _).1)
theorem sumN_one : ∀ n : Nat, sumN (fun _ => 1) n = n
  | 0 => rfl
  | n + 1 => by
    show sumN (fun _ => 1) n + 1 = ((n + 1 : Nat) : Int)
    rw [sumN_one n]; rfl
theorem cnt_top {RE : Int → Int} {q : Int} (a : 0 ≤ q) (c : q < 192) : cntN RE (RE q) ≤ 191 := by
  have h := sumN_lt (f := fun j => qz (RE j < RE q)) (h := fun _ => 1) (j := q) 192 (fun k _ _ => (qz_01 _).2) a c (by show qz (RE q < RE q) < 1; rw [qz_f (by omega)]; decide)
  rw [sumN_one] at h
  unfold cntN
  omega
theorem cnt_lt {RE : Int → Int} {p q : Int} (a : 0 ≤ p) (c : p < 192) (h : RE p < RE q) : cntN RE (RE p) + 1 ≤ cntN RE (RE q) := by
  have h := sumN_lt (f := fun j => qz (RE j < RE p)) (h := fun j => qz (RE j < RE q)) (j := p) 192 (fun k _ _ => by
    show qz (RE k < RE p) ≤ qz (RE k < RE q)
    by_cases e : RE k < RE p
    · rw [qz_t e, qz_t (by omega)]; exact Int.le_refl _
    · rw [qz_f e]; exact (qz_01 _).1) a c (by show qz (RE p < RE p) < qz (RE p < RE q); rw [qz_f (by omega), qz_t h]; decide)
  unfold cntN
  omega
theorem pth_len {S RE : Int → Int} {b a : Int} (hb : 1 ≤ b ∧ b ≤ 3) (ha : -1 ≤ a ∧ a ≤ 191) : ∀ n : Nat, ¬ pth S RE b a n = -1 → (n : Int) + cntN RE (RE (pth S RE b a n)) ≤ 191
  | 0, h => by
    have hr : 0 ≤ a ∧ a < 192 := by
      have : ¬ a = -1 := h
      omega
    have := cnt_top (RE := RE) hr.1 hr.2
    show ((0 : Nat) : Int) + cntN RE (RE a) ≤ 191
    omega
  | n + 1, h => by
    obtain ⟨h1, -, -, h2⟩ := pth_step hb h
    have ih := pth_len hb ha n h1
    have hr := pth_rng (S := S) (RE := RE) (b := b) hb.1 ha (n + 1)
    have := cnt_lt (RE := RE) (p := pth S RE b a (n + 1)) (q := pth S RE b a n) (by omega) (by omega) h2
    omega
noncomputable def lenP (S RE : Int → Int) (b a : Int) : Int := sumN (fun k => qz (¬ pth S RE b a k.toNat = -1)) 192
theorem sumN_step {f : Int → Int} {n : Nat} (h1 : ∀ k : Nat, k < n → f (k : Int) = 1) (h2 : ∀ k : Nat, n ≤ k → f (k : Int) = 0) : ∀ m : Nat, sumN f m = if m ≤ n then (m : Int) else (n : Int)
  | 0 => by rw [if_pos (Nat.zero_le n)]; rfl
  | m + 1 => by
    show sumN f m + f (m : Int) = _
    rw [sumN_step h1 h2 m]
    by_cases e : m + 1 ≤ n
    · rw [if_pos e, if_pos (by omega), h1 m (by omega)]; rfl
    · rw [if_neg e, h2 m (by omega)]
      by_cases e2 : m ≤ n
      · rw [if_pos e2, show m = n from by omega, Int.add_zero]
      · rw [if_neg e2, Int.add_zero]
theorem lenP_eq {S RE : Int → Int} {b a : Int} {n : Nat} (hn : n ≤ 192) (h1 : ∀ j : Nat, j < n → ¬ pth S RE b a j = -1) (h2 : pth S RE b a n = -1) : lenP S RE b a = n := by
  unfold lenP
  rw [sumN_step (n := n) (fun k hk => ?_) (fun k hk => ?_) 192]
  · by_cases e : 192 ≤ n
    · rw [if_pos e, show n = 192 from by omega]
    · rw [if_neg e]
  · show qz (¬ pth S RE b a ((k : Int).toNat) = -1) = 1
    rw [Int.toNat_natCast]; exact qz_t (h1 k hk)
  · show qz (¬ pth S RE b a ((k : Int).toNat) = -1) = 0
    rw [Int.toNat_natCast, show k = n + (k - n) from by omega]; exact qz_f (fun z => z (pth_stay h2 (k - n)))
theorem lenP_congr {S R1 R2 : Int → Int} {b a : Int} (h : ∀ n : Nat, pth S R1 b a n = pth S R2 b a n) : lenP S R1 b a = lenP S R2 b a := by
  unfold lenP
  exact sumN_congr 192 (fun k _ _ => by show qz (¬ pth S R1 b a k.toNat = -1) = qz (¬ pth S R2 b a k.toNat = -1); rw [h])
/-- THE WAY between two chambers at a breadth: where it begins, its cost, its places, how many -/
noncomputable def wB (S : Int → Int) (b one other : Int) : Int := (bg S (dsF S b other) b one 192).1
noncomputable def wC (S : Int → Int) (b one other : Int) : Int := (bg S (dsF S b other) b one 192).2 / 1000
noncomputable def wP (S : Int → Int) (b one other : Int) : Nat → Int := pth S (dsF S b other) b (wB S b one other)
noncomputable def wL (S : Int → Int) (b one other : Int) : Int := lenP S (dsF S b other) b (wB S b one other)
noncomputable def brW (S : Int → Int) (one other : Int) : Int := zi (S (216 + 6 * one + other) = 0) 1 (S (216 + 6 * one + other))
def rgW (S : Int → Int) : Prop := ∀ i : Int, 216 ≤ i → i < 252 → 0 ≤ S i ∧ S i ≤ 3
theorem brW_rng {S : Int → Int} (k : rgW S) {one other : Int} (h1 : 0 ≤ one ∧ one ≤ 5) (h2 : 0 ≤ other ∧ other ≤ 5) : 1 ≤ brW S one other ∧ brW S one other ≤ 3 := by
  have := k (216 + 6 * one + other) (by omega) (by omega)
  unfold brW
  have := zi_or (S (216 + 6 * one + other) = 0) 1 (S (216 + 6 * one + other))
  omega
