/-! the way's places; digging it; the next corridor; counts over pairs of chambers -/
theorem lenP_lt {S RE : Int → Int} {b a : Int} (hb : 1 ≤ b ∧ b ≤ 3) (ha : -1 ≤ a ∧ a ≤ 191) {k : Nat} (h : (k : Int) < lenP S RE b a) : ¬ pth S RE b a k = -1 := by
  intro hk
  obtain ⟨n, h1, h2⟩ := pk_least (fun j => pth S RE b a j = -1) ⟨k, hk⟩
  have hn : n ≤ k := by
    rcases Nat.lt_or_ge k n with z | z
    · exact absurd hk (h2 k z)
    · exact z
  have h9 : n ≤ 192 := by
    rcases Nat.lt_or_ge 192 n with z | z
    · have := pth_len (S := S) (RE := RE) hb ha 192 (h2 192 z)
      have := cnt_nn RE (RE (pth S RE b a 192))
      omega
    · exact z
  have := lenP_eq (S := S) (RE := RE) (b := b) (a := a) h9 (fun j hj => h2 j hj) h1
  omega
theorem lenP_rng (S RE : Int → Int) (b a : Int) : 0 ≤ lenP S RE b a ∧ lenP S RE b a ≤ 192 := by
  have h1 := sumN_nn (f := fun k => qz (¬ pth S RE b a k.toNat = -1)) 192 (fun k _ _ => (qz_01 _).1)
  have h2 := sumN_le (f := fun k => qz (¬ pth S RE b a k.toNat = -1)) (b := 1) 192 (fun k _ _ => (qz_01 _).2)
  unfold lenP
  omega
theorem wL_rng (S : Int → Int) (b one other : Int) : 0 ≤ wL S b one other ∧ wL S b one other ≤ 192 := lenP_rng _ _ _ _
theorem dist_rg {S : Int → Int} {b r : Int} {RE : Int → Int} (h : isDist S b r RE) : rgRE RE := fun i a c => by have := h.1 i a c; omega
theorem wB_rng {S : Int → Int} {b one other : Int} (hb : 1 ≤ b ∧ b ≤ 3) (h : isDist S b other (dsF S b other)) : -1 ≤ wB S b one other ∧ wB S b one other ≤ 191 := by
  have := bg_rng (S := S) (one := one) hb (dist_rg h) 192 (Nat.le_refl _)
  unfold wB
  omega
theorem wC_rng {S : Int → Int} {b one other : Int} (hb : 1 ≤ b ∧ b ≤ 3) (h : isDist S b other (dsF S b other)) : 0 ≤ wC S b one other ∧ wC S b one other ≤ 1000 := by
  have := bg_rng (S := S) (one := one) hb (dist_rg h) 192 (Nat.le_refl _)
  unfold wC
  omega
theorem wP_low {S : Int → Int} {b one other : Int} (hb : 1 ≤ b ∧ b ≤ 3) (h : isDist S b other (dsF S b other)) : ∀ k : Nat, ¬ wP S b one other k = -1 → dsF S b other (wP S b one other k) < 1000000
  | 0, hk => ((bg_rng (S := S) (one := one) hb (dist_rg h) 192 (Nat.le_refl _)).2.2.2.2.1 hk).1
  | k + 1, hk => by
    obtain ⟨h1, -, -, h2⟩ := pth_step hb hk
    have := wP_low hb h k h1
    have e : wP S b one other (k + 1) = pth S (dsF S b other) b (wB S b one other) (k + 1) := rfl
    have e2 : wP S b one other k = pth S (dsF S b other) b (wB S b one other) k := rfl
    rw [e2] at this
    rw [e]
    omega
theorem wP_ok {S : Int → Int} {b one other : Int} (hb : 1 ≤ b ∧ b ≤ 3) (h : isDist S b other (dsF S b other)) {k : Nat} (hk : (k : Int) < wL S b one other) : 0 ≤ wP S b one other k ∧ wP S b one other k ≤ 191 ∧ stP S b (wP S b one other k) := by
  have hB := wB_rng (S := S) (one := one) hb h
  have h1 : ¬ wP S b one other k = -1 := lenP_lt hb hB hk
  have h2 := wP_low hb h k h1
  have h3 := pth_rng (S := S) (RE := dsF S b other) hb.1 hB k
  have e : wP S b one other k = pth S (dsF S b other) b (wB S b one other) k := rfl
  rw [← e] at h3
  refine ⟨by omega, h3.2, Classical.byContradiction fun z => ?_⟩
  have := h.2.2.1 _ (by omega) (by omega) z
  omega
noncomputable def wPz (S : Int → Int) (b one other : Int) : Int → Int := fun k => wP S b one other k.toNat
/-- places that a walker of breadth b can stand on lie in the plan -/
def okPL (PL : Int → Int) (b n : Int) : Prop := ∀ k : Int, 0 ≤ k → k < n → 0 ≤ PL k ∧ PL k ≤ 191 ∧ PL k % 16 + b ≤ 16 ∧ PL k / 16 + b ≤ 12
theorem okPL_way {S : Int → Int} {b one other : Int} (hb : 1 ≤ b ∧ b ≤ 3) (h : isDist S b other (dsF S b other)) {PL : Int → Int} (hp : ∀ k : Nat, (k : Int) < wL S b one other → PL (k : Int) = wP S b one other k) : okPL PL b (wL S b one other) := fun k a c => by
  have e := hp k.toNat (by omega)
  rw [Int.toNat_of_nonneg a] at e
  obtain ⟨h1, h2, h3⟩ := wP_ok (S := S) (one := one) hb h (k := k.toNat) (by omega)
  have h4 := h3.1
  rw [e]
  exact ⟨h1, h2, h4.2.2.1, h4.2.2.2⟩
abbrev dcell (PL : Int → Int) (b k q : Int) : Int := PL k + q % b + 16 * (q / b)
def dgI (PL : Int → Int) (b k : Int) (S : Int → Int) : Nat → Int → Int
  | 0 => S
  | q + 1 => uZ (dgI PL b k S q) (dcell PL b k (q : Int)) (-1)
noncomputable def dgIN (PL : Int → Int) (b k : Int) (S : Int → Int) : Nat → Int
  | 0 => 0
  | q + 1 => dgIN PL b k S q + qz (dgI PL b k S q (dcell PL b k (q : Int)) = -2)
def dgO (PL : Int → Int) (b : Int) (S : Int → Int) : Nat → Int → Int
  | 0 => S
  | k + 1 => dgI PL b (k : Int) (dgO PL b S k) (b * b).toNat
noncomputable def dgON (PL : Int → Int) (b : Int) (S : Int → Int) : Nat → Int
  | 0 => 0
  | k + 1 => dgON PL b S k + dgIN PL b (k : Int) (dgO PL b S k) (b * b).toNat
theorem rgS_u {S : Int → Int} {i v : Int} (h : rgS S) (hv : -2 ≤ v ∧ v ≤ 15) : rgS (uZ S i v) := fun j a c => by
  by_cases e : j = i
  · rw [e, uZ_s]; exact hv
  · rw [uZ_n e]; exact h j a c
theorem rgS_dgI {PL : Int → Int} {b k : Int} {S : Int → Int} (h : rgS S) : ∀ q : Nat, rgS (dgI PL b k S q)
  | 0 => h
  | q + 1 => rgS_u (rgS_dgI h q) (by decide)
theorem rgS_dgO {PL : Int → Int} {b : Int} {S : Int → Int} (h : rgS S) : ∀ k : Nat, rgS (dgO PL b S k)
  | 0 => h
  | k + 1 => rgS_dgI (rgS_dgO h k) _
theorem dgI_hi {PL : Int → Int} {b k : Int} {S : Int → Int} {j : Int} (hb : 1 ≤ b ∧ b ≤ 3) (hp : 0 ≤ PL k ∧ PL k ≤ 191 ∧ PL k % 16 + b ≤ 16 ∧ PL k / 16 + b ≤ 12) (hj : 192 ≤ j) : ∀ q : Nat, (q : Int) ≤ b * b → dgI PL b k S q j = S j
  | 0, _ => rfl
  | q + 1, hq => by
    have d := dm (k := (q : Int)) (b := b) (by omega) hb.1 (by omega)
    show uZ (dgI PL b k S q) (dcell PL b k (q : Int)) (-1) j = S j
    have hne : j ≠ dcell PL b k (q : Int) := by unfold dcell; omega
    rw [uZ_n hne]
    exact dgI_hi hb hp hj q (by omega)
theorem dgO_hi {PL : Int → Int} {b n : Int} {S : Int → Int} {j : Int} (hb : 1 ≤ b ∧ b ≤ 3) (hp : okPL PL b n) (hj : 192 ≤ j) : ∀ k : Nat, (k : Int) ≤ n → dgO PL b S k j = S j
  | 0, _ => rfl
  | k + 1, hk => by
    have bb := bb_rng hb
    show dgI PL b (k : Int) (dgO PL b S k) (b * b).toNat j = S j
    rw [dgI_hi hb (hp k (by omega) (by omega)) hj _ (by omega)]
    exact dgO_hi hb hp hj k (by omega)
theorem dgI_congr {P1 P2 : Int → Int} {b k : Int} {S : Int → Int} (h : P1 k = P2 k) : ∀ q : Nat, dgI P1 b k S q = dgI P2 b k S q ∧ dgIN P1 b k S q = dgIN P2 b k S q
  | 0 => ⟨rfl, rfl⟩
  | q + 1 => by
    obtain ⟨i1, i2⟩ := dgI_congr (b := b) (S := S) h q
    have e : dcell P1 b k (q : Int) = dcell P2 b k (q : Int) := by unfold dcell; rw [h]
    unfold dgI dgIN
    rw [i1, i2, e]
    exact ⟨rfl, rfl⟩
theorem dgO_congr {P1 P2 : Int → Int} {b n : Int} {S : Int → Int} (h : ∀ k : Int, 0 ≤ k → k < n → P1 k = P2 k) : ∀ k : Nat, (k : Int) ≤ n → dgO P1 b S k = dgO P2 b S k ∧ dgON P1 b S k = dgON P2 b S k
  | 0, _ => ⟨rfl, rfl⟩
  | k + 1, hk => by
    obtain ⟨i1, i2⟩ := dgO_congr (b := b) (S := S) h k (by omega)
    have e := dgI_congr (b := b) (S := dgO P2 b S k) (h k (by omega) (by omega)) (b * b).toNat
    unfold dgO dgON
    rw [i1, i2, e.1, e.2]
    exact ⟨rfl, rfl⟩
theorem dgIN_rng (PL : Int → Int) (b k : Int) (S : Int → Int) : ∀ q : Nat, 0 ≤ dgIN PL b k S q ∧ dgIN PL b k S q ≤ q
  | 0 => by show (0 : Int) ≤ 0 ∧ (0 : Int) ≤ ((0 : Nat) : Int); omega
  | q + 1 => by
    have := dgIN_rng PL b k S q
    have := qz_01 (dgI PL b k S q (dcell PL b k (q : Int)) = -2)
    unfold dgIN
    omega
theorem dgON_rng (PL : Int → Int) {b : Int} (hb : 1 ≤ b ∧ b ≤ 3) (S : Int → Int) : ∀ k : Nat, 0 ≤ dgON PL b S k ∧ dgON PL b S k ≤ 9 * k
  | 0 => by show (0 : Int) ≤ 0 ∧ (0 : Int) ≤ 9 * ((0 : Nat) : Int); omega
  | k + 1 => by
    have := dgON_rng PL hb S k
    have := dgIN_rng PL b (k : Int) (dgO PL b S k) (b * b).toNat
    have := bb_rng hb
    unfold dgON
    omega
/-- the way between two chambers dug: the squares then, how many were rock -/
noncomputable def dgS (S : Int → Int) (b one other : Int) : Int → Int := dgO (wPz S b one other) b S (wL S b one other).toNat
noncomputable def dgN (S : Int → Int) (b one other : Int) : Int := dgON (wPz S b one other) b S (wL S b one other).toNat
theorem dg_way {S : Int → Int} {b one other : Int} {PL : Int → Int} (hp : ∀ k : Nat, (k : Int) < wL S b one other → PL (k : Int) = wP S b one other k) : dgO PL b S (wL S b one other).toNat = dgS S b one other ∧ dgON PL b S (wL S b one other).toNat = dgN S b one other := by
  have h := wL_rng S b one other
  refine dgO_congr (n := wL S b one other) (fun k a c => ?_) _ (by omega)
  have e := hp k.toNat (by omega)
  rw [Int.toNat_of_nonneg a] at e
  exact e
/-- asked for, and with a way of some cost -/
abbrev wYes (S : Int → Int) (a o : Int) : Prop := ¬ wB S (brW S a o) a o = -1
noncomputable abbrev wCo (S : Int → Int) (a o : Int) : Int := wC S (brW S a o) a o
abbrev askP (S : Int → Int) (k : Int) : Prop := k / 6 < k % 6 ∧ 0 < S (216 + 6 * (k / 6) + k % 6)
noncomputable def dnx (S : Int → Int) : Nat → Int × Int
  | 0 => (-1, 0)
  | k + 1 => (zi (askP S (k : Int) ∧ wYes S ((k : Int) / 6) ((k : Int) % 6) ∧ 0 < wCo S ((k : Int) / 6) ((k : Int) % 6)) (zi ((dnx S k).1 = -1 ∨ wCo S ((k : Int) / 6) ((k : Int) % 6) < (dnx S k).2) (k : Int) (dnx S k).1) (dnx S k).1,
      zi (askP S (k : Int) ∧ wYes S ((k : Int) / 6) ((k : Int) % 6) ∧ 0 < wCo S ((k : Int) / 6) ((k : Int) % 6)) (zi ((dnx S k).1 = -1 ∨ wCo S ((k : Int) / 6) ((k : Int) % 6) < (dnx S k).2) (wCo S ((k : Int) / 6) ((k : Int) % 6)) (dnx S k).2) (dnx S k).2)
theorem dnx_rng (S : Int → Int) : ∀ n : Nat, -1 ≤ (dnx S n).1 ∧ (dnx S n).1 < n
  | 0 => ⟨by show (-1 : Int) ≤ -1; omega, by show (-1 : Int) < ((0 : Nat) : Int); omega⟩
  | n + 1 => by
    have h := dnx_rng S n
    unfold dnx
    dsimp only
    have h1 := zi_or (askP S (n : Int) ∧ wYes S ((n : Int) / 6) ((n : Int) % 6) ∧ 0 < wCo S ((n : Int) / 6) ((n : Int) % 6)) (zi ((dnx S n).1 = -1 ∨ wCo S ((n : Int) / 6) ((n : Int) % 6) < (dnx S n).2) (n : Int) (dnx S n).1) (dnx S n).1
    have h2 := zi_or ((dnx S n).1 = -1 ∨ wCo S ((n : Int) / 6) ((n : Int) % 6) < (dnx S n).2) (n : Int) (dnx S n).1
    generalize (dnx S n).1 = A at h h1 h2 ⊢
    rcases h1 with ⟨-, e⟩ | ⟨-, e⟩ <;> rcases h2 with ⟨-, f⟩ | ⟨-, f⟩ <;> omega
theorem dnx_lr {S : Int → Int} (hc : ∀ k : Nat, k < 36 → wCo S ((k : Int) / 6) ((k : Int) % 6) ≤ 1000) : ∀ n : Nat, n ≤ 36 → 0 ≤ (dnx S n).2 ∧ (dnx S n).2 ≤ 1000
  | 0, _ => ⟨Int.le_refl _, by show (0 : Int) ≤ 1000; omega⟩
  | n + 1, hn => by
    have h := dnx_lr hc n (by omega)
    have hk := hc n (by omega)
    unfold dnx
    dsimp only
    by_cases c1 : askP S (n : Int) ∧ wYes S ((n : Int) / 6) ((n : Int) % 6) ∧ 0 < wCo S ((n : Int) / 6) ((n : Int) % 6)
    · rw [zi_t c1]
      rcases zi_or ((dnx S n).1 = -1 ∨ wCo S ((n : Int) / 6) ((n : Int) % 6) < (dnx S n).2) (wCo S ((n : Int) / 6) ((n : Int) % 6)) (dnx S n).2 with ⟨-, e⟩ | ⟨-, e⟩
      · rw [e]; exact ⟨by omega, hk⟩
      · rw [e]; exact h
    · rw [zi_f c1]; exact h
/-- the corridor that is dug next: how many squares, or -1; the squares then -/
noncomputable def nxN (S : Int → Int) : Int := zi ((dnx S 36).1 = -1) (-1) (zi (wYes S ((dnx S 36).1 / 6) ((dnx S 36).1 % 6)) (dgN S (brW S ((dnx S 36).1 / 6) ((dnx S 36).1 % 6)) ((dnx S 36).1 / 6) ((dnx S 36).1 % 6)) (-1))
noncomputable def zf (P : Prop) (a b : Int → Int) : Int → Int := fun j => zi P (a j) (b j)
theorem zf_t {P : Prop} {a b : Int → Int} (h : P) : zf P a b = a := by funext j; exact zi_t h
theorem zf_f {P : Prop} {a b : Int → Int} (h : ¬ P) : zf P a b = b := by funext j; exact zi_f h
noncomputable def nxS (S : Int → Int) : Int → Int := zf ((dnx S 36).1 = -1) S (zf (wYes S ((dnx S 36).1 / 6) ((dnx S 36).1 % 6)) (dgS S (brW S ((dnx S 36).1 / 6) ((dnx S 36).1 % 6)) ((dnx S 36).1 / 6) ((dnx S 36).1 % 6)) S)
/-- counts over the pairs between which somebody walks: w = 0 all, 1 without an open way, 2 the costs -/
noncomputable def prT (S : Int → Int) (w k : Int) : Int := zi (askP S k) (zi (w = 0) 1 (zi (w = 1) (zi (wYes S (k / 6) (k % 6) ∧ wCo S (k / 6) (k % 6) = 0) 0 1) (zi (wYes S (k / 6) (k % 6)) (wCo S (k / 6) (k % 6)) 0))) 0
noncomputable def prs (S : Int → Int) (w : Int) : Int := sumN (prT S w) 36
theorem zi_b {P : Prop} {a b lo hi : Int} (ha : lo ≤ a ∧ a ≤ hi) (hb : lo ≤ b ∧ b ≤ hi) : lo ≤ zi P a b ∧ zi P a b ≤ hi := by
  rcases zi_or P a b with ⟨-, e⟩ | ⟨-, e⟩ <;> rw [e] <;> assumption
