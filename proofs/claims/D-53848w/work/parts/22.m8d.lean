/-! what would be; the reference's public answers -/
theorem rgW_tgl {S : Int → Int} {q : Int} (h : rgW S) (hq : q < 192) : rgW (tgl S q) := rgW_u h hq
theorem set_tgl {S : Int → Int} {q : Int} (hq : q < 192) : tgl S q 252 = S 252 := set_u hq
noncomputable def bdV (S : Int → Int) (x y w : Int) : Int := zi (wh S x y < 0) (zi (w = 1) (ads (tgl S (16 * y + x)) True) (prs (tgl S (16 * y + x)) (zi (w = 0) 1 2))) (-1)
noncomputable def faT (S : Int → Int) : Nat → Int → Int
  | 0 => S
  | k + 1 => nxS (faT S k)
noncomputable def faG (S : Int → Int) (j : Int) : Int := nxN (faT S j.toNat)
def itP (S : Int → Int) (n : Nat) : Prop := (∀ j : Nat, j < n → ¬ nxN (faT S j) = -1) ∧ nxN (faT S n) = -1
noncomputable def nIt (S : Int → Int) : Nat := Classical.epsilon (itP S)
theorem nIt_eq {S : Int → Int} {n : Nat} (h : itP S n) : nIt S = n := by
  have h2 : itP S (nIt S) := Classical.epsilon_spec ⟨n, h⟩
  rcases Nat.lt_trichotomy (nIt S) n with z | z | z
  · exact absurd h2.2 (h.1 _ z)
  · exact z
  · exact absurd h.2 (h2.1 _ z)
noncomputable def faV (S : Int → Int) : Int := sumN (faG S) (nIt S)
theorem nxS_ok {S : Int → Int} (h : rgS S) (kW : rgW S) : rgS (nxS S) ∧ rgW (nxS S) ∧ ∀ j : Int, 192 ≤ j → nxS S j = S j := by
  by_cases hn : nxN S = -1
  · rw [nxS_same hn kW]; exact ⟨h, kW, fun _ _ => rfl⟩
  · obtain ⟨-, -, h3, h4, h5⟩ := nx_dec kW hn
    have hr := dnx_rng S 36
    have hb := brW_rng kW (one := (dnx S 36).1 / 6) (other := (dnx S 36).1 % 6) (by omega) (by omega)
    have e2 : nxS S = dgS S (brW S ((dnx S 36).1 / 6) ((dnx S 36).1 % 6)) ((dnx S 36).1 / 6) ((dnx S 36).1 % 6) := (zf_f h4).trans (zf_t h5)
    have hi : ∀ j : Int, 192 ≤ j → nxS S j = S j := fun j hj => by
      rw [e2]
      have hw := wL_rng S (brW S ((dnx S 36).1 / 6) ((dnx S 36).1 % 6)) ((dnx S 36).1 / 6) ((dnx S 36).1 % 6)
      exact dgO_hi hb (okPL_wPz hb) hj _ (by omega)
    refine ⟨fun i a c => ?_, fun i a c => ?_, hi⟩
    · rcases h3 i with z | z
      · rw [z]; exact h i a c
      · rw [z]; decide
    · rw [hi i (by omega)]; exact kW i a c
theorem fa_ok {S : Int → Int} (h : rgS S) (kW : rgW S) : ∀ k : Nat, rgS (faT S k) ∧ rgW (faT S k) ∧ ∀ j : Int, 192 ≤ j → faT S k j = S j
  | 0 => ⟨h, kW, fun _ _ => rfl⟩
  | k + 1 => by
    obtain ⟨i1, i2, i3⟩ := fa_ok h kW k
    obtain ⟨j1, j2, j3⟩ := nxS_ok i1 i2
    exact ⟨j1, j2, fun j hj => by show nxS (faT S k) j = S j; rw [j3 j hj, i3 j hj]⟩
theorem sqC_nn (S : Int → Int) (k : Int) : 0 ≤ sqC S k ∧ sqC S k ≤ 192 := by
  have h1 := sumN_nn (f := sqT S k) 192 (fun _ _ _ => (qz_01 _).1)
  have h2 := sumN_le (f := sqT S k) (b := 1) 192 (fun _ _ _ => (qz_01 _).2)
  unfold sqC
  omega
theorem fa_mu {S : Int → Int} (h : rgS S) (kW : rgW S) {k : Nat} (hn : ¬ nxN (faT S k) = -1) : (sqC (faT S (k + 1)) (-2)).toNat < (sqC (faT S k) (-2)).toNat := by
  obtain ⟨h1, h2, -⟩ := nx_dec (fa_ok h kW k).2.1 hn
  have h3 := sqC_nn (faT S (k + 1)) (-2)
  have e : faT S (k + 1) = nxS (faT S k) := rfl
  rw [e] at h3 ⊢
  omega
theorem may_rng (S : Int → Int) (a b : Int) (F : Prop) : 0 ≤ mayV S a b F ∧ mayV S a b F ≤ 2 := zi_b (zi_b (zi_b (by decide) (zi_b (by decide) (by decide))) (by decide)) (by decide)
theorem may_0 {S : Int → Int} {a b : Int} {F : Prop} (h1 : isTh S a) (h2 : isTh S b) (h3 : ¬ a = b) (h4 : F) : mayV S a b F = 0 := by
  unfold mayV
  rw [zi_t h1, zi_t h2, zi_f h3, zi_t h4]
theorem rgS_wk {S : Int → Int} {a o w : Int} (h : rgS S) (hw : 0 ≤ w ∧ w ≤ 3) : rgS (wkS S a o w) := rgS_u (rgS_u h (by omega)) (by omega)
abbrev inP (x y c r : Int) : Prop := (1 ≤ c ∧ c ≤ 6) ∧ (1 ≤ r ∧ r ≤ 6) ∧ (0 ≤ x ∧ x ≤ 16 - c) ∧ (0 ≤ y ∧ y ≤ 12 - r)
def rm4 (S : Int → Int) (f x y c r : Int) : Int → Int := uZ (uZ (uZ (uZ S (192 + 4 * f) x) (192 + 4 * f + 1) y) (192 + 4 * f + 2) c) (192 + 4 * f + 3) r
def rmL (T : Int → Int) (f x y c : Int) : Nat → Int → Int
  | 0 => T
  | k + 1 => uZ (rmL T f x y c k) (16 * (y + (k : Int) / c) + x + (k : Int) % c) f
noncomputable def rmS (S : Int → Int) (x y c r : Int) : Int → Int := rmL (rm4 S (fre S) x y c r) (fre S) x y c (c * r).toNat
/-- filling up: which squares stay, square by square -/
abbrev ask2 (S : Int → Int) (k : Int) : Prop := askP S k ∧ wYes S (k / 6) (k % 6) ∧ wCo S (k / 6) (k % 6) = 0
def stI (PL : Int → Int) (b : Int) (Y : Int → Prop) : Nat → Int → Prop
  | 0 => Y
  | q + 1 => uP (stI PL b Y q) (PL ((q : Int) / (b * b)) + ((q : Int) % (b * b)) % b + 16 * (((q : Int) % (b * b)) / b)) True
def zp (P : Prop) (a b : Int → Prop) : Int → Prop := fun j => (P ∧ a j) ∨ (¬ P ∧ b j)
theorem zp_t {P : Prop} {a b : Int → Prop} (h : P) : zp P a b = a := by
  funext j; exact propext ⟨fun z => z.elim (fun y => y.2) (fun y => absurd h y.1), fun z => Or.inl ⟨h, z⟩⟩
theorem zp_f {P : Prop} {a b : Int → Prop} (h : ¬ P) : zp P a b = b := by
  funext j; exact propext ⟨fun z => z.elim (fun y => absurd y.1 h) (fun y => y.2), fun z => Or.inr ⟨h, z⟩⟩
def stO (S : Int → Int) (Y : Int → Prop) : Nat → Int → Prop
  | 0 => Y
  | k + 1 => zp (ask2 S (k : Int)) (stI (wPz S (brW S ((k : Int) / 6) ((k : Int) % 6)) ((k : Int) / 6) ((k : Int) % 6)) (brW S ((k : Int) / 6) ((k : Int) % 6)) (stO S Y k) (wL S (brW S ((k : Int) / 6) ((k : Int) % 6)) ((k : Int) / 6) ((k : Int) % 6) * brW S ((k : Int) / 6) ((k : Int) % 6) * brW S ((k : Int) / 6) ((k : Int) % 6)).toNat) (stO S Y k)
def fuT (S : Int → Int) (Y : Int → Prop) (p : Int) : Prop := S p = -1 ∧ ¬ Y p
noncomputable def fuS (S : Int → Int) (Y : Int → Prop) : Nat → Int → Int
  | 0 => S
  | k + 1 => uZ (fuS S Y k) (k : Int) (zi (fuT (fuS S Y k) Y (k : Int)) (-2) (fuS S Y k (k : Int)))
noncomputable def fuN (S : Int → Int) (Y : Int → Prop) : Nat → Int
  | 0 => 0
  | k + 1 => fuN S Y k + qz (fuT (fuS S Y k) Y (k : Int))
theorem stI_congr {P1 P2 : Int → Int} {b n : Int} {Y : Int → Prop} (hb : 1 ≤ b ∧ b ≤ 3) (h : ∀ k : Int, 0 ≤ k → k < n → P1 k = P2 k) : ∀ q : Nat, (q : Int) ≤ n * (b * b) → stI P1 b Y q = stI P2 b Y q
  | 0, _ => rfl
  | q + 1, hq => by
    have bb := bb_rng hb
    have e : P1 ((q : Int) / (b * b)) = P2 ((q : Int) / (b * b)) := h _ (Int.ediv_nonneg (by omega) (by omega)) (Int.ediv_lt_of_lt_mul (by omega) (by omega))
    unfold stI
    rw [stI_congr hb h q (by omega), e]
theorem stO_congr {S : Int → Int} {Y1 Y2 : Int → Prop} (h : Y1 = Y2) (k : Nat) : stO S Y1 k = stO S Y2 k := by rw [h]
def fU (S : Int → Int) : Int → Prop := stO S (fun _ => False) 36
theorem rgS_fu {S : Int → Int} {Y : Int → Prop} (h : rgS S) : ∀ k : Nat, k ≤ 192 → rgS (fuS S Y k)
  | 0, _ => h
  | k + 1, hk => by
    have i := rgS_fu (Y := Y) h k (by omega)
    exact rgS_u i (zi_b (by decide) (i (k : Int) (by omega) (by omega)))
theorem nxN_rng {S : Int → Int} (kW : rgW S) : -1 ≤ nxN S ∧ nxN S ≤ 192 := by
  by_cases h : nxN S = -1
  · omega
  · obtain ⟨h1, h2, -⟩ := nx_dec kW h
    have h3 := sqC_nn (nxS S) (-2)
    have h4 := sqC_nn S (-2)
    omega
