/-! what the component reads: pure words over the same S (squares S, widths ndF S, chambers isTh S) -/
abbrev ndF (S : Int → Int) : Int → Int := fun i => S (216 + i)
noncomputable def bes (S : Int → Int) (q d : Int) : Int := zi (isSq (q % 16 + dx d) (q / 16 + dy d)) (S (16 * (q / 16 + dy d) + (q % 16 + dx d))) (-2)
noncomputable def nxC (q d : Int) : Int := zi (isSq (q % 16 + dx d) (q / 16 + dy d)) (16 * (q / 16 + dy d) + (q % 16 + dx d)) (-1)
theorem bes_rng {S : Int → Int} (k : rgS S) (q d : Int) : -2 ≤ bes S q d ∧ bes S q d ≤ 15 := by
  unfold bes
  rcases zi_or (isSq (q % 16 + dx d) (q / 16 + dy d)) (S (16 * (q / 16 + dy d) + (q % 16 + dx d))) (-2) with ⟨h, e⟩ | ⟨-, e⟩
  · have := k (16 * (q / 16 + dy d) + (q % 16 + dx d)) (by omega) (by omega)
    omega
  · omega
theorem nxC_rng (q d : Int) : -1 ≤ nxC q d ∧ nxC q d ≤ 191 := by
  unfold nxC
  rcases zi_or (isSq (q % 16 + dx d) (q / 16 + dy d)) (16 * (q / 16 + dy d) + (q % 16 + dx d)) (-1) with ⟨h, e⟩ | ⟨-, e⟩ <;> omega
/-- beside a square, by the reference's word -/
theorem bes_wh {S : Int → Int} {x y d r : Int} (hx : 0 ≤ x ∧ x ≤ 15) (hr : 0 ≤ r ∧ r ≤ 98) : bes S (16 * y + x) d = r ↔ wh S (x + dx d) (y + dy d) = r := by
  unfold bes wh
  rw [show (16 * y + x) % 16 = x from by omega, show (16 * y + x) / 16 = y from by omega]
  rcases Classical.em (isSq (x + dx d) (y + dy d)) with h | h
  · rw [zi_t h, zi_t h]
  · rw [zi_f h, zi_f h]; omega
theorem bes_neg {S : Int → Int} {x y d : Int} (hx : 0 ≤ x ∧ x ≤ 15) (k : rgS S) : 0 ≤ bes S (16 * y + x) d ↔ (0 ≤ wh S (x + dx d) (y + dy d) ∧ wh S (x + dx d) (y + dy d) ≤ 15) := by
  unfold bes wh
  rw [show (16 * y + x) % 16 = x from by omega, show (16 * y + x) / 16 = y from by omega]
  rcases Classical.em (isSq (x + dx d) (y + dy d)) with h | h
  · rw [zi_t h, zi_t h]
    have := k (16 * (y + dy d) + (x + dx d)) (by omega) (by omega)
    omega
  · rw [zi_f h, zi_f h]; omega
theorem dx_0 : dx 0 = -1 := rfl
theorem dx_1 : dx 1 = 1 := rfl
theorem dx_2 : dx 2 = 0 := rfl
theorem dx_3 : dx 3 = 0 := rfl
theorem dy_0 : dy 0 = 0 := rfl
theorem dy_1 : dy 1 = 0 := rfl
theorem dy_2 : dy 2 = -1 := rfl
theorem dy_3 : dy 3 = 1 := rfl
def stN (S : Int → Int) (b p : Int) (n : Nat) : Prop := (p % 16 + b ≤ 16 ∧ p / 16 + b ≤ 12) ∧ ∀ j : Int, 0 ≤ j → j < (n : Int) → S (p + 16 * (j / b) + j % b) < 0
/-- a place is wholly in the plan -/
abbrev inPl (b p : Int) : Prop := 0 ≤ p ∧ p ≤ 191 ∧ p % 16 + b ≤ 16 ∧ p / 16 + b ≤ 12
theorem wh_at {S : Int → Int} {b p j : Int} (hb : 1 ≤ b ∧ b ≤ 3) (hp : inPl b p) (h0 : 0 ≤ j) (h1 : j < b * b) : wh S (p % 16 + j % b) (p / 16 + j / b) = S (p + 16 * (j / b) + j % b) := by
  have d := dm h0 hb.1 h1
  unfold wh
  rw [zi_t ⟨by omega, by omega⟩]
  congr 1
  omega
theorem st_plc {S : Int → Int} {b p : Int} (hb : 1 ≤ b ∧ b ≤ 3) (hp : 0 ≤ p ∧ p ≤ 191) {n : Nat} (hn : (n : Int) ≤ b * b) (h : (n : Int) = b * b ∨ ¬ stN S b p n) : stN S b p n ↔ plc S b (p % 16) (p / 16) := by
  constructor
  · intro z
    have e : (n : Int) = b * b := h.resolve_right (fun nz => nz z)
    exact ⟨⟨by omega, by omega, z.1.1, z.1.2⟩, fun k h0 h1 => by rw [wh_at hb ⟨hp.1, hp.2, z.1.1, z.1.2⟩ h0 h1]; exact z.2 k h0 (by omega)⟩
  · intro z
    have hpl : inPl b p := ⟨hp.1, hp.2, z.1.2.2.1, z.1.2.2.2⟩
    exact ⟨⟨z.1.2.2.1, z.1.2.2.2⟩, fun j h0 h1 => by rw [← wh_at (S := S) hb hpl h0 (by omega)]; exact z.2 j h0 (by omega)⟩
theorem st_next {S : Int → Int} {b p : Int} {k : Nat} (h : stN S b p k) : stN S b p (k + 1) ↔ S (p + 16 * ((k : Int) / b) + (k : Int) % b) < 0 := by
  constructor
  · intro z; exact z.2 (k : Int) (by omega) (by omega)
  · intro z
    refine ⟨h.1, fun j h0 h1 => ?_⟩
    by_cases e : j = (k : Int)
    · rw [e]; exact z
    · exact h.2 j h0 (by omega)
def atC (S : Int → Int) (b p r : Int) : Nat → Prop
  | 0 => False
  | k + 1 => atC S b p r k ∨ bes S (p + 16 * ((k : Int) / 4 / b) + (k : Int) / 4 % b) ((k : Int) % 4) = r
theorem atC_iff {S : Int → Int} {b p r : Int} : ∀ n : Nat, atC S b p r n ↔ ∃ k : Int, (0 ≤ k ∧ k < (n : Int)) ∧ bes S (p + 16 * (k / 4 / b) + k / 4 % b) (k % 4) = r
  | 0 => ⟨fun h => h.elim, fun ⟨k, h, _⟩ => by omega⟩
  | n + 1 => by
    show (atC S b p r n ∨ _) ↔ _
    rw [atC_iff n]
    constructor
    · rintro (⟨k, h, e⟩ | h)
      · exact ⟨k, ⟨h.1, by omega⟩, e⟩
      · exact ⟨(n : Int), ⟨by omega, by omega⟩, h⟩
    · rintro ⟨k, h, e⟩
      by_cases z : k = (n : Int)
      · subst z; exact Or.inr e
      · exact Or.inl ⟨k, ⟨h.1, by omega⟩, e⟩
theorem atN_iff {S : Int → Int} {b p r : Int} : ∀ n : Nat, atN S b p r n ↔ ∃ k : Int, (0 ≤ k ∧ k < (n : Int)) ∧ bsd S (p % 16 + k % b) (p / 16 + k / b) r
  | 0 => ⟨fun h => h.elim, fun ⟨k, h, _⟩ => by omega⟩
  | n + 1 => by
    show (atN S b p r n ∨ _) ↔ _
    rw [atN_iff n]
    constructor
    · rintro (⟨k, h, e⟩ | h)
      · exact ⟨k, ⟨h.1, by omega⟩, e⟩
      · exact ⟨(n : Int), ⟨by omega, by omega⟩, h⟩
    · rintro ⟨k, h, e⟩
      by_cases z : k = (n : Int)
      · subst z; exact Or.inr e
      · exact Or.inl ⟨k, ⟨h.1, by omega⟩, e⟩
theorem bes_bsd {S : Int → Int} {x y r : Int} (hx : 0 ≤ x ∧ x ≤ 15) (hr : 0 ≤ r ∧ r ≤ 98) : bsd S x y r ↔ ∃ d : Int, (0 ≤ d ∧ d < 4) ∧ bes S (16 * y + x) d = r := by
  constructor
  · rintro (h | h | h | h)
    · exact ⟨0, by omega, (bes_wh hx hr).mpr (by rw [dx_0, dy_0, Int.add_zero]; exact h)⟩
    · exact ⟨1, by omega, (bes_wh hx hr).mpr (by rw [dx_1, dy_1, Int.add_zero]; exact h)⟩
    · exact ⟨2, by omega, (bes_wh hx hr).mpr (by rw [dx_2, dy_2, Int.add_zero]; exact h)⟩
    · exact ⟨3, by omega, (bes_wh hx hr).mpr (by rw [dx_3, dy_3, Int.add_zero]; exact h)⟩
  · rintro ⟨d, hd, h⟩
    have h := (bes_wh hx hr).mp h
    have : d = 0 ∨ d = 1 ∨ d = 2 ∨ d = 3 := by omega
    rcases this with rfl | rfl | rfl | rfl
    · rw [dx_0, dy_0, Int.add_zero] at h; exact Or.inl h
    · rw [dx_1, dy_1, Int.add_zero] at h; exact Or.inr (Or.inl h)
    · rw [dx_2, dy_2, Int.add_zero] at h; exact Or.inr (Or.inr (Or.inl h))
    · rw [dx_3, dy_3, Int.add_zero] at h; exact Or.inr (Or.inr (Or.inr h))
theorem atC_atR {S : Int → Int} {b p r : Int} (hb : 1 ≤ b ∧ b ≤ 3) (hp : inPl b p) (hr : 0 ≤ r ∧ r ≤ 98) {n : Nat} (hn : (n : Int) = 4 * b * b) : atC S b p r n ↔ atR S b p r := by
  have bb := bb_rng hb
  have e4 : 4 * b * b = 4 * (b * b) := Int.mul_assoc 4 b b
  unfold atR
  rw [atC_iff, atN_iff]
  have sq : ∀ k : Int, 0 ≤ k → k < b * b → p + 16 * (k / b) + k % b = 16 * (p / 16 + k / b) + (p % 16 + k % b) := fun k _ _ => by omega
  constructor
  · rintro ⟨k, h, e⟩
    have d := dm (k := k / 4) (b := b) (by omega) hb.1 (by omega)
    refine ⟨k / 4, ⟨by omega, by omega⟩, (bes_bsd (by omega) hr).mpr ⟨k % 4, by omega, ?_⟩⟩
    rw [← sq (k / 4) (by omega) (by omega)]
    exact e
  · rintro ⟨k, h, e⟩
    have d := dm (k := k) (b := b) (by omega) hb.1 (by omega)
    obtain ⟨d4, hd, e⟩ := (bes_bsd (by omega) hr).mp e
    refine ⟨4 * k + d4, ⟨by omega, by omega⟩, ?_⟩
    rw [show (4 * k + d4) / 4 = k from by omega, show (4 * k + d4) % 4 = d4 from by omega, sq k h.1 (by omega)]
    exact e

def rgQ (S : Int → Int) : Prop := ∀ i : Int, 0 ≤ i → i < 192 → -2 ≤ S i ∧ S i ≤ 5
theorem bes_q {S : Int → Int} (k : rgQ S) (q d : Int) : bes S q d ≤ 5 := by
  unfold bes
  rcases zi_or (isSq (q % 16 + dx d) (q / 16 + dy d)) (S (16 * (q / 16 + dy d) + (q % 16 + dx d))) (-2) with ⟨h, e⟩ | ⟨-, e⟩
  · have := k (16 * (q / 16 + dy d) + (q % 16 + dx d)) (by omega) (by omega)
    omega
  · omega
theorem bes_in {S : Int → Int} (k : rgQ S) {x y d : Int} (hx : 0 ≤ x ∧ x ≤ 15) : 0 ≤ bes S (16 * y + x) d ↔ (0 ≤ wh S (x + dx d) (y + dy d) ∧ wh S (x + dx d) (y + dy d) ≤ 5) := by
  constructor
  · intro h
    have h1 := bes_q k (16 * y + x) d
    have h2 := (bes_wh (S := S) (y := y) (d := d) hx ⟨h, by omega⟩).mp rfl
    omega
  · intro h
    rw [(bes_wh (S := S) (y := y) (d := d) hx ⟨h.1, by omega⟩).mpr rfl]; exact h.1
noncomputable def frN (S : Int → Int) : Nat → Int
  | 0 => -1
  | k + 1 => zi (isTh S (5 - (k : Int))) (frN S k) (5 - (k : Int))
theorem frN_rng (S : Int → Int) : ∀ n : Nat, (n : Int) ≤ 6 → -1 ≤ frN S n ∧ frN S n ≤ 5
  | 0, _ => by show (-1 : Int) ≤ -1 ∧ (-1 : Int) ≤ 5; omega
  | n + 1, hn => by
    have h := frN_rng S n (by omega)
    unfold frN
    have h1 := zi_or (isTh S (5 - (n : Int))) (frN S n) (5 - (n : Int))
    omega
theorem frN_fre (S : Int → Int) : frN S 6 = zi (fre S = 6) (-1) (fre S) := by
  have e : frN S 6 = zi (isTh S 0) (zi (isTh S 1) (zi (isTh S 2) (zi (isTh S 3) (zi (isTh S 4) (zi (isTh S 5) (-1) 5) 4) 3) 2) 1) 0 := rfl
  rw [e]
  unfold fre
  have h5 := zi_or (isTh S 5) 6 5
  have g5 := zi_or (isTh S 5) (-1) 5
  by_cases a0 : isTh S 0
  · by_cases a1 : isTh S 1
    · by_cases a2 : isTh S 2
      · by_cases a3 : isTh S 3
        · by_cases a4 : isTh S 4
          · by_cases a5 : isTh S 5
            · simp only [zi_t a0, zi_t a1, zi_t a2, zi_t a3, zi_t a4, zi_t a5]; exact (zi_t trivial).symm
            · simp only [zi_t a0, zi_t a1, zi_t a2, zi_t a3, zi_t a4, zi_f a5]; rw [zi_f (by decide)]
          · simp only [zi_t a0, zi_t a1, zi_t a2, zi_t a3, zi_f a4]; rw [zi_f (by decide)]
        · simp only [zi_t a0, zi_t a1, zi_t a2, zi_f a3]; rw [zi_f (by decide)]
      · simp only [zi_t a0, zi_t a1, zi_f a2]; rw [zi_f (by decide)]
    · simp only [zi_t a0, zi_f a1]; rw [zi_f (by decide)]
  · simp only [zi_f a0]; rw [zi_f (by decide)]
def ffN (S : Int → Int) (q : Int) (n : Nat) : Prop := S q = -2 ∧ ∀ d : Int, 0 ≤ d → d < (n : Int) → bes S q d < 0
theorem ffN_next {S : Int → Int} {q : Int} {n : Nat} : ffN S q (n + 1) ↔ (ffN S q n ∧ bes S q (n : Int) < 0) := by
  constructor
  · intro h; exact ⟨⟨h.1, fun d a b => h.2 d a (by omega)⟩, h.2 n (by omega) (by omega)⟩
  · intro h
    refine ⟨h.1.1, fun d a b => ?_⟩
    by_cases e : d = (n : Int)
    · rw [e]; exact h.2
    · exact h.1.2 d a (by omega)
theorem ff_cbT {S : Int → Int} (k : rgQ S) {x y : Int} (hx : 0 ≤ x ∧ x ≤ 15) (hy : 0 ≤ y ∧ y ≤ 11) : ffN S (16 * y + x) 4 ↔ cbT S x y := by
  have w : wh S x y = S (16 * y + x) := zi_t ⟨hx, hy⟩
  have b := fun d => bes_in k (y := y) (d := d) hx
  have b0 := b 0; have b1 := b 1; have b2 := b 2; have b3 := b 3
  rw [dx_0, dy_0, Int.add_zero] at b0
  rw [dx_1, dy_1, Int.add_zero] at b1
  rw [dx_2, dy_2, Int.add_zero] at b2
  rw [dx_3, dy_3, Int.add_zero] at b3
  unfold cbT
  rw [w, Int.sub_eq_add_neg, Int.sub_eq_add_neg, ← b0, ← b1, ← b2, ← b3]
  constructor
  · intro h
    have h0 := h.2 0 (by decide) (by decide); have h1 := h.2 1 (by decide) (by decide); have h2 := h.2 2 (by decide) (by decide); have h3 := h.2 3 (by decide) (by decide)
    exact ⟨h.1, by omega, by omega, by omega, by omega⟩
  · intro h
    refine ⟨h.1, fun d a c => ?_⟩
    have : d = 0 ∨ d = 1 ∨ d = 2 ∨ d = 3 := by omega
    obtain ⟨_, h0, h1, h2, h3⟩ := h
    rcases this with rfl | rfl | rfl | rfl <;> omega
def cbN (S : Int → Int) (x y c : Int) (n : Nat) : Prop := ¬ frN S 6 = -1 ∧ ∀ k : Int, 0 ≤ k → k < (n : Int) → ffN S (16 * (y + k / c) + x + k % c) 4
theorem cbN_next {S : Int → Int} {x y c : Int} {n : Nat} : cbN S x y c (n + 1) ↔ (cbN S x y c n ∧ ffN S (16 * (y + (n : Int) / c) + x + (n : Int) % c) 4) := by
  constructor
  · intro h; exact ⟨⟨h.1, fun d a b => h.2 d a (by omega)⟩, h.2 n (by omega) (by omega)⟩
  · intro h
    refine ⟨h.1.1, fun d a b => ?_⟩
    by_cases e : d = (n : Int)
    · rw [e]; exact h.2
    · exact h.1.2 d a (by omega)
theorem cbN_cbe {S : Int → Int} (kq : rgQ S) {x y c r : Int} (hc : 1 ≤ c ∧ c ≤ 6) (hr : 1 ≤ r ∧ r ≤ 6) (hx : 0 ≤ x ∧ x ≤ 16 - c) (hy : 0 ≤ y ∧ y ≤ 12 - r) {n : Nat} (hn : (n : Int) = c * r) : cbN S x y c n ↔ (¬ fre S = 6 ∧ cbe S x y c r) := by
  have f := fre_rng S
  have e1 : frN S 6 = -1 ↔ fre S = 6 := by
    rw [frN_fre]
    have := zi_or (fre S = 6) (-1) (fre S)
    omega
  unfold cbN cbe
  rw [e1, hn]
  have t : ∀ k : Int, 0 ≤ k → k < c * r → (ffN S (16 * (y + k / c) + x + k % c) 4 ↔ cbT S (x + k % c) (y + k / c)) := fun k a b => by
    have d := dm2 (k := k) (c := c) (r := r) a hc.1 b
    rw [show 16 * (y + k / c) + x + k % c = 16 * (y + k / c) + (x + k % c) from by omega]
    exact ff_cbT kq (by omega) (by omega)
  exact ⟨fun h => ⟨h.1, fun k a b => (t k a b).mp (h.2 k a b)⟩, fun h => ⟨h.1, fun k a b => (t k a b).mpr (h.2 k a b)⟩⟩
noncomputable def drC (S : Int → Int) (q d : Int) : Int := zi (S q = -1) (bes S q d) (-2)
theorem drC_rng {S : Int → Int} (k : rgS S) (q d : Int) : -2 ≤ drC S q d ∧ drC S q d ≤ 15 := by
  have h1 := bes_rng k q d
  have h2 := zi_or (S q = -1) (bes S q d) (-2)
  unfold drC
  omega
noncomputable def dsT (S : Int → Int) (q d : Int) : Int := qz (0 ≤ drC S q d)
theorem dsN_rng (S : Int → Int) (q : Int) (n : Nat) : 0 ≤ sumN (dsT S q) n ∧ sumN (dsT S q) n ≤ n := by
  have h1 := sumN_nn (f := dsT S q) n (fun k _ _ => (qz_01 _).1)
  have h2 := sumN_le (f := dsT S q) (b := 1) n (fun k _ _ => (qz_01 _).2)
  omega
theorem ds_sdM {S : Int → Int} (kq : rgQ S) {x y : Int} (hx : 0 ≤ x ∧ x ≤ 15) (hy : 0 ≤ y ∧ y ≤ 11) : sumN (dsT S (16 * y + x)) 4 = sdM S x y := by
  have w : wh S x y = S (16 * y + x) := zi_t ⟨hx, hy⟩
  have b := fun d => bes_in kq (y := y) (d := d) hx
  have b0 := b 0; have b1 := b 1; have b2 := b 2; have b3 := b 3
  rw [dx_0, dy_0, Int.add_zero] at b0
  rw [dx_1, dy_1, Int.add_zero] at b1
  rw [dx_2, dy_2, Int.add_zero] at b2
  rw [dx_3, dy_3, Int.add_zero] at b3
  have e : sumN (dsT S (16 * y + x)) 4 = 0 + dsT S (16 * y + x) 0 + dsT S (16 * y + x) 1 + dsT S (16 * y + x) 2 + dsT S (16 * y + x) 3 := rfl
  rw [e]
  unfold sdM dsT drC
  rw [w]
  by_cases h : S (16 * y + x) = -1
  · rw [zi_t h, zi_t h, zi_t h, zi_t h, zi_t h, qz_congr b0, qz_congr b1, qz_congr b2, qz_congr b3, Int.sub_eq_add_neg, Int.sub_eq_add_neg]
  · rw [zi_f h, zi_f h, zi_f h, zi_f h, zi_f h, qz_f (by decide)]; decide

theorem hd_X1_inRange : yX1_inRange.cls ≠ "java/lang/invoke/MethodHandle" ∧ yX1_inRange.cls ≠ "java/lang/invoke/VarHandle" ∧ (parseMethodDescriptor yX1_inRange.desc).map (fun d => d.parameters.length) = some 3 := by decide +kernel
set_option maxHeartbeats 1000000 in
set_option maxRecDepth 100000 in
theorem m_X1_inRange (l : Launch) (G : va_G) (g : Nat → ClassId) (v : Int) (lo : Int) (hi : Int) (r_v : r32 v) (r_lo : r32 lo) (r_hi : r32 hi) : Met l yX1_inRange (ws_ yX1_inRange cX1_inRange 3 (Option.some Jvm.ClassFile.FieldType.boolean)) ({ frames := 0, cells := 0, slots := 0, locals := 0 }) (va_Pc [.int (iI v), .int (iI lo), .int (iI hi)] (rdB G CL (TY g) (fun _ => True) [])) (QcRead ((iI (qz (lo ≤ v ∧ v ≤ hi))))) 0 0 (fun _ => False) := by
  refine Met.at (by decide) (Nat.le_of_ble_eq_true rfl) ?_
  intro p e s m below meth c hx hb hr hlk hml hown hnm hts hB ls hl
  have hown : s.vm.findClass RX1 = some m.cls := hown
  obtain ⟨hP, hK, hEs⟩ := hB
  have hl : lv_has ls 3 [(0, .int (iI v)), (1, .int (iI lo)), (2, .int (iI hi))] := hl
  refine lv_iload_n hx hb dX1_inRange_0 rfl (lv_at hl 0 rfl) ?_
  refine lv_iload_n hx hb dX1_inRange_1 rfl (lv_at hl 1 rfl) ?_
  have hJ1 : ∀ ls : Array Slot, lv_has ls 3 [(0, .int (iI v)), (1, .int (iI lo)), (2, .int (iI hi))] → W p l e ({ frames := 0, cells := 0, slots := 0, locals := 0 }) s m ([.int (iI v), .int (iI lo), .int (iI hi)] : List Value).toArray below meth c s.heap [] 0 0 (MQ below (QcRead ((iI (qz (lo ≤ v ∧ v ≤ hi))))) ([.int (iI v), .int (iI lo), .int (iI hi)] : List Value).toArray s 0 0 (fun _ => False)) (F0 m 15 ls [.int (iI (qz (¬ (v < lo) ∧ (¬ (hi < v)))))]) := by
    intro ls hl
    exact g_zret hx hb hr hlk (by first | exact Iff.rfl | (constructor <;> intro _ <;> omega)) dX1_inRange_15
  refine g_icmp_lt (tgt := 14) hx hb dX1_inRange_2 (by decide) ⟨r_v, r_lo⟩ (fun c2 => ?_) (fun c2 => ?_)
  · refine lv_iconst (v := iI 0) hx hb dX1_inRange_14 rfl ?_
    refine g_eq (b := qz (¬ (v < lo) ∧ (¬ (hi < v)))) (qz_f (fun xx => (xx.1 c2))).symm ?_
    exact hJ1 ls (lv_sub hl [0, 1, 2] rfl)
  · refine lv_iload_n hx hb dX1_inRange_5 rfl (lv_at hl 0 rfl) ?_
    refine lv_iload_n hx hb dX1_inRange_6 rfl (lv_at hl 2 rfl) ?_
    refine g_icmp_gt (tgt := 14) hx hb dX1_inRange_7 (by decide) ⟨r_v, r_hi⟩ (fun c3 => ?_) (fun c3 => ?_)
    · refine lv_iconst (v := iI 0) hx hb dX1_inRange_14 rfl ?_
      refine g_eq (b := qz (¬ (v < lo) ∧ (¬ (hi < v)))) (qz_f (fun xx => (xx.2 c3))).symm ?_
      exact hJ1 ls (lv_sub hl [0, 1, 2] rfl)
    · refine lv_iconst (v := iI 1) hx hb dX1_inRange_10 rfl ?_
      refine lv_goto (tgt := 15) hx hb dX1_inRange_11 (by decide) ?_
      refine g_eq (b := qz (¬ (v < lo) ∧ (¬ (hi < v)))) (qz_t ⟨c2, c3⟩).symm ?_
      exact hJ1 ls (lv_sub hl [0, 1, 2] rfl)
theorem hd_X1_flag : yX1_flag.cls ≠ "java/lang/invoke/MethodHandle" ∧ yX1_flag.cls ≠ "java/lang/invoke/VarHandle" ∧ (parseMethodDescriptor yX1_flag.desc).map (fun d => d.parameters.length) = some 1 := by decide +kernel
set_option maxHeartbeats 1000000 in
set_option maxRecDepth 100000 in
theorem m_X1_flag (l : Launch) (G : va_G) (g : Nat → ClassId) (is_ : Prop)  : Met l yX1_flag (ws_ yX1_flag cX1_flag 1 (Option.some Jvm.ClassFile.FieldType.int)) ({ frames := 0, cells := 0, slots := 0, locals := 0 }) (va_Pc [.int (iI (qz is_))] (rdB G CL (TY g) (fun _ => True) [])) (QcRead ((iI (qz is_)))) 0 0 (fun _ => False) := by
  refine Met.at (by decide) (Nat.le_of_ble_eq_true rfl) ?_
  intro p e s m below meth c hx hb hr hlk hml hown hnm hts hB ls hl
  have hown : s.vm.findClass RX1 = some m.cls := hown
  obtain ⟨hP, hK, hEs⟩ := hB
  have hl : lv_has ls 1 [(0, .int (iI (qz is_)))] := hl
  refine lv_iload_n hx hb dX1_flag_0 rfl (lv_at hl 0 rfl) ?_
  have hJ1 : ∀ ls : Array Slot, lv_has ls 1 [(0, .int (iI (qz is_)))] → W p l e ({ frames := 0, cells := 0, slots := 0, locals := 0 }) s m ([.int (iI (qz is_))] : List Value).toArray below meth c s.heap [] 0 0 (MQ below (QcRead ((iI (qz is_)))) ([.int (iI (qz is_))] : List Value).toArray s 0 0 (fun _ => False)) (F0 m 9 ls [.int (iI (qz is_))]) := by
    intro ls hl
    exact g_iret hx hb hr hlk (rfl) dX1_flag_9
  refine g_ifq_eq (tgt := 8) hx hb dX1_flag_1 (by decide) (fun c2 => ?_) (fun c2 => ?_)
  · refine lv_iconst (v := iI 0) hx hb dX1_flag_8 rfl ?_
    refine g_eq (b := qz is_) (qz_f (fun xx => (c2 xx))).symm ?_
    exact hJ1 ls (lv_sub hl [0] rfl)
  · refine lv_iconst (v := iI 1) hx hb dX1_flag_4 rfl ?_
    refine lv_goto (tgt := 9) hx hb dX1_flag_5 (by decide) ?_
    refine g_eq (b := qz is_) (qz_t c2).symm ?_
    exact hJ1 ls (lv_sub hl [0] rfl)
theorem hd_X1_isSquare : yX1_isSquare.cls ≠ "java/lang/invoke/MethodHandle" ∧ yX1_isSquare.cls ≠ "java/lang/invoke/VarHandle" ∧ (parseMethodDescriptor yX1_isSquare.desc).map (fun d => d.parameters.length) = some 2 := by decide +kernel
set_option maxHeartbeats 1000000 in
set_option maxRecDepth 100000 in
theorem m_X1_isSquare (l : Launch) (G : va_G) (g : Nat → ClassId) (x : Int) (y : Int) (r_x : r32 x) (r_y : r32 y) : Met l yX1_isSquare (ws_ yX1_isSquare cX1_isSquare 2 (Option.some Jvm.ClassFile.FieldType.boolean)) ({ frames := 1, cells := 0, slots := 0, locals := 22 }) (va_Pc [.int (iI x), .int (iI y)] (rdB G CL (TY g) (fun _ => True) [])) (QcRead ((iI (qz (isSq x y))))) 0 0 (fun _ => False) := by
  refine Met.at (by decide) (Nat.le_of_ble_eq_true rfl) ?_
  intro p e s m below meth c hx hb hr hlk hml hown hnm hts hB ls hl
  have hown : s.vm.findClass RX1 = some m.cls := hown
  obtain ⟨hP, hK, hEs⟩ := hB
  have hl : lv_has ls 2 [(0, .int (iI x)), (1, .int (iI y))] := hl
  refine lv_iload_n hx hb dX1_isSquare_0 rfl (lv_at hl 0 rfl) ?_
  refine lv_iconst (v := iI 0) hx hb dX1_isSquare_1 rfl ?_
  refine lv_bipush (v := iI 15) hx hb dX1_isSquare_2 rfl ?_
  refine g_callS (A := fun _ => False) (As := [.int (iI x), .int (iI 0), .int (iI 15)]) (rest := []) (m_X1_inRange l G g x 0 15 r_x ⟨by decide, by decide⟩ ⟨by decide, by decide⟩) hx hb hml hown hts Stab.tt hK hP va_S.rf hEs [] rfl q511 q213 q94 q214 hd_X1_inRange rfl rfl ⟨Nat.le_of_ble_eq_true rfl, Nat.le_of_ble_eq_true rfl⟩ rfl hl rfl (Nat.le_of_ble_eq_true rfl) ⟨Nat.le_refl _, Nat.le_refl _⟩ dX1_isSquare_4 ?_
  have hJ1 : ∀ ls : Array Slot, lv_has ls 2 [(0, .int (iI x)), (1, .int (iI y))] → W p l e ({ frames := 1, cells := 0, slots := 0, locals := 22 }) s m ([.int (iI x), .int (iI y)] : List Value).toArray below meth c s.heap [] 0 0 (MQ below (QcRead ((iI (qz (isSq x y))))) ([.int (iI x), .int (iI y)] : List Value).toArray s 0 0 (fun _ => False)) (F0 m 25 ls [.int (iI (qz ((0 ≤ x ∧ x ≤ 15) ∧ (0 ≤ y ∧ y ≤ 11))))]) := by
    intro ls hl
    exact g_zret hx hb hr hlk (by first | exact Iff.rfl | (constructor <;> intro _ <;> omega)) dX1_isSquare_25
  refine g_ifq_eq (tgt := 24) hx hb dX1_isSquare_7 (by decide) (fun c2 => ?_) (fun c2 => ?_)
  · refine lv_iconst (v := iI 0) hx hb dX1_isSquare_24 rfl ?_
    refine g_eq (b := qz ((0 ≤ x ∧ x ≤ 15) ∧ (0 ≤ y ∧ y ≤ 11))) (qz_f (fun xx => (c2 xx.1))).symm ?_
    exact hJ1 ls (lv_sub hl [0, 1] rfl)
  · refine lv_iload_n hx hb dX1_isSquare_10 rfl (lv_at hl 1 rfl) ?_
    refine lv_iconst (v := iI 0) hx hb dX1_isSquare_11 rfl ?_
    refine lv_bipush (v := iI 11) hx hb dX1_isSquare_12 rfl ?_
    refine g_callS (A := fun _ => False) (As := [.int (iI y), .int (iI 0), .int (iI 11)]) (rest := []) (m_X1_inRange l G g y 0 11 r_y ⟨by decide, by decide⟩ ⟨by decide, by decide⟩) hx hb hml hown hts Stab.tt hK hP va_S.rf hEs [] rfl q511 q213 q94 q214 hd_X1_inRange rfl rfl ⟨Nat.le_of_ble_eq_true rfl, Nat.le_of_ble_eq_true rfl⟩ rfl hl rfl (Nat.le_of_ble_eq_true rfl) ⟨Nat.le_refl _, Nat.le_refl _⟩ dX1_isSquare_14 ?_
    refine g_ifq_eq (tgt := 24) hx hb dX1_isSquare_17 (by decide) (fun c3 => ?_) (fun c3 => ?_)
    · refine lv_iconst (v := iI 0) hx hb dX1_isSquare_24 rfl ?_
      refine g_eq (b := qz ((0 ≤ x ∧ x ≤ 15) ∧ (0 ≤ y ∧ y ≤ 11))) (qz_f (fun xx => (c3 xx.2))).symm ?_
      exact hJ1 ls (lv_sub hl [0, 1] rfl)
    · refine lv_iconst (v := iI 1) hx hb dX1_isSquare_20 rfl ?_
      refine lv_goto (tgt := 25) hx hb dX1_isSquare_21 (by decide) ?_
      refine g_eq (b := qz ((0 ≤ x ∧ x ≤ 15) ∧ (0 ≤ y ∧ y ≤ 11))) (qz_t ⟨c2, c3⟩).symm ?_
      exact hJ1 ls (lv_sub hl [0, 1] rfl)
theorem hd_X1_isWithin : yX1_isWithin.cls ≠ "java/lang/invoke/MethodHandle" ∧ yX1_isWithin.cls ≠ "java/lang/invoke/VarHandle" ∧ (parseMethodDescriptor yX1_isWithin.desc).map (fun d => d.parameters.length) = some 4 := by decide +kernel
set_option maxHeartbeats 1000000 in
set_option maxRecDepth 100000 in
theorem m_X1_isWithin (l : Launch) (G : va_G) (g : Nat → ClassId) (x : Int) (y : Int) (cols : Int) (rows : Int) (r_x : r32 x) (r_y : r32 y) (r_cols : r32 cols) (r_rows : r32 rows) : Met l yX1_isWithin (ws_ yX1_isWithin cX1_isWithin 5 (Option.some Jvm.ClassFile.FieldType.boolean)) ({ frames := 1, cells := 0, slots := 0, locals := 22 }) (va_Pc [.int (iI x), .int (iI y), .int (iI cols), .int (iI rows)] (rdB G CL (TY g) (fun _ => True) [])) (QcRead ((iI (qz (((1 ≤ cols ∧ cols ≤ 6) ∧ (1 ≤ rows ∧ rows ≤ 6)) ∧ (0 ≤ x ∧ x ≤ 16 - cols) ∧ (0 ≤ y ∧ y ≤ 12 - rows)))))) 0 0 (fun _ => False) := by
  refine Met.at (by decide) (Nat.le_of_ble_eq_true rfl) ?_
  intro p e s m below meth c hx hb hr hlk hml hown hnm hts hB ls hl
  have hown : s.vm.findClass RX1 = some m.cls := hown
  obtain ⟨hP, hK, hEs⟩ := hB
  have hl : lv_has ls 5 [(0, .int (iI x)), (1, .int (iI y)), (2, .int (iI cols)), (3, .int (iI rows))] := hl
  refine lv_iload_n hx hb dX1_isWithin_0 rfl (lv_at hl 2 rfl) ?_
  refine lv_iconst (v := iI 1) hx hb dX1_isWithin_1 rfl ?_
  refine lv_bipush (v := iI 6) hx hb dX1_isWithin_2 rfl ?_
  refine g_callS (A := fun _ => False) (As := [.int (iI cols), .int (iI 1), .int (iI 6)]) (rest := []) (m_X1_inRange l G g cols 1 6 r_cols ⟨by decide, by decide⟩ ⟨by decide, by decide⟩) hx hb hml hown hts Stab.tt hK hP va_S.rf hEs [] rfl q511 q213 q94 q214 hd_X1_inRange rfl rfl ⟨Nat.le_of_ble_eq_true rfl, Nat.le_of_ble_eq_true rfl⟩ rfl hl rfl (Nat.le_of_ble_eq_true rfl) ⟨Nat.le_refl _, Nat.le_refl _⟩ dX1_isWithin_4 ?_
  have hJ1 : ∀ ls : Array Slot, lv_has ls 5 [(0, .int (iI x)), (1, .int (iI y)), (2, .int (iI cols)), (3, .int (iI rows))] → W p l e ({ frames := 1, cells := 0, slots := 0, locals := 22 }) s m ([.int (iI x), .int (iI y), .int (iI cols), .int (iI rows)] : List Value).toArray below meth c s.heap [] 0 0 (MQ below (QcRead ((iI (qz (((1 ≤ cols ∧ cols ≤ 6) ∧ (1 ≤ rows ∧ rows ≤ 6)) ∧ (0 ≤ x ∧ x ≤ 16 - cols) ∧ (0 ≤ y ∧ y ≤ 12 - rows)))))) ([.int (iI x), .int (iI y), .int (iI cols), .int (iI rows)] : List Value).toArray s 0 0 (fun _ => False)) (F0 m 25 ls [.int (iI (qz ((1 ≤ cols ∧ cols ≤ 6) ∧ (1 ≤ rows ∧ rows ≤ 6))))]) := by
    intro ls hl
    refine lv_istore (lv' := [(4, .int (iI (qz ((1 ≤ cols ∧ cols ≤ 6) ∧ (1 ≤ rows ∧ rows ≤ 6))))), (0, .int (iI x)), (1, .int (iI y)), (2, .int (iI cols)), (3, .int (iI rows))]) hx hb dX1_isWithin_25 hl (by decide) rfl (fun ls hl => ?_)
    refine lv_iload hx hb dX1_isWithin_27 (lv_at hl 0 rfl) ?_
    have hJ2 : ∀ ls : Array Slot, lv_has ls 5 [(0, .int (iI x)), (1, .int (iI y)), (2, .int (iI cols)), (3, .int (iI rows)), (4, .int (iI (qz ((1 ≤ cols ∧ cols ≤ 6) ∧ (1 ≤ rows ∧ rows ≤ 6)))))] → W p l e ({ frames := 1, cells := 0, slots := 0, locals := 22 }) s m ([.int (iI x), .int (iI y), .int (iI cols), .int (iI rows)] : List Value).toArray below meth c s.heap [] 0 0 (MQ below (QcRead ((iI (qz (((1 ≤ cols ∧ cols ≤ 6) ∧ (1 ≤ rows ∧ rows ≤ 6)) ∧ (0 ≤ x ∧ x ≤ 16 - cols) ∧ (0 ≤ y ∧ y ≤ 12 - rows)))))) ([.int (iI x), .int (iI y), .int (iI cols), .int (iI rows)] : List Value).toArray s 0 0 (fun _ => False)) (F0 m 61 ls [.int (iI (qz (((1 ≤ cols ∧ cols ≤ 6) ∧ (1 ≤ rows ∧ rows ≤ 6)) ∧ ((0 ≤ x ∧ x ≤ (16 - cols)) ∧ (0 ≤ y ∧ y ≤ (12 - rows))))))]) := by
      intro ls hl
      exact g_zret hx hb hr hlk (by first | exact Iff.rfl | (constructor <;> intro _ <;> omega)) dX1_isWithin_61
    refine g_ifq_eq (tgt := 60) hx hb dX1_isWithin_29 (by decide) (fun c3 => ?_) (fun c3 => ?_)
    · refine lv_iconst (v := iI 0) hx hb dX1_isWithin_60 rfl ?_
      refine g_eq (b := qz (((1 ≤ cols ∧ cols ≤ 6) ∧ (1 ≤ rows ∧ rows ≤ 6)) ∧ ((0 ≤ x ∧ x ≤ (16 - cols)) ∧ (0 ≤ y ∧ y ≤ (12 - rows))))) (qz_f (fun xx => (c3 xx.1))).symm ?_
      exact hJ2 ls (lv_sub hl [1, 2, 3, 4, 0] rfl)
    · refine lv_iload_n hx hb dX1_isWithin_32 rfl (lv_at hl 1 rfl) ?_
      refine lv_iconst (v := iI 0) hx hb dX1_isWithin_33 rfl ?_
      refine lv_bipush (v := iI 16) hx hb dX1_isWithin_34 rfl ?_
      refine lv_iload_n hx hb dX1_isWithin_36 rfl (lv_at hl 3 rfl) ?_
      refine g_isub hx hb dX1_isWithin_37 ?_
      refine g_callS (A := fun _ => False) (As := [.int (iI x), .int (iI 0), .int (iI (16 - cols))]) (rest := []) (m_X1_inRange l G g x 0 (16 - cols) r_x ⟨by decide, by decide⟩ (⟨by omega, by omega⟩)) hx hb hml hown hts Stab.tt hK hP va_S.rf hEs [] rfl q511 q213 q94 q214 hd_X1_inRange rfl rfl ⟨Nat.le_of_ble_eq_true rfl, Nat.le_of_ble_eq_true rfl⟩ rfl hl rfl (Nat.le_of_ble_eq_true rfl) ⟨Nat.le_refl _, Nat.le_refl _⟩ dX1_isWithin_38 ?_
      refine g_ifq_eq (tgt := 60) hx hb dX1_isWithin_41 (by decide) (fun c4 => ?_) (fun c4 => ?_)
      · refine lv_iconst (v := iI 0) hx hb dX1_isWithin_60 rfl ?_
        refine g_eq (b := qz (((1 ≤ cols ∧ cols ≤ 6) ∧ (1 ≤ rows ∧ rows ≤ 6)) ∧ ((0 ≤ x ∧ x ≤ (16 - cols)) ∧ (0 ≤ y ∧ y ≤ (12 - rows))))) (qz_f (fun xx => (c4 xx.2.1))).symm ?_
        exact hJ2 ls (lv_sub hl [1, 2, 3, 4, 0] rfl)
      · refine lv_iload_n hx hb dX1_isWithin_44 rfl (lv_at hl 2 rfl) ?_
        refine lv_iconst (v := iI 0) hx hb dX1_isWithin_45 rfl ?_
        refine lv_bipush (v := iI 12) hx hb dX1_isWithin_46 rfl ?_
        refine lv_iload_n hx hb dX1_isWithin_48 rfl (lv_at hl 4 rfl) ?_
        refine g_isub hx hb dX1_isWithin_49 ?_
        refine g_callS (A := fun _ => False) (As := [.int (iI y), .int (iI 0), .int (iI (12 - rows))]) (rest := []) (m_X1_inRange l G g y 0 (12 - rows) r_y ⟨by decide, by decide⟩ (⟨by omega, by omega⟩)) hx hb hml hown hts Stab.tt hK hP va_S.rf hEs [] rfl q511 q213 q94 q214 hd_X1_inRange rfl rfl ⟨Nat.le_of_ble_eq_true rfl, Nat.le_of_ble_eq_true rfl⟩ rfl hl rfl (Nat.le_of_ble_eq_true rfl) ⟨Nat.le_refl _, Nat.le_refl _⟩ dX1_isWithin_50 ?_
        refine g_ifq_eq (tgt := 60) hx hb dX1_isWithin_53 (by decide) (fun c5 => ?_) (fun c5 => ?_)
        · refine lv_iconst (v := iI 0) hx hb dX1_isWithin_60 rfl ?_
          refine g_eq (b := qz (((1 ≤ cols ∧ cols ≤ 6) ∧ (1 ≤ rows ∧ rows ≤ 6)) ∧ ((0 ≤ x ∧ x ≤ (16 - cols)) ∧ (0 ≤ y ∧ y ≤ (12 - rows))))) (qz_f (fun xx => (c5 xx.2.2))).symm ?_
          exact hJ2 ls (lv_sub hl [1, 2, 3, 4, 0] rfl)
        · refine lv_iconst (v := iI 1) hx hb dX1_isWithin_56 rfl ?_
          refine lv_goto (tgt := 61) hx hb dX1_isWithin_57 (by decide) ?_
          refine g_eq (b := qz (((1 ≤ cols ∧ cols ≤ 6) ∧ (1 ≤ rows ∧ rows ≤ 6)) ∧ ((0 ≤ x ∧ x ≤ (16 - cols)) ∧ (0 ≤ y ∧ y ≤ (12 - rows))))) (qz_t ⟨c3, ⟨c4, c5⟩⟩).symm ?_
          exact hJ2 ls (lv_sub hl [1, 2, 3, 4, 0] rfl)
  refine g_ifq_eq (tgt := 24) hx hb dX1_isWithin_7 (by decide) (fun c6 => ?_) (fun c6 => ?_)
  · refine lv_iconst (v := iI 0) hx hb dX1_isWithin_24 rfl ?_
    refine g_eq (b := qz ((1 ≤ cols ∧ cols ≤ 6) ∧ (1 ≤ rows ∧ rows ≤ 6))) (qz_f (fun xx => (c6 xx.1))).symm ?_
    exact hJ1 ls (lv_sub hl [0, 1, 2, 3] rfl)
  · refine lv_iload_n hx hb dX1_isWithin_10 rfl (lv_at hl 3 rfl) ?_
    refine lv_iconst (v := iI 1) hx hb dX1_isWithin_11 rfl ?_
    refine lv_bipush (v := iI 6) hx hb dX1_isWithin_12 rfl ?_
    refine g_callS (A := fun _ => False) (As := [.int (iI rows), .int (iI 1), .int (iI 6)]) (rest := []) (m_X1_inRange l G g rows 1 6 r_rows ⟨by decide, by decide⟩ ⟨by decide, by decide⟩) hx hb hml hown hts Stab.tt hK hP va_S.rf hEs [] rfl q511 q213 q94 q214 hd_X1_inRange rfl rfl ⟨Nat.le_of_ble_eq_true rfl, Nat.le_of_ble_eq_true rfl⟩ rfl hl rfl (Nat.le_of_ble_eq_true rfl) ⟨Nat.le_refl _, Nat.le_refl _⟩ dX1_isWithin_14 ?_
    refine g_ifq_eq (tgt := 24) hx hb dX1_isWithin_17 (by decide) (fun c7 => ?_) (fun c7 => ?_)
    · refine lv_iconst (v := iI 0) hx hb dX1_isWithin_24 rfl ?_
      refine g_eq (b := qz ((1 ≤ cols ∧ cols ≤ 6) ∧ (1 ≤ rows ∧ rows ≤ 6))) (qz_f (fun xx => (c7 xx.2))).symm ?_
      exact hJ1 ls (lv_sub hl [0, 1, 2, 3] rfl)
    · refine lv_iconst (v := iI 1) hx hb dX1_isWithin_20 rfl ?_
      refine lv_goto (tgt := 25) hx hb dX1_isWithin_21 (by decide) ?_
      refine g_eq (b := qz ((1 ≤ cols ∧ cols ≤ 6) ∧ (1 ≤ rows ∧ rows ≤ 6))) (qz_t ⟨c6, c7⟩).symm ?_
      exact hJ1 ls (lv_sub hl [0, 1, 2, 3] rfl)
theorem hd_X2_needed : yX2_needed.cls = RX2 ∧ yX2_needed.cls ≠ "java/lang/invoke/MethodHandle" ∧ yX2_needed.cls ≠ "java/lang/invoke/VarHandle" ∧ (parseMethodDescriptor yX2_needed.desc).map (fun d => d.parameters.length) = some 2 := by decide +kernel
set_option maxHeartbeats 1000000 in
set_option maxRecDepth 100000 in
theorem m_X2_needed (l : Launch) (G : va_G) (g : Nat → ClassId) (hst : Nat) (one : Int) (other : Int) (ss : List Value) (hnd : Nat) (S : Int → Int) (b0 : Nat) (ta : Nat) (td : Nat) (E : State → Prop) (hF_ss_1 : ss[1]? = some (.ref hnd)) (hEE : okE b0 ta td E) (r_one : r32 one) (r_other : r32 other) (h1 : 0 ≤ one ∧ one ≤ 5) (h2 : 0 ≤ other ∧ other ≤ 5) : Met l yX2_needed (ws_ yX2_needed cX2_needed 3 (Option.some Jvm.ClassFile.FieldType.int)) ({ frames := 0, cells := 0, slots := 0, locals := 0 }) (va_Pc [.ref hst, .int (iI one), .int (iI other)] (rdB G CL (TY g) (E) [(hst, .inr (1, ss)), (hnd, .inl (g 0, 36, .inl (aI (ndF S))))])) (QcRead ((iI (S (216 + 6 * one + other))))) 0 0 (fun _ => False) := by
  refine Met.at (by decide) (Nat.le_of_ble_eq_true rfl) ?_
  intro p e s m below meth c hx hb hr hlk hml hown hnm hts hB ls hl
  have hown : s.vm.findClass RX2 = some m.cls := hown
  obtain ⟨hP, hK, hEs⟩ := hB
  have hSt : Stab (fun _ => False) E := hEE.no
  have hS : va_S (fun _ => False) s.heap s.heap [] := va_S.rf
  have nw : nW s := (hEE.cs s hEs).2.2.2.2
  have hl : lv_has ls 3 [(0, .ref hst), (1, .int (iI one)), (2, .int (iI other))] := hl
  refine lv_aload_n hx hb dX2_needed_0 rfl (lv_at hl 0 rfl) ?_
  refine va_get (D := G) (ci := 1) (v := .ref hnd) (C := RX2) (T := TX2) (N := 4) hx hb hts in_X2 hown hK hP 0 rfl rfl 1 (by decide) (hts _ q145) (fun _ h9 => h9) hF_ss_1 dX2_needed_1 ?_
  refine lv_bipush (v := iI 6) hx hb dX2_needed_4 rfl ?_
  refine lv_iload_n hx hb dX2_needed_6 rfl (lv_at hl 1 rfl) ?_
  refine g_imul hx hb dX2_needed_7 ?_
  refine lv_iload_n hx hb dX2_needed_8 rfl (lv_at hl 2 rfl) ?_
  refine g_iadd hx hb dX2_needed_9 ?_
  refine g_iald hx hb hK hP 1 0 rfl rfl (i := (6 * one) + other) (⟨by omega, by omega⟩) (by decide) dX2_needed_10 ?_
  exact g_iret hx hb hr hlk (by show S (216 + (6 * one + other)) = _; congr 1; omega) dX2_needed_11
theorem hd_X2_beside : yX2_beside.cls = RX2 ∧ yX2_beside.cls ≠ "java/lang/invoke/MethodHandle" ∧ yX2_beside.cls ≠ "java/lang/invoke/VarHandle" ∧ (parseMethodDescriptor yX2_beside.desc).map (fun d => d.parameters.length) = some 2 := by decide +kernel
set_option maxHeartbeats 1000000 in
set_option maxRecDepth 100000 in
theorem m_X2_beside (l : Launch) (G : va_G) (g : Nat → ClassId) (hst : Nat) (q_ : Int) (d : Int) (ss : List Value) (hsq : Nat) (S : Int → Int) (b0 : Nat) (ta : Nat) (td : Nat) (E : State → Prop) (hF_ss_0 : ss[0]? = some (.ref hsq)) (hEE : okE b0 ta td E) (r_q_ : r32 q_) (r_d : r32 d) (kS : rgS S) (hq_ : 0 ≤ q_ ∧ q_ ≤ 191) (hd4 : 0 ≤ d ∧ d ≤ 3) : Met l yX2_beside (ws_ yX2_beside cX2_beside 5 (Option.some Jvm.ClassFile.FieldType.int)) ({ frames := 1, cells := 0, slots := 0, locals := 22 }) (va_Pc [.ref hst, .int (iI q_), .int (iI d)] (rdB G CL (TY g) (E) [(hst, .inr (1, ss)), (hsq, .inl (g 0, 192, .inl (aI S)))])) (QcRead ((iI (bes S q_ d)))) 0 0 (fun _ => False) := by
  refine Met.at (by decide) (Nat.le_of_ble_eq_true rfl) ?_
  intro p e s m below meth c hx hb hr hlk hml hown hnm hts hB ls hl
  have hown : s.vm.findClass RX2 = some m.cls := hown
  obtain ⟨hP, hK, hEs⟩ := hB
  have hSt : Stab (fun _ => False) E := hEE.no
  have hS : va_S (fun _ => False) s.heap s.heap [] := va_S.rf
  have nw : nW s := (hEE.cs s hEs).2.2.2.2
  have zta := (hEE.cs s hEs).1.narrow (B := (fun _ => False)) (fun _ z => z.elim)
  have tta := (hEE.cs s hEs).2.1.narrow (B := (fun _ => False)) (fun _ z => z.elim)
  have ztd := (hEE.cs s hEs).2.2.1.narrow (B := (fun _ => False)) (fun _ z => z.elim)
  have ttd := (hEE.cs s hEs).2.2.2.1.narrow (B := (fun _ => False)) (fun _ z => z.elim)
  have hl : lv_has ls 5 [(0, .ref hst), (1, .int (iI q_)), (2, .int (iI d))] := hl
  refine lv_iload_n hx hb dX2_beside_0 rfl (lv_at hl 1 rfl) ?_
  refine lv_bipush (v := iI 16) hx hb dX2_beside_1 rfl ?_
  refine g_irem hx hb dX2_beside_3 ⟨⟨by omega, by omega⟩, ⟨by decide, by decide⟩⟩ ?_
  refine va_getsN hx hb zta hS hown (va_Nw.use rfl (nw _ q208 rfl)) (fun _ h9 => h9) dX2_beside_4 ?_
  refine lv_iload_n hx hb dX2_beside_7 rfl (lv_at hl 2 rfl) ?_
  refine g_ti (f := dx) hx hb tta hS (i := d) (⟨by omega, by omega⟩) dX2_beside_8 ?_
  have w1 := dx_rng d
  refine g_iadd hx hb dX2_beside_9 ?_
  refine lv_istore_n (lv' := [(3, .int (iI ((q_ % 16) + (dx d)))), (0, .ref hst), (1, .int (iI q_)), (2, .int (iI d))]) hx hb dX2_beside_10 rfl hl (by decide) rfl (fun ls hl => ?_)
  refine lv_iload_n hx hb dX2_beside_11 rfl (lv_at hl 2 rfl) ?_
  refine lv_bipush (v := iI 16) hx hb dX2_beside_12 rfl ?_
  refine g_idiv hx hb dX2_beside_14 ⟨⟨by omega, by omega⟩, ⟨by decide, by decide⟩⟩ ?_
  refine va_getsN hx hb ztd hS hown (va_Nw.use rfl (nw _ q210 rfl)) (fun _ h9 => h9) dX2_beside_15 ?_
  refine lv_iload_n hx hb dX2_beside_18 rfl (lv_at hl 3 rfl) ?_
  refine g_ti (f := dy) hx hb ttd hS (i := d) (⟨by omega, by omega⟩) dX2_beside_19 ?_
  have w2 := dy_rng d
  refine g_iadd hx hb dX2_beside_20 ?_
  refine lv_istore (lv' := [(4, .int (iI ((q_ / 16) + (dy d)))), (3, .int (iI ((q_ % 16) + (dx d)))), (0, .ref hst), (1, .int (iI q_)), (2, .int (iI d))]) hx hb dX2_beside_21 hl (by decide) rfl (fun ls hl => ?_)
  refine lv_iload_n hx hb dX2_beside_23 rfl (lv_at hl 1 rfl) ?_
  refine lv_iconst (v := iI 0) hx hb dX2_beside_24 rfl ?_
  refine lv_bipush (v := iI 15) hx hb dX2_beside_25 rfl ?_
  refine g_callSN (A := fun _ => False) (As := [.int (iI ((q_ % 16) + (dx d))), .int (iI 0), .int (iI 15)]) (rest := []) (m_X1_inRange l G g ((q_ % 16) + (dx d)) 0 15 (⟨by omega, by omega⟩) ⟨by decide, by decide⟩ ⟨by decide, by decide⟩) hx hb hml hown hts Stab.tt hK hP va_S.rf trivial [] rfl (nw _ q212 rfl) q213 q94 q214 hd_X1_inRange rfl rfl ⟨Nat.le_of_ble_eq_true rfl, Nat.le_of_ble_eq_true rfl⟩ rfl hl rfl (Nat.le_of_ble_eq_true rfl) ⟨Nat.le_refl _, Nat.le_refl _⟩ dX2_beside_27 ?_
  have hJ3 : ∀ ls : Array Slot, lv_has ls 5 [(0, .ref hst), (1, .int (iI q_)), (2, .int (iI d)), (3, .int (iI ((q_ % 16) + (dx d)))), (4, .int (iI ((q_ / 16) + (dy d))))] → W p l e ({ frames := 1, cells := 0, slots := 0, locals := 22 }) s m ([.ref hst, .int (iI q_), .int (iI d)] : List Value).toArray below meth c s.heap [] 0 0 (MQ below (QcRead ((iI (bes S q_ d)))) ([.ref hst, .int (iI q_), .int (iI d)] : List Value).toArray s 0 0 (fun _ => False)) (F0 m 61 ls [.int (iI (zi (0 ≤ ((q_ % 16) + (dx d)) ∧ ((q_ % 16) + (dx d)) ≤ 15) (zi (0 ≤ ((q_ / 16) + (dy d)) ∧ ((q_ / 16) + (dy d)) ≤ 11) (S ((16 * ((q_ / 16) + (dy d))) + ((q_ % 16) + (dx d)))) (-2)) (-2)))]) := by
    intro ls hl
    exact g_iret hx hb hr hlk (zi_and) dX2_beside_61
  refine g_ifq_eq (tgt := 59) hx hb dX2_beside_30 (by decide) (fun c4 => ?_) (fun c4 => ?_)
  · refine lv_bipush (v := iI (-2)) hx hb dX2_beside_59 rfl ?_
    refine g_eq (b := zi (0 ≤ ((q_ % 16) + (dx d)) ∧ ((q_ % 16) + (dx d)) ≤ 15) (zi (0 ≤ ((q_ / 16) + (dy d)) ∧ ((q_ / 16) + (dy d)) ≤ 11) (S ((16 * ((q_ / 16) + (dy d))) + ((q_ % 16) + (dx d)))) (-2)) (-2)) ((zi_f c4)).symm ?_
    exact hJ3 ls (lv_sub hl [2, 3, 4, 1, 0] rfl)
  · refine lv_iload hx hb dX2_beside_33 (lv_at hl 0 rfl) ?_
    refine lv_iconst (v := iI 0) hx hb dX2_beside_35 rfl ?_
    refine lv_bipush (v := iI 11) hx hb dX2_beside_36 rfl ?_
    refine g_callSN (A := fun _ => False) (As := [.int (iI ((q_ / 16) + (dy d))), .int (iI 0), .int (iI 11)]) (rest := []) (m_X1_inRange l G g ((q_ / 16) + (dy d)) 0 11 (⟨by omega, by omega⟩) ⟨by decide, by decide⟩ ⟨by decide, by decide⟩) hx hb hml hown hts Stab.tt hK hP va_S.rf trivial [] rfl (nw _ q212 rfl) q213 q94 q214 hd_X1_inRange rfl rfl ⟨Nat.le_of_ble_eq_true rfl, Nat.le_of_ble_eq_true rfl⟩ rfl hl rfl (Nat.le_of_ble_eq_true rfl) ⟨Nat.le_refl _, Nat.le_refl _⟩ dX2_beside_38 ?_
    refine g_ifq_eq (tgt := 59) hx hb dX2_beside_41 (by decide) (fun c5 => ?_) (fun c5 => ?_)
    · refine lv_bipush (v := iI (-2)) hx hb dX2_beside_59 rfl ?_
      refine g_eq (b := zi (0 ≤ ((q_ % 16) + (dx d)) ∧ ((q_ % 16) + (dx d)) ≤ 15) (zi (0 ≤ ((q_ / 16) + (dy d)) ∧ ((q_ / 16) + (dy d)) ≤ 11) (S ((16 * ((q_ / 16) + (dy d))) + ((q_ % 16) + (dx d)))) (-2)) (-2)) (((zi_t c4).trans (zi_f c5))).symm ?_
      exact hJ3 ls (lv_sub hl [2, 3, 4, 1, 0] rfl)
    · refine lv_aload_n hx hb dX2_beside_44 rfl (lv_at hl 2 rfl) ?_
      refine va_get (D := G) (ci := 1) (v := .ref hsq) (C := RX2) (T := TX2) (N := 4) hx hb hts in_X2 hown hK hP 0 rfl rfl 0 (by decide) (hts _ q143) (fun _ h9 => h9) hF_ss_0 dX2_beside_45 ?_
      refine lv_bipush (v := iI 16) hx hb dX2_beside_48 rfl ?_
      refine lv_iload hx hb dX2_beside_50 (lv_at hl 0 rfl) ?_
      refine g_imul hx hb dX2_beside_52 ?_
      refine lv_iload_n hx hb dX2_beside_53 rfl (lv_at hl 1 rfl) ?_
      refine g_iadd hx hb dX2_beside_54 ?_
      refine g_iald hx hb hK hP 1 0 rfl rfl (i := (16 * ((q_ / 16) + (dy d))) + ((q_ % 16) + (dx d))) (⟨by omega, by omega⟩) (by decide) dX2_beside_55 ?_
      have w6 := kS ((16 * ((q_ / 16) + (dy d))) + ((q_ % 16) + (dx d))) (by omega) (by omega)
      refine lv_goto (tgt := 61) hx hb dX2_beside_56 (by decide) ?_
      refine g_eq (b := zi (0 ≤ ((q_ % 16) + (dx d)) ∧ ((q_ % 16) + (dx d)) ≤ 15) (zi (0 ≤ ((q_ / 16) + (dy d)) ∧ ((q_ / 16) + (dy d)) ≤ 11) (S ((16 * ((q_ / 16) + (dy d))) + ((q_ % 16) + (dx d)))) (-2)) (-2)) (((zi_t c4).trans (zi_t c5))).symm ?_
      exact hJ3 ls (lv_sub hl [2, 3, 4, 1, 0] rfl)
theorem hd_X1_next : yX1_next.cls ≠ "java/lang/invoke/MethodHandle" ∧ yX1_next.cls ≠ "java/lang/invoke/VarHandle" ∧ (parseMethodDescriptor yX1_next.desc).map (fun d => d.parameters.length) = some 2 := by decide +kernel
set_option maxHeartbeats 1000000 in
set_option maxRecDepth 100000 in
theorem m_X1_next (l : Launch) (G : va_G) (g : Nat → ClassId) (q_ : Int) (d : Int) (b0 : Nat) (ta : Nat) (td : Nat) (E : State → Prop) (hEE : okE b0 ta td E) (r_q_ : r32 q_) (r_d : r32 d) (hq_ : 0 ≤ q_ ∧ q_ ≤ 191) (hd4 : 0 ≤ d ∧ d ≤ 3) : Met l yX1_next (ws_ yX1_next cX1_next 4 (Option.some Jvm.ClassFile.FieldType.int)) ({ frames := 2, cells := 0, slots := 0, locals := 43 }) (va_Pc [.int (iI q_), .int (iI d)] (rdB G CL (TY g) (E) [])) (QcRead ((iI (nxC q_ d)))) 0 0 (fun _ => False) := by
  refine Met.at (by decide) (Nat.le_of_ble_eq_true rfl) ?_
  intro p e s m below meth c hx hb hr hlk hml hown hnm hts hB ls hl
  have hown : s.vm.findClass RX1 = some m.cls := hown
  obtain ⟨hP, hK, hEs⟩ := hB
  have hSt : Stab (fun _ => False) E := hEE.no
  have hS : va_S (fun _ => False) s.heap s.heap [] := va_S.rf
  have nw : nW s := (hEE.cs s hEs).2.2.2.2
  have zta := (hEE.cs s hEs).1.narrow (B := (fun _ => False)) (fun _ z => z.elim)
  have tta := (hEE.cs s hEs).2.1.narrow (B := (fun _ => False)) (fun _ z => z.elim)
  have ztd := (hEE.cs s hEs).2.2.1.narrow (B := (fun _ => False)) (fun _ z => z.elim)
  have ttd := (hEE.cs s hEs).2.2.2.1.narrow (B := (fun _ => False)) (fun _ z => z.elim)
  have hl : lv_has ls 4 [(0, .int (iI q_)), (1, .int (iI d))] := hl
  refine lv_iload_n hx hb dX1_next_0 rfl (lv_at hl 0 rfl) ?_
  refine lv_bipush (v := iI 16) hx hb dX1_next_1 rfl ?_
  refine g_irem hx hb dX1_next_3 ⟨⟨by omega, by omega⟩, ⟨by decide, by decide⟩⟩ ?_
  refine va_gets hx hb zta hS hown (hts _ q506) (fun _ h9 => h9) dX1_next_4 ?_
  refine lv_iload_n hx hb dX1_next_7 rfl (lv_at hl 1 rfl) ?_
  refine g_ti (f := dx) hx hb tta hS (i := d) (⟨by omega, by omega⟩) dX1_next_8 ?_
  have w1 := dx_rng d
  refine g_iadd hx hb dX1_next_9 ?_
  refine lv_istore_n (lv' := [(2, .int (iI ((q_ % 16) + (dx d)))), (0, .int (iI q_)), (1, .int (iI d))]) hx hb dX1_next_10 rfl hl (by decide) rfl (fun ls hl => ?_)
  refine lv_iload_n hx hb dX1_next_11 rfl (lv_at hl 1 rfl) ?_
  refine lv_bipush (v := iI 16) hx hb dX1_next_12 rfl ?_
  refine g_idiv hx hb dX1_next_14 ⟨⟨by omega, by omega⟩, ⟨by decide, by decide⟩⟩ ?_
  refine va_gets hx hb ztd hS hown (hts _ q507) (fun _ h9 => h9) dX1_next_15 ?_
  refine lv_iload_n hx hb dX1_next_18 rfl (lv_at hl 2 rfl) ?_
  refine g_ti (f := dy) hx hb ttd hS (i := d) (⟨by omega, by omega⟩) dX1_next_19 ?_
  have w2 := dy_rng d
  refine g_iadd hx hb dX1_next_20 ?_
  refine lv_istore_n (lv' := [(3, .int (iI ((q_ / 16) + (dy d)))), (2, .int (iI ((q_ % 16) + (dx d)))), (0, .int (iI q_)), (1, .int (iI d))]) hx hb dX1_next_21 rfl hl (by decide) rfl (fun ls hl => ?_)
  refine lv_iload_n hx hb dX1_next_22 rfl (lv_at hl 1 rfl) ?_
  refine lv_iload_n hx hb dX1_next_23 rfl (lv_at hl 0 rfl) ?_
  refine g_callS (A := fun _ => False) (As := [.int (iI ((q_ % 16) + (dx d))), .int (iI ((q_ / 16) + (dy d)))]) (rest := []) (m_X1_isSquare l G g ((q_ % 16) + (dx d)) ((q_ / 16) + (dy d)) (⟨by omega, by omega⟩) (⟨by omega, by omega⟩)) hx hb hml hown hts Stab.tt hK hP va_S.rf trivial [] rfl q508 q509 q94 q510 hd_X1_isSquare rfl rfl ⟨Nat.le_of_ble_eq_true rfl, Nat.le_of_ble_eq_true rfl⟩ rfl hl rfl (Nat.le_of_ble_eq_true rfl) ⟨Nat.le_refl _, Nat.le_refl _⟩ dX1_next_24 ?_
  have hJ3 : ∀ ls : Array Slot, lv_has ls 4 [(0, .int (iI q_)), (1, .int (iI d)), (2, .int (iI ((q_ % 16) + (dx d)))), (3, .int (iI ((q_ / 16) + (dy d))))] → W p l e ({ frames := 2, cells := 0, slots := 0, locals := 43 }) s m ([.int (iI q_), .int (iI d)] : List Value).toArray below meth c s.heap [] 0 0 (MQ below (QcRead ((iI (nxC q_ d)))) ([.int (iI q_), .int (iI d)] : List Value).toArray s 0 0 (fun _ => False)) (F0 m 40 ls [.int (iI (zi (isSq ((q_ % 16) + (dx d)) ((q_ / 16) + (dy d))) ((16 * ((q_ / 16) + (dy d))) + ((q_ % 16) + (dx d))) (-1)))]) := by
    intro ls hl
    exact g_iret hx hb hr hlk (rfl) dX1_next_40
  refine g_ifq_eq (tgt := 39) hx hb dX1_next_27 (by decide) (fun c4 => ?_) (fun c4 => ?_)
  · refine lv_iconst (v := iI (-1)) hx hb dX1_next_39 rfl ?_
    refine g_eq (b := zi (isSq ((q_ % 16) + (dx d)) ((q_ / 16) + (dy d))) ((16 * ((q_ / 16) + (dy d))) + ((q_ % 16) + (dx d))) (-1)) ((zi_f c4)).symm ?_
    exact hJ3 ls (lv_sub hl [2, 3, 1, 0] rfl)
  · refine lv_bipush (v := iI 16) hx hb dX1_next_30 rfl ?_
    refine lv_iload_n hx hb dX1_next_32 rfl (lv_at hl 0 rfl) ?_
    refine g_imul hx hb dX1_next_33 ?_
    refine lv_iload_n hx hb dX1_next_34 rfl (lv_at hl 1 rfl) ?_
    refine g_iadd hx hb dX1_next_35 ?_
    refine lv_goto (tgt := 40) hx hb dX1_next_36 (by decide) ?_
    refine g_eq (b := zi (isSq ((q_ % 16) + (dx d)) ((q_ / 16) + (dy d))) ((16 * ((q_ / 16) + (dy d))) + ((q_ % 16) + (dx d))) (-1)) ((zi_t c4)).symm ?_
    exact hJ3 ls (lv_sub hl [2, 3, 1, 0] rfl)
theorem hd_X1_isRoom : yX1_isRoom.cls = RX1 ∧ yX1_isRoom.cls ≠ "java/lang/invoke/MethodHandle" ∧ yX1_isRoom.cls ≠ "java/lang/invoke/VarHandle" ∧ (parseMethodDescriptor yX1_isRoom.desc).map (fun d => d.parameters.length) = some 1 := by decide +kernel
set_option maxHeartbeats 1000000 in
set_option maxRecDepth 100000 in
theorem m_X1_isRoom (l : Launch) (G : va_G) (g : Nat → ClassId) (hX : Nat) (room : Int) (xs : List Value) (hst : Nat) (ss : List Value) (hrm : Nat) (S : Int → Int) (b0 : Nat) (ta : Nat) (td : Nat) (E : State → Prop) (hF_xs_0 : xs[0]? = some (.ref hst)) (hF_ss_2 : ss[2]? = some (.ref hrm)) (hEE : okE b0 ta td E) (r_room : r32 room) : Met l yX1_isRoom (ws_ yX1_isRoom cX1_isRoom 2 (Option.some Jvm.ClassFile.FieldType.boolean)) ({ frames := 1, cells := 0, slots := 0, locals := 22 }) (va_Pc [.ref hX, .int (iI room)] (rdB G CL (TY g) (E) [(hX, .inr (0, xs)), (hst, .inr (1, ss)), (hrm, .inl (g 1, 6, .inl (aP (isTh S))))])) (QcRead ((iI (qz (isTh S room))))) 0 0 (fun _ => False) := by
  refine Met.at (by decide) (Nat.le_of_ble_eq_true rfl) ?_
  intro p e s m below meth c hx hb hr hlk hml hown hnm hts hB ls hl
  have hown : s.vm.findClass RX1 = some m.cls := hown
  obtain ⟨hP, hK, hEs⟩ := hB
  have hSt : Stab (fun _ => False) E := hEE.no
  have hS : va_S (fun _ => False) s.heap s.heap [] := va_S.rf
  have nw : nW s := (hEE.cs s hEs).2.2.2.2
  have hl : lv_has ls 2 [(0, .ref hX), (1, .int (iI room))] := hl
  refine lv_iload_n hx hb dX1_isRoom_0 rfl (lv_at hl 1 rfl) ?_
  refine lv_iconst (v := iI 0) hx hb dX1_isRoom_1 rfl ?_
  refine lv_iconst (v := iI 5) hx hb dX1_isRoom_2 rfl ?_
  refine g_callS (A := fun _ => False) (As := [.int (iI room), .int (iI 0), .int (iI 5)]) (rest := []) (m_X1_inRange l G g room 0 5 r_room ⟨by decide, by decide⟩ ⟨by decide, by decide⟩) hx hb hml hown hts Stab.tt hK hP va_S.rf trivial [] rfl q511 q213 q94 q214 hd_X1_inRange rfl rfl ⟨Nat.le_of_ble_eq_true rfl, Nat.le_of_ble_eq_true rfl⟩ rfl hl rfl (Nat.le_of_ble_eq_true rfl) ⟨Nat.le_refl _, Nat.le_refl _⟩ dX1_isRoom_3 ?_
  have hJ1 : ∀ ls : Array Slot, lv_has ls 2 [(0, .ref hX), (1, .int (iI room))] → W p l e ({ frames := 1, cells := 0, slots := 0, locals := 22 }) s m ([.ref hX, .int (iI room)] : List Value).toArray below meth c s.heap [] 0 0 (MQ below (QcRead ((iI (qz (isTh S room))))) ([.ref hX, .int (iI room)] : List Value).toArray s 0 0 (fun _ => False)) (F0 m 26 ls [.int (iI (qz ((0 ≤ room ∧ room ≤ 5) ∧ ((isTh S) room))))]) := by
    intro ls hl
    exact g_zret hx hb hr hlk (⟨fun h => h.2, fun h => ⟨h.1, h⟩⟩) dX1_isRoom_26
  refine g_ifq_eq (tgt := 25) hx hb dX1_isRoom_6 (by decide) (fun c2 => ?_) (fun c2 => ?_)
  · refine lv_iconst (v := iI 0) hx hb dX1_isRoom_25 rfl ?_
    refine g_eq (b := qz ((0 ≤ room ∧ room ≤ 5) ∧ ((isTh S) room))) (qz_f (fun xx => (c2 xx.1))).symm ?_
    exact hJ1 ls (lv_sub hl [0, 1] rfl)
  · refine lv_aload_n hx hb dX1_isRoom_9 rfl (lv_at hl 0 rfl) ?_
    refine va_get (D := G) (ci := 0) (v := .ref hst) (C := RX1) (T := TX1) (N := 13) hx hb hts in_X1 hown hK hP 0 rfl rfl 0 (by decide) (hts _ q248) (fun _ h9 => h9) hF_xs_0 dX1_isRoom_10 ?_
    refine va_getN (D := G) (ci := 1) (v := .ref hrm) (C := RX2) (T := TX2) (N := 4) hx hb hts in_X2 hown hK hP 1 rfl rfl 2 (by decide) (va_Nw.use rfl (nw _ q148 rfl)) (fun _ h9 => h9) hF_ss_2 dX1_isRoom_13 ?_
    refine lv_iload_n hx hb dX1_isRoom_16 rfl (lv_at hl 1 rfl) ?_
    refine g_zald hx hb hK hP 2 1 rfl rfl (i := room) (⟨by omega, by omega⟩) (by decide) dX1_isRoom_17 ?_
    refine g_ifq_eq (tgt := 25) hx hb dX1_isRoom_18 (by decide) (fun c3 => ?_) (fun c3 => ?_)
    · refine lv_iconst (v := iI 0) hx hb dX1_isRoom_25 rfl ?_
      refine g_eq (b := qz ((0 ≤ room ∧ room ≤ 5) ∧ ((isTh S) room))) (qz_f (fun xx => (c3 xx.2))).symm ?_
      exact hJ1 ls (lv_sub hl [0, 1] rfl)
    · refine lv_iconst (v := iI 1) hx hb dX1_isRoom_21 rfl ?_
      refine lv_goto (tgt := 26) hx hb dX1_isRoom_22 (by decide) ?_
      refine g_eq (b := qz ((0 ≤ room ∧ room ≤ 5) ∧ ((isTh S) room))) (qz_t ⟨c2, c3⟩).symm ?_
      exact hJ1 ls (lv_sub hl [0, 1] rfl)
theorem hd_X1_canStand : yX1_canStand.cls = RX1 ∧ yX1_canStand.cls ≠ "java/lang/invoke/MethodHandle" ∧ yX1_canStand.cls ≠ "java/lang/invoke/VarHandle" ∧ (parseMethodDescriptor yX1_canStand.desc).map (fun d => d.parameters.length) = some 1 := by decide +kernel
set_option maxHeartbeats 1000000 in
set_option maxRecDepth 100000 in
theorem m_X1_canStand (l : Launch) (G : va_G) (g : Nat → ClassId) (hX : Nat) (place : Int) (xs : List Value) (hst : Nat) (br : Int) (ss : List Value) (hsq : Nat) (S : Int → Int) (b0 : Nat) (ta : Nat) (td : Nat) (E : State → Prop) (hF_xs_0 : xs[0]? = some (.ref hst)) (hF_xs_10 : xs[10]? = some (.int (iI br))) (hF_ss_0 : ss[0]? = some (.ref hsq)) (hEE : okE b0 ta td E) (r_place : r32 place) (kS : rgS S) (hbr : 1 ≤ br ∧ br ≤ 3) (hp : 0 ≤ place ∧ place ≤ 191) : Met l yX1_canStand (ws_ yX1_canStand cX1_canStand 6 (Option.some Jvm.ClassFile.FieldType.boolean)) ({ frames := 0, cells := 0, slots := 0, locals := 0 }) (va_Pc [.ref hX, .int (iI place)] (rdB G CL (TY g) (E) [(hX, .inr (0, xs)), (hst, .inr (1, ss)), (hsq, .inl (g 0, 192, .inl (aI S)))])) (QcRead ((iI (qz (plc S br (place % 16) (place / 16)))))) 0 0 (fun _ => False) := by
  refine Met.at (by decide) (Nat.le_of_ble_eq_true rfl) ?_
  intro p e s m below meth c hx hb hr hlk hml hown hnm hts hB ls hl
  have hown : s.vm.findClass RX1 = some m.cls := hown
  obtain ⟨hP, hK, hEs⟩ := hB
  have hSt : Stab (fun _ => False) E := hEE.no
  have hS : va_S (fun _ => False) s.heap s.heap [] := va_S.rf
  have nw : nW s := (hEE.cs s hEs).2.2.2.2
  have hl : lv_has ls 6 [(0, .ref hX), (1, .int (iI place))] := hl
  have bb := bb_rng hbr
  refine lv_iload_n hx hb dX1_canStand_0 rfl (lv_at hl 1 rfl) ?_
  refine lv_bipush (v := iI 16) hx hb dX1_canStand_1 rfl ?_
  refine g_irem hx hb dX1_canStand_3 ⟨⟨by omega, by omega⟩, ⟨by decide, by decide⟩⟩ ?_
  refine lv_istore_n (lv' := [(2, .int (iI (place % 16))), (0, .ref hX), (1, .int (iI place))]) hx hb dX1_canStand_4 rfl hl (by decide) rfl (fun ls hl => ?_)
  refine lv_iload_n hx hb dX1_canStand_5 rfl (lv_at hl 2 rfl) ?_
  refine lv_bipush (v := iI 16) hx hb dX1_canStand_6 rfl ?_
  refine g_idiv hx hb dX1_canStand_8 ⟨⟨by omega, by omega⟩, ⟨by decide, by decide⟩⟩ ?_
  refine lv_istore_n (lv' := [(3, .int (iI (place / 16))), (2, .int (iI (place % 16))), (0, .ref hX), (1, .int (iI place))]) hx hb dX1_canStand_9 rfl hl (by decide) rfl (fun ls hl => ?_)
  refine lv_iload_n hx hb dX1_canStand_10 rfl (lv_at hl 1 rfl) ?_
  refine lv_aload_n hx hb dX1_canStand_11 rfl (lv_at hl 2 rfl) ?_
  refine va_get (D := G) (ci := 0) (v := .int (iI br)) (C := RX1) (T := TX1) (N := 13) hx hb hts in_X1 hown hK hP 0 rfl rfl 10 (by decide) (hts _ q258) (fun _ h9 => h9) hF_xs_10 dX1_canStand_12 ?_
  refine g_iadd hx hb dX1_canStand_15 ?_
  refine lv_bipush (v := iI 16) hx hb dX1_canStand_16 rfl ?_
  have hJ1 : ∀ ls : Array Slot, lv_has ls 6 [(0, .ref hX), (1, .int (iI place)), (2, .int (iI (place % 16))), (3, .int (iI (place / 16)))] → W p l e ({ frames := 0, cells := 0, slots := 0, locals := 0 }) s m ([.ref hX, .int (iI place)] : List Value).toArray below meth c s.heap [] 0 0 (MQ below (QcRead ((iI (qz (plc S br (place % 16) (place / 16)))))) ([.ref hX, .int (iI place)] : List Value).toArray s 0 0 (fun _ => False)) (F0 m 37 ls [.int (iI (qz (¬ (16 < ((place % 16) + br)) ∧ (¬ (12 < ((place / 16) + br))))))]) := by
    intro ls hl
    refine lv_istore (lv' := [(4, .int (iI (qz (¬ (16 < ((place % 16) + br)) ∧ (¬ (12 < ((place / 16) + br))))))), (0, .ref hX), (1, .int (iI place)), (2, .int (iI (place % 16))), (3, .int (iI (place / 16)))]) hx hb dX1_canStand_37 hl (by decide) rfl (fun ls hl => ?_)
    refine lv_iconst (v := iI 0) hx hb dX1_canStand_39 rfl ?_
    refine lv_istore (lv' := [(5, .int (iI 0)), (4, .int (iI (qz (¬ (16 < ((place % 16) + br)) ∧ (¬ (12 < ((place / 16) + br))))))), (0, .ref hX), (1, .int (iI place)), (2, .int (iI (place % 16))), (3, .int (iI (place / 16)))]) hx hb dX1_canStand_40 hl (by decide) rfl (fun ls hl => ?_)
    have lp42 : ∀ (n : Nat) (k : Nat), ((k : Int) ≤ br * br) → (br * br).toNat - k = n → ∀ ls : Array Slot, lv_has ls 6 [(0, .ref hX), (1, .int (iI place)), (2, .int (iI (place % 16))), (3, .int (iI (place / 16))), (4, .int (iI (qz (stN S br place k)))), (5, .int (iI (k : Int)))] → W p l e ({ frames := 0, cells := 0, slots := 0, locals := 0 }) s m ([.ref hX, .int (iI place)] : List Value).toArray below meth c s.heap [] 0 0 (MQ below (QcRead ((iI (qz (plc S br (place % 16) (place / 16)))))) ([.ref hX, .int (iI place)] : List Value).toArray s 0 0 (fun _ => False)) (F0 m 42 ls []) := by
      intro n
      refine Nat.strongRecOn n ?_
      intro n ih42 k hk hmu42 ls hl
      refine lv_iload hx hb dX1_canStand_42 (lv_at hl 5 rfl) ?_
      refine lv_aload_n hx hb dX1_canStand_44 rfl (lv_at hl 0 rfl) ?_
      refine va_get (D := G) (ci := 0) (v := .int (iI br)) (C := RX1) (T := TX1) (N := 13) hx hb hts in_X1 hown hK hP 0 rfl rfl 10 (by decide) (hts _ q258) (fun _ h9 => h9) hF_xs_10 dX1_canStand_45 ?_
      refine lv_aload_n hx hb dX1_canStand_48 rfl (lv_at hl 0 rfl) ?_
      refine va_get (D := G) (ci := 0) (v := .int (iI br)) (C := RX1) (T := TX1) (N := 13) hx hb hts in_X1 hown hK hP 0 rfl rfl 10 (by decide) (hts _ q258) (fun _ h9 => h9) hF_xs_10 dX1_canStand_49 ?_
      refine g_imul hx hb dX1_canStand_52 ?_
      refine g_icmp_ge (tgt := 105) hx hb dX1_canStand_53 (by decide) ⟨⟨by omega, by omega⟩, ⟨by omega, by omega⟩⟩ (fun c2 => ?_) (fun c2 => ?_)
      · refine lv_iload hx hb dX1_canStand_105 (lv_at hl 4 rfl) ?_
        exact g_zret hx hb hr hlk (st_plc hbr hp hk (Or.inl (by omega))) dX1_canStand_107
      · refine lv_iload hx hb dX1_canStand_56 (lv_at hl 4 rfl) ?_
        refine g_ifq_eq (tgt := 105) hx hb dX1_canStand_58 (by decide) (fun c3 => ?_) (fun c3 => ?_)
        · refine lv_iload hx hb dX1_canStand_105 (lv_at hl 4 rfl) ?_
          exact g_zret hx hb hr hlk (st_plc hbr hp hk (Or.inr (by assumption))) dX1_canStand_107
        · have dk := dm (k := (k : Int)) (b := br) (by omega) hbr.1 (by assumption)
          have ip : inPl br place := ⟨hp.1, hp.2, (show stN S br place k by assumption).1⟩
          refine lv_aload_n hx hb dX1_canStand_61 rfl (lv_at hl 0 rfl) ?_
          refine va_get (D := G) (ci := 0) (v := .ref hst) (C := RX1) (T := TX1) (N := 13) hx hb hts in_X1 hown hK hP 0 rfl rfl 0 (by decide) (hts _ q248) (fun _ h9 => h9) hF_xs_0 dX1_canStand_62 ?_
          refine va_getN (D := G) (ci := 1) (v := .ref hsq) (C := RX2) (T := TX2) (N := 4) hx hb hts in_X2 hown hK hP 1 rfl rfl 0 (by decide) (va_Nw.use rfl (nw _ q144 rfl)) (fun _ h9 => h9) hF_ss_0 dX1_canStand_65 ?_
          refine lv_iload_n hx hb dX1_canStand_68 rfl (lv_at hl 1 rfl) ?_
          refine lv_bipush (v := iI 16) hx hb dX1_canStand_69 rfl ?_
          refine lv_iload hx hb dX1_canStand_71 (lv_at hl 5 rfl) ?_
          refine lv_aload_n hx hb dX1_canStand_73 rfl (lv_at hl 0 rfl) ?_
          refine va_get (D := G) (ci := 0) (v := .int (iI br)) (C := RX1) (T := TX1) (N := 13) hx hb hts in_X1 hown hK hP 0 rfl rfl 10 (by decide) (hts _ q258) (fun _ h9 => h9) hF_xs_10 dX1_canStand_74 ?_
          refine g_idiv hx hb dX1_canStand_77 ⟨⟨by omega, by omega⟩, ⟨by omega, by omega⟩⟩ ?_
          refine g_imul hx hb dX1_canStand_78 ?_
          refine g_iadd hx hb dX1_canStand_79 ?_
          refine lv_iload hx hb dX1_canStand_80 (lv_at hl 5 rfl) ?_
          refine lv_aload_n hx hb dX1_canStand_82 rfl (lv_at hl 0 rfl) ?_
          refine va_get (D := G) (ci := 0) (v := .int (iI br)) (C := RX1) (T := TX1) (N := 13) hx hb hts in_X1 hown hK hP 0 rfl rfl 10 (by decide) (hts _ q258) (fun _ h9 => h9) hF_xs_10 dX1_canStand_83 ?_
          refine g_irem hx hb dX1_canStand_86 ⟨⟨by omega, by omega⟩, ⟨by omega, by omega⟩⟩ ?_
          refine g_iadd hx hb dX1_canStand_87 ?_
          refine g_iald hx hb hK hP 2 0 rfl rfl (i := (place + (16 * ((k : Int) / br))) + ((k : Int) % br)) (⟨by omega, by omega⟩) (by decide) dX1_canStand_88 ?_
          have w4 := kS ((place + (16 * ((k : Int) / br))) + ((k : Int) % br)) (by omega) (by omega)
          have hJ5 : ∀ ls : Array Slot, lv_has ls 6 [(0, .ref hX), (1, .int (iI place)), (2, .int (iI (place % 16))), (3, .int (iI (place / 16))), (4, .int (iI (qz (stN S br place k)))), (5, .int (iI (k : Int)))] → W p l e ({ frames := 0, cells := 0, slots := 0, locals := 0 }) s m ([.ref hX, .int (iI place)] : List Value).toArray below meth c s.heap [] 0 0 (MQ below (QcRead ((iI (qz (plc S br (place % 16) (place / 16)))))) ([.ref hX, .int (iI place)] : List Value).toArray s 0 0 (fun _ => False)) (F0 m 97 ls [.int (iI (qz ((S ((place + (16 * ((k : Int) / br))) + ((k : Int) % br))) < 0)))]) := by
            intro ls hl
            refine lv_istore (lv' := [(4, .int (iI (qz ((S ((place + (16 * ((k : Int) / br))) + ((k : Int) % br))) < 0)))), (0, .ref hX), (1, .int (iI place)), (2, .int (iI (place % 16))), (3, .int (iI (place / 16))), (5, .int (iI (k : Int)))]) hx hb dX1_canStand_97 hl (by decide) rfl (fun ls hl => ?_)
            refine g_iinc (lv' := [(5, .int (iI ((k : Int) + 1))), (4, .int (iI (qz ((S ((place + (16 * ((k : Int) / br))) + ((k : Int) % br))) < 0)))), (0, .ref hX), (1, .int (iI place)), (2, .int (iI (place % 16))), (3, .int (iI (place / 16)))]) hx hb dX1_canStand_99 hl (k := 5) rfl (by decide) rfl (fun ls hl => ?_)
            refine lv_goto (tgt := 42) hx hb dX1_canStand_102 (by decide) ?_
            exact ih42 _ (by omega) (k + 1) (by omega) rfl ls (by rw [show qz (stN S br place (k + 1)) = qz ((S ((place + (16 * ((k : Int) / br))) + ((k : Int) % br))) < 0) from qz_congr (st_next (by assumption))]; exact lv_sub hl [2, 3, 4, 5, 1, 0] rfl)
          refine g_if_ge (tgt := 96) hx hb dX1_canStand_89 (by decide) ⟨by omega, by omega⟩ (fun c6 => ?_) (fun c6 => ?_)
          · refine lv_iconst (v := iI 0) hx hb dX1_canStand_96 rfl ?_
            refine g_eq (b := qz ((S ((place + (16 * ((k : Int) / br))) + ((k : Int) % br))) < 0)) (qz_f (fun xx => (c6 xx))).symm ?_
            exact hJ5 ls (lv_sub hl [0, 1, 2, 3, 4, 5] rfl)
          · refine lv_iconst (v := iI 1) hx hb dX1_canStand_92 rfl ?_
            refine lv_goto (tgt := 97) hx hb dX1_canStand_93 (by decide) ?_
            refine g_eq (b := qz ((S ((place + (16 * ((k : Int) / br))) + ((k : Int) % br))) < 0)) (qz_t c6).symm ?_
            exact hJ5 ls (lv_sub hl [0, 1, 2, 3, 4, 5] rfl)
    exact lp42 _ 0 (by omega) rfl ls (by rw [show qz (stN S br place 0) = qz (¬ (16 < ((place % 16) + br)) ∧ (¬ (12 < ((place / 16) + br)))) from qz_congr ⟨fun h => by have := h.1; omega, fun h => ⟨by omega, fun j h0 h1 => by omega⟩⟩]; exact lv_sub hl [2, 3, 4, 5, 1, 0] rfl)
  refine g_icmp_gt (tgt := 36) hx hb dX1_canStand_18 (by decide) ⟨⟨by omega, by omega⟩, ⟨by decide, by decide⟩⟩ (fun c7 => ?_) (fun c7 => ?_)
  · refine lv_iconst (v := iI 0) hx hb dX1_canStand_36 rfl ?_
    refine g_eq (b := qz (¬ (16 < ((place % 16) + br)) ∧ (¬ (12 < ((place / 16) + br))))) (qz_f (fun xx => (xx.1 c7))).symm ?_
    exact hJ1 ls (lv_sub hl [2, 3, 1, 0] rfl)
  · refine lv_iload_n hx hb dX1_canStand_21 rfl (lv_at hl 0 rfl) ?_
    refine lv_aload_n hx hb dX1_canStand_22 rfl (lv_at hl 2 rfl) ?_
    refine va_get (D := G) (ci := 0) (v := .int (iI br)) (C := RX1) (T := TX1) (N := 13) hx hb hts in_X1 hown hK hP 0 rfl rfl 10 (by decide) (hts _ q258) (fun _ h9 => h9) hF_xs_10 dX1_canStand_23 ?_
    refine g_iadd hx hb dX1_canStand_26 ?_
    refine lv_bipush (v := iI 12) hx hb dX1_canStand_27 rfl ?_
    refine g_icmp_gt (tgt := 36) hx hb dX1_canStand_29 (by decide) ⟨⟨by omega, by omega⟩, ⟨by decide, by decide⟩⟩ (fun c8 => ?_) (fun c8 => ?_)
    · refine lv_iconst (v := iI 0) hx hb dX1_canStand_36 rfl ?_
      refine g_eq (b := qz (¬ (16 < ((place % 16) + br)) ∧ (¬ (12 < ((place / 16) + br))))) (qz_f (fun xx => (xx.2 c8))).symm ?_
      exact hJ1 ls (lv_sub hl [2, 3, 1, 0] rfl)
    · refine lv_iconst (v := iI 1) hx hb dX1_canStand_32 rfl ?_
      refine lv_goto (tgt := 37) hx hb dX1_canStand_33 (by decide) ?_
      refine g_eq (b := qz (¬ (16 < ((place % 16) + br)) ∧ (¬ (12 < ((place / 16) + br))))) (qz_t ⟨c7, c8⟩).symm ?_
      exact hJ1 ls (lv_sub hl [2, 3, 1, 0] rfl)
theorem hd_X1_isAt : yX1_isAt.cls = RX1 ∧ yX1_isAt.cls ≠ "java/lang/invoke/MethodHandle" ∧ yX1_isAt.cls ≠ "java/lang/invoke/VarHandle" ∧ (parseMethodDescriptor yX1_isAt.desc).map (fun d => d.parameters.length) = some 2 := by decide +kernel
set_option maxHeartbeats 1000000 in
set_option maxRecDepth 100000 in
theorem m_X1_isAt (l : Launch) (G : va_G) (g : Nat → ClassId) (hX : Nat) (place : Int) (room : Int) (xs : List Value) (hst : Nat) (br : Int) (ss : List Value) (hsq : Nat) (S : Int → Int) (b0 : Nat) (ta : Nat) (td : Nat) (E : State → Prop) (hF_xs_0 : xs[0]? = some (.ref hst)) (hF_xs_10 : xs[10]? = some (.int (iI br))) (hF_ss_0 : ss[0]? = some (.ref hsq)) (hEE : okE b0 ta td E) (r_place : r32 place) (r_room : r32 room) (kS : rgS S) (hbr : 1 ≤ br ∧ br ≤ 3) (hp : inPl br place) (hrm : 0 ≤ room ∧ room ≤ 98) : Met l yX1_isAt (ws_ yX1_isAt cX1_isAt 6 (Option.some Jvm.ClassFile.FieldType.boolean)) ({ frames := 2, cells := 0, slots := 0, locals := 46 }) (va_Pc [.ref hX, .int (iI place), .int (iI room)] (rdB G CL (TY g) (E) [(hX, .inr (0, xs)), (hst, .inr (1, ss)), (hsq, .inl (g 0, 192, .inl (aI S)))])) (QcRead ((iI (qz (atR S br place room))))) 0 0 (fun _ => False) := by
  refine Met.at (by decide) (Nat.le_of_ble_eq_true rfl) ?_
  intro p e s m below meth c hx hb hr hlk hml hown hnm hts hB ls hl
  have hown : s.vm.findClass RX1 = some m.cls := hown
  obtain ⟨hP, hK, hEs⟩ := hB
  have hSt : Stab (fun _ => False) E := hEE.no
  have hS : va_S (fun _ => False) s.heap s.heap [] := va_S.rf
  have nw : nW s := (hEE.cs s hEs).2.2.2.2
  have hl : lv_has ls 6 [(0, .ref hX), (1, .int (iI place)), (2, .int (iI room))] := hl
  have bb := bb_rng hbr
  have e4 : 4 * br * br = 4 * (br * br) := Int.mul_assoc 4 br br
  refine lv_iconst (v := iI 0) hx hb dX1_isAt_0 rfl ?_
  refine lv_istore_n (lv' := [(3, .int (iI 0)), (0, .ref hX), (1, .int (iI place)), (2, .int (iI room))]) hx hb dX1_isAt_1 rfl hl (by decide) rfl (fun ls hl => ?_)
  refine lv_iconst (v := iI 0) hx hb dX1_isAt_2 rfl ?_
  refine lv_istore (lv' := [(4, .int (iI 0)), (3, .int (iI 0)), (0, .ref hX), (1, .int (iI place)), (2, .int (iI room))]) hx hb dX1_isAt_3 hl (by decide) rfl (fun ls hl => ?_)
  have lp5 : ∀ (n : Nat) (k : Nat), ((k : Int) ≤ 4 * br * br) → (4 * br * br).toNat - k = n → ∀ ls : Array Slot, lv_has ls 6 [(0, .ref hX), (1, .int (iI place)), (2, .int (iI room)), (3, .int (iI (qz (atC S br place room k)))), (4, .int (iI (k : Int)))] → W p l e ({ frames := 2, cells := 0, slots := 0, locals := 46 }) s m ([.ref hX, .int (iI place), .int (iI room)] : List Value).toArray below meth c s.heap [] 0 0 (MQ below (QcRead ((iI (qz (atR S br place room))))) ([.ref hX, .int (iI place), .int (iI room)] : List Value).toArray s 0 0 (fun _ => False)) (F0 m 5 ls []) := by
    intro n
    refine Nat.strongRecOn n ?_
    intro n ih5 k hk hmu5 ls hl
    refine lv_iload hx hb dX1_isAt_5 (lv_at hl 4 rfl) ?_
    refine lv_iconst (v := iI 4) hx hb dX1_isAt_7 rfl ?_
    refine lv_aload_n hx hb dX1_isAt_8 rfl (lv_at hl 0 rfl) ?_
    refine va_get (D := G) (ci := 0) (v := .int (iI br)) (C := RX1) (T := TX1) (N := 13) hx hb hts in_X1 hown hK hP 0 rfl rfl 10 (by decide) (hts _ q258) (fun _ h9 => h9) hF_xs_10 dX1_isAt_9 ?_
    refine g_imul hx hb dX1_isAt_12 ?_
    refine lv_aload_n hx hb dX1_isAt_13 rfl (lv_at hl 0 rfl) ?_
    refine va_get (D := G) (ci := 0) (v := .int (iI br)) (C := RX1) (T := TX1) (N := 13) hx hb hts in_X1 hown hK hP 0 rfl rfl 10 (by decide) (hts _ q258) (fun _ h9 => h9) hF_xs_10 dX1_isAt_14 ?_
    refine g_imul hx hb dX1_isAt_17 ?_
    refine g_icmp_ge (tgt := 78) hx hb dX1_isAt_18 (by decide) ⟨⟨by omega, by omega⟩, ⟨by omega, by omega⟩⟩ (fun c1 => ?_) (fun c1 => ?_)
    · refine lv_iload_n hx hb dX1_isAt_78 rfl (lv_at hl 3 rfl) ?_
      exact g_zret hx hb hr hlk (atC_atR hbr hp hrm (by omega)) dX1_isAt_79
    · have dk := dm (k := (k : Int) / 4) (b := br) (by omega) hbr.1 (by omega)
      refine lv_iload_n hx hb dX1_isAt_21 rfl (lv_at hl 1 rfl) ?_
      refine lv_bipush (v := iI 16) hx hb dX1_isAt_22 rfl ?_
      refine lv_iload hx hb dX1_isAt_24 (lv_at hl 4 rfl) ?_
      refine lv_iconst (v := iI 4) hx hb dX1_isAt_26 rfl ?_
      refine g_idiv hx hb dX1_isAt_27 ⟨⟨by omega, by omega⟩, ⟨by decide, by decide⟩⟩ ?_
      refine lv_aload_n hx hb dX1_isAt_28 rfl (lv_at hl 0 rfl) ?_
      refine va_get (D := G) (ci := 0) (v := .int (iI br)) (C := RX1) (T := TX1) (N := 13) hx hb hts in_X1 hown hK hP 0 rfl rfl 10 (by decide) (hts _ q258) (fun _ h9 => h9) hF_xs_10 dX1_isAt_29 ?_
      refine g_idiv hx hb dX1_isAt_32 ⟨⟨by omega, by omega⟩, ⟨by omega, by omega⟩⟩ ?_
      refine g_imul hx hb dX1_isAt_33 ?_
      refine g_iadd hx hb dX1_isAt_34 ?_
      refine lv_iload hx hb dX1_isAt_35 (lv_at hl 4 rfl) ?_
      refine lv_iconst (v := iI 4) hx hb dX1_isAt_37 rfl ?_
      refine g_idiv hx hb dX1_isAt_38 ⟨⟨by omega, by omega⟩, ⟨by decide, by decide⟩⟩ ?_
      refine lv_aload_n hx hb dX1_isAt_39 rfl (lv_at hl 0 rfl) ?_
      refine va_get (D := G) (ci := 0) (v := .int (iI br)) (C := RX1) (T := TX1) (N := 13) hx hb hts in_X1 hown hK hP 0 rfl rfl 10 (by decide) (hts _ q258) (fun _ h9 => h9) hF_xs_10 dX1_isAt_40 ?_
      refine g_irem hx hb dX1_isAt_43 ⟨⟨by omega, by omega⟩, ⟨by omega, by omega⟩⟩ ?_
      refine g_iadd hx hb dX1_isAt_44 ?_
      refine lv_istore (lv' := [(5, .int (iI ((place + (16 * (((k : Int) / 4) / br))) + (((k : Int) / 4) % br)))), (0, .ref hX), (1, .int (iI place)), (2, .int (iI room)), (3, .int (iI (qz (atC S br place room k)))), (4, .int (iI (k : Int)))]) hx hb dX1_isAt_45 hl (by decide) rfl (fun ls hl => ?_)
      refine lv_iload_n hx hb dX1_isAt_47 rfl (lv_at hl 4 rfl) ?_
      refine lv_aload_n hx hb dX1_isAt_48 rfl (lv_at hl 1 rfl) ?_
      refine va_get (D := G) (ci := 0) (v := .ref hst) (C := RX1) (T := TX1) (N := 13) hx hb hts in_X1 hown hK hP 0 rfl rfl 0 (by decide) (hts _ q248) (fun _ h9 => h9) hF_xs_0 dX1_isAt_49 ?_
      refine lv_iload hx hb dX1_isAt_52 (lv_at hl 0 rfl) ?_
      refine lv_iload hx hb dX1_isAt_54 (lv_at hl 5 rfl) ?_
      refine lv_iconst (v := iI 4) hx hb dX1_isAt_56 rfl ?_
      refine g_irem hx hb dX1_isAt_57 ⟨⟨by omega, by omega⟩, ⟨by decide, by decide⟩⟩ ?_
      refine g_callV (A := fun _ => False) (As := [.int (iI ((place + (16 * (((k : Int) / 4) / br))) + (((k : Int) / 4) % br))), .int (iI ((k : Int) % 4))]) (rest := [.int (iI (qz (atC S br place room k)))]) (m_X2_beside l G g hst ((place + (16 * (((k : Int) / 4) / br))) + (((k : Int) / 4) % br)) ((k : Int) % 4) ss hsq S b0 ta td E hF_ss_0 hEE (⟨by omega, by omega⟩) (⟨by omega, by omega⟩) kS (by omega) (by omega)) hx hb hml hown hts hSt hK hP va_S.rf hEs [1, 2] rfl (q0 := 1) rfl rfl q204 q205 q206 q95 q207 hd_X2_beside rfl rfl ⟨Nat.le_of_ble_eq_true rfl, Nat.le_of_ble_eq_true rfl⟩ rfl hl rfl (Nat.le_of_ble_eq_true rfl) ⟨Nat.le_refl _, Nat.le_refl _⟩ dX1_isAt_58 ?_
      have w2 := bes_rng kS ((place + (16 * (((k : Int) / 4) / br))) + (((k : Int) / 4) % br)) ((k : Int) % 4)
      refine lv_iload_n hx hb dX1_isAt_61 rfl (lv_at hl 3 rfl) ?_
      have hJ3 : ∀ ls : Array Slot, lv_has ls 6 [(0, .ref hX), (1, .int (iI place)), (2, .int (iI room)), (3, .int (iI (qz (atC S br place room k)))), (4, .int (iI (k : Int))), (5, .int (iI ((place + (16 * (((k : Int) / 4) / br))) + (((k : Int) / 4) % br))))] → W p l e ({ frames := 2, cells := 0, slots := 0, locals := 46 }) s m ([.ref hX, .int (iI place), .int (iI room)] : List Value).toArray below meth c s.heap [] 0 0 (MQ below (QcRead ((iI (qz (atR S br place room))))) ([.ref hX, .int (iI place), .int (iI room)] : List Value).toArray s 0 0 (fun _ => False)) (F0 m 70 ls [.int (iI (qz ((bes S ((place + (16 * (((k : Int) / 4) / br))) + (((k : Int) / 4) % br)) ((k : Int) % 4)) = room))), .int (iI (qz (atC S br place room k)))]) := by
        intro ls hl
        refine g_iorq hx hb dX1_isAt_70 ?_
        refine lv_istore_n (lv' := [(3, .int (iI (qz ((atC S br place room k) ∨ ((bes S ((place + (16 * (((k : Int) / 4) / br))) + (((k : Int) / 4) % br)) ((k : Int) % 4)) = room))))), (0, .ref hX), (1, .int (iI place)), (2, .int (iI room)), (4, .int (iI (k : Int))), (5, .int (iI ((place + (16 * (((k : Int) / 4) / br))) + (((k : Int) / 4) % br))))]) hx hb dX1_isAt_71 rfl hl (by decide) rfl (fun ls hl => ?_)
        refine g_iinc (lv' := [(4, .int (iI ((k : Int) + 1))), (3, .int (iI (qz ((atC S br place room k) ∨ ((bes S ((place + (16 * (((k : Int) / 4) / br))) + (((k : Int) / 4) % br)) ((k : Int) % 4)) = room))))), (0, .ref hX), (1, .int (iI place)), (2, .int (iI room)), (5, .int (iI ((place + (16 * (((k : Int) / 4) / br))) + (((k : Int) / 4) % br))))]) hx hb dX1_isAt_72 hl (k := 4) rfl (by decide) rfl (fun ls hl => ?_)
        refine lv_goto (tgt := 5) hx hb dX1_isAt_75 (by decide) ?_
        exact ih5 _ (by omega) (k + 1) (by omega) rfl ls (lv_sub hl [2, 3, 4, 1, 0] rfl)
      refine g_icmp_ne (tgt := 69) hx hb dX1_isAt_62 (by decide) ⟨⟨by omega, by omega⟩, r_room⟩ (fun c4 => ?_) (fun c4 => ?_)
      · refine lv_iconst (v := iI 0) hx hb dX1_isAt_69 rfl ?_
        refine g_eq (b := qz ((bes S ((place + (16 * (((k : Int) / 4) / br))) + (((k : Int) / 4) % br)) ((k : Int) % 4)) = room)) (qz_f (fun xx => (c4 xx))).symm ?_
        exact hJ3 ls (lv_sub hl [1, 2, 3, 4, 5, 0] rfl)
      · refine lv_iconst (v := iI 1) hx hb dX1_isAt_65 rfl ?_
        refine lv_goto (tgt := 70) hx hb dX1_isAt_66 (by decide) ?_
        refine g_eq (b := qz ((bes S ((place + (16 * (((k : Int) / 4) / br))) + (((k : Int) / 4) % br)) ((k : Int) % 4)) = room)) (qz_t c4).symm ?_
        exact hJ3 ls (lv_sub hl [1, 2, 3, 4, 5, 0] rfl)
  exact lp5 _ 0 (by omega) rfl ls (by rw [show qz (atC S br place room 0) = 0 from qz_f (fun h => h)]; exact lv_sub hl [2, 3, 4, 1, 0] rfl)
theorem hd_X1_freeRoom : yX1_freeRoom.cls = RX1 ∧ yX1_freeRoom.cls ≠ "java/lang/invoke/MethodHandle" ∧ yX1_freeRoom.cls ≠ "java/lang/invoke/VarHandle" ∧ (parseMethodDescriptor yX1_freeRoom.desc).map (fun d => d.parameters.length) = some 0 := by decide +kernel
set_option maxHeartbeats 1000000 in
set_option maxRecDepth 100000 in
theorem m_X1_freeRoom (l : Launch) (G : va_G) (g : Nat → ClassId) (hX : Nat) (xs : List Value) (hst : Nat) (ss : List Value) (hrm : Nat) (S : Int → Int) (b0 : Nat) (ta : Nat) (td : Nat) (E : State → Prop) (hF_xs_0 : xs[0]? = some (.ref hst)) (hF_ss_2 : ss[2]? = some (.ref hrm)) (hEE : okE b0 ta td E) : Met l yX1_freeRoom (ws_ yX1_freeRoom cX1_freeRoom 3 (Option.some Jvm.ClassFile.FieldType.int)) ({ frames := 0, cells := 0, slots := 0, locals := 0 }) (va_Pc [.ref hX] (rdB G CL (TY g) (E) [(hX, .inr (0, xs)), (hst, .inr (1, ss)), (hrm, .inl (g 1, 6, .inl (aP (isTh S))))])) (QcRead ((iI (frN S 6)))) 0 0 (fun _ => False) := by
  refine Met.at (by decide) (Nat.le_of_ble_eq_true rfl) ?_
  intro p e s m below meth c hx hb hr hlk hml hown hnm hts hB ls hl
  have hown : s.vm.findClass RX1 = some m.cls := hown
  obtain ⟨hP, hK, hEs⟩ := hB
  have hSt : Stab (fun _ => False) E := hEE.no
  have hS : va_S (fun _ => False) s.heap s.heap [] := va_S.rf
  have nw : nW s := (hEE.cs s hEs).2.2.2.2
  have hl : lv_has ls 3 [(0, .ref hX)] := hl
  refine lv_iconst (v := iI (-1)) hx hb dX1_freeRoom_0 rfl ?_
  refine lv_istore_n (lv' := [(1, .int (iI (-1))), (0, .ref hX)]) hx hb dX1_freeRoom_1 rfl hl (by decide) rfl (fun ls hl => ?_)
  refine lv_iconst (v := iI 5) hx hb dX1_freeRoom_2 rfl ?_
  refine lv_istore_n (lv' := [(2, .int (iI 5)), (1, .int (iI (-1))), (0, .ref hX)]) hx hb dX1_freeRoom_3 rfl hl (by decide) rfl (fun ls hl => ?_)
  have lp4 : ∀ (n : Nat) (k : Nat), ((k : Int) ≤ 6) → 6 - k = n → ∀ ls : Array Slot, lv_has ls 3 [(0, .ref hX), (1, .int (iI (frN S k))), (2, .int (iI (5 - (k : Int))))] → W p l e ({ frames := 0, cells := 0, slots := 0, locals := 0 }) s m ([.ref hX] : List Value).toArray below meth c s.heap [] 0 0 (MQ below (QcRead ((iI (frN S 6)))) ([.ref hX] : List Value).toArray s 0 0 (fun _ => False)) (F0 m 4 ls []) := by
    intro n
    refine Nat.strongRecOn n ?_
    intro n ih4 k hk hmu4 ls hl
    have fr := frN_rng S k hk
    refine lv_iload_n hx hb dX1_freeRoom_4 rfl (lv_at hl 2 rfl) ?_
    refine g_if_lt (tgt := 32) hx hb dX1_freeRoom_5 (by decide) ⟨by omega, by omega⟩ (fun c1 => ?_) (fun c1 => ?_)
    · refine lv_iload_n hx hb dX1_freeRoom_32 rfl (lv_at hl 1 rfl) ?_
      exact g_iret hx hb hr hlk (by rw [show k = 6 from by omega]) dX1_freeRoom_33
    · refine lv_aload_n hx hb dX1_freeRoom_8 rfl (lv_at hl 0 rfl) ?_
      refine va_get (D := G) (ci := 0) (v := .ref hst) (C := RX1) (T := TX1) (N := 13) hx hb hts in_X1 hown hK hP 0 rfl rfl 0 (by decide) (hts _ q248) (fun _ h9 => h9) hF_xs_0 dX1_freeRoom_9 ?_
      refine va_getN (D := G) (ci := 1) (v := .ref hrm) (C := RX2) (T := TX2) (N := 4) hx hb hts in_X2 hown hK hP 1 rfl rfl 2 (by decide) (va_Nw.use rfl (nw _ q148 rfl)) (fun _ h9 => h9) hF_ss_2 dX1_freeRoom_12 ?_
      refine lv_iload_n hx hb dX1_freeRoom_15 rfl (lv_at hl 2 rfl) ?_
      refine g_zald hx hb hK hP 2 1 rfl rfl (i := 5 - (k : Int)) (⟨by omega, by omega⟩) (by decide) dX1_freeRoom_16 ?_
      have hJ2 : ∀ ls : Array Slot, lv_has ls 3 [(0, .ref hX), (1, .int (iI (frN S k))), (2, .int (iI (5 - (k : Int))))] → W p l e ({ frames := 0, cells := 0, slots := 0, locals := 0 }) s m ([.ref hX] : List Value).toArray below meth c s.heap [] 0 0 (MQ below (QcRead ((iI (frN S 6)))) ([.ref hX] : List Value).toArray s 0 0 (fun _ => False)) (F0 m 25 ls [.int (iI (zi ((isTh S) (5 - (k : Int))) (frN S k) (5 - (k : Int))))]) := by
        intro ls hl
        have o4 := zi_or ((isTh S) (5 - (k : Int))) (frN S k) (5 - (k : Int))
        obtain ⟨v3, e_v3⟩ : ∃ z : Int, z = zi ((isTh S) (5 - (k : Int))) (frN S k) (5 - (k : Int)) := ⟨_, rfl⟩
        refine g_eq e_v3.symm ?_
        refine lv_istore_n (lv' := [(1, .int (iI v3)), (0, .ref hX), (2, .int (iI (5 - (k : Int))))]) hx hb dX1_freeRoom_25 rfl hl (by decide) rfl (fun ls hl => ?_)
        refine g_iinc (lv' := [(2, .int (iI ((5 - (k : Int)) + (-1)))), (1, .int (iI v3)), (0, .ref hX)]) hx hb dX1_freeRoom_26 hl (k := 2) rfl (by decide) rfl (fun ls hl => ?_)
        refine lv_goto (tgt := 4) hx hb dX1_freeRoom_29 (by decide) ?_
        exact ih4 _ (by omega) (k + 1) (by omega) rfl ls (by rw [show (5 : Int) - ((k + 1 : Nat) : Int) = (5 - (k : Int)) + (-1) from by omega, show frN S (k + 1) = v3 from e_v3.symm]; exact lv_sub hl [2, 1, 0] rfl)
      refine g_ifq_eq (tgt := 24) hx hb dX1_freeRoom_17 (by decide) (fun c5 => ?_) (fun c5 => ?_)
      · refine lv_iload_n hx hb dX1_freeRoom_24 rfl (lv_at hl 2 rfl) ?_
        refine g_eq (b := zi ((isTh S) (5 - (k : Int))) (frN S k) (5 - (k : Int))) ((zi_f c5)).symm ?_
        exact hJ2 ls (lv_sub hl [0, 1, 2] rfl)
      · refine lv_iload_n hx hb dX1_freeRoom_20 rfl (lv_at hl 1 rfl) ?_
        refine lv_goto (tgt := 25) hx hb dX1_freeRoom_21 (by decide) ?_
        refine g_eq (b := zi ((isTh S) (5 - (k : Int))) (frN S k) (5 - (k : Int))) ((zi_t c5)).symm ?_
        exact hJ2 ls (lv_sub hl [0, 1, 2] rfl)
  exact lp4 _ 0 (by omega) rfl ls (lv_sub hl [2, 1, 0] rfl)
theorem hd_X1_isFreeFor : yX1_isFreeFor.cls = RX1 ∧ yX1_isFreeFor.cls ≠ "java/lang/invoke/MethodHandle" ∧ yX1_isFreeFor.cls ≠ "java/lang/invoke/VarHandle" ∧ (parseMethodDescriptor yX1_isFreeFor.desc).map (fun d => d.parameters.length) = some 1 := by decide +kernel
set_option maxHeartbeats 1000000 in
set_option maxRecDepth 100000 in
theorem m_X1_isFreeFor (l : Launch) (G : va_G) (g : Nat → ClassId) (hX : Nat) (q_ : Int) (xs : List Value) (hst : Nat) (ss : List Value) (hsq : Nat) (S : Int → Int) (b0 : Nat) (ta : Nat) (td : Nat) (E : State → Prop) (hF_xs_0 : xs[0]? = some (.ref hst)) (hF_ss_0 : ss[0]? = some (.ref hsq)) (hEE : okE b0 ta td E) (r_q_ : r32 q_) (kS : rgS S) (hq_ : 0 ≤ q_ ∧ q_ ≤ 191) : Met l yX1_isFreeFor (ws_ yX1_isFreeFor cX1_isFreeFor 4 (Option.some Jvm.ClassFile.FieldType.boolean)) ({ frames := 2, cells := 0, slots := 0, locals := 46 }) (va_Pc [.ref hX, .int (iI q_)] (rdB G CL (TY g) (E) [(hX, .inr (0, xs)), (hst, .inr (1, ss)), (hsq, .inl (g 0, 192, .inl (aI S)))])) (QcRead ((iI (qz (ffN S q_ 4))))) 0 0 (fun _ => False) := by
  refine Met.at (by decide) (Nat.le_of_ble_eq_true rfl) ?_
  intro p e s m below meth c hx hb hr hlk hml hown hnm hts hB ls hl
  have hown : s.vm.findClass RX1 = some m.cls := hown
  obtain ⟨hP, hK, hEs⟩ := hB
  have hSt : Stab (fun _ => False) E := hEE.no
  have hS : va_S (fun _ => False) s.heap s.heap [] := va_S.rf
  have nw : nW s := (hEE.cs s hEs).2.2.2.2
  have hl : lv_has ls 4 [(0, .ref hX), (1, .int (iI q_))] := hl
  refine lv_aload_n hx hb dX1_isFreeFor_0 rfl (lv_at hl 0 rfl) ?_
  refine va_get (D := G) (ci := 0) (v := .ref hst) (C := RX1) (T := TX1) (N := 13) hx hb hts in_X1 hown hK hP 0 rfl rfl 0 (by decide) (hts _ q248) (fun _ h9 => h9) hF_xs_0 dX1_isFreeFor_1 ?_
  refine va_getN (D := G) (ci := 1) (v := .ref hsq) (C := RX2) (T := TX2) (N := 4) hx hb hts in_X2 hown hK hP 1 rfl rfl 0 (by decide) (va_Nw.use rfl (nw _ q144 rfl)) (fun _ h9 => h9) hF_ss_0 dX1_isFreeFor_4 ?_
  refine lv_iload_n hx hb dX1_isFreeFor_7 rfl (lv_at hl 1 rfl) ?_
  refine g_iald hx hb hK hP 2 0 rfl rfl (i := q_) (⟨by omega, by omega⟩) (by decide) dX1_isFreeFor_8 ?_
  have w1 := kS q_ (by omega) (by omega)
  refine lv_bipush (v := iI (-2)) hx hb dX1_isFreeFor_9 rfl ?_
  have hJ2 : ∀ ls : Array Slot, lv_has ls 4 [(0, .ref hX), (1, .int (iI q_))] → W p l e ({ frames := 2, cells := 0, slots := 0, locals := 46 }) s m ([.ref hX, .int (iI q_)] : List Value).toArray below meth c s.heap [] 0 0 (MQ below (QcRead ((iI (qz (ffN S q_ 4))))) ([.ref hX, .int (iI q_)] : List Value).toArray s 0 0 (fun _ => False)) (F0 m 19 ls [.int (iI (qz ((S q_) = (-2))))]) := by
    intro ls hl
    refine lv_istore_n (lv' := [(2, .int (iI (qz ((S q_) = (-2))))), (0, .ref hX), (1, .int (iI q_))]) hx hb dX1_isFreeFor_19 rfl hl (by decide) rfl (fun ls hl => ?_)
    refine lv_iconst (v := iI 0) hx hb dX1_isFreeFor_20 rfl ?_
    refine lv_istore_n (lv' := [(3, .int (iI 0)), (2, .int (iI (qz ((S q_) = (-2))))), (0, .ref hX), (1, .int (iI q_))]) hx hb dX1_isFreeFor_21 rfl hl (by decide) rfl (fun ls hl => ?_)
    have lp22 : ∀ (n : Nat) (k : Nat), ((k : Int) ≤ 4) → 4 - k = n → ∀ ls : Array Slot, lv_has ls 4 [(0, .ref hX), (1, .int (iI q_)), (2, .int (iI (qz (ffN S q_ k)))), (3, .int (iI (k : Int)))] → W p l e ({ frames := 2, cells := 0, slots := 0, locals := 46 }) s m ([.ref hX, .int (iI q_)] : List Value).toArray below meth c s.heap [] 0 0 (MQ below (QcRead ((iI (qz (ffN S q_ 4))))) ([.ref hX, .int (iI q_)] : List Value).toArray s 0 0 (fun _ => False)) (F0 m 22 ls []) := by
      intro n
      refine Nat.strongRecOn n ?_
      intro n ih22 k hk hmu22 ls hl
      refine lv_iload_n hx hb dX1_isFreeFor_22 rfl (lv_at hl 3 rfl) ?_
      refine lv_iconst (v := iI 4) hx hb dX1_isFreeFor_23 rfl ?_
      refine g_icmp_ge (tgt := 53) hx hb dX1_isFreeFor_24 (by decide) ⟨⟨by omega, by omega⟩, ⟨by decide, by decide⟩⟩ (fun c3 => ?_) (fun c3 => ?_)
      · refine lv_iload_n hx hb dX1_isFreeFor_53 rfl (lv_at hl 2 rfl) ?_
        exact g_zret hx hb hr hlk (by rw [show k = 4 from by omega]) dX1_isFreeFor_54
      · refine lv_iload_n hx hb dX1_isFreeFor_27 rfl (lv_at hl 2 rfl) ?_
        refine lv_aload_n hx hb dX1_isFreeFor_28 rfl (lv_at hl 0 rfl) ?_
        refine va_get (D := G) (ci := 0) (v := .ref hst) (C := RX1) (T := TX1) (N := 13) hx hb hts in_X1 hown hK hP 0 rfl rfl 0 (by decide) (hts _ q248) (fun _ h9 => h9) hF_xs_0 dX1_isFreeFor_29 ?_
        refine lv_iload_n hx hb dX1_isFreeFor_32 rfl (lv_at hl 1 rfl) ?_
        refine lv_iload_n hx hb dX1_isFreeFor_33 rfl (lv_at hl 3 rfl) ?_
        refine g_callV (A := fun _ => False) (As := [.int (iI q_), .int (iI (k : Int))]) (rest := [.int (iI (qz (ffN S q_ k)))]) (m_X2_beside l G g hst q_ (k : Int) ss hsq S b0 ta td E hF_ss_0 hEE r_q_ (⟨by omega, by omega⟩) kS hq_ (by omega)) hx hb hml hown hts hSt hK hP va_S.rf hEs [1, 2] rfl (q0 := 1) rfl rfl q204 q205 q206 q95 q207 hd_X2_beside rfl rfl ⟨Nat.le_of_ble_eq_true rfl, Nat.le_of_ble_eq_true rfl⟩ rfl hl rfl (Nat.le_of_ble_eq_true rfl) ⟨Nat.le_refl _, Nat.le_refl _⟩ dX1_isFreeFor_34 ?_
        have w4 := bes_rng kS q_ (k : Int)
        have hJ5 : ∀ ls : Array Slot, lv_has ls 4 [(0, .ref hX), (1, .int (iI q_)), (2, .int (iI (qz (ffN S q_ k)))), (3, .int (iI (k : Int)))] → W p l e ({ frames := 2, cells := 0, slots := 0, locals := 46 }) s m ([.ref hX, .int (iI q_)] : List Value).toArray below meth c s.heap [] 0 0 (MQ below (QcRead ((iI (qz (ffN S q_ 4))))) ([.ref hX, .int (iI q_)] : List Value).toArray s 0 0 (fun _ => False)) (F0 m 45 ls [.int (iI (qz ((bes S q_ (k : Int)) < 0))), .int (iI (qz (ffN S q_ k)))]) := by
          intro ls hl
          refine g_iandq hx hb dX1_isFreeFor_45 ?_
          refine lv_istore_n (lv' := [(2, .int (iI (qz ((ffN S q_ k) ∧ ((bes S q_ (k : Int)) < 0))))), (0, .ref hX), (1, .int (iI q_)), (3, .int (iI (k : Int)))]) hx hb dX1_isFreeFor_46 rfl hl (by decide) rfl (fun ls hl => ?_)
          refine g_iinc (lv' := [(3, .int (iI ((k : Int) + 1))), (2, .int (iI (qz ((ffN S q_ k) ∧ ((bes S q_ (k : Int)) < 0))))), (0, .ref hX), (1, .int (iI q_))]) hx hb dX1_isFreeFor_47 hl (k := 3) rfl (by decide) rfl (fun ls hl => ?_)
          refine lv_goto (tgt := 22) hx hb dX1_isFreeFor_50 (by decide) ?_
          exact ih22 _ (by omega) (k + 1) (by omega) rfl ls (by rw [show qz (ffN S q_ (k + 1)) = qz ((ffN S q_ k) ∧ ((bes S q_ (k : Int)) < 0)) from qz_congr ffN_next]; exact lv_sub hl [2, 3, 1, 0] rfl)
        refine g_if_ge (tgt := 44) hx hb dX1_isFreeFor_37 (by decide) ⟨by omega, by omega⟩ (fun c6 => ?_) (fun c6 => ?_)
        · refine lv_iconst (v := iI 0) hx hb dX1_isFreeFor_44 rfl ?_
          refine g_eq (b := qz ((bes S q_ (k : Int)) < 0)) (qz_f (fun xx => (c6 xx))).symm ?_
          exact hJ5 ls (lv_sub hl [0, 1, 2, 3] rfl)
        · refine lv_iconst (v := iI 1) hx hb dX1_isFreeFor_40 rfl ?_
          refine lv_goto (tgt := 45) hx hb dX1_isFreeFor_41 (by decide) ?_
          refine g_eq (b := qz ((bes S q_ (k : Int)) < 0)) (qz_t c6).symm ?_
          exact hJ5 ls (lv_sub hl [0, 1, 2, 3] rfl)
    exact lp22 _ 0 (by omega) rfl ls (by rw [show qz (ffN S q_ 0) = qz ((S q_) = (-2)) from qz_congr ⟨fun h => h.1, fun h => ⟨h, fun j h0 h1 => by omega⟩⟩]; exact lv_sub hl [2, 3, 1, 0] rfl)
  refine g_icmp_ne (tgt := 18) hx hb dX1_isFreeFor_11 (by decide) ⟨⟨by omega, by omega⟩, ⟨by decide, by decide⟩⟩ (fun c7 => ?_) (fun c7 => ?_)
  · refine lv_iconst (v := iI 0) hx hb dX1_isFreeFor_18 rfl ?_
    refine g_eq (b := qz ((S q_) = (-2))) (qz_f (fun xx => (c7 xx))).symm ?_
    exact hJ2 ls (lv_sub hl [0, 1] rfl)
  · refine lv_iconst (v := iI 1) hx hb dX1_isFreeFor_14 rfl ?_
    refine lv_goto (tgt := 19) hx hb dX1_isFreeFor_15 (by decide) ?_
    refine g_eq (b := qz ((S q_) = (-2))) (qz_t c7).symm ?_
    exact hJ2 ls (lv_sub hl [0, 1] rfl)
theorem hd_X1_canBe : yX1_canBe.cls = RX1 ∧ yX1_canBe.cls ≠ "java/lang/invoke/MethodHandle" ∧ yX1_canBe.cls ≠ "java/lang/invoke/VarHandle" ∧ (parseMethodDescriptor yX1_canBe.desc).map (fun d => d.parameters.length) = some 4 := by decide +kernel
set_option maxHeartbeats 1000000 in
set_option maxRecDepth 100000 in
theorem m_X1_canBe (l : Launch) (G : va_G) (g : Nat → ClassId) (hX : Nat) (x : Int) (y : Int) (c_ : Int) (r_ : Int) (xs : List Value) (hst : Nat) (ss : List Value) (hsq : Nat) (hrm : Nat) (S : Int → Int) (b0 : Nat) (ta : Nat) (td : Nat) (E : State → Prop) (hF_xs_0 : xs[0]? = some (.ref hst)) (hF_ss_0 : ss[0]? = some (.ref hsq)) (hF_ss_2 : ss[2]? = some (.ref hrm)) (hEE : okE b0 ta td E) (r_x : r32 x) (r_y : r32 y) (r_c_ : r32 c_) (r_r_ : r32 r_) (kS : rgS S) (kQ : rgQ S) (hc : 1 ≤ c_ ∧ c_ ≤ 6) (hr_ : 1 ≤ r_ ∧ r_ ≤ 6) (hx1 : 0 ≤ x ∧ x ≤ 16 - c_) (hy1 : 0 ≤ y ∧ y ≤ 12 - r_) : Met l yX1_canBe (ws_ yX1_canBe cX1_canBe 7 (Option.some Jvm.ClassFile.FieldType.boolean)) ({ frames := 3, cells := 0, slots := 0, locals := 69 }) (va_Pc [.ref hX, .int (iI x), .int (iI y), .int (iI c_), .int (iI r_)] (rdB G CL (TY g) (E) [(hX, .inr (0, xs)), (hst, .inr (1, ss)), (hsq, .inl (g 0, 192, .inl (aI S))), (hrm, .inl (g 1, 6, .inl (aP (isTh S))))])) (QcRead ((iI (qz (¬ fre S = 6 ∧ cbe S x y c_ r_))))) 0 0 (fun _ => False) := by
  refine Met.at (by decide) (Nat.le_of_ble_eq_true rfl) ?_
  intro p e s m below meth c hx hb hr hlk hml hown hnm hts hB ls hl
  have hown : s.vm.findClass RX1 = some m.cls := hown
  obtain ⟨hP, hK, hEs⟩ := hB
  have hSt : Stab (fun _ => False) E := hEE.no
  have hS : va_S (fun _ => False) s.heap s.heap [] := va_S.rf
  have nw : nW s := (hEE.cs s hEs).2.2.2.2
  have hl : lv_has ls 7 [(0, .ref hX), (1, .int (iI x)), (2, .int (iI y)), (3, .int (iI c_)), (4, .int (iI r_))] := hl
  have bb := cr_rng hc hr_
  refine lv_aload_n hx hb dX1_canBe_0 rfl (lv_at hl 0 rfl) ?_
  refine g_callV (A := fun _ => False) (As := []) (rest := []) (m_X1_freeRoom l G g hX xs hst ss hrm S b0 ta td E hF_xs_0 hF_ss_2 hEE) hx hb hml hown hts hSt hK hP va_S.rf hEs [0, 1, 3] rfl (q0 := 0) rfl rfl q1157 q1159 qs50 q94 q1160 hd_X1_freeRoom rfl rfl ⟨Nat.le_of_ble_eq_true rfl, Nat.le_of_ble_eq_true rfl⟩ rfl hl rfl (Nat.le_of_ble_eq_true rfl) ⟨Nat.le_refl _, Nat.le_refl _⟩ dX1_canBe_1 ?_
  have w1 := frN_rng S 6 (by decide)
  refine lv_iconst (v := iI (-1)) hx hb dX1_canBe_4 rfl ?_
  have hJ2 : ∀ ls : Array Slot, lv_has ls 7 [(0, .ref hX), (1, .int (iI x)), (2, .int (iI y)), (3, .int (iI c_)), (4, .int (iI r_))] → W p l e ({ frames := 3, cells := 0, slots := 0, locals := 69 }) s m ([.ref hX, .int (iI x), .int (iI y), .int (iI c_), .int (iI r_)] : List Value).toArray below meth c s.heap [] 0 0 (MQ below (QcRead ((iI (qz (¬ fre S = 6 ∧ cbe S x y c_ r_))))) ([.ref hX, .int (iI x), .int (iI y), .int (iI c_), .int (iI r_)] : List Value).toArray s 0 0 (fun _ => False)) (F0 m 13 ls [.int (iI (qz (¬ ((frN S 6) = (-1)))))]) := by
    intro ls hl
    refine lv_istore (lv' := [(5, .int (iI (qz (¬ ((frN S 6) = (-1)))))), (0, .ref hX), (1, .int (iI x)), (2, .int (iI y)), (3, .int (iI c_)), (4, .int (iI r_))]) hx hb dX1_canBe_13 hl (by decide) rfl (fun ls hl => ?_)
    refine lv_iconst (v := iI 0) hx hb dX1_canBe_15 rfl ?_
    refine lv_istore (lv' := [(6, .int (iI 0)), (5, .int (iI (qz (¬ ((frN S 6) = (-1)))))), (0, .ref hX), (1, .int (iI x)), (2, .int (iI y)), (3, .int (iI c_)), (4, .int (iI r_))]) hx hb dX1_canBe_16 hl (by decide) rfl (fun ls hl => ?_)
    have lp18 : ∀ (n : Nat) (k : Nat), ((k : Int) ≤ c_ * r_) → (c_ * r_).toNat - k = n → ∀ ls : Array Slot, lv_has ls 7 [(0, .ref hX), (1, .int (iI x)), (2, .int (iI y)), (3, .int (iI c_)), (4, .int (iI r_)), (5, .int (iI (qz (cbN S x y c_ k)))), (6, .int (iI (k : Int)))] → W p l e ({ frames := 3, cells := 0, slots := 0, locals := 69 }) s m ([.ref hX, .int (iI x), .int (iI y), .int (iI c_), .int (iI r_)] : List Value).toArray below meth c s.heap [] 0 0 (MQ below (QcRead ((iI (qz (¬ fre S = 6 ∧ cbe S x y c_ r_))))) ([.ref hX, .int (iI x), .int (iI y), .int (iI c_), .int (iI r_)] : List Value).toArray s 0 0 (fun _ => False)) (F0 m 18 ls []) := by
      intro n
      refine Nat.strongRecOn n ?_
      intro n ih18 k hk hmu18 ls hl
      refine lv_iload hx hb dX1_canBe_18 (lv_at hl 6 rfl) ?_
      refine lv_iload_n hx hb dX1_canBe_20 rfl (lv_at hl 3 rfl) ?_
      refine lv_iload hx hb dX1_canBe_21 (lv_at hl 4 rfl) ?_
      refine g_imul hx hb dX1_canBe_23 ?_
      refine g_icmp_ge (tgt := 58) hx hb dX1_canBe_24 (by decide) ⟨⟨by omega, by omega⟩, ⟨by omega, by omega⟩⟩ (fun c3 => ?_) (fun c3 => ?_)
      · refine lv_iload hx hb dX1_canBe_58 (lv_at hl 5 rfl) ?_
        exact g_zret hx hb hr hlk (cbN_cbe kQ hc hr_ hx1 hy1 (by omega)) dX1_canBe_60
      · have dk := dm2 (k := (k : Int)) (c := c_) (r := r_) (by omega) hc.1 (by assumption)
        refine lv_iload hx hb dX1_canBe_27 (lv_at hl 5 rfl) ?_
        refine lv_aload_n hx hb dX1_canBe_29 rfl (lv_at hl 0 rfl) ?_
        refine lv_bipush (v := iI 16) hx hb dX1_canBe_30 rfl ?_
        refine lv_iload_n hx hb dX1_canBe_32 rfl (lv_at hl 2 rfl) ?_
        refine lv_iload hx hb dX1_canBe_33 (lv_at hl 6 rfl) ?_
        refine lv_iload_n hx hb dX1_canBe_35 rfl (lv_at hl 3 rfl) ?_
        refine g_idiv hx hb dX1_canBe_36 ⟨⟨by omega, by omega⟩, ⟨by omega, by omega⟩⟩ ?_
        refine g_iadd hx hb dX1_canBe_37 ?_
        refine g_imul hx hb dX1_canBe_38 ?_
        refine lv_iload_n hx hb dX1_canBe_39 rfl (lv_at hl 1 rfl) ?_
        refine g_iadd hx hb dX1_canBe_40 ?_
        refine lv_iload hx hb dX1_canBe_41 (lv_at hl 6 rfl) ?_
        refine lv_iload_n hx hb dX1_canBe_43 rfl (lv_at hl 3 rfl) ?_
        refine g_irem hx hb dX1_canBe_44 ⟨⟨by omega, by omega⟩, ⟨by omega, by omega⟩⟩ ?_
        refine g_iadd hx hb dX1_canBe_45 ?_
        refine g_callV (A := fun _ => False) (As := [.int (iI (((16 * (y + ((k : Int) / c_))) + x) + ((k : Int) % c_)))]) (rest := [.int (iI (qz (cbN S x y c_ k)))]) (m_X1_isFreeFor l G g hX (((16 * (y + ((k : Int) / c_))) + x) + ((k : Int) % c_)) xs hst ss hsq S b0 ta td E hF_xs_0 hF_ss_0 hEE (⟨by omega, by omega⟩) kS (by omega)) hx hb hml hown hts hSt hK hP va_S.rf hEs [0, 1, 2] rfl (q0 := 0) rfl rfl q1161 q1163 qs51 q94 q1164 hd_X1_isFreeFor rfl rfl ⟨Nat.le_of_ble_eq_true rfl, Nat.le_of_ble_eq_true rfl⟩ rfl hl rfl (Nat.le_of_ble_eq_true rfl) ⟨Nat.le_refl _, Nat.le_refl _⟩ dX1_canBe_46 ?_
        refine g_iandq hx hb dX1_canBe_49 ?_
        refine lv_istore (lv' := [(5, .int (iI (qz ((cbN S x y c_ k) ∧ (ffN S (((16 * (y + ((k : Int) / c_))) + x) + ((k : Int) % c_)) 4))))), (0, .ref hX), (1, .int (iI x)), (2, .int (iI y)), (3, .int (iI c_)), (4, .int (iI r_)), (6, .int (iI (k : Int)))]) hx hb dX1_canBe_50 hl (by decide) rfl (fun ls hl => ?_)
        refine g_iinc (lv' := [(6, .int (iI ((k : Int) + 1))), (5, .int (iI (qz ((cbN S x y c_ k) ∧ (ffN S (((16 * (y + ((k : Int) / c_))) + x) + ((k : Int) % c_)) 4))))), (0, .ref hX), (1, .int (iI x)), (2, .int (iI y)), (3, .int (iI c_)), (4, .int (iI r_))]) hx hb dX1_canBe_52 hl (k := 6) rfl (by decide) rfl (fun ls hl => ?_)
        refine lv_goto (tgt := 18) hx hb dX1_canBe_55 (by decide) ?_
        exact ih18 _ (by omega) (k + 1) (by omega) rfl ls (by rw [show qz (cbN S x y c_ (k + 1)) = qz ((cbN S x y c_ k) ∧ (ffN S (((16 * (y + ((k : Int) / c_))) + x) + ((k : Int) % c_)) 4)) from qz_congr cbN_next]; exact lv_sub hl [2, 3, 4, 5, 6, 1, 0] rfl)
    exact lp18 _ 0 (by omega) rfl ls (by rw [show qz (cbN S x y c_ 0) = qz (¬ ((frN S 6) = (-1))) from qz_congr ⟨fun h => h.1, fun h => ⟨h, fun j h0 h1 => by omega⟩⟩]; exact lv_sub hl [2, 3, 4, 5, 6, 1, 0] rfl)
  refine g_icmp_eq (tgt := 12) hx hb dX1_canBe_5 (by decide) ⟨⟨by omega, by omega⟩, ⟨by decide, by decide⟩⟩ (fun c4 => ?_) (fun c4 => ?_)
  · refine lv_iconst (v := iI 0) hx hb dX1_canBe_12 rfl ?_
    refine g_eq (b := qz (¬ ((frN S 6) = (-1)))) (qz_f (fun xx => (xx c4))).symm ?_
    exact hJ2 ls (lv_sub hl [0, 1, 2, 3, 4] rfl)
  · refine lv_iconst (v := iI 1) hx hb dX1_canBe_8 rfl ?_
    refine lv_goto (tgt := 13) hx hb dX1_canBe_9 (by decide) ?_
    refine g_eq (b := qz (¬ ((frN S 6) = (-1)))) (qz_t c4).symm ?_
    exact hJ2 ls (lv_sub hl [0, 1, 2, 3, 4] rfl)
theorem hd_X1_doorTo : yX1_doorTo.cls = RX1 ∧ yX1_doorTo.cls ≠ "java/lang/invoke/MethodHandle" ∧ yX1_doorTo.cls ≠ "java/lang/invoke/VarHandle" ∧ (parseMethodDescriptor yX1_doorTo.desc).map (fun d => d.parameters.length) = some 2 := by decide +kernel
set_option maxHeartbeats 1000000 in
set_option maxRecDepth 100000 in
theorem m_X1_doorTo (l : Launch) (G : va_G) (g : Nat → ClassId) (hX : Nat) (q_ : Int) (d : Int) (xs : List Value) (hst : Nat) (ss : List Value) (hsq : Nat) (S : Int → Int) (b0 : Nat) (ta : Nat) (td : Nat) (E : State → Prop) (hF_xs_0 : xs[0]? = some (.ref hst)) (hF_ss_0 : ss[0]? = some (.ref hsq)) (hEE : okE b0 ta td E) (r_q_ : r32 q_) (r_d : r32 d) (kS : rgS S) (hq_ : 0 ≤ q_ ∧ q_ ≤ 191) (hd4 : 0 ≤ d ∧ d ≤ 3) : Met l yX1_doorTo (ws_ yX1_doorTo cX1_doorTo 3 (Option.some Jvm.ClassFile.FieldType.int)) ({ frames := 2, cells := 0, slots := 0, locals := 46 }) (va_Pc [.ref hX, .int (iI q_), .int (iI d)] (rdB G CL (TY g) (E) [(hX, .inr (0, xs)), (hst, .inr (1, ss)), (hsq, .inl (g 0, 192, .inl (aI S)))])) (QcRead ((iI (drC S q_ d)))) 0 0 (fun _ => False) := by
  refine Met.at (by decide) (Nat.le_of_ble_eq_true rfl) ?_
  intro p e s m below meth c hx hb hr hlk hml hown hnm hts hB ls hl
  have hown : s.vm.findClass RX1 = some m.cls := hown
  obtain ⟨hP, hK, hEs⟩ := hB
  have hSt : Stab (fun _ => False) E := hEE.no
  have hS : va_S (fun _ => False) s.heap s.heap [] := va_S.rf
  have nw : nW s := (hEE.cs s hEs).2.2.2.2
  have hl : lv_has ls 3 [(0, .ref hX), (1, .int (iI q_)), (2, .int (iI d))] := hl
  refine lv_aload_n hx hb dX1_doorTo_0 rfl (lv_at hl 0 rfl) ?_
  refine va_get (D := G) (ci := 0) (v := .ref hst) (C := RX1) (T := TX1) (N := 13) hx hb hts in_X1 hown hK hP 0 rfl rfl 0 (by decide) (hts _ q248) (fun _ h9 => h9) hF_xs_0 dX1_doorTo_1 ?_
  refine va_getN (D := G) (ci := 1) (v := .ref hsq) (C := RX2) (T := TX2) (N := 4) hx hb hts in_X2 hown hK hP 1 rfl rfl 0 (by decide) (va_Nw.use rfl (nw _ q144 rfl)) (fun _ h9 => h9) hF_ss_0 dX1_doorTo_4 ?_
  refine lv_iload_n hx hb dX1_doorTo_7 rfl (lv_at hl 1 rfl) ?_
  refine g_iald hx hb hK hP 2 0 rfl rfl (i := q_) (⟨by omega, by omega⟩) (by decide) dX1_doorTo_8 ?_
  have w1 := kS q_ (by omega) (by omega)
  refine lv_iconst (v := iI (-1)) hx hb dX1_doorTo_9 rfl ?_
  have hJ2 : ∀ ls : Array Slot, lv_has ls 3 [(0, .ref hX), (1, .int (iI q_)), (2, .int (iI d))] → W p l e ({ frames := 2, cells := 0, slots := 0, locals := 46 }) s m ([.ref hX, .int (iI q_), .int (iI d)] : List Value).toArray below meth c s.heap [] 0 0 (MQ below (QcRead ((iI (drC S q_ d)))) ([.ref hX, .int (iI q_), .int (iI d)] : List Value).toArray s 0 0 (fun _ => False)) (F0 m 27 ls [.int (iI (zi ((S q_) = (-1)) (bes S q_ d) (-2)))]) := by
    intro ls hl
    exact g_iret hx hb hr hlk (rfl) dX1_doorTo_27
  refine g_icmp_ne (tgt := 25) hx hb dX1_doorTo_10 (by decide) ⟨⟨by omega, by omega⟩, ⟨by decide, by decide⟩⟩ (fun c3 => ?_) (fun c3 => ?_)
  · refine lv_bipush (v := iI (-2)) hx hb dX1_doorTo_25 rfl ?_
    refine g_eq (b := zi ((S q_) = (-1)) (bes S q_ d) (-2)) ((zi_f c3)).symm ?_
    exact hJ2 ls (lv_sub hl [0, 1, 2] rfl)
  · refine lv_aload_n hx hb dX1_doorTo_13 rfl (lv_at hl 0 rfl) ?_
    refine va_get (D := G) (ci := 0) (v := .ref hst) (C := RX1) (T := TX1) (N := 13) hx hb hts in_X1 hown hK hP 0 rfl rfl 0 (by decide) (hts _ q248) (fun _ h9 => h9) hF_xs_0 dX1_doorTo_14 ?_
    refine lv_iload_n hx hb dX1_doorTo_17 rfl (lv_at hl 1 rfl) ?_
    refine lv_iload_n hx hb dX1_doorTo_18 rfl (lv_at hl 2 rfl) ?_
    refine g_callV (A := fun _ => False) (As := [.int (iI q_), .int (iI d)]) (rest := []) (m_X2_beside l G g hst q_ d ss hsq S b0 ta td E hF_ss_0 hEE r_q_ r_d kS hq_ hd4) hx hb hml hown hts hSt hK hP va_S.rf hEs [1, 2] rfl (q0 := 1) rfl rfl q204 q205 q206 q95 q207 hd_X2_beside rfl rfl ⟨Nat.le_of_ble_eq_true rfl, Nat.le_of_ble_eq_true rfl⟩ rfl hl rfl (Nat.le_of_ble_eq_true rfl) ⟨Nat.le_refl _, Nat.le_refl _⟩ dX1_doorTo_19 ?_
    have w4 := bes_rng kS q_ d
    refine lv_goto (tgt := 27) hx hb dX1_doorTo_22 (by decide) ?_
    refine g_eq (b := zi ((S q_) = (-1)) (bes S q_ d) (-2)) ((zi_t c3)).symm ?_
    exact hJ2 ls (lv_sub hl [0, 1, 2] rfl)
theorem hd_X1_doorSides : yX1_doorSides.cls = RX1 ∧ yX1_doorSides.cls ≠ "java/lang/invoke/MethodHandle" ∧ yX1_doorSides.cls ≠ "java/lang/invoke/VarHandle" ∧ (parseMethodDescriptor yX1_doorSides.desc).map (fun d => d.parameters.length) = some 1 := by decide +kernel
set_option maxHeartbeats 1000000 in
set_option maxRecDepth 100000 in
theorem m_X1_doorSides (l : Launch) (G : va_G) (g : Nat → ClassId) (hX : Nat) (q_ : Int) (xs : List Value) (hst : Nat) (ss : List Value) (hsq : Nat) (S : Int → Int) (b0 : Nat) (ta : Nat) (td : Nat) (E : State → Prop) (hF_xs_0 : xs[0]? = some (.ref hst)) (hF_ss_0 : ss[0]? = some (.ref hsq)) (hEE : okE b0 ta td E) (r_q_ : r32 q_) (kS : rgS S) (kQ : rgQ S) (hq_ : 0 ≤ q_ ∧ q_ ≤ 191) : Met l yX1_doorSides (ws_ yX1_doorSides cX1_doorSides 4 (Option.some Jvm.ClassFile.FieldType.int)) ({ frames := 3, cells := 0, slots := 0, locals := 68 }) (va_Pc [.ref hX, .int (iI q_)] (rdB G CL (TY g) (E) [(hX, .inr (0, xs)), (hst, .inr (1, ss)), (hsq, .inl (g 0, 192, .inl (aI S)))])) (QcRead ((iI (sdM S (q_ % 16) (q_ / 16))))) 0 0 (fun _ => False) := by
  refine Met.at (by decide) (Nat.le_of_ble_eq_true rfl) ?_
  intro p e s m below meth c hx hb hr hlk hml hown hnm hts hB ls hl
  have hown : s.vm.findClass RX1 = some m.cls := hown
  obtain ⟨hP, hK, hEs⟩ := hB
  have hSt : Stab (fun _ => False) E := hEE.no
  have hS : va_S (fun _ => False) s.heap s.heap [] := va_S.rf
  have nw : nW s := (hEE.cs s hEs).2.2.2.2
  have hl : lv_has ls 4 [(0, .ref hX), (1, .int (iI q_))] := hl
  refine lv_iconst (v := iI 0) hx hb dX1_doorSides_0 rfl ?_
  refine lv_istore_n (lv' := [(2, .int (iI 0)), (0, .ref hX), (1, .int (iI q_))]) hx hb dX1_doorSides_1 rfl hl (by decide) rfl (fun ls hl => ?_)
  refine lv_iconst (v := iI 0) hx hb dX1_doorSides_2 rfl ?_
  refine lv_istore_n (lv' := [(3, .int (iI 0)), (2, .int (iI 0)), (0, .ref hX), (1, .int (iI q_))]) hx hb dX1_doorSides_3 rfl hl (by decide) rfl (fun ls hl => ?_)
  have lp4 : ∀ (n : Nat) (k : Nat), ((k : Int) ≤ 4) → 4 - k = n → ∀ ls : Array Slot, lv_has ls 4 [(0, .ref hX), (1, .int (iI q_)), (2, .int (iI (sumN (dsT S q_) k))), (3, .int (iI (k : Int)))] → W p l e ({ frames := 3, cells := 0, slots := 0, locals := 68 }) s m ([.ref hX, .int (iI q_)] : List Value).toArray below meth c s.heap [] 0 0 (MQ below (QcRead ((iI (sdM S (q_ % 16) (q_ / 16))))) ([.ref hX, .int (iI q_)] : List Value).toArray s 0 0 (fun _ => False)) (F0 m 4 ls []) := by
    intro n
    refine Nat.strongRecOn n ?_
    intro n ih4 k hk hmu4 ls hl
    have fr := dsN_rng S q_ k
    refine lv_iload_n hx hb dX1_doorSides_4 rfl (lv_at hl 3 rfl) ?_
    refine lv_iconst (v := iI 4) hx hb dX1_doorSides_5 rfl ?_
    refine g_icmp_ge (tgt := 35) hx hb dX1_doorSides_6 (by decide) ⟨⟨by omega, by omega⟩, ⟨by decide, by decide⟩⟩ (fun c1 => ?_) (fun c1 => ?_)
    · refine lv_iload_n hx hb dX1_doorSides_35 rfl (lv_at hl 2 rfl) ?_
      exact g_iret hx hb hr hlk (by rw [show k = 4 from by omega, ← ds_sdM kQ (by omega) (by omega), show 16 * (q_ / 16) + q_ % 16 = q_ from by omega]) dX1_doorSides_36
    · refine lv_iload_n hx hb dX1_doorSides_9 rfl (lv_at hl 2 rfl) ?_
      refine lv_aload_n hx hb dX1_doorSides_10 rfl (lv_at hl 0 rfl) ?_
      refine lv_iload_n hx hb dX1_doorSides_11 rfl (lv_at hl 1 rfl) ?_
      refine lv_iload_n hx hb dX1_doorSides_12 rfl (lv_at hl 3 rfl) ?_
      refine g_callV (A := fun _ => False) (As := [.int (iI q_), .int (iI (k : Int))]) (rest := [.int (iI (sumN (dsT S q_) k))]) (m_X1_doorTo l G g hX q_ (k : Int) xs hst ss hsq S b0 ta td E hF_xs_0 hF_ss_0 hEE r_q_ (⟨by omega, by omega⟩) kS hq_ (by omega)) hx hb hml hown hts hSt hK hP va_S.rf hEs [0, 1, 2] rfl (q0 := 0) rfl rfl q200 q202 qs4 q94 q203 hd_X1_doorTo rfl rfl ⟨Nat.le_of_ble_eq_true rfl, Nat.le_of_ble_eq_true rfl⟩ rfl hl rfl (Nat.le_of_ble_eq_true rfl) ⟨Nat.le_refl _, Nat.le_refl _⟩ dX1_doorSides_13 ?_
      have w2 := drC_rng kS q_ (k : Int)
      have hJ3 : ∀ ls : Array Slot, lv_has ls 4 [(0, .ref hX), (1, .int (iI q_)), (2, .int (iI (sumN (dsT S q_) k))), (3, .int (iI (k : Int)))] → W p l e ({ frames := 3, cells := 0, slots := 0, locals := 68 }) s m ([.ref hX, .int (iI q_)] : List Value).toArray below meth c s.heap [] 0 0 (MQ below (QcRead ((iI (sdM S (q_ % 16) (q_ / 16))))) ([.ref hX, .int (iI q_)] : List Value).toArray s 0 0 (fun _ => False)) (F0 m 24 ls [.int (iI (qz (¬ ((drC S q_ (k : Int)) < 0)))), .int (iI (sumN (dsT S q_) k))]) := by
        intro ls hl
        refine g_callS (A := fun _ => False) (As := [.int (iI (qz (¬ ((drC S q_ (k : Int)) < 0))))]) (rest := [.int (iI (sumN (dsT S q_) k))]) (m_X1_flag l G g (¬ ((drC S q_ (k : Int)) < 0))) hx hb hml hown hts Stab.tt hK hP va_S.rf trivial [] rfl q187 q188 q94 q189 hd_X1_flag rfl rfl ⟨Nat.le_of_ble_eq_true rfl, Nat.le_of_ble_eq_true rfl⟩ rfl hl rfl (Nat.le_of_ble_eq_true rfl) ⟨Nat.le_refl _, Nat.le_refl _⟩ dX1_doorSides_24 ?_
        refine g_iadd hx hb dX1_doorSides_27 ?_
        refine lv_istore_n (lv' := [(2, .int (iI ((sumN (dsT S q_) k) + (qz (¬ ((drC S q_ (k : Int)) < 0)))))), (0, .ref hX), (1, .int (iI q_)), (3, .int (iI (k : Int)))]) hx hb dX1_doorSides_28 rfl hl (by decide) rfl (fun ls hl => ?_)
        refine g_iinc (lv' := [(3, .int (iI ((k : Int) + 1))), (2, .int (iI ((sumN (dsT S q_) k) + (qz (¬ ((drC S q_ (k : Int)) < 0)))))), (0, .ref hX), (1, .int (iI q_))]) hx hb dX1_doorSides_29 hl (k := 3) rfl (by decide) rfl (fun ls hl => ?_)
        refine lv_goto (tgt := 4) hx hb dX1_doorSides_32 (by decide) ?_
        exact ih4 _ (by omega) (k + 1) (by omega) rfl ls (by rw [show sumN (dsT S q_) (k + 1) = (sumN (dsT S q_) k) + (qz (¬ ((drC S q_ (k : Int)) < 0))) from by show _ + dsT S q_ (k : Int) = _; unfold dsT; congr 1; exact qz_congr ⟨fun h => by omega, fun h => by omega⟩]; exact lv_sub hl [2, 3, 1, 0] rfl)
      refine g_if_lt (tgt := 23) hx hb dX1_doorSides_16 (by decide) ⟨by omega, by omega⟩ (fun c4 => ?_) (fun c4 => ?_)
      · refine lv_iconst (v := iI 0) hx hb dX1_doorSides_23 rfl ?_
        refine g_eq (b := qz (¬ ((drC S q_ (k : Int)) < 0))) (qz_f (fun xx => (xx c4))).symm ?_
        exact hJ3 ls (lv_sub hl [0, 1, 2, 3] rfl)
      · refine lv_iconst (v := iI 1) hx hb dX1_doorSides_19 rfl ?_
        refine lv_goto (tgt := 24) hx hb dX1_doorSides_20 (by decide) ?_
        refine g_eq (b := qz (¬ ((drC S q_ (k : Int)) < 0))) (qz_t c4).symm ?_
        exact hJ3 ls (lv_sub hl [0, 1, 2, 3] rfl)
  exact lp4 _ 0 (by omega) rfl ls (lv_sub hl [2, 3, 1, 0] rfl)
