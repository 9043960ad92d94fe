/-! new rock of a place is the reference's rock; ways in the component's numbers -/
def strp (b d k : Int) : Prop := (d = 0 ∧ k % b = 0) ∨ (d = 1 ∧ k % b = b - 1) ∨ (d = 2 ∧ k / b = 0) ∨ (d = 3 ∧ k / b = b - 1)
theorem rkT_strp {S : Int → Int} {b p q d k : Int} (hb : 1 ≤ b ∧ b ≤ 3) (hp : inPl b p) (hq : 0 ≤ q) (hd : 0 ≤ d ∧ d ≤ 3) (e1 : p % 16 = q % 16 + dx d) (e2 : p / 16 = q / 16 + dy d) (h0 : 0 ≤ k) (h1 : k < b * b) : rkT S b p q k = zi (strp b d k) (roT S b p k) 0 := by
  have m := dm h0 hb.1 h1
  have h : ¬ hadP b p q k ↔ strp b d k := by
    unfold strp
    rcases dxy d hd with ⟨x1, y1⟩ | ⟨x1, y1⟩ | ⟨x1, y1⟩ | ⟨x1, y1⟩
    · have hd0 : d = 0 := by
        have : d = 0 ∨ d = 1 ∨ d = 2 ∨ d = 3 := by omega
        rcases this with z | z | z | z <;> subst z <;> first | rfl | (exfalso; revert x1 y1; decide)
      subst hd0
      constructor
      · intro h; left; refine ⟨rfl, Classical.byContradiction fun z => h ⟨by omega, by omega, by omega⟩⟩
      · rintro (h | h | h | h) z <;> omega
    · have hd0 : d = 1 := by
        have : d = 0 ∨ d = 1 ∨ d = 2 ∨ d = 3 := by omega
        rcases this with z | z | z | z <;> subst z <;> first | rfl | (exfalso; revert x1 y1; decide)
      subst hd0
      constructor
      · intro h; right; left; refine ⟨rfl, Classical.byContradiction fun z => h ⟨by omega, by omega, by omega⟩⟩
      · rintro (h | h | h | h) z <;> omega
    · have hd0 : d = 2 := by
        have : d = 0 ∨ d = 1 ∨ d = 2 ∨ d = 3 := by omega
        rcases this with z | z | z | z <;> subst z <;> first | rfl | (exfalso; revert x1 y1; decide)
      subst hd0
      constructor
      · intro h; right; right; left; refine ⟨rfl, Classical.byContradiction fun z => h ⟨by omega, by omega, by omega⟩⟩
      · rintro (h | h | h | h) z <;> omega
    · have hd0 : d = 3 := by
        have : d = 0 ∨ d = 1 ∨ d = 2 ∨ d = 3 := by omega
        rcases this with z | z | z | z <;> subst z <;> first | rfl | (exfalso; revert x1 y1; decide)
      subst hd0
      constructor
      · intro h; right; right; right; refine ⟨rfl, Classical.byContradiction fun z => h ⟨by omega, by omega, by omega⟩⟩
      · rintro (h | h | h | h) z <;> omega
  unfold rkT roT
  rw [wh_at hb hp h0 h1]
  by_cases c : strp b d k
  · rw [zi_t c]; exact qz_congr ⟨fun z => z.2, fun z => ⟨h.mpr c, z⟩⟩
  · rw [zi_f c, qz_f (fun z => c (h.mp z.1))]
theorem nrk_rk {S : Int → Int} {b p q d : Int} (hb : 1 ≤ b ∧ b ≤ 3) (hp : inPl b p) (hq : 0 ≤ q) (hd : 0 ≤ d ∧ d ≤ 3) (e1 : p % 16 = q % 16 + dx d) (e2 : p / 16 = q / 16 + dy d) : nrk S b p d = rk S b p q := by
  have bb := bb_rng hb
  have e : rk S b p q = sumN (fun k => zi (strp b d k) (roT S b p k) 0) (b * b).toNat := sumN_ext _ (fun k h0 h1 => rkT_strp hb hp hq hd e1 e2 h0 (by omega))
  rw [e]
  have c1 : b = 1 ∨ b = 2 ∨ b = 3 := by omega
  have c2 : d = 0 ∨ d = 1 ∨ d = 2 ∨ d = 3 := by omega
  clear e e1 e2 hq hp hd hb bb
  rcases c1 with rfl | rfl | rfl <;> rcases c2 with rfl | rfl | rfl | rfl <;> simp [nrk, nrT, sumN, zi, strp, roT, dx, dy, Int.add_assoc]
abbrev NW : Int := 2147483647
def rgF (FA : Int → Int) : Prop := ∀ i : Int, 0 ≤ i → i < 192 → FA i = 2147483647 ∨ (1 ≤ FA i ∧ FA i ≤ 600000)
def plF (b : Int) (FA : Int → Int) : Prop := ∀ q : Int, 0 ≤ q → q < 192 → ¬ FA q = 2147483647 → inPl b q
noncomputable def tkC (S FA : Int → Int) (b p d : Int) : Int := zi (¬ nxC p d = -1 ∧ ¬ FA (nxC p d) = 2147483647) (1000 * nrk S b (nxC p d) d + 1 + FA (nxC p d)) 2147483647
noncomputable def whC (S FA : Int → Int) (b p : Int) : Int := zi (FA p = 2147483647) 2147483647 (1000 * rk S b p (-1) + FA p)
theorem tkC_rng {S FA : Int → Int} {b p d : Int} (hb : 1 ≤ b ∧ b ≤ 3) (k : rgF FA) : 2 ≤ tkC S FA b p d ∧ (tkC S FA b p d ≤ 603001 ∨ tkC S FA b p d = 2147483647) := by
  unfold tkC
  rcases zi_or (¬ nxC p d = -1 ∧ ¬ FA (nxC p d) = 2147483647) (1000 * nrk S b (nxC p d) d + 1 + FA (nxC p d)) 2147483647 with ⟨h, e⟩ | ⟨-, e⟩
  · have h1 := nrk_rng S (nxC p d) d hb
    have h2 := nxC_rng p d
    have h3 := k (nxC p d) (by omega) (by omega)
    omega
  · omega
theorem whC_rng {S FA : Int → Int} {b p : Int} (hb : 1 ≤ b ∧ b ≤ 3) (k : rgF FA) (hp : 0 ≤ p ∧ p ≤ 191) : 1 ≤ whC S FA b p ∧ (whC S FA b p ≤ 609000 ∨ whC S FA b p = 2147483647) := by
  unfold whC
  have h1 := rk_rng S p (-1) hb
  have h3 := k p (by omega) (by omega)
  have := zi_or (FA p = 2147483647) 2147483647 (1000 * rk S b p (-1) + FA p)
  omega
/-- the component's numbers as the reference's -/
noncomputable def reF (FA : Int → Int) (q : Int) : Int := zi (FA q = 2147483647) 1000000 (FA q)
theorem reF_rg {FA : Int → Int} (k : rgF FA) : rgRE (reF FA) := fun i a c => by
  have := k i a c
  have := zi_or (FA i = 2147483647) 1000000 (FA i)
  unfold reF
  omega
theorem reF_lt {FA : Int → Int} (k : rgF FA) {q : Int} (a : 0 ≤ q) (c : q < 192) : reF FA q < 1000000 ↔ ¬ FA q = 2147483647 := by
  have := k q a c
  have := zi_or (FA q = 2147483647) 1000000 (FA q)
  unfold reF
  omega
noncomputable abbrev bgB (S FA : Int → Int) (b one : Int) (n : Nat) : Int := (bg S (reF FA) b one n).1
noncomputable def bgL (S FA : Int → Int) (b one : Int) (n : Nat) : Int := zi ((bg S (reF FA) b one n).1 = -1) 2147483647 (bg S (reF FA) b one n).2
