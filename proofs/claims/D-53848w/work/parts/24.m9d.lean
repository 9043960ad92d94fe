/-! the share of open walks: a double that is a number -/
theorem sumN_mono {f h : Int → Int} : ∀ n : Nat, (∀ k : Int, 0 ≤ k → k < n → f k ≤ h k) → sumN f n ≤ sumN h n
  | 0, _ => Int.le_refl _
  | n + 1, hle => by
    have a := sumN_mono n (fun k x y => hle k x (by omega))
    have b := hle n (by omega) (by omega)
    show sumN f n + f (n : Int) ≤ sumN h n + h (n : Int)
    omega
def upK (k : Int) : Int := if k / 6 < k % 6 then 1 else 0
theorem prT_b {S : Int → Int} {w k : Int} (hw : w = 0 ∨ w = 1) : 0 ≤ prT S w k ∧ prT S w k ≤ upK k := by
  have h1 : 0 ≤ zi (w = 0) 1 (zi (w = 1) (zi (wYes S (k / 6) (k % 6) ∧ wCo S (k / 6) (k % 6) = 0) 0 1) (zi (wYes S (k / 6) (k % 6)) (wCo S (k / 6) (k % 6)) 0)) ∧ zi (w = 0) 1 (zi (w = 1) (zi (wYes S (k / 6) (k % 6) ∧ wCo S (k / 6) (k % 6) = 0) 0 1) (zi (wYes S (k / 6) (k % 6)) (wCo S (k / 6) (k % 6)) 0)) ≤ 1 := by
    rcases hw with rfl | rfl
    · rw [zi_t rfl]; decide
    · rw [zi_f (by decide), zi_t rfl]; exact zi_b (by decide) (by decide)
  unfold prT upK
  by_cases c : askP S k
  · rw [zi_t c, if_pos c.1]; exact h1
  · rw [zi_f c]
    split <;> decide
theorem prs_b {S : Int → Int} {w : Int} (hw : w = 0 ∨ w = 1) : 0 ≤ prs S w ∧ prs S w ≤ 15 := by
  refine ⟨sumN_nn 36 (fun k _ _ => (prT_b hw).1), ?_⟩
  have h := sumN_mono (f := prT S w) (h := upK) 36 (fun k _ _ => (prT_b hw).2)
  have e : sumN upK 36 = 15 := by decide
  rw [e] at h
  exact h
theorem prs_le (S : Int → Int) : prs S 1 ≤ prs S 0 := sumN_mono 36 (fun k _ _ => by
  rw [prT_0]
  unfold prT
  by_cases c : askP S k
  · rw [zi_t c, zi_t c, zi_f (by decide), zi_t rfl]; exact (zi_b (lo := 0) (hi := 1) (by decide) (by decide)).2
  · rw [zi_f c, zi_f c]; exact Int.le_refl _)
def n64b (a b : Nat) : Bool := decide ((FP.ddiv (FP.i2d (iI (a : Int))) (FP.i2d (iI (b : Int)))) &&& 0x7fffffffffffffff ≤ 0x7ff0000000000000)
theorem n64_all : (List.range 16).all (fun a => (List.range 15).all (fun b => n64b a (b + 1))) = true := by decide +kernel
theorem n64 {a b : Int} (ha : 0 ≤ a ∧ a ≤ 15) (hb : 1 ≤ b ∧ b ≤ 15) : vf_n64 (FP.ddiv (FP.i2d (iI a)) (FP.i2d (iI b))) := by
  have h := List.all_eq_true.mp n64_all a.toNat (List.mem_range.mpr (by omega))
  have h2 := List.all_eq_true.mp h (b.toNat - 1) (List.mem_range.mpr (by omega))
  have h3 := of_decide_eq_true h2
  rw [show (((b.toNat - 1 + 1 : Nat)) : Int) = b from by omega, show ((a.toNat : Nat) : Int) = a from by omega] at h3
  exact h3
noncomputable def shV (S : Int → Int) : UInt64 := @ite UInt64 (prs S 0 = 0) (Classical.propDecidable _) FP.dconst1 (FP.ddiv (FP.i2d (iI (prs S 0 - prs S 1))) (FP.i2d (iI (prs S 0))))
theorem shV_t {S : Int → Int} (h : prs S 0 = 0) : FP.dconst1 = shV S := by unfold shV; rw [if_pos h]
theorem shV_f {S : Int → Int} (h : ¬ prs S 0 = 0) : FP.ddiv (FP.i2d (iI (prs S 0 - prs S 1))) (FP.i2d (iI (prs S 0))) = shV S := by unfold shV; rw [if_neg h]
noncomputable def sqV (S : Int → Int) (x y w : Int) : Int := zi (w = 0) (wh S x y) (sdM S x y)
