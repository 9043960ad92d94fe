/-! the reference's answers about chambers, ways, counts; what would be -/
theorem wL_pos {S : Int → Int} {b one other : Int} (hb : 1 ≤ b ∧ b ≤ 3) (h : isDist S b other (dsF S b other)) (hy : ¬ wB S b one other = -1) : 1 ≤ wL S b one other := by
  have hB := wB_rng (S := S) (one := one) hb h
  rcases Int.lt_or_le 0 (wL S b one other) with z | z
  · omega
  · exfalso
    obtain ⟨n, h1, h2⟩ := pk_least (fun j => pth S (dsF S b other) b (wB S b one other) j = -1) ⟨192, Classical.byContradiction fun q => by
      have := pth_len (S := S) (RE := dsF S b other) hb hB 192 q
      have := cnt_nn (dsF S b other) (dsF S b other (pth S (dsF S b other) b (wB S b one other) 192))
      omega⟩
    have hn : n ≠ 0 := fun e => by rw [e] at h1; exact hy h1
    have h9 : n ≤ 192 := by
      rcases Nat.lt_or_ge 192 n with q | q
      · have := pth_len (S := S) (RE := dsF S b other) hb hB 192 (h2 192 q)
        have := cnt_nn (dsF S b other) (dsF S b other (pth S (dsF S b other) b (wB S b one other) 192))
        omega
      · exact q
    have := lenP_eq (S := S) (RE := dsF S b other) (b := b) (a := wB S b one other) h9 (fun j hj => h2 j hj) h1
    have e : wL S b one other = lenP S (dsF S b other) b (wB S b one other) := rfl
    omega
noncomputable def wkT (S : Int → Int) (r : Int) (F : Prop) (k : Int) : Int := qz (¬ k = r ∧ 0 < S (216 + 6 * r + k) ∧ (¬ F ∨ ¬ (wYes S r k ∧ wCo S r k = 0)))
noncomputable def wkd (S : Int → Int) (r : Int) (F : Prop) : Int := sumN (wkT S r F) 6
noncomputable def orV (S : Int → Int) (r w : Int) : Int := zi (w < 4) (S (192 + 4 * r + w)) (zi (w < 6) (drs S r (w = 5)) (wkd S r (w = 7)))
noncomputable def wyV (S : Int → Int) (a o w : Int) : Int := zi (w = 4) (S (216 + 6 * a + o)) (zi (wYes S a o) (zi (w = 0) (wCo S a o) (zi (w = 1) (wL S (brW S a o) a o) (wPz S (brW S a o) a o (zi (w = 2) 0 (wL S (brW S a o) a o - 1))))) (-1))
noncomputable def cntV (S : Int → Int) (kept w : Int) : Int := zi (w < 3) (zi (w = 0) (rmC S) (sqC S (zi (w = 1) (-1) (-2)))) (zi (w = 5 ∨ w = 6) (ads S (w = 6)) (zi (w = 8) kept (prs S (zi (w = 7) 2 (w - 3)))))
def cpZ (F T : Int → Int) (fa ta n : Int) : Int → Int := fun j => if ta ≤ j ∧ j < ta + n then F (j - ta + fa) else T j
theorem cpZ_0 {F T : Int → Int} {fa ta : Int} : cpZ F T fa ta 0 = T := by
  funext j
  unfold cpZ
  rw [if_neg (by omega)]
theorem cpZ_s {F T : Int → Int} {fa ta k : Int} (hk : 0 ≤ k) : uZ (cpZ F T fa ta k) (ta + k) (F (fa + k)) = cpZ F T fa ta (k + 1) := by
  funext j
  unfold uZ cpZ
  by_cases e : j = ta + k
  · rw [if_pos e, if_pos (by omega), show j - ta + fa = fa + k from by omega]
  · rw [if_neg e]
    by_cases e2 : ta ≤ j ∧ j < ta + k
    · rw [if_pos e2, if_pos (by omega)]
    · rw [if_neg e2, if_neg (by omega)]
noncomputable def tgl (S : Int → Int) (q : Int) : Int → Int := uZ S q (zi (S q = -1) (-2) (-1))
noncomputable def gv1 (S : Int → Int) (r : Int) : Nat → Int → Int
  | 0 => S
  | k + 1 => uZ (gv1 S r k) (k : Int) (zi (gv1 S r k (k : Int) = r) (-1) (gv1 S r k (k : Int)))
noncomputable def gvN (S : Int → Int) (r : Int) : Nat → Int
  | 0 => 0
  | k + 1 => gvN S r k + qz (gv1 S r k (k : Int) = r)
def gv2 (T : Int → Int) (r : Int) : Nat → Int → Int
  | 0 => T
  | k + 1 => uZ (uZ (gv2 T r k) (216 + 6 * r + (k : Int)) 0) (216 + 6 * (k : Int) + r) 0
noncomputable def gvS (S : Int → Int) (r : Int) : Int → Int := gv2 (uZ (gv1 S r 192) (192 + 4 * r + 2) 0) r 6
theorem rgS_gv1 {S : Int → Int} {r : Int} (h : rgS S) : ∀ k : Nat, k ≤ 192 → rgS (gv1 S r k)
  | 0, _ => h
  | k + 1, hk => by
    have i := rgS_gv1 (r := r) h k (by omega)
    exact rgS_u i (zi_b (by omega) (i (k : Int) (by omega) (by omega)))
theorem rgS_gv2 {T : Int → Int} {r : Int} (h : rgS T) : ∀ k : Nat, rgS (gv2 T r k)
  | 0 => h
  | k + 1 => rgS_u (rgS_u (rgS_gv2 h k) (by decide)) (by decide)
theorem rgS_gvS {S : Int → Int} {r : Int} (h : rgS S) : rgS (gvS S r) := rgS_gv2 (rgS_u (rgS_gv1 h 192 (Nat.le_refl _)) (by decide)) 6
theorem rgS_tgl {S : Int → Int} {q : Int} (h : rgS S) : rgS (tgl S q) := rgS_u h (zi_b (by omega) (by omega))
theorem gv1_hi {S : Int → Int} {r j : Int} (hj : 192 ≤ j) : ∀ k : Nat, k ≤ 192 → gv1 S r k j = S j
  | 0, _ => rfl
  | k + 1, hk => by
    show uZ (gv1 S r k) (k : Int) _ j = S j
    rw [uZ_n (by omega)]
    exact gv1_hi hj k (by omega)
theorem gv2_or {T : Int → Int} {r j : Int} : ∀ k : Nat, gv2 T r k j = T j ∨ gv2 T r k j = 0
  | 0 => Or.inl rfl
  | k + 1 => by
    show uZ (uZ (gv2 T r k) (216 + 6 * r + (k : Int)) 0) (216 + 6 * (k : Int) + r) 0 j = T j ∨ _
    by_cases e1 : j = 216 + 6 * (k : Int) + r
    · right; rw [e1]; exact uZ_s
    · by_cases e2 : j = 216 + 6 * r + (k : Int)
      · right
        show uZ (uZ (gv2 T r k) (216 + 6 * r + (k : Int)) 0) (216 + 6 * (k : Int) + r) 0 j = 0
        rw [uZ_n e1, e2]; exact uZ_s
      · rw [uZ_n e1, uZ_n e2]
        rcases gv2_or (T := T) (r := r) (j := j) k with z | z
        · exact Or.inl z
        · right
          show uZ (uZ (gv2 T r k) (216 + 6 * r + (k : Int)) 0) (216 + 6 * (k : Int) + r) 0 j = 0
          rw [uZ_n e1, uZ_n e2]; exact z
theorem rgW_gvS {S : Int → Int} {r : Int} (hr : 0 ≤ r ∧ r ≤ 5) (h : rgW S) : rgW (gvS S r) := fun i a c => by
  unfold gvS
  rcases gv2_or (T := uZ (gv1 S r 192) (192 + 4 * r + 2) 0) (r := r) (j := i) 6 with z | z
  · rw [z, uZ_n (by omega), gv1_hi (by omega) 192 (Nat.le_refl _)]; exact h i a c
  · rw [z]; decide
theorem rgW_u {S : Int → Int} {i v : Int} (h : rgW S) (hi : i < 192) : rgW (uZ S i v) := fun j a c => by
  rw [uZ_n (by omega)]; exact h j a c
theorem set_u {S : Int → Int} {i v : Int} (hi : i < 192) : uZ S i v 252 = S 252 := uZ_n (by omega)
section G6
theorem arrV_cg (cA : ClassId) (n : Nat) {f h : Nat → Value} (e : ∀ j : Nat, j < n → f j = h j) : arrV cA n f = arrV cA n h := by
  unfold arrV
  rw [show (fun j : Fin n => f j.val) = fun j : Fin n => h j.val from funext fun j => e j.val j.isLt]
theorem g_re {D : va_G} {cl : List vw_C} {ws : va_W} {H : Heap} {a : Nat} {cA : ClassId} {n : Nat} {f h : Int → Int} (hP : va_P D cl ws H) (q0 : Nat) (he : ws[q0]? = some (a, .inl (cA, n, .inl (aI f)))) (hf : ∀ k : Int, 0 ≤ k → k < n → f k = h k) {ws1 : va_W} (hw : ws.set q0 (a, .inl (cA, n, .inl (aI h))) = ws1) : va_P D cl ws1 H := by
  subst hw
  have hl := (List.getElem?_eq_some_iff.mp he).1
  intro k q hk
  by_cases hkp : k = q0
  · subst hkp
    rw [List.getElem?_set_self hl] at hk
    cases hk
    have h1 : H[a]? = some (vp_cell cA (n, .inl (aI f))) := hP k _ he
    show H[a]? = some (vp_cell cA (n, .inl (aI h)))
    rw [h1]
    congr 1
    rw [vp_cell_i, vp_cell_i]
    exact arrV_cg cA n (fun j hj => by show Value.int (iI (f (j : Int))) = Value.int (iI (h (j : Int))); rw [hf (j : Int) (by omega) (by omega)])
  · rw [List.getElem?_set_ne (Ne.symm hkp)] at hk
    exact hP k q hk
end G6
theorem zi_add {P : Prop} {s x : Int} : zi P (s + x) s = s + zi P x 0 := by
  by_cases h : P
  · rw [zi_t h, zi_t h]
  · rw [zi_f h, zi_f h, Int.add_zero]
theorem qz_nand {A B : Prop} : zi (A ∧ B) 0 1 = qz (¬ A ∨ ¬ B) := (qz_not _).trans (qz_congr ⟨fun z => (Classical.em A).elim (fun a => Or.inr (fun b => z ⟨a, b⟩)) Or.inl, fun z q => z.elim (fun n => n q.1) (fun n => n q.2)⟩)
theorem prT_0 (S : Int → Int) (k : Int) : prT S 0 k = zi (askP S k) 1 0 := by unfold prT; rw [zi_t (show (0 : Int) = 0 from rfl)]
