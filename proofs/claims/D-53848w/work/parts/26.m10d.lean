/-! filling up -/
theorem g_reP {D : va_G} {cl : List vw_C} {ws : va_W} {H : Heap} {a : Nat} {cA : ClassId} {n : Nat} {f h : Int → Prop} (hP : va_P D cl ws H) (q0 : Nat) (he : ws[q0]? = some (a, .inl (cA, n, .inl (aP f)))) (hf : ∀ k : Int, 0 ≤ k → k < n → (f k ↔ h k)) {ws1 : va_W} (hw : ws.set q0 (a, .inl (cA, n, .inl (aP h))) = ws1) : va_P D cl ws1 H := by
  subst hw
  have hl := (List.getElem?_eq_some_iff.mp he).1
  intro k q hk
  by_cases hkp : k = q0
  · subst hkp
    rw [List.getElem?_set_self hl] at hk
    cases hk
    have h1 : H[a]? = some (vp_cell cA (n, .inl (aP f))) := hP k _ he
    show H[a]? = some (vp_cell cA (n, .inl (aP h)))
    rw [h1]
    congr 1
    rw [vp_cell_i, vp_cell_i]
    exact arrV_cg cA n (fun j hj => by show Value.int (iI (qz (f (j : Int)))) = Value.int (iI (qz (h (j : Int)))); rw [qz_congr (hf (j : Int) (by omega) (by omega))])
  · rw [List.getElem?_set_ne (Ne.symm hkp)] at hk
    exact hP k q hk
theorem nbb {n b : Int} (hn : 0 ≤ n ∧ n ≤ 192) (hb : 1 ≤ b ∧ b ≤ 3) : 0 ≤ n * b * b ∧ n * b * b ≤ 1728 ∧ n * b * b = n * (b * b) := by
  have h : b = 1 ∨ b = 2 ∨ b = 3 := by omega
  rcases h with rfl | rfl | rfl <;> refine ⟨by omega, by omega, by omega⟩
theorem dm3 {q b n : Int} (hq : 0 ≤ q) (hb : 1 ≤ b ∧ b ≤ 3) (h : q < n * b * b) (e : n * b * b = n * (b * b)) : 0 ≤ q / (b * b) ∧ q / (b * b) < n ∧ 0 ≤ q % (b * b) ∧ q % (b * b) < b * b := by
  have bb := bb_rng hb
  exact ⟨Int.ediv_nonneg hq (by omega), Int.ediv_lt_of_lt_mul (by omega) (by omega), Int.emod_nonneg q (by omega), Int.emod_lt_of_pos q (by omega)⟩
