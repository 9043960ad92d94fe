/-! layFar: the labels -/
noncomputable def cnF (FA : Int → Int) : Int := sumN (fun k => qz (¬ FA k = 2147483647)) 192
noncomputable def smF (FA : Int → Int) : Int := sumN (reF FA) 192
theorem cnF_nn (FA : Int → Int) : 0 ≤ cnF FA ∧ cnF FA ≤ 192 := by
  have h1 := sumN_nn (f := fun k => qz (¬ FA k = 2147483647)) 192 (fun k _ _ => (qz_01 _).1)
  have h2 := sumN_le (f := fun k => qz (¬ FA k = 2147483647)) (b := 1) 192 (fun k _ _ => (qz_01 _).2)
  unfold cnF; omega
theorem cnF_set {FA : Int → Int} {p v : Int} (h0 : 0 ≤ p) (h1 : p < 192) : cnF (uZ FA p v) = cnF FA - qz (¬ FA p = 2147483647) + qz (¬ v = 2147483647) := by
  unfold cnF
  rw [sumN_one_off (f := fun k => qz (¬ uZ FA p v k = 2147483647)) (h := fun k => qz (¬ FA k = 2147483647)) (p := p) 192 (fun k _ _ hk => by show qz (¬ uZ FA p v k = 2147483647) = qz (¬ FA k = 2147483647); rw [uZ_n hk]) h0 (by omega)]
  show cnF FA - qz (¬ FA p = 2147483647) + qz (¬ uZ FA p v p = 2147483647) = _
  rw [uZ_s]; rfl
theorem smF_set {FA : Int → Int} {p v : Int} (h0 : 0 ≤ p) (h1 : p < 192) : smF (uZ FA p v) = smF FA - reF FA p + zi (v = 2147483647) 1000000 v := by
  unfold smF
  rw [sumN_one_off (f := reF (uZ FA p v)) (h := reF FA) (p := p) 192 (fun k _ _ hk => by unfold reF; rw [uZ_n hk]) h0 (by omega)]
  have e : reF (uZ FA p v) p = zi (v = 2147483647) 1000000 v := by unfold reF; rw [uZ_s]
  rw [e]
def spD (S : Int → Int) (b r : Int) (FA : Int → Int) (WA : Int → Prop) (pc k : Int) : Prop :=
  (∀ q : Int, 0 ≤ q → q < 192 → FA q = 2147483647 ∨ (1 ≤ FA q ∧ FA q ≤ 3001 * cnF FA)) ∧
  (∀ q : Int, 0 ≤ q → q < 192 → isEnd S b r q → FA q = 1) ∧
  (∀ q : Int, 0 ≤ q → q < 192 → ¬ stP S b q → FA q = 2147483647) ∧
  (∀ p d : Int, 0 ≤ p → p < 192 → 0 ≤ d → d < 4 → ¬ FA p = 2147483647 → ¬ WA p → (p = pc → d < k) → ¬ nxM S b p d = -1 → FA (nxM S b p d) ≤ FA p + 1 + 1000 * rk S b p (nxM S b p d)) ∧
  (∀ q : Int, 0 ≤ q → q < 192 → ¬ FA q = 2147483647 → ¬ isEnd S b r q → ∃ p d : Int, 0 ≤ p ∧ p < 192 ∧ 0 ≤ d ∧ d < 4 ∧ nxM S b p d = q ∧ ¬ FA p = 2147483647 ∧ FA p + 1 + 1000 * rk S b p q ≤ FA q) ∧
  (∀ q : Int, 0 ≤ q → q < 192 → WA q → ¬ FA q = 2147483647)
theorem spD_rg {S : Int → Int} {b r : Int} {FA : Int → Int} {WA : Int → Prop} {pc k : Int} (h : spD S b r FA WA pc k) : rgF FA := fun q a c => by
  have h1 := h.1 q a c
  have h2 := cnF_nn FA
  omega
theorem spD_st {S : Int → Int} {b r : Int} {FA : Int → Int} {WA : Int → Prop} {pc k : Int} (h : spD S b r FA WA pc k) : stF S b FA := fun q a c e => Classical.byContradiction fun z => e (h.2.2.1 q a c z)
theorem spD_pop {S : Int → Int} {b r : Int} {FA : Int → Int} {WA : Int → Prop} {p : Int} (h : spD S b r FA WA (-1) 0) : spD S b r FA (uP WA p False) p 0 := by
  obtain ⟨h1, h2, h3, h4, h5, h6⟩ := h
  refine ⟨h1, h2, h3, fun p2 d a c e f g hw hk hn => ?_, h5, fun q a c hq => ?_⟩
  · have hne : p2 ≠ p := fun z => by have := hk z; omega
    rw [uP_n hne] at hw
    exact h4 p2 d a c e f g hw (fun z => by omega) hn
  · by_cases e : q = p
    · subst e; rw [uP_s] at hq; exact hq.elim
    · rw [uP_n e] at hq; exact h6 q a c hq
theorem spD_skip {S : Int → Int} {b r : Int} {FA : Int → Int} {WA : Int → Prop} {p k : Int} (h : spD S b r FA WA p k) (hs : nxM S b p k = -1 ∨ FA (nxM S b p k) ≤ FA p + 1 + 1000 * rk S b p (nxM S b p k)) : spD S b r FA WA p (k + 1) := by
  obtain ⟨h1, h2, h3, h4, h5, h6⟩ := h
  refine ⟨h1, h2, h3, fun p2 d a c e f g hw hk hn => ?_, h5, h6⟩
  by_cases z : p2 = p ∧ d = k
  · rw [z.1, z.2] at hn ⊢
    exact hs.resolve_left hn
  · exact h4 p2 d a c e f g hw (fun y => by have := hk y; have : d ≠ k := fun w => z ⟨y, w⟩; omega) hn
theorem spD_done {S : Int → Int} {b r : Int} {FA : Int → Int} {WA : Int → Prop} {p : Int} (h : spD S b r FA WA p 4) : spD S b r FA WA (-1) 0 := by
  obtain ⟨h1, h2, h3, h4, h5, h6⟩ := h
  exact ⟨h1, h2, h3, fun p2 d a c e f g hw _ hn => h4 p2 d a c e f g hw (fun _ => f) hn, h5, h6⟩
theorem spD_upd {S : Int → Int} {b r : Int} {FA : Int → Int} {WA : Int → Prop} {p k q T : Int} (hb : 1 ≤ b ∧ b ≤ 3) (h : spD S b r FA WA p k) (hp : 0 ≤ p ∧ p < 192) (hpf : ¬ FA p = 2147483647) (hk : 0 ≤ k ∧ k < 4) (hq : nxM S b p k = q) (hq1 : ¬ q = -1) (hT : T = FA p + 1 + 1000 * rk S b p q) (hr : rk S b p q ≤ 3) (hlt : T < FA q) :
    spD S b r (uZ FA q T) (uP WA q True) p (k + 1) ∧ smF (uZ FA q T) + 1 ≤ smF FA := by
  obtain ⟨h1, h2, h3, h4, h5, h6⟩ := id h
  have ns := nxM_st (S := S) hb.1 hp.1 ⟨hk.1, by omega⟩ (by rw [hq]; exact hq1)
  rw [hq] at ns
  obtain ⟨n1, n2, n3, n4⟩ := ns
  have rr := rk_rng S p q hb
  have b1 := h1 p hp.1 hp.2
  have cc := cnF_nn FA
  have T2 : 2 ≤ T ∧ T ≤ 3001 * cnF FA + 3001 := by omega
  have TN : ¬ T = 2147483647 := by omega
  have ec : cnF (uZ FA q T) = cnF FA - qz (¬ FA q = 2147483647) + 1 := by rw [cnF_set n3 n4, qz_t TN]
  have eo := qz_or (¬ FA q = 2147483647)
  have ne : ¬ isEnd S b r q := fun z => by have := h2 q n3 n4 z; omega
  refine ⟨⟨fun x a c => ?_, fun x a c e => ?_, fun x a c e => ?_, fun p2 d a c e f g hw hkk hn => ?_, fun x a c e f => ?_, fun x a c hx => ?_⟩, ?_⟩
  · by_cases z : x = q
    · subst z; rw [uZ_s]; right
      have b2 := h1 x n3 n4
      omega
    · rw [uZ_n z]
      have := h1 x a c
      omega
  · have z : x ≠ q := fun y => ne (by rw [← y]; exact e)
    rw [uZ_n z]; exact h2 x a c e
  · have z : x ≠ q := fun y => e (by rw [y]; exact n1)
    rw [uZ_n z]; exact h3 x a c e
  · have z : p2 ≠ q := fun y => hw (by rw [y, uP_s]; trivial)
    rw [uP_n z] at hw
    rw [uZ_n z] at g ⊢
    by_cases y : p2 = p ∧ d = k
    · rw [y.1, y.2, hq, uZ_s, hT]; exact Int.le_refl _
    · have i := h4 p2 d a c e f g hw (fun w => by have := hkk w; have : d ≠ k := fun v => y ⟨w, v⟩; omega) hn
      by_cases w : nxM S b p2 d = q
      · rw [w] at i ⊢; rw [uZ_s]; omega
      · rw [uZ_n w]; exact i
  · by_cases z : x = q
    · subst z
      exact ⟨p, k, hp.1, hp.2, hk.1, hk.2, hq, by rw [uZ_n (fun y => n2 y.symm)]; exact hpf, by rw [uZ_n (fun y => n2 y.symm), uZ_s, hT]; exact Int.le_refl _⟩
    · rw [uZ_n z] at e ⊢
      obtain ⟨p2, d, a1, a2, a3, a4, a5, a6, a7⟩ := h5 x a c e f
      by_cases w : p2 = q
      · exact ⟨p2, d, a1, a2, a3, a4, a5, by rw [w, uZ_s]; exact TN, by rw [w] at a7 ⊢; rw [uZ_s]; omega⟩
      · exact ⟨p2, d, a1, a2, a3, a4, a5, by rw [uZ_n w]; exact a6, by rw [uZ_n w]; exact a7⟩
  · by_cases z : x = q
    · subst z; rw [uZ_s]; exact TN
    · rw [uZ_n z]; rw [uP_n z] at hx; exact h6 x a c hx
  · rw [smF_set n3 n4, zi_f TN]
    have b2 := h1 q n3 n4
    have := zi_or (FA q = 2147483647) 1000000 (FA q)
    unfold reF
    omega
theorem spD_exit {S : Int → Int} {b r : Int} {FA : Int → Int} {WA : Int → Prop} (h : spD S b r FA WA (-1) 0) (hw : ∀ q : Int, 0 ≤ q → q < 192 → ¬ WA q) : isDist S b r (reF FA) := by
  obtain ⟨h1, h2, h3, h4, h5, h6⟩ := id h
  have kF := spD_rg h
  have st := spD_st h
  have fin : ∀ q : Int, ¬ FA q = 2147483647 → reF FA q = FA q := fun q e => zi_f e
  refine ⟨fun q a c => ?_, fun q a c e => ?_, fun q a c e => ?_, fun p d a c e f g hl => ?_, fun q a c e f => ?_⟩
  · have := kF q a c
    have := zi_or (FA q = 2147483647) 1000000 (FA q)
    unfold reF; omega
  · have i := h2 q a c e
    rw [fin q (by omega), i]
  · exact zi_t (h3 q a c e)
  · have pf := (reF_lt kF a c).mp hl
    rw [fin p pf]
    have i := h4 p d a c e f pf (hw p a c) (fun z => by omega) g
    have cc := cnF_nn FA
    have b1 := h1 p a c
    have z := zi_or (FA (nxM S b p d) = 2147483647) 1000000 (FA (nxM S b p d))
    unfold reF
    have : ¬ FA (nxM S b p d) = 2147483647 ∨ FA (nxM S b p d) = 2147483647 := by omega
    have rr : 0 ≤ rk S b p (nxM S b p d) ∧ rk S b p (nxM S b p d) ≤ (b * b).toNat := rkN_rng S b p (nxM S b p d) (b * b).toNat
    omega
  · have qf := (reF_lt kF a c).mp e
    obtain ⟨p, d, a1, a2, a3, a4, a5, a6, a7⟩ := h5 q a c qf f
    have hq1 : ¬ nxM S b p d = -1 := by omega
    have i := h4 p d a1 a2 a3 a4 a6 (hw p a1 a2) (fun z => by omega) hq1
    rw [a5] at i
    exact ⟨p, d, a1, a2, a3, a4, a5, (reF_lt kF a1 a2).mpr a6, by rw [fin q qf, fin p a6]; omega⟩
