/-! layFar: its beginning; one side -/
def spI (S : Int → Int) (b r : Int) (FA WQ : Int → Int) (WA : Int → Prop) (n k : Int) : Prop :=
  (∀ q : Int, 0 ≤ q → q < k → FA q = zi (isEnd S b r q) 1 2147483647 ∧ (WA q ↔ isEnd S b r q)) ∧ n = sumN (fun q => qz (isEnd S b r q)) k.toNat ∧ (0 ≤ n ∧ n ≤ k) ∧
  (∀ j : Int, 0 ≤ j → j < n → 0 ≤ WQ j ∧ WQ j < k ∧ isEnd S b r (WQ j)) ∧ (∀ q : Int, 0 ≤ q → q < k → isEnd S b r q → ∃ j : Int, 0 ≤ j ∧ j < n ∧ WQ j = q) ∧ ∀ i j : Int, 0 ≤ i → i < j → j < n → WQ i < WQ j
theorem spI_0 {S : Int → Int} {b r : Int} {FA WQ : Int → Int} {WA : Int → Prop} : spI S b r FA WQ WA 0 0 := ⟨fun q a c => by omega, rfl, by omega, fun j a c => by omega, fun q a c => by omega, fun i j a c d => by omega⟩
theorem spI_t {S : Int → Int} {b r : Int} {FA WQ : Int → Int} {WA : Int → Prop} {n v : Int} {k : Nat} (h : spI S b r FA WQ WA n (k : Int)) (hv : v = zi (isEnd S b r (k : Int)) 1 2147483647) (he : isEnd S b r (k : Int)) : spI S b r (uZ FA (k : Int) v) (uZ WQ n (k : Int)) (uP WA (k : Int) (isEnd S b r (k : Int))) (n + 1) ((k : Int) + 1) := by
  obtain ⟨h1, h2, h3, h4, h5, h6⟩ := h
  refine ⟨fun q a c => ?_, ?_, by omega, fun j a c => ?_, fun q a c e => ?_, fun i j a c d => ?_⟩
  · by_cases z : q = (k : Int)
    · subst z; rw [uZ_s, uP_s]; exact ⟨hv, Iff.rfl⟩
    · rw [uZ_n z, uP_n z]; exact h1 q a (by omega)
  · rw [show ((k : Int) + 1).toNat = k + 1 from by omega]
    rw [show (k : Int).toNat = k from by omega] at h2
    show n + 1 = sumN (fun q => qz (isEnd S b r q)) k + qz (isEnd S b r (k : Int))
    rw [qz_t he, ← h2]
  · by_cases z : j = n
    · subst z; rw [uZ_s]; exact ⟨by omega, by omega, he⟩
    · rw [uZ_n z]
      have := h4 j a (by omega)
      exact ⟨this.1, by omega, this.2.2⟩
  · by_cases z : q = (k : Int)
    · exact ⟨n, by omega, by omega, by rw [uZ_s]; exact z.symm⟩
    · obtain ⟨j, b1, b2, b3⟩ := h5 q a (by omega) e
      exact ⟨j, b1, by omega, by rw [uZ_n (by omega)]; exact b3⟩
  · by_cases z : j = n
    · subst z
      have := h4 i a c
      rw [uZ_s, uZ_n (by omega)]; omega
    · rw [uZ_n z, uZ_n (by omega)]; exact h6 i j a c (by omega)
theorem spI_f {S : Int → Int} {b r : Int} {FA WQ : Int → Int} {WA : Int → Prop} {n v : Int} {k : Nat} (h : spI S b r FA WQ WA n (k : Int)) (hv : v = zi (isEnd S b r (k : Int)) 1 2147483647) (he : ¬ isEnd S b r (k : Int)) : spI S b r (uZ FA (k : Int) v) WQ (uP WA (k : Int) (isEnd S b r (k : Int))) n ((k : Int) + 1) := by
  obtain ⟨h1, h2, h3, h4, h5, h6⟩ := h
  refine ⟨fun q a c => ?_, ?_, by omega, fun j a c => ?_, fun q a c e => ?_, fun i j a c d => h6 i j a c d⟩
  · by_cases z : q = (k : Int)
    · subst z; rw [uZ_s, uP_s]; exact ⟨hv, Iff.rfl⟩
    · rw [uZ_n z, uP_n z]; exact h1 q a (by omega)
  · rw [show ((k : Int) + 1).toNat = k + 1 from by omega]
    rw [show (k : Int).toNat = k from by omega] at h2
    show n = sumN (fun q => qz (isEnd S b r q)) k + qz (isEnd S b r (k : Int))
    rw [qz_f he, ← h2]; omega
  · have := h4 j a c
    exact ⟨this.1, by omega, this.2.2⟩
  · have z : q ≠ (k : Int) := fun y => he (by rw [← y]; exact e)
    exact h5 q a (by omega) e
theorem spI_end {S : Int → Int} {b r : Int} {FA WQ : Int → Int} {WA : Int → Prop} {n : Int} (h : spI S b r FA WQ WA n 192) : spD S b r FA WA (-1) 0 ∧ spQ 0 n WQ WA := by
  obtain ⟨h1, h2, h3, h4, h5, h6⟩ := h
  have e0 : ∀ j : Int, 0 ≤ j → j < n → ((0 : Int) + j) % 192 = j := fun j a c => by omega
  have one : ∀ q : Int, 0 ≤ q → q < 192 → ¬ FA q = 2147483647 → isEnd S b r q := fun q a c e => Classical.byContradiction fun z => e (by rw [(h1 q a c).1, zi_f z])
  refine ⟨⟨fun q a c => ?_, fun q a c e => ?_, fun q a c e => ?_, fun p d a c e f g hw _ _ => ?_, fun q a c e f => ?_, fun q a c hq => ?_⟩, by omega, ?_, fun j a c => ?_, fun q a c hq => ?_, fun i j a c d => ?_⟩
  · by_cases e : FA q = 2147483647
    · exact Or.inl e
    · right
      have z : FA q = 1 := by rw [(h1 q a c).1, zi_t (one q a c e)]
      have s := sumN_one_off (f := fun k => qz (¬ FA k = 2147483647)) (h := fun k => if k = q then 0 else qz (¬ FA k = 2147483647)) (p := q) 192 (fun k _ _ hk => by simp [hk]) a (by omega)
      have s2 := sumN_nn (f := fun k => if k = q then 0 else qz (¬ FA k = 2147483647)) 192 (fun k _ _ => by
        by_cases y : k = q
        · simp [y]
        · simp only [y, if_false]; exact (qz_01 _).1)
      have s3 : cnF FA = sumN (fun k => if k = q then 0 else qz (¬ FA k = 2147483647)) 192 - 0 + 1 := by
        have : qz (¬ FA q = 2147483647) = 1 := qz_t e
        unfold cnF; rw [s, this]; simp
      omega
  · rw [(h1 q a c).1, zi_t e]
  · rw [(h1 q a c).1, zi_f (fun z => e z.1)]
  · exact absurd ((h1 p a c).2.mpr (one p a c g)) hw
  · exact absurd (one q a c e) f
  · rw [(h1 q a c).1, zi_t ((h1 q a c).2.mp hq)]; decide
  · rw [h2]
    exact sumN_ext 192 (fun k a c => qz_congr (h1 k a (by omega)).2.symm)
  · rw [e0 j a c]
    have := h4 j a c
    exact ⟨⟨this.1, this.2.1⟩, (h1 _ this.1 this.2.1).2.mpr this.2.2⟩
  · obtain ⟨j, b1, b2, b3⟩ := h5 q a c ((h1 q a c).2.mp hq)
    exact ⟨j, b1, b2, by rw [e0 j b1 b2]; exact b3⟩
  · rw [e0 i a (by omega), e0 j (by omega) d]
    have := h6 i j a c d
    omega
theorem relC {S FA : Int → Int} {b p k v w : Int} (hb : 1 ≤ b ∧ b ≤ 3) (kF : rgF FA) (st : stF S b FA) (hp : 0 ≤ p ∧ p < 192) (hpf : ¬ FA p = 2147483647) (hk : 0 ≤ k ∧ k < 4) (ev : v = zi (nxC p k = -1) 2147483647 (zi (plc S b (nxC p k % 16) (nxC p k / 16)) (tkC S FA b (nxC p k) (sd1 k)) 2147483647)) (ew : w = zi (nxC p k = -1) 0 (FA (nxC p k))) :
    (v < w → ¬ nxC p k = -1 ∧ nxM S b p k = nxC p k ∧ v = FA p + 1 + 1000 * rk S b p (nxC p k) ∧ rk S b p (nxC p k) ≤ 3) ∧ (¬ v < w → nxM S b p k = -1 ∨ FA (nxM S b p k) ≤ FA p + 1 + 1000 * rk S b p (nxM S b p k)) := by
  have hr := nxC_rng p k
  have sr := sd1_rng (d := k) (by omega)
  have em := nxM_nxC (S := S) (p := p) (d := k) hb.1
  by_cases c : nxC p k = -1
  · rw [zi_t c] at ev ew
    rw [zi_f (fun z => z.1 c)] at em
    exact ⟨fun z => by omega, fun _ => Or.inl em⟩
  · rw [zi_f c] at ev ew
    obtain ⟨hs, e1⟩ := nxC_sq c
    have fr := kF (nxC p k) (by omega) (by omega)
    by_cases c2 : stP S b (nxC p k)
    · rw [zi_t c2] at ev
      rw [zi_t ⟨c, c2⟩] at em
      have x1 : nxC p k % 16 = p % 16 + dx k := by omega
      have x2 : nxC p k / 16 = p / 16 + dy k := by omega
      have eb : nxC (nxC p k) (sd1 k) = p := by
        have e3 : nxC p k % 16 + dx (sd1 k) = p % 16 := by rw [sr.2.2.1]; omega
        have e4 : nxC p k / 16 + dy (sd1 k) = p / 16 := by rw [sr.2.2.2]; omega
        have e5 : nxC (nxC p k) (sd1 k) = zi (isSq (p % 16) (p / 16)) (16 * (p / 16) + p % 16) (-1) := by rw [← e3, ← e4]; rfl
        rw [e5, zi_t ⟨by omega, by omega⟩]; omega
      have et : tkC S FA b (nxC p k) (sd1 k) = 1000 * nrk S b p (sd1 k) + 1 + FA p := by
        unfold tkC
        rw [eb, zi_t ⟨by omega, hpf⟩]
      have er : nrk S b p (sd1 k) = rk S b p (nxC p k) := nrk_rk hb (st.pl p hp.1 hp.2 hpf) (by omega) ⟨sr.1, sr.2.1⟩ (by rw [sr.2.2.1]; omega) (by rw [sr.2.2.2]; omega)
      have e3 := nrk_rng S p (sd1 k) hb
      refine ⟨fun z => ⟨c, em, by omega, by omega⟩, fun z => Or.inr ?_⟩
      rw [em]; omega
    · rw [zi_f c2] at ev
      rw [zi_f (fun z => c2 z.2)] at em
      exact ⟨fun z => by omega, fun _ => Or.inl em⟩
theorem smF_nn {FA : Int → Int} (k : rgF FA) : 0 ≤ smF FA := sumN_nn 192 (fun q a c => (reF_rg k q a (by omega)).1)
theorem relR {S FA : Int → Int} {b p k v w : Int} (hb : 1 ≤ b ∧ b ≤ 3) (kF : rgF FA) (ev : v = zi (nxC p k = -1) 2147483647 (zi (plc S b (nxC p k % 16) (nxC p k / 16)) (tkC S FA b (nxC p k) (sd1 k)) 2147483647)) (ew : w = zi (nxC p k = -1) 0 (FA (nxC p k))) : r32 v ∧ r32 w := by
  have hr := nxC_rng p k
  have t := tkC_rng (S := S) (p := nxC p k) (d := sd1 k) hb kF
  have z1 := zi_or (plc S b (nxC p k % 16) (nxC p k / 16)) (tkC S FA b (nxC p k) (sd1 k)) 2147483647
  have z2 := zi_or (nxC p k = -1) 2147483647 (zi (plc S b (nxC p k % 16) (nxC p k / 16)) (tkC S FA b (nxC p k) (sd1 k)) 2147483647)
  have z3 := zi_or (nxC p k = -1) 0 (FA (nxC p k))
  by_cases c : nxC p k = -1
  · omega
  · have := kF (nxC p k) (by omega) (by omega)
    omega
