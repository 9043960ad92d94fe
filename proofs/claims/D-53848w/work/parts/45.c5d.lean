/-! layFar: labels that are set right, and the queue of places -/
theorem sumN_one_off {f h : Int → Int} {p : Int} : ∀ n : Nat, (∀ k : Int, 0 ≤ k → k < n → k ≠ p → f k = h k) → 0 ≤ p → p < n → sumN f n = sumN h n - h p + f p
  | 0, _, _, h2 => by omega
  | n + 1, hle, h1, h2 => by
    show sumN f n + f (n : Int) = sumN h n + h (n : Int) - h p + f p
    by_cases e : p = (n : Int)
    · subst e
      rw [sumN_ext n (fun k x y => hle k x (by omega) (by omega))]
      omega
    · have i := sumN_one_off n (fun k x y z => hle k x (by omega) z) h1 (by omega)
      have j := hle (n : Int) (by omega) (by omega) (fun z => e z.symm)
      omega
noncomputable def cnW (WA : Int → Prop) : Int := sumN (fun k => qz (WA k)) 192
theorem cnW_nn (WA : Int → Prop) : 0 ≤ cnW WA ∧ cnW WA ≤ 192 := by
  have h1 := sumN_nn (f := fun k => qz (WA k)) 192 (fun k _ _ => (qz_01 _).1)
  have h2 := sumN_le (f := fun k => qz (WA k)) (b := 1) 192 (fun k _ _ => (qz_01 _).2)
  unfold cnW; omega
theorem cnW_set {WA : Int → Prop} {p : Int} {v : Prop} (h0 : 0 ≤ p) (h1 : p < 192) : cnW (uP WA p v) = cnW WA - qz (WA p) + qz v := by
  unfold cnW
  rw [sumN_one_off (f := fun k => qz (uP WA p v k)) (h := fun k => qz (WA k)) (p := p) 192 (fun k _ _ hk => by show qz (uP WA p v k) = qz (WA k); rw [uP_n hk]) h0 (by omega)]
  show cnW WA - qz (WA p) + qz (uP WA p v p) = _
  rw [uP_s]; rfl
theorem cnW_le {WA : Int → Prop} {p : Int} (h0 : 0 ≤ p) (h1 : p < 192) (h : ¬ WA p) : cnW WA ≤ 191 := by
  have e := cnW_set (WA := WA) (v := True) h0 h1
  have := cnW_nn (uP WA p True)
  rw [qz_f h, qz_T] at e
  omega
/-- the queue: n places from slot f on, each once -/
def spQ (f n : Int) (WQ : Int → Int) (WA : Int → Prop) : Prop := (0 ≤ f ∧ f < 192) ∧ n = cnW WA ∧ (∀ j : Int, 0 ≤ j → j < n → (0 ≤ WQ ((f + j) % 192) ∧ WQ ((f + j) % 192) < 192) ∧ WA (WQ ((f + j) % 192))) ∧
  (∀ q : Int, 0 ≤ q → q < 192 → WA q → ∃ j : Int, 0 ≤ j ∧ j < n ∧ WQ ((f + j) % 192) = q) ∧ ∀ i j : Int, 0 ≤ i → i < j → j < n → ¬ WQ ((f + i) % 192) = WQ ((f + j) % 192)
theorem spQ_pop {f n : Int} {WQ : Int → Int} {WA : Int → Prop} (h : spQ f n WQ WA) (hn : 0 < n) : (0 ≤ WQ f ∧ WQ f < 192) ∧ WA (WQ f) ∧ spQ ((f + 1) % 192) (n - 1) WQ (uP WA (WQ f) False) := by
  obtain ⟨hf, hc, h1, h2, h3⟩ := h
  have ef : (f + 0) % 192 = f := by omega
  have a0 := h1 0 (by omega) hn
  rw [ef] at a0
  have sh : ∀ j : Int, ((f + 1) % 192 + j) % 192 = (f + (j + 1)) % 192 := fun j => by omega
  refine ⟨a0.1, a0.2, ⟨by omega, by omega⟩, ?_, fun j a b => ?_, fun q a b hq => ?_, fun i j a b c => ?_⟩
  · rw [cnW_set a0.1.1 a0.1.2, qz_t a0.2, qz_F]; omega
  · rw [sh j]
    have z := h1 (j + 1) (by omega) (by omega)
    have w := h3 0 (j + 1) (by omega) (by omega) (by omega)
    rw [ef] at w
    exact ⟨z.1, by rw [uP_n (fun e => w e.symm)]; exact z.2⟩
  · have hne : q ≠ WQ f := fun e => by rw [e, uP_s] at hq; exact hq
    rw [uP_n hne] at hq
    obtain ⟨j, b1, b2, b3⟩ := h2 q a b hq
    have hj : j ≠ 0 := fun e => by rw [e, ef] at b3; exact hne b3.symm
    refine ⟨j - 1, by omega, by omega, ?_⟩
    rw [sh, show j - 1 + 1 = j from by omega]; exact b3
  · rw [sh, sh]; exact h3 (i + 1) (j + 1) (by omega) (by omega) (by omega)
theorem spQ_push {f n v q : Int} {WQ : Int → Int} {WA : Int → Prop} (h : spQ f n WQ WA) (hv : 0 ≤ v ∧ v < 192) (hv2 : ¬ WA v) (hq : 0 ≤ q ∧ q < 192) : spQ f (n + qz (¬ WA q)) (uZ WQ ((f + n) % 192) q) (uP WA q True) ∧ n ≤ 191 := by
  obtain ⟨hf, hc, h1, h2, h3⟩ := h
  have hn : n ≤ 191 := by rw [hc]; exact cnW_le hv.1 hv.2 hv2
  have hn0 : 0 ≤ n := by rw [hc]; exact (cnW_nn WA).1
  have old : ∀ j : Int, 0 ≤ j → j < n → uZ WQ ((f + n) % 192) q ((f + j) % 192) = WQ ((f + j) % 192) := fun j a b => uZ_n (by omega)
  have new : uZ WQ ((f + n) % 192) q ((f + n) % 192) = q := uZ_s
  refine ⟨?_, hn⟩
  by_cases c : WA q
  · rw [qz_f (fun z => z c), Int.add_zero]
    have same : ∀ x : Int, uP WA q True x ↔ WA x := fun x => by
      by_cases e : x = q
      · subst e; rw [uP_s]; exact ⟨fun _ => c, fun _ => trivial⟩
      · rw [uP_n e]
    refine ⟨hf, ?_, fun j a b => ?_, fun x a b hx => ?_, fun i j a b d => ?_⟩
    · rw [cnW_set hq.1 hq.2, qz_t c, qz_T]; omega
    · rw [old j a b]; exact ⟨(h1 j a b).1, (same _).mpr (h1 j a b).2⟩
    · obtain ⟨j, b1, b2, b3⟩ := h2 x a b ((same x).mp hx)
      exact ⟨j, b1, b2, by rw [old j b1 b2]; exact b3⟩
    · rw [old i a (by omega), old j (by omega) d]; exact h3 i j a b d
  · rw [qz_t c]
    refine ⟨hf, ?_, fun j a b => ?_, fun x a b hx => ?_, fun i j a b d => ?_⟩
    · rw [cnW_set hq.1 hq.2, qz_f c, qz_T]; omega
    · by_cases e : j = n
      · subst e; rw [new]; exact ⟨hq, by rw [uP_s]; trivial⟩
      · have z := h1 j a (by omega)
        rw [old j a (by omega)]
        exact ⟨z.1, by rw [uP_n (fun e2 => c (by rw [← e2]; exact z.2))]; exact z.2⟩
    · by_cases e : x = q
      · exact ⟨n, hn0, by omega, by rw [new]; exact e.symm⟩
      · rw [uP_n e] at hx
        obtain ⟨j, b1, b2, b3⟩ := h2 x a b hx
        exact ⟨j, b1, by omega, by rw [old j b1 b2]; exact b3⟩
    · by_cases e : j = n
      · subst e
        rw [new, old i a b]
        exact fun z => c (by rw [← z]; exact (h1 i a b).2)
      · rw [old i a (by omega), old j (by omega) (by omega)]; exact h3 i j a b (by omega)
