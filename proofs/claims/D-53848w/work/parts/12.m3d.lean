/-! the least ways of the reference: what 'rest' holds in the end, and why -/
theorem sumN_lt {f h : Int → Int} {j : Int} : ∀ n : Nat, (∀ k : Int, 0 ≤ k → k < n → f k ≤ h k) → 0 ≤ j → j < n → f j < h j → sumN f n < sumN h n
  | 0, _, h0, h1, _ => by omega
  | n + 1, hle, h0, h1, h2 => by
    show sumN f n + f (n : Int) < sumN h n + h (n : Int)
    have hn := hle n (by omega) (by omega)
    by_cases e : j = (n : Int)
    · subst e
      have : sumN f n ≤ sumN h n := by
        have key : ∀ m : Nat, m ≤ n → sumN f m ≤ sumN h m := by
          intro m
          induction m with
          | zero => intro _; exact Int.le_refl _
          | succ m ih =>
            intro hm
            have a := ih (by omega)
            have b := hle m (by omega) (by omega)
            show sumN f m + f (m : Int) ≤ sumN h m + h (m : Int)
            omega
        exact key n (Nat.le_refl n)
      omega
    · have := sumN_lt n (fun k a b => hle k a (by omega)) h0 (by omega) h2
      omega
noncomputable def unsN (SE : Int → Prop) : Int := sumN (fun k => qz (¬ SE k)) 192
theorem unsN_rng (SE : Int → Prop) : 0 ≤ unsN SE ∧ unsN SE ≤ 192 := by
  have h1 := sumN_nn (f := fun k => qz (¬ SE k)) 192 (fun k _ _ => (qz_01 _).1)
  have h2 := sumN_le (f := fun k => qz (¬ SE k)) (b := 1) 192 (fun k _ _ => (qz_01 _).2)
  unfold unsN
  omega
theorem unsN_lt {SE : Int → Prop} {p : Int} (h0 : 0 ≤ p) (h1 : p < 192) (h : ¬ SE p) : unsN (uP SE p True) < unsN SE := by
  unfold unsN
  refine sumN_lt (j := p) 192 (fun k _ _ => ?_) h0 h1 ?_
  · by_cases e : k = p
    · subst e
      rw [qz_f (fun n => n (uP_s.mpr trivial))]
      exact (qz_01 _).1
    · rw [qz_congr (P := ¬ uP SE p True k) (Q := ¬ SE k) (not_congr (uP_n e))]
      exact Int.le_refl _
  · show qz (¬ uP SE p True p) < qz (¬ SE p)
    rw [qz_f (fun n => n (uP_s.mpr trivial)), qz_t h]
    decide
theorem near_spec (RE : Int → Int) (SE : Int → Prop) : ∀ n : Nat, (nearN RE SE n = -1 → ∀ q : Int, 0 ≤ q → q < n → SE q ∨ 1000000 ≤ RE q) ∧ (¬ nearN RE SE n = -1 → 0 ≤ nearN RE SE n ∧ nearN RE SE n < n ∧ ¬ SE (nearN RE SE n) ∧ RE (nearN RE SE n) < 1000000 ∧ ∀ q : Int, 0 ≤ q → q < n → ¬ SE q → RE (nearN RE SE n) ≤ RE q)
  | 0 => ⟨fun _ q a b => by omega, fun h => absurd rfl h⟩
  | n + 1 => by
    obtain ⟨i1, i2⟩ := near_spec RE SE n
    have hr := nearN_rng RE SE n
    generalize hv : nearN RE SE n = v at i1 i2 hr
    have hs : nearN RE SE (n + 1) = zi (SE (n : Int)) v (zi (RE (n : Int) < 1000000) (zi (v = -1) (n : Int) (zi (RE (n : Int) < RE v) (n : Int) v)) v) := by rw [← hv]; rfl
    rw [hs]
    have split1 : ∀ q : Int, 0 ≤ q → q < ((n + 1 : Nat) : Int) → q = (n : Int) ∨ q < (n : Int) := fun q a b => by omega
    by_cases c1 : SE (n : Int)
    · rw [zi_t c1]
      refine ⟨fun h q a b => ?_, fun h => ?_⟩
      · rcases split1 q a b with e | e
        · left; rw [e]; exact c1
        · exact i1 h q a e
      · obtain ⟨a1, a2, a3, a4, a5⟩ := i2 h
        refine ⟨a1, by omega, a3, a4, fun q a b hq => ?_⟩
        rcases split1 q a b with e | e
        · rw [e] at hq; exact absurd c1 hq
        · exact a5 q a e hq
    · rw [zi_f c1]
      by_cases c2 : RE (n : Int) < 1000000
      · rw [zi_t c2]
        by_cases c3 : v = -1
        · rw [zi_t c3]
          refine ⟨fun h => by omega, fun _ => ⟨by omega, by omega, c1, c2, fun q a b hq => ?_⟩⟩
          rcases split1 q a b with e | e
          · rw [e]; exact Int.le_refl _
          · rcases i1 c3 q a e with z | z
            · exact absurd z hq
            · omega
        · rw [zi_f c3]
          obtain ⟨a1, a2, a3, a4, a5⟩ := i2 c3
          by_cases c4 : RE (n : Int) < RE v
          · rw [zi_t c4]
            refine ⟨fun h => by omega, fun _ => ⟨by omega, by omega, c1, c2, fun q a b hq => ?_⟩⟩
            rcases split1 q a b with e | e
            · rw [e]; exact Int.le_refl _
            · have := a5 q a e hq; omega
          · rw [zi_f c4]
            refine ⟨fun h => absurd h c3, fun _ => ⟨a1, by omega, a3, a4, fun q a b hq => ?_⟩⟩
            rcases split1 q a b with e | e
            · rw [e]; omega
            · exact a5 q a e hq
      · rw [zi_f c2]
        refine ⟨fun h q a b => ?_, fun h => ?_⟩
        · rcases split1 q a b with e | e
          · right; rw [e]; omega
          · exact i1 h q a e
        · obtain ⟨a1, a2, a3, a4, a5⟩ := i2 h
          refine ⟨a1, by omega, a3, a4, fun q a b hq => ?_⟩
          rcases split1 q a b with e | e
          · rw [e]; omega
          · exact a5 q a e hq
abbrev stP (S : Int → Int) (b q : Int) : Prop := plc S b (q % 16) (q / 16)
abbrev isEnd (S : Int → Int) (b r q : Int) : Prop := stP S b q ∧ atR S b q r
def isDist (S : Int → Int) (b r : Int) (RE : Int → Int) : Prop :=
  (∀ q : Int, 0 ≤ q → q < 192 → 1 ≤ RE q ∧ RE q ≤ 1000000) ∧
  (∀ q : Int, 0 ≤ q → q < 192 → isEnd S b r q → RE q = 1) ∧
  (∀ q : Int, 0 ≤ q → q < 192 → ¬ stP S b q → RE q = 1000000) ∧
  (∀ p d : Int, 0 ≤ p → p < 192 → 0 ≤ d → d < 4 → ¬ nxM S b p d = -1 → RE p < 1000000 → RE (nxM S b p d) ≤ RE p + 1 + 1000 * rk S b p (nxM S b p d)) ∧
  (∀ q : Int, 0 ≤ q → q < 192 → RE q < 1000000 → ¬ isEnd S b r q → ∃ p d : Int, 0 ≤ p ∧ p < 192 ∧ 0 ≤ d ∧ d < 4 ∧ nxM S b p d = q ∧ RE p < 1000000 ∧ RE q = RE p + 1 + 1000 * rk S b p q)
def dJ (S : Int → Int) (b r : Int) (RE : Int → Int) (SE : Int → Prop) (pc k : Int) : Prop :=
  (∀ q : Int, 0 ≤ q → q < 192 → 1 ≤ RE q ∧ RE q ≤ 1000000) ∧
  (∀ q : Int, 0 ≤ q → q < 192 → isEnd S b r q → RE q = 1) ∧
  (∀ q : Int, 0 ≤ q → q < 192 → ¬ stP S b q → RE q = 1000000) ∧
  (∀ p d : Int, 0 ≤ p → p < 192 → 0 ≤ d → d < 4 → SE p → (p = pc → d < k) → ¬ nxM S b p d = -1 → RE (nxM S b p d) ≤ RE p + 1 + 1000 * rk S b p (nxM S b p d)) ∧
  (∀ q : Int, 0 ≤ q → q < 192 → RE q < 1000000 → ¬ isEnd S b r q → ∃ p d : Int, 0 ≤ p ∧ p < 192 ∧ 0 ≤ d ∧ d < 4 ∧ nxM S b p d = q ∧ SE p ∧ RE q = RE p + 1 + 1000 * rk S b p q) ∧
  (∀ p q : Int, 0 ≤ p → p < 192 → 0 ≤ q → q < 192 → SE p → ¬ SE q → RE p ≤ RE q) ∧
  (∀ p : Int, 0 ≤ p → p < 192 → SE p → RE p < 1000000 ∧ (0 ≤ pc → RE p ≤ RE pc))
theorem dJ_rg {S : Int → Int} {b r : Int} {RE : Int → Int} {SE : Int → Prop} {pc k : Int} (h : dJ S b r RE SE pc k) : rgRE RE := fun i a c => by have := h.1 i a c; omega
theorem dJ_init {S : Int → Int} {b r : Int} {RE : Int → Int} {SE : Int → Prop} (h1 : ∀ q : Int, 0 ≤ q → q < 192 → RE q = zi (isEnd S b r q) 1 1000000) (h2 : ∀ q : Int, 0 ≤ q → q < 192 → ¬ SE q) : dJ S b r RE SE (-1) 0 := by
  refine ⟨fun q a c => ?_, fun q a c e => ?_, fun q a c e => ?_, fun p d a c _ _ e => absurd e (h2 p a c), fun q a c e ne => ?_, fun p q a c _ _ e => absurd e (h2 p a c), fun p a c e => absurd e (h2 p a c)⟩
  · have := zi_or (isEnd S b r q) 1 1000000
    rw [h1 q a c]; omega
  · rw [h1 q a c, zi_t e]
  · rw [h1 q a c, zi_f (fun z => e z.1)]
  · rw [h1 q a c, zi_f ne] at e; omega
theorem nxM_ne {S : Int → Int} {b p d : Int} (h : ¬ nxM S b p d = -1) : plc S b (p % 16 + dx d) (p / 16 + dy d) ∧ nxM S b p d = 16 * (p / 16 + dy d) + (p % 16 + dx d) := by
  unfold nxM at h ⊢
  rcases zi_or (plc S b (p % 16 + dx d) (p / 16 + dy d)) (16 * (p / 16 + dy d) + (p % 16 + dx d)) (-1) with ⟨a, e⟩ | ⟨-, e⟩
  · exact ⟨a, e⟩
  · exact absurd e h
theorem dxy (d : Int) (hd : 0 ≤ d ∧ d ≤ 3) : (dx d = -1 ∧ dy d = 0) ∨ (dx d = 1 ∧ dy d = 0) ∨ (dx d = 0 ∧ dy d = -1) ∨ (dx d = 0 ∧ dy d = 1) := by
  have : d = 0 ∨ d = 1 ∨ d = 2 ∨ d = 3 := by omega
  rcases this with rfl | rfl | rfl | rfl <;> decide
theorem nxM_st {S : Int → Int} {b p d : Int} (hb : 1 ≤ b) (hp : 0 ≤ p) (hd : 0 ≤ d ∧ d ≤ 3) (h : ¬ nxM S b p d = -1) : stP S b (nxM S b p d) ∧ nxM S b p d ≠ p ∧ 0 ≤ nxM S b p d ∧ nxM S b p d < 192 := by
  obtain ⟨h1, h2⟩ := nxM_ne h
  have h3 := h1.1
  have h4 := dxy d hd
  have e1 : nxM S b p d % 16 = p % 16 + dx d := by omega
  have e2 : nxM S b p d / 16 = p / 16 + dy d := by omega
  refine ⟨by unfold stP; rw [e1, e2]; exact h1, by omega, by omega, by omega⟩
theorem dJ_settle {S : Int → Int} {b r : Int} {RE : Int → Int} {SE : Int → Prop} {v : Int} (h : dJ S b r RE SE (-1) 0) (hv : v = nearN RE SE 192) (hn : ¬ v = -1) : dJ S b r RE (uP SE v True) v 0 ∧ 0 ≤ v ∧ v < 192 ∧ unsN (uP SE v True) < unsN SE := by
  obtain ⟨h0, h1, h2, h3, h4, h5, h6⟩ := h
  obtain ⟨n1, n2, n3, n4, n5⟩ := (near_spec RE SE 192).2 (by rw [← hv]; exact hn)
  rw [← hv] at n1 n2 n3 n4 n5
  have n2 : v < 192 := n2
  have cs : ∀ q : Int, uP SE v True q ↔ q = v ∨ SE q := fun q => by
    by_cases e : q = v
    · subst e; exact ⟨fun _ => Or.inl rfl, fun _ => uP_s.mpr trivial⟩
    · rw [uP_n e]; exact ⟨Or.inr, fun z => z.resolve_left e⟩
  refine ⟨⟨h0, h1, h2, fun p d a c e f g k nn => ?_, fun q a c e ne => ?_, fun p q a c e f g k => ?_, fun p a c g => ?_⟩, n1, n2, unsN_lt n1 n2 n3⟩
  · rcases (cs p).mp g with z | z
    · have := k z; omega
    · exact h3 p d a c e f z (fun w => by omega) nn
  · obtain ⟨p, d, a1, a2, a3, a4, a5, a6, a7⟩ := h4 q a c e ne
    exact ⟨p, d, a1, a2, a3, a4, a5, (cs p).mpr (Or.inr a6), a7⟩
  · have k2 : ¬ SE q := fun z => k ((cs q).mpr (Or.inr z))
    rcases (cs p).mp g with z | z
    · rw [z]; exact n5 q e f k2
    · exact h5 p q a c e f z k2
  · rcases (cs p).mp g with z | z
    · rw [z]; exact ⟨n4, fun _ => Int.le_refl _⟩
    · exact ⟨(h6 p a c z).1, fun _ => h5 p v a c n1 n2 z n3⟩
theorem dJ_skip {S : Int → Int} {b r : Int} {RE : Int → Int} {SE : Int → Prop} {v k : Int} (h : dJ S b r RE SE v k) (hn : nxM S b v k = -1) : dJ S b r RE SE v (k + 1) := by
  obtain ⟨h0, h1, h2, h3, h4, h5, h6⟩ := h
  refine ⟨h0, h1, h2, fun p d a c e f g kk nn => ?_, h4, h5, h6⟩
  by_cases e1 : p = v ∧ d = k
  · obtain ⟨rfl, rfl⟩ := e1; exact absurd hn nn
  · exact h3 p d a c e f g (fun w => by have := kk w; omega) nn
theorem dJ_relax {S : Int → Int} {b r : Int} {RE : Int → Int} {SE : Int → Prop} {v k : Int} (hb : 1 ≤ b ∧ b ≤ 3) (h : dJ S b r RE SE v k) (hs : SE v) (hv : 0 ≤ v ∧ v < 192) (hk : 0 ≤ k ∧ k < 4) (hn : ¬ nxM S b v k = -1) :
    dJ S b r (uZ RE (nxM S b v k) (zi (RE v + 1 + 1000 * rk S b v (nxM S b v k) < RE (nxM S b v k)) (RE v + 1 + 1000 * rk S b v (nxM S b v k)) (RE (nxM S b v k)))) SE v (k + 1) := by
  obtain ⟨h0, h1, h2, h3, h4, h5, h6⟩ := h
  obtain ⟨s1, s2, s3, s4⟩ := nxM_st hb.1 hv.1 ⟨hk.1, by omega⟩ hn
  have rkb := rk_rng S v (nxM S b v k) hb
  generalize hq : nxM S b v k = q at s1 s2 s3 s4 rkb
  generalize hi : RE v + 1 + 1000 * rk S b v q = its
  have hz := zi_or (its < RE q) its (RE q)
  generalize hw : zi (its < RE q) its (RE q) = w at hz
  have hv1 := h6 v hv.1 hv.2 hs
  have hv0 := h0 v hv.1 hv.2
  have hq0 := h0 q s3 s4
  have hsq : SE q → w = RE q := fun z => by
    have := (h6 q s3 s4 z).2 hv.1
    omega
  have hset : ∀ p : Int, SE p → uZ RE q w p = RE p := fun p z => by
    by_cases e : p = q
    · subst e; rw [uZ_s, hsq z]
    · exact uZ_n e
  have hle : ∀ x : Int, uZ RE q w x ≤ RE x := fun x => by
    by_cases e : x = q
    · subst e; rw [uZ_s]; omega
    · rw [uZ_n e]; exact Int.le_refl _
  refine ⟨fun x a c => ?_, fun x a c e => ?_, fun x a c e => ?_, fun p d a c e f g kk nn => ?_, fun x a c e ne => ?_, fun p y a c e f g kk => ?_, fun p a c g => ?_⟩
  · by_cases e : x = q
    · subst e; rw [uZ_s]; omega
    · rw [uZ_n e]; exact h0 x a c
  · by_cases e2 : x = q
    · subst e2
      have := h1 x a c e
      rw [uZ_s]; omega
    · rw [uZ_n e2]; exact h1 x a c e
  · by_cases e2 : x = q
    · subst e2; exact absurd s1 e
    · rw [uZ_n e2]; exact h2 x a c e
  · rw [hset p g]
    by_cases e1 : p = v ∧ d = k
    · obtain ⟨rfl, rfl⟩ := e1
      rw [hq, uZ_s, hi]; omega
    · have := h3 p d a c e f g (fun z => by have := kk z; omega) nn
      have := hle (nxM S b p d)
      omega
  · by_cases e2 : x = q ∧ its < RE q
    · obtain ⟨rfl, e3⟩ := e2
      exact ⟨v, k, hv.1, hv.2, hk.1, hk.2, hq, hs, by rw [uZ_s, hset v hs, hi]; omega⟩
    · have e4 : uZ RE q w x = RE x := by
        by_cases e5 : x = q
        · subst e5; rw [uZ_s]; omega
        · exact uZ_n e5
      rw [e4] at e ⊢
      obtain ⟨p, d, a1, a2, a3, a4, a5, a6, a7⟩ := h4 x a c e ne
      exact ⟨p, d, a1, a2, a3, a4, a5, a6, by rw [hset p a6]; exact a7⟩
  · rw [hset p g]
    have hp := (h6 p a c g).2 hv.1
    have hpy := h5 p y a c e f g kk
    by_cases e2 : y = q
    · subst e2; rw [uZ_s]; omega
    · rw [uZ_n e2]; exact hpy
  · rw [hset p g, hset v hs]
    exact h6 p a c g
theorem dJ_done {S : Int → Int} {b r : Int} {RE : Int → Int} {SE : Int → Prop} {v : Int} (h : dJ S b r RE SE v 4) : dJ S b r RE SE (-1) 0 := by
  obtain ⟨h0, h1, h2, h3, h4, h5, h6⟩ := h
  exact ⟨h0, h1, h2, fun p d a c e f g _ nn => h3 p d a c e f g (fun _ => f) nn, h4, h5, fun p a c g => ⟨(h6 p a c g).1, fun z => by omega⟩⟩
theorem dJ_exit {S : Int → Int} {b r : Int} {RE : Int → Int} {SE : Int → Prop} (h : dJ S b r RE SE (-1) 0) (hn : nearN RE SE 192 = -1) : isDist S b r RE := by
  obtain ⟨h0, h1, h2, h3, h4, h5, h6⟩ := h
  have hse : ∀ q : Int, 0 ≤ q → q < 192 → RE q < 1000000 → SE q := fun q a c e => by
    rcases (near_spec RE SE 192).1 hn q a c with z | z
    · exact z
    · omega
  refine ⟨h0, h1, h2, fun p d a c e f nn g => h3 p d a c e f (hse p a c g) (fun w => by omega) nn, fun q a c e ne => ?_⟩
  obtain ⟨p, d, a1, a2, a3, a4, a5, a6, a7⟩ := h4 q a c e ne
  exact ⟨p, d, a1, a2, a3, a4, a5, (h6 p a1 a2 a6).1, a7⟩
/-- the laying's first loop -/
noncomputable def re0 (S : Int → Int) (b r q : Int) : Int := zi (isEnd S b r q) 1 1000000
theorem zi_and {a b : Prop} {x y : Int} : zi a (zi b x y) y = zi (a ∧ b) x y := by
  by_cases ha : a
  · rw [zi_t ha]
    by_cases hb : b
    · rw [zi_t hb, zi_t ⟨ha, hb⟩]
    · rw [zi_f hb, zi_f (fun z => hb z.2)]
  · rw [zi_f ha, zi_f (fun z => ha z.1)]
