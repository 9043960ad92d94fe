/-! more of what the reference reads -/
noncomputable def nearN (RE : Int → Int) (SE : Int → Prop) : Nat → Int
  | 0 => -1
  | k + 1 => zi (SE (k : Int)) (nearN RE SE k) (zi (RE (k : Int) < 1000000) (zi (nearN RE SE k = -1) (k : Int) (zi (RE (k : Int) < RE (nearN RE SE k)) (k : Int) (nearN RE SE k))) (nearN RE SE k))
theorem nearN_rng (RE : Int → Int) (SE : Int → Prop) : ∀ n : Nat, -1 ≤ nearN RE SE n ∧ nearN RE SE n < n
  | 0 => by show (-1 : Int) ≤ -1 ∧ (-1 : Int) < ((0 : Nat) : Int); omega
  | n + 1 => by
    have h := nearN_rng RE SE n
    unfold nearN
    have h1 := zi_or (SE (n : Int)) (nearN RE SE n) (zi (RE (n : Int) < 1000000) (zi (nearN RE SE n = -1) (n : Int) (zi (RE (n : Int) < RE (nearN RE SE n)) (n : Int) (nearN RE SE n))) (nearN RE SE n))
    have h2 := zi_or (RE (n : Int) < 1000000) (zi (nearN RE SE n = -1) (n : Int) (zi (RE (n : Int) < RE (nearN RE SE n)) (n : Int) (nearN RE SE n))) (nearN RE SE n)
    have h3 := zi_or (nearN RE SE n = -1) (n : Int) (zi (RE (n : Int) < RE (nearN RE SE n)) (n : Int) (nearN RE SE n))
    have h4 := zi_or (RE (n : Int) < RE (nearN RE SE n)) (n : Int) (nearN RE SE n)
    omega
def rgRE (RE : Int → Int) : Prop := ∀ i : Int, 0 ≤ i → i < 192 → 0 ≤ RE i ∧ RE i ≤ 1000000
noncomputable def folN (S RE : Int → Int) (b p : Int) : Nat → Int
  | 0 => -1
  | d + 1 => zi (nxM S b p (d : Int) = -1) (folN S RE b p d) (zi (RE (nxM S b p (d : Int)) + 1 + 1000 * rk S b (nxM S b p (d : Int)) p = RE p) (zi (folN S RE b p d = -1) (nxM S b p (d : Int)) (zi (nxM S b p (d : Int) < folN S RE b p d) (nxM S b p (d : Int)) (folN S RE b p d))) (folN S RE b p d))
theorem folN_rng (S RE : Int → Int) {b : Int} (p : Int) (hb : 1 ≤ b) : ∀ n : Nat, -1 ≤ folN S RE b p n ∧ folN S RE b p n ≤ 191
  | 0 => by show (-1 : Int) ≤ -1 ∧ (-1 : Int) ≤ 191; omega
  | n + 1 => by
    have h := folN_rng S RE p hb n
    have h0 := nxM_rng S p (n : Int) hb
    unfold folN
    have h1 := zi_or (nxM S b p (n : Int) = -1) (folN S RE b p n) (zi (RE (nxM S b p (n : Int)) + 1 + 1000 * rk S b (nxM S b p (n : Int)) p = RE p) (zi (folN S RE b p n = -1) (nxM S b p (n : Int)) (zi (nxM S b p (n : Int) < folN S RE b p n) (nxM S b p (n : Int)) (folN S RE b p n))) (folN S RE b p n))
    have h2 := zi_or (RE (nxM S b p (n : Int)) + 1 + 1000 * rk S b (nxM S b p (n : Int)) p = RE p) (zi (folN S RE b p n = -1) (nxM S b p (n : Int)) (zi (nxM S b p (n : Int) < folN S RE b p n) (nxM S b p (n : Int)) (folN S RE b p n))) (folN S RE b p n)
    have h3 := zi_or (folN S RE b p n = -1) (nxM S b p (n : Int)) (zi (nxM S b p (n : Int) < folN S RE b p n) (nxM S b p (n : Int)) (folN S RE b p n))
    have h4 := zi_or (nxM S b p (n : Int) < folN S RE b p n) (nxM S b p (n : Int)) (folN S RE b p n)
    omega
/-- doors -/
noncomputable def sdM (S : Int → Int) (x y : Int) : Int := zi (wh S x y = -1) (0 + qz (0 ≤ wh S (x - 1) y ∧ wh S (x - 1) y ≤ 5) + qz (0 ≤ wh S (x + 1) y ∧ wh S (x + 1) y ≤ 5) + qz (0 ≤ wh S x (y - 1) ∧ wh S x (y - 1) ≤ 5) + qz (0 ≤ wh S x (y + 1) ∧ wh S x (y + 1) ≤ 5)) 0
theorem mdx (k d : Int) (h : 0 ≤ k) : -k ≤ k * dx d ∧ k * dx d ≤ k := by
  have h1 := dx_rng d
  have h2 : dx d = -1 ∨ dx d = 0 ∨ dx d = 1 := by omega
  rcases h2 with e | e | e <;> rw [e] <;> omega
theorem mdy (k d : Int) (h : 0 ≤ k) : -k ≤ k * dy d ∧ k * dy d ≤ k := by
  have h1 := dy_rng d
  have h2 : dy d = -1 ∨ dy d = 0 ∨ dy d = 1 := by omega
  rcases h2 with e | e | e <;> rw [e] <;> omega
noncomputable abbrev whs (S : Int → Int) (x y d j : Int) : Int := wh S (x + j * dx d) (y + j * dy d)
def fcs (S : Int → Int) (x y d : Int) : Prop := ∃ k : Int, 0 ≤ k ∧ k ≤ S 252 ∧ (∀ j : Int, 1 ≤ j → j ≤ k → whs S x y d j = -1) ∧ 0 ≤ whs S x y d (k + 1) ∧ whs S x y d (k + 1) ≤ 5
theorem fcs_at {S : Int → Int} {x y d k : Int} (h0 : 0 ≤ k) (h1 : k ≤ S 252) (h2 : ∀ j : Int, 1 ≤ j → j ≤ k → whs S x y d j = -1) (h3 : ¬ k < S 252 ∨ ¬ whs S x y d (k + 1) = -1) : (0 ≤ whs S x y d (k + 1) ∧ whs S x y d (k + 1) ≤ 5) ↔ fcs S x y d := by
  constructor
  · intro h
    exact ⟨k, h0, h1, h2, h.1, h.2⟩
  · rintro ⟨q, q0, q1, q2, q3, q4⟩
    have e : q = k := by
      rcases Int.lt_trichotomy q k with h | h | h
      · have := h2 (q + 1) (by omega) (by omega); omega
      · exact h
      · have := q2 (k + 1) (by omega) (by omega); omega
    subst e
    exact ⟨q3, q4⟩
noncomputable def drT (S : Int → Int) (r : Int) (F : Prop) (p d : Int) : Int := qz ((S p = -1 ∧ wh S (p % 16 - dx d) (p / 16 - dy d) = r) ∧ (¬ F ∨ fcs S (p % 16) (p / 16) d))
noncomputable def drP (S : Int → Int) (r : Int) (F : Prop) (p : Int) : Int := sumN (drT S r F p) 4
noncomputable def drs (S : Int → Int) (r : Int) (F : Prop) : Int := sumN (drP S r F) 192
theorem drP_rng (S : Int → Int) (r : Int) (F : Prop) (p : Int) (n : Nat) : 0 ≤ sumN (drT S r F p) n ∧ sumN (drT S r F p) n ≤ n := by
  have h1 := sumN_nn (f := drT S r F p) n (fun k _ _ => (qz_01 _).1)
  have h2 := sumN_le (f := drT S r F p) (b := 1) n (fun k _ _ => (qz_01 _).2)
  omega
theorem drs_rng (S : Int → Int) (r : Int) (F : Prop) (n : Nat) : 0 ≤ sumN (drP S r F) n ∧ sumN (drP S r F) n ≤ 4 * n := by
  have h1 := sumN_nn (f := drP S r F) n (fun k _ _ => (drP_rng S r F k 4).1)
  have h2 := sumN_le (f := drP S r F) (b := 4) n (fun k _ _ => (drP_rng S r F k 4).2)
  exact ⟨h1, h2⟩
noncomputable def adT (S : Int → Int) (F : Prop) (k : Int) : Int := zi (isTh S k) (drs S k F) 0
theorem adN_rng (S : Int → Int) (F : Prop) (n : Nat) : 0 ≤ sumN (adT S F) n ∧ sumN (adT S F) n ≤ 768 * n := by
  have h : ∀ k : Int, 0 ≤ adT S F k ∧ adT S F k ≤ 768 := fun k => by
    have h1 := drs_rng S k F 192
    unfold adT drs
    have h2 := zi_or (isTh S k) (sumN (drP S k F) 192) 0
    omega
  exact ⟨sumN_nn n (fun k _ _ => (h k).1), sumN_le n (fun k _ _ => (h k).2)⟩
noncomputable def ads (S : Int → Int) (F : Prop) : Int := zi F (sumN (adT S F) 6 / 2) (sumN (adT S F) 6)
theorem dm2 {k c r : Int} (hk : 0 ≤ k) (hc : 1 ≤ c) (h : k < c * r) : 0 ≤ k / c ∧ k / c < r ∧ 0 ≤ k % c ∧ k % c < c := ⟨Int.ediv_nonneg hk (by omega), Int.ediv_lt_of_lt_mul (by omega) (by rw [Int.mul_comm]; exact h), Int.emod_nonneg k (by omega), Int.emod_lt_of_pos k (by omega)⟩
theorem cr_rng {c r : Int} (hc : 1 ≤ c ∧ c ≤ 6) (hr : 1 ≤ r ∧ r ≤ 6) : 1 ≤ c * r ∧ c * r ≤ 36 := by
  have h1 : c = 1 ∨ c = 2 ∨ c = 3 ∨ c = 4 ∨ c = 5 ∨ c = 6 := by omega
  rcases h1 with rfl | rfl | rfl | rfl | rfl | rfl <;> omega
abbrev cbT (S : Int → Int) (a b : Int) : Prop := wh S a b = -2 ∧ ¬ (0 ≤ wh S (a - 1) b ∧ wh S (a - 1) b ≤ 5) ∧ ¬ (0 ≤ wh S (a + 1) b ∧ wh S (a + 1) b ≤ 5) ∧ ¬ (0 ≤ wh S a (b - 1) ∧ wh S a (b - 1) ≤ 5) ∧ ¬ (0 ≤ wh S a (b + 1) ∧ wh S a (b + 1) ≤ 5)
def cbe (S : Int → Int) (x y c r : Int) : Prop := ∀ k : Int, 0 ≤ k → k < c * r → cbT S (x + k % c) (y + k / c)
noncomputable def fre (S : Int → Int) : Int := zi (isTh S 0) (zi (isTh S 1) (zi (isTh S 2) (zi (isTh S 3) (zi (isTh S 4) (zi (isTh S 5) 6 5) 4) 3) 2) 1) 0
theorem fre_eq {S : Int → Int} {k : Int} (h1 : 0 ≤ k ∧ k ≤ 6) (h2 : ∀ j : Int, 0 ≤ j → j < k → isTh S j) (h3 : k = 6 ∨ ¬ isTh S k) : k = fre S := by
  have h : k = 0 ∨ k = 1 ∨ k = 2 ∨ k = 3 ∨ k = 4 ∨ k = 5 ∨ k = 6 := by omega
  unfold fre
  rcases h with rfl | rfl | rfl | rfl | rfl | rfl | rfl
  · rw [zi_f (h3.resolve_left (by decide))]
  · rw [zi_t (h2 0 (by decide) (by decide)), zi_f (h3.resolve_left (by decide))]
  · rw [zi_t (h2 0 (by decide) (by decide)), zi_t (h2 1 (by decide) (by decide)), zi_f (h3.resolve_left (by decide))]
  · rw [zi_t (h2 0 (by decide) (by decide)), zi_t (h2 1 (by decide) (by decide)), zi_t (h2 2 (by decide) (by decide)), zi_f (h3.resolve_left (by decide))]
  · rw [zi_t (h2 0 (by decide) (by decide)), zi_t (h2 1 (by decide) (by decide)), zi_t (h2 2 (by decide) (by decide)), zi_t (h2 3 (by decide) (by decide)), zi_f (h3.resolve_left (by decide))]
  · rw [zi_t (h2 0 (by decide) (by decide)), zi_t (h2 1 (by decide) (by decide)), zi_t (h2 2 (by decide) (by decide)), zi_t (h2 3 (by decide) (by decide)), zi_t (h2 4 (by decide) (by decide)), zi_f (h3.resolve_left (by decide))]
  · rw [zi_t (h2 0 (by decide) (by decide)), zi_t (h2 1 (by decide) (by decide)), zi_t (h2 2 (by decide) (by decide)), zi_t (h2 3 (by decide) (by decide)), zi_t (h2 4 (by decide) (by decide)), zi_t (h2 5 (by decide) (by decide))]
theorem fre_rng (S : Int → Int) : 0 ≤ fre S ∧ fre S ≤ 6 := by
  unfold fre
  have h5 := zi_or (isTh S 5) 6 5
  have h4 := zi_or (isTh S 4) (zi (isTh S 5) 6 5) 4
  have h3 := zi_or (isTh S 3) (zi (isTh S 4) (zi (isTh S 5) 6 5) 4) 3
  have h2 := zi_or (isTh S 2) (zi (isTh S 3) (zi (isTh S 4) (zi (isTh S 5) 6 5) 4) 3) 2
  have h1 := zi_or (isTh S 1) (zi (isTh S 2) (zi (isTh S 3) (zi (isTh S 4) (zi (isTh S 5) 6 5) 4) 3) 2) 1
  have h0 := zi_or (isTh S 0) (zi (isTh S 1) (zi (isTh S 2) (zi (isTh S 3) (zi (isTh S 4) (zi (isTh S 5) 6 5) 4) 3) 2) 1) 0
  omega
noncomputable def sqT (S : Int → Int) (k p : Int) : Int := qz (S p = k)
noncomputable def sqC (S : Int → Int) (k : Int) : Int := sumN (sqT S k) 192
noncomputable def rmT (S : Int → Int) (k : Int) : Int := qz (isTh S k)
noncomputable def rmC (S : Int → Int) : Int := sumN (rmT S) 6
noncomputable def mayV (S : Int → Int) (a b : Int) (F : Prop) : Int := zi (isTh S a) (zi (isTh S b) (zi (a = b) 2 (zi F 0 2)) 1) 1
def rgT (T : Int → Int) : Prop := ∀ i : Int, 0 ≤ i → i < 60 → 0 ≤ T i ∧ T i ≤ 126

theorem hd_X3_thrown : yX3_thrown.cls = RX3 ∧ yX3_thrown.cls ≠ "java/lang/invoke/MethodHandle" ∧ yX3_thrown.cls ≠ "java/lang/invoke/VarHandle" ∧ (parseMethodDescriptor yX3_thrown.desc).map (fun d => d.parameters.length) = some 0 := by decide +kernel
set_option maxHeartbeats 4000000 in
set_option maxRecDepth 100000 in
theorem m_X3_thrown (l : Launch) (G : va_G) (g : Nat → ClassId) (hM : Nat) (fs : List Value) (th : Int) (hF_fs_6 : fs[6]? = some (.int (iI th))) : Met l yX3_thrown (ws_ yX3_thrown cX3_thrown 1 (Option.some Jvm.ClassFile.FieldType.int)) ({ frames := 0, cells := 0, slots := 0, locals := 0 }) (va_Pc [.ref hM] (rdB G CL (TY g) (fun _ => True) [(hM, .inr (2, fs))])) (QcRead ((iI th))) 0 0 (fun _ => False) := by
  refine Met.at (by decide) (Nat.le_of_ble_eq_true rfl) ?_
  intro p e s m below meth c hx hb hr hlk hml hown hnm hts hB ls hl
  have hown : s.vm.findClass RX3 = some m.cls := hown
  obtain ⟨hP, hK, hEs⟩ := hB
  have hl : lv_has ls 1 [(0, .ref hM)] := hl
  refine lv_aload_n hx hb dX3_thrown_0 rfl (lv_at hl 0 rfl) ?_
  refine va_get (D := G) (ci := 2) (v := .int (iI th)) (C := RX3) (T := TX3) (N := 20) hx hb hts in_X3 hown hK hP 0 rfl rfl 6 (by decide) (hts _ q1444) (fun _ h9 => h9) hF_fs_6 dX3_thrown_1 ?_
  exact g_iret hx hb hr hlk (rfl) dX3_thrown_4
theorem hd_X3_nearest : yX3_nearest.cls = RX3 ∧ yX3_nearest.cls ≠ "java/lang/invoke/MethodHandle" ∧ yX3_nearest.cls ≠ "java/lang/invoke/VarHandle" ∧ (parseMethodDescriptor yX3_nearest.desc).map (fun d => d.parameters.length) = some 0 := by decide +kernel
set_option maxHeartbeats 4000000 in
set_option maxRecDepth 100000 in
theorem m_X3_nearest (l : Launch) (G : va_G) (g : Nat → ClassId) (hM : Nat) (fs : List Value) (hre : Nat) (hse : Nat) (RE : Int → Int) (SE : Int → Prop) (hF_fs_13 : fs[13]? = some (.ref hre)) (hF_fs_14 : fs[14]? = some (.ref hse)) (kRE : rgRE RE) : Met l yX3_nearest (ws_ yX3_nearest cX3_nearest 3 (Option.some Jvm.ClassFile.FieldType.int)) ({ frames := 0, cells := 0, slots := 0, locals := 0 }) (va_Pc [.ref hM] (rdB G CL (TY g) (fun _ => True) [(hM, .inr (2, fs)), (hre, .inl (g 0, 192, .inl (aI RE))), (hse, .inl (g 1, 192, .inl (aP SE)))])) (QcRead ((iI (nearN RE SE 192)))) 0 0 (fun _ => False) := by
  refine Met.at (by decide) (Nat.le_of_ble_eq_true rfl) ?_
  intro p e s m below meth c hx hb hr hlk hml hown hnm hts hB ls hl
  have hown : s.vm.findClass RX3 = some m.cls := hown
  obtain ⟨hP, hK, hEs⟩ := hB
  have hl : lv_has ls 3 [(0, .ref hM)] := hl
  refine lv_iconst (v := iI (-1)) hx hb dX3_nearest_0 rfl ?_
  refine lv_istore_n (lv' := [(1, .int (iI (-1))), (0, .ref hM)]) hx hb dX3_nearest_1 rfl hl (by decide) rfl (fun ls hl => ?_)
  refine lv_iconst (v := iI 0) hx hb dX3_nearest_2 rfl ?_
  refine lv_istore_n (lv' := [(2, .int (iI 0)), (1, .int (iI (-1))), (0, .ref hM)]) hx hb dX3_nearest_3 rfl hl (by decide) rfl (fun ls hl => ?_)
  have lp4 : ∀ (n : Nat) (k : Nat), ((k : Int) ≤ 192) → 192 - k = n → ∀ ls : Array Slot, lv_has ls 3 [(0, .ref hM), (1, .int (iI (nearN RE SE k))), (2, .int (iI (k : Int)))] → W p l e ({ frames := 0, cells := 0, slots := 0, locals := 0 }) s m ([.ref hM] : List Value).toArray below meth c s.heap [] 0 0 (MQ below (QcRead ((iI (nearN RE SE 192)))) ([.ref hM] : List Value).toArray s 0 0 (fun _ => False)) (F0 m 4 ls []) := by
    intro n
    refine Nat.strongRecOn n ?_
    intro n ih4 k hk hmu4 ls hl
    have fr := nearN_rng RE SE k
    refine lv_iload_n hx hb dX3_nearest_4 rfl (lv_at hl 2 rfl) ?_
    refine lv_sipush (v := iI 192) hx hb dX3_nearest_5 rfl ?_
    refine g_icmp_ge (tgt := 63) hx hb dX3_nearest_8 (by decide) ⟨⟨by omega, by omega⟩, ⟨by decide, by decide⟩⟩ (fun c1 => ?_) (fun c1 => ?_)
    · refine lv_iload_n hx hb dX3_nearest_63 rfl (lv_at hl 1 rfl) ?_
      exact g_iret hx hb hr hlk (by rw [show k = 192 from by omega]) dX3_nearest_64
    · refine lv_aload_n hx hb dX3_nearest_11 rfl (lv_at hl 0 rfl) ?_
      refine va_get (D := G) (ci := 2) (v := .ref hse) (C := RX3) (T := TX3) (N := 20) hx hb hts in_X3 hown hK hP 0 rfl rfl 14 (by decide) (hts _ q1452) (fun _ h9 => h9) hF_fs_14 dX3_nearest_12 ?_
      refine lv_iload_n hx hb dX3_nearest_15 rfl (lv_at hl 2 rfl) ?_
      refine g_zald hx hb hK hP 2 1 rfl rfl (i := (k : Int)) (⟨by omega, by omega⟩) (by decide) dX3_nearest_16 ?_
      have hJ2 : ∀ ls : Array Slot, lv_has ls 3 [(0, .ref hM), (1, .int (iI (nearN RE SE k))), (2, .int (iI (k : Int)))] → W p l e ({ frames := 0, cells := 0, slots := 0, locals := 0 }) s m ([.ref hM] : List Value).toArray below meth c s.heap [] 0 0 (MQ below (QcRead ((iI (nearN RE SE 192)))) ([.ref hM] : List Value).toArray s 0 0 (fun _ => False)) (F0 m 56 ls [.int (iI (zi (SE (k : Int)) (nearN RE SE k) (zi ((RE (k : Int)) < 1000000) (zi ((nearN RE SE k) = (-1)) (k : Int) (zi ((RE (k : Int)) < (RE (nearN RE SE k))) (k : Int) (nearN RE SE k))) (nearN RE SE k))))]) := by
        intro ls hl
        have o4 := zi_or (SE (k : Int)) (nearN RE SE k) (zi ((RE (k : Int)) < 1000000) (zi ((nearN RE SE k) = (-1)) (k : Int) (zi ((RE (k : Int)) < (RE (nearN RE SE k))) (k : Int) (nearN RE SE k))) (nearN RE SE k))
        have o5 := zi_or ((RE (k : Int)) < 1000000) (zi ((nearN RE SE k) = (-1)) (k : Int) (zi ((RE (k : Int)) < (RE (nearN RE SE k))) (k : Int) (nearN RE SE k))) (nearN RE SE k)
        have o6 := zi_or ((nearN RE SE k) = (-1)) (k : Int) (zi ((RE (k : Int)) < (RE (nearN RE SE k))) (k : Int) (nearN RE SE k))
        have o7 := zi_or ((RE (k : Int)) < (RE (nearN RE SE k))) (k : Int) (nearN RE SE k)
        obtain ⟨v3, e_v3⟩ : ∃ z : Int, z = zi (SE (k : Int)) (nearN RE SE k) (zi ((RE (k : Int)) < 1000000) (zi ((nearN RE SE k) = (-1)) (k : Int) (zi ((RE (k : Int)) < (RE (nearN RE SE k))) (k : Int) (nearN RE SE k))) (nearN RE SE k)) := ⟨_, rfl⟩
        refine g_eq e_v3.symm ?_
        refine lv_istore_n (lv' := [(1, .int (iI v3)), (0, .ref hM), (2, .int (iI (k : Int)))]) hx hb dX3_nearest_56 rfl hl (by decide) rfl (fun ls hl => ?_)
        refine g_iinc (lv' := [(2, .int (iI ((k : Int) + 1))), (1, .int (iI v3)), (0, .ref hM)]) hx hb dX3_nearest_57 hl (k := 2) rfl (by decide) rfl (fun ls hl => ?_)
        refine lv_goto (tgt := 4) hx hb dX3_nearest_60 (by decide) ?_
        exact ih4 _ (by omega) (k + 1) (by omega) rfl ls (by rw [show nearN RE SE (k + 1) = v3 from e_v3.symm]; exact lv_sub hl [2, 1, 0] rfl)
      refine g_ifq_ne (tgt := 55) hx hb dX3_nearest_17 (by decide) (fun c8 => ?_) (fun c8 => ?_)
      · refine lv_iload_n hx hb dX3_nearest_55 rfl (lv_at hl 1 rfl) ?_
        refine g_eq (b := zi (SE (k : Int)) (nearN RE SE k) (zi ((RE (k : Int)) < 1000000) (zi ((nearN RE SE k) = (-1)) (k : Int) (zi ((RE (k : Int)) < (RE (nearN RE SE k))) (k : Int) (nearN RE SE k))) (nearN RE SE k))) ((zi_t c8)).symm ?_
        exact hJ2 ls (lv_sub hl [0, 1, 2] rfl)
      · refine lv_aload_n hx hb dX3_nearest_20 rfl (lv_at hl 0 rfl) ?_
        refine va_get (D := G) (ci := 2) (v := .ref hre) (C := RX3) (T := TX3) (N := 20) hx hb hts in_X3 hown hK hP 0 rfl rfl 13 (by decide) (hts _ q1451) (fun _ h9 => h9) hF_fs_13 dX3_nearest_21 ?_
        refine lv_iload_n hx hb dX3_nearest_24 rfl (lv_at hl 2 rfl) ?_
        refine g_iald hx hb hK hP 1 0 rfl rfl (i := (k : Int)) (⟨by omega, by omega⟩) (by decide) dX3_nearest_25 ?_
        have w9 := kRE (k : Int) (by omega) (by omega)
        refine g_ldc (z := 1000000) hx hb hown (hts _ q1597) (by decide) dX3_nearest_26 ?_
        refine g_icmp_ge (tgt := 55) hx hb dX3_nearest_28 (by decide) ⟨⟨by omega, by omega⟩, ⟨by decide, by decide⟩⟩ (fun c10 => ?_) (fun c10 => ?_)
        · refine lv_iload_n hx hb dX3_nearest_55 rfl (lv_at hl 1 rfl) ?_
          refine g_eq (b := zi (SE (k : Int)) (nearN RE SE k) (zi ((RE (k : Int)) < 1000000) (zi ((nearN RE SE k) = (-1)) (k : Int) (zi ((RE (k : Int)) < (RE (nearN RE SE k))) (k : Int) (nearN RE SE k))) (nearN RE SE k))) (((zi_f c8).trans (zi_f c10))).symm ?_
          exact hJ2 ls (lv_sub hl [0, 1, 2] rfl)
        · refine lv_iload_n hx hb dX3_nearest_31 rfl (lv_at hl 1 rfl) ?_
          refine lv_iconst (v := iI (-1)) hx hb dX3_nearest_32 rfl ?_
          refine g_icmp_eq (tgt := 51) hx hb dX3_nearest_33 (by decide) ⟨⟨by omega, by omega⟩, ⟨by decide, by decide⟩⟩ (fun c11 => ?_) (fun c11 => ?_)
          · refine lv_iload_n hx hb dX3_nearest_51 rfl (lv_at hl 2 rfl) ?_
            refine lv_goto (tgt := 56) hx hb dX3_nearest_52 (by decide) ?_
            refine g_eq (b := zi (SE (k : Int)) (nearN RE SE k) (zi ((RE (k : Int)) < 1000000) (zi ((nearN RE SE k) = (-1)) (k : Int) (zi ((RE (k : Int)) < (RE (nearN RE SE k))) (k : Int) (nearN RE SE k))) (nearN RE SE k))) (((zi_f c8).trans ((zi_t c10).trans (zi_t c11)))).symm ?_
            exact hJ2 ls (lv_sub hl [0, 1, 2] rfl)
          · refine lv_aload_n hx hb dX3_nearest_36 rfl (lv_at hl 0 rfl) ?_
            refine va_get (D := G) (ci := 2) (v := .ref hre) (C := RX3) (T := TX3) (N := 20) hx hb hts in_X3 hown hK hP 0 rfl rfl 13 (by decide) (hts _ q1451) (fun _ h9 => h9) hF_fs_13 dX3_nearest_37 ?_
            refine lv_iload_n hx hb dX3_nearest_40 rfl (lv_at hl 2 rfl) ?_
            refine g_iald hx hb hK hP 1 0 rfl rfl (i := (k : Int)) (⟨by omega, by omega⟩) (by decide) dX3_nearest_41 ?_
            have w12 := kRE (k : Int) (by omega) (by omega)
            refine lv_aload_n hx hb dX3_nearest_42 rfl (lv_at hl 0 rfl) ?_
            refine va_get (D := G) (ci := 2) (v := .ref hre) (C := RX3) (T := TX3) (N := 20) hx hb hts in_X3 hown hK hP 0 rfl rfl 13 (by decide) (hts _ q1451) (fun _ h9 => h9) hF_fs_13 dX3_nearest_43 ?_
            refine lv_iload_n hx hb dX3_nearest_46 rfl (lv_at hl 1 rfl) ?_
            refine g_iald hx hb hK hP 1 0 rfl rfl (i := nearN RE SE k) (⟨by omega, by omega⟩) (by decide) dX3_nearest_47 ?_
            have w13 := kRE (nearN RE SE k) (by omega) (by omega)
            refine g_icmp_ge (tgt := 55) hx hb dX3_nearest_48 (by decide) ⟨⟨by omega, by omega⟩, ⟨by omega, by omega⟩⟩ (fun c14 => ?_) (fun c14 => ?_)
            · refine lv_iload_n hx hb dX3_nearest_55 rfl (lv_at hl 1 rfl) ?_
              refine g_eq (b := zi (SE (k : Int)) (nearN RE SE k) (zi ((RE (k : Int)) < 1000000) (zi ((nearN RE SE k) = (-1)) (k : Int) (zi ((RE (k : Int)) < (RE (nearN RE SE k))) (k : Int) (nearN RE SE k))) (nearN RE SE k))) (((zi_f c8).trans ((zi_t c10).trans ((zi_f c11).trans (zi_f c14))))).symm ?_
              exact hJ2 ls (lv_sub hl [0, 1, 2] rfl)
            · refine lv_iload_n hx hb dX3_nearest_51 rfl (lv_at hl 2 rfl) ?_
              refine lv_goto (tgt := 56) hx hb dX3_nearest_52 (by decide) ?_
              refine g_eq (b := zi (SE (k : Int)) (nearN RE SE k) (zi ((RE (k : Int)) < 1000000) (zi ((nearN RE SE k) = (-1)) (k : Int) (zi ((RE (k : Int)) < (RE (nearN RE SE k))) (k : Int) (nearN RE SE k))) (nearN RE SE k))) (((zi_f c8).trans ((zi_t c10).trans ((zi_f c11).trans (zi_t c14))))).symm ?_
              exact hJ2 ls (lv_sub hl [0, 1, 2] rfl)
  exact lp4 _ 0 (by omega) rfl ls (lv_sub hl [2, 1, 0] rfl)
theorem hd_X3_follower : yX3_follower.cls = RX3 ∧ yX3_follower.cls ≠ "java/lang/invoke/MethodHandle" ∧ yX3_follower.cls ≠ "java/lang/invoke/VarHandle" ∧ (parseMethodDescriptor yX3_follower.desc).map (fun d => d.parameters.length) = some 2 := by decide +kernel
set_option maxHeartbeats 4000000 in
set_option maxRecDepth 100000 in
theorem m_X3_follower (l : Launch) (G : va_G) (g : Nat → ClassId) (hM : Nat) (hs : Nat) (place : Int) (fs : List Value) (hac : Nat) (hal : Nat) (hre : Nat) (br : Int) (S : Int → Int) (RE : Int → Int) (hF_fs_11 : fs[11]? = some (.ref hac)) (hF_fs_12 : fs[12]? = some (.ref hal)) (hF_fs_13 : fs[13]? = some (.ref hre)) (hF_fs_18 : fs[18]? = some (.int (iI br))) (r_place : r32 place) (kS : rgS S) (hbr : 1 ≤ br ∧ br ≤ 3) (hp : 0 ≤ place ∧ place ≤ 191) (kRE : rgRE RE) : Met l yX3_follower (ws_ yX3_follower cX3_follower 6 (Option.some Jvm.ClassFile.FieldType.int)) ({ frames := 5, cells := 0, slots := 0, locals := 114 }) (va_Pc [.ref hM, .ref hs, .int (iI place)] (rdB G CL (TY g) (fun _ => True) [(hM, .inr (2, fs)), (hs, .inl (g 0, 253, .inl (aI S))), (hac, .inl (g 0, 4, .inl (aI dx))), (hal, .inl (g 0, 4, .inl (aI dy))), (hre, .inl (g 0, 192, .inl (aI RE)))])) (QcRead ((iI (folN S RE br place 4)))) 0 0 (fun _ => False) := by
  refine Met.at (by decide) (Nat.le_of_ble_eq_true rfl) ?_
  intro p e s m below meth c hx hb hr hlk hml hown hnm hts hB ls hl
  have hown : s.vm.findClass RX3 = some m.cls := hown
  obtain ⟨hP, hK, hEs⟩ := hB
  have hl : lv_has ls 6 [(0, .ref hM), (1, .ref hs), (2, .int (iI place))] := hl
  refine lv_iconst (v := iI (-1)) hx hb dX3_follower_0 rfl ?_
  refine lv_istore_n (lv' := [(3, .int (iI (-1))), (0, .ref hM), (1, .ref hs), (2, .int (iI place))]) hx hb dX3_follower_1 rfl hl (by decide) rfl (fun ls hl => ?_)
  refine lv_iconst (v := iI 0) hx hb dX3_follower_2 rfl ?_
  refine lv_istore (lv' := [(4, .int (iI 0)), (3, .int (iI (-1))), (0, .ref hM), (1, .ref hs), (2, .int (iI place))]) hx hb dX3_follower_3 hl (by decide) rfl (fun ls hl => ?_)
  have lp5 : ∀ (n : Nat) (k : Nat), ((k : Int) ≤ 4) → 4 - k = n → ∀ ls : Array Slot, lv_has ls 6 [(0, .ref hM), (1, .ref hs), (2, .int (iI place)), (3, .int (iI (folN S RE br place k))), (4, .int (iI (k : Int)))] → W p l e ({ frames := 5, cells := 0, slots := 0, locals := 114 }) s m ([.ref hM, .ref hs, .int (iI place)] : List Value).toArray below meth c s.heap [] 0 0 (MQ below (QcRead ((iI (folN S RE br place 4)))) ([.ref hM, .ref hs, .int (iI place)] : List Value).toArray s 0 0 (fun _ => False)) (F0 m 5 ls []) := by
    intro n
    refine Nat.strongRecOn n ?_
    intro n ih5 k hk hmu5 ls hl
    have fr := folN_rng S RE (b := br) place hbr.1 k
    refine lv_iload hx hb dX3_follower_5 (lv_at hl 4 rfl) ?_
    refine lv_iconst (v := iI 4) hx hb dX3_follower_7 rfl ?_
    refine g_icmp_ge (tgt := 82) hx hb dX3_follower_8 (by decide) ⟨⟨by omega, by omega⟩, ⟨by decide, by decide⟩⟩ (fun c1 => ?_) (fun c1 => ?_)
    · refine lv_iload_n hx hb dX3_follower_82 rfl (lv_at hl 3 rfl) ?_
      exact g_iret hx hb hr hlk (by rw [show k = 4 from by omega]) dX3_follower_83
    · refine lv_aload_n hx hb dX3_follower_11 rfl (lv_at hl 0 rfl) ?_
      refine lv_aload_n hx hb dX3_follower_12 rfl (lv_at hl 1 rfl) ?_
      refine lv_iload_n hx hb dX3_follower_13 rfl (lv_at hl 2 rfl) ?_
      refine lv_iload hx hb dX3_follower_14 (lv_at hl 4 rfl) ?_
      refine g_callV (A := fun _ => False) (As := [.ref hs, .int (iI place), .int (iI (k : Int))]) (rest := []) (m_X3_next l G g hM hs place (k : Int) fs hac hal br S hF_fs_11 hF_fs_12 hF_fs_18 r_place (⟨by omega, by omega⟩) kS hbr hp (by omega)) hx hb hml hown hts Stab.tt hK hP va_S.rf hEs [0, 1, 2, 3] rfl (q0 := 0) rfl rfl q1602 q1604 qs65 q102 q1605 hd_X3_next rfl rfl ⟨Nat.le_of_ble_eq_true rfl, Nat.le_of_ble_eq_true rfl⟩ rfl hl rfl (Nat.le_of_ble_eq_true rfl) ⟨Nat.le_refl _, Nat.le_refl _⟩ dX3_follower_16 ?_
      have w2 := nxM_rng S (b := br) place (k : Int) hbr.1
      refine lv_istore (lv' := [(5, .int (iI (nxM S br place (k : Int)))), (0, .ref hM), (1, .ref hs), (2, .int (iI place)), (3, .int (iI (folN S RE br place k))), (4, .int (iI (k : Int)))]) hx hb dX3_follower_19 hl (by decide) rfl (fun ls hl => ?_)
      refine lv_iload hx hb dX3_follower_21 (lv_at hl 0 rfl) ?_
      refine lv_iconst (v := iI (-1)) hx hb dX3_follower_23 rfl ?_
      have hJ3 : ∀ ls : Array Slot, lv_has ls 6 [(0, .ref hM), (1, .ref hs), (2, .int (iI place)), (3, .int (iI (zi ((nxM S br place (k : Int)) = (-1)) (folN S RE br place k) (zi ((((RE (nxM S br place (k : Int))) + 1) + (1000 * (rk S br (nxM S br place (k : Int)) place))) = (RE place)) (zi ((folN S RE br place k) = (-1)) (nxM S br place (k : Int)) (zi ((nxM S br place (k : Int)) < (folN S RE br place k)) (nxM S br place (k : Int)) (folN S RE br place k))) (folN S RE br place k))))), (4, .int (iI (k : Int))), (5, .int (iI (nxM S br place (k : Int))))] → W p l e ({ frames := 5, cells := 0, slots := 0, locals := 114 }) s m ([.ref hM, .ref hs, .int (iI place)] : List Value).toArray below meth c s.heap [] 0 0 (MQ below (QcRead ((iI (folN S RE br place 4)))) ([.ref hM, .ref hs, .int (iI place)] : List Value).toArray s 0 0 (fun _ => False)) (F0 m 76 ls []) := by
        intro ls hl
        refine g_iinc (lv' := [(4, .int (iI ((k : Int) + 1))), (0, .ref hM), (1, .ref hs), (2, .int (iI place)), (3, .int (iI (zi ((nxM S br place (k : Int)) = (-1)) (folN S RE br place k) (zi ((((RE (nxM S br place (k : Int))) + 1) + (1000 * (rk S br (nxM S br place (k : Int)) place))) = (RE place)) (zi ((folN S RE br place k) = (-1)) (nxM S br place (k : Int)) (zi ((nxM S br place (k : Int)) < (folN S RE br place k)) (nxM S br place (k : Int)) (folN S RE br place k))) (folN S RE br place k))))), (5, .int (iI (nxM S br place (k : Int))))]) hx hb dX3_follower_76 hl (k := 4) rfl (by decide) rfl (fun ls hl => ?_)
        refine lv_goto (tgt := 5) hx hb dX3_follower_79 (by decide) ?_
        exact ih5 _ (by omega) (k + 1) (by omega) rfl ls (lv_sub hl [1, 2, 3, 4, 0] rfl)
      refine g_icmp_eq (tgt := 76) hx hb dX3_follower_24 (by decide) ⟨⟨by omega, by omega⟩, ⟨by decide, by decide⟩⟩ (fun c4 => ?_) (fun c4 => ?_)
      · exact hJ3 ls (by rw [show zi ((nxM S br place (k : Int)) = (-1)) (folN S RE br place k) (zi ((((RE (nxM S br place (k : Int))) + 1) + (1000 * (rk S br (nxM S br place (k : Int)) place))) = (RE place)) (zi ((folN S RE br place k) = (-1)) (nxM S br place (k : Int)) (zi ((nxM S br place (k : Int)) < (folN S RE br place k)) (nxM S br place (k : Int)) (folN S RE br place k))) (folN S RE br place k)) = folN S RE br place k from (zi_t c4)]; exact lv_sub hl [1, 2, 3, 4, 5, 0] rfl)
      · refine lv_aload_n hx hb dX3_follower_27 rfl (lv_at hl 1 rfl) ?_
        refine va_get (D := G) (ci := 2) (v := .ref hre) (C := RX3) (T := TX3) (N := 20) hx hb hts in_X3 hown hK hP 0 rfl rfl 13 (by decide) (hts _ q1451) (fun _ h9 => h9) hF_fs_13 dX3_follower_28 ?_
        refine lv_iload hx hb dX3_follower_31 (lv_at hl 0 rfl) ?_
        refine g_iald hx hb hK hP 4 0 rfl rfl (i := nxM S br place (k : Int)) (⟨by omega, by omega⟩) (by decide) dX3_follower_33 ?_
        have w5 := kRE (nxM S br place (k : Int)) (by omega) (by omega)
        refine lv_iconst (v := iI 1) hx hb dX3_follower_34 rfl ?_
        refine g_iadd hx hb dX3_follower_35 ?_
        refine lv_sipush (v := iI 1000) hx hb dX3_follower_36 rfl ?_
        refine lv_aload_n hx hb dX3_follower_39 rfl (lv_at hl 1 rfl) ?_
        refine lv_aload_n hx hb dX3_follower_40 rfl (lv_at hl 2 rfl) ?_
        refine lv_iload hx hb dX3_follower_41 (lv_at hl 0 rfl) ?_
        refine lv_iload_n hx hb dX3_follower_43 rfl (lv_at hl 3 rfl) ?_
        refine g_callV (A := fun _ => False) (As := [.ref hs, .int (iI (nxM S br place (k : Int))), .int (iI place)]) (rest := [.int (iI 1000), .int (iI ((RE (nxM S br place (k : Int))) + 1))]) (m_X3_rock l G g hM hs (nxM S br place (k : Int)) place fs br S hF_fs_18 (⟨by omega, by omega⟩) r_place kS hbr (by omega) (by omega)) hx hb hml hown hts Stab.tt hK hP va_S.rf hEs [0, 1] rfl (q0 := 0) rfl rfl q1606 q1608 qs66 q102 q1609 hd_X3_rock rfl rfl ⟨Nat.le_of_ble_eq_true rfl, Nat.le_of_ble_eq_true rfl⟩ rfl hl rfl (Nat.le_of_ble_eq_true rfl) ⟨Nat.le_refl _, Nat.le_refl _⟩ dX3_follower_44 ?_
        have w6 := rk_rng S (nxM S br place (k : Int)) place hbr
        refine g_imul hx hb dX3_follower_47 ?_
        refine g_iadd hx hb dX3_follower_48 ?_
        refine lv_aload_n hx hb dX3_follower_49 rfl (lv_at hl 1 rfl) ?_
        refine va_get (D := G) (ci := 2) (v := .ref hre) (C := RX3) (T := TX3) (N := 20) hx hb hts in_X3 hown hK hP 0 rfl rfl 13 (by decide) (hts _ q1451) (fun _ h9 => h9) hF_fs_13 dX3_follower_50 ?_
        refine lv_iload_n hx hb dX3_follower_53 rfl (lv_at hl 3 rfl) ?_
        refine g_iald hx hb hK hP 4 0 rfl rfl (i := place) (⟨by omega, by omega⟩) (by decide) dX3_follower_54 ?_
        have w7 := kRE place (by omega) (by omega)
        refine g_icmp_ne (tgt := 76) hx hb dX3_follower_55 (by decide) ⟨⟨by omega, by omega⟩, ⟨by omega, by omega⟩⟩ (fun c8 => ?_) (fun c8 => ?_)
        · exact hJ3 ls (by rw [show zi ((nxM S br place (k : Int)) = (-1)) (folN S RE br place k) (zi ((((RE (nxM S br place (k : Int))) + 1) + (1000 * (rk S br (nxM S br place (k : Int)) place))) = (RE place)) (zi ((folN S RE br place k) = (-1)) (nxM S br place (k : Int)) (zi ((nxM S br place (k : Int)) < (folN S RE br place k)) (nxM S br place (k : Int)) (folN S RE br place k))) (folN S RE br place k)) = folN S RE br place k from ((zi_f c4).trans (zi_f c8))]; exact lv_sub hl [1, 2, 3, 4, 5, 0] rfl)
        · refine lv_iload_n hx hb dX3_follower_58 rfl (lv_at hl 4 rfl) ?_
          refine lv_iconst (v := iI (-1)) hx hb dX3_follower_59 rfl ?_
          have hJ9 : ∀ ls : Array Slot, lv_has ls 6 [(0, .ref hM), (1, .ref hs), (2, .int (iI place)), (3, .int (iI (folN S RE br place k))), (4, .int (iI (k : Int))), (5, .int (iI (nxM S br place (k : Int))))] → W p l e ({ frames := 5, cells := 0, slots := 0, locals := 114 }) s m ([.ref hM, .ref hs, .int (iI place)] : List Value).toArray below meth c s.heap [] 0 0 (MQ below (QcRead ((iI (folN S RE br place 4)))) ([.ref hM, .ref hs, .int (iI place)] : List Value).toArray s 0 0 (fun _ => False)) (F0 m 75 ls [.int (iI (zi ((folN S RE br place k) = (-1)) (nxM S br place (k : Int)) (zi ((nxM S br place (k : Int)) < (folN S RE br place k)) (nxM S br place (k : Int)) (folN S RE br place k))))]) := by
            intro ls hl
            refine lv_istore_n (lv' := [(3, .int (iI (zi ((folN S RE br place k) = (-1)) (nxM S br place (k : Int)) (zi ((nxM S br place (k : Int)) < (folN S RE br place k)) (nxM S br place (k : Int)) (folN S RE br place k))))), (0, .ref hM), (1, .ref hs), (2, .int (iI place)), (4, .int (iI (k : Int))), (5, .int (iI (nxM S br place (k : Int))))]) hx hb dX3_follower_75 rfl hl (by decide) rfl (fun ls hl => ?_)
            exact hJ3 ls (by rw [show zi ((nxM S br place (k : Int)) = (-1)) (folN S RE br place k) (zi ((((RE (nxM S br place (k : Int))) + 1) + (1000 * (rk S br (nxM S br place (k : Int)) place))) = (RE place)) (zi ((folN S RE br place k) = (-1)) (nxM S br place (k : Int)) (zi ((nxM S br place (k : Int)) < (folN S RE br place k)) (nxM S br place (k : Int)) (folN S RE br place k))) (folN S RE br place k)) = zi ((folN S RE br place k) = (-1)) (nxM S br place (k : Int)) (zi ((nxM S br place (k : Int)) < (folN S RE br place k)) (nxM S br place (k : Int)) (folN S RE br place k)) from ((zi_f c4).trans (zi_t c8))]; exact lv_sub hl [1, 2, 3, 0, 4, 5] rfl)
          refine g_icmp_eq (tgt := 69) hx hb dX3_follower_60 (by decide) ⟨⟨by omega, by omega⟩, ⟨by decide, by decide⟩⟩ (fun c10 => ?_) (fun c10 => ?_)
          · refine lv_iload hx hb dX3_follower_69 (lv_at hl 0 rfl) ?_
            refine lv_goto (tgt := 75) hx hb dX3_follower_71 (by decide) ?_
            refine g_eq (b := zi ((folN S RE br place k) = (-1)) (nxM S br place (k : Int)) (zi ((nxM S br place (k : Int)) < (folN S RE br place k)) (nxM S br place (k : Int)) (folN S RE br place k))) ((zi_t c10)).symm ?_
            exact hJ9 ls (lv_sub hl [1, 2, 3, 4, 5, 0] rfl)
          · refine lv_iload hx hb dX3_follower_63 (lv_at hl 0 rfl) ?_
            refine lv_iload_n hx hb dX3_follower_65 rfl (lv_at hl 4 rfl) ?_
            refine g_icmp_ge (tgt := 74) hx hb dX3_follower_66 (by decide) ⟨⟨by omega, by omega⟩, ⟨by omega, by omega⟩⟩ (fun c11 => ?_) (fun c11 => ?_)
            · refine lv_iload_n hx hb dX3_follower_74 rfl (lv_at hl 4 rfl) ?_
              refine g_eq (b := zi ((folN S RE br place k) = (-1)) (nxM S br place (k : Int)) (zi ((nxM S br place (k : Int)) < (folN S RE br place k)) (nxM S br place (k : Int)) (folN S RE br place k))) (((zi_f c10).trans (zi_f c11))).symm ?_
              exact hJ9 ls (lv_sub hl [1, 2, 3, 4, 5, 0] rfl)
            · refine lv_iload hx hb dX3_follower_69 (lv_at hl 0 rfl) ?_
              refine lv_goto (tgt := 75) hx hb dX3_follower_71 (by decide) ?_
              refine g_eq (b := zi ((folN S RE br place k) = (-1)) (nxM S br place (k : Int)) (zi ((nxM S br place (k : Int)) < (folN S RE br place k)) (nxM S br place (k : Int)) (folN S RE br place k))) (((zi_f c10).trans (zi_t c11))).symm ?_
              exact hJ9 ls (lv_sub hl [1, 2, 3, 4, 5, 0] rfl)
  exact lp5 _ 0 (by omega) rfl ls (lv_sub hl [2, 3, 4, 1, 0] rfl)
theorem hd_X3_sides : yX3_sides.cls ≠ "java/lang/invoke/MethodHandle" ∧ yX3_sides.cls ≠ "java/lang/invoke/VarHandle" ∧ (parseMethodDescriptor yX3_sides.desc).map (fun d => d.parameters.length) = some 3 := by decide +kernel
set_option maxHeartbeats 4000000 in
set_option maxRecDepth 100000 in
theorem m_X3_sides (l : Launch) (G : va_G) (g : Nat → ClassId) (hs : Nat) (x : Int) (y : Int) (S : Int → Int) (r_x : r32 x) (r_y : r32 y) (kS : rgS S) (hx1 : 0 ≤ x ∧ x ≤ 15) (hy1 : 0 ≤ y ∧ y ≤ 11) : Met l yX3_sides (ws_ yX3_sides cX3_sides 4 (Option.some Jvm.ClassFile.FieldType.int)) ({ frames := 3, cells := 0, slots := 0, locals := 65 }) (va_Pc [.ref hs, .int (iI x), .int (iI y)] (rdB G CL (TY g) (fun _ => True) [(hs, .inl (g 0, 253, .inl (aI S)))])) (QcRead ((iI (sdM S x y)))) 0 0 (fun _ => False) := by
  refine Met.at (by decide) (Nat.le_of_ble_eq_true rfl) ?_
  intro p e s m below meth c hx hb hr hlk hml hown hnm hts hB ls hl
  have hown : s.vm.findClass RX3 = some m.cls := hown
  obtain ⟨hP, hK, hEs⟩ := hB
  have hl : lv_has ls 4 [(0, .ref hs), (1, .int (iI x)), (2, .int (iI y))] := hl
  refine lv_iconst (v := iI 0) hx hb dX3_sides_0 rfl ?_
  refine lv_istore_n (lv' := [(3, .int (iI 0)), (0, .ref hs), (1, .int (iI x)), (2, .int (iI y))]) hx hb dX3_sides_1 rfl hl (by decide) rfl (fun ls hl => ?_)
  refine lv_aload_n hx hb dX3_sides_2 rfl (lv_at hl 1 rfl) ?_
  refine lv_iload_n hx hb dX3_sides_3 rfl (lv_at hl 2 rfl) ?_
  refine lv_iload_n hx hb dX3_sides_4 rfl (lv_at hl 3 rfl) ?_
  refine g_callS (A := fun _ => False) (As := [.ref hs, .int (iI x), .int (iI y)]) (rest := []) (m_X3_what l G g hs x y S r_x r_y kS) hx hb hml hown hts Stab.tt hK hP va_S.rf hEs [0] rfl q1535 q1536 q102 q1537 hd_X3_what rfl rfl ⟨Nat.le_of_ble_eq_true rfl, Nat.le_of_ble_eq_true rfl⟩ rfl hl rfl (Nat.le_of_ble_eq_true rfl) ⟨Nat.le_refl _, Nat.le_refl _⟩ dX3_sides_5 ?_
  have w1 := wh_rng kS x y
  refine lv_iconst (v := iI (-1)) hx hb dX3_sides_8 rfl ?_
  have hJ2 : ∀ ls : Array Slot, lv_has ls 4 [(0, .ref hs), (1, .int (iI x)), (2, .int (iI y)), (3, .int (iI (zi ((wh S x y) = (-1)) ((((0 + (qz (0 ≤ (wh S (x - 1) y) ∧ (wh S (x - 1) y) ≤ 5))) + (qz (0 ≤ (wh S (x + 1) y) ∧ (wh S (x + 1) y) ≤ 5))) + (qz (0 ≤ (wh S x (y - 1)) ∧ (wh S x (y - 1)) ≤ 5))) + (qz (0 ≤ (wh S x (y + 1)) ∧ (wh S x (y + 1)) ≤ 5))) 0)))] → W p l e ({ frames := 3, cells := 0, slots := 0, locals := 65 }) s m ([.ref hs, .int (iI x), .int (iI y)] : List Value).toArray below meth c s.heap [] 0 0 (MQ below (QcRead ((iI (sdM S x y)))) ([.ref hs, .int (iI x), .int (iI y)] : List Value).toArray s 0 0 (fun _ => False)) (F0 m 108 ls []) := by
    intro ls hl
    refine lv_iload_n hx hb dX3_sides_108 rfl (lv_at hl 3 rfl) ?_
    exact g_iret hx hb hr hlk (rfl) dX3_sides_109
  refine g_icmp_ne (tgt := 108) hx hb dX3_sides_9 (by decide) ⟨⟨by omega, by omega⟩, ⟨by decide, by decide⟩⟩ (fun c3 => ?_) (fun c3 => ?_)
  · exact hJ2 ls (by rw [show zi ((wh S x y) = (-1)) ((((0 + (qz (0 ≤ (wh S (x - 1) y) ∧ (wh S (x - 1) y) ≤ 5))) + (qz (0 ≤ (wh S (x + 1) y) ∧ (wh S (x + 1) y) ≤ 5))) + (qz (0 ≤ (wh S x (y - 1)) ∧ (wh S x (y - 1)) ≤ 5))) + (qz (0 ≤ (wh S x (y + 1)) ∧ (wh S x (y + 1)) ≤ 5))) 0 = 0 from (zi_f c3)]; exact lv_sub hl [1, 2, 3, 0] rfl)
  · refine lv_iload_n hx hb dX3_sides_12 rfl (lv_at hl 0 rfl) ?_
    refine lv_aload_n hx hb dX3_sides_13 rfl (lv_at hl 1 rfl) ?_
    refine lv_iload_n hx hb dX3_sides_14 rfl (lv_at hl 2 rfl) ?_
    refine lv_iconst (v := iI 1) hx hb dX3_sides_15 rfl ?_
    refine g_isub hx hb dX3_sides_16 ?_
    refine lv_iload_n hx hb dX3_sides_17 rfl (lv_at hl 3 rfl) ?_
    refine g_callS (A := fun _ => False) (As := [.ref hs, .int (iI (x - 1)), .int (iI y)]) (rest := [.int (iI 0)]) (m_X3_what l G g hs (x - 1) y S (⟨by omega, by omega⟩) r_y kS) hx hb hml hown hts Stab.tt hK hP va_S.rf hEs [0] rfl q1535 q1536 q102 q1537 hd_X3_what rfl rfl ⟨Nat.le_of_ble_eq_true rfl, Nat.le_of_ble_eq_true rfl⟩ rfl hl rfl (Nat.le_of_ble_eq_true rfl) ⟨Nat.le_refl _, Nat.le_refl _⟩ dX3_sides_18 ?_
    have w4 := wh_rng kS (x - 1) y
    refine lv_iconst (v := iI 0) hx hb dX3_sides_21 rfl ?_
    refine lv_iconst (v := iI 5) hx hb dX3_sides_22 rfl ?_
    refine g_callS (A := fun _ => False) (As := [.int (iI (wh S (x - 1) y)), .int (iI 0), .int (iI 5)]) (rest := [.int (iI 0)]) (m_X3_in l G g (wh S (x - 1) y) 0 5 (⟨by omega, by omega⟩) ⟨by decide, by decide⟩ ⟨by decide, by decide⟩) hx hb hml hown hts Stab.tt hK hP va_S.rf hEs [] rfl q1518 q1519 q102 q1520 hd_X3_in rfl rfl ⟨Nat.le_of_ble_eq_true rfl, Nat.le_of_ble_eq_true rfl⟩ rfl hl rfl (Nat.le_of_ble_eq_true rfl) ⟨Nat.le_refl _, Nat.le_refl _⟩ dX3_sides_23 ?_
    have hJ5 : ∀ ls : Array Slot, lv_has ls 4 [(0, .ref hs), (1, .int (iI x)), (2, .int (iI y)), (3, .int (iI 0))] → W p l e ({ frames := 3, cells := 0, slots := 0, locals := 65 }) s m ([.ref hs, .int (iI x), .int (iI y)] : List Value).toArray below meth c s.heap [] 0 0 (MQ below (QcRead ((iI (sdM S x y)))) ([.ref hs, .int (iI x), .int (iI y)] : List Value).toArray s 0 0 (fun _ => False)) (F0 m 34 ls [.int (iI (qz (0 ≤ (wh S (x - 1) y) ∧ (wh S (x - 1) y) ≤ 5))), .int (iI 0)]) := by
      intro ls hl
      refine g_iadd hx hb dX3_sides_34 ?_
      refine lv_istore_n (lv' := [(3, .int (iI (0 + (qz (0 ≤ (wh S (x - 1) y) ∧ (wh S (x - 1) y) ≤ 5))))), (0, .ref hs), (1, .int (iI x)), (2, .int (iI y))]) hx hb dX3_sides_35 rfl hl (by decide) rfl (fun ls hl => ?_)
      refine lv_iload_n hx hb dX3_sides_36 rfl (lv_at hl 0 rfl) ?_
      refine lv_aload_n hx hb dX3_sides_37 rfl (lv_at hl 1 rfl) ?_
      refine lv_iload_n hx hb dX3_sides_38 rfl (lv_at hl 2 rfl) ?_
      refine lv_iconst (v := iI 1) hx hb dX3_sides_39 rfl ?_
      refine g_iadd hx hb dX3_sides_40 ?_
      refine lv_iload_n hx hb dX3_sides_41 rfl (lv_at hl 3 rfl) ?_
      refine g_callS (A := fun _ => False) (As := [.ref hs, .int (iI (x + 1)), .int (iI y)]) (rest := [.int (iI (0 + (qz (0 ≤ (wh S (x - 1) y) ∧ (wh S (x - 1) y) ≤ 5))))]) (m_X3_what l G g hs (x + 1) y S (⟨by omega, by omega⟩) r_y kS) hx hb hml hown hts Stab.tt hK hP va_S.rf hEs [0] rfl q1535 q1536 q102 q1537 hd_X3_what rfl rfl ⟨Nat.le_of_ble_eq_true rfl, Nat.le_of_ble_eq_true rfl⟩ rfl hl rfl (Nat.le_of_ble_eq_true rfl) ⟨Nat.le_refl _, Nat.le_refl _⟩ dX3_sides_42 ?_
      have w6 := wh_rng kS (x + 1) y
      refine lv_iconst (v := iI 0) hx hb dX3_sides_45 rfl ?_
      refine lv_iconst (v := iI 5) hx hb dX3_sides_46 rfl ?_
      refine g_callS (A := fun _ => False) (As := [.int (iI (wh S (x + 1) y)), .int (iI 0), .int (iI 5)]) (rest := [.int (iI (0 + (qz (0 ≤ (wh S (x - 1) y) ∧ (wh S (x - 1) y) ≤ 5))))]) (m_X3_in l G g (wh S (x + 1) y) 0 5 (⟨by omega, by omega⟩) ⟨by decide, by decide⟩ ⟨by decide, by decide⟩) hx hb hml hown hts Stab.tt hK hP va_S.rf hEs [] rfl q1518 q1519 q102 q1520 hd_X3_in rfl rfl ⟨Nat.le_of_ble_eq_true rfl, Nat.le_of_ble_eq_true rfl⟩ rfl hl rfl (Nat.le_of_ble_eq_true rfl) ⟨Nat.le_refl _, Nat.le_refl _⟩ dX3_sides_47 ?_
      have hJ7 : ∀ ls : Array Slot, lv_has ls 4 [(0, .ref hs), (1, .int (iI x)), (2, .int (iI y)), (3, .int (iI (0 + (qz (0 ≤ (wh S (x - 1) y) ∧ (wh S (x - 1) y) ≤ 5)))))] → W p l e ({ frames := 3, cells := 0, slots := 0, locals := 65 }) s m ([.ref hs, .int (iI x), .int (iI y)] : List Value).toArray below meth c s.heap [] 0 0 (MQ below (QcRead ((iI (sdM S x y)))) ([.ref hs, .int (iI x), .int (iI y)] : List Value).toArray s 0 0 (fun _ => False)) (F0 m 58 ls [.int (iI (qz (0 ≤ (wh S (x + 1) y) ∧ (wh S (x + 1) y) ≤ 5))), .int (iI (0 + (qz (0 ≤ (wh S (x - 1) y) ∧ (wh S (x - 1) y) ≤ 5))))]) := by
        intro ls hl
        refine g_iadd hx hb dX3_sides_58 ?_
        refine lv_istore_n (lv' := [(3, .int (iI ((0 + (qz (0 ≤ (wh S (x - 1) y) ∧ (wh S (x - 1) y) ≤ 5))) + (qz (0 ≤ (wh S (x + 1) y) ∧ (wh S (x + 1) y) ≤ 5))))), (0, .ref hs), (1, .int (iI x)), (2, .int (iI y))]) hx hb dX3_sides_59 rfl hl (by decide) rfl (fun ls hl => ?_)
        refine lv_iload_n hx hb dX3_sides_60 rfl (lv_at hl 0 rfl) ?_
        refine lv_aload_n hx hb dX3_sides_61 rfl (lv_at hl 1 rfl) ?_
        refine lv_iload_n hx hb dX3_sides_62 rfl (lv_at hl 2 rfl) ?_
        refine lv_iload_n hx hb dX3_sides_63 rfl (lv_at hl 3 rfl) ?_
        refine lv_iconst (v := iI 1) hx hb dX3_sides_64 rfl ?_
        refine g_isub hx hb dX3_sides_65 ?_
        refine g_callS (A := fun _ => False) (As := [.ref hs, .int (iI x), .int (iI (y - 1))]) (rest := [.int (iI ((0 + (qz (0 ≤ (wh S (x - 1) y) ∧ (wh S (x - 1) y) ≤ 5))) + (qz (0 ≤ (wh S (x + 1) y) ∧ (wh S (x + 1) y) ≤ 5))))]) (m_X3_what l G g hs x (y - 1) S r_x (⟨by omega, by omega⟩) kS) hx hb hml hown hts Stab.tt hK hP va_S.rf hEs [0] rfl q1535 q1536 q102 q1537 hd_X3_what rfl rfl ⟨Nat.le_of_ble_eq_true rfl, Nat.le_of_ble_eq_true rfl⟩ rfl hl rfl (Nat.le_of_ble_eq_true rfl) ⟨Nat.le_refl _, Nat.le_refl _⟩ dX3_sides_66 ?_
        have w8 := wh_rng kS x (y - 1)
        refine lv_iconst (v := iI 0) hx hb dX3_sides_69 rfl ?_
        refine lv_iconst (v := iI 5) hx hb dX3_sides_70 rfl ?_
        refine g_callS (A := fun _ => False) (As := [.int (iI (wh S x (y - 1))), .int (iI 0), .int (iI 5)]) (rest := [.int (iI ((0 + (qz (0 ≤ (wh S (x - 1) y) ∧ (wh S (x - 1) y) ≤ 5))) + (qz (0 ≤ (wh S (x + 1) y) ∧ (wh S (x + 1) y) ≤ 5))))]) (m_X3_in l G g (wh S x (y - 1)) 0 5 (⟨by omega, by omega⟩) ⟨by decide, by decide⟩ ⟨by decide, by decide⟩) hx hb hml hown hts Stab.tt hK hP va_S.rf hEs [] rfl q1518 q1519 q102 q1520 hd_X3_in rfl rfl ⟨Nat.le_of_ble_eq_true rfl, Nat.le_of_ble_eq_true rfl⟩ rfl hl rfl (Nat.le_of_ble_eq_true rfl) ⟨Nat.le_refl _, Nat.le_refl _⟩ dX3_sides_71 ?_
        have hJ9 : ∀ ls : Array Slot, lv_has ls 4 [(0, .ref hs), (1, .int (iI x)), (2, .int (iI y)), (3, .int (iI ((0 + (qz (0 ≤ (wh S (x - 1) y) ∧ (wh S (x - 1) y) ≤ 5))) + (qz (0 ≤ (wh S (x + 1) y) ∧ (wh S (x + 1) y) ≤ 5)))))] → W p l e ({ frames := 3, cells := 0, slots := 0, locals := 65 }) s m ([.ref hs, .int (iI x), .int (iI y)] : List Value).toArray below meth c s.heap [] 0 0 (MQ below (QcRead ((iI (sdM S x y)))) ([.ref hs, .int (iI x), .int (iI y)] : List Value).toArray s 0 0 (fun _ => False)) (F0 m 82 ls [.int (iI (qz (0 ≤ (wh S x (y - 1)) ∧ (wh S x (y - 1)) ≤ 5))), .int (iI ((0 + (qz (0 ≤ (wh S (x - 1) y) ∧ (wh S (x - 1) y) ≤ 5))) + (qz (0 ≤ (wh S (x + 1) y) ∧ (wh S (x + 1) y) ≤ 5))))]) := by
          intro ls hl
          refine g_iadd hx hb dX3_sides_82 ?_
          refine lv_istore_n (lv' := [(3, .int (iI (((0 + (qz (0 ≤ (wh S (x - 1) y) ∧ (wh S (x - 1) y) ≤ 5))) + (qz (0 ≤ (wh S (x + 1) y) ∧ (wh S (x + 1) y) ≤ 5))) + (qz (0 ≤ (wh S x (y - 1)) ∧ (wh S x (y - 1)) ≤ 5))))), (0, .ref hs), (1, .int (iI x)), (2, .int (iI y))]) hx hb dX3_sides_83 rfl hl (by decide) rfl (fun ls hl => ?_)
          refine lv_iload_n hx hb dX3_sides_84 rfl (lv_at hl 0 rfl) ?_
          refine lv_aload_n hx hb dX3_sides_85 rfl (lv_at hl 1 rfl) ?_
          refine lv_iload_n hx hb dX3_sides_86 rfl (lv_at hl 2 rfl) ?_
          refine lv_iload_n hx hb dX3_sides_87 rfl (lv_at hl 3 rfl) ?_
          refine lv_iconst (v := iI 1) hx hb dX3_sides_88 rfl ?_
          refine g_iadd hx hb dX3_sides_89 ?_
          refine g_callS (A := fun _ => False) (As := [.ref hs, .int (iI x), .int (iI (y + 1))]) (rest := [.int (iI (((0 + (qz (0 ≤ (wh S (x - 1) y) ∧ (wh S (x - 1) y) ≤ 5))) + (qz (0 ≤ (wh S (x + 1) y) ∧ (wh S (x + 1) y) ≤ 5))) + (qz (0 ≤ (wh S x (y - 1)) ∧ (wh S x (y - 1)) ≤ 5))))]) (m_X3_what l G g hs x (y + 1) S r_x (⟨by omega, by omega⟩) kS) hx hb hml hown hts Stab.tt hK hP va_S.rf hEs [0] rfl q1535 q1536 q102 q1537 hd_X3_what rfl rfl ⟨Nat.le_of_ble_eq_true rfl, Nat.le_of_ble_eq_true rfl⟩ rfl hl rfl (Nat.le_of_ble_eq_true rfl) ⟨Nat.le_refl _, Nat.le_refl _⟩ dX3_sides_90 ?_
          have w10 := wh_rng kS x (y + 1)
          refine lv_iconst (v := iI 0) hx hb dX3_sides_93 rfl ?_
          refine lv_iconst (v := iI 5) hx hb dX3_sides_94 rfl ?_
          refine g_callS (A := fun _ => False) (As := [.int (iI (wh S x (y + 1))), .int (iI 0), .int (iI 5)]) (rest := [.int (iI (((0 + (qz (0 ≤ (wh S (x - 1) y) ∧ (wh S (x - 1) y) ≤ 5))) + (qz (0 ≤ (wh S (x + 1) y) ∧ (wh S (x + 1) y) ≤ 5))) + (qz (0 ≤ (wh S x (y - 1)) ∧ (wh S x (y - 1)) ≤ 5))))]) (m_X3_in l G g (wh S x (y + 1)) 0 5 (⟨by omega, by omega⟩) ⟨by decide, by decide⟩ ⟨by decide, by decide⟩) hx hb hml hown hts Stab.tt hK hP va_S.rf hEs [] rfl q1518 q1519 q102 q1520 hd_X3_in rfl rfl ⟨Nat.le_of_ble_eq_true rfl, Nat.le_of_ble_eq_true rfl⟩ rfl hl rfl (Nat.le_of_ble_eq_true rfl) ⟨Nat.le_refl _, Nat.le_refl _⟩ dX3_sides_95 ?_
          have hJ11 : ∀ ls : Array Slot, lv_has ls 4 [(0, .ref hs), (1, .int (iI x)), (2, .int (iI y)), (3, .int (iI (((0 + (qz (0 ≤ (wh S (x - 1) y) ∧ (wh S (x - 1) y) ≤ 5))) + (qz (0 ≤ (wh S (x + 1) y) ∧ (wh S (x + 1) y) ≤ 5))) + (qz (0 ≤ (wh S x (y - 1)) ∧ (wh S x (y - 1)) ≤ 5)))))] → W p l e ({ frames := 3, cells := 0, slots := 0, locals := 65 }) s m ([.ref hs, .int (iI x), .int (iI y)] : List Value).toArray below meth c s.heap [] 0 0 (MQ below (QcRead ((iI (sdM S x y)))) ([.ref hs, .int (iI x), .int (iI y)] : List Value).toArray s 0 0 (fun _ => False)) (F0 m 106 ls [.int (iI (qz (0 ≤ (wh S x (y + 1)) ∧ (wh S x (y + 1)) ≤ 5))), .int (iI (((0 + (qz (0 ≤ (wh S (x - 1) y) ∧ (wh S (x - 1) y) ≤ 5))) + (qz (0 ≤ (wh S (x + 1) y) ∧ (wh S (x + 1) y) ≤ 5))) + (qz (0 ≤ (wh S x (y - 1)) ∧ (wh S x (y - 1)) ≤ 5))))]) := by
            intro ls hl
            refine g_iadd hx hb dX3_sides_106 ?_
            refine lv_istore_n (lv' := [(3, .int (iI ((((0 + (qz (0 ≤ (wh S (x - 1) y) ∧ (wh S (x - 1) y) ≤ 5))) + (qz (0 ≤ (wh S (x + 1) y) ∧ (wh S (x + 1) y) ≤ 5))) + (qz (0 ≤ (wh S x (y - 1)) ∧ (wh S x (y - 1)) ≤ 5))) + (qz (0 ≤ (wh S x (y + 1)) ∧ (wh S x (y + 1)) ≤ 5))))), (0, .ref hs), (1, .int (iI x)), (2, .int (iI y))]) hx hb dX3_sides_107 rfl hl (by decide) rfl (fun ls hl => ?_)
            exact hJ2 ls (by rw [show zi ((wh S x y) = (-1)) ((((0 + (qz (0 ≤ (wh S (x - 1) y) ∧ (wh S (x - 1) y) ≤ 5))) + (qz (0 ≤ (wh S (x + 1) y) ∧ (wh S (x + 1) y) ≤ 5))) + (qz (0 ≤ (wh S x (y - 1)) ∧ (wh S x (y - 1)) ≤ 5))) + (qz (0 ≤ (wh S x (y + 1)) ∧ (wh S x (y + 1)) ≤ 5))) 0 = (((0 + (qz (0 ≤ (wh S (x - 1) y) ∧ (wh S (x - 1) y) ≤ 5))) + (qz (0 ≤ (wh S (x + 1) y) ∧ (wh S (x + 1) y) ≤ 5))) + (qz (0 ≤ (wh S x (y - 1)) ∧ (wh S x (y - 1)) ≤ 5))) + (qz (0 ≤ (wh S x (y + 1)) ∧ (wh S x (y + 1)) ≤ 5)) from (zi_t c3)]; exact lv_sub hl [1, 2, 3, 0] rfl)
          refine g_ifq_eq (tgt := 105) hx hb dX3_sides_98 (by decide) (fun c12 => ?_) (fun c12 => ?_)
          · refine lv_iconst (v := iI 0) hx hb dX3_sides_105 rfl ?_
            refine g_eq (b := qz (0 ≤ (wh S x (y + 1)) ∧ (wh S x (y + 1)) ≤ 5)) (qz_f (fun xx => (c12 xx))).symm ?_
            exact hJ11 ls (lv_sub hl [1, 2, 3, 0] rfl)
          · refine lv_iconst (v := iI 1) hx hb dX3_sides_101 rfl ?_
            refine lv_goto (tgt := 106) hx hb dX3_sides_102 (by decide) ?_
            refine g_eq (b := qz (0 ≤ (wh S x (y + 1)) ∧ (wh S x (y + 1)) ≤ 5)) (qz_t c12).symm ?_
            exact hJ11 ls (lv_sub hl [1, 2, 3, 0] rfl)
        refine g_ifq_eq (tgt := 81) hx hb dX3_sides_74 (by decide) (fun c13 => ?_) (fun c13 => ?_)
        · refine lv_iconst (v := iI 0) hx hb dX3_sides_81 rfl ?_
          refine g_eq (b := qz (0 ≤ (wh S x (y - 1)) ∧ (wh S x (y - 1)) ≤ 5)) (qz_f (fun xx => (c13 xx))).symm ?_
          exact hJ9 ls (lv_sub hl [1, 2, 3, 0] rfl)
        · refine lv_iconst (v := iI 1) hx hb dX3_sides_77 rfl ?_
          refine lv_goto (tgt := 82) hx hb dX3_sides_78 (by decide) ?_
          refine g_eq (b := qz (0 ≤ (wh S x (y - 1)) ∧ (wh S x (y - 1)) ≤ 5)) (qz_t c13).symm ?_
          exact hJ9 ls (lv_sub hl [1, 2, 3, 0] rfl)
      refine g_ifq_eq (tgt := 57) hx hb dX3_sides_50 (by decide) (fun c14 => ?_) (fun c14 => ?_)
      · refine lv_iconst (v := iI 0) hx hb dX3_sides_57 rfl ?_
        refine g_eq (b := qz (0 ≤ (wh S (x + 1) y) ∧ (wh S (x + 1) y) ≤ 5)) (qz_f (fun xx => (c14 xx))).symm ?_
        exact hJ7 ls (lv_sub hl [1, 2, 3, 0] rfl)
      · refine lv_iconst (v := iI 1) hx hb dX3_sides_53 rfl ?_
        refine lv_goto (tgt := 58) hx hb dX3_sides_54 (by decide) ?_
        refine g_eq (b := qz (0 ≤ (wh S (x + 1) y) ∧ (wh S (x + 1) y) ≤ 5)) (qz_t c14).symm ?_
        exact hJ7 ls (lv_sub hl [1, 2, 3, 0] rfl)
    refine g_ifq_eq (tgt := 33) hx hb dX3_sides_26 (by decide) (fun c15 => ?_) (fun c15 => ?_)
    · refine lv_iconst (v := iI 0) hx hb dX3_sides_33 rfl ?_
      refine g_eq (b := qz (0 ≤ (wh S (x - 1) y) ∧ (wh S (x - 1) y) ≤ 5)) (qz_f (fun xx => (c15 xx))).symm ?_
      exact hJ5 ls (lv_sub hl [1, 2, 3, 0] rfl)
    · refine lv_iconst (v := iI 1) hx hb dX3_sides_29 rfl ?_
      refine lv_goto (tgt := 34) hx hb dX3_sides_30 (by decide) ?_
      refine g_eq (b := qz (0 ≤ (wh S (x - 1) y) ∧ (wh S (x - 1) y) ≤ 5)) (qz_t c15).symm ?_
      exact hJ5 ls (lv_sub hl [1, 2, 3, 0] rfl)
theorem hd_X3_faces : yX3_faces.cls = RX3 ∧ yX3_faces.cls ≠ "java/lang/invoke/MethodHandle" ∧ yX3_faces.cls ≠ "java/lang/invoke/VarHandle" ∧ (parseMethodDescriptor yX3_faces.desc).map (fun d => d.parameters.length) = some 4 := by decide +kernel
set_option maxHeartbeats 4000000 in
set_option maxRecDepth 100000 in
theorem m_X3_faces (l : Launch) (G : va_G) (g : Nat → ClassId) (hM : Nat) (hs : Nat) (x : Int) (y : Int) (d : Int) (fs : List Value) (hac : Nat) (hal : Nat) (S : Int → Int) (hF_fs_11 : fs[11]? = some (.ref hac)) (hF_fs_12 : fs[12]? = some (.ref hal)) (r_x : r32 x) (r_y : r32 y) (r_d : r32 d) (kS : rgS S) (kT : 0 ≤ S 252) (hx1 : 0 ≤ x ∧ x ≤ 15) (hy1 : 0 ≤ y ∧ y ≤ 11) (hd4 : 0 ≤ d ∧ d ≤ 3) : Met l yX3_faces (ws_ yX3_faces cX3_faces 6 (Option.some Jvm.ClassFile.FieldType.boolean)) ({ frames := 3, cells := 0, slots := 0, locals := 65 }) (va_Pc [.ref hM, .ref hs, .int (iI x), .int (iI y), .int (iI d)] (rdB G CL (TY g) (fun _ => True) [(hM, .inr (2, fs)), (hs, .inl (g 0, 253, .inl (aI S))), (hac, .inl (g 0, 4, .inl (aI dx))), (hal, .inl (g 0, 4, .inl (aI dy)))])) (QcRead ((iI (qz (fcs S x y d))))) 0 0 (fun _ => False) := by
  refine Met.at (by decide) (Nat.le_of_ble_eq_true rfl) ?_
  intro p e s m below meth c hx hb hr hlk hml hown hnm hts hB ls hl
  have hown : s.vm.findClass RX3 = some m.cls := hown
  obtain ⟨hP, hK, hEs⟩ := hB
  have hl : lv_has ls 6 [(0, .ref hM), (1, .ref hs), (2, .int (iI x)), (3, .int (iI y)), (4, .int (iI d))] := hl
  have kT2 := kS 252 (by decide) (by decide)
  refine lv_iconst (v := iI 0) hx hb dX3_faces_0 rfl ?_
  refine lv_istore (lv' := [(5, .int (iI 0)), (0, .ref hM), (1, .ref hs), (2, .int (iI x)), (3, .int (iI y)), (4, .int (iI d))]) hx hb dX3_faces_1 hl (by decide) rfl (fun ls hl => ?_)
  have lp3 : ∀ (n : Nat) (k : Nat), ((k : Int) ≤ S 252) → (∀ j : Int, 1 ≤ j → j ≤ (k : Int) → whs S x y d j = -1) → (S 252).toNat - k = n → ∀ ls : Array Slot, lv_has ls 6 [(0, .ref hM), (1, .ref hs), (2, .int (iI x)), (3, .int (iI y)), (4, .int (iI d)), (5, .int (iI (k : Int)))] → W p l e ({ frames := 3, cells := 0, slots := 0, locals := 65 }) s m ([.ref hM, .ref hs, .int (iI x), .int (iI y), .int (iI d)] : List Value).toArray below meth c s.heap [] 0 0 (MQ below (QcRead ((iI (qz (fcs S x y d))))) ([.ref hM, .ref hs, .int (iI x), .int (iI y), .int (iI d)] : List Value).toArray s 0 0 (fun _ => False)) (F0 m 3 ls []) := by
    intro n
    refine Nat.strongRecOn n ?_
    intro n ih3 k hk ha hmu3 ls hl
    have mx := mdx ((k : Int) + 1) d (by omega)
    have my := mdy ((k : Int) + 1) d (by omega)
    refine lv_iload hx hb dX3_faces_3 (lv_at hl 5 rfl) ?_
    refine lv_aload_n hx hb dX3_faces_5 rfl (lv_at hl 1 rfl) ?_
    refine lv_sipush (v := iI 252) hx hb dX3_faces_6 rfl ?_
    refine g_iald hx hb hK hP 1 0 rfl rfl (i := 252) (⟨by decide, by decide⟩) (by decide) dX3_faces_9 ?_
    have w1 := kS 252 (by decide) (by decide)
    refine g_icmp_ge (tgt := 55) hx hb dX3_faces_10 (by decide) ⟨⟨by omega, by omega⟩, ⟨by omega, by omega⟩⟩ (fun c2 => ?_) (fun c2 => ?_)
    · refine lv_aload_n hx hb dX3_faces_55 rfl (lv_at hl 1 rfl) ?_
      refine lv_iload_n hx hb dX3_faces_56 rfl (lv_at hl 2 rfl) ?_
      refine lv_iload hx hb dX3_faces_57 (lv_at hl 5 rfl) ?_
      refine lv_iconst (v := iI 1) hx hb dX3_faces_59 rfl ?_
      refine g_iadd hx hb dX3_faces_60 ?_
      refine lv_aload_n hx hb dX3_faces_61 rfl (lv_at hl 0 rfl) ?_
      refine va_get (D := G) (ci := 2) (v := .ref hac) (C := RX3) (T := TX3) (N := 20) hx hb hts in_X3 hown hK hP 0 rfl rfl 11 (by decide) (hts _ q1449) (fun _ h9 => h9) hF_fs_11 dX3_faces_62 ?_
      refine lv_iload hx hb dX3_faces_65 (lv_at hl 4 rfl) ?_
      refine g_iald hx hb hK hP 2 0 rfl rfl (i := d) (⟨by omega, by omega⟩) (by decide) dX3_faces_67 ?_
      have w3 := dx_r d (by omega) (by omega)
      refine g_imul hx hb dX3_faces_68 ?_
      refine g_iadd hx hb dX3_faces_69 ?_
      refine lv_iload_n hx hb dX3_faces_70 rfl (lv_at hl 3 rfl) ?_
      refine lv_iload hx hb dX3_faces_71 (lv_at hl 5 rfl) ?_
      refine lv_iconst (v := iI 1) hx hb dX3_faces_73 rfl ?_
      refine g_iadd hx hb dX3_faces_74 ?_
      refine lv_aload_n hx hb dX3_faces_75 rfl (lv_at hl 0 rfl) ?_
      refine va_get (D := G) (ci := 2) (v := .ref hal) (C := RX3) (T := TX3) (N := 20) hx hb hts in_X3 hown hK hP 0 rfl rfl 12 (by decide) (hts _ q1450) (fun _ h9 => h9) hF_fs_12 dX3_faces_76 ?_
      refine lv_iload hx hb dX3_faces_79 (lv_at hl 4 rfl) ?_
      refine g_iald hx hb hK hP 3 0 rfl rfl (i := d) (⟨by omega, by omega⟩) (by decide) dX3_faces_81 ?_
      have w4 := dy_r d (by omega) (by omega)
      refine g_imul hx hb dX3_faces_82 ?_
      refine g_iadd hx hb dX3_faces_83 ?_
      refine g_callS (A := fun _ => False) (As := [.ref hs, .int (iI (x + (((k : Int) + 1) * (dx d)))), .int (iI (y + (((k : Int) + 1) * (dy d))))]) (rest := []) (m_X3_what l G g hs (x + (((k : Int) + 1) * (dx d))) (y + (((k : Int) + 1) * (dy d))) S (⟨by omega, by omega⟩) (⟨by omega, by omega⟩) kS) hx hb hml hown hts Stab.tt hK hP va_S.rf hEs [1] rfl q1535 q1536 q102 q1537 hd_X3_what rfl rfl ⟨Nat.le_of_ble_eq_true rfl, Nat.le_of_ble_eq_true rfl⟩ rfl hl rfl (Nat.le_of_ble_eq_true rfl) ⟨Nat.le_refl _, Nat.le_refl _⟩ dX3_faces_84 ?_
      have w5 := wh_rng kS (x + (((k : Int) + 1) * (dx d))) (y + (((k : Int) + 1) * (dy d)))
      refine lv_iconst (v := iI 0) hx hb dX3_faces_87 rfl ?_
      refine lv_iconst (v := iI 5) hx hb dX3_faces_88 rfl ?_
      refine g_callS (A := fun _ => False) (As := [.int (iI (wh S (x + (((k : Int) + 1) * (dx d))) (y + (((k : Int) + 1) * (dy d))))), .int (iI 0), .int (iI 5)]) (rest := []) (m_X3_in l G g (wh S (x + (((k : Int) + 1) * (dx d))) (y + (((k : Int) + 1) * (dy d)))) 0 5 (⟨by omega, by omega⟩) ⟨by decide, by decide⟩ ⟨by decide, by decide⟩) hx hb hml hown hts Stab.tt hK hP va_S.rf hEs [] rfl q1518 q1519 q102 q1520 hd_X3_in rfl rfl ⟨Nat.le_of_ble_eq_true rfl, Nat.le_of_ble_eq_true rfl⟩ rfl hl rfl (Nat.le_of_ble_eq_true rfl) ⟨Nat.le_refl _, Nat.le_refl _⟩ dX3_faces_89 ?_
      exact g_zret hx hb hr hlk (fcs_at (by omega) (by omega) ha (Or.inl (by assumption))) dX3_faces_92
    · refine lv_aload_n hx hb dX3_faces_13 rfl (lv_at hl 1 rfl) ?_
      refine lv_iload_n hx hb dX3_faces_14 rfl (lv_at hl 2 rfl) ?_
      refine lv_iload hx hb dX3_faces_15 (lv_at hl 5 rfl) ?_
      refine lv_iconst (v := iI 1) hx hb dX3_faces_17 rfl ?_
      refine g_iadd hx hb dX3_faces_18 ?_
      refine lv_aload_n hx hb dX3_faces_19 rfl (lv_at hl 0 rfl) ?_
      refine va_get (D := G) (ci := 2) (v := .ref hac) (C := RX3) (T := TX3) (N := 20) hx hb hts in_X3 hown hK hP 0 rfl rfl 11 (by decide) (hts _ q1449) (fun _ h9 => h9) hF_fs_11 dX3_faces_20 ?_
      refine lv_iload hx hb dX3_faces_23 (lv_at hl 4 rfl) ?_
      refine g_iald hx hb hK hP 2 0 rfl rfl (i := d) (⟨by omega, by omega⟩) (by decide) dX3_faces_25 ?_
      have w6 := dx_r d (by omega) (by omega)
      refine g_imul hx hb dX3_faces_26 ?_
      refine g_iadd hx hb dX3_faces_27 ?_
      refine lv_iload_n hx hb dX3_faces_28 rfl (lv_at hl 3 rfl) ?_
      refine lv_iload hx hb dX3_faces_29 (lv_at hl 5 rfl) ?_
      refine lv_iconst (v := iI 1) hx hb dX3_faces_31 rfl ?_
      refine g_iadd hx hb dX3_faces_32 ?_
      refine lv_aload_n hx hb dX3_faces_33 rfl (lv_at hl 0 rfl) ?_
      refine va_get (D := G) (ci := 2) (v := .ref hal) (C := RX3) (T := TX3) (N := 20) hx hb hts in_X3 hown hK hP 0 rfl rfl 12 (by decide) (hts _ q1450) (fun _ h9 => h9) hF_fs_12 dX3_faces_34 ?_
      refine lv_iload hx hb dX3_faces_37 (lv_at hl 4 rfl) ?_
      refine g_iald hx hb hK hP 3 0 rfl rfl (i := d) (⟨by omega, by omega⟩) (by decide) dX3_faces_39 ?_
      have w7 := dy_r d (by omega) (by omega)
      refine g_imul hx hb dX3_faces_40 ?_
      refine g_iadd hx hb dX3_faces_41 ?_
      refine g_callS (A := fun _ => False) (As := [.ref hs, .int (iI (x + (((k : Int) + 1) * (dx d)))), .int (iI (y + (((k : Int) + 1) * (dy d))))]) (rest := []) (m_X3_what l G g hs (x + (((k : Int) + 1) * (dx d))) (y + (((k : Int) + 1) * (dy d))) S (⟨by omega, by omega⟩) (⟨by omega, by omega⟩) kS) hx hb hml hown hts Stab.tt hK hP va_S.rf hEs [1] rfl q1535 q1536 q102 q1537 hd_X3_what rfl rfl ⟨Nat.le_of_ble_eq_true rfl, Nat.le_of_ble_eq_true rfl⟩ rfl hl rfl (Nat.le_of_ble_eq_true rfl) ⟨Nat.le_refl _, Nat.le_refl _⟩ dX3_faces_42 ?_
      have w8 := wh_rng kS (x + (((k : Int) + 1) * (dx d))) (y + (((k : Int) + 1) * (dy d)))
      refine lv_iconst (v := iI (-1)) hx hb dX3_faces_45 rfl ?_
      refine g_icmp_ne (tgt := 55) hx hb dX3_faces_46 (by decide) ⟨⟨by omega, by omega⟩, ⟨by decide, by decide⟩⟩ (fun c9 => ?_) (fun c9 => ?_)
      · refine lv_aload_n hx hb dX3_faces_55 rfl (lv_at hl 1 rfl) ?_
        refine lv_iload_n hx hb dX3_faces_56 rfl (lv_at hl 2 rfl) ?_
        refine lv_iload hx hb dX3_faces_57 (lv_at hl 5 rfl) ?_
        refine lv_iconst (v := iI 1) hx hb dX3_faces_59 rfl ?_
        refine g_iadd hx hb dX3_faces_60 ?_
        refine lv_aload_n hx hb dX3_faces_61 rfl (lv_at hl 0 rfl) ?_
        refine va_get (D := G) (ci := 2) (v := .ref hac) (C := RX3) (T := TX3) (N := 20) hx hb hts in_X3 hown hK hP 0 rfl rfl 11 (by decide) (hts _ q1449) (fun _ h9 => h9) hF_fs_11 dX3_faces_62 ?_
        refine lv_iload hx hb dX3_faces_65 (lv_at hl 4 rfl) ?_
        refine g_iald hx hb hK hP 2 0 rfl rfl (i := d) (⟨by omega, by omega⟩) (by decide) dX3_faces_67 ?_
        have w10 := dx_r d (by omega) (by omega)
        refine g_imul hx hb dX3_faces_68 ?_
        refine g_iadd hx hb dX3_faces_69 ?_
        refine lv_iload_n hx hb dX3_faces_70 rfl (lv_at hl 3 rfl) ?_
        refine lv_iload hx hb dX3_faces_71 (lv_at hl 5 rfl) ?_
        refine lv_iconst (v := iI 1) hx hb dX3_faces_73 rfl ?_
        refine g_iadd hx hb dX3_faces_74 ?_
        refine lv_aload_n hx hb dX3_faces_75 rfl (lv_at hl 0 rfl) ?_
        refine va_get (D := G) (ci := 2) (v := .ref hal) (C := RX3) (T := TX3) (N := 20) hx hb hts in_X3 hown hK hP 0 rfl rfl 12 (by decide) (hts _ q1450) (fun _ h9 => h9) hF_fs_12 dX3_faces_76 ?_
        refine lv_iload hx hb dX3_faces_79 (lv_at hl 4 rfl) ?_
        refine g_iald hx hb hK hP 3 0 rfl rfl (i := d) (⟨by omega, by omega⟩) (by decide) dX3_faces_81 ?_
        have w11 := dy_r d (by omega) (by omega)
        refine g_imul hx hb dX3_faces_82 ?_
        refine g_iadd hx hb dX3_faces_83 ?_
        refine g_callS (A := fun _ => False) (As := [.ref hs, .int (iI (x + (((k : Int) + 1) * (dx d)))), .int (iI (y + (((k : Int) + 1) * (dy d))))]) (rest := []) (m_X3_what l G g hs (x + (((k : Int) + 1) * (dx d))) (y + (((k : Int) + 1) * (dy d))) S (⟨by omega, by omega⟩) (⟨by omega, by omega⟩) kS) hx hb hml hown hts Stab.tt hK hP va_S.rf hEs [1] rfl q1535 q1536 q102 q1537 hd_X3_what rfl rfl ⟨Nat.le_of_ble_eq_true rfl, Nat.le_of_ble_eq_true rfl⟩ rfl hl rfl (Nat.le_of_ble_eq_true rfl) ⟨Nat.le_refl _, Nat.le_refl _⟩ dX3_faces_84 ?_
        have w12 := wh_rng kS (x + (((k : Int) + 1) * (dx d))) (y + (((k : Int) + 1) * (dy d)))
        refine lv_iconst (v := iI 0) hx hb dX3_faces_87 rfl ?_
        refine lv_iconst (v := iI 5) hx hb dX3_faces_88 rfl ?_
        refine g_callS (A := fun _ => False) (As := [.int (iI (wh S (x + (((k : Int) + 1) * (dx d))) (y + (((k : Int) + 1) * (dy d))))), .int (iI 0), .int (iI 5)]) (rest := []) (m_X3_in l G g (wh S (x + (((k : Int) + 1) * (dx d))) (y + (((k : Int) + 1) * (dy d)))) 0 5 (⟨by omega, by omega⟩) ⟨by decide, by decide⟩ ⟨by decide, by decide⟩) hx hb hml hown hts Stab.tt hK hP va_S.rf hEs [] rfl q1518 q1519 q102 q1520 hd_X3_in rfl rfl ⟨Nat.le_of_ble_eq_true rfl, Nat.le_of_ble_eq_true rfl⟩ rfl hl rfl (Nat.le_of_ble_eq_true rfl) ⟨Nat.le_refl _, Nat.le_refl _⟩ dX3_faces_89 ?_
        exact g_zret hx hb hr hlk (fcs_at (by omega) (by omega) ha (Or.inr (by assumption))) dX3_faces_92
      · refine g_iinc (lv' := [(5, .int (iI ((k : Int) + 1))), (0, .ref hM), (1, .ref hs), (2, .int (iI x)), (3, .int (iI y)), (4, .int (iI d))]) hx hb dX3_faces_49 hl (k := 5) rfl (by decide) rfl (fun ls hl => ?_)
        refine lv_goto (tgt := 3) hx hb dX3_faces_52 (by decide) ?_
        exact ih3 _ (by omega) (k + 1) (by omega) (fun j h1 h2 => by
      by_cases hj : j = (k : Int) + 1
      · rw [hj]; assumption
      · exact ha j h1 (by omega)) rfl ls (lv_sub hl [1, 2, 3, 4, 5, 0] rfl)
  exact lp3 _ 0 (by omega) (fun j h1 h2 => by omega) rfl ls (lv_sub hl [1, 2, 3, 4, 5, 0] rfl)
theorem hd_X3_doors : yX3_doors.cls = RX3 ∧ yX3_doors.cls ≠ "java/lang/invoke/MethodHandle" ∧ yX3_doors.cls ≠ "java/lang/invoke/VarHandle" ∧ (parseMethodDescriptor yX3_doors.desc).map (fun d => d.parameters.length) = some 3 := by decide +kernel
set_option maxHeartbeats 4000000 in
set_option maxRecDepth 100000 in
theorem m_X3_doors (l : Launch) (G : va_G) (g : Nat → ClassId) (hM : Nat) (hs : Nat) (room : Int) (F : Prop) (fs : List Value) (hac : Nat) (hal : Nat) (S : Int → Int) (hF_fs_11 : fs[11]? = some (.ref hac)) (hF_fs_12 : fs[12]? = some (.ref hal)) (r_room : r32 room) (kS : rgS S) (kT : 0 ≤ S 252) : Met l yX3_doors (ws_ yX3_doors cX3_doors 10 (Option.some Jvm.ClassFile.FieldType.int)) ({ frames := 4, cells := 0, slots := 0, locals := 90 }) (va_Pc [.ref hM, .ref hs, .int (iI room), .int (iI (qz F))] (rdB G CL (TY g) (fun _ => True) [(hM, .inr (2, fs)), (hs, .inl (g 0, 253, .inl (aI S))), (hac, .inl (g 0, 4, .inl (aI dx))), (hal, .inl (g 0, 4, .inl (aI dy)))])) (QcRead ((iI (drs S room F)))) 0 0 (fun _ => False) := by
  refine Met.at (by decide) (Nat.le_of_ble_eq_true rfl) ?_
  intro p e s m below meth c hx hb hr hlk hml hown hnm hts hB ls hl
  have hown : s.vm.findClass RX3 = some m.cls := hown
  obtain ⟨hP, hK, hEs⟩ := hB
  have hl : lv_has ls 10 [(0, .ref hM), (1, .ref hs), (2, .int (iI room)), (3, .int (iI (qz F)))] := hl
  refine lv_iconst (v := iI 0) hx hb dX3_doors_0 rfl ?_
  refine lv_istore (lv' := [(4, .int (iI 0)), (0, .ref hM), (1, .ref hs), (2, .int (iI room)), (3, .int (iI (qz F)))]) hx hb dX3_doors_1 hl (by decide) rfl (fun ls hl => ?_)
  refine lv_iconst (v := iI 0) hx hb dX3_doors_3 rfl ?_
  refine lv_istore (lv' := [(5, .int (iI 0)), (4, .int (iI 0)), (0, .ref hM), (1, .ref hs), (2, .int (iI room)), (3, .int (iI (qz F)))]) hx hb dX3_doors_4 hl (by decide) rfl (fun ls hl => ?_)
  have lp6 : ∀ (n : Nat) (p_ : Nat), ((p_ : Int) ≤ 192) → 192 - p_ = n → ∀ ls : Array Slot, lv_has ls 10 [(0, .ref hM), (1, .ref hs), (2, .int (iI room)), (3, .int (iI (qz F))), (4, .int (iI (sumN (drP S room F) p_))), (5, .int (iI (p_ : Int)))] → W p l e ({ frames := 4, cells := 0, slots := 0, locals := 90 }) s m ([.ref hM, .ref hs, .int (iI room), .int (iI (qz F))] : List Value).toArray below meth c s.heap [] 0 0 (MQ below (QcRead ((iI (drs S room F)))) ([.ref hM, .ref hs, .int (iI room), .int (iI (qz F))] : List Value).toArray s 0 0 (fun _ => False)) (F0 m 6 ls []) := by
    intro n
    refine Nat.strongRecOn n ?_
    intro n ih6 p_ hk hmu6 ls hl
    have fr := drs_rng S room F p_
    refine lv_iload hx hb dX3_doors_6 (lv_at hl 5 rfl) ?_
    refine lv_sipush (v := iI 192) hx hb dX3_doors_8 rfl ?_
    refine g_icmp_ge (tgt := 125) hx hb dX3_doors_11 (by decide) ⟨⟨by omega, by omega⟩, ⟨by decide, by decide⟩⟩ (fun c1 => ?_) (fun c1 => ?_)
    · refine lv_iload hx hb dX3_doors_125 (lv_at hl 4 rfl) ?_
      exact g_iret hx hb hr hlk (by rw [show p_ = 192 from by omega]; rfl) dX3_doors_127
    · refine lv_iconst (v := iI 0) hx hb dX3_doors_14 rfl ?_
      refine lv_istore (lv' := [(6, .int (iI 0)), (0, .ref hM), (1, .ref hs), (2, .int (iI room)), (3, .int (iI (qz F))), (4, .int (iI (sumN (drP S room F) p_))), (5, .int (iI (p_ : Int)))]) hx hb dX3_doors_15 hl (by decide) rfl (fun ls hl => ?_)
      have lp17 : ∀ (n : Nat) (d_ : Nat), ((d_ : Int) ≤ 4) → 4 - d_ = n → ∀ ls : Array Slot, lv_has ls 10 [(0, .ref hM), (1, .ref hs), (2, .int (iI room)), (3, .int (iI (qz F))), (4, .int (iI (sumN (drP S room F) p_ + sumN (drT S room F (p_ : Int)) d_))), (5, .int (iI (p_ : Int))), (6, .int (iI (d_ : Int)))] → W p l e ({ frames := 4, cells := 0, slots := 0, locals := 90 }) s m ([.ref hM, .ref hs, .int (iI room), .int (iI (qz F))] : List Value).toArray below meth c s.heap [] 0 0 (MQ below (QcRead ((iI (drs S room F)))) ([.ref hM, .ref hs, .int (iI room), .int (iI (qz F))] : List Value).toArray s 0 0 (fun _ => False)) (F0 m 17 ls []) := by
        intro n
        refine Nat.strongRecOn n ?_
        intro n ih17 d_ hd_ hmu17 ls hl
        refine lv_iload hx hb dX3_doors_17 (lv_at hl 6 rfl) ?_
        refine lv_iconst (v := iI 4) hx hb dX3_doors_19 rfl ?_
        refine g_icmp_ge (tgt := 119) hx hb dX3_doors_20 (by decide) ⟨⟨by omega, by omega⟩, ⟨by decide, by decide⟩⟩ (fun c2 => ?_) (fun c2 => ?_)
        · refine g_iinc (lv' := [(5, .int (iI ((p_ : Int) + 1))), (0, .ref hM), (1, .ref hs), (2, .int (iI room)), (3, .int (iI (qz F))), (4, .int (iI (sumN (drP S room F) p_ + sumN (drT S room F (p_ : Int)) d_))), (6, .int (iI (d_ : Int)))]) hx hb dX3_doors_119 hl (k := 5) rfl (by decide) rfl (fun ls hl => ?_)
          refine lv_goto (tgt := 6) hx hb dX3_doors_122 (by decide) ?_
          exact ih6 _ (by omega) (p_ + 1) (by omega) rfl ls (by rw [show sumN (drP S room F) (p_ + 1) = sumN (drP S room F) p_ + sumN (drT S room F (p_ : Int)) d_ from by rw [show d_ = 4 from by omega]; rfl]; exact lv_sub hl [1, 2, 3, 4, 5, 0] rfl)
        · refine lv_iload hx hb dX3_doors_23 (lv_at hl 5 rfl) ?_
          refine lv_bipush (v := iI 16) hx hb dX3_doors_25 rfl ?_
          refine g_irem hx hb dX3_doors_27 ⟨⟨by omega, by omega⟩, ⟨by decide, by decide⟩⟩ ?_
          refine lv_istore (lv' := [(7, .int (iI ((p_ : Int) % 16))), (0, .ref hM), (1, .ref hs), (2, .int (iI room)), (3, .int (iI (qz F))), (4, .int (iI (sumN (drP S room F) p_ + sumN (drT S room F (p_ : Int)) d_))), (5, .int (iI (p_ : Int))), (6, .int (iI (d_ : Int)))]) hx hb dX3_doors_28 hl (by decide) rfl (fun ls hl => ?_)
          refine lv_iload hx hb dX3_doors_30 (lv_at hl 6 rfl) ?_
          refine lv_bipush (v := iI 16) hx hb dX3_doors_32 rfl ?_
          refine g_idiv hx hb dX3_doors_34 ⟨⟨by omega, by omega⟩, ⟨by decide, by decide⟩⟩ ?_
          refine lv_istore (lv' := [(8, .int (iI ((p_ : Int) / 16))), (7, .int (iI ((p_ : Int) % 16))), (0, .ref hM), (1, .ref hs), (2, .int (iI room)), (3, .int (iI (qz F))), (4, .int (iI (sumN (drP S room F) p_ + sumN (drT S room F (p_ : Int)) d_))), (5, .int (iI (p_ : Int))), (6, .int (iI (d_ : Int)))]) hx hb dX3_doors_35 hl (by decide) rfl (fun ls hl => ?_)
          refine lv_aload_n hx hb dX3_doors_37 rfl (lv_at hl 3 rfl) ?_
          refine lv_iload hx hb dX3_doors_38 (lv_at hl 7 rfl) ?_
          refine g_iald hx hb hK hP 1 0 rfl rfl (i := (p_ : Int)) (⟨by omega, by omega⟩) (by decide) dX3_doors_40 ?_
          have w3 := kS (p_ : Int) (by omega) (by omega)
          refine lv_iconst (v := iI (-1)) hx hb dX3_doors_41 rfl ?_
          have hJ4 : ∀ ls : Array Slot, lv_has ls 10 [(0, .ref hM), (1, .ref hs), (2, .int (iI room)), (3, .int (iI (qz F))), (4, .int (iI (sumN (drP S room F) p_ + sumN (drT S room F (p_ : Int)) d_))), (5, .int (iI (p_ : Int))), (6, .int (iI (d_ : Int))), (7, .int (iI ((p_ : Int) % 16))), (8, .int (iI ((p_ : Int) / 16)))] → W p l e ({ frames := 4, cells := 0, slots := 0, locals := 90 }) s m ([.ref hM, .ref hs, .int (iI room), .int (iI (qz F))] : List Value).toArray below meth c s.heap [] 0 0 (MQ below (QcRead ((iI (drs S room F)))) ([.ref hM, .ref hs, .int (iI room), .int (iI (qz F))] : List Value).toArray s 0 0 (fun _ => False)) (F0 m 78 ls [.int (iI (qz (((S (p_ : Int)) = (-1)) ∧ ((wh S (((p_ : Int) % 16) - (dx (d_ : Int))) (((p_ : Int) / 16) - (dy (d_ : Int)))) = room))))]) := by
            intro ls hl
            refine lv_istore (lv' := [(9, .int (iI (qz (((S (p_ : Int)) = (-1)) ∧ ((wh S (((p_ : Int) % 16) - (dx (d_ : Int))) (((p_ : Int) / 16) - (dy (d_ : Int)))) = room))))), (0, .ref hM), (1, .ref hs), (2, .int (iI room)), (3, .int (iI (qz F))), (4, .int (iI (sumN (drP S room F) p_ + sumN (drT S room F (p_ : Int)) d_))), (5, .int (iI (p_ : Int))), (6, .int (iI (d_ : Int))), (7, .int (iI ((p_ : Int) % 16))), (8, .int (iI ((p_ : Int) / 16)))]) hx hb dX3_doors_78 hl (by decide) rfl (fun ls hl => ?_)
            refine lv_iload hx hb dX3_doors_80 (lv_at hl 5 rfl) ?_
            refine lv_iload hx hb dX3_doors_82 (lv_at hl 0 rfl) ?_
            have hJ5 : ∀ ls : Array Slot, lv_has ls 10 [(0, .ref hM), (1, .ref hs), (2, .int (iI room)), (3, .int (iI (qz F))), (4, .int (iI (sumN (drP S room F) p_ + sumN (drT S room F (p_ : Int)) d_))), (5, .int (iI (p_ : Int))), (6, .int (iI (d_ : Int))), (7, .int (iI ((p_ : Int) % 16))), (8, .int (iI ((p_ : Int) / 16))), (9, .int (iI (qz (((S (p_ : Int)) = (-1)) ∧ ((wh S (((p_ : Int) % 16) - (dx (d_ : Int))) (((p_ : Int) / 16) - (dy (d_ : Int)))) = room)))))] → W p l e ({ frames := 4, cells := 0, slots := 0, locals := 90 }) s m ([.ref hM, .ref hs, .int (iI room), .int (iI (qz F))] : List Value).toArray below meth c s.heap [] 0 0 (MQ below (QcRead ((iI (drs S room F)))) ([.ref hM, .ref hs, .int (iI room), .int (iI (qz F))] : List Value).toArray s 0 0 (fun _ => False)) (F0 m 110 ls [.int (iI (qz ((((S (p_ : Int)) = (-1)) ∧ ((wh S (((p_ : Int) % 16) - (dx (d_ : Int))) (((p_ : Int) / 16) - (dy (d_ : Int)))) = room)) ∧ (¬ F ∨ (fcs S ((p_ : Int) % 16) ((p_ : Int) / 16) (d_ : Int)))))), .int (iI (sumN (drP S room F) p_ + sumN (drT S room F (p_ : Int)) d_))]) := by
              intro ls hl
              refine g_iadd hx hb dX3_doors_110 ?_
              refine lv_istore (lv' := [(4, .int (iI ((sumN (drP S room F) p_ + sumN (drT S room F (p_ : Int)) d_) + (qz ((((S (p_ : Int)) = (-1)) ∧ ((wh S (((p_ : Int) % 16) - (dx (d_ : Int))) (((p_ : Int) / 16) - (dy (d_ : Int)))) = room)) ∧ (¬ F ∨ (fcs S ((p_ : Int) % 16) ((p_ : Int) / 16) (d_ : Int)))))))), (0, .ref hM), (1, .ref hs), (2, .int (iI room)), (3, .int (iI (qz F))), (5, .int (iI (p_ : Int))), (6, .int (iI (d_ : Int))), (7, .int (iI ((p_ : Int) % 16))), (8, .int (iI ((p_ : Int) / 16))), (9, .int (iI (qz (((S (p_ : Int)) = (-1)) ∧ ((wh S (((p_ : Int) % 16) - (dx (d_ : Int))) (((p_ : Int) / 16) - (dy (d_ : Int)))) = room)))))]) hx hb dX3_doors_111 hl (by decide) rfl (fun ls hl => ?_)
              refine g_iinc (lv' := [(6, .int (iI ((d_ : Int) + 1))), (4, .int (iI ((sumN (drP S room F) p_ + sumN (drT S room F (p_ : Int)) d_) + (qz ((((S (p_ : Int)) = (-1)) ∧ ((wh S (((p_ : Int) % 16) - (dx (d_ : Int))) (((p_ : Int) / 16) - (dy (d_ : Int)))) = room)) ∧ (¬ F ∨ (fcs S ((p_ : Int) % 16) ((p_ : Int) / 16) (d_ : Int)))))))), (0, .ref hM), (1, .ref hs), (2, .int (iI room)), (3, .int (iI (qz F))), (5, .int (iI (p_ : Int))), (7, .int (iI ((p_ : Int) % 16))), (8, .int (iI ((p_ : Int) / 16))), (9, .int (iI (qz (((S (p_ : Int)) = (-1)) ∧ ((wh S (((p_ : Int) % 16) - (dx (d_ : Int))) (((p_ : Int) / 16) - (dy (d_ : Int)))) = room)))))]) hx hb dX3_doors_113 hl (k := 6) rfl (by decide) rfl (fun ls hl => ?_)
              refine lv_goto (tgt := 17) hx hb dX3_doors_116 (by decide) ?_
              exact ih17 _ (by omega) (d_ + 1) (by omega) rfl ls (by rw [show sumN (drP S room F) p_ + sumN (drT S room F (p_ : Int)) (d_ + 1) = (sumN (drP S room F) p_ + sumN (drT S room F (p_ : Int)) d_) + drT S room F (p_ : Int) (d_ : Int) from (Int.add_assoc _ _ _).symm]; exact lv_sub hl [2, 3, 4, 5, 1, 6, 0] rfl)
            refine g_ifq_eq (tgt := 109) hx hb dX3_doors_84 (by decide) (fun c6 => ?_) (fun c6 => ?_)
            · refine lv_iconst (v := iI 0) hx hb dX3_doors_109 rfl ?_
              refine g_eq (b := qz ((((S (p_ : Int)) = (-1)) ∧ ((wh S (((p_ : Int) % 16) - (dx (d_ : Int))) (((p_ : Int) / 16) - (dy (d_ : Int)))) = room)) ∧ (¬ F ∨ (fcs S ((p_ : Int) % 16) ((p_ : Int) / 16) (d_ : Int))))) (qz_f (fun xx => (c6 xx.1))).symm ?_
              exact hJ5 ls (lv_sub hl [1, 2, 3, 4, 5, 6, 7, 8, 9, 0] rfl)
            · refine lv_iload_n hx hb dX3_doors_87 rfl (lv_at hl 4 rfl) ?_
              refine g_ifq_eq (tgt := 105) hx hb dX3_doors_88 (by decide) (fun c7 => ?_) (fun c7 => ?_)
              · refine lv_iconst (v := iI 1) hx hb dX3_doors_105 rfl ?_
                refine lv_goto (tgt := 110) hx hb dX3_doors_106 (by decide) ?_
                refine g_eq (b := qz ((((S (p_ : Int)) = (-1)) ∧ ((wh S (((p_ : Int) % 16) - (dx (d_ : Int))) (((p_ : Int) / 16) - (dy (d_ : Int)))) = room)) ∧ (¬ F ∨ (fcs S ((p_ : Int) % 16) ((p_ : Int) / 16) (d_ : Int))))) (qz_t ⟨c6, (Or.inl c7)⟩).symm ?_
                exact hJ5 ls (lv_sub hl [1, 2, 3, 4, 5, 6, 7, 8, 9, 0] rfl)
              · refine lv_aload_n hx hb dX3_doors_91 rfl (lv_at hl 1 rfl) ?_
                refine lv_aload_n hx hb dX3_doors_92 rfl (lv_at hl 2 rfl) ?_
                refine lv_iload hx hb dX3_doors_93 (lv_at hl 8 rfl) ?_
                refine lv_iload hx hb dX3_doors_95 (lv_at hl 9 rfl) ?_
                refine lv_iload hx hb dX3_doors_97 (lv_at hl 7 rfl) ?_
                refine g_callV (A := fun _ => False) (As := [.ref hs, .int (iI ((p_ : Int) % 16)), .int (iI ((p_ : Int) / 16)), .int (iI (d_ : Int))]) (rest := [.int (iI (sumN (drP S room F) p_ + sumN (drT S room F (p_ : Int)) d_))]) (m_X3_faces l G g hM hs ((p_ : Int) % 16) ((p_ : Int) / 16) (d_ : Int) fs hac hal S hF_fs_11 hF_fs_12 (⟨by omega, by omega⟩) (⟨by omega, by omega⟩) (⟨by omega, by omega⟩) kS kT (by omega) (by omega) (by omega)) hx hb hml hown hts Stab.tt hK hP va_S.rf hEs [0, 1, 2, 3] rfl (q0 := 0) rfl rfl q1705 q1707 qs81 q102 q1708 hd_X3_faces rfl rfl ⟨Nat.le_of_ble_eq_true rfl, Nat.le_of_ble_eq_true rfl⟩ rfl hl rfl (Nat.le_of_ble_eq_true rfl) ⟨Nat.le_refl _, Nat.le_refl _⟩ dX3_doors_99 ?_
                refine g_ifq_eq (tgt := 109) hx hb dX3_doors_102 (by decide) (fun c8 => ?_) (fun c8 => ?_)
                · refine lv_iconst (v := iI 0) hx hb dX3_doors_109 rfl ?_
                  refine g_eq (b := qz ((((S (p_ : Int)) = (-1)) ∧ ((wh S (((p_ : Int) % 16) - (dx (d_ : Int))) (((p_ : Int) / 16) - (dy (d_ : Int)))) = room)) ∧ (¬ F ∨ (fcs S ((p_ : Int) % 16) ((p_ : Int) / 16) (d_ : Int))))) (qz_f (fun xx => (c8 (xx.2.resolve_left (fun nn => nn c7))))).symm ?_
                  exact hJ5 ls (lv_sub hl [1, 2, 3, 4, 5, 6, 7, 8, 9, 0] rfl)
                · refine lv_iconst (v := iI 1) hx hb dX3_doors_105 rfl ?_
                  refine lv_goto (tgt := 110) hx hb dX3_doors_106 (by decide) ?_
                  refine g_eq (b := qz ((((S (p_ : Int)) = (-1)) ∧ ((wh S (((p_ : Int) % 16) - (dx (d_ : Int))) (((p_ : Int) / 16) - (dy (d_ : Int)))) = room)) ∧ (¬ F ∨ (fcs S ((p_ : Int) % 16) ((p_ : Int) / 16) (d_ : Int))))) (qz_t ⟨c6, (Or.inr c8)⟩).symm ?_
                  exact hJ5 ls (lv_sub hl [1, 2, 3, 4, 5, 6, 7, 8, 9, 0] rfl)
          refine g_icmp_ne (tgt := 77) hx hb dX3_doors_42 (by decide) ⟨⟨by omega, by omega⟩, ⟨by decide, by decide⟩⟩ (fun c9 => ?_) (fun c9 => ?_)
          · refine lv_iconst (v := iI 0) hx hb dX3_doors_77 rfl ?_
            refine g_eq (b := qz (((S (p_ : Int)) = (-1)) ∧ ((wh S (((p_ : Int) % 16) - (dx (d_ : Int))) (((p_ : Int) / 16) - (dy (d_ : Int)))) = room))) (qz_f (fun xx => (c9 xx.1))).symm ?_
            exact hJ4 ls (lv_sub hl [2, 3, 4, 5, 6, 7, 8, 1, 0] rfl)
          · refine lv_aload_n hx hb dX3_doors_45 rfl (lv_at hl 3 rfl) ?_
            refine lv_iload hx hb dX3_doors_46 (lv_at hl 1 rfl) ?_
            refine lv_aload_n hx hb dX3_doors_48 rfl (lv_at hl 2 rfl) ?_
            refine va_get (D := G) (ci := 2) (v := .ref hac) (C := RX3) (T := TX3) (N := 20) hx hb hts in_X3 hown hK hP 0 rfl rfl 11 (by decide) (hts _ q1449) (fun _ h9 => h9) hF_fs_11 dX3_doors_49 ?_
            refine lv_iload hx hb dX3_doors_52 (lv_at hl 8 rfl) ?_
            refine g_iald hx hb hK hP 2 0 rfl rfl (i := (d_ : Int)) (⟨by omega, by omega⟩) (by decide) dX3_doors_54 ?_
            have w10 := dx_r (d_ : Int) (by omega) (by omega)
            refine g_isub hx hb dX3_doors_55 ?_
            refine lv_iload hx hb dX3_doors_56 (lv_at hl 0 rfl) ?_
            refine lv_aload_n hx hb dX3_doors_58 rfl (lv_at hl 2 rfl) ?_
            refine va_get (D := G) (ci := 2) (v := .ref hal) (C := RX3) (T := TX3) (N := 20) hx hb hts in_X3 hown hK hP 0 rfl rfl 12 (by decide) (hts _ q1450) (fun _ h9 => h9) hF_fs_12 dX3_doors_59 ?_
            refine lv_iload hx hb dX3_doors_62 (lv_at hl 8 rfl) ?_
            refine g_iald hx hb hK hP 3 0 rfl rfl (i := (d_ : Int)) (⟨by omega, by omega⟩) (by decide) dX3_doors_64 ?_
            have w11 := dy_r (d_ : Int) (by omega) (by omega)
            refine g_isub hx hb dX3_doors_65 ?_
            refine g_callS (A := fun _ => False) (As := [.ref hs, .int (iI (((p_ : Int) % 16) - (dx (d_ : Int)))), .int (iI (((p_ : Int) / 16) - (dy (d_ : Int))))]) (rest := []) (m_X3_what l G g hs (((p_ : Int) % 16) - (dx (d_ : Int))) (((p_ : Int) / 16) - (dy (d_ : Int))) S (⟨by omega, by omega⟩) (⟨by omega, by omega⟩) kS) hx hb hml hown hts Stab.tt hK hP va_S.rf hEs [1] rfl q1535 q1536 q102 q1537 hd_X3_what rfl rfl ⟨Nat.le_of_ble_eq_true rfl, Nat.le_of_ble_eq_true rfl⟩ rfl hl rfl (Nat.le_of_ble_eq_true rfl) ⟨Nat.le_refl _, Nat.le_refl _⟩ dX3_doors_66 ?_
            have w12 := wh_rng kS (((p_ : Int) % 16) - (dx (d_ : Int))) (((p_ : Int) / 16) - (dy (d_ : Int)))
            refine lv_iload_n hx hb dX3_doors_69 rfl (lv_at hl 4 rfl) ?_
            refine g_icmp_ne (tgt := 77) hx hb dX3_doors_70 (by decide) ⟨⟨by omega, by omega⟩, r_room⟩ (fun c13 => ?_) (fun c13 => ?_)
            · refine lv_iconst (v := iI 0) hx hb dX3_doors_77 rfl ?_
              refine g_eq (b := qz (((S (p_ : Int)) = (-1)) ∧ ((wh S (((p_ : Int) % 16) - (dx (d_ : Int))) (((p_ : Int) / 16) - (dy (d_ : Int)))) = room))) (qz_f (fun xx => (c13 xx.2))).symm ?_
              exact hJ4 ls (lv_sub hl [2, 3, 4, 5, 6, 7, 8, 1, 0] rfl)
            · refine lv_iconst (v := iI 1) hx hb dX3_doors_73 rfl ?_
              refine lv_goto (tgt := 78) hx hb dX3_doors_74 (by decide) ?_
              refine g_eq (b := qz (((S (p_ : Int)) = (-1)) ∧ ((wh S (((p_ : Int) % 16) - (dx (d_ : Int))) (((p_ : Int) / 16) - (dy (d_ : Int)))) = room))) (qz_t ⟨c9, c13⟩).symm ?_
              exact hJ4 ls (lv_sub hl [2, 3, 4, 5, 6, 7, 8, 1, 0] rfl)
      exact lp17 _ 0 (by omega) rfl ls (by rw [show sumN (drP S room F) p_ + sumN (drT S room F (p_ : Int)) 0 = sumN (drP S room F) p_ from Int.add_zero _]; exact lv_sub hl [1, 2, 3, 4, 5, 6, 0] rfl)
  exact lp6 _ 0 (by omega) rfl ls (lv_sub hl [2, 3, 4, 5, 1, 0] rfl)
theorem hd_X3_allDoors : yX3_allDoors.cls = RX3 ∧ yX3_allDoors.cls ≠ "java/lang/invoke/MethodHandle" ∧ yX3_allDoors.cls ≠ "java/lang/invoke/VarHandle" ∧ (parseMethodDescriptor yX3_allDoors.desc).map (fun d => d.parameters.length) = some 2 := by decide +kernel
set_option maxHeartbeats 4000000 in
set_option maxRecDepth 100000 in
theorem m_X3_allDoors (l : Launch) (G : va_G) (g : Nat → ClassId) (hM : Nat) (hs : Nat) (F : Prop) (fs : List Value) (hac : Nat) (hal : Nat) (S : Int → Int) (hF_fs_11 : fs[11]? = some (.ref hac)) (hF_fs_12 : fs[12]? = some (.ref hal)) (kS : rgS S) (kT : 0 ≤ S 252) : Met l yX3_allDoors (ws_ yX3_allDoors cX3_allDoors 5 (Option.some Jvm.ClassFile.FieldType.int)) ({ frames := 5, cells := 0, slots := 0, locals := 119 }) (va_Pc [.ref hM, .ref hs, .int (iI (qz F))] (rdB G CL (TY g) (fun _ => True) [(hM, .inr (2, fs)), (hs, .inl (g 0, 253, .inl (aI S))), (hac, .inl (g 0, 4, .inl (aI dx))), (hal, .inl (g 0, 4, .inl (aI dy)))])) (QcRead ((iI (ads S F)))) 0 0 (fun _ => False) := by
  refine Met.at (by decide) (Nat.le_of_ble_eq_true rfl) ?_
  intro p e s m below meth c hx hb hr hlk hml hown hnm hts hB ls hl
  have hown : s.vm.findClass RX3 = some m.cls := hown
  obtain ⟨hP, hK, hEs⟩ := hB
  have hl : lv_has ls 5 [(0, .ref hM), (1, .ref hs), (2, .int (iI (qz F)))] := hl
  refine lv_iconst (v := iI 0) hx hb dX3_allDoors_0 rfl ?_
  refine lv_istore_n (lv' := [(3, .int (iI 0)), (0, .ref hM), (1, .ref hs), (2, .int (iI (qz F)))]) hx hb dX3_allDoors_1 rfl hl (by decide) rfl (fun ls hl => ?_)
  refine lv_iconst (v := iI 0) hx hb dX3_allDoors_2 rfl ?_
  refine lv_istore (lv' := [(4, .int (iI 0)), (3, .int (iI 0)), (0, .ref hM), (1, .ref hs), (2, .int (iI (qz F)))]) hx hb dX3_allDoors_3 hl (by decide) rfl (fun ls hl => ?_)
  have lp5 : ∀ (n : Nat) (k : Nat), ((k : Int) ≤ 6) → 6 - k = n → ∀ ls : Array Slot, lv_has ls 5 [(0, .ref hM), (1, .ref hs), (2, .int (iI (qz F))), (3, .int (iI (sumN (adT S F) k))), (4, .int (iI (k : Int)))] → W p l e ({ frames := 5, cells := 0, slots := 0, locals := 119 }) s m ([.ref hM, .ref hs, .int (iI (qz F))] : List Value).toArray below meth c s.heap [] 0 0 (MQ below (QcRead ((iI (ads S F)))) ([.ref hM, .ref hs, .int (iI (qz F))] : List Value).toArray s 0 0 (fun _ => False)) (F0 m 5 ls []) := by
    intro n
    refine Nat.strongRecOn n ?_
    intro n ih5 k hk hmu5 ls hl
    have fr := adN_rng S F k
    refine lv_iload hx hb dX3_allDoors_5 (lv_at hl 4 rfl) ?_
    refine lv_bipush (v := iI 6) hx hb dX3_allDoors_7 rfl ?_
    refine g_icmp_ge (tgt := 42) hx hb dX3_allDoors_9 (by decide) ⟨⟨by omega, by omega⟩, ⟨by decide, by decide⟩⟩ (fun c1 => ?_) (fun c1 => ?_)
    · refine lv_iload_n hx hb dX3_allDoors_42 rfl (lv_at hl 2 rfl) ?_
      have hJ2 : ∀ ls : Array Slot, lv_has ls 5 [(0, .ref hM), (1, .ref hs), (2, .int (iI (qz F))), (3, .int (iI (sumN (adT S F) k))), (4, .int (iI (k : Int)))] → W p l e ({ frames := 5, cells := 0, slots := 0, locals := 119 }) s m ([.ref hM, .ref hs, .int (iI (qz F))] : List Value).toArray below meth c s.heap [] 0 0 (MQ below (QcRead ((iI (ads S F)))) ([.ref hM, .ref hs, .int (iI (qz F))] : List Value).toArray s 0 0 (fun _ => False)) (F0 m 53 ls [.int (iI (zi F ((sumN (adT S F) k) / 2) (sumN (adT S F) k)))]) := by
        intro ls hl
        exact g_iret hx hb hr hlk (by rw [show k = 6 from by omega]; rfl) dX3_allDoors_53
      refine g_ifq_eq (tgt := 52) hx hb dX3_allDoors_43 (by decide) (fun c3 => ?_) (fun c3 => ?_)
      · refine lv_iload_n hx hb dX3_allDoors_52 rfl (lv_at hl 3 rfl) ?_
        refine g_eq (b := zi F ((sumN (adT S F) k) / 2) (sumN (adT S F) k)) ((zi_f c3)).symm ?_
        exact hJ2 ls (lv_sub hl [0, 1, 2, 3, 4] rfl)
      · refine lv_iload_n hx hb dX3_allDoors_46 rfl (lv_at hl 3 rfl) ?_
        refine lv_iconst (v := iI 2) hx hb dX3_allDoors_47 rfl ?_
        refine g_idiv hx hb dX3_allDoors_48 ⟨⟨by omega, by omega⟩, ⟨by decide, by decide⟩⟩ ?_
        refine lv_goto (tgt := 53) hx hb dX3_allDoors_49 (by decide) ?_
        refine g_eq (b := zi F ((sumN (adT S F) k) / 2) (sumN (adT S F) k)) ((zi_t c3)).symm ?_
        exact hJ2 ls (lv_sub hl [0, 1, 2, 3, 4] rfl)
    · refine lv_iload_n hx hb dX3_allDoors_12 rfl (lv_at hl 3 rfl) ?_
      refine lv_aload_n hx hb dX3_allDoors_13 rfl (lv_at hl 1 rfl) ?_
      refine lv_iload hx hb dX3_allDoors_14 (lv_at hl 4 rfl) ?_
      refine g_callS (A := fun _ => False) (As := [.ref hs, .int (iI (k : Int))]) (rest := [.int (iI (sumN (adT S F) k))]) (m_X3_isThere l G g hs (k : Int) S (⟨by omega, by omega⟩) kS) hx hb hml hown hts Stab.tt hK hP va_S.rf hEs [1] rfl q1525 q1526 q102 q1527 hd_X3_isThere rfl rfl ⟨Nat.le_of_ble_eq_true rfl, Nat.le_of_ble_eq_true rfl⟩ rfl hl rfl (Nat.le_of_ble_eq_true rfl) ⟨Nat.le_refl _, Nat.le_refl _⟩ dX3_allDoors_16 ?_
      have hJ4 : ∀ ls : Array Slot, lv_has ls 5 [(0, .ref hM), (1, .ref hs), (2, .int (iI (qz F))), (3, .int (iI (sumN (adT S F) k))), (4, .int (iI (k : Int)))] → W p l e ({ frames := 5, cells := 0, slots := 0, locals := 119 }) s m ([.ref hM, .ref hs, .int (iI (qz F))] : List Value).toArray below meth c s.heap [] 0 0 (MQ below (QcRead ((iI (ads S F)))) ([.ref hM, .ref hs, .int (iI (qz F))] : List Value).toArray s 0 0 (fun _ => False)) (F0 m 34 ls [.int (iI (zi (isTh S (k : Int)) (drs S (k : Int) F) 0)), .int (iI (sumN (adT S F) k))]) := by
        intro ls hl
        have o6 := zi_or (isTh S (k : Int)) (drs S (k : Int) F) 0
        obtain ⟨v5, e_v5⟩ : ∃ z : Int, z = zi (isTh S (k : Int)) (drs S (k : Int) F) 0 := ⟨_, rfl⟩
        refine g_eq e_v5.symm ?_
        refine g_iadd hx hb dX3_allDoors_34 ?_
        refine lv_istore_n (lv' := [(3, .int (iI ((sumN (adT S F) k) + v5))), (0, .ref hM), (1, .ref hs), (2, .int (iI (qz F))), (4, .int (iI (k : Int)))]) hx hb dX3_allDoors_35 rfl hl (by decide) rfl (fun ls hl => ?_)
        refine g_iinc (lv' := [(4, .int (iI ((k : Int) + 1))), (3, .int (iI ((sumN (adT S F) k) + v5))), (0, .ref hM), (1, .ref hs), (2, .int (iI (qz F)))]) hx hb dX3_allDoors_36 hl (k := 4) rfl (by decide) rfl (fun ls hl => ?_)
        refine lv_goto (tgt := 5) hx hb dX3_allDoors_39 (by decide) ?_
        exact ih5 _ (by omega) (k + 1) (by omega) rfl ls (by rw [show sumN (adT S F) (k + 1) = (sumN (adT S F) k) + v5 from by rw [e_v5]; rfl]; exact lv_sub hl [2, 3, 4, 1, 0] rfl)
      refine g_ifq_eq (tgt := 33) hx hb dX3_allDoors_19 (by decide) (fun c7 => ?_) (fun c7 => ?_)
      · refine lv_iconst (v := iI 0) hx hb dX3_allDoors_33 rfl ?_
        refine g_eq (b := zi (isTh S (k : Int)) (drs S (k : Int) F) 0) ((zi_f c7)).symm ?_
        exact hJ4 ls (lv_sub hl [0, 1, 2, 3, 4] rfl)
      · refine lv_aload_n hx hb dX3_allDoors_22 rfl (lv_at hl 0 rfl) ?_
        refine lv_aload_n hx hb dX3_allDoors_23 rfl (lv_at hl 1 rfl) ?_
        refine lv_iload hx hb dX3_allDoors_24 (lv_at hl 4 rfl) ?_
        refine lv_iload_n hx hb dX3_allDoors_26 rfl (lv_at hl 2 rfl) ?_
        refine g_callV (A := fun _ => False) (As := [.ref hs, .int (iI (k : Int)), .int (iI (qz F))]) (rest := [.int (iI (sumN (adT S F) k))]) (m_X3_doors l G g hM hs (k : Int) F fs hac hal S hF_fs_11 hF_fs_12 (⟨by omega, by omega⟩) kS kT) hx hb hml hown hts Stab.tt hK hP va_S.rf hEs [0, 1, 2, 3] rfl (q0 := 0) rfl rfl q1701 q1703 qs80 q102 q1704 hd_X3_doors rfl rfl ⟨Nat.le_of_ble_eq_true rfl, Nat.le_of_ble_eq_true rfl⟩ rfl hl rfl (Nat.le_of_ble_eq_true rfl) ⟨Nat.le_refl _, Nat.le_refl _⟩ dX3_allDoors_27 ?_
        have w8 := drs_rng S (k : Int) F 192
        refine lv_goto (tgt := 34) hx hb dX3_allDoors_30 (by decide) ?_
        refine g_eq (b := zi (isTh S (k : Int)) (drs S (k : Int) F) 0) ((zi_t c7)).symm ?_
        exact hJ4 ls (lv_sub hl [0, 1, 2, 3, 4] rfl)
  exact lp5 _ 0 (by omega) rfl ls (lv_sub hl [2, 3, 4, 1, 0] rfl)
theorem hd_X3_canBe : yX3_canBe.cls = RX3 ∧ yX3_canBe.cls ≠ "java/lang/invoke/MethodHandle" ∧ yX3_canBe.cls ≠ "java/lang/invoke/VarHandle" ∧ (parseMethodDescriptor yX3_canBe.desc).map (fun d => d.parameters.length) = some 4 := by decide +kernel
set_option maxHeartbeats 4000000 in
set_option maxRecDepth 100000 in
theorem m_X3_canBe (l : Launch) (G : va_G) (g : Nat → ClassId) (hM : Nat) (x : Int) (y : Int) (c_ : Int) (r_ : Int) (fs : List Value) (hnow : Nat) (S : Int → Int) (hF_fs_0 : fs[0]? = some (.ref hnow)) (r_x : r32 x) (r_y : r32 y) (r_c_ : r32 c_) (r_r_ : r32 r_) (kS : rgS S) (hc : 1 ≤ c_ ∧ c_ ≤ 6) (hr_ : 1 ≤ r_ ∧ r_ ≤ 6) (hx1 : 0 ≤ x ∧ x ≤ 16 - c_) (hy1 : 0 ≤ y ∧ y ≤ 12 - r_) : Met l yX3_canBe (ws_ yX3_canBe cX3_canBe 8 (Option.some Jvm.ClassFile.FieldType.boolean)) ({ frames := 3, cells := 0, slots := 0, locals := 65 }) (va_Pc [.ref hM, .int (iI x), .int (iI y), .int (iI c_), .int (iI r_)] (rdB G CL (TY g) (fun _ => True) [(hM, .inr (2, fs)), (hnow, .inl (g 0, 253, .inl (aI S)))])) (QcRead ((iI (qz (cbe S x y c_ r_))))) 0 0 (fun _ => False) := by
  refine Met.at (by decide) (Nat.le_of_ble_eq_true rfl) ?_
  intro p e s m below meth c hx hb hr hlk hml hown hnm hts hB ls hl
  have hown : s.vm.findClass RX3 = some m.cls := hown
  obtain ⟨hP, hK, hEs⟩ := hB
  have hl : lv_has ls 8 [(0, .ref hM), (1, .int (iI x)), (2, .int (iI y)), (3, .int (iI c_)), (4, .int (iI r_))] := hl
  have bb := cr_rng hc hr_
  refine lv_iconst (v := iI 0) hx hb dX3_canBe_0 rfl ?_
  refine lv_istore (lv' := [(5, .int (iI 0)), (0, .ref hM), (1, .int (iI x)), (2, .int (iI y)), (3, .int (iI c_)), (4, .int (iI r_))]) hx hb dX3_canBe_1 hl (by decide) rfl (fun ls hl => ?_)
  have lp3 : ∀ (n : Nat) (k : Nat), ((k : Int) ≤ c_ * r_) → (∀ j : Int, 0 ≤ j → j < (k : Int) → cbT S (x + j % c_) (y + j / c_)) → (c_ * r_).toNat - k = n → ∀ ls : Array Slot, lv_has ls 8 [(0, .ref hM), (1, .int (iI x)), (2, .int (iI y)), (3, .int (iI c_)), (4, .int (iI r_)), (5, .int (iI (k : Int)))] → W p l e ({ frames := 3, cells := 0, slots := 0, locals := 65 }) s m ([.ref hM, .int (iI x), .int (iI y), .int (iI c_), .int (iI r_)] : List Value).toArray below meth c s.heap [] 0 0 (MQ below (QcRead ((iI (qz (cbe S x y c_ r_))))) ([.ref hM, .int (iI x), .int (iI y), .int (iI c_), .int (iI r_)] : List Value).toArray s 0 0 (fun _ => False)) (F0 m 3 ls []) := by
    intro n
    refine Nat.strongRecOn n ?_
    intro n ih3 k hk ha hmu3 ls hl
    refine lv_iload hx hb dX3_canBe_3 (lv_at hl 5 rfl) ?_
    refine lv_iload_n hx hb dX3_canBe_5 rfl (lv_at hl 3 rfl) ?_
    refine lv_iload hx hb dX3_canBe_6 (lv_at hl 4 rfl) ?_
    refine g_imul hx hb dX3_canBe_8 ?_
    refine g_icmp_ge (tgt := 138) hx hb dX3_canBe_9 (by decide) ⟨⟨by omega, by omega⟩, ⟨by omega, by omega⟩⟩ (fun c1 => ?_) (fun c1 => ?_)
    · refine lv_iconst (v := iI 1) hx hb dX3_canBe_138 rfl ?_
      exact g_zret1 hx hb hr hlk (fun j h1 h2 => ha j h1 (by omega)) dX3_canBe_139
    · have dk := dm2 (k := (k : Int)) (c := c_) (r := r_) (by omega) hc.1 (by assumption)
      refine lv_iload_n hx hb dX3_canBe_12 rfl (lv_at hl 1 rfl) ?_
      refine lv_iload hx hb dX3_canBe_13 (lv_at hl 5 rfl) ?_
      refine lv_iload_n hx hb dX3_canBe_15 rfl (lv_at hl 3 rfl) ?_
      refine g_irem hx hb dX3_canBe_16 ⟨⟨by omega, by omega⟩, ⟨by omega, by omega⟩⟩ ?_
      refine g_iadd hx hb dX3_canBe_17 ?_
      refine lv_istore (lv' := [(6, .int (iI (x + ((k : Int) % c_)))), (0, .ref hM), (1, .int (iI x)), (2, .int (iI y)), (3, .int (iI c_)), (4, .int (iI r_)), (5, .int (iI (k : Int)))]) hx hb dX3_canBe_18 hl (by decide) rfl (fun ls hl => ?_)
      refine lv_iload_n hx hb dX3_canBe_20 rfl (lv_at hl 3 rfl) ?_
      refine lv_iload hx hb dX3_canBe_21 (lv_at hl 6 rfl) ?_
      refine lv_iload_n hx hb dX3_canBe_23 rfl (lv_at hl 4 rfl) ?_
      refine g_idiv hx hb dX3_canBe_24 ⟨⟨by omega, by omega⟩, ⟨by omega, by omega⟩⟩ ?_
      refine g_iadd hx hb dX3_canBe_25 ?_
      refine lv_istore (lv' := [(7, .int (iI (y + ((k : Int) / c_)))), (6, .int (iI (x + ((k : Int) % c_)))), (0, .ref hM), (1, .int (iI x)), (2, .int (iI y)), (3, .int (iI c_)), (4, .int (iI r_)), (5, .int (iI (k : Int)))]) hx hb dX3_canBe_26 hl (by decide) rfl (fun ls hl => ?_)
      refine lv_aload_n hx hb dX3_canBe_28 rfl (lv_at hl 2 rfl) ?_
      refine va_get (D := G) (ci := 2) (v := .ref hnow) (C := RX3) (T := TX3) (N := 20) hx hb hts in_X3 hown hK hP 0 rfl rfl 0 (by decide) (hts _ q1438) (fun _ h9 => h9) hF_fs_0 dX3_canBe_29 ?_
      refine lv_iload hx hb dX3_canBe_32 (lv_at hl 1 rfl) ?_
      refine lv_iload hx hb dX3_canBe_34 (lv_at hl 0 rfl) ?_
      refine g_callS (A := fun _ => False) (As := [.ref hnow, .int (iI (x + ((k : Int) % c_))), .int (iI (y + ((k : Int) / c_)))]) (rest := []) (m_X3_what l G g hnow (x + ((k : Int) % c_)) (y + ((k : Int) / c_)) S (⟨by omega, by omega⟩) (⟨by omega, by omega⟩) kS) hx hb hml hown hts Stab.tt hK hP va_S.rf hEs [1] rfl q1535 q1536 q102 q1537 hd_X3_what rfl rfl ⟨Nat.le_of_ble_eq_true rfl, Nat.le_of_ble_eq_true rfl⟩ rfl hl rfl (Nat.le_of_ble_eq_true rfl) ⟨Nat.le_refl _, Nat.le_refl _⟩ dX3_canBe_36 ?_
      have w2 := wh_rng kS (x + ((k : Int) % c_)) (y + ((k : Int) / c_))
      refine lv_bipush (v := iI (-2)) hx hb dX3_canBe_39 rfl ?_
      refine g_icmp_eq (tgt := 46) hx hb dX3_canBe_41 (by decide) ⟨⟨by omega, by omega⟩, ⟨by decide, by decide⟩⟩ (fun c3 => ?_) (fun c3 => ?_)
      · refine lv_aload_n hx hb dX3_canBe_46 rfl (lv_at hl 2 rfl) ?_
        refine va_get (D := G) (ci := 2) (v := .ref hnow) (C := RX3) (T := TX3) (N := 20) hx hb hts in_X3 hown hK hP 0 rfl rfl 0 (by decide) (hts _ q1438) (fun _ h9 => h9) hF_fs_0 dX3_canBe_47 ?_
        refine lv_iload hx hb dX3_canBe_50 (lv_at hl 1 rfl) ?_
        refine lv_iconst (v := iI 1) hx hb dX3_canBe_52 rfl ?_
        refine g_isub hx hb dX3_canBe_53 ?_
        refine lv_iload hx hb dX3_canBe_54 (lv_at hl 0 rfl) ?_
        refine g_callS (A := fun _ => False) (As := [.ref hnow, .int (iI ((x + ((k : Int) % c_)) - 1)), .int (iI (y + ((k : Int) / c_)))]) (rest := []) (m_X3_what l G g hnow ((x + ((k : Int) % c_)) - 1) (y + ((k : Int) / c_)) S (⟨by omega, by omega⟩) (⟨by omega, by omega⟩) kS) hx hb hml hown hts Stab.tt hK hP va_S.rf hEs [1] rfl q1535 q1536 q102 q1537 hd_X3_what rfl rfl ⟨Nat.le_of_ble_eq_true rfl, Nat.le_of_ble_eq_true rfl⟩ rfl hl rfl (Nat.le_of_ble_eq_true rfl) ⟨Nat.le_refl _, Nat.le_refl _⟩ dX3_canBe_56 ?_
        have w4 := wh_rng kS ((x + ((k : Int) % c_)) - 1) (y + ((k : Int) / c_))
        refine lv_iconst (v := iI 0) hx hb dX3_canBe_59 rfl ?_
        refine lv_iconst (v := iI 5) hx hb dX3_canBe_60 rfl ?_
        refine g_callS (A := fun _ => False) (As := [.int (iI (wh S ((x + ((k : Int) % c_)) - 1) (y + ((k : Int) / c_)))), .int (iI 0), .int (iI 5)]) (rest := []) (m_X3_in l G g (wh S ((x + ((k : Int) % c_)) - 1) (y + ((k : Int) / c_))) 0 5 (⟨by omega, by omega⟩) ⟨by decide, by decide⟩ ⟨by decide, by decide⟩) hx hb hml hown hts Stab.tt hK hP va_S.rf hEs [] rfl q1518 q1519 q102 q1520 hd_X3_in rfl rfl ⟨Nat.le_of_ble_eq_true rfl, Nat.le_of_ble_eq_true rfl⟩ rfl hl rfl (Nat.le_of_ble_eq_true rfl) ⟨Nat.le_refl _, Nat.le_refl _⟩ dX3_canBe_61 ?_
        refine g_ifq_ne (tgt := 130) hx hb dX3_canBe_64 (by decide) (fun c5 => ?_) (fun c5 => ?_)
        · refine lv_iconst (v := iI 0) hx hb dX3_canBe_130 rfl ?_
          exact g_zret0 hx hb hr hlk (fun h => by have h9 := h (k : Int) (by omega) (by assumption); exact absurd (by assumption) h9.2.1) dX3_canBe_131
        · refine lv_aload_n hx hb dX3_canBe_67 rfl (lv_at hl 2 rfl) ?_
          refine va_get (D := G) (ci := 2) (v := .ref hnow) (C := RX3) (T := TX3) (N := 20) hx hb hts in_X3 hown hK hP 0 rfl rfl 0 (by decide) (hts _ q1438) (fun _ h9 => h9) hF_fs_0 dX3_canBe_68 ?_
          refine lv_iload hx hb dX3_canBe_71 (lv_at hl 1 rfl) ?_
          refine lv_iconst (v := iI 1) hx hb dX3_canBe_73 rfl ?_
          refine g_iadd hx hb dX3_canBe_74 ?_
          refine lv_iload hx hb dX3_canBe_75 (lv_at hl 0 rfl) ?_
          refine g_callS (A := fun _ => False) (As := [.ref hnow, .int (iI ((x + ((k : Int) % c_)) + 1)), .int (iI (y + ((k : Int) / c_)))]) (rest := []) (m_X3_what l G g hnow ((x + ((k : Int) % c_)) + 1) (y + ((k : Int) / c_)) S (⟨by omega, by omega⟩) (⟨by omega, by omega⟩) kS) hx hb hml hown hts Stab.tt hK hP va_S.rf hEs [1] rfl q1535 q1536 q102 q1537 hd_X3_what rfl rfl ⟨Nat.le_of_ble_eq_true rfl, Nat.le_of_ble_eq_true rfl⟩ rfl hl rfl (Nat.le_of_ble_eq_true rfl) ⟨Nat.le_refl _, Nat.le_refl _⟩ dX3_canBe_77 ?_
          have w6 := wh_rng kS ((x + ((k : Int) % c_)) + 1) (y + ((k : Int) / c_))
          refine lv_iconst (v := iI 0) hx hb dX3_canBe_80 rfl ?_
          refine lv_iconst (v := iI 5) hx hb dX3_canBe_81 rfl ?_
          refine g_callS (A := fun _ => False) (As := [.int (iI (wh S ((x + ((k : Int) % c_)) + 1) (y + ((k : Int) / c_)))), .int (iI 0), .int (iI 5)]) (rest := []) (m_X3_in l G g (wh S ((x + ((k : Int) % c_)) + 1) (y + ((k : Int) / c_))) 0 5 (⟨by omega, by omega⟩) ⟨by decide, by decide⟩ ⟨by decide, by decide⟩) hx hb hml hown hts Stab.tt hK hP va_S.rf hEs [] rfl q1518 q1519 q102 q1520 hd_X3_in rfl rfl ⟨Nat.le_of_ble_eq_true rfl, Nat.le_of_ble_eq_true rfl⟩ rfl hl rfl (Nat.le_of_ble_eq_true rfl) ⟨Nat.le_refl _, Nat.le_refl _⟩ dX3_canBe_82 ?_
          refine g_ifq_ne (tgt := 130) hx hb dX3_canBe_85 (by decide) (fun c7 => ?_) (fun c7 => ?_)
          · refine lv_iconst (v := iI 0) hx hb dX3_canBe_130 rfl ?_
            exact g_zret0 hx hb hr hlk (fun h => by have h9 := h (k : Int) (by omega) (by assumption); exact absurd (by assumption) h9.2.2.1) dX3_canBe_131
          · refine lv_aload_n hx hb dX3_canBe_88 rfl (lv_at hl 2 rfl) ?_
            refine va_get (D := G) (ci := 2) (v := .ref hnow) (C := RX3) (T := TX3) (N := 20) hx hb hts in_X3 hown hK hP 0 rfl rfl 0 (by decide) (hts _ q1438) (fun _ h9 => h9) hF_fs_0 dX3_canBe_89 ?_
            refine lv_iload hx hb dX3_canBe_92 (lv_at hl 1 rfl) ?_
            refine lv_iload hx hb dX3_canBe_94 (lv_at hl 0 rfl) ?_
            refine lv_iconst (v := iI 1) hx hb dX3_canBe_96 rfl ?_
            refine g_isub hx hb dX3_canBe_97 ?_
            refine g_callS (A := fun _ => False) (As := [.ref hnow, .int (iI (x + ((k : Int) % c_))), .int (iI ((y + ((k : Int) / c_)) - 1))]) (rest := []) (m_X3_what l G g hnow (x + ((k : Int) % c_)) ((y + ((k : Int) / c_)) - 1) S (⟨by omega, by omega⟩) (⟨by omega, by omega⟩) kS) hx hb hml hown hts Stab.tt hK hP va_S.rf hEs [1] rfl q1535 q1536 q102 q1537 hd_X3_what rfl rfl ⟨Nat.le_of_ble_eq_true rfl, Nat.le_of_ble_eq_true rfl⟩ rfl hl rfl (Nat.le_of_ble_eq_true rfl) ⟨Nat.le_refl _, Nat.le_refl _⟩ dX3_canBe_98 ?_
            have w8 := wh_rng kS (x + ((k : Int) % c_)) ((y + ((k : Int) / c_)) - 1)
            refine lv_iconst (v := iI 0) hx hb dX3_canBe_101 rfl ?_
            refine lv_iconst (v := iI 5) hx hb dX3_canBe_102 rfl ?_
            refine g_callS (A := fun _ => False) (As := [.int (iI (wh S (x + ((k : Int) % c_)) ((y + ((k : Int) / c_)) - 1))), .int (iI 0), .int (iI 5)]) (rest := []) (m_X3_in l G g (wh S (x + ((k : Int) % c_)) ((y + ((k : Int) / c_)) - 1)) 0 5 (⟨by omega, by omega⟩) ⟨by decide, by decide⟩ ⟨by decide, by decide⟩) hx hb hml hown hts Stab.tt hK hP va_S.rf hEs [] rfl q1518 q1519 q102 q1520 hd_X3_in rfl rfl ⟨Nat.le_of_ble_eq_true rfl, Nat.le_of_ble_eq_true rfl⟩ rfl hl rfl (Nat.le_of_ble_eq_true rfl) ⟨Nat.le_refl _, Nat.le_refl _⟩ dX3_canBe_103 ?_
            refine g_ifq_ne (tgt := 130) hx hb dX3_canBe_106 (by decide) (fun c9 => ?_) (fun c9 => ?_)
            · refine lv_iconst (v := iI 0) hx hb dX3_canBe_130 rfl ?_
              exact g_zret0 hx hb hr hlk (fun h => by have h9 := h (k : Int) (by omega) (by assumption); exact absurd (by assumption) h9.2.2.2.1) dX3_canBe_131
            · refine lv_aload_n hx hb dX3_canBe_109 rfl (lv_at hl 2 rfl) ?_
              refine va_get (D := G) (ci := 2) (v := .ref hnow) (C := RX3) (T := TX3) (N := 20) hx hb hts in_X3 hown hK hP 0 rfl rfl 0 (by decide) (hts _ q1438) (fun _ h9 => h9) hF_fs_0 dX3_canBe_110 ?_
              refine lv_iload hx hb dX3_canBe_113 (lv_at hl 1 rfl) ?_
              refine lv_iload hx hb dX3_canBe_115 (lv_at hl 0 rfl) ?_
              refine lv_iconst (v := iI 1) hx hb dX3_canBe_117 rfl ?_
              refine g_iadd hx hb dX3_canBe_118 ?_
              refine g_callS (A := fun _ => False) (As := [.ref hnow, .int (iI (x + ((k : Int) % c_))), .int (iI ((y + ((k : Int) / c_)) + 1))]) (rest := []) (m_X3_what l G g hnow (x + ((k : Int) % c_)) ((y + ((k : Int) / c_)) + 1) S (⟨by omega, by omega⟩) (⟨by omega, by omega⟩) kS) hx hb hml hown hts Stab.tt hK hP va_S.rf hEs [1] rfl q1535 q1536 q102 q1537 hd_X3_what rfl rfl ⟨Nat.le_of_ble_eq_true rfl, Nat.le_of_ble_eq_true rfl⟩ rfl hl rfl (Nat.le_of_ble_eq_true rfl) ⟨Nat.le_refl _, Nat.le_refl _⟩ dX3_canBe_119 ?_
              have w10 := wh_rng kS (x + ((k : Int) % c_)) ((y + ((k : Int) / c_)) + 1)
              refine lv_iconst (v := iI 0) hx hb dX3_canBe_122 rfl ?_
              refine lv_iconst (v := iI 5) hx hb dX3_canBe_123 rfl ?_
              refine g_callS (A := fun _ => False) (As := [.int (iI (wh S (x + ((k : Int) % c_)) ((y + ((k : Int) / c_)) + 1))), .int (iI 0), .int (iI 5)]) (rest := []) (m_X3_in l G g (wh S (x + ((k : Int) % c_)) ((y + ((k : Int) / c_)) + 1)) 0 5 (⟨by omega, by omega⟩) ⟨by decide, by decide⟩ ⟨by decide, by decide⟩) hx hb hml hown hts Stab.tt hK hP va_S.rf hEs [] rfl q1518 q1519 q102 q1520 hd_X3_in rfl rfl ⟨Nat.le_of_ble_eq_true rfl, Nat.le_of_ble_eq_true rfl⟩ rfl hl rfl (Nat.le_of_ble_eq_true rfl) ⟨Nat.le_refl _, Nat.le_refl _⟩ dX3_canBe_124 ?_
              refine g_ifq_eq (tgt := 132) hx hb dX3_canBe_127 (by decide) (fun c11 => ?_) (fun c11 => ?_)
              · refine g_iinc (lv' := [(5, .int (iI ((k : Int) + 1))), (7, .int (iI (y + ((k : Int) / c_)))), (6, .int (iI (x + ((k : Int) % c_)))), (0, .ref hM), (1, .int (iI x)), (2, .int (iI y)), (3, .int (iI c_)), (4, .int (iI r_))]) hx hb dX3_canBe_132 hl (k := 7) rfl (by decide) rfl (fun ls hl => ?_)
                refine lv_goto (tgt := 3) hx hb dX3_canBe_135 (by decide) ?_
                exact ih3 _ (by omega) (k + 1) (by omega) (fun j h1 h2 => by
      by_cases hj : j = (k : Int)
      · rw [hj]; exact ⟨by assumption, by assumption, by assumption, by assumption, by assumption⟩
      · exact ha j h1 (by omega)) rfl ls (lv_sub hl [3, 4, 5, 6, 7, 0] rfl)
              · refine lv_iconst (v := iI 0) hx hb dX3_canBe_130 rfl ?_
                exact g_zret0 hx hb hr hlk (fun h => by have h9 := h (k : Int) (by omega) (by assumption); exact absurd (by assumption) h9.2.2.2.2) dX3_canBe_131
      · refine lv_iconst (v := iI 0) hx hb dX3_canBe_44 rfl ?_
        exact g_zret0 hx hb hr hlk (fun h => by have h9 := h (k : Int) (by omega) (by assumption); exact absurd h9.1 (by assumption)) dX3_canBe_45
  exact lp3 _ 0 (by omega) (fun j h1 h2 => by omega) rfl ls (lv_sub hl [1, 2, 3, 4, 5, 0] rfl)
theorem hd_X3_free : yX3_free.cls = RX3 ∧ yX3_free.cls ≠ "java/lang/invoke/MethodHandle" ∧ yX3_free.cls ≠ "java/lang/invoke/VarHandle" ∧ (parseMethodDescriptor yX3_free.desc).map (fun d => d.parameters.length) = some 0 := by decide +kernel
set_option maxHeartbeats 4000000 in
set_option maxRecDepth 100000 in
theorem m_X3_free (l : Launch) (G : va_G) (g : Nat → ClassId) (hM : Nat) (fs : List Value) (hnow : Nat) (S : Int → Int) (hF_fs_0 : fs[0]? = some (.ref hnow)) (kS : rgS S) : Met l yX3_free (ws_ yX3_free cX3_free 2 (Option.some Jvm.ClassFile.FieldType.int)) ({ frames := 2, cells := 0, slots := 0, locals := 43 }) (va_Pc [.ref hM] (rdB G CL (TY g) (fun _ => True) [(hM, .inr (2, fs)), (hnow, .inl (g 0, 253, .inl (aI S)))])) (QcRead ((iI (fre S)))) 0 0 (fun _ => False) := by
  refine Met.at (by decide) (Nat.le_of_ble_eq_true rfl) ?_
  intro p e s m below meth c hx hb hr hlk hml hown hnm hts hB ls hl
  have hown : s.vm.findClass RX3 = some m.cls := hown
  obtain ⟨hP, hK, hEs⟩ := hB
  have hl : lv_has ls 2 [(0, .ref hM)] := hl
  refine lv_iconst (v := iI 0) hx hb dX3_free_0 rfl ?_
  refine lv_istore_n (lv' := [(1, .int (iI 0)), (0, .ref hM)]) hx hb dX3_free_1 rfl hl (by decide) rfl (fun ls hl => ?_)
  have lp2 : ∀ (n : Nat) (k : Nat), ((k : Int) ≤ 6) → (∀ j : Int, 0 ≤ j → j < (k : Int) → isTh S j) → 6 - k = n → ∀ ls : Array Slot, lv_has ls 2 [(0, .ref hM), (1, .int (iI (k : Int)))] → W p l e ({ frames := 2, cells := 0, slots := 0, locals := 43 }) s m ([.ref hM] : List Value).toArray below meth c s.heap [] 0 0 (MQ below (QcRead ((iI (fre S)))) ([.ref hM] : List Value).toArray s 0 0 (fun _ => False)) (F0 m 2 ls []) := by
    intro n
    refine Nat.strongRecOn n ?_
    intro n ih2 k hk ha hmu2 ls hl
    refine lv_iload_n hx hb dX3_free_2 rfl (lv_at hl 1 rfl) ?_
    refine lv_bipush (v := iI 6) hx hb dX3_free_3 rfl ?_
    refine g_icmp_ge (tgt := 25) hx hb dX3_free_5 (by decide) ⟨⟨by omega, by omega⟩, ⟨by decide, by decide⟩⟩ (fun c1 => ?_) (fun c1 => ?_)
    · refine lv_iload_n hx hb dX3_free_25 rfl (lv_at hl 1 rfl) ?_
      exact g_iret hx hb hr hlk (fre_eq (by omega) ha (Or.inl (by omega))) dX3_free_26
    · refine lv_aload_n hx hb dX3_free_8 rfl (lv_at hl 0 rfl) ?_
      refine va_get (D := G) (ci := 2) (v := .ref hnow) (C := RX3) (T := TX3) (N := 20) hx hb hts in_X3 hown hK hP 0 rfl rfl 0 (by decide) (hts _ q1438) (fun _ h9 => h9) hF_fs_0 dX3_free_9 ?_
      refine lv_iload_n hx hb dX3_free_12 rfl (lv_at hl 1 rfl) ?_
      refine g_callS (A := fun _ => False) (As := [.ref hnow, .int (iI (k : Int))]) (rest := []) (m_X3_isThere l G g hnow (k : Int) S (⟨by omega, by omega⟩) kS) hx hb hml hown hts Stab.tt hK hP va_S.rf hEs [1] rfl q1525 q1526 q102 q1527 hd_X3_isThere rfl rfl ⟨Nat.le_of_ble_eq_true rfl, Nat.le_of_ble_eq_true rfl⟩ rfl hl rfl (Nat.le_of_ble_eq_true rfl) ⟨Nat.le_refl _, Nat.le_refl _⟩ dX3_free_13 ?_
      refine g_ifq_eq (tgt := 25) hx hb dX3_free_16 (by decide) (fun c2 => ?_) (fun c2 => ?_)
      · refine lv_iload_n hx hb dX3_free_25 rfl (lv_at hl 1 rfl) ?_
        exact g_iret hx hb hr hlk (fre_eq (by omega) ha (Or.inr (by assumption))) dX3_free_26
      · refine g_iinc (lv' := [(1, .int (iI ((k : Int) + 1))), (0, .ref hM)]) hx hb dX3_free_19 hl (k := 1) rfl (by decide) rfl (fun ls hl => ?_)
        refine lv_goto (tgt := 2) hx hb dX3_free_22 (by decide) ?_
        exact ih2 _ (by omega) (k + 1) (by omega) (fun j h1 h2 => by
      by_cases hj : j = (k : Int)
      · rw [hj]; assumption
      · exact ha j h1 (by omega)) rfl ls (lv_sub hl [1, 0] rfl)
  exact lp2 _ 0 (by omega) (fun j h1 h2 => by omega) rfl ls (lv_sub hl [1, 0] rfl)
theorem hd_X3_squares : yX3_squares.cls ≠ "java/lang/invoke/MethodHandle" ∧ yX3_squares.cls ≠ "java/lang/invoke/VarHandle" ∧ (parseMethodDescriptor yX3_squares.desc).map (fun d => d.parameters.length) = some 2 := by decide +kernel
set_option maxHeartbeats 4000000 in
set_option maxRecDepth 100000 in
theorem m_X3_squares (l : Launch) (G : va_G) (g : Nat → ClassId) (hs : Nat) (sort : Int) (S : Int → Int) (r_sort : r32 sort) (kS : rgS S) : Met l yX3_squares (ws_ yX3_squares cX3_squares 4 (Option.some Jvm.ClassFile.FieldType.int)) ({ frames := 0, cells := 0, slots := 0, locals := 0 }) (va_Pc [.ref hs, .int (iI sort)] (rdB G CL (TY g) (fun _ => True) [(hs, .inl (g 0, 253, .inl (aI S)))])) (QcRead ((iI (sqC S sort)))) 0 0 (fun _ => False) := by
  refine Met.at (by decide) (Nat.le_of_ble_eq_true rfl) ?_
  intro p e s m below meth c hx hb hr hlk hml hown hnm hts hB ls hl
  have hown : s.vm.findClass RX3 = some m.cls := hown
  obtain ⟨hP, hK, hEs⟩ := hB
  have hl : lv_has ls 4 [(0, .ref hs), (1, .int (iI sort))] := hl
  refine lv_iconst (v := iI 0) hx hb dX3_squares_0 rfl ?_
  refine lv_istore_n (lv' := [(2, .int (iI 0)), (0, .ref hs), (1, .int (iI sort))]) hx hb dX3_squares_1 rfl hl (by decide) rfl (fun ls hl => ?_)
  refine lv_iconst (v := iI 0) hx hb dX3_squares_2 rfl ?_
  refine lv_istore_n (lv' := [(3, .int (iI 0)), (2, .int (iI 0)), (0, .ref hs), (1, .int (iI sort))]) hx hb dX3_squares_3 rfl hl (by decide) rfl (fun ls hl => ?_)
  have lp4 : ∀ (n : Nat) (k : Nat), ((k : Int) ≤ 192) → 192 - k = n → ∀ ls : Array Slot, lv_has ls 4 [(0, .ref hs), (1, .int (iI sort)), (2, .int (iI (sumN (sqT S sort) k))), (3, .int (iI (k : Int)))] → W p l e ({ frames := 0, cells := 0, slots := 0, locals := 0 }) s m ([.ref hs, .int (iI sort)] : List Value).toArray below meth c s.heap [] 0 0 (MQ below (QcRead ((iI (sqC S sort)))) ([.ref hs, .int (iI sort)] : List Value).toArray s 0 0 (fun _ => False)) (F0 m 4 ls []) := by
    intro n
    refine Nat.strongRecOn n ?_
    intro n ih4 k hk hmu4 ls hl
    refine lv_iload_n hx hb dX3_squares_4 rfl (lv_at hl 3 rfl) ?_
    refine lv_sipush (v := iI 192) hx hb dX3_squares_5 rfl ?_
    refine g_icmp_ge (tgt := 32) hx hb dX3_squares_8 (by decide) ⟨⟨by omega, by omega⟩, ⟨by decide, by decide⟩⟩ (fun c1 => ?_) (fun c1 => ?_)
    · refine lv_iload_n hx hb dX3_squares_32 rfl (lv_at hl 2 rfl) ?_
      exact g_iret hx hb hr hlk (by rw [show k = 192 from by omega]; rfl) dX3_squares_33
    · refine lv_iload_n hx hb dX3_squares_11 rfl (lv_at hl 2 rfl) ?_
      refine lv_aload_n hx hb dX3_squares_12 rfl (lv_at hl 0 rfl) ?_
      refine lv_iload_n hx hb dX3_squares_13 rfl (lv_at hl 3 rfl) ?_
      refine g_iald hx hb hK hP 0 0 rfl rfl (i := (k : Int)) (⟨by omega, by omega⟩) (by decide) dX3_squares_14 ?_
      have w2 := kS (k : Int) (by omega) (by omega)
      refine lv_iload_n hx hb dX3_squares_15 rfl (lv_at hl 1 rfl) ?_
      have hJ3 : ∀ ls : Array Slot, lv_has ls 4 [(0, .ref hs), (1, .int (iI sort)), (2, .int (iI (sumN (sqT S sort) k))), (3, .int (iI (k : Int)))] → W p l e ({ frames := 0, cells := 0, slots := 0, locals := 0 }) s m ([.ref hs, .int (iI sort)] : List Value).toArray below meth c s.heap [] 0 0 (MQ below (QcRead ((iI (sqC S sort)))) ([.ref hs, .int (iI sort)] : List Value).toArray s 0 0 (fun _ => False)) (F0 m 24 ls [.int (iI (qz ((S (k : Int)) = sort))), .int (iI (sumN (sqT S sort) k))]) := by
        intro ls hl
        refine g_iadd hx hb dX3_squares_24 ?_
        refine lv_istore_n (lv' := [(2, .int (iI ((sumN (sqT S sort) k) + (qz ((S (k : Int)) = sort))))), (0, .ref hs), (1, .int (iI sort)), (3, .int (iI (k : Int)))]) hx hb dX3_squares_25 rfl hl (by decide) rfl (fun ls hl => ?_)
        refine g_iinc (lv' := [(3, .int (iI ((k : Int) + 1))), (2, .int (iI ((sumN (sqT S sort) k) + (qz ((S (k : Int)) = sort))))), (0, .ref hs), (1, .int (iI sort))]) hx hb dX3_squares_26 hl (k := 3) rfl (by decide) rfl (fun ls hl => ?_)
        refine lv_goto (tgt := 4) hx hb dX3_squares_29 (by decide) ?_
        exact ih4 _ (by omega) (k + 1) (by omega) rfl ls (lv_sub hl [2, 3, 1, 0] rfl)
      refine g_icmp_ne (tgt := 23) hx hb dX3_squares_16 (by decide) ⟨⟨by omega, by omega⟩, r_sort⟩ (fun c4 => ?_) (fun c4 => ?_)
      · refine lv_iconst (v := iI 0) hx hb dX3_squares_23 rfl ?_
        refine g_eq (b := qz ((S (k : Int)) = sort)) (qz_f (fun xx => (c4 xx))).symm ?_
        exact hJ3 ls (lv_sub hl [0, 1, 2, 3] rfl)
      · refine lv_iconst (v := iI 1) hx hb dX3_squares_19 rfl ?_
        refine lv_goto (tgt := 24) hx hb dX3_squares_20 (by decide) ?_
        refine g_eq (b := qz ((S (k : Int)) = sort)) (qz_t c4).symm ?_
        exact hJ3 ls (lv_sub hl [0, 1, 2, 3] rfl)
  exact lp4 _ 0 (by omega) rfl ls (lv_sub hl [2, 3, 1, 0] rfl)
theorem hd_X3_rooms : yX3_rooms.cls = RX3 ∧ yX3_rooms.cls ≠ "java/lang/invoke/MethodHandle" ∧ yX3_rooms.cls ≠ "java/lang/invoke/VarHandle" ∧ (parseMethodDescriptor yX3_rooms.desc).map (fun d => d.parameters.length) = some 0 := by decide +kernel
set_option maxHeartbeats 4000000 in
set_option maxRecDepth 100000 in
theorem m_X3_rooms (l : Launch) (G : va_G) (g : Nat → ClassId) (hM : Nat) (fs : List Value) (hnow : Nat) (S : Int → Int) (hF_fs_0 : fs[0]? = some (.ref hnow)) (kS : rgS S) : Met l yX3_rooms (ws_ yX3_rooms cX3_rooms 3 (Option.some Jvm.ClassFile.FieldType.int)) ({ frames := 2, cells := 0, slots := 0, locals := 43 }) (va_Pc [.ref hM] (rdB G CL (TY g) (fun _ => True) [(hM, .inr (2, fs)), (hnow, .inl (g 0, 253, .inl (aI S)))])) (QcRead ((iI (rmC S)))) 0 0 (fun _ => False) := by
  refine Met.at (by decide) (Nat.le_of_ble_eq_true rfl) ?_
  intro p e s m below meth c hx hb hr hlk hml hown hnm hts hB ls hl
  have hown : s.vm.findClass RX3 = some m.cls := hown
  obtain ⟨hP, hK, hEs⟩ := hB
  have hl : lv_has ls 3 [(0, .ref hM)] := hl
  refine lv_iconst (v := iI 0) hx hb dX3_rooms_0 rfl ?_
  refine lv_istore_n (lv' := [(1, .int (iI 0)), (0, .ref hM)]) hx hb dX3_rooms_1 rfl hl (by decide) rfl (fun ls hl => ?_)
  refine lv_iconst (v := iI 0) hx hb dX3_rooms_2 rfl ?_
  refine lv_istore_n (lv' := [(2, .int (iI 0)), (1, .int (iI 0)), (0, .ref hM)]) hx hb dX3_rooms_3 rfl hl (by decide) rfl (fun ls hl => ?_)
  have lp4 : ∀ (n : Nat) (k : Nat), ((k : Int) ≤ 6) → 6 - k = n → ∀ ls : Array Slot, lv_has ls 3 [(0, .ref hM), (1, .int (iI (sumN (rmT S) k))), (2, .int (iI (k : Int)))] → W p l e ({ frames := 2, cells := 0, slots := 0, locals := 43 }) s m ([.ref hM] : List Value).toArray below meth c s.heap [] 0 0 (MQ below (QcRead ((iI (rmC S)))) ([.ref hM] : List Value).toArray s 0 0 (fun _ => False)) (F0 m 4 ls []) := by
    intro n
    refine Nat.strongRecOn n ?_
    intro n ih4 k hk hmu4 ls hl
    refine lv_iload_n hx hb dX3_rooms_4 rfl (lv_at hl 2 rfl) ?_
    refine lv_bipush (v := iI 6) hx hb dX3_rooms_5 rfl ?_
    refine g_icmp_ge (tgt := 35) hx hb dX3_rooms_7 (by decide) ⟨⟨by omega, by omega⟩, ⟨by decide, by decide⟩⟩ (fun c1 => ?_) (fun c1 => ?_)
    · refine lv_iload_n hx hb dX3_rooms_35 rfl (lv_at hl 1 rfl) ?_
      exact g_iret hx hb hr hlk (by rw [show k = 6 from by omega]; rfl) dX3_rooms_36
    · refine lv_iload_n hx hb dX3_rooms_10 rfl (lv_at hl 1 rfl) ?_
      refine lv_aload_n hx hb dX3_rooms_11 rfl (lv_at hl 0 rfl) ?_
      refine va_get (D := G) (ci := 2) (v := .ref hnow) (C := RX3) (T := TX3) (N := 20) hx hb hts in_X3 hown hK hP 0 rfl rfl 0 (by decide) (hts _ q1438) (fun _ h9 => h9) hF_fs_0 dX3_rooms_12 ?_
      refine lv_iload_n hx hb dX3_rooms_15 rfl (lv_at hl 2 rfl) ?_
      refine g_callS (A := fun _ => False) (As := [.ref hnow, .int (iI (k : Int))]) (rest := [.int (iI (sumN (rmT S) k))]) (m_X3_isThere l G g hnow (k : Int) S (⟨by omega, by omega⟩) kS) hx hb hml hown hts Stab.tt hK hP va_S.rf hEs [1] rfl q1525 q1526 q102 q1527 hd_X3_isThere rfl rfl ⟨Nat.le_of_ble_eq_true rfl, Nat.le_of_ble_eq_true rfl⟩ rfl hl rfl (Nat.le_of_ble_eq_true rfl) ⟨Nat.le_refl _, Nat.le_refl _⟩ dX3_rooms_16 ?_
      have hJ2 : ∀ ls : Array Slot, lv_has ls 3 [(0, .ref hM), (1, .int (iI (sumN (rmT S) k))), (2, .int (iI (k : Int)))] → W p l e ({ frames := 2, cells := 0, slots := 0, locals := 43 }) s m ([.ref hM] : List Value).toArray below meth c s.heap [] 0 0 (MQ below (QcRead ((iI (rmC S)))) ([.ref hM] : List Value).toArray s 0 0 (fun _ => False)) (F0 m 27 ls [.int (iI (qz (isTh S (k : Int)))), .int (iI (sumN (rmT S) k))]) := by
        intro ls hl
        refine g_iadd hx hb dX3_rooms_27 ?_
        refine lv_istore_n (lv' := [(1, .int (iI ((sumN (rmT S) k) + (qz (isTh S (k : Int)))))), (0, .ref hM), (2, .int (iI (k : Int)))]) hx hb dX3_rooms_28 rfl hl (by decide) rfl (fun ls hl => ?_)
        refine g_iinc (lv' := [(2, .int (iI ((k : Int) + 1))), (1, .int (iI ((sumN (rmT S) k) + (qz (isTh S (k : Int)))))), (0, .ref hM)]) hx hb dX3_rooms_29 hl (k := 2) rfl (by decide) rfl (fun ls hl => ?_)
        refine lv_goto (tgt := 4) hx hb dX3_rooms_32 (by decide) ?_
        exact ih4 _ (by omega) (k + 1) (by omega) rfl ls (lv_sub hl [2, 1, 0] rfl)
      refine g_ifq_eq (tgt := 26) hx hb dX3_rooms_19 (by decide) (fun c3 => ?_) (fun c3 => ?_)
      · refine lv_iconst (v := iI 0) hx hb dX3_rooms_26 rfl ?_
        refine g_eq (b := qz (isTh S (k : Int))) (qz_f (fun xx => (c3 xx))).symm ?_
        exact hJ2 ls (lv_sub hl [0, 1, 2] rfl)
      · refine lv_iconst (v := iI 1) hx hb dX3_rooms_22 rfl ?_
        refine lv_goto (tgt := 27) hx hb dX3_rooms_23 (by decide) ?_
        refine g_eq (b := qz (isTh S (k : Int))) (qz_t c3).symm ?_
        exact hJ2 ls (lv_sub hl [0, 1, 2] rfl)
  exact lp4 _ 0 (by omega) rfl ls (lv_sub hl [2, 1, 0] rfl)
theorem hd_X3_isAt : yX3_isAt.cls = RX3 ∧ yX3_isAt.cls ≠ "java/lang/invoke/MethodHandle" ∧ yX3_isAt.cls ≠ "java/lang/invoke/VarHandle" ∧ (parseMethodDescriptor yX3_isAt.desc).map (fun d => d.parameters.length) = some 1 := by decide +kernel
set_option maxHeartbeats 4000000 in
set_option maxRecDepth 100000 in
theorem m_X3_isAt (l : Launch) (G : va_G) (g : Nat → ClassId) (hM : Nat) (sign : Int) (fs : List Value) (htx : Nat) (ty : Int) (at_ : Int) (TX : Int → Int) (hF_fs_4 : fs[4]? = some (.ref htx)) (hF_fs_5 : fs[5]? = some (.int (iI ty))) (hF_fs_7 : fs[7]? = some (.int (iI at_))) (r_sign : r32 sign) (kTX : rgT TX) (ha : 0 ≤ at_ ∧ at_ ≤ ty ∧ ty ≤ 60) : Met l yX3_isAt (ws_ yX3_isAt cX3_isAt 2 (Option.some Jvm.ClassFile.FieldType.boolean)) ({ frames := 0, cells := 0, slots := 0, locals := 0 }) (va_Pc [.ref hM, .int (iI sign)] (rdB G CL (TY g) (fun _ => True) [(hM, .inr (2, fs)), (htx, .inl (g 0, 60, .inl (aI TX)))])) (QcRead ((iI (qz (at_ < ty ∧ TX at_ = sign))))) 0 0 (fun _ => False) := by
  refine Met.at (by decide) (Nat.le_of_ble_eq_true rfl) ?_
  intro p e s m below meth c hx hb hr hlk hml hown hnm hts hB ls hl
  have hown : s.vm.findClass RX3 = some m.cls := hown
  obtain ⟨hP, hK, hEs⟩ := hB
  have hl : lv_has ls 2 [(0, .ref hM), (1, .int (iI sign))] := hl
  refine lv_aload_n hx hb dX3_isAt_0 rfl (lv_at hl 0 rfl) ?_
  refine va_get (D := G) (ci := 2) (v := .int (iI at_)) (C := RX3) (T := TX3) (N := 20) hx hb hts in_X3 hown hK hP 0 rfl rfl 7 (by decide) (hts _ q1445) (fun _ h9 => h9) hF_fs_7 dX3_isAt_1 ?_
  refine lv_aload_n hx hb dX3_isAt_4 rfl (lv_at hl 0 rfl) ?_
  refine va_get (D := G) (ci := 2) (v := .int (iI ty)) (C := RX3) (T := TX3) (N := 20) hx hb hts in_X3 hown hK hP 0 rfl rfl 5 (by decide) (hts _ q1443) (fun _ h9 => h9) hF_fs_5 dX3_isAt_5 ?_
  have hJ1 : ∀ ls : Array Slot, lv_has ls 2 [(0, .ref hM), (1, .int (iI sign))] → W p l e ({ frames := 0, cells := 0, slots := 0, locals := 0 }) s m ([.ref hM, .int (iI sign)] : List Value).toArray below meth c s.heap [] 0 0 (MQ below (QcRead ((iI (qz (at_ < ty ∧ TX at_ = sign))))) ([.ref hM, .int (iI sign)] : List Value).toArray s 0 0 (fun _ => False)) (F0 m 29 ls [.int (iI (qz ((at_ < ty) ∧ ((TX at_) = sign))))]) := by
    intro ls hl
    exact g_zret hx hb hr hlk (by first | exact Iff.rfl | (constructor <;> intro _ <;> omega)) dX3_isAt_29
  refine g_icmp_ge (tgt := 28) hx hb dX3_isAt_8 (by decide) ⟨⟨by omega, by omega⟩, ⟨by omega, by omega⟩⟩ (fun c2 => ?_) (fun c2 => ?_)
  · refine lv_iconst (v := iI 0) hx hb dX3_isAt_28 rfl ?_
    refine g_eq (b := qz ((at_ < ty) ∧ ((TX at_) = sign))) (qz_f (fun xx => (c2 xx.1))).symm ?_
    exact hJ1 ls (lv_sub hl [0, 1] rfl)
  · refine lv_aload_n hx hb dX3_isAt_11 rfl (lv_at hl 0 rfl) ?_
    refine va_get (D := G) (ci := 2) (v := .ref htx) (C := RX3) (T := TX3) (N := 20) hx hb hts in_X3 hown hK hP 0 rfl rfl 4 (by decide) (hts _ q1442) (fun _ h9 => h9) hF_fs_4 dX3_isAt_12 ?_
    refine lv_aload_n hx hb dX3_isAt_15 rfl (lv_at hl 0 rfl) ?_
    refine va_get (D := G) (ci := 2) (v := .int (iI at_)) (C := RX3) (T := TX3) (N := 20) hx hb hts in_X3 hown hK hP 0 rfl rfl 7 (by decide) (hts _ q1445) (fun _ h9 => h9) hF_fs_7 dX3_isAt_16 ?_
    refine g_iald hx hb hK hP 1 0 rfl rfl (i := at_) (⟨by omega, by omega⟩) (by decide) dX3_isAt_19 ?_
    have w3 := kTX at_ (by omega) (by omega)
    refine lv_iload_n hx hb dX3_isAt_20 rfl (lv_at hl 1 rfl) ?_
    refine g_icmp_ne (tgt := 28) hx hb dX3_isAt_21 (by decide) ⟨⟨by omega, by omega⟩, r_sign⟩ (fun c4 => ?_) (fun c4 => ?_)
    · refine lv_iconst (v := iI 0) hx hb dX3_isAt_28 rfl ?_
      refine g_eq (b := qz ((at_ < ty) ∧ ((TX at_) = sign))) (qz_f (fun xx => (c4 xx.2))).symm ?_
      exact hJ1 ls (lv_sub hl [0, 1] rfl)
    · refine lv_iconst (v := iI 1) hx hb dX3_isAt_24 rfl ?_
      refine lv_goto (tgt := 29) hx hb dX3_isAt_25 (by decide) ?_
      refine g_eq (b := qz ((at_ < ty) ∧ ((TX at_) = sign))) (qz_t ⟨c2, c4⟩).symm ?_
      exact hJ1 ls (lv_sub hl [0, 1] rfl)
theorem hd_X3_may : yX3_may.cls = RX3 ∧ yX3_may.cls ≠ "java/lang/invoke/MethodHandle" ∧ yX3_may.cls ≠ "java/lang/invoke/VarHandle" ∧ (parseMethodDescriptor yX3_may.desc).map (fun d => d.parameters.length) = some 3 := by decide +kernel
set_option maxHeartbeats 4000000 in
set_option maxRecDepth 100000 in
theorem m_X3_may (l : Launch) (G : va_G) (g : Nat → ClassId) (hM : Nat) (one : Int) (other : Int) (F : Prop) (fs : List Value) (hnow : Nat) (S : Int → Int) (hF_fs_0 : fs[0]? = some (.ref hnow)) (r_one : r32 one) (r_other : r32 other) (kS : rgS S) : Met l yX3_may (ws_ yX3_may cX3_may 4 (Option.some Jvm.ClassFile.FieldType.int)) ({ frames := 2, cells := 0, slots := 0, locals := 43 }) (va_Pc [.ref hM, .int (iI one), .int (iI other), .int (iI (qz F))] (rdB G CL (TY g) (fun _ => True) [(hM, .inr (2, fs)), (hnow, .inl (g 0, 253, .inl (aI S)))])) (QcRead ((iI (mayV S one other F)))) 0 0 (fun _ => False) := by
  refine Met.at (by decide) (Nat.le_of_ble_eq_true rfl) ?_
  intro p e s m below meth c hx hb hr hlk hml hown hnm hts hB ls hl
  have hown : s.vm.findClass RX3 = some m.cls := hown
  obtain ⟨hP, hK, hEs⟩ := hB
  have hl : lv_has ls 4 [(0, .ref hM), (1, .int (iI one)), (2, .int (iI other)), (3, .int (iI (qz F)))] := hl
  refine lv_aload_n hx hb dX3_may_0 rfl (lv_at hl 0 rfl) ?_
  refine va_get (D := G) (ci := 2) (v := .ref hnow) (C := RX3) (T := TX3) (N := 20) hx hb hts in_X3 hown hK hP 0 rfl rfl 0 (by decide) (hts _ q1438) (fun _ h9 => h9) hF_fs_0 dX3_may_1 ?_
  refine lv_iload_n hx hb dX3_may_4 rfl (lv_at hl 1 rfl) ?_
  refine g_callS (A := fun _ => False) (As := [.ref hnow, .int (iI one)]) (rest := []) (m_X3_isThere l G g hnow one S r_one kS) hx hb hml hown hts Stab.tt hK hP va_S.rf hEs [1] rfl q1525 q1526 q102 q1527 hd_X3_isThere rfl rfl ⟨Nat.le_of_ble_eq_true rfl, Nat.le_of_ble_eq_true rfl⟩ rfl hl rfl (Nat.le_of_ble_eq_true rfl) ⟨Nat.le_refl _, Nat.le_refl _⟩ dX3_may_5 ?_
  have hJ1 : ∀ ls : Array Slot, lv_has ls 4 [(0, .ref hM), (1, .int (iI one)), (2, .int (iI other)), (3, .int (iI (qz F)))] → W p l e ({ frames := 2, cells := 0, slots := 0, locals := 43 }) s m ([.ref hM, .int (iI one), .int (iI other), .int (iI (qz F))] : List Value).toArray below meth c s.heap [] 0 0 (MQ below (QcRead ((iI (mayV S one other F)))) ([.ref hM, .int (iI one), .int (iI other), .int (iI (qz F))] : List Value).toArray s 0 0 (fun _ => False)) (F0 m 40 ls [.int (iI (zi (isTh S one) (zi (isTh S other) (zi (one = other) 2 (zi F 0 2)) 1) 1))]) := by
    intro ls hl
    exact g_iret hx hb hr hlk (rfl) dX3_may_40
  refine g_ifq_eq (tgt := 22) hx hb dX3_may_8 (by decide) (fun c2 => ?_) (fun c2 => ?_)
  · refine lv_iconst (v := iI 1) hx hb dX3_may_22 rfl ?_
    refine lv_goto (tgt := 40) hx hb dX3_may_23 (by decide) ?_
    refine g_eq (b := zi (isTh S one) (zi (isTh S other) (zi (one = other) 2 (zi F 0 2)) 1) 1) ((zi_f c2)).symm ?_
    exact hJ1 ls (lv_sub hl [0, 1, 2, 3] rfl)
  · refine lv_aload_n hx hb dX3_may_11 rfl (lv_at hl 0 rfl) ?_
    refine va_get (D := G) (ci := 2) (v := .ref hnow) (C := RX3) (T := TX3) (N := 20) hx hb hts in_X3 hown hK hP 0 rfl rfl 0 (by decide) (hts _ q1438) (fun _ h9 => h9) hF_fs_0 dX3_may_12 ?_
    refine lv_iload_n hx hb dX3_may_15 rfl (lv_at hl 2 rfl) ?_
    refine g_callS (A := fun _ => False) (As := [.ref hnow, .int (iI other)]) (rest := []) (m_X3_isThere l G g hnow other S r_other kS) hx hb hml hown hts Stab.tt hK hP va_S.rf hEs [1] rfl q1525 q1526 q102 q1527 hd_X3_isThere rfl rfl ⟨Nat.le_of_ble_eq_true rfl, Nat.le_of_ble_eq_true rfl⟩ rfl hl rfl (Nat.le_of_ble_eq_true rfl) ⟨Nat.le_refl _, Nat.le_refl _⟩ dX3_may_16 ?_
    refine g_ifq_ne (tgt := 26) hx hb dX3_may_19 (by decide) (fun c3 => ?_) (fun c3 => ?_)
    · refine lv_iload_n hx hb dX3_may_26 rfl (lv_at hl 1 rfl) ?_
      refine lv_iload_n hx hb dX3_may_27 rfl (lv_at hl 2 rfl) ?_
      refine g_icmp_eq (tgt := 35) hx hb dX3_may_28 (by decide) ⟨r_one, r_other⟩ (fun c4 => ?_) (fun c4 => ?_)
      · refine lv_iconst (v := iI 2) hx hb dX3_may_35 rfl ?_
        refine lv_goto (tgt := 40) hx hb dX3_may_36 (by decide) ?_
        refine g_eq (b := zi (isTh S one) (zi (isTh S other) (zi (one = other) 2 (zi F 0 2)) 1) 1) (((zi_t c2).trans ((zi_t c3).trans (zi_t c4)))).symm ?_
        exact hJ1 ls (lv_sub hl [0, 1, 2, 3] rfl)
      · refine lv_iload_n hx hb dX3_may_31 rfl (lv_at hl 3 rfl) ?_
        refine g_ifq_ne (tgt := 39) hx hb dX3_may_32 (by decide) (fun c5 => ?_) (fun c5 => ?_)
        · refine lv_iconst (v := iI 0) hx hb dX3_may_39 rfl ?_
          refine g_eq (b := zi (isTh S one) (zi (isTh S other) (zi (one = other) 2 (zi F 0 2)) 1) 1) (((zi_t c2).trans ((zi_t c3).trans ((zi_f c4).trans (zi_t c5))))).symm ?_
          exact hJ1 ls (lv_sub hl [0, 1, 2, 3] rfl)
        · refine lv_iconst (v := iI 2) hx hb dX3_may_35 rfl ?_
          refine lv_goto (tgt := 40) hx hb dX3_may_36 (by decide) ?_
          refine g_eq (b := zi (isTh S one) (zi (isTh S other) (zi (one = other) 2 (zi F 0 2)) 1) 1) (((zi_t c2).trans ((zi_t c3).trans ((zi_f c4).trans (zi_f c5))))).symm ?_
          exact hJ1 ls (lv_sub hl [0, 1, 2, 3] rfl)
    · refine lv_iconst (v := iI 1) hx hb dX3_may_22 rfl ?_
      refine lv_goto (tgt := 40) hx hb dX3_may_23 (by decide) ?_
      refine g_eq (b := zi (isTh S one) (zi (isTh S other) (zi (one = other) 2 (zi F 0 2)) 1) 1) (((zi_t c2).trans (zi_f c3))).symm ?_
      exact hJ1 ls (lv_sub hl [0, 1, 2, 3] rfl)
