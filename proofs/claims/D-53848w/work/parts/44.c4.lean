/-! the beginning of a way, and how it goes on, in the component's numbers -/
theorem bgC_next {S FA : Int → Int} {b one : Int} (hb : 1 ≤ b ∧ b ≤ 3) (kF : rgF FA) {n : Nat} (hn : (n : Int) < 192) :
    bgB S FA b one (n + 1) = zi (¬ FA (n : Int) = 2147483647 ∧ atR S b (n : Int) one ∧ whC S FA b (n : Int) < bgL S FA b one n) (n : Int) (bgB S FA b one n) ∧ bgL S FA b one (n + 1) = zi (¬ FA (n : Int) = 2147483647 ∧ atR S b (n : Int) one ∧ whC S FA b (n : Int) < bgL S FA b one n) (whC S FA b (n : Int)) (bgL S FA b one n) := by
  have r := bg_rng (S := S) (one := one) hb (reF_rg kF) n (by omega)
  have k1 := kF (n : Int) (by omega) hn
  have rk1 := rk_rng S (n : Int) (-1) hb
  have hL : bgL S FA b one n = zi ((bg S (reF FA) b one n).1 = -1) 2147483647 (bg S (reF FA) b one n).2 := rfl
  have eB : bgB S FA b one (n + 1) = zi (reF FA (n : Int) < 1000000) (zi (atR S b (n : Int) one) (zi (reF FA (n : Int) + 1000 * rk S b (n : Int) (-1) < (bg S (reF FA) b one n).2) (n : Int) (bg S (reF FA) b one n).1) (bg S (reF FA) b one n).1) (bg S (reF FA) b one n).1 := rfl
  have eL : (bg S (reF FA) b one (n + 1)).2 = zi (reF FA (n : Int) < 1000000) (zi (atR S b (n : Int) one) (zi (reF FA (n : Int) + 1000 * rk S b (n : Int) (-1) < (bg S (reF FA) b one n).2) (reF FA (n : Int) + 1000 * rk S b (n : Int) (-1)) (bg S (reF FA) b one n).2) (bg S (reF FA) b one n).2) (bg S (reF FA) b one n).2 := rfl
  have hL2 : bgL S FA b one (n + 1) = zi (bgB S FA b one (n + 1) = -1) 2147483647 (bg S (reF FA) b one (n + 1)).2 := rfl
  generalize hPd : (¬ FA (n : Int) = 2147483647 ∧ atR S b (n : Int) one ∧ whC S FA b (n : Int) < bgL S FA b one n) = PP
  by_cases c1 : FA (n : Int) = 2147483647
  · have e1 : ¬ reF FA (n : Int) < 1000000 := fun z => (reF_lt kF (by omega) hn).mp z c1
    rw [zi_f e1] at eB eL
    have nP : ¬ PP := by rw [← hPd]; exact fun z => z.1 c1
    rw [hL2, eB, eL, zi_f nP, zi_f nP]
    exact ⟨rfl, rfl⟩
  · have e1 : reF FA (n : Int) < 1000000 := (reF_lt kF (by omega) hn).mpr c1
    have e2 : reF FA (n : Int) = FA (n : Int) := zi_f c1
    have e3 : whC S FA b (n : Int) = 1000 * rk S b (n : Int) (-1) + FA (n : Int) := zi_f c1
    rw [zi_t e1] at eB eL
    by_cases c2 : atR S b (n : Int) one
    · rw [zi_t c2] at eB eL
      have e4 : whC S FA b (n : Int) < bgL S FA b one n ↔ reF FA (n : Int) + 1000 * rk S b (n : Int) (-1) < (bg S (reF FA) b one n).2 := by
        rw [e2, e3, hL]
        have := zi_or ((bg S (reF FA) b one n).1 = -1) 2147483647 (bg S (reF FA) b one n).2
        have := r.2.2.2.2.2
        omega
      by_cases c3 : reF FA (n : Int) + 1000 * rk S b (n : Int) (-1) < (bg S (reF FA) b one n).2
      · rw [zi_t c3] at eB eL
        have yP : PP := by rw [← hPd]; exact ⟨c1, c2, e4.mpr c3⟩
        have nn : ¬ (n : Int) = -1 := by omega
        rw [hL2, eB, eL, zi_t yP, zi_t yP, zi_f nn, e3, e2]
        exact ⟨rfl, Int.add_comm _ _⟩
      · rw [zi_f c3] at eB eL
        have nP : ¬ PP := by rw [← hPd]; exact fun z => c3 (e4.mp z.2.2)
        rw [hL2, eB, eL, zi_f nP, zi_f nP]
        exact ⟨rfl, rfl⟩
    · rw [zi_f c2] at eB eL
      have nP : ¬ PP := by rw [← hPd]; exact fun z => c2 z.2.1
      rw [hL2, eB, eL, zi_f nP, zi_f nP]
      exact ⟨rfl, rfl⟩
theorem bgL_rng {S FA : Int → Int} {b one : Int} (hb : 1 ≤ b ∧ b ≤ 3) (kF : rgF FA) {n : Nat} (hn : (n : Int) ≤ 192) : (-1 ≤ bgB S FA b one n ∧ bgB S FA b one n ≤ 191) ∧ 0 ≤ bgL S FA b one n ∧ bgL S FA b one n ≤ 2147483647 := by
  have r := bg_rng (S := S) (one := one) hb (reF_rg kF) n (by omega)
  have := zi_or ((bg S (reF FA) b one n).1 = -1) 2147483647 (bg S (reF FA) b one n).2
  unfold bgL
  refine ⟨⟨r.1, ?_⟩, ?_⟩
  · have := r.2.1; show (bg S (reF FA) b one n).1 ≤ 191; omega
  · omega
def stF (S : Int → Int) (b : Int) (FA : Int → Int) : Prop := ∀ q : Int, 0 ≤ q → q < 192 → ¬ FA q = 2147483647 → stP S b q
theorem stF.pl {S FA : Int → Int} {b : Int} (h : stF S b FA) : plF b FA := fun q a c e => ⟨a, by omega, (h q a c e).1.2.2.1, (h q a c e).1.2.2.2⟩
theorem nxC_sq {p d : Int} (h : ¬ nxC p d = -1) : isSq (p % 16 + dx d) (p / 16 + dy d) ∧ nxC p d = 16 * (p / 16 + dy d) + (p % 16 + dx d) := by
  unfold nxC at h ⊢
  rcases zi_or (isSq (p % 16 + dx d) (p / 16 + dy d)) (16 * (p / 16 + dy d) + (p % 16 + dx d)) (-1) with ⟨z, e⟩ | ⟨-, e⟩
  · exact ⟨z, e⟩
  · exact absurd e h
theorem nxM_nxC {S : Int → Int} {b p d : Int} (hb : 1 ≤ b) : nxM S b p d = zi (¬ nxC p d = -1 ∧ stP S b (nxC p d)) (nxC p d) (-1) := by
  by_cases h : nxC p d = -1
  · rw [zi_f (fun z => z.1 h)]
    unfold nxM
    refine zi_f (fun z => ?_)
    have hs : isSq (p % 16 + dx d) (p / 16 + dy d) := ⟨⟨z.1.1, by have := z.1.2.2.1; omega⟩, ⟨z.1.2.1, by have := z.1.2.2.2; omega⟩⟩
    unfold nxC at h
    rw [zi_t hs] at h
    omega
  · obtain ⟨hs, e⟩ := nxC_sq h
    have e1 : nxC p d % 16 = p % 16 + dx d := by omega
    have e2 : nxC p d / 16 = p / 16 + dy d := by omega
    unfold nxM stP
    rw [e1, e2]
    by_cases z : plc S b (p % 16 + dx d) (p / 16 + dy d)
    · rw [zi_t z, zi_t ⟨h, z⟩, e]
    · rw [zi_f z, zi_f (fun y => z y.2)]
theorem zi_3 {t a b : Prop} {x y : Int} : zi t (zi a x (zi b x y)) y = zi (t ∧ (a ∨ b)) x y := by
  by_cases h : t
  · rw [zi_t h]
    by_cases ha : a
    · rw [zi_t ha, zi_t ⟨h, Or.inl ha⟩]
    · rw [zi_f ha]; exact zi_congr ⟨fun z => ⟨h, Or.inr z⟩, fun z => z.2.resolve_left ha⟩
  · rw [zi_f h, zi_f (fun z => h z.1)]
theorem fol_next {S FA : Int → Int} {b p : Int} (hb : 1 ≤ b ∧ b ≤ 3) (kF : rgF FA) (kS : stF S b FA) (hp : 0 ≤ p ∧ p ≤ 191) (hf : ¬ FA p = 2147483647) {n : Nat} (hn : (n : Int) < 4) :
    folN S (reF FA) b p (n + 1) = zi (tkC S FA b p (n : Int) = FA p ∧ (folN S (reF FA) b p n = -1 ∨ nxC p (n : Int) < folN S (reF FA) b p n)) (nxC p (n : Int)) (folN S (reF FA) b p n) := by
  have ep : reF FA p = FA p := zi_f hf
  have kp := kF p hp.1 (by omega)
  have e : folN S (reF FA) b p (n + 1) = zi (nxM S b p (n : Int) = -1) (folN S (reF FA) b p n) (zi (reF FA (nxM S b p (n : Int)) + 1 + 1000 * rk S b (nxM S b p (n : Int)) p = reF FA p) (zi (folN S (reF FA) b p n = -1) (nxM S b p (n : Int)) (zi (nxM S b p (n : Int) < folN S (reF FA) b p n) (nxM S b p (n : Int)) (folN S (reF FA) b p n))) (folN S (reF FA) b p n)) := rfl
  rw [e]
  have hr := nxC_rng p (n : Int)
  by_cases c : ¬ nxC p (n : Int) = -1 ∧ ¬ FA (nxC p (n : Int)) = 2147483647
  · have hst := kS (nxC p (n : Int)) (by omega) (by omega) c.2
    have em : nxM S b p (n : Int) = nxC p (n : Int) := by rw [nxM_nxC hb.1, zi_t ⟨c.1, hst⟩]
    obtain ⟨hs, e1⟩ := nxC_sq c.1
    have er : nrk S b (nxC p (n : Int)) (n : Int) = rk S b (nxC p (n : Int)) p := nrk_rk hb (kS.pl _ (by omega) (by omega) c.2) hp.1 (by omega) (by omega) (by omega)
    have et : tkC S FA b p (n : Int) = 1000 * rk S b (nxC p (n : Int)) p + 1 + FA (nxC p (n : Int)) := by unfold tkC; rw [zi_t c, er]
    have eq : reF FA (nxC p (n : Int)) = FA (nxC p (n : Int)) := zi_f c.2
    rw [em, zi_f c.1, ep, eq, et]
    by_cases c2 : FA (nxC p (n : Int)) + 1 + 1000 * rk S b (nxC p (n : Int)) p = FA p
    · rw [zi_t c2]
      by_cases c3 : folN S (reF FA) b p n = -1
      · rw [zi_t c3, zi_t ⟨by omega, Or.inl c3⟩]
      · rw [zi_f c3]
        exact zi_congr ⟨fun z => ⟨by omega, Or.inr z⟩, fun z => z.2.resolve_left c3⟩
    · rw [zi_f c2, zi_f (fun z => c2 (by have := z.1; omega))]
  · have et : tkC S FA b p (n : Int) = 2147483647 := zi_f c
    have nP : ¬ (2147483647 = FA p ∧ (folN S (reF FA) b p n = -1 ∨ nxC p (n : Int) < folN S (reF FA) b p n)) := fun z => by have := z.1; omega
    rw [et, zi_f nP]
    by_cases c1 : nxM S b p (n : Int) = -1
    · rw [zi_t c1]
    · rw [zi_f c1]
      have hm := nxM_nxC (S := S) (p := p) (d := (n : Int)) hb.1
      by_cases c2 : ¬ nxC p (n : Int) = -1 ∧ stP S b (nxC p (n : Int))
      · rw [zi_t c2] at hm
        have c3 : FA (nxC p (n : Int)) = 2147483647 := Classical.byContradiction fun z => c ⟨c2.1, z⟩
        have eq : reF FA (nxC p (n : Int)) = 1000000 := zi_t c3
        have hk := rk_rng S (nxC p (n : Int)) p hb
        have n2 : ¬ (1000000 + 1 + 1000 * rk S b (nxC p (n : Int)) p = FA p) := by omega
        rw [hm, eq, ep, zi_f n2]
      · rw [zi_f c2] at hm; exact absurd hm c1

theorem hd_X1_begin : yX1_begin.cls = RX1 ∧ yX1_begin.cls ≠ "java/lang/invoke/MethodHandle" ∧ yX1_begin.cls ≠ "java/lang/invoke/VarHandle" ∧ (parseMethodDescriptor yX1_begin.desc).map (fun d => d.parameters.length) = some 1 := by decide +kernel
set_option maxHeartbeats 1000000 in
set_option maxRecDepth 100000 in
theorem m_X1_begin (l : Launch) (G : va_G) (g : Nat → ClassId) (hX : Nat) (one : Int) (xs : List Value) (hst : Nat) (hro : Nat) (hfa : Nat) (br : Int) (ss : List Value) (hsq : Nat) (S : Int → Int) (FA : Int → Int) (b0 : Nat) (ta : Nat) (td : Nat) (E : State → Prop) (kR : ClassId) (kD : ClassId) (kO : ClassId) (hF_xs_0 : xs[0]? = some (.ref hst)) (hF_xs_2 : xs[2]? = some (.ref hro)) (hF_xs_5 : xs[5]? = some (.ref hfa)) (hF_xs_10 : xs[10]? = some (.int (iI br))) (hF_ss_0 : ss[0]? = some (.ref hsq)) (hEE : okE b0 ta td E) (hEL : okL kR kD kO E) (r_one : r32 one) (kS : rgS S) (hbr : 1 ≤ br ∧ br ≤ 3) (kFA : rgF FA) (kST : stF S br FA) (hone : 0 ≤ one ∧ one ≤ 5) : Met l yX1_begin (ws_ yX1_begin cX1_begin 6 (Option.some Jvm.ClassFile.FieldType.int)) ({ frames := 5, cells := 0, slots := 0, locals := 106 }) (va_Pc [.ref hX, .int (iI one)] (rdB G CL (TY g) (E) [(hX, .inr (0, xs)), (hst, .inr (1, ss)), (hsq, .inl (g 0, 192, .inl (aI S))), (hro, .inl (kR, 1, .inr (.inr (.inr (.inr (fun _ => some hX)))))), (hfa, .inl (g 0, 192, .inl (aI FA)))])) (QcRead ((iI (bgB S FA br one 192)))) 0 0 (fun _ => False) := by
  refine Met.at (by decide) (Nat.le_of_ble_eq_true rfl) ?_
  intro p e s m below meth c hx hb hr hlk hml hown hnm hts hB ls hl
  have hown : s.vm.findClass RX1 = some m.cls := hown
  obtain ⟨hP, hK, hEs⟩ := hB
  have hSt : Stab (fun _ => False) E := hEE.no
  have hS : va_S (fun _ => False) s.heap s.heap [] := va_S.rf
  have nw : nW s := (hEE.cs s hEs).2.2.2.2
  have hl : lv_has ls 6 [(0, .ref hX), (1, .int (iI one))] := hl
  have kPF := kST.pl
  refine lv_iconst (v := iI (-1)) hx hb dX1_begin_0 rfl ?_
  refine lv_istore_n (lv' := [(2, .int (iI (-1))), (0, .ref hX), (1, .int (iI one))]) hx hb dX1_begin_1 rfl hl (by decide) rfl (fun ls hl => ?_)
  refine g_ldc (z := 2147483647) hx hb hown (hts _ q464) (by decide) dX1_begin_2 ?_
  refine lv_istore_n (lv' := [(3, .int (iI 2147483647)), (2, .int (iI (-1))), (0, .ref hX), (1, .int (iI one))]) hx hb dX1_begin_4 rfl hl (by decide) rfl (fun ls hl => ?_)
  refine lv_iconst (v := iI 0) hx hb dX1_begin_5 rfl ?_
  refine lv_istore (lv' := [(4, .int (iI 0)), (3, .int (iI 2147483647)), (2, .int (iI (-1))), (0, .ref hX), (1, .int (iI one))]) hx hb dX1_begin_6 hl (by decide) rfl (fun ls hl => ?_)
  have lp8 : ∀ (n : Nat) (k : Nat), ((k : Int) ≤ 192) → 192 - k = n → ∀ ls : Array Slot, lv_has ls 6 [(0, .ref hX), (1, .int (iI one)), (2, .int (iI (bgB S FA br one k))), (3, .int (iI (bgL S FA br one k))), (4, .int (iI (k : Int)))] → W p l e ({ frames := 5, cells := 0, slots := 0, locals := 106 }) s m ([.ref hX, .int (iI one)] : List Value).toArray below meth c s.heap [] 0 0 (MQ below (QcRead ((iI (bgB S FA br one 192)))) ([.ref hX, .int (iI one)] : List Value).toArray s 0 0 (fun _ => False)) (F0 m 8 ls []) := by
    intro n
    refine Nat.strongRecOn n ?_
    intro n ih8 k hk hmu8 ls hl
    have fr := bgL_rng (S := S) (one := one) hbr kFA hk
    refine lv_iload hx hb dX1_begin_8 (lv_at hl 4 rfl) ?_
    refine lv_sipush (v := iI 192) hx hb dX1_begin_10 rfl ?_
    refine g_icmp_ge (tgt := 89) hx hb dX1_begin_13 (by decide) ⟨⟨by omega, by omega⟩, ⟨by decide, by decide⟩⟩ (fun c1 => ?_) (fun c1 => ?_)
    · refine lv_iload_n hx hb dX1_begin_89 rfl (lv_at hl 2 rfl) ?_
      exact g_iret hx hb hr hlk (by rw [show k = 192 from by omega]) dX1_begin_90
    · refine lv_aload_n hx hb dX1_begin_16 rfl (lv_at hl 0 rfl) ?_
      refine va_get (D := G) (ci := 0) (v := .ref hfa) (C := RX1) (T := TX1) (N := 13) hx hb hts in_X1 hown hK hP 0 rfl rfl 5 (by decide) (hts _ q253) (fun _ h9 => h9) hF_xs_5 dX1_begin_17 ?_
      refine lv_iload hx hb dX1_begin_20 (lv_at hl 4 rfl) ?_
      refine g_iald hx hb hK hP 4 0 rfl rfl (i := (k : Int)) (⟨by omega, by omega⟩) (by decide) dX1_begin_22 ?_
      have w2 := kFA (k : Int) (by omega) (by omega)
      refine g_ldc (z := 2147483647) hx hb hown (hts _ q464) (by decide) dX1_begin_23 ?_
      have hJ3 : ∀ ls : Array Slot, lv_has ls 6 [(0, .ref hX), (1, .int (iI one)), (2, .int (iI (bgB S FA br one k))), (3, .int (iI (bgL S FA br one k))), (4, .int (iI (k : Int)))] → W p l e ({ frames := 5, cells := 0, slots := 0, locals := 106 }) s m ([.ref hX, .int (iI one)] : List Value).toArray below meth c s.heap [] 0 0 (MQ below (QcRead ((iI (bgB S FA br one 192)))) ([.ref hX, .int (iI one)] : List Value).toArray s 0 0 (fun _ => False)) (F0 m 53 ls [.int (iI (qz (¬ ((FA (k : Int)) = 2147483647) ∧ ((atR S br (k : Int) one) ∧ ((whC S FA br (k : Int)) < (bgL S FA br one k))))))]) := by
        intro ls hl
        refine lv_istore (lv' := [(5, .int (iI (qz (¬ ((FA (k : Int)) = 2147483647) ∧ ((atR S br (k : Int) one) ∧ ((whC S FA br (k : Int)) < (bgL S FA br one k))))))), (0, .ref hX), (1, .int (iI one)), (2, .int (iI (bgB S FA br one k))), (3, .int (iI (bgL S FA br one k))), (4, .int (iI (k : Int)))]) hx hb dX1_begin_53 hl (by decide) rfl (fun ls hl => ?_)
        refine lv_iload hx hb dX1_begin_55 (lv_at hl 0 rfl) ?_
        have hJ4 : ∀ ls : Array Slot, lv_has ls 6 [(0, .ref hX), (1, .int (iI one)), (2, .int (iI (bgB S FA br one k))), (3, .int (iI (bgL S FA br one k))), (4, .int (iI (k : Int))), (5, .int (iI (qz (¬ ((FA (k : Int)) = 2147483647) ∧ ((atR S br (k : Int) one) ∧ ((whC S FA br (k : Int)) < (bgL S FA br one k)))))))] → W p l e ({ frames := 5, cells := 0, slots := 0, locals := 106 }) s m ([.ref hX, .int (iI one)] : List Value).toArray below meth c s.heap [] 0 0 (MQ below (QcRead ((iI (bgB S FA br one 192)))) ([.ref hX, .int (iI one)] : List Value).toArray s 0 0 (fun _ => False)) (F0 m 66 ls [.int (iI (zi (¬ ((FA (k : Int)) = 2147483647) ∧ ((atR S br (k : Int) one) ∧ ((whC S FA br (k : Int)) < (bgL S FA br one k)))) (k : Int) (bgB S FA br one k)))]) := by
          intro ls hl
          have o6 := zi_or (¬ ((FA (k : Int)) = 2147483647) ∧ ((atR S br (k : Int) one) ∧ ((whC S FA br (k : Int)) < (bgL S FA br one k)))) (k : Int) (bgB S FA br one k)
          obtain ⟨v5, e_v5⟩ : ∃ z : Int, z = zi (¬ ((FA (k : Int)) = 2147483647) ∧ ((atR S br (k : Int) one) ∧ ((whC S FA br (k : Int)) < (bgL S FA br one k)))) (k : Int) (bgB S FA br one k) := ⟨_, rfl⟩
          refine g_eq e_v5.symm ?_
          refine lv_istore_n (lv' := [(2, .int (iI v5)), (0, .ref hX), (1, .int (iI one)), (3, .int (iI (bgL S FA br one k))), (4, .int (iI (k : Int))), (5, .int (iI (qz (¬ ((FA (k : Int)) = 2147483647) ∧ ((atR S br (k : Int) one) ∧ ((whC S FA br (k : Int)) < (bgL S FA br one k)))))))]) hx hb dX1_begin_66 rfl hl (by decide) rfl (fun ls hl => ?_)
          refine lv_iload hx hb dX1_begin_67 (lv_at hl 5 rfl) ?_
          have hJ7 : ∀ ls : Array Slot, lv_has ls 6 [(0, .ref hX), (1, .int (iI one)), (2, .int (iI v5)), (3, .int (iI (bgL S FA br one k))), (4, .int (iI (k : Int))), (5, .int (iI (qz (¬ ((FA (k : Int)) = 2147483647) ∧ ((atR S br (k : Int) one) ∧ ((whC S FA br (k : Int)) < (bgL S FA br one k)))))))] → W p l e ({ frames := 5, cells := 0, slots := 0, locals := 106 }) s m ([.ref hX, .int (iI one)] : List Value).toArray below meth c s.heap [] 0 0 (MQ below (QcRead ((iI (bgB S FA br one 192)))) ([.ref hX, .int (iI one)] : List Value).toArray s 0 0 (fun _ => False)) (F0 m 82 ls [.int (iI (zi (¬ ((FA (k : Int)) = 2147483647) ∧ ((atR S br (k : Int) one) ∧ ((whC S FA br (k : Int)) < (bgL S FA br one k)))) (whC S FA br (k : Int)) (bgL S FA br one k)))]) := by
            intro ls hl
            have o9 := zi_or (¬ ((FA (k : Int)) = 2147483647) ∧ ((atR S br (k : Int) one) ∧ ((whC S FA br (k : Int)) < (bgL S FA br one k)))) (whC S FA br (k : Int)) (bgL S FA br one k)
            obtain ⟨v8, e_v8⟩ : ∃ z : Int, z = zi (¬ ((FA (k : Int)) = 2147483647) ∧ ((atR S br (k : Int) one) ∧ ((whC S FA br (k : Int)) < (bgL S FA br one k)))) (whC S FA br (k : Int)) (bgL S FA br one k) := ⟨_, rfl⟩
            refine g_eq e_v8.symm ?_
            refine lv_istore_n (lv' := [(3, .int (iI v8)), (0, .ref hX), (1, .int (iI one)), (2, .int (iI v5)), (4, .int (iI (k : Int))), (5, .int (iI (qz (¬ ((FA (k : Int)) = 2147483647) ∧ ((atR S br (k : Int) one) ∧ ((whC S FA br (k : Int)) < (bgL S FA br one k)))))))]) hx hb dX1_begin_82 rfl hl (by decide) rfl (fun ls hl => ?_)
            refine g_iinc (lv' := [(4, .int (iI ((k : Int) + 1))), (3, .int (iI v8)), (0, .ref hX), (1, .int (iI one)), (2, .int (iI v5)), (5, .int (iI (qz (¬ ((FA (k : Int)) = 2147483647) ∧ ((atR S br (k : Int) one) ∧ ((whC S FA br (k : Int)) < (bgL S FA br one k)))))))]) hx hb dX1_begin_83 hl (k := 4) rfl (by decide) rfl (fun ls hl => ?_)
            refine lv_goto (tgt := 8) hx hb dX1_begin_86 (by decide) ?_
            exact ih8 _ (by omega) (k + 1) (by omega) rfl ls (by rw [show bgB S FA br one (k + 1) = v5 from by rw [e_v5]; exact (bgC_next hbr kFA (by omega)).1, show bgL S FA br one (k + 1) = v8 from by rw [e_v8]; exact (bgC_next hbr kFA (by omega)).2]; exact lv_sub hl [2, 3, 4, 1, 0] rfl)
          refine g_ifq_eq (tgt := 81) hx hb dX1_begin_69 (by decide) (fun c10 => ?_) (fun c10 => ?_)
          · refine lv_iload_n hx hb dX1_begin_81 rfl (lv_at hl 3 rfl) ?_
            refine g_eq (b := zi (¬ ((FA (k : Int)) = 2147483647) ∧ ((atR S br (k : Int) one) ∧ ((whC S FA br (k : Int)) < (bgL S FA br one k)))) (whC S FA br (k : Int)) (bgL S FA br one k)) ((zi_f c10)).symm ?_
            exact hJ7 ls (lv_sub hl [1, 2, 0, 3, 4, 5] rfl)
          · refine lv_aload_n hx hb dX1_begin_72 rfl (lv_at hl 1 rfl) ?_
            refine lv_iload hx hb dX1_begin_73 (lv_at hl 4 rfl) ?_
            refine g_callV (A := fun _ => False) (As := [.int (iI (k : Int))]) (rest := []) (m_X1_whole l G g hX (k : Int) xs hst hro hfa br ss hsq S FA b0 ta td E kR kD kO hF_xs_0 hF_xs_2 hF_xs_5 hF_xs_10 hF_ss_0 hEE hEL (⟨by omega, by omega⟩) kS hbr kFA (kPF) (by omega)) hx hb hml hown hts hSt hK hP va_S.rf hEs [0, 1, 2, 3, 4] rfl (q0 := 0) rfl rfl q528 q530 qs19 q94 q531 hd_X1_whole rfl rfl ⟨Nat.le_of_ble_eq_true rfl, Nat.le_of_ble_eq_true rfl⟩ rfl hl rfl (Nat.le_of_ble_eq_true rfl) ⟨Nat.le_refl _, Nat.le_refl _⟩ dX1_begin_75 ?_
            have w11 := whC_rng (S := S) (p := (k : Int)) hbr kFA (by omega)
            refine lv_goto (tgt := 82) hx hb dX1_begin_78 (by decide) ?_
            refine g_eq (b := zi (¬ ((FA (k : Int)) = 2147483647) ∧ ((atR S br (k : Int) one) ∧ ((whC S FA br (k : Int)) < (bgL S FA br one k)))) (whC S FA br (k : Int)) (bgL S FA br one k)) ((zi_t c10)).symm ?_
            exact hJ7 ls (lv_sub hl [1, 2, 0, 3, 4, 5] rfl)
        refine g_ifq_eq (tgt := 65) hx hb dX1_begin_57 (by decide) (fun c12 => ?_) (fun c12 => ?_)
        · refine lv_iload_n hx hb dX1_begin_65 rfl (lv_at hl 3 rfl) ?_
          refine g_eq (b := zi (¬ ((FA (k : Int)) = 2147483647) ∧ ((atR S br (k : Int) one) ∧ ((whC S FA br (k : Int)) < (bgL S FA br one k)))) (k : Int) (bgB S FA br one k)) ((zi_f c12)).symm ?_
          exact hJ4 ls (lv_sub hl [1, 2, 3, 4, 5, 0] rfl)
        · refine lv_iload hx hb dX1_begin_60 (lv_at hl 5 rfl) ?_
          refine lv_goto (tgt := 66) hx hb dX1_begin_62 (by decide) ?_
          refine g_eq (b := zi (¬ ((FA (k : Int)) = 2147483647) ∧ ((atR S br (k : Int) one) ∧ ((whC S FA br (k : Int)) < (bgL S FA br one k)))) (k : Int) (bgB S FA br one k)) ((zi_t c12)).symm ?_
          exact hJ4 ls (lv_sub hl [1, 2, 3, 4, 5, 0] rfl)
      refine g_icmp_eq (tgt := 52) hx hb dX1_begin_25 (by decide) ⟨⟨by omega, by omega⟩, ⟨by decide, by decide⟩⟩ (fun c13 => ?_) (fun c13 => ?_)
      · refine lv_iconst (v := iI 0) hx hb dX1_begin_52 rfl ?_
        refine g_eq (b := qz (¬ ((FA (k : Int)) = 2147483647) ∧ ((atR S br (k : Int) one) ∧ ((whC S FA br (k : Int)) < (bgL S FA br one k))))) (qz_f (fun xx => (xx.1 c13))).symm ?_
        exact hJ3 ls (lv_sub hl [0, 1, 2, 3, 4] rfl)
      · refine lv_aload_n hx hb dX1_begin_28 rfl (lv_at hl 0 rfl) ?_
        refine lv_iload hx hb dX1_begin_29 (lv_at hl 4 rfl) ?_
        refine lv_iload_n hx hb dX1_begin_31 rfl (lv_at hl 1 rfl) ?_
        refine g_callV (A := fun _ => False) (As := [.int (iI (k : Int)), .int (iI one)]) (rest := []) (m_X1_isAt l G g hX (k : Int) one xs hst br ss hsq S b0 ta td E hF_xs_0 hF_xs_10 hF_ss_0 hEE (⟨by omega, by omega⟩) r_one kS hbr (kPF _ (by omega) (by omega) (by assumption)) (by omega)) hx hb hml hown hts hSt hK hP va_S.rf hEs [0, 1, 2] rfl (q0 := 0) rfl rfl q499 q501 qs15 q94 q502 hd_X1_isAt rfl rfl ⟨Nat.le_of_ble_eq_true rfl, Nat.le_of_ble_eq_true rfl⟩ rfl hl rfl (Nat.le_of_ble_eq_true rfl) ⟨Nat.le_refl _, Nat.le_refl _⟩ dX1_begin_32 ?_
        refine g_ifq_eq (tgt := 52) hx hb dX1_begin_35 (by decide) (fun c14 => ?_) (fun c14 => ?_)
        · refine lv_iconst (v := iI 0) hx hb dX1_begin_52 rfl ?_
          refine g_eq (b := qz (¬ ((FA (k : Int)) = 2147483647) ∧ ((atR S br (k : Int) one) ∧ ((whC S FA br (k : Int)) < (bgL S FA br one k))))) (qz_f (fun xx => (c14 xx.2.1))).symm ?_
          exact hJ3 ls (lv_sub hl [0, 1, 2, 3, 4] rfl)
        · refine lv_aload_n hx hb dX1_begin_38 rfl (lv_at hl 0 rfl) ?_
          refine lv_iload hx hb dX1_begin_39 (lv_at hl 4 rfl) ?_
          refine g_callV (A := fun _ => False) (As := [.int (iI (k : Int))]) (rest := []) (m_X1_whole l G g hX (k : Int) xs hst hro hfa br ss hsq S FA b0 ta td E kR kD kO hF_xs_0 hF_xs_2 hF_xs_5 hF_xs_10 hF_ss_0 hEE hEL (⟨by omega, by omega⟩) kS hbr kFA (kPF) (by omega)) hx hb hml hown hts hSt hK hP va_S.rf hEs [0, 1, 2, 3, 4] rfl (q0 := 0) rfl rfl q528 q530 qs19 q94 q531 hd_X1_whole rfl rfl ⟨Nat.le_of_ble_eq_true rfl, Nat.le_of_ble_eq_true rfl⟩ rfl hl rfl (Nat.le_of_ble_eq_true rfl) ⟨Nat.le_refl _, Nat.le_refl _⟩ dX1_begin_41 ?_
          have w15 := whC_rng (S := S) (p := (k : Int)) hbr kFA (by omega)
          refine lv_iload_n hx hb dX1_begin_44 rfl (lv_at hl 3 rfl) ?_
          refine g_icmp_ge (tgt := 52) hx hb dX1_begin_45 (by decide) ⟨⟨by omega, by omega⟩, ⟨by omega, by omega⟩⟩ (fun c16 => ?_) (fun c16 => ?_)
          · refine lv_iconst (v := iI 0) hx hb dX1_begin_52 rfl ?_
            refine g_eq (b := qz (¬ ((FA (k : Int)) = 2147483647) ∧ ((atR S br (k : Int) one) ∧ ((whC S FA br (k : Int)) < (bgL S FA br one k))))) (qz_f (fun xx => (c16 xx.2.2))).symm ?_
            exact hJ3 ls (lv_sub hl [0, 1, 2, 3, 4] rfl)
          · refine lv_iconst (v := iI 1) hx hb dX1_begin_48 rfl ?_
            refine lv_goto (tgt := 53) hx hb dX1_begin_49 (by decide) ?_
            refine g_eq (b := qz (¬ ((FA (k : Int)) = 2147483647) ∧ ((atR S br (k : Int) one) ∧ ((whC S FA br (k : Int)) < (bgL S FA br one k))))) (qz_t ⟨c13, ⟨c14, c16⟩⟩).symm ?_
            exact hJ3 ls (lv_sub hl [0, 1, 2, 3, 4] rfl)
  exact lp8 _ 0 (by omega) rfl ls (by rw [show bgL S FA br one 0 = 2147483647 from zi_t rfl]; exact lv_sub hl [3, 4, 2, 1, 0] rfl)
theorem hd_X1_goOn : yX1_goOn.cls = RX1 ∧ yX1_goOn.cls ≠ "java/lang/invoke/MethodHandle" ∧ yX1_goOn.cls ≠ "java/lang/invoke/VarHandle" ∧ (parseMethodDescriptor yX1_goOn.desc).map (fun d => d.parameters.length) = some 1 := by decide +kernel
set_option maxHeartbeats 1000000 in
set_option maxRecDepth 100000 in
theorem m_X1_goOn (l : Launch) (G : va_G) (g : Nat → ClassId) (hX : Nat) (place : Int) (xs : List Value) (hst : Nat) (hro : Nat) (hfa : Nat) (br : Int) (ss : List Value) (hsq : Nat) (S : Int → Int) (FA : Int → Int) (b0 : Nat) (ta : Nat) (td : Nat) (E : State → Prop) (kR : ClassId) (kD : ClassId) (kO : ClassId) (hF_xs_0 : xs[0]? = some (.ref hst)) (hF_xs_2 : xs[2]? = some (.ref hro)) (hF_xs_5 : xs[5]? = some (.ref hfa)) (hF_xs_10 : xs[10]? = some (.int (iI br))) (hF_ss_0 : ss[0]? = some (.ref hsq)) (hEE : okE b0 ta td E) (hEL : okL kR kD kO E) (r_place : r32 place) (kS : rgS S) (hbr : 1 ≤ br ∧ br ≤ 3) (kFA : rgF FA) (kST : stF S br FA) (hp : 0 ≤ place ∧ place ≤ 191) (hf : ¬ FA place = 2147483647) : Met l yX1_goOn (ws_ yX1_goOn cX1_goOn 6 (Option.some Jvm.ClassFile.FieldType.int)) ({ frames := 5, cells := 0, slots := 0, locals := 112 }) (va_Pc [.ref hX, .int (iI place)] (rdB G CL (TY g) (E) [(hX, .inr (0, xs)), (hst, .inr (1, ss)), (hsq, .inl (g 0, 192, .inl (aI S))), (hro, .inl (kR, 1, .inr (.inr (.inr (.inr (fun _ => some hX)))))), (hfa, .inl (g 0, 192, .inl (aI FA)))])) (QcRead ((iI (folN S (reF FA) br place 4)))) 0 0 (fun _ => False) := by
  refine Met.at (by decide) (Nat.le_of_ble_eq_true rfl) ?_
  intro p e s m below meth c hx hb hr hlk hml hown hnm hts hB ls hl
  have hown : s.vm.findClass RX1 = some m.cls := hown
  obtain ⟨hP, hK, hEs⟩ := hB
  have hSt : Stab (fun _ => False) E := hEE.no
  have hS : va_S (fun _ => False) s.heap s.heap [] := va_S.rf
  have nw : nW s := (hEE.cs s hEs).2.2.2.2
  have hl : lv_has ls 6 [(0, .ref hX), (1, .int (iI place))] := hl
  have kPF := kST.pl
  refine lv_iconst (v := iI (-1)) hx hb dX1_goOn_0 rfl ?_
  refine lv_istore_n (lv' := [(2, .int (iI (-1))), (0, .ref hX), (1, .int (iI place))]) hx hb dX1_goOn_1 rfl hl (by decide) rfl (fun ls hl => ?_)
  refine lv_iconst (v := iI 0) hx hb dX1_goOn_2 rfl ?_
  refine lv_istore_n (lv' := [(3, .int (iI 0)), (2, .int (iI (-1))), (0, .ref hX), (1, .int (iI place))]) hx hb dX1_goOn_3 rfl hl (by decide) rfl (fun ls hl => ?_)
  have lp4 : ∀ (n : Nat) (k : Nat), ((k : Int) ≤ 4) → 4 - k = n → ∀ ls : Array Slot, lv_has ls 6 [(0, .ref hX), (1, .int (iI place)), (2, .int (iI (folN S (reF FA) br place k))), (3, .int (iI (k : Int)))] → W p l e ({ frames := 5, cells := 0, slots := 0, locals := 112 }) s m ([.ref hX, .int (iI place)] : List Value).toArray below meth c s.heap [] 0 0 (MQ below (QcRead ((iI (folN S (reF FA) br place 4)))) ([.ref hX, .int (iI place)] : List Value).toArray s 0 0 (fun _ => False)) (F0 m 4 ls []) := by
    intro n
    refine Nat.strongRecOn n ?_
    intro n ih4 k hk hmu4 ls hl
    have fr := folN_rng S (reF FA) (b := br) place hbr.1 k
    refine lv_iload_n hx hb dX1_goOn_4 rfl (lv_at hl 3 rfl) ?_
    refine lv_iconst (v := iI 4) hx hb dX1_goOn_5 rfl ?_
    refine g_icmp_ge (tgt := 67) hx hb dX1_goOn_6 (by decide) ⟨⟨by omega, by omega⟩, ⟨by decide, by decide⟩⟩ (fun c1 => ?_) (fun c1 => ?_)
    · refine lv_iload_n hx hb dX1_goOn_67 rfl (lv_at hl 2 rfl) ?_
      exact g_iret hx hb hr hlk (by rw [show k = 4 from by omega]) dX1_goOn_68
    · refine lv_aload_n hx hb dX1_goOn_9 rfl (lv_at hl 0 rfl) ?_
      refine lv_iload_n hx hb dX1_goOn_10 rfl (lv_at hl 1 rfl) ?_
      refine lv_iload_n hx hb dX1_goOn_11 rfl (lv_at hl 3 rfl) ?_
      refine g_callV (A := fun _ => False) (As := [.int (iI place), .int (iI (k : Int))]) (rest := []) (m_X1_takes l G g hX place (k : Int) xs hst hro hfa br ss hsq S FA b0 ta td E kR kD kO hF_xs_0 hF_xs_2 hF_xs_5 hF_xs_10 hF_ss_0 hEE hEL r_place (⟨by omega, by omega⟩) kS hbr kFA (kPF) hp (by omega)) hx hb hml hown hts hSt hK hP va_S.rf hEs [0, 1, 2, 3, 4] rfl (q0 := 0) rfl rfl q512 q514 qs16 q94 q515 hd_X1_takes rfl rfl ⟨Nat.le_of_ble_eq_true rfl, Nat.le_of_ble_eq_true rfl⟩ rfl hl rfl (Nat.le_of_ble_eq_true rfl) ⟨Nat.le_refl _, Nat.le_refl _⟩ dX1_goOn_12 ?_
      have w2 := tkC_rng (S := S) (p := place) (d := (k : Int)) hbr kFA
      refine lv_aload_n hx hb dX1_goOn_15 rfl (lv_at hl 0 rfl) ?_
      refine va_get (D := G) (ci := 0) (v := .ref hfa) (C := RX1) (T := TX1) (N := 13) hx hb hts in_X1 hown hK hP 0 rfl rfl 5 (by decide) (hts _ q253) (fun _ h9 => h9) hF_xs_5 dX1_goOn_16 ?_
      refine lv_iload_n hx hb dX1_goOn_19 rfl (lv_at hl 1 rfl) ?_
      refine g_iald hx hb hK hP 4 0 rfl rfl (i := place) (⟨by omega, by omega⟩) (by decide) dX1_goOn_20 ?_
      have w3 := kFA place (by omega) (by omega)
      have hJ4 : ∀ ls : Array Slot, lv_has ls 6 [(0, .ref hX), (1, .int (iI place)), (2, .int (iI (folN S (reF FA) br place k))), (3, .int (iI (k : Int)))] → W p l e ({ frames := 5, cells := 0, slots := 0, locals := 112 }) s m ([.ref hX, .int (iI place)] : List Value).toArray below meth c s.heap [] 0 0 (MQ below (QcRead ((iI (folN S (reF FA) br place 4)))) ([.ref hX, .int (iI place)] : List Value).toArray s 0 0 (fun _ => False)) (F0 m 29 ls [.int (iI (qz ((tkC S FA br place (k : Int)) = (FA place))))]) := by
        intro ls hl
        refine lv_istore (lv' := [(4, .int (iI (qz ((tkC S FA br place (k : Int)) = (FA place))))), (0, .ref hX), (1, .int (iI place)), (2, .int (iI (folN S (reF FA) br place k))), (3, .int (iI (k : Int)))]) hx hb dX1_goOn_29 hl (by decide) rfl (fun ls hl => ?_)
        refine lv_iload_n hx hb dX1_goOn_31 rfl (lv_at hl 2 rfl) ?_
        refine lv_iload_n hx hb dX1_goOn_32 rfl (lv_at hl 4 rfl) ?_
        refine g_callS (A := fun _ => False) (As := [.int (iI place), .int (iI (k : Int))]) (rest := []) (m_X1_next l G g place (k : Int) b0 ta td E hEE r_place (⟨by omega, by omega⟩) hp (by omega)) hx hb hml hown hts hSt hK hP va_S.rf hEs [] rfl q503 q504 q94 q505 hd_X1_next rfl rfl ⟨Nat.le_of_ble_eq_true rfl, Nat.le_of_ble_eq_true rfl⟩ rfl hl rfl (Nat.le_of_ble_eq_true rfl) ⟨Nat.le_refl _, Nat.le_refl _⟩ dX1_goOn_33 ?_
        have w5 := nxC_rng place (k : Int)
        refine lv_istore (lv' := [(5, .int (iI (nxC place (k : Int)))), (4, .int (iI (qz ((tkC S FA br place (k : Int)) = (FA place))))), (0, .ref hX), (1, .int (iI place)), (2, .int (iI (folN S (reF FA) br place k))), (3, .int (iI (k : Int)))]) hx hb dX1_goOn_36 hl (by decide) rfl (fun ls hl => ?_)
        refine lv_iload hx hb dX1_goOn_38 (lv_at hl 1 rfl) ?_
        have hJ6 : ∀ ls : Array Slot, lv_has ls 6 [(0, .ref hX), (1, .int (iI place)), (2, .int (iI (folN S (reF FA) br place k))), (3, .int (iI (k : Int))), (4, .int (iI (qz ((tkC S FA br place (k : Int)) = (FA place))))), (5, .int (iI (nxC place (k : Int))))] → W p l e ({ frames := 5, cells := 0, slots := 0, locals := 112 }) s m ([.ref hX, .int (iI place)] : List Value).toArray below meth c s.heap [] 0 0 (MQ below (QcRead ((iI (folN S (reF FA) br place 4)))) ([.ref hX, .int (iI place)] : List Value).toArray s 0 0 (fun _ => False)) (F0 m 60 ls [.int (iI (zi ((tkC S FA br place (k : Int)) = (FA place)) (zi ((folN S (reF FA) br place k) = (-1)) (nxC place (k : Int)) (zi ((nxC place (k : Int)) < (folN S (reF FA) br place k)) (nxC place (k : Int)) (folN S (reF FA) br place k))) (folN S (reF FA) br place k)))]) := by
          intro ls hl
          have o8 := zi_or ((tkC S FA br place (k : Int)) = (FA place)) (zi ((folN S (reF FA) br place k) = (-1)) (nxC place (k : Int)) (zi ((nxC place (k : Int)) < (folN S (reF FA) br place k)) (nxC place (k : Int)) (folN S (reF FA) br place k))) (folN S (reF FA) br place k)
          have o9 := zi_or ((folN S (reF FA) br place k) = (-1)) (nxC place (k : Int)) (zi ((nxC place (k : Int)) < (folN S (reF FA) br place k)) (nxC place (k : Int)) (folN S (reF FA) br place k))
          have o10 := zi_or ((nxC place (k : Int)) < (folN S (reF FA) br place k)) (nxC place (k : Int)) (folN S (reF FA) br place k)
          obtain ⟨v7, e_v7⟩ : ∃ z : Int, z = zi ((tkC S FA br place (k : Int)) = (FA place)) (zi ((folN S (reF FA) br place k) = (-1)) (nxC place (k : Int)) (zi ((nxC place (k : Int)) < (folN S (reF FA) br place k)) (nxC place (k : Int)) (folN S (reF FA) br place k))) (folN S (reF FA) br place k) := ⟨_, rfl⟩
          refine g_eq e_v7.symm ?_
          refine lv_istore_n (lv' := [(2, .int (iI v7)), (0, .ref hX), (1, .int (iI place)), (3, .int (iI (k : Int))), (4, .int (iI (qz ((tkC S FA br place (k : Int)) = (FA place))))), (5, .int (iI (nxC place (k : Int))))]) hx hb dX1_goOn_60 rfl hl (by decide) rfl (fun ls hl => ?_)
          refine g_iinc (lv' := [(3, .int (iI ((k : Int) + 1))), (2, .int (iI v7)), (0, .ref hX), (1, .int (iI place)), (4, .int (iI (qz ((tkC S FA br place (k : Int)) = (FA place))))), (5, .int (iI (nxC place (k : Int))))]) hx hb dX1_goOn_61 hl (k := 3) rfl (by decide) rfl (fun ls hl => ?_)
          refine lv_goto (tgt := 4) hx hb dX1_goOn_64 (by decide) ?_
          exact ih4 _ (by omega) (k + 1) (by omega) rfl ls (by rw [show folN S (reF FA) br place (k + 1) = v7 from by rw [e_v7]; exact (fol_next hbr kFA kST hp hf (by omega)).trans zi_3.symm]; exact lv_sub hl [2, 3, 1, 0] rfl)
        refine g_ifq_eq (tgt := 59) hx hb dX1_goOn_40 (by decide) (fun c11 => ?_) (fun c11 => ?_)
        · refine lv_iload_n hx hb dX1_goOn_59 rfl (lv_at hl 4 rfl) ?_
          refine g_eq (b := zi ((tkC S FA br place (k : Int)) = (FA place)) (zi ((folN S (reF FA) br place k) = (-1)) (nxC place (k : Int)) (zi ((nxC place (k : Int)) < (folN S (reF FA) br place k)) (nxC place (k : Int)) (folN S (reF FA) br place k))) (folN S (reF FA) br place k)) ((zi_f c11)).symm ?_
          exact hJ6 ls (lv_sub hl [2, 3, 4, 5, 1, 0] rfl)
        · refine lv_iload_n hx hb dX1_goOn_43 rfl (lv_at hl 4 rfl) ?_
          refine lv_iconst (v := iI (-1)) hx hb dX1_goOn_44 rfl ?_
          refine g_icmp_eq (tgt := 54) hx hb dX1_goOn_45 (by decide) ⟨⟨by omega, by omega⟩, ⟨by decide, by decide⟩⟩ (fun c12 => ?_) (fun c12 => ?_)
          · refine lv_iload hx hb dX1_goOn_54 (lv_at hl 0 rfl) ?_
            refine lv_goto (tgt := 60) hx hb dX1_goOn_56 (by decide) ?_
            refine g_eq (b := zi ((tkC S FA br place (k : Int)) = (FA place)) (zi ((folN S (reF FA) br place k) = (-1)) (nxC place (k : Int)) (zi ((nxC place (k : Int)) < (folN S (reF FA) br place k)) (nxC place (k : Int)) (folN S (reF FA) br place k))) (folN S (reF FA) br place k)) (((zi_t c11).trans (zi_t c12))).symm ?_
            exact hJ6 ls (lv_sub hl [2, 3, 4, 5, 1, 0] rfl)
          · refine lv_iload hx hb dX1_goOn_48 (lv_at hl 0 rfl) ?_
            refine lv_iload_n hx hb dX1_goOn_50 rfl (lv_at hl 4 rfl) ?_
            refine g_icmp_ge (tgt := 59) hx hb dX1_goOn_51 (by decide) ⟨⟨by omega, by omega⟩, ⟨by omega, by omega⟩⟩ (fun c13 => ?_) (fun c13 => ?_)
            · refine lv_iload_n hx hb dX1_goOn_59 rfl (lv_at hl 4 rfl) ?_
              refine g_eq (b := zi ((tkC S FA br place (k : Int)) = (FA place)) (zi ((folN S (reF FA) br place k) = (-1)) (nxC place (k : Int)) (zi ((nxC place (k : Int)) < (folN S (reF FA) br place k)) (nxC place (k : Int)) (folN S (reF FA) br place k))) (folN S (reF FA) br place k)) (((zi_t c11).trans ((zi_f c12).trans (zi_f c13)))).symm ?_
              exact hJ6 ls (lv_sub hl [2, 3, 4, 5, 1, 0] rfl)
            · refine lv_iload hx hb dX1_goOn_54 (lv_at hl 0 rfl) ?_
              refine lv_goto (tgt := 60) hx hb dX1_goOn_56 (by decide) ?_
              refine g_eq (b := zi ((tkC S FA br place (k : Int)) = (FA place)) (zi ((folN S (reF FA) br place k) = (-1)) (nxC place (k : Int)) (zi ((nxC place (k : Int)) < (folN S (reF FA) br place k)) (nxC place (k : Int)) (folN S (reF FA) br place k))) (folN S (reF FA) br place k)) (((zi_t c11).trans ((zi_f c12).trans (zi_t c13)))).symm ?_
              exact hJ6 ls (lv_sub hl [2, 3, 4, 5, 1, 0] rfl)
      refine g_icmp_ne (tgt := 28) hx hb dX1_goOn_21 (by decide) ⟨⟨by omega, by omega⟩, ⟨by omega, by omega⟩⟩ (fun c14 => ?_) (fun c14 => ?_)
      · refine lv_iconst (v := iI 0) hx hb dX1_goOn_28 rfl ?_
        refine g_eq (b := qz ((tkC S FA br place (k : Int)) = (FA place))) (qz_f (fun xx => (c14 xx))).symm ?_
        exact hJ4 ls (lv_sub hl [0, 1, 2, 3] rfl)
      · refine lv_iconst (v := iI 1) hx hb dX1_goOn_24 rfl ?_
        refine lv_goto (tgt := 29) hx hb dX1_goOn_25 (by decide) ?_
        refine g_eq (b := qz ((tkC S FA br place (k : Int)) = (FA place))) (qz_t c14).symm ?_
        exact hJ4 ls (lv_sub hl [0, 1, 2, 3] rfl)
  exact lp4 _ 0 (by omega) rfl ls (lv_sub hl [2, 3, 1, 0] rfl)
