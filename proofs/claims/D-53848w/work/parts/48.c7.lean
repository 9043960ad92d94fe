theorem hd_X1_layFar : yX1_layFar.cls = RX1 ∧ yX1_layFar.cls ≠ "java/lang/invoke/MethodHandle" ∧ yX1_layFar.cls ≠ "java/lang/invoke/VarHandle" ∧ (parseMethodDescriptor yX1_layFar.desc).map (fun d => d.parameters.length) = some 1 := by decide +kernel
set_option maxHeartbeats 1000000 in
set_option maxRecDepth 100000 in
theorem m_X1_layFar (l : Launch) (G : va_G) (g : Nat → ClassId) (sz : Nat) (hX : Nat) (room : Int) (xs : List Value) (hst : Nat) (hro : Nat) (hfa : Nat) (hwq : Nat) (hwa : Nat) (br : Int) (ss : List Value) (hsq : Nat) (S : Int → Int) (FA : Int → Int) (WQ : Int → Int) (WA : Int → Prop) (b0 : Nat) (ta : Nat) (td : Nat) (E : State → Prop) (kR : ClassId) (kD : ClassId) (kO : ClassId) (hF_xs_0 : xs[0]? = some (.ref hst)) (hF_xs_2 : xs[2]? = some (.ref hro)) (hF_xs_5 : xs[5]? = some (.ref hfa)) (hF_xs_6 : xs[6]? = some (.ref hwq)) (hF_xs_7 : xs[7]? = some (.ref hwa)) (hF_xs_10 : xs[10]? = some (.int (iI br))) (hF_ss_0 : ss[0]? = some (.ref hsq)) (hEE : okE b0 ta td E) (hEL : okL kR kD kO E) (hab : abv b0 [hX, hst, hsq, hro, hfa, hwq, hwa]) (hz0 : b0 ≤ sz) (r_room : r32 room) (kS : rgS S) (hbr : 1 ≤ br ∧ br ≤ 3) (hroom : 0 ≤ room ∧ room ≤ 5) : Met l yX1_layFar (ws_ yX1_layFar cX1_layFar 8 (Option.none : Option Jvm.ClassFile.FieldType)) ({ frames := 5, cells := 0, slots := 0, locals := 112 }) (va_Pc [.ref hX, .int (iI room)] (wrB G CL (TY g) (E) [(hX, .inr (0, xs)), (hst, .inr (1, ss)), (hsq, .inl (g 0, 192, .inl (aI S))), (hro, .inl (kR, 1, .inr (.inr (.inr (.inr (fun _ => some hX)))))), (hfa, .inl (g 0, 192, .inl (aI FA))), (hwq, .inl (g 0, 192, .inl (aI WQ))), (hwa, .inl (g 1, 192, .inl (aP WA)))] sz)) (va_Qv (fun (u : (Int → Int) × (Int → Int) × (Int → Prop)) => (rgF u.1) ∧ (stF S br u.1) ∧ (isDist S br room (reF u.1))) (fun (u : (Int → Int) × (Int → Int) × (Int → Prop)) t => va_P G CL [(hX, .inr (0, xs)), (hst, .inr (1, ss)), (hsq, .inl (g 0, 192, .inl (aI S))), (hro, .inl (kR, 1, .inr (.inr (.inr (.inr (fun _ => some hX)))))), (hfa, .inl (g 0, 192, .inl (aI u.1))), (hwq, .inl (g 0, 192, .inl (aI u.2.1))), (hwa, .inl (g 1, 192, .inl (aP u.2.2)))] t.heap) (va_A [(hX, .inr (0, xs)), (hst, .inr (1, ss)), (hsq, .inl (g 0, 192, .inl (aI S))), (hro, .inl (kR, 1, .inr (.inr (.inr (.inr (fun _ => some hX)))))), (hfa, .inl (g 0, 192, .inl (aI FA))), (hwq, .inl (g 0, 192, .inl (aI WQ))), (hwa, .inl (g 1, 192, .inl (aP WA)))] sz)) 0 0 (va_A [(hX, .inr (0, xs)), (hst, .inr (1, ss)), (hsq, .inl (g 0, 192, .inl (aI S))), (hro, .inl (kR, 1, .inr (.inr (.inr (.inr (fun _ => some hX)))))), (hfa, .inl (g 0, 192, .inl (aI FA))), (hwq, .inl (g 0, 192, .inl (aI WQ))), (hwa, .inl (g 1, 192, .inl (aP WA)))] sz) := by
  refine Met.at (by decide) (Nat.le_of_ble_eq_true rfl) ?_
  intro p e s m below meth c hx hb hr hlk hml hown hnm hts hB ls hl
  have hown : s.vm.findClass RX1 = some m.cls := hown
  obtain ⟨hsz, hP, hK, hD0, hEs⟩ := hB
  subst hsz
  have hD := hD0.self (sz := s.heap.size)
  generalize hAe : va_A [(hX, .inr (0, xs)), (hst, .inr (1, ss)), (hsq, .inl (g 0, 192, .inl (aI S))), (hro, .inl (kR, 1, .inr (.inr (.inr (.inr (fun _ => some hX)))))), (hfa, .inl (g 0, 192, .inl (aI FA))), (hwq, .inl (g 0, 192, .inl (aI WQ))), (hwa, .inl (g 1, 192, .inl (aP WA)))] s.heap.size = A at hD ⊢
  have hA : ∀ q : Nat, s.heap.size ≤ q → A q := fun q h => by rw [← hAe]; exact Or.inr h
  have hS : va_S A s.heap s.heap [] := va_S.rf
  have hA0 : ∀ q : Nat, A q → b0 ≤ q := fun q h => abv.A (ws := [(hX, .inr (0, xs)), (hst, .inr (1, ss)), (hsq, .inl (g 0, 192, .inl (aI S))), (hro, .inl (kR, 1, .inr (.inr (.inr (.inr (fun _ => some hX)))))), (hfa, .inl (g 0, 192, .inl (aI FA))), (hwq, .inl (g 0, 192, .inl (aI WQ))), (hwa, .inl (g 1, 192, .inl (aP WA)))]) hab hz0 q (by rw [hAe]; exact h)
  have hSt : Stab A E := hEE.st A hA0
  have nw : nW s := (hEE.cs s hEs).2.2.2.2
  have hl : lv_has ls 8 [(0, .ref hX), (1, .int (iI room))] := hl
  refine lv_iconst (v := iI 0) hx hb dX1_layFar_0 rfl ?_
  refine lv_istore_n (lv' := [(2, .int (iI 0)), (0, .ref hX), (1, .int (iI room))]) hx hb dX1_layFar_1 rfl hl (by decide) rfl (fun ls hl => ?_)
  refine lv_iconst (v := iI 0) hx hb dX1_layFar_2 rfl ?_
  refine lv_istore_n (lv' := [(3, .int (iI 0)), (2, .int (iI 0)), (0, .ref hX), (1, .int (iI room))]) hx hb dX1_layFar_3 rfl hl (by decide) rfl (fun ls hl => ?_)
  refine lv_iconst (v := iI 0) hx hb dX1_layFar_4 rfl ?_
  refine lv_istore (lv' := [(4, .int (iI 0)), (3, .int (iI 0)), (2, .int (iI 0)), (0, .ref hX), (1, .int (iI room))]) hx hb dX1_layFar_5 hl (by decide) rfl (fun ls hl => ?_)
  have lp7 : ∀ (n : Nat) (k : Nat) (n_ : Int) (F_ : Int → Int) (W_ : Int → Int) (A_ : Int → Prop), ((k : Int) ≤ 192) → (spI S br room F_ W_ A_ n_ (k : Int)) → 192 - k = n → ∀ (H : Heap) (locs : List Loc), va_P G CL [(hX, .inr (0, xs)), (hst, .inr (1, ss)), (hsq, .inl (g 0, 192, .inl (aI S))), (hro, .inl (kR, 1, .inr (.inr (.inr (.inr (fun _ => some hX)))))), (hfa, .inl (g 0, 192, .inl (aI F_))), (hwq, .inl (g 0, 192, .inl (aI W_))), (hwa, .inl (g 1, 192, .inl (aP A_)))] H → va_D A [(hX, .inr (0, xs)), (hst, .inr (1, ss)), (hsq, .inl (g 0, 192, .inl (aI S))), (hro, .inl (kR, 1, .inr (.inr (.inr (.inr (fun _ => some hX)))))), (hfa, .inl (g 0, 192, .inl (aI F_))), (hwq, .inl (g 0, 192, .inl (aI W_))), (hwa, .inl (g 1, 192, .inl (aP A_)))] → va_S A s.heap H locs → ∀ ls : Array Slot, lv_has ls 8 [(0, .ref hX), (1, .int (iI room)), (2, .int (iI 0)), (3, .int (iI n_)), (4, .int (iI (k : Int)))] → W p l e ({ frames := 5, cells := 0, slots := 0, locals := 112 }) s m ([.ref hX, .int (iI room)] : List Value).toArray below meth c H locs 0 0 (MQ below (va_Qv (fun (u : (Int → Int) × (Int → Int) × (Int → Prop)) => (rgF u.1) ∧ (stF S br u.1) ∧ (isDist S br room (reF u.1))) (fun (u : (Int → Int) × (Int → Int) × (Int → Prop)) t => va_P G CL [(hX, .inr (0, xs)), (hst, .inr (1, ss)), (hsq, .inl (g 0, 192, .inl (aI S))), (hro, .inl (kR, 1, .inr (.inr (.inr (.inr (fun _ => some hX)))))), (hfa, .inl (g 0, 192, .inl (aI u.1))), (hwq, .inl (g 0, 192, .inl (aI u.2.1))), (hwa, .inl (g 1, 192, .inl (aP u.2.2)))] t.heap) A) ([.ref hX, .int (iI room)] : List Value).toArray s 0 0 A) (F0 m 7 ls []) := by
    intro n
    refine Nat.strongRecOn n ?_
    intro n ih7 k n_ F_ W_ A_ hk hI hmu7 H locs hP hD hS ls hl
    have hnn := hI.2.2.1
    refine lv_iload hx hb dX1_layFar_7 (lv_at hl 4 rfl) ?_
    refine lv_sipush (v := iI 192) hx hb dX1_layFar_9 rfl ?_
    refine g_icmp_ge (tgt := 90) hx hb dX1_layFar_12 (by decide) ⟨⟨by omega, by omega⟩, ⟨by decide, by decide⟩⟩ (fun c1 => ?_) (fun c1 => ?_)
    · have lp90 : ∀ (n : Nat) (f_ : Int) (n2_ : Int) (F_2 : Int → Int) (W_2 : Int → Int) (A_2 : Int → Prop), (spD S br room F_2 A_2 (-1) 0) → (spQ f_ n2_ W_2 A_2) → (2 * smF F_2 + n2_).toNat = n → ∀ (H : Heap) (locs : List Loc), va_P G CL [(hX, .inr (0, xs)), (hst, .inr (1, ss)), (hsq, .inl (g 0, 192, .inl (aI S))), (hro, .inl (kR, 1, .inr (.inr (.inr (.inr (fun _ => some hX)))))), (hfa, .inl (g 0, 192, .inl (aI F_2))), (hwq, .inl (g 0, 192, .inl (aI W_2))), (hwa, .inl (g 1, 192, .inl (aP A_2)))] H → va_D A [(hX, .inr (0, xs)), (hst, .inr (1, ss)), (hsq, .inl (g 0, 192, .inl (aI S))), (hro, .inl (kR, 1, .inr (.inr (.inr (.inr (fun _ => some hX)))))), (hfa, .inl (g 0, 192, .inl (aI F_2))), (hwq, .inl (g 0, 192, .inl (aI W_2))), (hwa, .inl (g 1, 192, .inl (aP A_2)))] → va_S A s.heap H locs → ∀ ls : Array Slot, lv_has ls 8 [(0, .ref hX), (1, .int (iI room)), (2, .int (iI f_)), (3, .int (iI n2_))] → W p l e ({ frames := 5, cells := 0, slots := 0, locals := 112 }) s m ([.ref hX, .int (iI room)] : List Value).toArray below meth c H locs 0 0 (MQ below (va_Qv (fun (u : (Int → Int) × (Int → Int) × (Int → Prop)) => (rgF u.1) ∧ (stF S br u.1) ∧ (isDist S br room (reF u.1))) (fun (u : (Int → Int) × (Int → Int) × (Int → Prop)) t => va_P G CL [(hX, .inr (0, xs)), (hst, .inr (1, ss)), (hsq, .inl (g 0, 192, .inl (aI S))), (hro, .inl (kR, 1, .inr (.inr (.inr (.inr (fun _ => some hX)))))), (hfa, .inl (g 0, 192, .inl (aI u.1))), (hwq, .inl (g 0, 192, .inl (aI u.2.1))), (hwa, .inl (g 1, 192, .inl (aP u.2.2)))] t.heap) A) ([.ref hX, .int (iI room)] : List Value).toArray s 0 0 A) (F0 m 90 ls []) := by
        intro n
        refine Nat.strongRecOn n ?_
        intro n ih90 f_ n2_ F_2 W_2 A_2 hD_ hQ_ hmu90 H locs hP hD hS ls hl
        have kF2 := spD_rg hD_
        have qf := hQ_.1
        have qn : 0 ≤ n2_ ∧ n2_ ≤ 192 := by rw [hQ_.2.1]; exact cnW_nn A_2
        refine lv_iload_n hx hb dX1_layFar_90 rfl (lv_at hl 3 rfl) ?_
        refine g_if_le (tgt := 254) hx hb dX1_layFar_91 (by decide) ⟨by omega, by omega⟩ (fun c2 => ?_) (fun c2 => ?_)
        · exact W.vret hx hb hr (fun t ht hW => ⟨⟨(F_2, W_2, A_2), rfl, ⟨kF2, spD_st hD_, spD_exit hD_ (fun q a c hq => by obtain ⟨j, b1, b2, -⟩ := hQ_.2.2.2.1 q a c hq; omega)⟩, by rw [← ht] at hP; exact hP⟩, hS.F ht⟩) hS.2.2 dX1_layFar_254 hlk
        · have hpop := spQ_pop hQ_ (by omega)
          refine lv_aload_n hx hb dX1_layFar_94 rfl (lv_at hl 0 rfl) ?_
          refine va_get (D := G) (ci := 0) (v := .ref hwq) (C := RX1) (T := TX1) (N := 13) hx hb hts in_X1 hown hK hP 0 rfl rfl 6 (by decide) (hts _ q254) (fun _ h9 => h9) hF_xs_6 dX1_layFar_95 ?_
          refine lv_iload_n hx hb dX1_layFar_98 rfl (lv_at hl 2 rfl) ?_
          refine g_iald hx hb hK hP 5 0 rfl rfl (i := f_) (⟨by omega, by omega⟩) (by decide) dX1_layFar_99 ?_
          refine lv_istore (lv' := [(4, .int (iI (W_2 f_))), (0, .ref hX), (1, .int (iI room)), (2, .int (iI f_)), (3, .int (iI n2_))]) hx hb dX1_layFar_100 hl (by decide) rfl (fun ls hl => ?_)
          refine lv_iload_n hx hb dX1_layFar_102 rfl (lv_at hl 3 rfl) ?_
          refine lv_iconst (v := iI 1) hx hb dX1_layFar_103 rfl ?_
          refine g_iadd hx hb dX1_layFar_104 ?_
          refine lv_sipush (v := iI 192) hx hb dX1_layFar_105 rfl ?_
          refine g_irem hx hb dX1_layFar_108 ⟨⟨by omega, by omega⟩, ⟨by decide, by decide⟩⟩ ?_
          refine lv_istore_n (lv' := [(2, .int (iI ((f_ + 1) % 192))), (4, .int (iI (W_2 f_))), (0, .ref hX), (1, .int (iI room)), (3, .int (iI n2_))]) hx hb dX1_layFar_109 rfl hl (by decide) rfl (fun ls hl => ?_)
          refine g_iinc (lv' := [(3, .int (iI (n2_ + (-1)))), (2, .int (iI ((f_ + 1) % 192))), (4, .int (iI (W_2 f_))), (0, .ref hX), (1, .int (iI room))]) hx hb dX1_layFar_110 hl (k := 4) rfl (by decide) rfl (fun ls hl => ?_)
          refine lv_aload_n hx hb dX1_layFar_113 rfl (lv_at hl 3 rfl) ?_
          refine va_get (D := G) (ci := 0) (v := .ref hwa) (C := RX1) (T := TX1) (N := 13) hx hb hts in_X1 hown hK hP 0 rfl rfl 7 (by decide) (hts _ q255) (fun _ h9 => h9) hF_xs_7 dX1_layFar_114 ?_
          refine lv_iload hx hb dX1_layFar_117 (lv_at hl 2 rfl) ?_
          refine lv_iconst (v := iI 0) hx hb dX1_layFar_119 rfl ?_
          refine g_zast1 (ws1 := [(hX, .inr (0, xs)), (hst, .inr (1, ss)), (hsq, .inl (g 0, 192, .inl (aI S))), (hro, .inl (kR, 1, .inr (.inr (.inr (.inr (fun _ => some hX)))))), (hfa, .inl (g 0, 192, .inl (aI F_2))), (hwq, .inl (g 0, 192, .inl (aI W_2))), (hwa, .inl (g 1, 192, .inl (aP (uP A_2 (W_2 f_) False))))]) hx hb hK hP hD hS 6 1 rfl rfl (i := W_2 f_) False (qz_f id).symm (⟨by omega, by omega⟩) (by decide) dX1_layFar_120 rfl (fun H locs hP hS => ?_)
          have hD : va_D A [(hX, .inr (0, xs)), (hst, .inr (1, ss)), (hsq, .inl (g 0, 192, .inl (aI S))), (hro, .inl (kR, 1, .inr (.inr (.inr (.inr (fun _ => some hX)))))), (hfa, .inl (g 0, 192, .inl (aI F_2))), (hwq, .inl (g 0, 192, .inl (aI W_2))), (hwa, .inl (g 1, 192, .inl (aP (uP A_2 (W_2 f_) False))))] := va_Dadr hD rfl
          refine lv_iconst (v := iI 0) hx hb dX1_layFar_121 rfl ?_
          refine lv_istore (lv' := [(5, .int (iI 0)), (3, .int (iI (n2_ + (-1)))), (2, .int (iI ((f_ + 1) % 192))), (4, .int (iI (W_2 f_))), (0, .ref hX), (1, .int (iI room))]) hx hb dX1_layFar_122 hl (by decide) rfl (fun ls hl => ?_)
          have lp124 : ∀ (n : Nat) (k3_ : Nat) (n3_ : Int) (F_3 : Int → Int) (W_3 : Int → Int) (A_3 : Int → Prop), ((k3_ : Int) ≤ 4) → (spD S br room F_3 A_3 (W_2 f_) (k3_ : Int)) → (spQ ((f_ + 1) % 192) n3_ W_3 A_3) → (¬ A_3 (W_2 f_)) → (¬ F_3 (W_2 f_) = 2147483647) → (2 * smF F_3 + n3_ ≤ 2 * smF F_2 + n2_ - 1) → 4 - k3_ = n → ∀ (H : Heap) (locs : List Loc), va_P G CL [(hX, .inr (0, xs)), (hst, .inr (1, ss)), (hsq, .inl (g 0, 192, .inl (aI S))), (hro, .inl (kR, 1, .inr (.inr (.inr (.inr (fun _ => some hX)))))), (hfa, .inl (g 0, 192, .inl (aI F_3))), (hwq, .inl (g 0, 192, .inl (aI W_3))), (hwa, .inl (g 1, 192, .inl (aP A_3)))] H → va_D A [(hX, .inr (0, xs)), (hst, .inr (1, ss)), (hsq, .inl (g 0, 192, .inl (aI S))), (hro, .inl (kR, 1, .inr (.inr (.inr (.inr (fun _ => some hX)))))), (hfa, .inl (g 0, 192, .inl (aI F_3))), (hwq, .inl (g 0, 192, .inl (aI W_3))), (hwa, .inl (g 1, 192, .inl (aP A_3)))] → va_S A s.heap H locs → ∀ ls : Array Slot, lv_has ls 8 [(0, .ref hX), (1, .int (iI room)), (2, .int (iI ((f_ + 1) % 192))), (3, .int (iI n3_)), (4, .int (iI (W_2 f_))), (5, .int (iI (k3_ : Int)))] → W p l e ({ frames := 5, cells := 0, slots := 0, locals := 112 }) s m ([.ref hX, .int (iI room)] : List Value).toArray below meth c H locs 0 0 (MQ below (va_Qv (fun (u : (Int → Int) × (Int → Int) × (Int → Prop)) => (rgF u.1) ∧ (stF S br u.1) ∧ (isDist S br room (reF u.1))) (fun (u : (Int → Int) × (Int → Int) × (Int → Prop)) t => va_P G CL [(hX, .inr (0, xs)), (hst, .inr (1, ss)), (hsq, .inl (g 0, 192, .inl (aI S))), (hro, .inl (kR, 1, .inr (.inr (.inr (.inr (fun _ => some hX)))))), (hfa, .inl (g 0, 192, .inl (aI u.1))), (hwq, .inl (g 0, 192, .inl (aI u.2.1))), (hwa, .inl (g 1, 192, .inl (aP u.2.2)))] t.heap) A) ([.ref hX, .int (iI room)] : List Value).toArray s 0 0 A) (F0 m 124 ls []) := by
            intro n
            refine Nat.strongRecOn n ?_
            intro n ih124 k3_ n3_ F_3 W_3 A_3 hk3 hD3 hQ3 hw3 hf3 hm3 hmu124 H locs hP hD hS ls hl
            have kF3 := spD_rg hD3
            have kT3 := spD_st hD3
            have qn3 : 0 ≤ n3_ ∧ n3_ ≤ 191 := ⟨by rw [hQ3.2.1]; exact (cnW_nn A_3).1, by rw [hQ3.2.1]; exact cnW_le hpop.1.1 hpop.1.2 hw3⟩
            have hpr := hpop.1
            refine lv_iload hx hb dX1_layFar_124 (lv_at hl 5 rfl) ?_
            refine lv_iconst (v := iI 4) hx hb dX1_layFar_126 rfl ?_
            refine g_icmp_ge (tgt := 251) hx hb dX1_layFar_127 (by decide) ⟨⟨by omega, by omega⟩, ⟨by decide, by decide⟩⟩ (fun c3 => ?_) (fun c3 => ?_)
            · refine lv_goto (tgt := 90) hx hb dX1_layFar_251 (by decide) ?_
              exact ih90 _ (by have := smF_nn kF3; omega) ((f_ + 1) % 192) n3_ F_3 W_3 A_3 ((spD_done (by rw [show (4 : Int) = (k3_ : Int) from by omega]; exact hD3))) (hQ3) rfl _ _ hP (va_Dadr hD rfl) hS ls (lv_sub hl [0, 1, 2, 3] rfl)
            · have sr := sd1_rng (d := (k3_ : Int)) (by omega)
              refine lv_iload hx hb dX1_layFar_130 (lv_at hl 4 rfl) ?_
              refine lv_iload hx hb dX1_layFar_132 (lv_at hl 5 rfl) ?_
              refine g_callS (As := [.int (iI (W_2 f_)), .int (iI (k3_ : Int))]) (rest := []) (m_X1_next l G g (W_2 f_) (k3_ : Int) b0 ta td E hEE (⟨by omega, by omega⟩) (⟨by omega, by omega⟩) (by omega) (by omega)) hx hb hml hown hts hSt hK hP hS hEs [] rfl q503 q504 q94 q505 hd_X1_next rfl rfl ⟨Nat.le_of_ble_eq_true rfl, Nat.le_of_ble_eq_true rfl⟩ rfl hl rfl (Nat.le_of_ble_eq_true rfl) ⟨Nat.le_refl _, Nat.le_refl _⟩ dX1_layFar_134 ?_
              have w4 := nxC_rng (W_2 f_) (k3_ : Int)
              refine lv_istore (lv' := [(6, .int (iI (nxC (W_2 f_) (k3_ : Int)))), (0, .ref hX), (1, .int (iI room)), (2, .int (iI ((f_ + 1) % 192))), (3, .int (iI n3_)), (4, .int (iI (W_2 f_))), (5, .int (iI (k3_ : Int)))]) hx hb dX1_layFar_137 hl (by decide) rfl (fun ls hl => ?_)
              refine lv_iload hx hb dX1_layFar_139 (lv_at hl 0 rfl) ?_
              refine lv_iconst (v := iI (-1)) hx hb dX1_layFar_141 rfl ?_
              have hJ5 : ∀ ls : Array Slot, lv_has ls 8 [(0, .ref hX), (1, .int (iI room)), (2, .int (iI ((f_ + 1) % 192))), (3, .int (iI n3_)), (4, .int (iI (W_2 f_))), (5, .int (iI (k3_ : Int))), (6, .int (iI (nxC (W_2 f_) (k3_ : Int))))] → W p l e ({ frames := 5, cells := 0, slots := 0, locals := 112 }) s m ([.ref hX, .int (iI room)] : List Value).toArray below meth c H locs 0 0 (MQ below (va_Qv (fun (u : (Int → Int) × (Int → Int) × (Int → Prop)) => (rgF u.1) ∧ (stF S br u.1) ∧ (isDist S br room (reF u.1))) (fun (u : (Int → Int) × (Int → Int) × (Int → Prop)) t => va_P G CL [(hX, .inr (0, xs)), (hst, .inr (1, ss)), (hsq, .inl (g 0, 192, .inl (aI S))), (hro, .inl (kR, 1, .inr (.inr (.inr (.inr (fun _ => some hX)))))), (hfa, .inl (g 0, 192, .inl (aI u.1))), (hwq, .inl (g 0, 192, .inl (aI u.2.1))), (hwa, .inl (g 1, 192, .inl (aP u.2.2)))] t.heap) A) ([.ref hX, .int (iI room)] : List Value).toArray s 0 0 A) (F0 m 169 ls [.int (iI (zi ((nxC (W_2 f_) (k3_ : Int)) = (-1)) 2147483647 (zi (plc S br ((nxC (W_2 f_) (k3_ : Int)) % 16) ((nxC (W_2 f_) (k3_ : Int)) / 16)) (tkC S F_3 br (nxC (W_2 f_) (k3_ : Int)) (sd1 (k3_ : Int))) 2147483647)))]) := by
                intro ls hl
                have o7 := zi_or ((nxC (W_2 f_) (k3_ : Int)) = (-1)) 2147483647 (zi (plc S br ((nxC (W_2 f_) (k3_ : Int)) % 16) ((nxC (W_2 f_) (k3_ : Int)) / 16)) (tkC S F_3 br (nxC (W_2 f_) (k3_ : Int)) (sd1 (k3_ : Int))) 2147483647)
                have o8 := zi_or (plc S br ((nxC (W_2 f_) (k3_ : Int)) % 16) ((nxC (W_2 f_) (k3_ : Int)) / 16)) (tkC S F_3 br (nxC (W_2 f_) (k3_ : Int)) (sd1 (k3_ : Int))) 2147483647
                obtain ⟨v6, e_v6⟩ : ∃ z : Int, z = zi ((nxC (W_2 f_) (k3_ : Int)) = (-1)) 2147483647 (zi (plc S br ((nxC (W_2 f_) (k3_ : Int)) % 16) ((nxC (W_2 f_) (k3_ : Int)) / 16)) (tkC S F_3 br (nxC (W_2 f_) (k3_ : Int)) (sd1 (k3_ : Int))) 2147483647) := ⟨_, rfl⟩
                refine g_eq e_v6.symm ?_
                refine lv_istore (lv' := [(7, .int (iI v6)), (0, .ref hX), (1, .int (iI room)), (2, .int (iI ((f_ + 1) % 192))), (3, .int (iI n3_)), (4, .int (iI (W_2 f_))), (5, .int (iI (k3_ : Int))), (6, .int (iI (nxC (W_2 f_) (k3_ : Int))))]) hx hb dX1_layFar_169 hl (by decide) rfl (fun ls hl => ?_)
                refine lv_iload hx hb dX1_layFar_171 (lv_at hl 0 rfl) ?_
                refine lv_iload hx hb dX1_layFar_173 (lv_at hl 7 rfl) ?_
                refine lv_iconst (v := iI (-1)) hx hb dX1_layFar_175 rfl ?_
                have hJ9 : ∀ ls : Array Slot, lv_has ls 8 [(0, .ref hX), (1, .int (iI room)), (2, .int (iI ((f_ + 1) % 192))), (3, .int (iI n3_)), (4, .int (iI (W_2 f_))), (5, .int (iI (k3_ : Int))), (6, .int (iI (nxC (W_2 f_) (k3_ : Int)))), (7, .int (iI v6))] → W p l e ({ frames := 5, cells := 0, slots := 0, locals := 112 }) s m ([.ref hX, .int (iI room)] : List Value).toArray below meth c H locs 0 0 (MQ below (va_Qv (fun (u : (Int → Int) × (Int → Int) × (Int → Prop)) => (rgF u.1) ∧ (stF S br u.1) ∧ (isDist S br room (reF u.1))) (fun (u : (Int → Int) × (Int → Int) × (Int → Prop)) t => va_P G CL [(hX, .inr (0, xs)), (hst, .inr (1, ss)), (hsq, .inl (g 0, 192, .inl (aI S))), (hro, .inl (kR, 1, .inr (.inr (.inr (.inr (fun _ => some hX)))))), (hfa, .inl (g 0, 192, .inl (aI u.1))), (hwq, .inl (g 0, 192, .inl (aI u.2.1))), (hwa, .inl (g 1, 192, .inl (aP u.2.2)))] t.heap) A) ([.ref hX, .int (iI room)] : List Value).toArray s 0 0 A) (F0 m 190 ls [.int (iI (zi ((nxC (W_2 f_) (k3_ : Int)) = (-1)) 0 (F_3 (nxC (W_2 f_) (k3_ : Int))))), .int (iI v6)]) := by
                  intro ls hl
                  have o11 := zi_or ((nxC (W_2 f_) (k3_ : Int)) = (-1)) 0 (F_3 (nxC (W_2 f_) (k3_ : Int)))
                  obtain ⟨v10, e_v10⟩ : ∃ z : Int, z = zi ((nxC (W_2 f_) (k3_ : Int)) = (-1)) 0 (F_3 (nxC (W_2 f_) (k3_ : Int))) := ⟨_, rfl⟩
                  refine g_eq e_v10.symm ?_
                  have hv9 := relR hbr kF3 e_v6 e_v10
                  have rel := relC hbr kF3 kT3 hpr hf3 ⟨by omega, by omega⟩ e_v6 e_v10
                  have hw9 := e_v10
                  refine g_icmp_ge (tgt := 245) hx hb dX1_layFar_190 (by decide) ⟨hv9.1, hv9.2⟩ (fun c12 => ?_) (fun c12 => ?_)
                  · refine g_iinc (lv' := [(5, .int (iI ((k3_ : Int) + 1))), (0, .ref hX), (1, .int (iI room)), (2, .int (iI ((f_ + 1) % 192))), (3, .int (iI n3_)), (4, .int (iI (W_2 f_))), (6, .int (iI (nxC (W_2 f_) (k3_ : Int)))), (7, .int (iI v6))]) hx hb dX1_layFar_245 hl (k := 5) rfl (by decide) rfl (fun ls hl => ?_)
                    refine lv_goto (tgt := 124) hx hb dX1_layFar_248 (by decide) ?_
                    exact ih124 _ (by omega) (k3_ + 1) n3_ F_3 W_3 A_3 (by omega) (spD_skip hD3 (rel.2 (by assumption))) (hQ3) (hw3) (hf3) (hm3) rfl _ _ hP (va_Dadr hD rfl) hS ls (lv_sub hl [1, 2, 3, 4, 5, 0] rfl)
                  · have hrel := rel.1 (by assumption)
                    rw [zi_f hrel.1] at hw9
                    have hns := nxM_st (S := S) (p := W_2 f_) (d := (k3_ : Int)) hbr.1 hpr.1 ⟨by omega, by omega⟩ (by rw [hrel.2.1]; exact hrel.1)
                    rw [hrel.2.1] at hns
                    have hpu := spQ_push hQ3 hpr hw3 (q := nxC (W_2 f_) (k3_ : Int)) ⟨hns.2.2.1, hns.2.2.2⟩
                    have hup := spD_upd hbr hD3 hpr hf3 ⟨by omega, by omega⟩ hrel.2.1 hrel.1 hrel.2.2.1 hrel.2.2.2 (by omega)
                    refine lv_aload_n hx hb dX1_layFar_193 rfl (lv_at hl 0 rfl) ?_
                    refine va_get (D := G) (ci := 0) (v := .ref hfa) (C := RX1) (T := TX1) (N := 13) hx hb hts in_X1 hown hK hP 0 rfl rfl 5 (by decide) (hts _ q253) (fun _ h9 => h9) hF_xs_5 dX1_layFar_194 ?_
                    refine lv_iload hx hb dX1_layFar_197 (lv_at hl 6 rfl) ?_
                    refine lv_iload hx hb dX1_layFar_199 (lv_at hl 7 rfl) ?_
                    refine g_iast (ws1 := [(hX, .inr (0, xs)), (hst, .inr (1, ss)), (hsq, .inl (g 0, 192, .inl (aI S))), (hro, .inl (kR, 1, .inr (.inr (.inr (.inr (fun _ => some hX)))))), (hfa, .inl (g 0, 192, .inl (aI (uZ F_3 (nxC (W_2 f_) (k3_ : Int)) v6)))), (hwq, .inl (g 0, 192, .inl (aI W_3))), (hwa, .inl (g 1, 192, .inl (aP A_3)))]) hx hb hK hP hD hS 4 0 rfl rfl (i := nxC (W_2 f_) (k3_ : Int)) (⟨by omega, by omega⟩) (by decide) dX1_layFar_201 rfl (fun H locs hP hS => ?_)
                    have hD : va_D A [(hX, .inr (0, xs)), (hst, .inr (1, ss)), (hsq, .inl (g 0, 192, .inl (aI S))), (hro, .inl (kR, 1, .inr (.inr (.inr (.inr (fun _ => some hX)))))), (hfa, .inl (g 0, 192, .inl (aI (uZ F_3 (nxC (W_2 f_) (k3_ : Int)) v6)))), (hwq, .inl (g 0, 192, .inl (aI W_3))), (hwa, .inl (g 1, 192, .inl (aP A_3)))] := va_Dadr hD rfl
                    refine lv_aload_n hx hb dX1_layFar_202 rfl (lv_at hl 0 rfl) ?_
                    refine va_get (D := G) (ci := 0) (v := .ref hwq) (C := RX1) (T := TX1) (N := 13) hx hb hts in_X1 hown hK hP 0 rfl rfl 6 (by decide) (hts _ q254) (fun _ h9 => h9) hF_xs_6 dX1_layFar_203 ?_
                    refine lv_iload_n hx hb dX1_layFar_206 rfl (lv_at hl 2 rfl) ?_
                    refine lv_iload_n hx hb dX1_layFar_207 rfl (lv_at hl 3 rfl) ?_
                    refine g_iadd hx hb dX1_layFar_208 ?_
                    refine lv_sipush (v := iI 192) hx hb dX1_layFar_209 rfl ?_
                    refine g_irem hx hb dX1_layFar_212 ⟨⟨by omega, by omega⟩, ⟨by decide, by decide⟩⟩ ?_
                    refine lv_iload hx hb dX1_layFar_213 (lv_at hl 6 rfl) ?_
                    refine g_iast (ws1 := [(hX, .inr (0, xs)), (hst, .inr (1, ss)), (hsq, .inl (g 0, 192, .inl (aI S))), (hro, .inl (kR, 1, .inr (.inr (.inr (.inr (fun _ => some hX)))))), (hfa, .inl (g 0, 192, .inl (aI (uZ F_3 (nxC (W_2 f_) (k3_ : Int)) v6)))), (hwq, .inl (g 0, 192, .inl (aI (uZ W_3 ((((f_ + 1) % 192) + n3_) % 192) (nxC (W_2 f_) (k3_ : Int)))))), (hwa, .inl (g 1, 192, .inl (aP A_3)))]) hx hb hK hP hD hS 5 0 rfl rfl (i := (((f_ + 1) % 192) + n3_) % 192) (⟨by omega, by omega⟩) (by decide) dX1_layFar_215 rfl (fun H locs hP hS => ?_)
                    have hD : va_D A [(hX, .inr (0, xs)), (hst, .inr (1, ss)), (hsq, .inl (g 0, 192, .inl (aI S))), (hro, .inl (kR, 1, .inr (.inr (.inr (.inr (fun _ => some hX)))))), (hfa, .inl (g 0, 192, .inl (aI (uZ F_3 (nxC (W_2 f_) (k3_ : Int)) v6)))), (hwq, .inl (g 0, 192, .inl (aI (uZ W_3 ((((f_ + 1) % 192) + n3_) % 192) (nxC (W_2 f_) (k3_ : Int)))))), (hwa, .inl (g 1, 192, .inl (aP A_3)))] := va_Dadr hD rfl
                    refine lv_iload_n hx hb dX1_layFar_216 rfl (lv_at hl 3 rfl) ?_
                    refine lv_aload_n hx hb dX1_layFar_217 rfl (lv_at hl 0 rfl) ?_
                    refine va_get (D := G) (ci := 0) (v := .ref hwa) (C := RX1) (T := TX1) (N := 13) hx hb hts in_X1 hown hK hP 0 rfl rfl 7 (by decide) (hts _ q255) (fun _ h9 => h9) hF_xs_7 dX1_layFar_218 ?_
                    refine lv_iload hx hb dX1_layFar_221 (lv_at hl 6 rfl) ?_
                    refine g_zald hx hb hK hP 6 1 rfl rfl (i := nxC (W_2 f_) (k3_ : Int)) (⟨by omega, by omega⟩) (by decide) dX1_layFar_223 ?_
                    have hJ13 : ∀ ls : Array Slot, lv_has ls 8 [(0, .ref hX), (1, .int (iI room)), (2, .int (iI ((f_ + 1) % 192))), (3, .int (iI n3_)), (4, .int (iI (W_2 f_))), (5, .int (iI (k3_ : Int))), (6, .int (iI (nxC (W_2 f_) (k3_ : Int)))), (7, .int (iI v6))] → W p l e ({ frames := 5, cells := 0, slots := 0, locals := 112 }) s m ([.ref hX, .int (iI room)] : List Value).toArray below meth c H locs 0 0 (MQ below (va_Qv (fun (u : (Int → Int) × (Int → Int) × (Int → Prop)) => (rgF u.1) ∧ (stF S br u.1) ∧ (isDist S br room (reF u.1))) (fun (u : (Int → Int) × (Int → Int) × (Int → Prop)) t => va_P G CL [(hX, .inr (0, xs)), (hst, .inr (1, ss)), (hsq, .inl (g 0, 192, .inl (aI S))), (hro, .inl (kR, 1, .inr (.inr (.inr (.inr (fun _ => some hX)))))), (hfa, .inl (g 0, 192, .inl (aI u.1))), (hwq, .inl (g 0, 192, .inl (aI u.2.1))), (hwa, .inl (g 1, 192, .inl (aP u.2.2)))] t.heap) A) ([.ref hX, .int (iI room)] : List Value).toArray s 0 0 A) (F0 m 232 ls [.int (iI (qz (¬ (A_3 (nxC (W_2 f_) (k3_ : Int)))))), .int (iI n3_)]) := by
                      intro ls hl
                      refine g_callS (As := [.int (iI (qz (¬ (A_3 (nxC (W_2 f_) (k3_ : Int))))))]) (rest := [.int (iI n3_)]) (m_X1_flag l G g (¬ (A_3 (nxC (W_2 f_) (k3_ : Int))))) hx hb hml hown hts Stab.tt hK hP hS trivial [] rfl q187 q188 q94 q189 hd_X1_flag rfl rfl ⟨Nat.le_of_ble_eq_true rfl, Nat.le_of_ble_eq_true rfl⟩ rfl hl rfl (Nat.le_of_ble_eq_true rfl) ⟨Nat.le_refl _, Nat.le_refl _⟩ dX1_layFar_232 ?_
                      refine g_iadd hx hb dX1_layFar_235 ?_
                      refine lv_istore_n (lv' := [(3, .int (iI (n3_ + (qz (¬ (A_3 (nxC (W_2 f_) (k3_ : Int)))))))), (0, .ref hX), (1, .int (iI room)), (2, .int (iI ((f_ + 1) % 192))), (4, .int (iI (W_2 f_))), (5, .int (iI (k3_ : Int))), (6, .int (iI (nxC (W_2 f_) (k3_ : Int)))), (7, .int (iI v6))]) hx hb dX1_layFar_236 rfl hl (by decide) rfl (fun ls hl => ?_)
                      refine lv_aload_n hx hb dX1_layFar_237 rfl (lv_at hl 1 rfl) ?_
                      refine va_get (D := G) (ci := 0) (v := .ref hwa) (C := RX1) (T := TX1) (N := 13) hx hb hts in_X1 hown hK hP 0 rfl rfl 7 (by decide) (hts _ q255) (fun _ h9 => h9) hF_xs_7 dX1_layFar_238 ?_
                      refine lv_iload hx hb dX1_layFar_241 (lv_at hl 6 rfl) ?_
                      refine lv_iconst (v := iI 1) hx hb dX1_layFar_243 rfl ?_
                      refine g_zast1 (ws1 := [(hX, .inr (0, xs)), (hst, .inr (1, ss)), (hsq, .inl (g 0, 192, .inl (aI S))), (hro, .inl (kR, 1, .inr (.inr (.inr (.inr (fun _ => some hX)))))), (hfa, .inl (g 0, 192, .inl (aI (uZ F_3 (nxC (W_2 f_) (k3_ : Int)) v6)))), (hwq, .inl (g 0, 192, .inl (aI (uZ W_3 ((((f_ + 1) % 192) + n3_) % 192) (nxC (W_2 f_) (k3_ : Int)))))), (hwa, .inl (g 1, 192, .inl (aP (uP A_3 (nxC (W_2 f_) (k3_ : Int)) True))))]) hx hb hK hP hD hS 6 1 rfl rfl (i := nxC (W_2 f_) (k3_ : Int)) True (qz_t trivial).symm (⟨by omega, by omega⟩) (by decide) dX1_layFar_244 rfl (fun H locs hP hS => ?_)
                      have hD : va_D A [(hX, .inr (0, xs)), (hst, .inr (1, ss)), (hsq, .inl (g 0, 192, .inl (aI S))), (hro, .inl (kR, 1, .inr (.inr (.inr (.inr (fun _ => some hX)))))), (hfa, .inl (g 0, 192, .inl (aI (uZ F_3 (nxC (W_2 f_) (k3_ : Int)) v6)))), (hwq, .inl (g 0, 192, .inl (aI (uZ W_3 ((((f_ + 1) % 192) + n3_) % 192) (nxC (W_2 f_) (k3_ : Int)))))), (hwa, .inl (g 1, 192, .inl (aP (uP A_3 (nxC (W_2 f_) (k3_ : Int)) True))))] := va_Dadr hD rfl
                      refine g_iinc (lv' := [(5, .int (iI ((k3_ : Int) + 1))), (3, .int (iI (n3_ + (qz (¬ (A_3 (nxC (W_2 f_) (k3_ : Int)))))))), (0, .ref hX), (1, .int (iI room)), (2, .int (iI ((f_ + 1) % 192))), (4, .int (iI (W_2 f_))), (6, .int (iI (nxC (W_2 f_) (k3_ : Int)))), (7, .int (iI v6))]) hx hb dX1_layFar_245 hl (k := 5) rfl (by decide) rfl (fun ls hl => ?_)
                      refine lv_goto (tgt := 124) hx hb dX1_layFar_248 (by decide) ?_
                      exact ih124 _ (by omega) (k3_ + 1) (n3_ + (qz (¬ (A_3 (nxC (W_2 f_) (k3_ : Int)))))) (uZ F_3 (nxC (W_2 f_) (k3_ : Int)) v6) (uZ W_3 ((((f_ + 1) % 192) + n3_) % 192) (nxC (W_2 f_) (k3_ : Int))) (uP A_3 (nxC (W_2 f_) (k3_ : Int)) True) (by omega) (hup.1) (hpu.1) (fun z => hw3 ((uP_n (fun y => hns.2.1 y.symm)).mp z)) (by rw [uZ_n (fun y => hns.2.1 y.symm)]; exact hf3) (by have := hup.2; have := qz_01 (¬ A_3 (nxC (W_2 f_) (k3_ : Int))); omega) rfl _ _ hP (va_Dadr hD rfl) hS ls (lv_sub hl [2, 3, 4, 1, 5, 0] rfl)
                    refine g_ifq_ne (tgt := 231) hx hb dX1_layFar_224 (by decide) (fun c14 => ?_) (fun c14 => ?_)
                    · refine lv_iconst (v := iI 0) hx hb dX1_layFar_231 rfl ?_
                      refine g_eq (b := qz (¬ (A_3 (nxC (W_2 f_) (k3_ : Int))))) (qz_f (fun xx => (xx c14))).symm ?_
                      exact hJ13 ls (lv_sub hl [0, 1, 2, 3, 4, 5, 6, 7] rfl)
                    · refine lv_iconst (v := iI 1) hx hb dX1_layFar_227 rfl ?_
                      refine lv_goto (tgt := 232) hx hb dX1_layFar_228 (by decide) ?_
                      refine g_eq (b := qz (¬ (A_3 (nxC (W_2 f_) (k3_ : Int))))) (qz_t c14).symm ?_
                      exact hJ13 ls (lv_sub hl [0, 1, 2, 3, 4, 5, 6, 7] rfl)
                refine g_icmp_ne (tgt := 183) hx hb dX1_layFar_176 (by decide) ⟨⟨by omega, by omega⟩, ⟨by decide, by decide⟩⟩ (fun c15 => ?_) (fun c15 => ?_)
                · refine lv_aload_n hx hb dX1_layFar_183 rfl (lv_at hl 1 rfl) ?_
                  refine va_get (D := G) (ci := 0) (v := .ref hfa) (C := RX1) (T := TX1) (N := 13) hx hb hts in_X1 hown hK hP 0 rfl rfl 5 (by decide) (hts _ q253) (fun _ h9 => h9) hF_xs_5 dX1_layFar_184 ?_
                  refine lv_iload hx hb dX1_layFar_187 (lv_at hl 7 rfl) ?_
                  refine g_iald hx hb hK hP 4 0 rfl rfl (i := nxC (W_2 f_) (k3_ : Int)) (⟨by omega, by omega⟩) (by decide) dX1_layFar_189 ?_
                  have w16 := kF3 (nxC (W_2 f_) (k3_ : Int)) (by omega) (by omega)
                  refine g_eq (b := zi ((nxC (W_2 f_) (k3_ : Int)) = (-1)) 0 (F_3 (nxC (W_2 f_) (k3_ : Int)))) ((zi_f c15)).symm ?_
                  exact hJ9 ls (lv_sub hl [1, 2, 3, 4, 5, 6, 7, 0] rfl)
                · refine lv_iconst (v := iI 0) hx hb dX1_layFar_179 rfl ?_
                  refine lv_goto (tgt := 190) hx hb dX1_layFar_180 (by decide) ?_
                  refine g_eq (b := zi ((nxC (W_2 f_) (k3_ : Int)) = (-1)) 0 (F_3 (nxC (W_2 f_) (k3_ : Int)))) ((zi_t c15)).symm ?_
                  exact hJ9 ls (lv_sub hl [1, 2, 3, 4, 5, 6, 7, 0] rfl)
              refine g_icmp_eq (tgt := 154) hx hb dX1_layFar_142 (by decide) ⟨⟨by omega, by omega⟩, ⟨by decide, by decide⟩⟩ (fun c17 => ?_) (fun c17 => ?_)
              · refine g_ldc (z := 2147483647) hx hb hown (hts _ q464) (by decide) dX1_layFar_154 ?_
                refine lv_goto (tgt := 169) hx hb dX1_layFar_156 (by decide) ?_
                refine g_eq (b := zi ((nxC (W_2 f_) (k3_ : Int)) = (-1)) 2147483647 (zi (plc S br ((nxC (W_2 f_) (k3_ : Int)) % 16) ((nxC (W_2 f_) (k3_ : Int)) / 16)) (tkC S F_3 br (nxC (W_2 f_) (k3_ : Int)) (sd1 (k3_ : Int))) 2147483647)) ((zi_t c17)).symm ?_
                exact hJ5 ls (lv_sub hl [1, 2, 3, 4, 5, 6, 0] rfl)
              · refine lv_aload_n hx hb dX1_layFar_145 rfl (lv_at hl 1 rfl) ?_
                refine lv_iload hx hb dX1_layFar_146 (lv_at hl 0 rfl) ?_
                refine g_callV (As := [.int (iI (nxC (W_2 f_) (k3_ : Int)))]) (rest := []) (m_X1_canStand l G g hX (nxC (W_2 f_) (k3_ : Int)) xs hst br ss hsq S b0 ta td E hF_xs_0 hF_xs_10 hF_ss_0 hEE (⟨by omega, by omega⟩) kS hbr (by omega)) hx hb hml hown hts hSt hK hP hS hEs [0, 1, 2] rfl (q0 := 0) rfl rfl q495 q497 qs14 q94 q498 hd_X1_canStand rfl rfl ⟨Nat.le_of_ble_eq_true rfl, Nat.le_of_ble_eq_true rfl⟩ rfl hl rfl (Nat.le_of_ble_eq_true rfl) ⟨Nat.le_refl _, Nat.le_refl _⟩ dX1_layFar_148 ?_
                refine g_ifq_ne (tgt := 159) hx hb dX1_layFar_151 (by decide) (fun c18 => ?_) (fun c18 => ?_)
                · refine lv_aload_n hx hb dX1_layFar_159 rfl (lv_at hl 1 rfl) ?_
                  refine lv_iload hx hb dX1_layFar_160 (lv_at hl 0 rfl) ?_
                  refine lv_iload hx hb dX1_layFar_162 (lv_at hl 6 rfl) ?_
                  refine lv_iconst (v := iI 1) hx hb dX1_layFar_164 rfl ?_
                  refine g_ixor1 hx hb dX1_layFar_165 ⟨by omega, by omega⟩ ?_
                  refine g_callV (As := [.int (iI (nxC (W_2 f_) (k3_ : Int))), .int (iI (sd1 (k3_ : Int)))]) (rest := []) (m_X1_takes l G g hX (nxC (W_2 f_) (k3_ : Int)) (sd1 (k3_ : Int)) xs hst hro hfa br ss hsq S F_3 b0 ta td E kR kD kO hF_xs_0 hF_xs_2 hF_xs_5 hF_xs_10 hF_ss_0 hEE hEL (⟨by omega, by omega⟩) (⟨by omega, by omega⟩) kS hbr (by omega) (kT3.pl) (by omega) (⟨sr.1, sr.2.1⟩)) hx hb hml hown hts hSt hK hP hS hEs [0, 1, 2, 3, 4] rfl (q0 := 0) rfl rfl q512 q514 qs16 q94 q515 hd_X1_takes rfl rfl ⟨Nat.le_of_ble_eq_true rfl, Nat.le_of_ble_eq_true rfl⟩ rfl hl rfl (Nat.le_of_ble_eq_true rfl) ⟨Nat.le_refl _, Nat.le_refl _⟩ dX1_layFar_166 ?_
                  have w19 := tkC_rng (S := S) (p := (nxC (W_2 f_) (k3_ : Int))) (d := (sd1 (k3_ : Int))) hbr (by omega)
                  refine g_eq (b := zi ((nxC (W_2 f_) (k3_ : Int)) = (-1)) 2147483647 (zi (plc S br ((nxC (W_2 f_) (k3_ : Int)) % 16) ((nxC (W_2 f_) (k3_ : Int)) / 16)) (tkC S F_3 br (nxC (W_2 f_) (k3_ : Int)) (sd1 (k3_ : Int))) 2147483647)) (((zi_f c17).trans (zi_t c18))).symm ?_
                  exact hJ5 ls (lv_sub hl [1, 2, 3, 4, 5, 6, 0] rfl)
                · refine g_ldc (z := 2147483647) hx hb hown (hts _ q464) (by decide) dX1_layFar_154 ?_
                  refine lv_goto (tgt := 169) hx hb dX1_layFar_156 (by decide) ?_
                  refine g_eq (b := zi ((nxC (W_2 f_) (k3_ : Int)) = (-1)) 2147483647 (zi (plc S br ((nxC (W_2 f_) (k3_ : Int)) % 16) ((nxC (W_2 f_) (k3_ : Int)) / 16)) (tkC S F_3 br (nxC (W_2 f_) (k3_ : Int)) (sd1 (k3_ : Int))) 2147483647)) (((zi_f c17).trans (zi_f c18))).symm ?_
                  exact hJ5 ls (lv_sub hl [1, 2, 3, 4, 5, 6, 0] rfl)
          exact lp124 _ 0 (n2_ - 1) F_2 W_2 (uP A_2 (W_2 f_) False) (by omega) (spD_pop hD_) (hpop.2.2) (fun z => (uP_s.mp z)) (hD_.2.2.2.2.2 _ hpop.1.1 hpop.1.2 hpop.2.1) (by omega) rfl H locs hP (va_Dadr hD rfl) hS ls (lv_sub hl [4, 5, 2, 1, 3, 0] rfl)
      exact lp90 _ 0 n_ F_ W_ A_ ((spI_end (by rw [show (192 : Int) = (k : Int) from by omega]; exact hI)).1) ((spI_end (by rw [show (192 : Int) = (k : Int) from by omega]; exact hI)).2) rfl H locs hP (va_Dadr hD rfl) hS ls (lv_sub hl [0, 1, 2, 3] rfl)
    · refine lv_aload_n hx hb dX1_layFar_15 rfl (lv_at hl 0 rfl) ?_
      refine lv_iload hx hb dX1_layFar_16 (lv_at hl 4 rfl) ?_
      refine g_callV (As := [.int (iI (k : Int))]) (rest := []) (m_X1_canStand l G g hX (k : Int) xs hst br ss hsq S b0 ta td E hF_xs_0 hF_xs_10 hF_ss_0 hEE (⟨by omega, by omega⟩) kS hbr (by omega)) hx hb hml hown hts hSt hK hP hS hEs [0, 1, 2] rfl (q0 := 0) rfl rfl q495 q497 qs14 q94 q498 hd_X1_canStand rfl rfl ⟨Nat.le_of_ble_eq_true rfl, Nat.le_of_ble_eq_true rfl⟩ rfl hl rfl (Nat.le_of_ble_eq_true rfl) ⟨Nat.le_refl _, Nat.le_refl _⟩ dX1_layFar_18 ?_
      have hJ20 : ∀ ls : Array Slot, lv_has ls 8 [(0, .ref hX), (1, .int (iI room)), (2, .int (iI 0)), (3, .int (iI n_)), (4, .int (iI (k : Int)))] → W p l e ({ frames := 5, cells := 0, slots := 0, locals := 112 }) s m ([.ref hX, .int (iI room)] : List Value).toArray below meth c H locs 0 0 (MQ below (va_Qv (fun (u : (Int → Int) × (Int → Int) × (Int → Prop)) => (rgF u.1) ∧ (stF S br u.1) ∧ (isDist S br room (reF u.1))) (fun (u : (Int → Int) × (Int → Int) × (Int → Prop)) t => va_P G CL [(hX, .inr (0, xs)), (hst, .inr (1, ss)), (hsq, .inl (g 0, 192, .inl (aI S))), (hro, .inl (kR, 1, .inr (.inr (.inr (.inr (fun _ => some hX)))))), (hfa, .inl (g 0, 192, .inl (aI u.1))), (hwq, .inl (g 0, 192, .inl (aI u.2.1))), (hwa, .inl (g 1, 192, .inl (aP u.2.2)))] t.heap) A) ([.ref hX, .int (iI room)] : List Value).toArray s 0 0 A) (F0 m 39 ls [.int (iI (qz ((plc S br ((k : Int) % 16) ((k : Int) / 16)) ∧ (atR S br (k : Int) room))))]) := by
        intro ls hl
        refine lv_istore (lv' := [(5, .int (iI (qz ((plc S br ((k : Int) % 16) ((k : Int) / 16)) ∧ (atR S br (k : Int) room))))), (0, .ref hX), (1, .int (iI room)), (2, .int (iI 0)), (3, .int (iI n_)), (4, .int (iI (k : Int)))]) hx hb dX1_layFar_39 hl (by decide) rfl (fun ls hl => ?_)
        refine lv_aload_n hx hb dX1_layFar_41 rfl (lv_at hl 1 rfl) ?_
        refine va_get (D := G) (ci := 0) (v := .ref hfa) (C := RX1) (T := TX1) (N := 13) hx hb hts in_X1 hown hK hP 0 rfl rfl 5 (by decide) (hts _ q253) (fun _ h9 => h9) hF_xs_5 dX1_layFar_42 ?_
        refine lv_iload hx hb dX1_layFar_45 (lv_at hl 5 rfl) ?_
        refine lv_iload hx hb dX1_layFar_47 (lv_at hl 0 rfl) ?_
        have hJ21 : ∀ ls : Array Slot, lv_has ls 8 [(0, .ref hX), (1, .int (iI room)), (2, .int (iI 0)), (3, .int (iI n_)), (4, .int (iI (k : Int))), (5, .int (iI (qz ((plc S br ((k : Int) % 16) ((k : Int) / 16)) ∧ (atR S br (k : Int) room)))))] → W p l e ({ frames := 5, cells := 0, slots := 0, locals := 112 }) s m ([.ref hX, .int (iI room)] : List Value).toArray below meth c H locs 0 0 (MQ below (va_Qv (fun (u : (Int → Int) × (Int → Int) × (Int → Prop)) => (rgF u.1) ∧ (stF S br u.1) ∧ (isDist S br room (reF u.1))) (fun (u : (Int → Int) × (Int → Int) × (Int → Prop)) t => va_P G CL [(hX, .inr (0, xs)), (hst, .inr (1, ss)), (hsq, .inl (g 0, 192, .inl (aI S))), (hro, .inl (kR, 1, .inr (.inr (.inr (.inr (fun _ => some hX)))))), (hfa, .inl (g 0, 192, .inl (aI u.1))), (hwq, .inl (g 0, 192, .inl (aI u.2.1))), (hwa, .inl (g 1, 192, .inl (aP u.2.2)))] t.heap) A) ([.ref hX, .int (iI room)] : List Value).toArray s 0 0 A) (F0 m 58 ls [.int (iI (zi ((plc S br ((k : Int) % 16) ((k : Int) / 16)) ∧ (atR S br (k : Int) room)) 1 2147483647)), .int (iI (k : Int)), .ref hfa]) := by
          intro ls hl
          have o23 := zi_or ((plc S br ((k : Int) % 16) ((k : Int) / 16)) ∧ (atR S br (k : Int) room)) 1 2147483647
          obtain ⟨v22, e_v22⟩ : ∃ z : Int, z = zi ((plc S br ((k : Int) % 16) ((k : Int) / 16)) ∧ (atR S br (k : Int) room)) 1 2147483647 := ⟨_, rfl⟩
          refine g_eq e_v22.symm ?_
          refine g_iast (ws1 := [(hX, .inr (0, xs)), (hst, .inr (1, ss)), (hsq, .inl (g 0, 192, .inl (aI S))), (hro, .inl (kR, 1, .inr (.inr (.inr (.inr (fun _ => some hX)))))), (hfa, .inl (g 0, 192, .inl (aI (uZ F_ (k : Int) v22)))), (hwq, .inl (g 0, 192, .inl (aI W_))), (hwa, .inl (g 1, 192, .inl (aP A_)))]) hx hb hK hP hD hS 4 0 rfl rfl (i := (k : Int)) (⟨by omega, by omega⟩) (by decide) dX1_layFar_58 rfl (fun H locs hP hS => ?_)
          have hD : va_D A [(hX, .inr (0, xs)), (hst, .inr (1, ss)), (hsq, .inl (g 0, 192, .inl (aI S))), (hro, .inl (kR, 1, .inr (.inr (.inr (.inr (fun _ => some hX)))))), (hfa, .inl (g 0, 192, .inl (aI (uZ F_ (k : Int) v22)))), (hwq, .inl (g 0, 192, .inl (aI W_))), (hwa, .inl (g 1, 192, .inl (aP A_)))] := va_Dadr hD rfl
          refine lv_aload_n hx hb dX1_layFar_59 rfl (lv_at hl 0 rfl) ?_
          refine va_get (D := G) (ci := 0) (v := .ref hwa) (C := RX1) (T := TX1) (N := 13) hx hb hts in_X1 hown hK hP 0 rfl rfl 7 (by decide) (hts _ q255) (fun _ h9 => h9) hF_xs_7 dX1_layFar_60 ?_
          refine lv_iload hx hb dX1_layFar_63 (lv_at hl 4 rfl) ?_
          refine lv_iload hx hb dX1_layFar_65 (lv_at hl 5 rfl) ?_
          refine g_zast (ws1 := [(hX, .inr (0, xs)), (hst, .inr (1, ss)), (hsq, .inl (g 0, 192, .inl (aI S))), (hro, .inl (kR, 1, .inr (.inr (.inr (.inr (fun _ => some hX)))))), (hfa, .inl (g 0, 192, .inl (aI (uZ F_ (k : Int) v22)))), (hwq, .inl (g 0, 192, .inl (aI W_))), (hwa, .inl (g 1, 192, .inl (aP (uP A_ (k : Int) ((plc S br ((k : Int) % 16) ((k : Int) / 16)) ∧ (atR S br (k : Int) room))))))]) hx hb hK hP hD hS 6 1 rfl rfl (i := (k : Int)) (⟨by omega, by omega⟩) (by decide) dX1_layFar_67 rfl (fun H locs hP hS => ?_)
          have hD : va_D A [(hX, .inr (0, xs)), (hst, .inr (1, ss)), (hsq, .inl (g 0, 192, .inl (aI S))), (hro, .inl (kR, 1, .inr (.inr (.inr (.inr (fun _ => some hX)))))), (hfa, .inl (g 0, 192, .inl (aI (uZ F_ (k : Int) v22)))), (hwq, .inl (g 0, 192, .inl (aI W_))), (hwa, .inl (g 1, 192, .inl (aP (uP A_ (k : Int) ((plc S br ((k : Int) % 16) ((k : Int) / 16)) ∧ (atR S br (k : Int) room))))))] := va_Dadr hD rfl
          refine lv_iload hx hb dX1_layFar_68 (lv_at hl 5 rfl) ?_
          refine g_ifq_eq (tgt := 84) hx hb dX1_layFar_70 (by decide) (fun c24 => ?_) (fun c24 => ?_)
          · refine g_iinc (lv' := [(4, .int (iI ((k : Int) + 1))), (0, .ref hX), (1, .int (iI room)), (2, .int (iI 0)), (3, .int (iI n_)), (5, .int (iI (qz ((plc S br ((k : Int) % 16) ((k : Int) / 16)) ∧ (atR S br (k : Int) room)))))]) hx hb dX1_layFar_84 hl (k := 4) rfl (by decide) rfl (fun ls hl => ?_)
            refine lv_goto (tgt := 7) hx hb dX1_layFar_87 (by decide) ?_
            exact ih7 _ (by omega) (k + 1) n_ (uZ F_ (k : Int) v22) W_ (uP A_ (k : Int) ((plc S br ((k : Int) % 16) ((k : Int) / 16)) ∧ (atR S br (k : Int) room))) (by omega) (spI_f hI (by assumption) (by assumption)) rfl _ _ hP (va_Dadr hD rfl) hS ls (lv_sub hl [1, 2, 3, 4, 0] rfl)
          · refine lv_aload_n hx hb dX1_layFar_73 rfl (lv_at hl 0 rfl) ?_
            refine va_get (D := G) (ci := 0) (v := .ref hwq) (C := RX1) (T := TX1) (N := 13) hx hb hts in_X1 hown hK hP 0 rfl rfl 6 (by decide) (hts _ q254) (fun _ h9 => h9) hF_xs_6 dX1_layFar_74 ?_
            refine lv_iload_n hx hb dX1_layFar_77 rfl (lv_at hl 3 rfl) ?_
            refine lv_iload hx hb dX1_layFar_78 (lv_at hl 4 rfl) ?_
            refine g_iast (ws1 := [(hX, .inr (0, xs)), (hst, .inr (1, ss)), (hsq, .inl (g 0, 192, .inl (aI S))), (hro, .inl (kR, 1, .inr (.inr (.inr (.inr (fun _ => some hX)))))), (hfa, .inl (g 0, 192, .inl (aI (uZ F_ (k : Int) v22)))), (hwq, .inl (g 0, 192, .inl (aI (uZ W_ n_ (k : Int))))), (hwa, .inl (g 1, 192, .inl (aP (uP A_ (k : Int) ((plc S br ((k : Int) % 16) ((k : Int) / 16)) ∧ (atR S br (k : Int) room))))))]) hx hb hK hP hD hS 5 0 rfl rfl (i := n_) (⟨by omega, by omega⟩) (by decide) dX1_layFar_80 rfl (fun H locs hP hS => ?_)
            have hD : va_D A [(hX, .inr (0, xs)), (hst, .inr (1, ss)), (hsq, .inl (g 0, 192, .inl (aI S))), (hro, .inl (kR, 1, .inr (.inr (.inr (.inr (fun _ => some hX)))))), (hfa, .inl (g 0, 192, .inl (aI (uZ F_ (k : Int) v22)))), (hwq, .inl (g 0, 192, .inl (aI (uZ W_ n_ (k : Int))))), (hwa, .inl (g 1, 192, .inl (aP (uP A_ (k : Int) ((plc S br ((k : Int) % 16) ((k : Int) / 16)) ∧ (atR S br (k : Int) room))))))] := va_Dadr hD rfl
            refine g_iinc (lv' := [(3, .int (iI (n_ + 1))), (0, .ref hX), (1, .int (iI room)), (2, .int (iI 0)), (4, .int (iI (k : Int))), (5, .int (iI (qz ((plc S br ((k : Int) % 16) ((k : Int) / 16)) ∧ (atR S br (k : Int) room)))))]) hx hb dX1_layFar_81 hl (k := 3) rfl (by decide) rfl (fun ls hl => ?_)
            refine g_iinc (lv' := [(4, .int (iI ((k : Int) + 1))), (3, .int (iI (n_ + 1))), (0, .ref hX), (1, .int (iI room)), (2, .int (iI 0)), (5, .int (iI (qz ((plc S br ((k : Int) % 16) ((k : Int) / 16)) ∧ (atR S br (k : Int) room)))))]) hx hb dX1_layFar_84 hl (k := 4) rfl (by decide) rfl (fun ls hl => ?_)
            refine lv_goto (tgt := 7) hx hb dX1_layFar_87 (by decide) ?_
            exact ih7 _ (by omega) (k + 1) (n_ + 1) (uZ F_ (k : Int) v22) (uZ W_ n_ (k : Int)) (uP A_ (k : Int) ((plc S br ((k : Int) % 16) ((k : Int) / 16)) ∧ (atR S br (k : Int) room))) (by omega) (spI_t hI (by assumption) (by assumption)) rfl _ _ hP (va_Dadr hD rfl) hS ls (lv_sub hl [2, 3, 4, 1, 0] rfl)
        refine g_ifq_eq (tgt := 56) hx hb dX1_layFar_49 (by decide) (fun c25 => ?_) (fun c25 => ?_)
        · refine g_ldc (z := 2147483647) hx hb hown (hts _ q464) (by decide) dX1_layFar_56 ?_
          refine g_eq (b := zi ((plc S br ((k : Int) % 16) ((k : Int) / 16)) ∧ (atR S br (k : Int) room)) 1 2147483647) ((zi_f c25)).symm ?_
          exact hJ21 ls (lv_sub hl [1, 2, 3, 4, 5, 0] rfl)
        · refine lv_iconst (v := iI 1) hx hb dX1_layFar_52 rfl ?_
          refine lv_goto (tgt := 58) hx hb dX1_layFar_53 (by decide) ?_
          refine g_eq (b := zi ((plc S br ((k : Int) % 16) ((k : Int) / 16)) ∧ (atR S br (k : Int) room)) 1 2147483647) ((zi_t c25)).symm ?_
          exact hJ21 ls (lv_sub hl [1, 2, 3, 4, 5, 0] rfl)
      refine g_ifq_eq (tgt := 38) hx hb dX1_layFar_21 (by decide) (fun c26 => ?_) (fun c26 => ?_)
      · refine lv_iconst (v := iI 0) hx hb dX1_layFar_38 rfl ?_
        refine g_eq (b := qz ((plc S br ((k : Int) % 16) ((k : Int) / 16)) ∧ (atR S br (k : Int) room))) (qz_f (fun xx => (c26 xx.1))).symm ?_
        exact hJ20 ls (lv_sub hl [0, 1, 2, 3, 4] rfl)
      · refine lv_aload_n hx hb dX1_layFar_24 rfl (lv_at hl 0 rfl) ?_
        refine lv_iload hx hb dX1_layFar_25 (lv_at hl 4 rfl) ?_
        refine lv_iload_n hx hb dX1_layFar_27 rfl (lv_at hl 1 rfl) ?_
        have hplc : plc S br ((k : Int) % 16) ((k : Int) / 16) := by assumption
        refine g_callV (As := [.int (iI (k : Int)), .int (iI room)]) (rest := []) (m_X1_isAt l G g hX (k : Int) room xs hst br ss hsq S b0 ta td E hF_xs_0 hF_xs_10 hF_ss_0 hEE (⟨by omega, by omega⟩) r_room kS hbr (⟨by omega, by omega, hplc.1.2.2.1, hplc.1.2.2.2⟩) (by omega)) hx hb hml hown hts hSt hK hP hS hEs [0, 1, 2] rfl (q0 := 0) rfl rfl q499 q501 qs15 q94 q502 hd_X1_isAt rfl rfl ⟨Nat.le_of_ble_eq_true rfl, Nat.le_of_ble_eq_true rfl⟩ rfl hl rfl (Nat.le_of_ble_eq_true rfl) ⟨Nat.le_refl _, Nat.le_refl _⟩ dX1_layFar_28 ?_
        refine g_ifq_eq (tgt := 38) hx hb dX1_layFar_31 (by decide) (fun c27 => ?_) (fun c27 => ?_)
        · refine lv_iconst (v := iI 0) hx hb dX1_layFar_38 rfl ?_
          refine g_eq (b := qz ((plc S br ((k : Int) % 16) ((k : Int) / 16)) ∧ (atR S br (k : Int) room))) (qz_f (fun xx => (c27 xx.2))).symm ?_
          exact hJ20 ls (lv_sub hl [0, 1, 2, 3, 4] rfl)
        · refine lv_iconst (v := iI 1) hx hb dX1_layFar_34 rfl ?_
          refine lv_goto (tgt := 39) hx hb dX1_layFar_35 (by decide) ?_
          refine g_eq (b := qz ((plc S br ((k : Int) % 16) ((k : Int) / 16)) ∧ (atR S br (k : Int) room))) (qz_t ⟨c26, c27⟩).symm ?_
          exact hJ20 ls (lv_sub hl [0, 1, 2, 3, 4] rfl)
  exact lp7 _ 0 0 FA WQ WA (by omega) (spI_0) rfl s.heap [] hP (va_Dadr hD rfl) hS ls (lv_sub hl [3, 4, 2, 1, 0] rfl)
