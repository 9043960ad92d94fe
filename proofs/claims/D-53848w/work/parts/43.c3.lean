theorem hd_X1_takes : yX1_takes.cls = RX1 ∧ yX1_takes.cls ≠ "java/lang/invoke/MethodHandle" ∧ yX1_takes.cls ≠ "java/lang/invoke/VarHandle" ∧ (parseMethodDescriptor yX1_takes.desc).map (fun d => d.parameters.length) = some 2 := by decide +kernel
set_option maxHeartbeats 1000000 in
set_option maxRecDepth 100000 in
theorem m_X1_takes (l : Launch) (G : va_G) (g : Nat → ClassId) (hX : Nat) (place : Int) (d : Int) (xs : List Value) (hst : Nat) (hro : Nat) (hfa : Nat) (br : Int) (ss : List Value) (hsq : Nat) (S : Int → Int) (FA : Int → Int) (b0 : Nat) (ta : Nat) (td : Nat) (E : State → Prop) (kR : ClassId) (kD : ClassId) (kO : ClassId) (hF_xs_0 : xs[0]? = some (.ref hst)) (hF_xs_2 : xs[2]? = some (.ref hro)) (hF_xs_5 : xs[5]? = some (.ref hfa)) (hF_xs_10 : xs[10]? = some (.int (iI br))) (hF_ss_0 : ss[0]? = some (.ref hsq)) (hEE : okE b0 ta td E) (hEL : okL kR kD kO E) (r_place : r32 place) (r_d : r32 d) (kS : rgS S) (hbr : 1 ≤ br ∧ br ≤ 3) (kFA : rgF FA) (kPF : plF br FA) (hp : 0 ≤ place ∧ place ≤ 191) (hd4 : 0 ≤ d ∧ d ≤ 3) : Met l yX1_takes (ws_ yX1_takes cX1_takes 5 (Option.some Jvm.ClassFile.FieldType.int)) ({ frames := 4, cells := 0, slots := 0, locals := 88 }) (va_Pc [.ref hX, .int (iI place), .int (iI d)] (rdB G CL (TY g) (E) [(hX, .inr (0, xs)), (hst, .inr (1, ss)), (hsq, .inl (g 0, 192, .inl (aI S))), (hro, .inl (kR, 1, .inr (.inr (.inr (.inr (fun _ => some hX)))))), (hfa, .inl (g 0, 192, .inl (aI FA)))])) (QcRead ((iI (tkC S FA br place d)))) 0 0 (fun _ => False) := by
  refine Met.at (by decide) (Nat.le_of_ble_eq_true rfl) ?_
  intro p e s m below meth c hx hb hr hlk hml hown hnm hts hB ls hl
  have hown : s.vm.findClass RX1 = some m.cls := hown
  obtain ⟨hP, hK, hEs⟩ := hB
  have hSt : Stab (fun _ => False) E := hEE.no
  have hS : va_S (fun _ => False) s.heap s.heap [] := va_S.rf
  have nw : nW s := (hEE.cs s hEs).2.2.2.2
  have hl : lv_has ls 5 [(0, .ref hX), (1, .int (iI place)), (2, .int (iI d))] := hl
  refine lv_iload_n hx hb dX1_takes_0 rfl (lv_at hl 1 rfl) ?_
  refine lv_iload_n hx hb dX1_takes_1 rfl (lv_at hl 2 rfl) ?_
  refine g_callS (A := fun _ => False) (As := [.int (iI place), .int (iI d)]) (rest := []) (m_X1_next l G g place d b0 ta td E hEE r_place r_d hp hd4) hx hb hml hown hts hSt hK hP va_S.rf hEs [] rfl q503 q504 q94 q505 hd_X1_next rfl rfl ⟨Nat.le_of_ble_eq_true rfl, Nat.le_of_ble_eq_true rfl⟩ rfl hl rfl (Nat.le_of_ble_eq_true rfl) ⟨Nat.le_refl _, Nat.le_refl _⟩ dX1_takes_2 ?_
  have w1 := nxC_rng place d
  refine lv_istore_n (lv' := [(3, .int (iI (nxC place d))), (0, .ref hX), (1, .int (iI place)), (2, .int (iI d))]) hx hb dX1_takes_5 rfl hl (by decide) rfl (fun ls hl => ?_)
  refine lv_iload_n hx hb dX1_takes_6 rfl (lv_at hl 0 rfl) ?_
  refine lv_iconst (v := iI (-1)) hx hb dX1_takes_7 rfl ?_
  have hJ2 : ∀ ls : Array Slot, lv_has ls 5 [(0, .ref hX), (1, .int (iI place)), (2, .int (iI d)), (3, .int (iI (nxC place d)))] → W p l e ({ frames := 4, cells := 0, slots := 0, locals := 88 }) s m ([.ref hX, .int (iI place), .int (iI d)] : List Value).toArray below meth c s.heap [] 0 0 (MQ below (QcRead ((iI (tkC S FA br place d)))) ([.ref hX, .int (iI place), .int (iI d)] : List Value).toArray s 0 0 (fun _ => False)) (F0 m 27 ls [.int (iI (qz (¬ ((nxC place d) = (-1)) ∧ (¬ ((FA (nxC place d)) = 2147483647)))))]) := by
    intro ls hl
    refine lv_istore (lv' := [(4, .int (iI (qz (¬ ((nxC place d) = (-1)) ∧ (¬ ((FA (nxC place d)) = 2147483647)))))), (0, .ref hX), (1, .int (iI place)), (2, .int (iI d)), (3, .int (iI (nxC place d)))]) hx hb dX1_takes_27 hl (by decide) rfl (fun ls hl => ?_)
    refine lv_iload hx hb dX1_takes_29 (lv_at hl 0 rfl) ?_
    have hJ3 : ∀ ls : Array Slot, lv_has ls 5 [(0, .ref hX), (1, .int (iI place)), (2, .int (iI d)), (3, .int (iI (nxC place d))), (4, .int (iI (qz (¬ ((nxC place d) = (-1)) ∧ (¬ ((FA (nxC place d)) = 2147483647))))))] → W p l e ({ frames := 4, cells := 0, slots := 0, locals := 88 }) s m ([.ref hX, .int (iI place), .int (iI d)] : List Value).toArray below meth c s.heap [] 0 0 (MQ below (QcRead ((iI (tkC S FA br place d)))) ([.ref hX, .int (iI place), .int (iI d)] : List Value).toArray s 0 0 (fun _ => False)) (F0 m 58 ls [.int (iI (zi (¬ ((nxC place d) = (-1)) ∧ (¬ ((FA (nxC place d)) = 2147483647))) (((1000 * (nrk S br (nxC place d) d)) + 1) + (FA (nxC place d))) 2147483647))]) := by
      intro ls hl
      exact g_iret hx hb hr hlk (rfl) dX1_takes_58
    refine g_ifq_eq (tgt := 56) hx hb dX1_takes_31 (by decide) (fun c4 => ?_) (fun c4 => ?_)
    · refine g_ldc (z := 2147483647) hx hb hown (hts _ q464) (by decide) dX1_takes_56 ?_
      refine g_eq (b := zi (¬ ((nxC place d) = (-1)) ∧ (¬ ((FA (nxC place d)) = 2147483647))) (((1000 * (nrk S br (nxC place d) d)) + 1) + (FA (nxC place d))) 2147483647) ((zi_f c4)).symm ?_
      exact hJ3 ls (lv_sub hl [1, 2, 3, 4, 0] rfl)
    · refine lv_sipush (v := iI 1000) hx hb dX1_takes_34 rfl ?_
      refine lv_aload_n hx hb dX1_takes_37 rfl (lv_at hl 1 rfl) ?_
      refine lv_iload_n hx hb dX1_takes_38 rfl (lv_at hl 4 rfl) ?_
      refine lv_iload_n hx hb dX1_takes_39 rfl (lv_at hl 3 rfl) ?_
      refine g_callV (A := fun _ => False) (As := [.int (iI (nxC place d)), .int (iI d)]) (rest := [.int (iI 1000)]) (m_X1_newRock l G g hX (nxC place d) d xs hst hro br ss hsq S b0 ta td E kR kD kO hF_xs_0 hF_xs_2 hF_xs_10 hF_ss_0 hEE hEL (⟨by omega, by omega⟩) r_d kS hbr (kPF _ (by omega) (by omega) (show ¬ nxC place d = -1 ∧ ¬ FA (nxC place d) = 2147483647 by assumption).2) hd4) hx hb hml hown hts hSt hK hP va_S.rf hEs [0, 1, 2, 3] rfl (q0 := 0) rfl rfl q516 q518 qs17 q94 q519 hd_X1_newRock rfl rfl ⟨Nat.le_of_ble_eq_true rfl, Nat.le_of_ble_eq_true rfl⟩ rfl hl rfl (Nat.le_of_ble_eq_true rfl) ⟨Nat.le_refl _, Nat.le_refl _⟩ dX1_takes_40 ?_
      have w5 := nrk_rng S (nxC place d) d hbr
      refine g_imul hx hb dX1_takes_43 ?_
      refine lv_iconst (v := iI 1) hx hb dX1_takes_44 rfl ?_
      refine g_iadd hx hb dX1_takes_45 ?_
      refine lv_aload_n hx hb dX1_takes_46 rfl (lv_at hl 1 rfl) ?_
      refine va_get (D := G) (ci := 0) (v := .ref hfa) (C := RX1) (T := TX1) (N := 13) hx hb hts in_X1 hown hK hP 0 rfl rfl 5 (by decide) (hts _ q253) (fun _ h9 => h9) hF_xs_5 dX1_takes_47 ?_
      refine lv_iload_n hx hb dX1_takes_50 rfl (lv_at hl 4 rfl) ?_
      refine g_iald hx hb hK hP 4 0 rfl rfl (i := nxC place d) (⟨by omega, by omega⟩) (by decide) dX1_takes_51 ?_
      have w6 := kFA (nxC place d) (by omega) (by omega)
      refine g_iadd hx hb dX1_takes_52 ?_
      refine lv_goto (tgt := 58) hx hb dX1_takes_53 (by decide) ?_
      refine g_eq (b := zi (¬ ((nxC place d) = (-1)) ∧ (¬ ((FA (nxC place d)) = 2147483647))) (((1000 * (nrk S br (nxC place d) d)) + 1) + (FA (nxC place d))) 2147483647) ((zi_t c4)).symm ?_
      exact hJ3 ls (lv_sub hl [1, 2, 3, 4, 0] rfl)
  refine g_icmp_eq (tgt := 26) hx hb dX1_takes_8 (by decide) ⟨⟨by omega, by omega⟩, ⟨by decide, by decide⟩⟩ (fun c7 => ?_) (fun c7 => ?_)
  · refine lv_iconst (v := iI 0) hx hb dX1_takes_26 rfl ?_
    refine g_eq (b := qz (¬ ((nxC place d) = (-1)) ∧ (¬ ((FA (nxC place d)) = 2147483647)))) (qz_f (fun xx => (xx.1 c7))).symm ?_
    exact hJ2 ls (lv_sub hl [1, 2, 3, 0] rfl)
  · refine lv_aload_n hx hb dX1_takes_11 rfl (lv_at hl 1 rfl) ?_
    refine va_get (D := G) (ci := 0) (v := .ref hfa) (C := RX1) (T := TX1) (N := 13) hx hb hts in_X1 hown hK hP 0 rfl rfl 5 (by decide) (hts _ q253) (fun _ h9 => h9) hF_xs_5 dX1_takes_12 ?_
    refine lv_iload_n hx hb dX1_takes_15 rfl (lv_at hl 0 rfl) ?_
    refine g_iald hx hb hK hP 4 0 rfl rfl (i := nxC place d) (⟨by omega, by omega⟩) (by decide) dX1_takes_16 ?_
    have w8 := kFA (nxC place d) (by omega) (by omega)
    refine g_ldc (z := 2147483647) hx hb hown (hts _ q464) (by decide) dX1_takes_17 ?_
    refine g_icmp_eq (tgt := 26) hx hb dX1_takes_19 (by decide) ⟨⟨by omega, by omega⟩, ⟨by decide, by decide⟩⟩ (fun c9 => ?_) (fun c9 => ?_)
    · refine lv_iconst (v := iI 0) hx hb dX1_takes_26 rfl ?_
      refine g_eq (b := qz (¬ ((nxC place d) = (-1)) ∧ (¬ ((FA (nxC place d)) = 2147483647)))) (qz_f (fun xx => (xx.2 c9))).symm ?_
      exact hJ2 ls (lv_sub hl [1, 2, 3, 0] rfl)
    · refine lv_iconst (v := iI 1) hx hb dX1_takes_22 rfl ?_
      refine lv_goto (tgt := 27) hx hb dX1_takes_23 (by decide) ?_
      refine g_eq (b := qz (¬ ((nxC place d) = (-1)) ∧ (¬ ((FA (nxC place d)) = 2147483647)))) (qz_t ⟨c7, c9⟩).symm ?_
      exact hJ2 ls (lv_sub hl [1, 2, 3, 0] rfl)
theorem hd_X1_whole : yX1_whole.cls = RX1 ∧ yX1_whole.cls ≠ "java/lang/invoke/MethodHandle" ∧ yX1_whole.cls ≠ "java/lang/invoke/VarHandle" ∧ (parseMethodDescriptor yX1_whole.desc).map (fun d => d.parameters.length) = some 1 := by decide +kernel
set_option maxHeartbeats 1000000 in
set_option maxRecDepth 100000 in
theorem m_X1_whole (l : Launch) (G : va_G) (g : Nat → ClassId) (hX : Nat) (place : Int) (xs : List Value) (hst : Nat) (hro : Nat) (hfa : Nat) (br : Int) (ss : List Value) (hsq : Nat) (S : Int → Int) (FA : Int → Int) (b0 : Nat) (ta : Nat) (td : Nat) (E : State → Prop) (kR : ClassId) (kD : ClassId) (kO : ClassId) (hF_xs_0 : xs[0]? = some (.ref hst)) (hF_xs_2 : xs[2]? = some (.ref hro)) (hF_xs_5 : xs[5]? = some (.ref hfa)) (hF_xs_10 : xs[10]? = some (.int (iI br))) (hF_ss_0 : ss[0]? = some (.ref hsq)) (hEE : okE b0 ta td E) (hEL : okL kR kD kO E) (r_place : r32 place) (kS : rgS S) (hbr : 1 ≤ br ∧ br ≤ 3) (kFA : rgF FA) (kPF : plF br FA) (hp : 0 ≤ place ∧ place ≤ 191) : Met l yX1_whole (ws_ yX1_whole cX1_whole 2 (Option.some Jvm.ClassFile.FieldType.int)) ({ frames := 4, cells := 0, slots := 0, locals := 85 }) (va_Pc [.ref hX, .int (iI place)] (rdB G CL (TY g) (E) [(hX, .inr (0, xs)), (hst, .inr (1, ss)), (hsq, .inl (g 0, 192, .inl (aI S))), (hro, .inl (kR, 1, .inr (.inr (.inr (.inr (fun _ => some hX)))))), (hfa, .inl (g 0, 192, .inl (aI FA)))])) (QcRead ((iI (whC S FA br place)))) 0 0 (fun _ => False) := by
  refine Met.at (by decide) (Nat.le_of_ble_eq_true rfl) ?_
  intro p e s m below meth c hx hb hr hlk hml hown hnm hts hB ls hl
  have hown : s.vm.findClass RX1 = some m.cls := hown
  obtain ⟨hP, hK, hEs⟩ := hB
  have hSt : Stab (fun _ => False) E := hEE.no
  have hS : va_S (fun _ => False) s.heap s.heap [] := va_S.rf
  have nw : nW s := (hEE.cs s hEs).2.2.2.2
  have hl : lv_has ls 2 [(0, .ref hX), (1, .int (iI place))] := hl
  refine lv_aload_n hx hb dX1_whole_0 rfl (lv_at hl 0 rfl) ?_
  refine va_get (D := G) (ci := 0) (v := .ref hfa) (C := RX1) (T := TX1) (N := 13) hx hb hts in_X1 hown hK hP 0 rfl rfl 5 (by decide) (hts _ q253) (fun _ h9 => h9) hF_xs_5 dX1_whole_1 ?_
  refine lv_iload_n hx hb dX1_whole_4 rfl (lv_at hl 1 rfl) ?_
  refine g_iald hx hb hK hP 4 0 rfl rfl (i := place) (⟨by omega, by omega⟩) (by decide) dX1_whole_5 ?_
  have w1 := kFA place (by omega) (by omega)
  refine g_ldc (z := 2147483647) hx hb hown (hts _ q464) (by decide) dX1_whole_6 ?_
  have hJ2 : ∀ ls : Array Slot, lv_has ls 2 [(0, .ref hX), (1, .int (iI place))] → W p l e ({ frames := 4, cells := 0, slots := 0, locals := 85 }) s m ([.ref hX, .int (iI place)] : List Value).toArray below meth c s.heap [] 0 0 (MQ below (QcRead ((iI (whC S FA br place)))) ([.ref hX, .int (iI place)] : List Value).toArray s 0 0 (fun _ => False)) (F0 m 32 ls [.int (iI (zi ((FA place) = 2147483647) 2147483647 ((1000 * (rk S br place (-1))) + (FA place))))]) := by
    intro ls hl
    exact g_iret hx hb hr hlk (rfl) dX1_whole_32
  refine g_icmp_ne (tgt := 16) hx hb dX1_whole_8 (by decide) ⟨⟨by omega, by omega⟩, ⟨by decide, by decide⟩⟩ (fun c3 => ?_) (fun c3 => ?_)
  · refine lv_sipush (v := iI 1000) hx hb dX1_whole_16 rfl ?_
    refine lv_aload_n hx hb dX1_whole_19 rfl (lv_at hl 0 rfl) ?_
    refine lv_iload_n hx hb dX1_whole_20 rfl (lv_at hl 1 rfl) ?_
    refine g_callV (A := fun _ => False) (As := [.int (iI place)]) (rest := [.int (iI 1000)]) (m_X1_rockOn l G g hX place xs hst hro br ss hsq S b0 ta td E kR kD kO hF_xs_0 hF_xs_2 hF_xs_10 hF_ss_0 hEE hEL r_place kS hbr (kPF _ hp.1 (by omega) (by assumption))) hx hb hml hown hts hSt hK hP va_S.rf hEs [0, 1, 2, 3] rfl (q0 := 0) rfl rfl q532 q534 qs20 q94 q535 hd_X1_rockOn rfl rfl ⟨Nat.le_of_ble_eq_true rfl, Nat.le_of_ble_eq_true rfl⟩ rfl hl rfl (Nat.le_of_ble_eq_true rfl) ⟨Nat.le_refl _, Nat.le_refl _⟩ dX1_whole_21 ?_
    have w4 := rk_rng S place (-1) hbr
    refine g_imul hx hb dX1_whole_24 ?_
    refine lv_aload_n hx hb dX1_whole_25 rfl (lv_at hl 0 rfl) ?_
    refine va_get (D := G) (ci := 0) (v := .ref hfa) (C := RX1) (T := TX1) (N := 13) hx hb hts in_X1 hown hK hP 0 rfl rfl 5 (by decide) (hts _ q253) (fun _ h9 => h9) hF_xs_5 dX1_whole_26 ?_
    refine lv_iload_n hx hb dX1_whole_29 rfl (lv_at hl 1 rfl) ?_
    refine g_iald hx hb hK hP 4 0 rfl rfl (i := place) (⟨by omega, by omega⟩) (by decide) dX1_whole_30 ?_
    have w5 := kFA place (by omega) (by omega)
    refine g_iadd hx hb dX1_whole_31 ?_
    refine g_eq (b := zi ((FA place) = 2147483647) 2147483647 ((1000 * (rk S br place (-1))) + (FA place))) ((zi_f c3)).symm ?_
    exact hJ2 ls (lv_sub hl [0, 1] rfl)
  · refine g_ldc (z := 2147483647) hx hb hown (hts _ q464) (by decide) dX1_whole_11 ?_
    refine lv_goto (tgt := 32) hx hb dX1_whole_13 (by decide) ?_
    refine g_eq (b := zi ((FA place) = 2147483647) 2147483647 ((1000 * (rk S br place (-1))) + (FA place))) ((zi_t c3)).symm ?_
    exact hJ2 ls (lv_sub hl [0, 1] rfl)
