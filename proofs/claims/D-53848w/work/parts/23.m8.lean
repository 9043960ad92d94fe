theorem hd_X3_byDigging : yX3_byDigging.cls = RX3 ∧ yX3_byDigging.cls ≠ "java/lang/invoke/MethodHandle" ∧ yX3_byDigging.cls ≠ "java/lang/invoke/VarHandle" ∧ (parseMethodDescriptor yX3_byDigging.desc).map (fun d => d.parameters.length) = some 3 := by decide +kernel
set_option maxHeartbeats 1000000 in
set_option maxRecDepth 100000 in
theorem m_X3_byDigging (l : Launch) (G : va_G) (g : Nat → ClassId) (sz : Nat) (hM : Nat) (x : Int) (y : Int) (what : Int) (hnow : Nat) (hthen : Nat) (hpast : Nat) (kept : Int) (htx : Nat) (ty : Int) (th : Int) (at_ : Int) (fa : Prop) (htold : Nat) (tolds : Int) (hac : Nat) (hal : Nat) (hre : Nat) (hse : Nat) (hpl : Nat) (many : Int) (cost : Int) (br : Int) (hsy : Nat) (S : Int → Int) (S2 : Int → Int) (RE : Int → Int) (SE : Int → Prop) (PL : Int → Int) (r_x : r32 x) (r_y : r32 y) (r_what : r32 what) (kS : rgS S) (kW : rgW S) (kT : 0 ≤ S 252) (hx1 : 0 ≤ x ∧ x ≤ 15) (hy1 : 0 ≤ y ∧ y ≤ 11) (hw3 : 0 ≤ what ∧ what ≤ 2) : Met l yX3_byDigging (ws_ yX3_byDigging cX3_byDigging 4 (Option.some Jvm.ClassFile.FieldType.int)) ({ frames := 8, cells := 0, slots := 0, locals := 192 }) (va_Pc [.ref hM, .int (iI x), .int (iI y), .int (iI what)] (wrB G CL (TY g) (fun _ => True) [(hM, .inr (2, (mO hnow hthen hpast kept htx ty th at_ fa htold tolds hac hal hre hse hpl many cost br hsy))), (hnow, .inl (g 0, 253, .inl (aI S))), (hthen, .inl (g 0, 253, .inl (aI S2))), (hac, .inl (g 0, 4, .inl (aI dx))), (hal, .inl (g 0, 4, .inl (aI dy))), (hre, .inl (g 0, 192, .inl (aI RE))), (hse, .inl (g 1, 192, .inl (aP SE))), (hpl, .inl (g 0, 192, .inl (aI PL)))] sz)) (va_Qi (fun (r : Int32) (u : (Int → Int) × (Int → Int) × (Int → Prop) × (Int → Int) × Int × Int × Int) => r = (iI (bdV S x y what))) (fun (u : (Int → Int) × (Int → Int) × (Int → Prop) × (Int → Int) × Int × Int × Int) t => va_P G CL [(hM, .inr (2, (mO hnow hthen hpast kept htx ty th at_ fa htold tolds hac hal hre hse hpl u.2.2.2.2.1 u.2.2.2.2.2.1 u.2.2.2.2.2.2 hsy))), (hnow, .inl (g 0, 253, .inl (aI S))), (hthen, .inl (g 0, 253, .inl (aI u.1))), (hac, .inl (g 0, 4, .inl (aI dx))), (hal, .inl (g 0, 4, .inl (aI dy))), (hre, .inl (g 0, 192, .inl (aI u.2.1))), (hse, .inl (g 1, 192, .inl (aP u.2.2.1))), (hpl, .inl (g 0, 192, .inl (aI u.2.2.2.1)))] t.heap) (va_A [(hM, .inr (2, (mO hnow hthen hpast kept htx ty th at_ fa htold tolds hac hal hre hse hpl many cost br hsy))), (hnow, .inl (g 0, 253, .inl (aI S))), (hthen, .inl (g 0, 253, .inl (aI S2))), (hac, .inl (g 0, 4, .inl (aI dx))), (hal, .inl (g 0, 4, .inl (aI dy))), (hre, .inl (g 0, 192, .inl (aI RE))), (hse, .inl (g 1, 192, .inl (aP SE))), (hpl, .inl (g 0, 192, .inl (aI PL)))] sz)) 0 0 (va_A [(hM, .inr (2, (mO hnow hthen hpast kept htx ty th at_ fa htold tolds hac hal hre hse hpl many cost br hsy))), (hnow, .inl (g 0, 253, .inl (aI S))), (hthen, .inl (g 0, 253, .inl (aI S2))), (hac, .inl (g 0, 4, .inl (aI dx))), (hal, .inl (g 0, 4, .inl (aI dy))), (hre, .inl (g 0, 192, .inl (aI RE))), (hse, .inl (g 1, 192, .inl (aP SE))), (hpl, .inl (g 0, 192, .inl (aI PL)))] sz) := by
  refine Met.at (by decide) (Nat.le_of_ble_eq_true rfl) ?_
  intro p e s m below meth c hx hb hr hlk hml hown hnm hts hB ls hl
  have hown : s.vm.findClass RX3 = some m.cls := hown
  obtain ⟨hsz, hP, hK, hD0, hEs⟩ := hB
  subst hsz
  have hD := hD0.self (sz := s.heap.size)
  generalize hAe : va_A [(hM, .inr (2, (mO hnow hthen hpast kept htx ty th at_ fa htold tolds hac hal hre hse hpl many cost br hsy))), (hnow, .inl (g 0, 253, .inl (aI S))), (hthen, .inl (g 0, 253, .inl (aI S2))), (hac, .inl (g 0, 4, .inl (aI dx))), (hal, .inl (g 0, 4, .inl (aI dy))), (hre, .inl (g 0, 192, .inl (aI RE))), (hse, .inl (g 1, 192, .inl (aP SE))), (hpl, .inl (g 0, 192, .inl (aI PL)))] s.heap.size = A at hD ⊢
  have hA : ∀ q : Nat, s.heap.size ≤ q → A q := fun q h => by rw [← hAe]; exact Or.inr h
  have hS : va_S A s.heap s.heap [] := va_S.rf
  have hl : lv_has ls 4 [(0, .ref hM), (1, .int (iI x)), (2, .int (iI y)), (3, .int (iI what))] := hl
  refine lv_aload_n hx hb dX3_byDigging_0 rfl (lv_at hl 0 rfl) ?_
  refine va_get (D := G) (ci := 2) (v := .ref hnow) (C := RX3) (T := TX3) (N := 20) hx hb hts in_X3 hown hK hP 0 rfl rfl 0 (by decide) (hts _ q1438) (fun _ h9 => h9) rfl dX3_byDigging_1 ?_
  refine lv_iload_n hx hb dX3_byDigging_4 rfl (lv_at hl 1 rfl) ?_
  refine lv_iload_n hx hb dX3_byDigging_5 rfl (lv_at hl 2 rfl) ?_
  refine g_callS (As := [.ref hnow, .int (iI x), .int (iI y)]) (rest := []) (m_X3_what l G g hnow x y S r_x r_y kS) hx hb hml hown hts Stab.tt hK hP hS hEs [1] rfl q1535 q1536 q102 q1537 hd_X3_what rfl rfl ⟨Nat.le_of_ble_eq_true rfl, Nat.le_of_ble_eq_true rfl⟩ rfl hl rfl (Nat.le_of_ble_eq_true rfl) ⟨Nat.le_refl _, Nat.le_refl _⟩ dX3_byDigging_6 ?_
  have w1 := wh_rng kS x y
  refine g_if_lt (tgt := 14) hx hb dX3_byDigging_9 (by decide) ⟨by omega, by omega⟩ (fun c2 => ?_) (fun c2 => ?_)
  · refine lv_aload_n hx hb dX3_byDigging_14 rfl (lv_at hl 0 rfl) ?_
    refine g_callVwv (As := []) (rest := []) (m_X3_tries l G g s.heap.size hM hnow hthen hpast kept htx ty th at_ fa htold tolds hac hal hre hse hpl many cost br hsy S S2) hx hb hml hown hts Stab.tt hA hK hP hD hS hEs [0, 1, 2] rfl rfl (fun _ => rfl) (q0 := 0) rfl rfl q1752 q1754 qs89 q102 q1755 hd_X3_tries rfl rfl ⟨Nat.le_of_ble_eq_true rfl, Nat.le_of_ble_eq_true rfl⟩ rfl hl rfl (Nat.le_of_ble_eq_true rfl) ⟨Nat.le_refl _, Nat.le_refl _⟩ dX3_byDigging_15 (fun u H locs hp hP hS => ?_)
    have hP : va_P G CL [(hM, .inr (2, (mO hnow hthen hpast kept htx ty th at_ fa htold tolds hac hal hre hse hpl many cost br hsy))), (hnow, .inl (g 0, 253, .inl (aI S))), (hthen, .inl (g 0, 253, .inl (aI S))), (hac, .inl (g 0, 4, .inl (aI dx))), (hal, .inl (g 0, 4, .inl (aI dy))), (hre, .inl (g 0, 192, .inl (aI RE))), (hse, .inl (g 1, 192, .inl (aP SE))), (hpl, .inl (g 0, 192, .inl (aI PL)))] H := hP
    have hD : va_D A [(hM, .inr (2, (mO hnow hthen hpast kept htx ty th at_ fa htold tolds hac hal hre hse hpl many cost br hsy))), (hnow, .inl (g 0, 253, .inl (aI S))), (hthen, .inl (g 0, 253, .inl (aI S))), (hac, .inl (g 0, 4, .inl (aI dx))), (hal, .inl (g 0, 4, .inl (aI dy))), (hre, .inl (g 0, 192, .inl (aI RE))), (hse, .inl (g 1, 192, .inl (aP SE))), (hpl, .inl (g 0, 192, .inl (aI PL)))] := va_Dadr hD rfl
    refine W.widen (k := 0) (n := 0) (Nat.le_refl _) (Nat.le_refl _) ?_
    refine lv_aload_n hx hb dX3_byDigging_18 rfl (lv_at hl 0 rfl) ?_
    refine va_get (D := G) (ci := 2) (v := .ref hthen) (C := RX3) (T := TX3) (N := 20) hx hb hts in_X3 hown hK hP 0 rfl rfl 1 (by decide) (hts _ q1439) (fun _ h9 => h9) rfl dX3_byDigging_19 ?_
    refine lv_bipush (v := iI 16) hx hb dX3_byDigging_22 rfl ?_
    refine lv_iload_n hx hb dX3_byDigging_24 rfl (lv_at hl 2 rfl) ?_
    refine g_imul hx hb dX3_byDigging_25 ?_
    refine lv_iload_n hx hb dX3_byDigging_26 rfl (lv_at hl 1 rfl) ?_
    refine g_iadd hx hb dX3_byDigging_27 ?_
    refine g_callSwv (As := [.ref hthen, .int (iI ((16 * y) + x))]) (rest := []) (m_X3_toggles l G g H.size hthen ((16 * y) + x) S (⟨by omega, by omega⟩) kS (by omega)) hx hb hml hown hts Stab.tt hA hK hP hD hS hEs [2] rfl rfl (fun _ => rfl) q1571 q1572 q102 q1573 hd_X3_toggles rfl rfl ⟨Nat.le_of_ble_eq_true rfl, Nat.le_of_ble_eq_true rfl⟩ rfl hl rfl (Nat.le_of_ble_eq_true rfl) ⟨Nat.le_refl _, Nat.le_refl _⟩ dX3_byDigging_28 (fun u H locs hp hP hS => ?_)
    have hP : va_P G CL [(hM, .inr (2, (mO hnow hthen hpast kept htx ty th at_ fa htold tolds hac hal hre hse hpl many cost br hsy))), (hnow, .inl (g 0, 253, .inl (aI S))), (hthen, .inl (g 0, 253, .inl (aI (tgl S ((16 * y) + x))))), (hac, .inl (g 0, 4, .inl (aI dx))), (hal, .inl (g 0, 4, .inl (aI dy))), (hre, .inl (g 0, 192, .inl (aI RE))), (hse, .inl (g 1, 192, .inl (aP SE))), (hpl, .inl (g 0, 192, .inl (aI PL)))] H := hP
    have hD : va_D A [(hM, .inr (2, (mO hnow hthen hpast kept htx ty th at_ fa htold tolds hac hal hre hse hpl many cost br hsy))), (hnow, .inl (g 0, 253, .inl (aI S))), (hthen, .inl (g 0, 253, .inl (aI (tgl S ((16 * y) + x))))), (hac, .inl (g 0, 4, .inl (aI dx))), (hal, .inl (g 0, 4, .inl (aI dy))), (hre, .inl (g 0, 192, .inl (aI RE))), (hse, .inl (g 1, 192, .inl (aP SE))), (hpl, .inl (g 0, 192, .inl (aI PL)))] := va_Dadr hD rfl
    refine W.widen (k := 0) (n := 0) (Nat.le_refl _) (Nat.le_refl _) ?_
    have kS2 : rgS (tgl S (16 * y + x)) := rgS_tgl kS
    have kW2 : rgW (tgl S (16 * y + x)) := rgW_tgl kW (by omega)
    have kT2 : 0 ≤ (tgl S (16 * y + x)) 252 := by rw [set_tgl (by omega)]; exact kT
    refine lv_iload_n hx hb dX3_byDigging_31 rfl (lv_at hl 3 rfl) ?_
    refine lv_iconst (v := iI 1) hx hb dX3_byDigging_32 rfl ?_
    refine g_icmp_ne (tgt := 48) hx hb dX3_byDigging_33 (by decide) ⟨r_what, ⟨by decide, by decide⟩⟩ (fun c3 => ?_) (fun c3 => ?_)
    · refine lv_aload_n hx hb dX3_byDigging_48 rfl (lv_at hl 0 rfl) ?_
      refine lv_aload_n hx hb dX3_byDigging_49 rfl (lv_at hl 0 rfl) ?_
      refine va_get (D := G) (ci := 2) (v := .ref hthen) (C := RX3) (T := TX3) (N := 20) hx hb hts in_X3 hown hK hP 0 rfl rfl 1 (by decide) (hts _ q1439) (fun _ h9 => h9) rfl dX3_byDigging_50 ?_
      refine lv_iload_n hx hb dX3_byDigging_53 rfl (lv_at hl 3 rfl) ?_
      have hJ4 : ∀ ls : Array Slot, lv_has ls 4 [(0, .ref hM), (1, .int (iI x)), (2, .int (iI y)), (3, .int (iI what))] → W p l e ({ frames := 8, cells := 0, slots := 0, locals := 192 }) s m ([.ref hM, .int (iI x), .int (iI y), .int (iI what)] : List Value).toArray below meth c H locs 0 0 (MQ below (va_Qi (fun (r : Int32) (u : (Int → Int) × (Int → Int) × (Int → Prop) × (Int → Int) × Int × Int × Int) => r = (iI (bdV S x y what))) (fun (u : (Int → Int) × (Int → Int) × (Int → Prop) × (Int → Int) × Int × Int × Int) t => va_P G CL [(hM, .inr (2, (mO hnow hthen hpast kept htx ty th at_ fa htold tolds hac hal hre hse hpl u.2.2.2.2.1 u.2.2.2.2.2.1 u.2.2.2.2.2.2 hsy))), (hnow, .inl (g 0, 253, .inl (aI S))), (hthen, .inl (g 0, 253, .inl (aI u.1))), (hac, .inl (g 0, 4, .inl (aI dx))), (hal, .inl (g 0, 4, .inl (aI dy))), (hre, .inl (g 0, 192, .inl (aI u.2.1))), (hse, .inl (g 1, 192, .inl (aP u.2.2.1))), (hpl, .inl (g 0, 192, .inl (aI u.2.2.2.1)))] t.heap) A) ([.ref hM, .int (iI x), .int (iI y), .int (iI what)] : List Value).toArray s 0 0 A) (F0 m 62 ls [.int (iI (zi (what = 0) 1 2)), .ref hthen, .ref hM]) := by
        intro ls hl
        have o6 := zi_or (what = 0) 1 2
        obtain ⟨v5, e_v5⟩ : ∃ z : Int, z = zi (what = 0) 1 2 := ⟨_, rfl⟩
        refine g_eq e_v5.symm ?_
        refine g_callVwi (As := [.ref hthen, .int (iI v5)]) (rest := []) (m_X3_pairs l G g H.size hM hthen v5 hnow hthen hpast kept htx ty th at_ fa htold tolds hac hal hre hse hpl many cost br hsy (tgl S ((16 * y) + x)) RE SE PL (by omega) kS2 kW2) hx hb hml hown hts Stab.tt hA hK hP hD hS hEs [0, 2, 3, 4, 5, 6, 7] rfl rfl (fun _ => rfl) (q0 := 0) rfl rfl q1740 q1742 qs87 q102 q1743 hd_X3_pairs rfl rfl ⟨Nat.le_of_ble_eq_true rfl, Nat.le_of_ble_eq_true rfl⟩ rfl hl rfl (Nat.le_of_ble_eq_true rfl) ⟨Nat.le_refl _, Nat.le_refl _⟩ dX3_byDigging_62 (fun rr u H locs hp hP hS => ?_)
        obtain ⟨RE1_7, SE1_8, PL1_9, m1_10, c1_11, b1_12⟩ := u
        have hrr : rr = (iI (prs (tgl S ((16 * y) + x)) v5)) := hp
        subst hrr
        have hP : va_P G CL [(hM, .inr (2, (mO hnow hthen hpast kept htx ty th at_ fa htold tolds hac hal hre hse hpl m1_10 c1_11 b1_12 hsy))), (hnow, .inl (g 0, 253, .inl (aI S))), (hthen, .inl (g 0, 253, .inl (aI (tgl S ((16 * y) + x))))), (hac, .inl (g 0, 4, .inl (aI dx))), (hal, .inl (g 0, 4, .inl (aI dy))), (hre, .inl (g 0, 192, .inl (aI RE1_7))), (hse, .inl (g 1, 192, .inl (aP SE1_8))), (hpl, .inl (g 0, 192, .inl (aI PL1_9)))] H := hP
        have hD : va_D A [(hM, .inr (2, (mO hnow hthen hpast kept htx ty th at_ fa htold tolds hac hal hre hse hpl m1_10 c1_11 b1_12 hsy))), (hnow, .inl (g 0, 253, .inl (aI S))), (hthen, .inl (g 0, 253, .inl (aI (tgl S ((16 * y) + x))))), (hac, .inl (g 0, 4, .inl (aI dx))), (hal, .inl (g 0, 4, .inl (aI dy))), (hre, .inl (g 0, 192, .inl (aI RE1_7))), (hse, .inl (g 1, 192, .inl (aP SE1_8))), (hpl, .inl (g 0, 192, .inl (aI PL1_9)))] := va_Dadr hD rfl
        refine W.widen (k := 0) (n := 0) (Nat.le_refl _) (Nat.le_refl _) ?_
        exact W.iret (v := (iI (prs (tgl S ((16 * y) + x)) v5))) hx hb hr (fun t ht hW => ⟨⟨_, ((tgl S ((16 * y) + x)), RE1_7, SE1_8, PL1_9, m1_10, c1_11, b1_12), rfl, by show iI (prs (tgl S ((16 * y) + x)) v5) = iI (bdV S x y what); rw [e_v5]; exact congrArg iI ((zi_t (by assumption)).trans (zi_f (by assumption))).symm, by rw [← ht] at hP; exact hP⟩, hS.F ht⟩) hS.2.2 dX3_byDigging_65 hlk
      refine g_if_ne (tgt := 61) hx hb dX3_byDigging_54 (by decide) r_what (fun c13 => ?_) (fun c13 => ?_)
      · refine lv_iconst (v := iI 2) hx hb dX3_byDigging_61 rfl ?_
        refine g_eq (b := zi (what = 0) 1 2) ((zi_f c13)).symm ?_
        exact hJ4 ls (lv_sub hl [0, 1, 2, 3] rfl)
      · refine lv_iconst (v := iI 1) hx hb dX3_byDigging_57 rfl ?_
        refine lv_goto (tgt := 62) hx hb dX3_byDigging_58 (by decide) ?_
        refine g_eq (b := zi (what = 0) 1 2) ((zi_t c13)).symm ?_
        exact hJ4 ls (lv_sub hl [0, 1, 2, 3] rfl)
    · refine lv_aload_n hx hb dX3_byDigging_36 rfl (lv_at hl 0 rfl) ?_
      refine lv_aload_n hx hb dX3_byDigging_37 rfl (lv_at hl 0 rfl) ?_
      refine va_get (D := G) (ci := 2) (v := .ref hthen) (C := RX3) (T := TX3) (N := 20) hx hb hts in_X3 hown hK hP 0 rfl rfl 1 (by decide) (hts _ q1439) (fun _ h9 => h9) rfl dX3_byDigging_38 ?_
      refine lv_iconst (v := iI 1) hx hb dX3_byDigging_41 rfl ?_
      refine W.eq (g2 := F0 m 42 ls [.int (iI (qz True)), .ref hthen, .ref hM]) (by simp only [qz_T, qz_F]) ?_
      refine g_callV (As := [.ref hthen, .int (iI (qz True))]) (rest := []) (m_X3_allDoors l G g hM hthen True (mO hnow hthen hpast kept htx ty th at_ fa htold tolds hac hal hre hse hpl many cost br hsy) hac hal (tgl S ((16 * y) + x)) rfl rfl kS2 kT2) hx hb hml hown hts Stab.tt hK hP hS hEs [0, 2, 3, 4] rfl (q0 := 0) rfl rfl q1736 q1738 qs86 q102 q1739 hd_X3_allDoors rfl rfl ⟨Nat.le_of_ble_eq_true rfl, Nat.le_of_ble_eq_true rfl⟩ rfl hl rfl (Nat.le_of_ble_eq_true rfl) ⟨Nat.le_refl _, Nat.le_refl _⟩ dX3_byDigging_42 ?_
      refine lv_goto (tgt := 65) hx hb dX3_byDigging_45 (by decide) ?_
      exact W.iret (v := (iI (ads (tgl S ((16 * y) + x)) True))) hx hb hr (fun t ht hW => ⟨⟨_, ((tgl S ((16 * y) + x)), RE, SE, PL, many, cost, br), rfl, congrArg iI ((zi_t (by assumption)).trans (zi_t (by assumption))).symm, by rw [← ht] at hP; exact hP⟩, hS.F ht⟩) hS.2.2 dX3_byDigging_65 hlk
  · refine lv_iconst (v := iI (-1)) hx hb dX3_byDigging_12 rfl ?_
    exact W.iret (v := (iI (-1))) hx hb hr (fun t ht hW => ⟨⟨_, (S2, RE, SE, PL, many, cost, br), rfl, congrArg iI (zi_f (by assumption)).symm, by rw [← ht] at hP; exact hP⟩, hS.F ht⟩) hS.2.2 dX3_byDigging_13 hlk
theorem hd_X3_without : yX3_without.cls = RX3 ∧ yX3_without.cls ≠ "java/lang/invoke/MethodHandle" ∧ yX3_without.cls ≠ "java/lang/invoke/VarHandle" ∧ (parseMethodDescriptor yX3_without.desc).map (fun d => d.parameters.length) = some 1 := by decide +kernel
set_option maxHeartbeats 1000000 in
set_option maxRecDepth 100000 in
theorem m_X3_without (l : Launch) (G : va_G) (g : Nat → ClassId) (sz : Nat) (hM : Nat) (room : Int) (hnow : Nat) (hthen : Nat) (hpast : Nat) (kept : Int) (htx : Nat) (ty : Int) (th : Int) (at_ : Int) (fa : Prop) (htold : Nat) (tolds : Int) (hac : Nat) (hal : Nat) (hre : Nat) (hse : Nat) (hpl : Nat) (many : Int) (cost : Int) (br : Int) (hsy : Nat) (S : Int → Int) (S2 : Int → Int) (RE : Int → Int) (SE : Int → Prop) (PL : Int → Int) (r_room : r32 room) (kS : rgS S) (kW : rgW S) (hrm : 0 ≤ room ∧ room ≤ 5) : Met l yX3_without (ws_ yX3_without cX3_without 2 (Option.some Jvm.ClassFile.FieldType.int)) ({ frames := 8, cells := 0, slots := 0, locals := 192 }) (va_Pc [.ref hM, .int (iI room)] (wrB G CL (TY g) (fun _ => True) [(hM, .inr (2, (mO hnow hthen hpast kept htx ty th at_ fa htold tolds hac hal hre hse hpl many cost br hsy))), (hnow, .inl (g 0, 253, .inl (aI S))), (hthen, .inl (g 0, 253, .inl (aI S2))), (hac, .inl (g 0, 4, .inl (aI dx))), (hal, .inl (g 0, 4, .inl (aI dy))), (hre, .inl (g 0, 192, .inl (aI RE))), (hse, .inl (g 1, 192, .inl (aP SE))), (hpl, .inl (g 0, 192, .inl (aI PL)))] sz)) (va_Qi (fun (r : Int32) (u : (Int → Int) × (Int → Int) × (Int → Prop) × (Int → Int) × Int × Int × Int) => r = (iI (prs (gvS S room) 2))) (fun (u : (Int → Int) × (Int → Int) × (Int → Prop) × (Int → Int) × Int × Int × Int) t => va_P G CL [(hM, .inr (2, (mO hnow hthen hpast kept htx ty th at_ fa htold tolds hac hal hre hse hpl u.2.2.2.2.1 u.2.2.2.2.2.1 u.2.2.2.2.2.2 hsy))), (hnow, .inl (g 0, 253, .inl (aI S))), (hthen, .inl (g 0, 253, .inl (aI u.1))), (hac, .inl (g 0, 4, .inl (aI dx))), (hal, .inl (g 0, 4, .inl (aI dy))), (hre, .inl (g 0, 192, .inl (aI u.2.1))), (hse, .inl (g 1, 192, .inl (aP u.2.2.1))), (hpl, .inl (g 0, 192, .inl (aI u.2.2.2.1)))] t.heap) (va_A [(hM, .inr (2, (mO hnow hthen hpast kept htx ty th at_ fa htold tolds hac hal hre hse hpl many cost br hsy))), (hnow, .inl (g 0, 253, .inl (aI S))), (hthen, .inl (g 0, 253, .inl (aI S2))), (hac, .inl (g 0, 4, .inl (aI dx))), (hal, .inl (g 0, 4, .inl (aI dy))), (hre, .inl (g 0, 192, .inl (aI RE))), (hse, .inl (g 1, 192, .inl (aP SE))), (hpl, .inl (g 0, 192, .inl (aI PL)))] sz)) 0 0 (va_A [(hM, .inr (2, (mO hnow hthen hpast kept htx ty th at_ fa htold tolds hac hal hre hse hpl many cost br hsy))), (hnow, .inl (g 0, 253, .inl (aI S))), (hthen, .inl (g 0, 253, .inl (aI S2))), (hac, .inl (g 0, 4, .inl (aI dx))), (hal, .inl (g 0, 4, .inl (aI dy))), (hre, .inl (g 0, 192, .inl (aI RE))), (hse, .inl (g 1, 192, .inl (aP SE))), (hpl, .inl (g 0, 192, .inl (aI PL)))] sz) := by
  refine Met.at (by decide) (Nat.le_of_ble_eq_true rfl) ?_
  intro p e s m below meth c hx hb hr hlk hml hown hnm hts hB ls hl
  have hown : s.vm.findClass RX3 = some m.cls := hown
  obtain ⟨hsz, hP, hK, hD0, hEs⟩ := hB
  subst hsz
  have hD := hD0.self (sz := s.heap.size)
  generalize hAe : va_A [(hM, .inr (2, (mO hnow hthen hpast kept htx ty th at_ fa htold tolds hac hal hre hse hpl many cost br hsy))), (hnow, .inl (g 0, 253, .inl (aI S))), (hthen, .inl (g 0, 253, .inl (aI S2))), (hac, .inl (g 0, 4, .inl (aI dx))), (hal, .inl (g 0, 4, .inl (aI dy))), (hre, .inl (g 0, 192, .inl (aI RE))), (hse, .inl (g 1, 192, .inl (aP SE))), (hpl, .inl (g 0, 192, .inl (aI PL)))] s.heap.size = A at hD ⊢
  have hA : ∀ q : Nat, s.heap.size ≤ q → A q := fun q h => by rw [← hAe]; exact Or.inr h
  have hS : va_S A s.heap s.heap [] := va_S.rf
  have hl : lv_has ls 2 [(0, .ref hM), (1, .int (iI room))] := hl
  refine lv_aload_n hx hb dX3_without_0 rfl (lv_at hl 0 rfl) ?_
  refine g_callVwv (As := []) (rest := []) (m_X3_tries l G g s.heap.size hM hnow hthen hpast kept htx ty th at_ fa htold tolds hac hal hre hse hpl many cost br hsy S S2) hx hb hml hown hts Stab.tt hA hK hP hD hS hEs [0, 1, 2] rfl rfl (fun _ => rfl) (q0 := 0) rfl rfl q1752 q1754 qs89 q102 q1755 hd_X3_tries rfl rfl ⟨Nat.le_of_ble_eq_true rfl, Nat.le_of_ble_eq_true rfl⟩ rfl hl rfl (Nat.le_of_ble_eq_true rfl) ⟨Nat.le_refl _, Nat.le_refl _⟩ dX3_without_1 (fun u H locs hp hP hS => ?_)
  have hP : va_P G CL [(hM, .inr (2, (mO hnow hthen hpast kept htx ty th at_ fa htold tolds hac hal hre hse hpl many cost br hsy))), (hnow, .inl (g 0, 253, .inl (aI S))), (hthen, .inl (g 0, 253, .inl (aI S))), (hac, .inl (g 0, 4, .inl (aI dx))), (hal, .inl (g 0, 4, .inl (aI dy))), (hre, .inl (g 0, 192, .inl (aI RE))), (hse, .inl (g 1, 192, .inl (aP SE))), (hpl, .inl (g 0, 192, .inl (aI PL)))] H := hP
  have hD : va_D A [(hM, .inr (2, (mO hnow hthen hpast kept htx ty th at_ fa htold tolds hac hal hre hse hpl many cost br hsy))), (hnow, .inl (g 0, 253, .inl (aI S))), (hthen, .inl (g 0, 253, .inl (aI S))), (hac, .inl (g 0, 4, .inl (aI dx))), (hal, .inl (g 0, 4, .inl (aI dy))), (hre, .inl (g 0, 192, .inl (aI RE))), (hse, .inl (g 1, 192, .inl (aP SE))), (hpl, .inl (g 0, 192, .inl (aI PL)))] := va_Dadr hD rfl
  refine W.widen (k := 0) (n := 0) (Nat.le_refl _) (Nat.le_refl _) ?_
  refine lv_aload_n hx hb dX3_without_4 rfl (lv_at hl 0 rfl) ?_
  refine va_get (D := G) (ci := 2) (v := .ref hthen) (C := RX3) (T := TX3) (N := 20) hx hb hts in_X3 hown hK hP 0 rfl rfl 1 (by decide) (hts _ q1439) (fun _ h9 => h9) rfl dX3_without_5 ?_
  refine lv_iload_n hx hb dX3_without_8 rfl (lv_at hl 1 rfl) ?_
  refine g_callSwi (As := [.ref hthen, .int (iI room)]) (rest := []) (m_X3_gives l G g H.size hthen room S r_room kS hrm) hx hb hml hown hts Stab.tt hA hK hP hD hS hEs [2] rfl rfl (fun _ => rfl) q1549 q1550 q102 q1551 hd_X3_gives rfl rfl ⟨Nat.le_of_ble_eq_true rfl, Nat.le_of_ble_eq_true rfl⟩ rfl hl rfl (Nat.le_of_ble_eq_true rfl) ⟨Nat.le_refl _, Nat.le_refl _⟩ dX3_without_9 (fun rr u H locs hp hP hS => ?_)
  have hrr : rr = (iI (gvN S room 192)) := hp
  subst hrr
  have hP : va_P G CL [(hM, .inr (2, (mO hnow hthen hpast kept htx ty th at_ fa htold tolds hac hal hre hse hpl many cost br hsy))), (hnow, .inl (g 0, 253, .inl (aI S))), (hthen, .inl (g 0, 253, .inl (aI (gvS S room)))), (hac, .inl (g 0, 4, .inl (aI dx))), (hal, .inl (g 0, 4, .inl (aI dy))), (hre, .inl (g 0, 192, .inl (aI RE))), (hse, .inl (g 1, 192, .inl (aP SE))), (hpl, .inl (g 0, 192, .inl (aI PL)))] H := hP
  have hD : va_D A [(hM, .inr (2, (mO hnow hthen hpast kept htx ty th at_ fa htold tolds hac hal hre hse hpl many cost br hsy))), (hnow, .inl (g 0, 253, .inl (aI S))), (hthen, .inl (g 0, 253, .inl (aI (gvS S room)))), (hac, .inl (g 0, 4, .inl (aI dx))), (hal, .inl (g 0, 4, .inl (aI dy))), (hre, .inl (g 0, 192, .inl (aI RE))), (hse, .inl (g 1, 192, .inl (aP SE))), (hpl, .inl (g 0, 192, .inl (aI PL)))] := va_Dadr hD rfl
  refine W.widen (k := 0) (n := 0) (Nat.le_refl _) (Nat.le_refl _) ?_
  have kS2 : rgS (gvS S room) := rgS_gvS kS
  have kW2 : rgW (gvS S room) := rgW_gvS hrm kW
  refine lv_pop hx hb dX3_without_12 rfl ?_
  refine lv_aload_n hx hb dX3_without_13 rfl (lv_at hl 0 rfl) ?_
  refine lv_aload_n hx hb dX3_without_14 rfl (lv_at hl 0 rfl) ?_
  refine va_get (D := G) (ci := 2) (v := .ref hthen) (C := RX3) (T := TX3) (N := 20) hx hb hts in_X3 hown hK hP 0 rfl rfl 1 (by decide) (hts _ q1439) (fun _ h9 => h9) rfl dX3_without_15 ?_
  refine lv_iconst (v := iI 2) hx hb dX3_without_18 rfl ?_
  refine g_callVwi (As := [.ref hthen, .int (iI 2)]) (rest := []) (m_X3_pairs_2 l G g H.size hM hthen hnow hthen hpast kept htx ty th at_ fa htold tolds hac hal hre hse hpl many cost br hsy (gvS S room) RE SE PL kS2 kW2) hx hb hml hown hts Stab.tt hA hK hP hD hS hEs [0, 2, 3, 4, 5, 6, 7] rfl rfl (fun _ => rfl) (q0 := 0) rfl rfl q1740 q1742 qs87 q102 q1743 hd_X3_pairs rfl rfl ⟨Nat.le_of_ble_eq_true rfl, Nat.le_of_ble_eq_true rfl⟩ rfl hl rfl (Nat.le_of_ble_eq_true rfl) ⟨Nat.le_refl _, Nat.le_refl _⟩ dX3_without_19 (fun rr u H locs hp hP hS => ?_)
  obtain ⟨RE1_1, SE1_2, PL1_3, m1_4, c1_5, b1_6⟩ := u
  have hrr : rr = (iI (prs (gvS S room) 2)) := hp
  subst hrr
  have hP : va_P G CL [(hM, .inr (2, (mO hnow hthen hpast kept htx ty th at_ fa htold tolds hac hal hre hse hpl m1_4 c1_5 b1_6 hsy))), (hnow, .inl (g 0, 253, .inl (aI S))), (hthen, .inl (g 0, 253, .inl (aI (gvS S room)))), (hac, .inl (g 0, 4, .inl (aI dx))), (hal, .inl (g 0, 4, .inl (aI dy))), (hre, .inl (g 0, 192, .inl (aI RE1_1))), (hse, .inl (g 1, 192, .inl (aP SE1_2))), (hpl, .inl (g 0, 192, .inl (aI PL1_3)))] H := hP
  have hD : va_D A [(hM, .inr (2, (mO hnow hthen hpast kept htx ty th at_ fa htold tolds hac hal hre hse hpl m1_4 c1_5 b1_6 hsy))), (hnow, .inl (g 0, 253, .inl (aI S))), (hthen, .inl (g 0, 253, .inl (aI (gvS S room)))), (hac, .inl (g 0, 4, .inl (aI dx))), (hal, .inl (g 0, 4, .inl (aI dy))), (hre, .inl (g 0, 192, .inl (aI RE1_1))), (hse, .inl (g 1, 192, .inl (aP SE1_2))), (hpl, .inl (g 0, 192, .inl (aI PL1_3)))] := va_Dadr hD rfl
  refine W.widen (k := 0) (n := 0) (Nat.le_refl _) (Nat.le_refl _) ?_
  exact W.iret (v := (iI (prs (gvS S room) 2))) hx hb hr (fun t ht hW => ⟨⟨_, ((gvS S room), RE1_1, SE1_2, PL1_3, m1_4, c1_5, b1_6), rfl, rfl, by rw [← ht] at hP; exact hP⟩, hS.F ht⟩) hS.2.2 dX3_without_22 hlk
theorem hd_X3_forAll : yX3_forAll.cls = RX3 ∧ yX3_forAll.cls ≠ "java/lang/invoke/MethodHandle" ∧ yX3_forAll.cls ≠ "java/lang/invoke/VarHandle" ∧ (parseMethodDescriptor yX3_forAll.desc).map (fun d => d.parameters.length) = some 0 := by decide +kernel
set_option maxHeartbeats 1000000 in
set_option maxRecDepth 100000 in
theorem m_X3_forAll (l : Launch) (G : va_G) (g : Nat → ClassId) (sz : Nat) (hM : Nat) (hnow : Nat) (hthen : Nat) (hpast : Nat) (kept : Int) (htx : Nat) (ty : Int) (th : Int) (at_ : Int) (fa : Prop) (htold : Nat) (tolds : Int) (hac : Nat) (hal : Nat) (hre : Nat) (hse : Nat) (hpl : Nat) (many : Int) (cost : Int) (br : Int) (hsy : Nat) (S : Int → Int) (S2 : Int → Int) (RE : Int → Int) (SE : Int → Prop) (PL : Int → Int) (kS : rgS S) (kW : rgW S) : Met l yX3_forAll (ws_ yX3_forAll cX3_forAll 3 (Option.some Jvm.ClassFile.FieldType.int)) ({ frames := 8, cells := 0, slots := 0, locals := 194 }) (va_Pc [.ref hM] (wrB G CL (TY g) (fun _ => True) [(hM, .inr (2, (mO hnow hthen hpast kept htx ty th at_ fa htold tolds hac hal hre hse hpl many cost br hsy))), (hnow, .inl (g 0, 253, .inl (aI S))), (hthen, .inl (g 0, 253, .inl (aI S2))), (hac, .inl (g 0, 4, .inl (aI dx))), (hal, .inl (g 0, 4, .inl (aI dy))), (hre, .inl (g 0, 192, .inl (aI RE))), (hse, .inl (g 1, 192, .inl (aP SE))), (hpl, .inl (g 0, 192, .inl (aI PL)))] sz)) (va_Qi (fun (r : Int32) (u : (Int → Int) × (Int → Int) × (Int → Prop) × (Int → Int) × Int × Int × Int) => r = (iI (faV S))) (fun (u : (Int → Int) × (Int → Int) × (Int → Prop) × (Int → Int) × Int × Int × Int) t => va_P G CL [(hM, .inr (2, (mO hnow hthen hpast kept htx ty th at_ fa htold tolds hac hal hre hse hpl u.2.2.2.2.1 u.2.2.2.2.2.1 u.2.2.2.2.2.2 hsy))), (hnow, .inl (g 0, 253, .inl (aI S))), (hthen, .inl (g 0, 253, .inl (aI u.1))), (hac, .inl (g 0, 4, .inl (aI dx))), (hal, .inl (g 0, 4, .inl (aI dy))), (hre, .inl (g 0, 192, .inl (aI u.2.1))), (hse, .inl (g 1, 192, .inl (aP u.2.2.1))), (hpl, .inl (g 0, 192, .inl (aI u.2.2.2.1)))] t.heap) (va_A [(hM, .inr (2, (mO hnow hthen hpast kept htx ty th at_ fa htold tolds hac hal hre hse hpl many cost br hsy))), (hnow, .inl (g 0, 253, .inl (aI S))), (hthen, .inl (g 0, 253, .inl (aI S2))), (hac, .inl (g 0, 4, .inl (aI dx))), (hal, .inl (g 0, 4, .inl (aI dy))), (hre, .inl (g 0, 192, .inl (aI RE))), (hse, .inl (g 1, 192, .inl (aP SE))), (hpl, .inl (g 0, 192, .inl (aI PL)))] sz)) 0 0 (va_A [(hM, .inr (2, (mO hnow hthen hpast kept htx ty th at_ fa htold tolds hac hal hre hse hpl many cost br hsy))), (hnow, .inl (g 0, 253, .inl (aI S))), (hthen, .inl (g 0, 253, .inl (aI S2))), (hac, .inl (g 0, 4, .inl (aI dx))), (hal, .inl (g 0, 4, .inl (aI dy))), (hre, .inl (g 0, 192, .inl (aI RE))), (hse, .inl (g 1, 192, .inl (aP SE))), (hpl, .inl (g 0, 192, .inl (aI PL)))] sz) := by
  refine Met.at (by decide) (Nat.le_of_ble_eq_true rfl) ?_
  intro p e s m below meth c hx hb hr hlk hml hown hnm hts hB ls hl
  have hown : s.vm.findClass RX3 = some m.cls := hown
  obtain ⟨hsz, hP, hK, hD0, hEs⟩ := hB
  subst hsz
  have hD := hD0.self (sz := s.heap.size)
  generalize hAe : va_A [(hM, .inr (2, (mO hnow hthen hpast kept htx ty th at_ fa htold tolds hac hal hre hse hpl many cost br hsy))), (hnow, .inl (g 0, 253, .inl (aI S))), (hthen, .inl (g 0, 253, .inl (aI S2))), (hac, .inl (g 0, 4, .inl (aI dx))), (hal, .inl (g 0, 4, .inl (aI dy))), (hre, .inl (g 0, 192, .inl (aI RE))), (hse, .inl (g 1, 192, .inl (aP SE))), (hpl, .inl (g 0, 192, .inl (aI PL)))] s.heap.size = A at hD ⊢
  have hA : ∀ q : Nat, s.heap.size ≤ q → A q := fun q h => by rw [← hAe]; exact Or.inr h
  have hS : va_S A s.heap s.heap [] := va_S.rf
  have hl : lv_has ls 3 [(0, .ref hM)] := hl
  refine lv_aload_n hx hb dX3_forAll_0 rfl (lv_at hl 0 rfl) ?_
  refine g_callVwv (As := []) (rest := []) (m_X3_tries l G g s.heap.size hM hnow hthen hpast kept htx ty th at_ fa htold tolds hac hal hre hse hpl many cost br hsy S S2) hx hb hml hown hts Stab.tt hA hK hP hD hS hEs [0, 1, 2] rfl rfl (fun _ => rfl) (q0 := 0) rfl rfl q1752 q1754 qs89 q102 q1755 hd_X3_tries rfl rfl ⟨Nat.le_of_ble_eq_true rfl, Nat.le_of_ble_eq_true rfl⟩ rfl hl rfl (Nat.le_of_ble_eq_true rfl) ⟨Nat.le_refl _, Nat.le_refl _⟩ dX3_forAll_1 (fun u H locs hp hP hS => ?_)
  have hP : va_P G CL [(hM, .inr (2, (mO hnow hthen hpast kept htx ty th at_ fa htold tolds hac hal hre hse hpl many cost br hsy))), (hnow, .inl (g 0, 253, .inl (aI S))), (hthen, .inl (g 0, 253, .inl (aI S))), (hac, .inl (g 0, 4, .inl (aI dx))), (hal, .inl (g 0, 4, .inl (aI dy))), (hre, .inl (g 0, 192, .inl (aI RE))), (hse, .inl (g 1, 192, .inl (aP SE))), (hpl, .inl (g 0, 192, .inl (aI PL)))] H := hP
  have hD : va_D A [(hM, .inr (2, (mO hnow hthen hpast kept htx ty th at_ fa htold tolds hac hal hre hse hpl many cost br hsy))), (hnow, .inl (g 0, 253, .inl (aI S))), (hthen, .inl (g 0, 253, .inl (aI S))), (hac, .inl (g 0, 4, .inl (aI dx))), (hal, .inl (g 0, 4, .inl (aI dy))), (hre, .inl (g 0, 192, .inl (aI RE))), (hse, .inl (g 1, 192, .inl (aP SE))), (hpl, .inl (g 0, 192, .inl (aI PL)))] := va_Dadr hD rfl
  refine W.widen (k := 0) (n := 0) (Nat.le_refl _) (Nat.le_refl _) ?_
  refine lv_iconst (v := iI 0) hx hb dX3_forAll_4 rfl ?_
  refine lv_istore_n (lv' := [(1, .int (iI 0)), (0, .ref hM)]) hx hb dX3_forAll_5 rfl hl (by decide) rfl (fun ls hl => ?_)
  refine lv_aload_n hx hb dX3_forAll_6 rfl (lv_at hl 1 rfl) ?_
  refine lv_aload_n hx hb dX3_forAll_7 rfl (lv_at hl 1 rfl) ?_
  refine va_get (D := G) (ci := 2) (v := .ref hthen) (C := RX3) (T := TX3) (N := 20) hx hb hts in_X3 hown hK hP 0 rfl rfl 1 (by decide) (hts _ q1439) (fun _ h9 => h9) rfl dX3_forAll_8 ?_
  refine g_callVwi (As := [.ref hthen]) (rest := []) (m_X3_digsNext l G g H.size hM hthen hnow hthen hpast kept htx ty th at_ fa htold tolds hac hal hre hse hpl many cost br hsy S RE SE PL kS kW) hx hb hml hown hts Stab.tt hA hK hP hD hS hEs [0, 2, 3, 4, 5, 6, 7] rfl rfl (fun _ => rfl) (q0 := 0) rfl rfl q1622 q1624 qs69 q102 q1625 hd_X3_digsNext rfl rfl ⟨Nat.le_of_ble_eq_true rfl, Nat.le_of_ble_eq_true rfl⟩ rfl hl rfl (Nat.le_of_ble_eq_true rfl) ⟨Nat.le_refl _, Nat.le_refl _⟩ dX3_forAll_11 (fun rr u H locs hp hP hS => ?_)
  obtain ⟨RE1_1, SE1_2, PL1_3, m1_4, c1_5, b1_6⟩ := u
  have hrr : rr = (iI (nxN S)) := hp
  subst hrr
  have hP : va_P G CL [(hM, .inr (2, (mO hnow hthen hpast kept htx ty th at_ fa htold tolds hac hal hre hse hpl m1_4 c1_5 b1_6 hsy))), (hnow, .inl (g 0, 253, .inl (aI S))), (hthen, .inl (g 0, 253, .inl (aI (nxS S)))), (hac, .inl (g 0, 4, .inl (aI dx))), (hal, .inl (g 0, 4, .inl (aI dy))), (hre, .inl (g 0, 192, .inl (aI RE1_1))), (hse, .inl (g 1, 192, .inl (aP SE1_2))), (hpl, .inl (g 0, 192, .inl (aI PL1_3)))] H := hP
  have hD : va_D A [(hM, .inr (2, (mO hnow hthen hpast kept htx ty th at_ fa htold tolds hac hal hre hse hpl m1_4 c1_5 b1_6 hsy))), (hnow, .inl (g 0, 253, .inl (aI S))), (hthen, .inl (g 0, 253, .inl (aI (nxS S)))), (hac, .inl (g 0, 4, .inl (aI dx))), (hal, .inl (g 0, 4, .inl (aI dy))), (hre, .inl (g 0, 192, .inl (aI RE1_1))), (hse, .inl (g 1, 192, .inl (aP SE1_2))), (hpl, .inl (g 0, 192, .inl (aI PL1_3)))] := va_Dadr hD rfl
  refine W.widen (k := 0) (n := 0) (Nat.le_refl _) (Nat.le_refl _) ?_
  refine lv_istore_n (lv' := [(2, .int (iI (nxN S))), (1, .int (iI 0)), (0, .ref hM)]) hx hb dX3_forAll_14 rfl hl (by decide) rfl (fun ls hl => ?_)
  have lp15 : ∀ (n : Nat) (i_ : Nat) (rA : Int → Int) (eA : Int → Prop) (lA : Int → Int) (mA : Int) (cA_ : Int) (bA : Int), (∀ j : Nat, j < i_ → ¬ nxN (faT S j) = -1) → (sqC (faT S i_) (-2)).toNat = n → ∀ (H : Heap) (locs : List Loc), va_P G CL [(hM, .inr (2, (mO hnow hthen hpast kept htx ty th at_ fa htold tolds hac hal hre hse hpl mA cA_ bA hsy))), (hnow, .inl (g 0, 253, .inl (aI S))), (hthen, .inl (g 0, 253, .inl (aI (nxS (faT S i_))))), (hac, .inl (g 0, 4, .inl (aI dx))), (hal, .inl (g 0, 4, .inl (aI dy))), (hre, .inl (g 0, 192, .inl (aI rA))), (hse, .inl (g 1, 192, .inl (aP eA))), (hpl, .inl (g 0, 192, .inl (aI lA)))] H → va_D A [(hM, .inr (2, (mO hnow hthen hpast kept htx ty th at_ fa htold tolds hac hal hre hse hpl mA cA_ bA hsy))), (hnow, .inl (g 0, 253, .inl (aI S))), (hthen, .inl (g 0, 253, .inl (aI (nxS (faT S i_))))), (hac, .inl (g 0, 4, .inl (aI dx))), (hal, .inl (g 0, 4, .inl (aI dy))), (hre, .inl (g 0, 192, .inl (aI rA))), (hse, .inl (g 1, 192, .inl (aP eA))), (hpl, .inl (g 0, 192, .inl (aI lA)))] → va_S A s.heap H locs → ∀ ls : Array Slot, lv_has ls 3 [(0, .ref hM), (1, .int (iI (sumN (faG S) i_))), (2, .int (iI (nxN (faT S i_))))] → W p l e ({ frames := 8, cells := 0, slots := 0, locals := 194 }) s m ([.ref hM] : List Value).toArray below meth c H locs 0 0 (MQ below (va_Qi (fun (r : Int32) (u : (Int → Int) × (Int → Int) × (Int → Prop) × (Int → Int) × Int × Int × Int) => r = (iI (faV S))) (fun (u : (Int → Int) × (Int → Int) × (Int → Prop) × (Int → Int) × Int × Int × Int) t => va_P G CL [(hM, .inr (2, (mO hnow hthen hpast kept htx ty th at_ fa htold tolds hac hal hre hse hpl u.2.2.2.2.1 u.2.2.2.2.2.1 u.2.2.2.2.2.2 hsy))), (hnow, .inl (g 0, 253, .inl (aI S))), (hthen, .inl (g 0, 253, .inl (aI u.1))), (hac, .inl (g 0, 4, .inl (aI dx))), (hal, .inl (g 0, 4, .inl (aI dy))), (hre, .inl (g 0, 192, .inl (aI u.2.1))), (hse, .inl (g 1, 192, .inl (aP u.2.2.1))), (hpl, .inl (g 0, 192, .inl (aI u.2.2.2.1)))] t.heap) A) ([.ref hM] : List Value).toArray s 0 0 A) (F0 m 15 ls []) := by
    intro n
    refine Nat.strongRecOn n ?_
    intro n ih15 i_ rA eA lA mA cA_ bA hi_ hmu15 H locs hP hD hS ls hl
    have dr := nxN_rng (S := faT S i_) (fa_ok kS kW i_).2.1
    refine lv_iload_n hx hb dX3_forAll_15 rfl (lv_at hl 2 rfl) ?_
    refine lv_iconst (v := iI (-1)) hx hb dX3_forAll_16 rfl ?_
    refine g_icmp_eq (tgt := 36) hx hb dX3_forAll_17 (by decide) ⟨⟨by omega, by omega⟩, ⟨by decide, by decide⟩⟩ (fun c7 => ?_) (fun c7 => ?_)
    · have en : nIt S = i_ := nIt_eq ⟨hi_, by assumption⟩
      refine lv_iload_n hx hb dX3_forAll_36 rfl (lv_at hl 1 rfl) ?_
      exact W.iret (v := (iI (sumN (faG S) i_))) hx hb hr (fun t ht hW => ⟨⟨_, (nxS (faT S i_), rA, eA, lA, mA, cA_, bA), rfl, by show iI (sumN (faG S) i_) = iI (faV S); unfold faV; rw [en], by rw [← ht] at hP; exact hP⟩, hS.F ht⟩) hS.2.2 dX3_forAll_37 hlk
    · have kS3 : rgS (nxS (faT S i_)) := (fa_ok kS kW (i_ + 1)).1
      have kW3 : rgW (nxS (faT S i_)) := (fa_ok kS kW (i_ + 1)).2.1
      refine lv_iload_n hx hb dX3_forAll_20 rfl (lv_at hl 1 rfl) ?_
      refine lv_iload_n hx hb dX3_forAll_21 rfl (lv_at hl 2 rfl) ?_
      refine g_iadd hx hb dX3_forAll_22 ?_
      refine lv_istore_n (lv' := [(1, .int (iI ((sumN (faG S) i_) + (nxN (faT S i_))))), (0, .ref hM), (2, .int (iI (nxN (faT S i_))))]) hx hb dX3_forAll_23 rfl hl (by decide) rfl (fun ls hl => ?_)
      refine lv_aload_n hx hb dX3_forAll_24 rfl (lv_at hl 1 rfl) ?_
      refine lv_aload_n hx hb dX3_forAll_25 rfl (lv_at hl 1 rfl) ?_
      refine va_get (D := G) (ci := 2) (v := .ref hthen) (C := RX3) (T := TX3) (N := 20) hx hb hts in_X3 hown hK hP 0 rfl rfl 1 (by decide) (hts _ q1439) (fun _ h9 => h9) rfl dX3_forAll_26 ?_
      refine g_callVwi (As := [.ref hthen]) (rest := []) (m_X3_digsNext l G g H.size hM hthen hnow hthen hpast kept htx ty th at_ fa htold tolds hac hal hre hse hpl mA cA_ bA hsy (nxS (faT S i_)) rA eA lA kS3 kW3) hx hb hml hown hts Stab.tt hA hK hP hD hS hEs [0, 2, 3, 4, 5, 6, 7] rfl rfl (fun _ => rfl) (q0 := 0) rfl rfl q1622 q1624 qs69 q102 q1625 hd_X3_digsNext rfl rfl ⟨Nat.le_of_ble_eq_true rfl, Nat.le_of_ble_eq_true rfl⟩ rfl hl rfl (Nat.le_of_ble_eq_true rfl) ⟨Nat.le_refl _, Nat.le_refl _⟩ dX3_forAll_29 (fun rr u H locs hp hP hS => ?_)
      obtain ⟨RE1_8, SE1_9, PL1_10, m1_11, c1_12, b1_13⟩ := u
      have hrr : rr = (iI (nxN (nxS (faT S i_)))) := hp
      subst hrr
      have hP : va_P G CL [(hM, .inr (2, (mO hnow hthen hpast kept htx ty th at_ fa htold tolds hac hal hre hse hpl m1_11 c1_12 b1_13 hsy))), (hnow, .inl (g 0, 253, .inl (aI S))), (hthen, .inl (g 0, 253, .inl (aI (nxS (nxS (faT S i_)))))), (hac, .inl (g 0, 4, .inl (aI dx))), (hal, .inl (g 0, 4, .inl (aI dy))), (hre, .inl (g 0, 192, .inl (aI RE1_8))), (hse, .inl (g 1, 192, .inl (aP SE1_9))), (hpl, .inl (g 0, 192, .inl (aI PL1_10)))] H := hP
      have hD : va_D A [(hM, .inr (2, (mO hnow hthen hpast kept htx ty th at_ fa htold tolds hac hal hre hse hpl m1_11 c1_12 b1_13 hsy))), (hnow, .inl (g 0, 253, .inl (aI S))), (hthen, .inl (g 0, 253, .inl (aI (nxS (nxS (faT S i_)))))), (hac, .inl (g 0, 4, .inl (aI dx))), (hal, .inl (g 0, 4, .inl (aI dy))), (hre, .inl (g 0, 192, .inl (aI RE1_8))), (hse, .inl (g 1, 192, .inl (aP SE1_9))), (hpl, .inl (g 0, 192, .inl (aI PL1_10)))] := va_Dadr hD rfl
      refine W.widen (k := 0) (n := 0) (Nat.le_refl _) (Nat.le_refl _) ?_
      refine lv_istore_n (lv' := [(2, .int (iI (nxN (nxS (faT S i_))))), (1, .int (iI ((sumN (faG S) i_) + (nxN (faT S i_))))), (0, .ref hM)]) hx hb dX3_forAll_32 rfl hl (by decide) rfl (fun ls hl => ?_)
      refine lv_goto (tgt := 15) hx hb dX3_forAll_33 (by decide) ?_
      exact ih15 _ (by have u1 := fa_mu kS kW (k := i_) (by assumption); omega) (i_ + 1) RE1_8 SE1_9 PL1_10 m1_11 c1_12 b1_13 (fun j hj => by
      by_cases e : j = i_
      · rw [e]; assumption
      · exact hi_ j (by omega)) rfl _ _ hP (va_Dadr hD rfl) hS ls (by rw [show sumN (faG S) (i_ + 1) = sumN (faG S) i_ + nxN (faT S i_) from by show sumN (faG S) i_ + nxN (faT S ((i_ : Int).toNat)) = _; rw [Int.toNat_natCast]]; exact lv_sub hl [2, 1, 0] rfl)
  exact lp15 _ 0 RE1_1 SE1_2 PL1_3 m1_4 c1_5 b1_6 (fun j hj => absurd hj (Nat.not_lt_zero j)) rfl H locs hP (va_Dadr hD rfl) hS ls (lv_sub hl [2, 1, 0] rfl)
theorem hd_X3_set : yX3_set.cls = RX3 ∧ yX3_set.cls ≠ "java/lang/invoke/MethodHandle" ∧ yX3_set.cls ≠ "java/lang/invoke/VarHandle" ∧ (parseMethodDescriptor yX3_set.desc).map (fun d => d.parameters.length) = some 1 := by decide +kernel
set_option maxHeartbeats 1000000 in
set_option maxRecDepth 100000 in
theorem m_X3_set_1 (l : Launch) (G : va_G) (g : Nat → ClassId) (sz : Nat) (hM : Nat) (far : Int) (hnow : Nat) (hthen : Nat) (hpast : Nat) (kept : Int) (htx : Nat) (ty : Int) (th : Int) (at_ : Int) (fa : Prop) (htold : Nat) (tolds : Int) (hac : Nat) (hal : Nat) (hre : Nat) (hse : Nat) (hpl : Nat) (many : Int) (cost : Int) (br : Int) (hsy : Nat) (r_far : r32 far) (hno : ¬ (0 ≤ far ∧ far ≤ 9)) : Met l yX3_set (ws_ yX3_set cX3_set 3 (Option.some Jvm.ClassFile.FieldType.int)) ({ frames := 1, cells := 0, slots := 0, locals := 22 }) (va_Pc [.ref hM, .int (iI far)] (wrB G CL (TY g) (fun _ => True) [(hM, .inr (2, (mO hnow hthen hpast kept htx ty th at_ fa htold tolds hac hal hre hse hpl many cost br hsy)))] sz)) (va_Qi (fun (r : Int32) (u : Unit) => r = (iI 0)) (fun (u : Unit) t => va_P G CL [(hM, .inr (2, (mO hnow hthen hpast kept htx ty 1 at_ fa htold tolds hac hal hre hse hpl many cost br hsy)))] t.heap) (va_A [(hM, .inr (2, (mO hnow hthen hpast kept htx ty th at_ fa htold tolds hac hal hre hse hpl many cost br hsy)))] sz)) 0 0 (va_A [(hM, .inr (2, (mO hnow hthen hpast kept htx ty th at_ fa htold tolds hac hal hre hse hpl many cost br hsy)))] sz) := by
  refine Met.at (by decide) (Nat.le_of_ble_eq_true rfl) ?_
  intro p e s m below meth c hx hb hr hlk hml hown hnm hts hB ls hl
  have hown : s.vm.findClass RX3 = some m.cls := hown
  obtain ⟨hsz, hP, hK, hD0, hEs⟩ := hB
  subst hsz
  have hD := hD0.self (sz := s.heap.size)
  generalize hAe : va_A [(hM, .inr (2, (mO hnow hthen hpast kept htx ty th at_ fa htold tolds hac hal hre hse hpl many cost br hsy)))] s.heap.size = A at hD ⊢
  have hA : ∀ q : Nat, s.heap.size ≤ q → A q := fun q h => by rw [← hAe]; exact Or.inr h
  have hS : va_S A s.heap s.heap [] := va_S.rf
  have hl : lv_has ls 3 [(0, .ref hM), (1, .int (iI far))] := hl
  refine lv_aload_n hx hb dX3_set_0 rfl (lv_at hl 0 rfl) ?_
  refine lv_iconst (v := iI 0) hx hb dX3_set_1 rfl ?_
  refine g_put (D := G) (ci := 2) (v := .int (iI 0)) (ty := .int) (C := RX3) (T := TX3) (N := 20) (ws1 := [(hM, .inr (2, (mO hnow hthen hpast kept htx ty 0 at_ fa htold tolds hac hal hre hse hpl many cost br hsy)))]) hx hb hts in_X3 tyX3 tyX3_ok nmX3 hown hK hP hD hS 0 rfl rfl 6 (by decide) (hts _ q1444) (fun _ h9 => h9) rfl (by decide +kernel) (rfl) (rfl) (Nat.le_of_ble_eq_true rfl) dX3_set_2 rfl (fun H locs hP hS => ?_)
  have hD : va_D A [(hM, .inr (2, (mO hnow hthen hpast kept htx ty 0 at_ fa htold tolds hac hal hre hse hpl many cost br hsy)))] := va_Dadr hD rfl
  refine lv_iload_n hx hb dX3_set_5 rfl (lv_at hl 1 rfl) ?_
  refine lv_iconst (v := iI 0) hx hb dX3_set_6 rfl ?_
  refine lv_bipush (v := iI 9) hx hb dX3_set_7 rfl ?_
  refine g_callS (As := [.int (iI far), .int (iI 0), .int (iI 9)]) (rest := []) (m_X3_in l G g far 0 9 r_far ⟨by decide, by decide⟩ ⟨by decide, by decide⟩) hx hb hml hown hts Stab.tt hK hP hS hEs [] rfl q1518 q1519 q102 q1520 hd_X3_in rfl rfl ⟨Nat.le_of_ble_eq_true rfl, Nat.le_of_ble_eq_true rfl⟩ rfl hl rfl (Nat.le_of_ble_eq_true rfl) ⟨Nat.le_refl _, Nat.le_refl _⟩ dX3_set_9 ?_
  refine g_ifq_ne (tgt := 21) hx hb dX3_set_12 (by decide) (fun c1 => ?_) (fun c1 => ?_)
  · exact False.elim (by first | omega | contradiction)
  · refine lv_aload_n hx hb dX3_set_15 rfl (lv_at hl 0 rfl) ?_
    refine lv_iconst (v := iI 1) hx hb dX3_set_16 rfl ?_
    refine g_callVwi (As := [.int (iI 1)]) (rest := []) (m_X3_fails l G g H.size hM 1 hnow hthen hpast kept htx ty 0 at_ fa htold tolds hac hal hre hse hpl many cost br hsy ⟨by decide, by decide⟩) hx hb hml hown hts Stab.tt hA hK hP hD hS hEs [0] rfl rfl (fun _ => rfl) (q0 := 0) rfl rfl q1507 q1509 qs54 q102 q1510 hd_X3_fails rfl rfl ⟨Nat.le_of_ble_eq_true rfl, Nat.le_of_ble_eq_true rfl⟩ rfl hl rfl (Nat.le_of_ble_eq_true rfl) ⟨Nat.le_refl _, Nat.le_refl _⟩ dX3_set_17 (fun rr u H locs hp hP hS => ?_)
    have hrr : rr = (iI 0) := hp
    subst hrr
    have hP : va_P G CL [(hM, .inr (2, (mO hnow hthen hpast kept htx ty 1 at_ fa htold tolds hac hal hre hse hpl many cost br hsy)))] H := hP
    have hD : va_D A [(hM, .inr (2, (mO hnow hthen hpast kept htx ty 1 at_ fa htold tolds hac hal hre hse hpl many cost br hsy)))] := va_Dadr hD rfl
    refine W.widen (k := 0) (n := 0) (Nat.le_refl _) (Nat.le_refl _) ?_
    exact W.iret (v := (iI 0)) hx hb hr (fun t ht hW => ⟨⟨_, (), rfl, rfl, by rw [← ht] at hP; exact hP⟩, hS.F ht⟩) hS.2.2 dX3_set_20 hlk
set_option maxHeartbeats 1000000 in
set_option maxRecDepth 100000 in
theorem m_X3_set_0 (l : Launch) (G : va_G) (g : Nat → ClassId) (sz : Nat) (hM : Nat) (far : Int) (hnow : Nat) (hthen : Nat) (hpast : Nat) (kept : Int) (htx : Nat) (ty : Int) (th : Int) (at_ : Int) (fa : Prop) (htold : Nat) (tolds : Int) (hac : Nat) (hal : Nat) (hre : Nat) (hse : Nat) (hpl : Nat) (many : Int) (cost : Int) (br : Int) (hsy : Nat) (S : Int → Int) (PA : Int → Int) (r_far : r32 far) (kS : rgS S) (hkp : 0 ≤ kept ∧ kept ≤ 6) (hys : 0 ≤ far ∧ far ≤ 9) : Met l yX3_set (ws_ yX3_set cX3_set 3 (Option.some Jvm.ClassFile.FieldType.int)) ({ frames := 2, cells := 0, slots := 0, locals := 45 }) (va_Pc [.ref hM, .int (iI far)] (wrB G CL (TY g) (fun _ => True) [(hM, .inr (2, (mO hnow hthen hpast kept htx ty th at_ fa htold tolds hac hal hre hse hpl many cost br hsy))), (hnow, .inl (g 0, 253, .inl (aI S))), (hpast, .inl (g 0, 1518, .inl (aI PA)))] sz)) (va_Qi (fun (r : Int32) (u : Unit) => r = (iI (S 252))) (fun (u : Unit) t => va_P G CL [(hM, .inr (2, (mO hnow hthen hpast (svK kept) htx ty 0 at_ fa htold tolds hac hal hre hse hpl many cost br hsy))), (hnow, .inl (g 0, 253, .inl (aI (uZ S 252 far)))), (hpast, .inl (g 0, 1518, .inl (aI (svP S PA kept))))] t.heap) (va_A [(hM, .inr (2, (mO hnow hthen hpast kept htx ty th at_ fa htold tolds hac hal hre hse hpl many cost br hsy))), (hnow, .inl (g 0, 253, .inl (aI S))), (hpast, .inl (g 0, 1518, .inl (aI PA)))] sz)) 0 0 (va_A [(hM, .inr (2, (mO hnow hthen hpast kept htx ty th at_ fa htold tolds hac hal hre hse hpl many cost br hsy))), (hnow, .inl (g 0, 253, .inl (aI S))), (hpast, .inl (g 0, 1518, .inl (aI PA)))] sz) := by
  refine Met.at (by decide) (Nat.le_of_ble_eq_true rfl) ?_
  intro p e s m below meth c hx hb hr hlk hml hown hnm hts hB ls hl
  have hown : s.vm.findClass RX3 = some m.cls := hown
  obtain ⟨hsz, hP, hK, hD0, hEs⟩ := hB
  subst hsz
  have hD := hD0.self (sz := s.heap.size)
  generalize hAe : va_A [(hM, .inr (2, (mO hnow hthen hpast kept htx ty th at_ fa htold tolds hac hal hre hse hpl many cost br hsy))), (hnow, .inl (g 0, 253, .inl (aI S))), (hpast, .inl (g 0, 1518, .inl (aI PA)))] s.heap.size = A at hD ⊢
  have hA : ∀ q : Nat, s.heap.size ≤ q → A q := fun q h => by rw [← hAe]; exact Or.inr h
  have hS : va_S A s.heap s.heap [] := va_S.rf
  have hl : lv_has ls 3 [(0, .ref hM), (1, .int (iI far))] := hl
  refine lv_aload_n hx hb dX3_set_0 rfl (lv_at hl 0 rfl) ?_
  refine lv_iconst (v := iI 0) hx hb dX3_set_1 rfl ?_
  refine g_put (D := G) (ci := 2) (v := .int (iI 0)) (ty := .int) (C := RX3) (T := TX3) (N := 20) (ws1 := [(hM, .inr (2, (mO hnow hthen hpast kept htx ty 0 at_ fa htold tolds hac hal hre hse hpl many cost br hsy))), (hnow, .inl (g 0, 253, .inl (aI S))), (hpast, .inl (g 0, 1518, .inl (aI PA)))]) hx hb hts in_X3 tyX3 tyX3_ok nmX3 hown hK hP hD hS 0 rfl rfl 6 (by decide) (hts _ q1444) (fun _ h9 => h9) rfl (by decide +kernel) (rfl) (rfl) (Nat.le_of_ble_eq_true rfl) dX3_set_2 rfl (fun H locs hP hS => ?_)
  have hD : va_D A [(hM, .inr (2, (mO hnow hthen hpast kept htx ty 0 at_ fa htold tolds hac hal hre hse hpl many cost br hsy))), (hnow, .inl (g 0, 253, .inl (aI S))), (hpast, .inl (g 0, 1518, .inl (aI PA)))] := va_Dadr hD rfl
  refine lv_iload_n hx hb dX3_set_5 rfl (lv_at hl 1 rfl) ?_
  refine lv_iconst (v := iI 0) hx hb dX3_set_6 rfl ?_
  refine lv_bipush (v := iI 9) hx hb dX3_set_7 rfl ?_
  refine g_callS (As := [.int (iI far), .int (iI 0), .int (iI 9)]) (rest := []) (m_X3_in l G g far 0 9 r_far ⟨by decide, by decide⟩ ⟨by decide, by decide⟩) hx hb hml hown hts Stab.tt hK hP hS hEs [] rfl q1518 q1519 q102 q1520 hd_X3_in rfl rfl ⟨Nat.le_of_ble_eq_true rfl, Nat.le_of_ble_eq_true rfl⟩ rfl hl rfl (Nat.le_of_ble_eq_true rfl) ⟨Nat.le_refl _, Nat.le_refl _⟩ dX3_set_9 ?_
  refine g_ifq_ne (tgt := 21) hx hb dX3_set_12 (by decide) (fun c1 => ?_) (fun c1 => ?_)
  · refine lv_aload_n hx hb dX3_set_21 rfl (lv_at hl 0 rfl) ?_
    refine g_callVwv (As := []) (rest := []) (m_X3_saves l G g H.size hM hnow hthen hpast kept htx ty 0 at_ fa htold tolds hac hal hre hse hpl many cost br hsy S PA hkp) hx hb hml hown hts Stab.tt hA hK hP hD hS hEs [0, 1, 2] rfl rfl (fun _ => rfl) (q0 := 0) rfl rfl q1541 q1543 qs57 q102 q1544 hd_X3_saves rfl rfl ⟨Nat.le_of_ble_eq_true rfl, Nat.le_of_ble_eq_true rfl⟩ rfl hl rfl (Nat.le_of_ble_eq_true rfl) ⟨Nat.le_refl _, Nat.le_refl _⟩ dX3_set_22 (fun u H locs hp hP hS => ?_)
    have hP : va_P G CL [(hM, .inr (2, (mO hnow hthen hpast (svK kept) htx ty 0 at_ fa htold tolds hac hal hre hse hpl many cost br hsy))), (hnow, .inl (g 0, 253, .inl (aI S))), (hpast, .inl (g 0, 1518, .inl (aI (svP S PA kept))))] H := hP
    have hD : va_D A [(hM, .inr (2, (mO hnow hthen hpast (svK kept) htx ty 0 at_ fa htold tolds hac hal hre hse hpl many cost br hsy))), (hnow, .inl (g 0, 253, .inl (aI S))), (hpast, .inl (g 0, 1518, .inl (aI (svP S PA kept))))] := va_Dadr hD rfl
    refine W.widen (k := 0) (n := 0) (Nat.le_refl _) (Nat.le_refl _) ?_
    refine lv_aload_n hx hb dX3_set_25 rfl (lv_at hl 0 rfl) ?_
    refine va_get (D := G) (ci := 2) (v := .ref hnow) (C := RX3) (T := TX3) (N := 20) hx hb hts in_X3 hown hK hP 0 rfl rfl 0 (by decide) (hts _ q1438) (fun _ h9 => h9) rfl dX3_set_26 ?_
    refine lv_sipush (v := iI 252) hx hb dX3_set_29 rfl ?_
    refine g_iald hx hb hK hP 1 0 rfl rfl (i := 252) (⟨by decide, by decide⟩) (by decide) dX3_set_32 ?_
    have w2 := kS 252 (by decide) (by decide)
    refine lv_istore_n (lv' := [(2, .int (iI (S 252))), (0, .ref hM), (1, .int (iI far))]) hx hb dX3_set_33 rfl hl (by decide) rfl (fun ls hl => ?_)
    refine lv_aload_n hx hb dX3_set_34 rfl (lv_at hl 1 rfl) ?_
    refine va_get (D := G) (ci := 2) (v := .ref hnow) (C := RX3) (T := TX3) (N := 20) hx hb hts in_X3 hown hK hP 0 rfl rfl 0 (by decide) (hts _ q1438) (fun _ h9 => h9) rfl dX3_set_35 ?_
    refine lv_sipush (v := iI 252) hx hb dX3_set_38 rfl ?_
    refine lv_iload_n hx hb dX3_set_41 rfl (lv_at hl 2 rfl) ?_
    refine g_iast (ws1 := [(hM, .inr (2, (mO hnow hthen hpast (svK kept) htx ty 0 at_ fa htold tolds hac hal hre hse hpl many cost br hsy))), (hnow, .inl (g 0, 253, .inl (aI (uZ S 252 far)))), (hpast, .inl (g 0, 1518, .inl (aI (svP S PA kept))))]) hx hb hK hP hD hS 1 0 rfl rfl (i := 252) (⟨by decide, by decide⟩) (by decide) dX3_set_42 rfl (fun H locs hP hS => ?_)
    have hD : va_D A [(hM, .inr (2, (mO hnow hthen hpast (svK kept) htx ty 0 at_ fa htold tolds hac hal hre hse hpl many cost br hsy))), (hnow, .inl (g 0, 253, .inl (aI (uZ S 252 far)))), (hpast, .inl (g 0, 1518, .inl (aI (svP S PA kept))))] := va_Dadr hD rfl
    refine lv_iload_n hx hb dX3_set_43 rfl (lv_at hl 0 rfl) ?_
    exact W.iret (v := (iI (S 252))) hx hb hr (fun t ht hW => ⟨⟨_, (), rfl, rfl, by rw [← ht] at hP; exact hP⟩, hS.F ht⟩) hS.2.2 dX3_set_44 hlk
  · exact False.elim (by first | omega | contradiction)
theorem hd_X3_append : yX3_append.cls = RX3 ∧ yX3_append.cls ≠ "java/lang/invoke/MethodHandle" ∧ yX3_append.cls ≠ "java/lang/invoke/VarHandle" ∧ (parseMethodDescriptor yX3_append.desc).map (fun d => d.parameters.length) = some 1 := by decide +kernel
set_option maxHeartbeats 1000000 in
set_option maxRecDepth 100000 in
theorem m_X3_append_1 (l : Launch) (G : va_G) (g : Nat → ClassId) (sz : Nat) (hM : Nat) (code_ : Int) (hnow : Nat) (hthen : Nat) (hpast : Nat) (kept : Int) (htx : Nat) (ty : Int) (th : Int) (at_ : Int) (fa : Prop) (htold : Nat) (tolds : Int) (hac : Nat) (hal : Nat) (hre : Nat) (hse : Nat) (hpl : Nat) (many : Int) (cost : Int) (br : Int) (hsy : Nat) (r_code_ : r32 code_) (hno : ¬ (33 ≤ code_ ∧ code_ ≤ 126)) : Met l yX3_append (ws_ yX3_append cX3_append 2 (Option.some Jvm.ClassFile.FieldType.int)) ({ frames := 1, cells := 0, slots := 0, locals := 22 }) (va_Pc [.ref hM, .int (iI code_)] (wrB G CL (TY g) (fun _ => True) [(hM, .inr (2, (mO hnow hthen hpast kept htx ty th at_ fa htold tolds hac hal hre hse hpl many cost br hsy)))] sz)) (va_Qi (fun (r : Int32) (u : Unit) => r = (iI 0)) (fun (u : Unit) t => va_P G CL [(hM, .inr (2, (mO hnow hthen hpast kept htx ty 1 at_ fa htold tolds hac hal hre hse hpl many cost br hsy)))] t.heap) (va_A [(hM, .inr (2, (mO hnow hthen hpast kept htx ty th at_ fa htold tolds hac hal hre hse hpl many cost br hsy)))] sz)) 0 0 (va_A [(hM, .inr (2, (mO hnow hthen hpast kept htx ty th at_ fa htold tolds hac hal hre hse hpl many cost br hsy)))] sz) := by
  refine Met.at (by decide) (Nat.le_of_ble_eq_true rfl) ?_
  intro p e s m below meth c hx hb hr hlk hml hown hnm hts hB ls hl
  have hown : s.vm.findClass RX3 = some m.cls := hown
  obtain ⟨hsz, hP, hK, hD0, hEs⟩ := hB
  subst hsz
  have hD := hD0.self (sz := s.heap.size)
  generalize hAe : va_A [(hM, .inr (2, (mO hnow hthen hpast kept htx ty th at_ fa htold tolds hac hal hre hse hpl many cost br hsy)))] s.heap.size = A at hD ⊢
  have hA : ∀ q : Nat, s.heap.size ≤ q → A q := fun q h => by rw [← hAe]; exact Or.inr h
  have hS : va_S A s.heap s.heap [] := va_S.rf
  have hl : lv_has ls 2 [(0, .ref hM), (1, .int (iI code_))] := hl
  refine lv_aload_n hx hb dX3_append_0 rfl (lv_at hl 0 rfl) ?_
  refine lv_iconst (v := iI 0) hx hb dX3_append_1 rfl ?_
  refine g_put (D := G) (ci := 2) (v := .int (iI 0)) (ty := .int) (C := RX3) (T := TX3) (N := 20) (ws1 := [(hM, .inr (2, (mO hnow hthen hpast kept htx ty 0 at_ fa htold tolds hac hal hre hse hpl many cost br hsy)))]) hx hb hts in_X3 tyX3 tyX3_ok nmX3 hown hK hP hD hS 0 rfl rfl 6 (by decide) (hts _ q1444) (fun _ h9 => h9) rfl (by decide +kernel) (rfl) (rfl) (Nat.le_of_ble_eq_true rfl) dX3_append_2 rfl (fun H locs hP hS => ?_)
  have hD : va_D A [(hM, .inr (2, (mO hnow hthen hpast kept htx ty 0 at_ fa htold tolds hac hal hre hse hpl many cost br hsy)))] := va_Dadr hD rfl
  refine lv_iload_n hx hb dX3_append_5 rfl (lv_at hl 1 rfl) ?_
  refine lv_bipush (v := iI 33) hx hb dX3_append_6 rfl ?_
  refine lv_bipush (v := iI 126) hx hb dX3_append_8 rfl ?_
  refine g_callS (As := [.int (iI code_), .int (iI 33), .int (iI 126)]) (rest := []) (m_X3_in l G g code_ 33 126 r_code_ ⟨by decide, by decide⟩ ⟨by decide, by decide⟩) hx hb hml hown hts Stab.tt hK hP hS hEs [] rfl q1518 q1519 q102 q1520 hd_X3_in rfl rfl ⟨Nat.le_of_ble_eq_true rfl, Nat.le_of_ble_eq_true rfl⟩ rfl hl rfl (Nat.le_of_ble_eq_true rfl) ⟨Nat.le_refl _, Nat.le_refl _⟩ dX3_append_10 ?_
  refine g_ifq_ne (tgt := 22) hx hb dX3_append_13 (by decide) (fun c1 => ?_) (fun c1 => ?_)
  · exact False.elim (by first | omega | contradiction)
  · refine lv_aload_n hx hb dX3_append_16 rfl (lv_at hl 0 rfl) ?_
    refine lv_iconst (v := iI 1) hx hb dX3_append_17 rfl ?_
    refine g_callVwi (As := [.int (iI 1)]) (rest := []) (m_X3_fails l G g H.size hM 1 hnow hthen hpast kept htx ty 0 at_ fa htold tolds hac hal hre hse hpl many cost br hsy ⟨by decide, by decide⟩) hx hb hml hown hts Stab.tt hA hK hP hD hS hEs [0] rfl rfl (fun _ => rfl) (q0 := 0) rfl rfl q1507 q1509 qs54 q102 q1510 hd_X3_fails rfl rfl ⟨Nat.le_of_ble_eq_true rfl, Nat.le_of_ble_eq_true rfl⟩ rfl hl rfl (Nat.le_of_ble_eq_true rfl) ⟨Nat.le_refl _, Nat.le_refl _⟩ dX3_append_18 (fun rr u H locs hp hP hS => ?_)
    have hrr : rr = (iI 0) := hp
    subst hrr
    have hP : va_P G CL [(hM, .inr (2, (mO hnow hthen hpast kept htx ty 1 at_ fa htold tolds hac hal hre hse hpl many cost br hsy)))] H := hP
    have hD : va_D A [(hM, .inr (2, (mO hnow hthen hpast kept htx ty 1 at_ fa htold tolds hac hal hre hse hpl many cost br hsy)))] := va_Dadr hD rfl
    refine W.widen (k := 0) (n := 0) (Nat.le_refl _) (Nat.le_refl _) ?_
    exact W.iret (v := (iI 0)) hx hb hr (fun t ht hW => ⟨⟨_, (), rfl, rfl, by rw [← ht] at hP; exact hP⟩, hS.F ht⟩) hS.2.2 dX3_append_21 hlk
set_option maxHeartbeats 1000000 in
set_option maxRecDepth 100000 in
theorem m_X3_append_2 (l : Launch) (G : va_G) (g : Nat → ClassId) (sz : Nat) (hM : Nat) (code_ : Int) (hnow : Nat) (hthen : Nat) (hpast : Nat) (kept : Int) (htx : Nat) (ty : Int) (th : Int) (at_ : Int) (fa : Prop) (htold : Nat) (tolds : Int) (hac : Nat) (hal : Nat) (hre : Nat) (hse : Nat) (hpl : Nat) (many : Int) (cost : Int) (br : Int) (hsy : Nat) (r_code_ : r32 code_) (hty : 0 ≤ ty ∧ ty ≤ 60) (hys : 33 ≤ code_ ∧ code_ ≤ 126) (hno : ty = 60) : Met l yX3_append (ws_ yX3_append cX3_append 2 (Option.some Jvm.ClassFile.FieldType.int)) ({ frames := 1, cells := 0, slots := 0, locals := 22 }) (va_Pc [.ref hM, .int (iI code_)] (wrB G CL (TY g) (fun _ => True) [(hM, .inr (2, (mO hnow hthen hpast kept htx ty th at_ fa htold tolds hac hal hre hse hpl many cost br hsy)))] sz)) (va_Qi (fun (r : Int32) (u : Unit) => r = (iI 0)) (fun (u : Unit) t => va_P G CL [(hM, .inr (2, (mO hnow hthen hpast kept htx ty 2 at_ fa htold tolds hac hal hre hse hpl many cost br hsy)))] t.heap) (va_A [(hM, .inr (2, (mO hnow hthen hpast kept htx ty th at_ fa htold tolds hac hal hre hse hpl many cost br hsy)))] sz)) 0 0 (va_A [(hM, .inr (2, (mO hnow hthen hpast kept htx ty th at_ fa htold tolds hac hal hre hse hpl many cost br hsy)))] sz) := by
  refine Met.at (by decide) (Nat.le_of_ble_eq_true rfl) ?_
  intro p e s m below meth c hx hb hr hlk hml hown hnm hts hB ls hl
  have hown : s.vm.findClass RX3 = some m.cls := hown
  obtain ⟨hsz, hP, hK, hD0, hEs⟩ := hB
  subst hsz
  have hD := hD0.self (sz := s.heap.size)
  generalize hAe : va_A [(hM, .inr (2, (mO hnow hthen hpast kept htx ty th at_ fa htold tolds hac hal hre hse hpl many cost br hsy)))] s.heap.size = A at hD ⊢
  have hA : ∀ q : Nat, s.heap.size ≤ q → A q := fun q h => by rw [← hAe]; exact Or.inr h
  have hS : va_S A s.heap s.heap [] := va_S.rf
  have hl : lv_has ls 2 [(0, .ref hM), (1, .int (iI code_))] := hl
  refine lv_aload_n hx hb dX3_append_0 rfl (lv_at hl 0 rfl) ?_
  refine lv_iconst (v := iI 0) hx hb dX3_append_1 rfl ?_
  refine g_put (D := G) (ci := 2) (v := .int (iI 0)) (ty := .int) (C := RX3) (T := TX3) (N := 20) (ws1 := [(hM, .inr (2, (mO hnow hthen hpast kept htx ty 0 at_ fa htold tolds hac hal hre hse hpl many cost br hsy)))]) hx hb hts in_X3 tyX3 tyX3_ok nmX3 hown hK hP hD hS 0 rfl rfl 6 (by decide) (hts _ q1444) (fun _ h9 => h9) rfl (by decide +kernel) (rfl) (rfl) (Nat.le_of_ble_eq_true rfl) dX3_append_2 rfl (fun H locs hP hS => ?_)
  have hD : va_D A [(hM, .inr (2, (mO hnow hthen hpast kept htx ty 0 at_ fa htold tolds hac hal hre hse hpl many cost br hsy)))] := va_Dadr hD rfl
  refine lv_iload_n hx hb dX3_append_5 rfl (lv_at hl 1 rfl) ?_
  refine lv_bipush (v := iI 33) hx hb dX3_append_6 rfl ?_
  refine lv_bipush (v := iI 126) hx hb dX3_append_8 rfl ?_
  refine g_callS (As := [.int (iI code_), .int (iI 33), .int (iI 126)]) (rest := []) (m_X3_in l G g code_ 33 126 r_code_ ⟨by decide, by decide⟩ ⟨by decide, by decide⟩) hx hb hml hown hts Stab.tt hK hP hS hEs [] rfl q1518 q1519 q102 q1520 hd_X3_in rfl rfl ⟨Nat.le_of_ble_eq_true rfl, Nat.le_of_ble_eq_true rfl⟩ rfl hl rfl (Nat.le_of_ble_eq_true rfl) ⟨Nat.le_refl _, Nat.le_refl _⟩ dX3_append_10 ?_
  refine g_ifq_ne (tgt := 22) hx hb dX3_append_13 (by decide) (fun c1 => ?_) (fun c1 => ?_)
  · refine lv_aload_n hx hb dX3_append_22 rfl (lv_at hl 0 rfl) ?_
    refine va_get (D := G) (ci := 2) (v := .int (iI ty)) (C := RX3) (T := TX3) (N := 20) hx hb hts in_X3 hown hK hP 0 rfl rfl 5 (by decide) (hts _ q1443) (fun _ h9 => h9) rfl dX3_append_23 ?_
    refine lv_bipush (v := iI 60) hx hb dX3_append_26 rfl ?_
    refine g_icmp_ne (tgt := 37) hx hb dX3_append_28 (by decide) ⟨⟨by omega, by omega⟩, ⟨by decide, by decide⟩⟩ (fun c2 => ?_) (fun c2 => ?_)
    · exact False.elim (by first | omega | contradiction)
    · refine lv_aload_n hx hb dX3_append_31 rfl (lv_at hl 0 rfl) ?_
      refine lv_iconst (v := iI 2) hx hb dX3_append_32 rfl ?_
      refine g_callVwi (As := [.int (iI 2)]) (rest := []) (m_X3_fails l G g H.size hM 2 hnow hthen hpast kept htx ty 0 at_ fa htold tolds hac hal hre hse hpl many cost br hsy ⟨by decide, by decide⟩) hx hb hml hown hts Stab.tt hA hK hP hD hS hEs [0] rfl rfl (fun _ => rfl) (q0 := 0) rfl rfl q1507 q1509 qs54 q102 q1510 hd_X3_fails rfl rfl ⟨Nat.le_of_ble_eq_true rfl, Nat.le_of_ble_eq_true rfl⟩ rfl hl rfl (Nat.le_of_ble_eq_true rfl) ⟨Nat.le_refl _, Nat.le_refl _⟩ dX3_append_33 (fun rr u H locs hp hP hS => ?_)
      have hrr : rr = (iI 0) := hp
      subst hrr
      have hP : va_P G CL [(hM, .inr (2, (mO hnow hthen hpast kept htx ty 2 at_ fa htold tolds hac hal hre hse hpl many cost br hsy)))] H := hP
      have hD : va_D A [(hM, .inr (2, (mO hnow hthen hpast kept htx ty 2 at_ fa htold tolds hac hal hre hse hpl many cost br hsy)))] := va_Dadr hD rfl
      refine W.widen (k := 0) (n := 0) (Nat.le_refl _) (Nat.le_refl _) ?_
      exact W.iret (v := (iI 0)) hx hb hr (fun t ht hW => ⟨⟨_, (), rfl, rfl, by rw [← ht] at hP; exact hP⟩, hS.F ht⟩) hS.2.2 dX3_append_36 hlk
  · exact False.elim (by first | omega | contradiction)
set_option maxHeartbeats 1000000 in
set_option maxRecDepth 100000 in
theorem m_X3_append_0 (l : Launch) (G : va_G) (g : Nat → ClassId) (sz : Nat) (hM : Nat) (code_ : Int) (hnow : Nat) (hthen : Nat) (hpast : Nat) (kept : Int) (htx : Nat) (ty : Int) (th : Int) (at_ : Int) (fa : Prop) (htold : Nat) (tolds : Int) (hac : Nat) (hal : Nat) (hre : Nat) (hse : Nat) (hpl : Nat) (many : Int) (cost : Int) (br : Int) (hsy : Nat) (TX : Int → Int) (r_code_ : r32 code_) (hty : 0 ≤ ty ∧ ty ≤ 60) (hys : 33 ≤ code_ ∧ code_ ≤ 126) (hno : ¬ ty = 60) : Met l yX3_append (ws_ yX3_append cX3_append 2 (Option.some Jvm.ClassFile.FieldType.int)) ({ frames := 1, cells := 0, slots := 0, locals := 22 }) (va_Pc [.ref hM, .int (iI code_)] (wrB G CL (TY g) (fun _ => True) [(hM, .inr (2, (mO hnow hthen hpast kept htx ty th at_ fa htold tolds hac hal hre hse hpl many cost br hsy))), (htx, .inl (g 0, 60, .inl (aI TX)))] sz)) (va_Qi (fun (r : Int32) (u : Unit) => r = (iI (ty + 1))) (fun (u : Unit) t => va_P G CL [(hM, .inr (2, (mO hnow hthen hpast kept htx (ty + 1) 0 at_ fa htold tolds hac hal hre hse hpl many cost br hsy))), (htx, .inl (g 0, 60, .inl (aI (uZ TX ty code_))))] t.heap) (va_A [(hM, .inr (2, (mO hnow hthen hpast kept htx ty th at_ fa htold tolds hac hal hre hse hpl many cost br hsy))), (htx, .inl (g 0, 60, .inl (aI TX)))] sz)) 0 0 (va_A [(hM, .inr (2, (mO hnow hthen hpast kept htx ty th at_ fa htold tolds hac hal hre hse hpl many cost br hsy))), (htx, .inl (g 0, 60, .inl (aI TX)))] sz) := by
  refine Met.at (by decide) (Nat.le_of_ble_eq_true rfl) ?_
  intro p e s m below meth c hx hb hr hlk hml hown hnm hts hB ls hl
  have hown : s.vm.findClass RX3 = some m.cls := hown
  obtain ⟨hsz, hP, hK, hD0, hEs⟩ := hB
  subst hsz
  have hD := hD0.self (sz := s.heap.size)
  generalize hAe : va_A [(hM, .inr (2, (mO hnow hthen hpast kept htx ty th at_ fa htold tolds hac hal hre hse hpl many cost br hsy))), (htx, .inl (g 0, 60, .inl (aI TX)))] s.heap.size = A at hD ⊢
  have hA : ∀ q : Nat, s.heap.size ≤ q → A q := fun q h => by rw [← hAe]; exact Or.inr h
  have hS : va_S A s.heap s.heap [] := va_S.rf
  have hl : lv_has ls 2 [(0, .ref hM), (1, .int (iI code_))] := hl
  refine lv_aload_n hx hb dX3_append_0 rfl (lv_at hl 0 rfl) ?_
  refine lv_iconst (v := iI 0) hx hb dX3_append_1 rfl ?_
  refine g_put (D := G) (ci := 2) (v := .int (iI 0)) (ty := .int) (C := RX3) (T := TX3) (N := 20) (ws1 := [(hM, .inr (2, (mO hnow hthen hpast kept htx ty 0 at_ fa htold tolds hac hal hre hse hpl many cost br hsy))), (htx, .inl (g 0, 60, .inl (aI TX)))]) hx hb hts in_X3 tyX3 tyX3_ok nmX3 hown hK hP hD hS 0 rfl rfl 6 (by decide) (hts _ q1444) (fun _ h9 => h9) rfl (by decide +kernel) (rfl) (rfl) (Nat.le_of_ble_eq_true rfl) dX3_append_2 rfl (fun H locs hP hS => ?_)
  have hD : va_D A [(hM, .inr (2, (mO hnow hthen hpast kept htx ty 0 at_ fa htold tolds hac hal hre hse hpl many cost br hsy))), (htx, .inl (g 0, 60, .inl (aI TX)))] := va_Dadr hD rfl
  refine lv_iload_n hx hb dX3_append_5 rfl (lv_at hl 1 rfl) ?_
  refine lv_bipush (v := iI 33) hx hb dX3_append_6 rfl ?_
  refine lv_bipush (v := iI 126) hx hb dX3_append_8 rfl ?_
  refine g_callS (As := [.int (iI code_), .int (iI 33), .int (iI 126)]) (rest := []) (m_X3_in l G g code_ 33 126 r_code_ ⟨by decide, by decide⟩ ⟨by decide, by decide⟩) hx hb hml hown hts Stab.tt hK hP hS hEs [] rfl q1518 q1519 q102 q1520 hd_X3_in rfl rfl ⟨Nat.le_of_ble_eq_true rfl, Nat.le_of_ble_eq_true rfl⟩ rfl hl rfl (Nat.le_of_ble_eq_true rfl) ⟨Nat.le_refl _, Nat.le_refl _⟩ dX3_append_10 ?_
  refine g_ifq_ne (tgt := 22) hx hb dX3_append_13 (by decide) (fun c1 => ?_) (fun c1 => ?_)
  · refine lv_aload_n hx hb dX3_append_22 rfl (lv_at hl 0 rfl) ?_
    refine va_get (D := G) (ci := 2) (v := .int (iI ty)) (C := RX3) (T := TX3) (N := 20) hx hb hts in_X3 hown hK hP 0 rfl rfl 5 (by decide) (hts _ q1443) (fun _ h9 => h9) rfl dX3_append_23 ?_
    refine lv_bipush (v := iI 60) hx hb dX3_append_26 rfl ?_
    refine g_icmp_ne (tgt := 37) hx hb dX3_append_28 (by decide) ⟨⟨by omega, by omega⟩, ⟨by decide, by decide⟩⟩ (fun c2 => ?_) (fun c2 => ?_)
    · refine lv_aload_n hx hb dX3_append_37 rfl (lv_at hl 0 rfl) ?_
      refine va_get (D := G) (ci := 2) (v := .ref htx) (C := RX3) (T := TX3) (N := 20) hx hb hts in_X3 hown hK hP 0 rfl rfl 4 (by decide) (hts _ q1442) (fun _ h9 => h9) rfl dX3_append_38 ?_
      refine lv_aload_n hx hb dX3_append_41 rfl (lv_at hl 0 rfl) ?_
      refine va_get (D := G) (ci := 2) (v := .int (iI ty)) (C := RX3) (T := TX3) (N := 20) hx hb hts in_X3 hown hK hP 0 rfl rfl 5 (by decide) (hts _ q1443) (fun _ h9 => h9) rfl dX3_append_42 ?_
      refine lv_iload_n hx hb dX3_append_45 rfl (lv_at hl 1 rfl) ?_
      refine g_iast (ws1 := [(hM, .inr (2, (mO hnow hthen hpast kept htx ty 0 at_ fa htold tolds hac hal hre hse hpl many cost br hsy))), (htx, .inl (g 0, 60, .inl (aI (uZ TX ty code_))))]) hx hb hK hP hD hS 1 0 rfl rfl (i := ty) (⟨by omega, by omega⟩) (by decide) dX3_append_46 rfl (fun H locs hP hS => ?_)
      have hD : va_D A [(hM, .inr (2, (mO hnow hthen hpast kept htx ty 0 at_ fa htold tolds hac hal hre hse hpl many cost br hsy))), (htx, .inl (g 0, 60, .inl (aI (uZ TX ty code_))))] := va_Dadr hD rfl
      refine lv_aload_n hx hb dX3_append_47 rfl (lv_at hl 0 rfl) ?_
      refine lv_dup hx hb dX3_append_48 rfl ?_
      refine va_get (D := G) (ci := 2) (v := .int (iI ty)) (C := RX3) (T := TX3) (N := 20) hx hb hts in_X3 hown hK hP 0 rfl rfl 5 (by decide) (hts _ q1443) (fun _ h9 => h9) rfl dX3_append_49 ?_
      refine lv_iconst (v := iI 1) hx hb dX3_append_52 rfl ?_
      refine g_iadd hx hb dX3_append_53 ?_
      refine g_put (D := G) (ci := 2) (v := .int (iI (ty + 1))) (ty := .int) (C := RX3) (T := TX3) (N := 20) (ws1 := [(hM, .inr (2, (mO hnow hthen hpast kept htx (ty + 1) 0 at_ fa htold tolds hac hal hre hse hpl many cost br hsy))), (htx, .inl (g 0, 60, .inl (aI (uZ TX ty code_))))]) hx hb hts in_X3 tyX3 tyX3_ok nmX3 hown hK hP hD hS 0 rfl rfl 5 (by decide) (hts _ q1443) (fun _ h9 => h9) rfl (by decide +kernel) (rfl) (rfl) (Nat.le_of_ble_eq_true rfl) dX3_append_54 rfl (fun H locs hP hS => ?_)
      have hD : va_D A [(hM, .inr (2, (mO hnow hthen hpast kept htx (ty + 1) 0 at_ fa htold tolds hac hal hre hse hpl many cost br hsy))), (htx, .inl (g 0, 60, .inl (aI (uZ TX ty code_))))] := va_Dadr hD rfl
      refine lv_aload_n hx hb dX3_append_57 rfl (lv_at hl 0 rfl) ?_
      refine va_get (D := G) (ci := 2) (v := .int (iI (ty + 1))) (C := RX3) (T := TX3) (N := 20) hx hb hts in_X3 hown hK hP 0 rfl rfl 5 (by decide) (hts _ q1443) (fun _ h9 => h9) rfl dX3_append_58 ?_
      exact W.iret (v := (iI (ty + 1))) hx hb hr (fun t ht hW => ⟨⟨_, (), rfl, rfl, by rw [← ht] at hP; exact hP⟩, hS.F ht⟩) hS.2.2 dX3_append_61 hlk
    · exact False.elim (by first | omega | contradiction)
  · exact False.elim (by first | omega | contradiction)
theorem hd_X3_clearBuffer : yX3_clearBuffer.cls = RX3 ∧ yX3_clearBuffer.cls ≠ "java/lang/invoke/MethodHandle" ∧ yX3_clearBuffer.cls ≠ "java/lang/invoke/VarHandle" ∧ (parseMethodDescriptor yX3_clearBuffer.desc).map (fun d => d.parameters.length) = some 0 := by decide +kernel
set_option maxHeartbeats 1000000 in
set_option maxRecDepth 100000 in
theorem m_X3_clearBuffer (l : Launch) (G : va_G) (g : Nat → ClassId) (sz : Nat) (hM : Nat) (hnow : Nat) (hthen : Nat) (hpast : Nat) (kept : Int) (htx : Nat) (ty : Int) (th : Int) (at_ : Int) (fa : Prop) (htold : Nat) (tolds : Int) (hac : Nat) (hal : Nat) (hre : Nat) (hse : Nat) (hpl : Nat) (many : Int) (cost : Int) (br : Int) (hsy : Nat)  : Met l yX3_clearBuffer (ws_ yX3_clearBuffer cX3_clearBuffer 2 (Option.some Jvm.ClassFile.FieldType.int)) ({ frames := 0, cells := 0, slots := 0, locals := 0 }) (va_Pc [.ref hM] (wrB G CL (TY g) (fun _ => True) [(hM, .inr (2, (mO hnow hthen hpast kept htx ty th at_ fa htold tolds hac hal hre hse hpl many cost br hsy)))] sz)) (va_Qi (fun (r : Int32) (u : Unit) => r = (iI ty)) (fun (u : Unit) t => va_P G CL [(hM, .inr (2, (mO hnow hthen hpast kept htx 0 0 at_ fa htold tolds hac hal hre hse hpl many cost br hsy)))] t.heap) (va_A [(hM, .inr (2, (mO hnow hthen hpast kept htx ty th at_ fa htold tolds hac hal hre hse hpl many cost br hsy)))] sz)) 0 0 (va_A [(hM, .inr (2, (mO hnow hthen hpast kept htx ty th at_ fa htold tolds hac hal hre hse hpl many cost br hsy)))] sz) := by
  refine Met.at (by decide) (Nat.le_of_ble_eq_true rfl) ?_
  intro p e s m below meth c hx hb hr hlk hml hown hnm hts hB ls hl
  have hown : s.vm.findClass RX3 = some m.cls := hown
  obtain ⟨hsz, hP, hK, hD0, hEs⟩ := hB
  subst hsz
  have hD := hD0.self (sz := s.heap.size)
  generalize hAe : va_A [(hM, .inr (2, (mO hnow hthen hpast kept htx ty th at_ fa htold tolds hac hal hre hse hpl many cost br hsy)))] s.heap.size = A at hD ⊢
  have hA : ∀ q : Nat, s.heap.size ≤ q → A q := fun q h => by rw [← hAe]; exact Or.inr h
  have hS : va_S A s.heap s.heap [] := va_S.rf
  have hl : lv_has ls 2 [(0, .ref hM)] := hl
  refine lv_aload_n hx hb dX3_clearBuffer_0 rfl (lv_at hl 0 rfl) ?_
  refine lv_iconst (v := iI 0) hx hb dX3_clearBuffer_1 rfl ?_
  refine g_put (D := G) (ci := 2) (v := .int (iI 0)) (ty := .int) (C := RX3) (T := TX3) (N := 20) (ws1 := [(hM, .inr (2, (mO hnow hthen hpast kept htx ty 0 at_ fa htold tolds hac hal hre hse hpl many cost br hsy)))]) hx hb hts in_X3 tyX3 tyX3_ok nmX3 hown hK hP hD hS 0 rfl rfl 6 (by decide) (hts _ q1444) (fun _ h9 => h9) rfl (by decide +kernel) (rfl) (rfl) (Nat.le_of_ble_eq_true rfl) dX3_clearBuffer_2 rfl (fun H locs hP hS => ?_)
  have hD : va_D A [(hM, .inr (2, (mO hnow hthen hpast kept htx ty 0 at_ fa htold tolds hac hal hre hse hpl many cost br hsy)))] := va_Dadr hD rfl
  refine lv_aload_n hx hb dX3_clearBuffer_5 rfl (lv_at hl 0 rfl) ?_
  refine va_get (D := G) (ci := 2) (v := .int (iI ty)) (C := RX3) (T := TX3) (N := 20) hx hb hts in_X3 hown hK hP 0 rfl rfl 5 (by decide) (hts _ q1443) (fun _ h9 => h9) rfl dX3_clearBuffer_6 ?_
  refine lv_istore_n (lv' := [(1, .int (iI ty)), (0, .ref hM)]) hx hb dX3_clearBuffer_9 rfl hl (by decide) rfl (fun ls hl => ?_)
  refine lv_aload_n hx hb dX3_clearBuffer_10 rfl (lv_at hl 1 rfl) ?_
  refine lv_iconst (v := iI 0) hx hb dX3_clearBuffer_11 rfl ?_
  refine g_put (D := G) (ci := 2) (v := .int (iI 0)) (ty := .int) (C := RX3) (T := TX3) (N := 20) (ws1 := [(hM, .inr (2, (mO hnow hthen hpast kept htx 0 0 at_ fa htold tolds hac hal hre hse hpl many cost br hsy)))]) hx hb hts in_X3 tyX3 tyX3_ok nmX3 hown hK hP hD hS 0 rfl rfl 5 (by decide) (hts _ q1443) (fun _ h9 => h9) rfl (by decide +kernel) (rfl) (rfl) (Nat.le_of_ble_eq_true rfl) dX3_clearBuffer_12 rfl (fun H locs hP hS => ?_)
  have hD : va_D A [(hM, .inr (2, (mO hnow hthen hpast kept htx 0 0 at_ fa htold tolds hac hal hre hse hpl many cost br hsy)))] := va_Dadr hD rfl
  refine lv_iload_n hx hb dX3_clearBuffer_15 rfl (lv_at hl 0 rfl) ?_
  exact W.iret (v := (iI ty)) hx hb hr (fun t ht hW => ⟨⟨_, (), rfl, rfl, by rw [← ht] at hP; exact hP⟩, hS.F ht⟩) hS.2.2 dX3_clearBuffer_16 hlk
theorem hd_X3_give : yX3_give.cls = RX3 ∧ yX3_give.cls ≠ "java/lang/invoke/MethodHandle" ∧ yX3_give.cls ≠ "java/lang/invoke/VarHandle" ∧ (parseMethodDescriptor yX3_give.desc).map (fun d => d.parameters.length) = some 1 := by decide +kernel
set_option maxHeartbeats 1000000 in
set_option maxRecDepth 100000 in
theorem m_X3_give_1 (l : Launch) (G : va_G) (g : Nat → ClassId) (sz : Nat) (hM : Nat) (room : Int) (hnow : Nat) (hthen : Nat) (hpast : Nat) (kept : Int) (htx : Nat) (ty : Int) (th : Int) (at_ : Int) (fa : Prop) (htold : Nat) (tolds : Int) (hac : Nat) (hal : Nat) (hre : Nat) (hse : Nat) (hpl : Nat) (many : Int) (cost : Int) (br : Int) (hsy : Nat) (S : Int → Int) (r_room : r32 room) (kS : rgS S) (hno : ¬ isTh S room) : Met l yX3_give (ws_ yX3_give cX3_give 2 (Option.some Jvm.ClassFile.FieldType.int)) ({ frames := 2, cells := 0, slots := 0, locals := 43 }) (va_Pc [.ref hM, .int (iI room)] (wrB G CL (TY g) (fun _ => True) [(hM, .inr (2, (mO hnow hthen hpast kept htx ty th at_ fa htold tolds hac hal hre hse hpl many cost br hsy))), (hnow, .inl (g 0, 253, .inl (aI S)))] sz)) (va_Qi (fun (r : Int32) (u : Unit) => r = (iI 0)) (fun (u : Unit) t => va_P G CL [(hM, .inr (2, (mO hnow hthen hpast kept htx ty 1 at_ fa htold tolds hac hal hre hse hpl many cost br hsy))), (hnow, .inl (g 0, 253, .inl (aI S)))] t.heap) (va_A [(hM, .inr (2, (mO hnow hthen hpast kept htx ty th at_ fa htold tolds hac hal hre hse hpl many cost br hsy))), (hnow, .inl (g 0, 253, .inl (aI S)))] sz)) 0 0 (va_A [(hM, .inr (2, (mO hnow hthen hpast kept htx ty th at_ fa htold tolds hac hal hre hse hpl many cost br hsy))), (hnow, .inl (g 0, 253, .inl (aI S)))] sz) := by
  refine Met.at (by decide) (Nat.le_of_ble_eq_true rfl) ?_
  intro p e s m below meth c hx hb hr hlk hml hown hnm hts hB ls hl
  have hown : s.vm.findClass RX3 = some m.cls := hown
  obtain ⟨hsz, hP, hK, hD0, hEs⟩ := hB
  subst hsz
  have hD := hD0.self (sz := s.heap.size)
  generalize hAe : va_A [(hM, .inr (2, (mO hnow hthen hpast kept htx ty th at_ fa htold tolds hac hal hre hse hpl many cost br hsy))), (hnow, .inl (g 0, 253, .inl (aI S)))] s.heap.size = A at hD ⊢
  have hA : ∀ q : Nat, s.heap.size ≤ q → A q := fun q h => by rw [← hAe]; exact Or.inr h
  have hS : va_S A s.heap s.heap [] := va_S.rf
  have hl : lv_has ls 2 [(0, .ref hM), (1, .int (iI room))] := hl
  refine lv_aload_n hx hb dX3_give_0 rfl (lv_at hl 0 rfl) ?_
  refine lv_iconst (v := iI 0) hx hb dX3_give_1 rfl ?_
  refine g_put (D := G) (ci := 2) (v := .int (iI 0)) (ty := .int) (C := RX3) (T := TX3) (N := 20) (ws1 := [(hM, .inr (2, (mO hnow hthen hpast kept htx ty 0 at_ fa htold tolds hac hal hre hse hpl many cost br hsy))), (hnow, .inl (g 0, 253, .inl (aI S)))]) hx hb hts in_X3 tyX3 tyX3_ok nmX3 hown hK hP hD hS 0 rfl rfl 6 (by decide) (hts _ q1444) (fun _ h9 => h9) rfl (by decide +kernel) (rfl) (rfl) (Nat.le_of_ble_eq_true rfl) dX3_give_2 rfl (fun H locs hP hS => ?_)
  have hD : va_D A [(hM, .inr (2, (mO hnow hthen hpast kept htx ty 0 at_ fa htold tolds hac hal hre hse hpl many cost br hsy))), (hnow, .inl (g 0, 253, .inl (aI S)))] := va_Dadr hD rfl
  refine lv_aload_n hx hb dX3_give_5 rfl (lv_at hl 0 rfl) ?_
  refine va_get (D := G) (ci := 2) (v := .ref hnow) (C := RX3) (T := TX3) (N := 20) hx hb hts in_X3 hown hK hP 0 rfl rfl 0 (by decide) (hts _ q1438) (fun _ h9 => h9) rfl dX3_give_6 ?_
  refine lv_iload_n hx hb dX3_give_9 rfl (lv_at hl 1 rfl) ?_
  refine g_callS (As := [.ref hnow, .int (iI room)]) (rest := []) (m_X3_isThere l G g hnow room S r_room kS) hx hb hml hown hts Stab.tt hK hP hS hEs [1] rfl q1525 q1526 q102 q1527 hd_X3_isThere rfl rfl ⟨Nat.le_of_ble_eq_true rfl, Nat.le_of_ble_eq_true rfl⟩ rfl hl rfl (Nat.le_of_ble_eq_true rfl) ⟨Nat.le_refl _, Nat.le_refl _⟩ dX3_give_10 ?_
  refine g_ifq_ne (tgt := 22) hx hb dX3_give_13 (by decide) (fun c1 => ?_) (fun c1 => ?_)
  · exact False.elim (by contradiction)
  · refine lv_aload_n hx hb dX3_give_16 rfl (lv_at hl 0 rfl) ?_
    refine lv_iconst (v := iI 1) hx hb dX3_give_17 rfl ?_
    refine g_callVwi (As := [.int (iI 1)]) (rest := []) (m_X3_fails l G g H.size hM 1 hnow hthen hpast kept htx ty 0 at_ fa htold tolds hac hal hre hse hpl many cost br hsy ⟨by decide, by decide⟩) hx hb hml hown hts Stab.tt hA hK hP hD hS hEs [0] rfl rfl (fun _ => rfl) (q0 := 0) rfl rfl q1507 q1509 qs54 q102 q1510 hd_X3_fails rfl rfl ⟨Nat.le_of_ble_eq_true rfl, Nat.le_of_ble_eq_true rfl⟩ rfl hl rfl (Nat.le_of_ble_eq_true rfl) ⟨Nat.le_refl _, Nat.le_refl _⟩ dX3_give_18 (fun rr u H locs hp hP hS => ?_)
    have hrr : rr = (iI 0) := hp
    subst hrr
    have hP : va_P G CL [(hM, .inr (2, (mO hnow hthen hpast kept htx ty 1 at_ fa htold tolds hac hal hre hse hpl many cost br hsy))), (hnow, .inl (g 0, 253, .inl (aI S)))] H := hP
    have hD : va_D A [(hM, .inr (2, (mO hnow hthen hpast kept htx ty 1 at_ fa htold tolds hac hal hre hse hpl many cost br hsy))), (hnow, .inl (g 0, 253, .inl (aI S)))] := va_Dadr hD rfl
    refine W.widen (k := 0) (n := 0) (Nat.le_refl _) (Nat.le_refl _) ?_
    exact W.iret (v := (iI 0)) hx hb hr (fun t ht hW => ⟨⟨_, (), rfl, rfl, by rw [← ht] at hP; exact hP⟩, hS.F ht⟩) hS.2.2 dX3_give_21 hlk
set_option maxHeartbeats 1000000 in
set_option maxRecDepth 100000 in
theorem m_X3_give_0 (l : Launch) (G : va_G) (g : Nat → ClassId) (sz : Nat) (hM : Nat) (room : Int) (hnow : Nat) (hthen : Nat) (hpast : Nat) (kept : Int) (htx : Nat) (ty : Int) (th : Int) (at_ : Int) (fa : Prop) (htold : Nat) (tolds : Int) (hac : Nat) (hal : Nat) (hre : Nat) (hse : Nat) (hpl : Nat) (many : Int) (cost : Int) (br : Int) (hsy : Nat) (S : Int → Int) (PA : Int → Int) (r_room : r32 room) (kS : rgS S) (hkp : 0 ≤ kept ∧ kept ≤ 6) (hys : isTh S room) : Met l yX3_give (ws_ yX3_give cX3_give 2 (Option.some Jvm.ClassFile.FieldType.int)) ({ frames := 2, cells := 0, slots := 0, locals := 45 }) (va_Pc [.ref hM, .int (iI room)] (wrB G CL (TY g) (fun _ => True) [(hM, .inr (2, (mO hnow hthen hpast kept htx ty th at_ fa htold tolds hac hal hre hse hpl many cost br hsy))), (hnow, .inl (g 0, 253, .inl (aI S))), (hpast, .inl (g 0, 1518, .inl (aI PA)))] sz)) (va_Qi (fun (r : Int32) (u : Unit) => r = (iI (gvN S room 192))) (fun (u : Unit) t => va_P G CL [(hM, .inr (2, (mO hnow hthen hpast (svK kept) htx ty 0 at_ fa htold tolds hac hal hre hse hpl many cost br hsy))), (hnow, .inl (g 0, 253, .inl (aI (gvS S room)))), (hpast, .inl (g 0, 1518, .inl (aI (svP S PA kept))))] t.heap) (va_A [(hM, .inr (2, (mO hnow hthen hpast kept htx ty th at_ fa htold tolds hac hal hre hse hpl many cost br hsy))), (hnow, .inl (g 0, 253, .inl (aI S))), (hpast, .inl (g 0, 1518, .inl (aI PA)))] sz)) 0 0 (va_A [(hM, .inr (2, (mO hnow hthen hpast kept htx ty th at_ fa htold tolds hac hal hre hse hpl many cost br hsy))), (hnow, .inl (g 0, 253, .inl (aI S))), (hpast, .inl (g 0, 1518, .inl (aI PA)))] sz) := by
  refine Met.at (by decide) (Nat.le_of_ble_eq_true rfl) ?_
  intro p e s m below meth c hx hb hr hlk hml hown hnm hts hB ls hl
  have hown : s.vm.findClass RX3 = some m.cls := hown
  obtain ⟨hsz, hP, hK, hD0, hEs⟩ := hB
  subst hsz
  have hD := hD0.self (sz := s.heap.size)
  generalize hAe : va_A [(hM, .inr (2, (mO hnow hthen hpast kept htx ty th at_ fa htold tolds hac hal hre hse hpl many cost br hsy))), (hnow, .inl (g 0, 253, .inl (aI S))), (hpast, .inl (g 0, 1518, .inl (aI PA)))] s.heap.size = A at hD ⊢
  have hA : ∀ q : Nat, s.heap.size ≤ q → A q := fun q h => by rw [← hAe]; exact Or.inr h
  have hS : va_S A s.heap s.heap [] := va_S.rf
  have hl : lv_has ls 2 [(0, .ref hM), (1, .int (iI room))] := hl
  refine lv_aload_n hx hb dX3_give_0 rfl (lv_at hl 0 rfl) ?_
  refine lv_iconst (v := iI 0) hx hb dX3_give_1 rfl ?_
  refine g_put (D := G) (ci := 2) (v := .int (iI 0)) (ty := .int) (C := RX3) (T := TX3) (N := 20) (ws1 := [(hM, .inr (2, (mO hnow hthen hpast kept htx ty 0 at_ fa htold tolds hac hal hre hse hpl many cost br hsy))), (hnow, .inl (g 0, 253, .inl (aI S))), (hpast, .inl (g 0, 1518, .inl (aI PA)))]) hx hb hts in_X3 tyX3 tyX3_ok nmX3 hown hK hP hD hS 0 rfl rfl 6 (by decide) (hts _ q1444) (fun _ h9 => h9) rfl (by decide +kernel) (rfl) (rfl) (Nat.le_of_ble_eq_true rfl) dX3_give_2 rfl (fun H locs hP hS => ?_)
  have hD : va_D A [(hM, .inr (2, (mO hnow hthen hpast kept htx ty 0 at_ fa htold tolds hac hal hre hse hpl many cost br hsy))), (hnow, .inl (g 0, 253, .inl (aI S))), (hpast, .inl (g 0, 1518, .inl (aI PA)))] := va_Dadr hD rfl
  refine lv_aload_n hx hb dX3_give_5 rfl (lv_at hl 0 rfl) ?_
  refine va_get (D := G) (ci := 2) (v := .ref hnow) (C := RX3) (T := TX3) (N := 20) hx hb hts in_X3 hown hK hP 0 rfl rfl 0 (by decide) (hts _ q1438) (fun _ h9 => h9) rfl dX3_give_6 ?_
  refine lv_iload_n hx hb dX3_give_9 rfl (lv_at hl 1 rfl) ?_
  refine g_callS (As := [.ref hnow, .int (iI room)]) (rest := []) (m_X3_isThere l G g hnow room S r_room kS) hx hb hml hown hts Stab.tt hK hP hS hEs [1] rfl q1525 q1526 q102 q1527 hd_X3_isThere rfl rfl ⟨Nat.le_of_ble_eq_true rfl, Nat.le_of_ble_eq_true rfl⟩ rfl hl rfl (Nat.le_of_ble_eq_true rfl) ⟨Nat.le_refl _, Nat.le_refl _⟩ dX3_give_10 ?_
  refine g_ifq_ne (tgt := 22) hx hb dX3_give_13 (by decide) (fun c1 => ?_) (fun c1 => ?_)
  · refine lv_aload_n hx hb dX3_give_22 rfl (lv_at hl 0 rfl) ?_
    refine g_callVwv (As := []) (rest := []) (m_X3_saves l G g H.size hM hnow hthen hpast kept htx ty 0 at_ fa htold tolds hac hal hre hse hpl many cost br hsy S PA hkp) hx hb hml hown hts Stab.tt hA hK hP hD hS hEs [0, 1, 2] rfl rfl (fun _ => rfl) (q0 := 0) rfl rfl q1541 q1543 qs57 q102 q1544 hd_X3_saves rfl rfl ⟨Nat.le_of_ble_eq_true rfl, Nat.le_of_ble_eq_true rfl⟩ rfl hl rfl (Nat.le_of_ble_eq_true rfl) ⟨Nat.le_refl _, Nat.le_refl _⟩ dX3_give_23 (fun u H locs hp hP hS => ?_)
    have hP : va_P G CL [(hM, .inr (2, (mO hnow hthen hpast (svK kept) htx ty 0 at_ fa htold tolds hac hal hre hse hpl many cost br hsy))), (hnow, .inl (g 0, 253, .inl (aI S))), (hpast, .inl (g 0, 1518, .inl (aI (svP S PA kept))))] H := hP
    have hD : va_D A [(hM, .inr (2, (mO hnow hthen hpast (svK kept) htx ty 0 at_ fa htold tolds hac hal hre hse hpl many cost br hsy))), (hnow, .inl (g 0, 253, .inl (aI S))), (hpast, .inl (g 0, 1518, .inl (aI (svP S PA kept))))] := va_Dadr hD rfl
    refine W.widen (k := 0) (n := 0) (Nat.le_refl _) (Nat.le_refl _) ?_
    refine lv_aload_n hx hb dX3_give_26 rfl (lv_at hl 0 rfl) ?_
    refine va_get (D := G) (ci := 2) (v := .ref hnow) (C := RX3) (T := TX3) (N := 20) hx hb hts in_X3 hown hK hP 0 rfl rfl 0 (by decide) (hts _ q1438) (fun _ h9 => h9) rfl dX3_give_27 ?_
    refine lv_iload_n hx hb dX3_give_30 rfl (lv_at hl 1 rfl) ?_
    refine g_callSwi (As := [.ref hnow, .int (iI room)]) (rest := []) (m_X3_gives l G g H.size hnow room S r_room kS (hys.1)) hx hb hml hown hts Stab.tt hA hK hP hD hS hEs [1] rfl rfl (fun _ => rfl) q1549 q1550 q102 q1551 hd_X3_gives rfl rfl ⟨Nat.le_of_ble_eq_true rfl, Nat.le_of_ble_eq_true rfl⟩ rfl hl rfl (Nat.le_of_ble_eq_true rfl) ⟨Nat.le_refl _, Nat.le_refl _⟩ dX3_give_31 (fun rr u H locs hp hP hS => ?_)
    have hrr : rr = (iI (gvN S room 192)) := hp
    subst hrr
    have hP : va_P G CL [(hM, .inr (2, (mO hnow hthen hpast (svK kept) htx ty 0 at_ fa htold tolds hac hal hre hse hpl many cost br hsy))), (hnow, .inl (g 0, 253, .inl (aI (gvS S room)))), (hpast, .inl (g 0, 1518, .inl (aI (svP S PA kept))))] H := hP
    have hD : va_D A [(hM, .inr (2, (mO hnow hthen hpast (svK kept) htx ty 0 at_ fa htold tolds hac hal hre hse hpl many cost br hsy))), (hnow, .inl (g 0, 253, .inl (aI (gvS S room)))), (hpast, .inl (g 0, 1518, .inl (aI (svP S PA kept))))] := va_Dadr hD rfl
    refine W.widen (k := 0) (n := 0) (Nat.le_refl _) (Nat.le_refl _) ?_
    exact W.iret (v := (iI (gvN S room 192))) hx hb hr (fun t ht hW => ⟨⟨_, (), rfl, rfl, by rw [← ht] at hP; exact hP⟩, hS.F ht⟩) hS.2.2 dX3_give_34 hlk
  · exact False.elim (by contradiction)
theorem hd_X3_walk : yX3_walk.cls = RX3 ∧ yX3_walk.cls ≠ "java/lang/invoke/MethodHandle" ∧ yX3_walk.cls ≠ "java/lang/invoke/VarHandle" ∧ (parseMethodDescriptor yX3_walk.desc).map (fun d => d.parameters.length) = some 3 := by decide +kernel
set_option maxHeartbeats 1000000 in
set_option maxRecDepth 100000 in
theorem m_X3_walk_x (l : Launch) (G : va_G) (g : Nat → ClassId) (sz : Nat) (hM : Nat) (one : Int) (other : Int) (w_ : Int) (hnow : Nat) (hthen : Nat) (hpast : Nat) (kept : Int) (htx : Nat) (ty : Int) (th : Int) (at_ : Int) (fa : Prop) (htold : Nat) (tolds : Int) (hac : Nat) (hal : Nat) (hre : Nat) (hse : Nat) (hpl : Nat) (many : Int) (cost : Int) (br : Int) (hsy : Nat) (S : Int → Int) (r_one : r32 one) (r_other : r32 other) (r_w_ : r32 w_) (kS : rgS S) (hno : ¬ mayV S one other (0 ≤ w_ ∧ w_ ≤ 3) = 0) : Met l yX3_walk (ws_ yX3_walk cX3_walk 4 (Option.some Jvm.ClassFile.FieldType.int)) ({ frames := 3, cells := 0, slots := 0, locals := 66 }) (va_Pc [.ref hM, .int (iI one), .int (iI other), .int (iI w_)] (wrB G CL (TY g) (fun _ => True) [(hM, .inr (2, (mO hnow hthen hpast kept htx ty th at_ fa htold tolds hac hal hre hse hpl many cost br hsy))), (hnow, .inl (g 0, 253, .inl (aI S)))] sz)) (va_Qi (fun (r : Int32) (u : Unit) => r = (iI 0)) (fun (u : Unit) t => va_P G CL [(hM, .inr (2, (mO hnow hthen hpast kept htx ty (mayV S one other (0 ≤ w_ ∧ w_ ≤ 3)) at_ fa htold tolds hac hal hre hse hpl many cost br hsy))), (hnow, .inl (g 0, 253, .inl (aI S)))] t.heap) (va_A [(hM, .inr (2, (mO hnow hthen hpast kept htx ty th at_ fa htold tolds hac hal hre hse hpl many cost br hsy))), (hnow, .inl (g 0, 253, .inl (aI S)))] sz)) 0 0 (va_A [(hM, .inr (2, (mO hnow hthen hpast kept htx ty th at_ fa htold tolds hac hal hre hse hpl many cost br hsy))), (hnow, .inl (g 0, 253, .inl (aI S)))] sz) := by
  refine Met.at (by decide) (Nat.le_of_ble_eq_true rfl) ?_
  intro p e s m below meth c hx hb hr hlk hml hown hnm hts hB ls hl
  have hown : s.vm.findClass RX3 = some m.cls := hown
  obtain ⟨hsz, hP, hK, hD0, hEs⟩ := hB
  subst hsz
  have hD := hD0.self (sz := s.heap.size)
  generalize hAe : va_A [(hM, .inr (2, (mO hnow hthen hpast kept htx ty th at_ fa htold tolds hac hal hre hse hpl many cost br hsy))), (hnow, .inl (g 0, 253, .inl (aI S)))] s.heap.size = A at hD ⊢
  have hA : ∀ q : Nat, s.heap.size ≤ q → A q := fun q h => by rw [← hAe]; exact Or.inr h
  have hS : va_S A s.heap s.heap [] := va_S.rf
  have hl : lv_has ls 4 [(0, .ref hM), (1, .int (iI one)), (2, .int (iI other)), (3, .int (iI w_))] := hl
  refine lv_aload_n hx hb dX3_walk_0 rfl (lv_at hl 0 rfl) ?_
  refine lv_aload_n hx hb dX3_walk_1 rfl (lv_at hl 0 rfl) ?_
  refine lv_iload_n hx hb dX3_walk_2 rfl (lv_at hl 1 rfl) ?_
  refine lv_iload_n hx hb dX3_walk_3 rfl (lv_at hl 2 rfl) ?_
  refine lv_iload_n hx hb dX3_walk_4 rfl (lv_at hl 3 rfl) ?_
  refine lv_iconst (v := iI 0) hx hb dX3_walk_5 rfl ?_
  refine lv_iconst (v := iI 3) hx hb dX3_walk_6 rfl ?_
  refine g_callS (As := [.int (iI w_), .int (iI 0), .int (iI 3)]) (rest := [.int (iI other), .int (iI one), .ref hM, .ref hM]) (m_X3_in l G g w_ 0 3 r_w_ ⟨by decide, by decide⟩ ⟨by decide, by decide⟩) hx hb hml hown hts Stab.tt hK hP hS hEs [] rfl q1518 q1519 q102 q1520 hd_X3_in rfl rfl ⟨Nat.le_of_ble_eq_true rfl, Nat.le_of_ble_eq_true rfl⟩ rfl hl rfl (Nat.le_of_ble_eq_true rfl) ⟨Nat.le_refl _, Nat.le_refl _⟩ dX3_walk_7 ?_
  refine g_callV (As := [.int (iI one), .int (iI other), .int (iI (qz (0 ≤ w_ ∧ w_ ≤ 3)))]) (rest := [.ref hM]) (m_X3_may l G g hM one other (0 ≤ w_ ∧ w_ ≤ 3) (mO hnow hthen hpast kept htx ty th at_ fa htold tolds hac hal hre hse hpl many cost br hsy) hnow S rfl r_one r_other kS) hx hb hml hown hts Stab.tt hK hP hS hEs [0, 1] rfl (q0 := 0) rfl rfl q1556 q1558 qs58 q102 q1559 hd_X3_may rfl rfl ⟨Nat.le_of_ble_eq_true rfl, Nat.le_of_ble_eq_true rfl⟩ rfl hl rfl (Nat.le_of_ble_eq_true rfl) ⟨Nat.le_refl _, Nat.le_refl _⟩ dX3_walk_10 ?_
  have w1 := may_rng S one other (0 ≤ w_ ∧ w_ ≤ 3)
  refine g_put (D := G) (ci := 2) (v := .int (iI (mayV S one other (0 ≤ w_ ∧ w_ ≤ 3)))) (ty := .int) (C := RX3) (T := TX3) (N := 20) (ws1 := [(hM, .inr (2, (mO hnow hthen hpast kept htx ty (mayV S one other (0 ≤ w_ ∧ w_ ≤ 3)) at_ fa htold tolds hac hal hre hse hpl many cost br hsy))), (hnow, .inl (g 0, 253, .inl (aI S)))]) hx hb hts in_X3 tyX3 tyX3_ok nmX3 hown hK hP hD hS 0 rfl rfl 6 (by decide) (hts _ q1444) (fun _ h9 => h9) rfl (by decide +kernel) (rfl) (rfl) (Nat.le_of_ble_eq_true rfl) dX3_walk_13 rfl (fun H locs hP hS => ?_)
  have hD : va_D A [(hM, .inr (2, (mO hnow hthen hpast kept htx ty (mayV S one other (0 ≤ w_ ∧ w_ ≤ 3)) at_ fa htold tolds hac hal hre hse hpl many cost br hsy))), (hnow, .inl (g 0, 253, .inl (aI S)))] := va_Dadr hD rfl
  refine lv_aload_n hx hb dX3_walk_16 rfl (lv_at hl 0 rfl) ?_
  refine va_get (D := G) (ci := 2) (v := .int (iI (mayV S one other (0 ≤ w_ ∧ w_ ≤ 3)))) (C := RX3) (T := TX3) (N := 20) hx hb hts in_X3 hown hK hP 0 rfl rfl 6 (by decide) (hts _ q1444) (fun _ h9 => h9) rfl dX3_walk_17 ?_
  refine g_if_eq (tgt := 25) hx hb dX3_walk_20 (by decide) ⟨by omega, by omega⟩ (fun c2 => ?_) (fun c2 => ?_)
  · exact False.elim (by contradiction)
  · refine lv_iconst (v := iI 0) hx hb dX3_walk_23 rfl ?_
    exact W.iret (v := (iI 0)) hx hb hr (fun t ht hW => ⟨⟨_, (), rfl, rfl, by rw [← ht] at hP; exact hP⟩, hS.F ht⟩) hS.2.2 dX3_walk_24 hlk
set_option maxHeartbeats 1000000 in
set_option maxRecDepth 100000 in
theorem m_X3_walk_0 (l : Launch) (G : va_G) (g : Nat → ClassId) (sz : Nat) (hM : Nat) (one : Int) (other : Int) (w_ : Int) (hnow : Nat) (hthen : Nat) (hpast : Nat) (kept : Int) (htx : Nat) (ty : Int) (th : Int) (at_ : Int) (fa : Prop) (htold : Nat) (tolds : Int) (hac : Nat) (hal : Nat) (hre : Nat) (hse : Nat) (hpl : Nat) (many : Int) (cost : Int) (br : Int) (hsy : Nat) (S : Int → Int) (PA : Int → Int) (r_one : r32 one) (r_other : r32 other) (r_w_ : r32 w_) (kS : rgS S) (hkp : 0 ≤ kept ∧ kept ≤ 6) (ht1 : isTh S one) (ht2 : isTh S other) (hne : ¬ one = other) (hys : 0 ≤ w_ ∧ w_ ≤ 3) : Met l yX3_walk (ws_ yX3_walk cX3_walk 4 (Option.some Jvm.ClassFile.FieldType.int)) ({ frames := 3, cells := 0, slots := 0, locals := 66 }) (va_Pc [.ref hM, .int (iI one), .int (iI other), .int (iI w_)] (wrB G CL (TY g) (fun _ => True) [(hM, .inr (2, (mO hnow hthen hpast kept htx ty th at_ fa htold tolds hac hal hre hse hpl many cost br hsy))), (hnow, .inl (g 0, 253, .inl (aI S))), (hpast, .inl (g 0, 1518, .inl (aI PA)))] sz)) (va_Qi (fun (r : Int32) (u : Unit) => r = (iI (S (216 + 6 * one + other)))) (fun (u : Unit) t => va_P G CL [(hM, .inr (2, (mO hnow hthen hpast (svK kept) htx ty (mayV S one other (0 ≤ w_ ∧ w_ ≤ 3)) at_ fa htold tolds hac hal hre hse hpl many cost br hsy))), (hnow, .inl (g 0, 253, .inl (aI (wkS S one other w_)))), (hpast, .inl (g 0, 1518, .inl (aI (svP S PA kept))))] t.heap) (va_A [(hM, .inr (2, (mO hnow hthen hpast kept htx ty th at_ fa htold tolds hac hal hre hse hpl many cost br hsy))), (hnow, .inl (g 0, 253, .inl (aI S))), (hpast, .inl (g 0, 1518, .inl (aI PA)))] sz)) 0 0 (va_A [(hM, .inr (2, (mO hnow hthen hpast kept htx ty th at_ fa htold tolds hac hal hre hse hpl many cost br hsy))), (hnow, .inl (g 0, 253, .inl (aI S))), (hpast, .inl (g 0, 1518, .inl (aI PA)))] sz) := by
  refine Met.at (by decide) (Nat.le_of_ble_eq_true rfl) ?_
  intro p e s m below meth c hx hb hr hlk hml hown hnm hts hB ls hl
  have hown : s.vm.findClass RX3 = some m.cls := hown
  obtain ⟨hsz, hP, hK, hD0, hEs⟩ := hB
  subst hsz
  have hD := hD0.self (sz := s.heap.size)
  generalize hAe : va_A [(hM, .inr (2, (mO hnow hthen hpast kept htx ty th at_ fa htold tolds hac hal hre hse hpl many cost br hsy))), (hnow, .inl (g 0, 253, .inl (aI S))), (hpast, .inl (g 0, 1518, .inl (aI PA)))] s.heap.size = A at hD ⊢
  have hA : ∀ q : Nat, s.heap.size ≤ q → A q := fun q h => by rw [← hAe]; exact Or.inr h
  have hS : va_S A s.heap s.heap [] := va_S.rf
  have hl : lv_has ls 4 [(0, .ref hM), (1, .int (iI one)), (2, .int (iI other)), (3, .int (iI w_))] := hl
  have m0 := may_0 (F := 0 ≤ w_ ∧ w_ ≤ 3) ht1 ht2 hne hys
  refine lv_aload_n hx hb dX3_walk_0 rfl (lv_at hl 0 rfl) ?_
  refine lv_aload_n hx hb dX3_walk_1 rfl (lv_at hl 0 rfl) ?_
  refine lv_iload_n hx hb dX3_walk_2 rfl (lv_at hl 1 rfl) ?_
  refine lv_iload_n hx hb dX3_walk_3 rfl (lv_at hl 2 rfl) ?_
  refine lv_iload_n hx hb dX3_walk_4 rfl (lv_at hl 3 rfl) ?_
  refine lv_iconst (v := iI 0) hx hb dX3_walk_5 rfl ?_
  refine lv_iconst (v := iI 3) hx hb dX3_walk_6 rfl ?_
  refine g_callS (As := [.int (iI w_), .int (iI 0), .int (iI 3)]) (rest := [.int (iI other), .int (iI one), .ref hM, .ref hM]) (m_X3_in l G g w_ 0 3 r_w_ ⟨by decide, by decide⟩ ⟨by decide, by decide⟩) hx hb hml hown hts Stab.tt hK hP hS hEs [] rfl q1518 q1519 q102 q1520 hd_X3_in rfl rfl ⟨Nat.le_of_ble_eq_true rfl, Nat.le_of_ble_eq_true rfl⟩ rfl hl rfl (Nat.le_of_ble_eq_true rfl) ⟨Nat.le_refl _, Nat.le_refl _⟩ dX3_walk_7 ?_
  refine g_callV (As := [.int (iI one), .int (iI other), .int (iI (qz (0 ≤ w_ ∧ w_ ≤ 3)))]) (rest := [.ref hM]) (m_X3_may l G g hM one other (0 ≤ w_ ∧ w_ ≤ 3) (mO hnow hthen hpast kept htx ty th at_ fa htold tolds hac hal hre hse hpl many cost br hsy) hnow S rfl r_one r_other kS) hx hb hml hown hts Stab.tt hK hP hS hEs [0, 1] rfl (q0 := 0) rfl rfl q1556 q1558 qs58 q102 q1559 hd_X3_may rfl rfl ⟨Nat.le_of_ble_eq_true rfl, Nat.le_of_ble_eq_true rfl⟩ rfl hl rfl (Nat.le_of_ble_eq_true rfl) ⟨Nat.le_refl _, Nat.le_refl _⟩ dX3_walk_10 ?_
  have w1 := may_rng S one other (0 ≤ w_ ∧ w_ ≤ 3)
  refine g_put (D := G) (ci := 2) (v := .int (iI (mayV S one other (0 ≤ w_ ∧ w_ ≤ 3)))) (ty := .int) (C := RX3) (T := TX3) (N := 20) (ws1 := [(hM, .inr (2, (mO hnow hthen hpast kept htx ty (mayV S one other (0 ≤ w_ ∧ w_ ≤ 3)) at_ fa htold tolds hac hal hre hse hpl many cost br hsy))), (hnow, .inl (g 0, 253, .inl (aI S))), (hpast, .inl (g 0, 1518, .inl (aI PA)))]) hx hb hts in_X3 tyX3 tyX3_ok nmX3 hown hK hP hD hS 0 rfl rfl 6 (by decide) (hts _ q1444) (fun _ h9 => h9) rfl (by decide +kernel) (rfl) (rfl) (Nat.le_of_ble_eq_true rfl) dX3_walk_13 rfl (fun H locs hP hS => ?_)
  have hD : va_D A [(hM, .inr (2, (mO hnow hthen hpast kept htx ty (mayV S one other (0 ≤ w_ ∧ w_ ≤ 3)) at_ fa htold tolds hac hal hre hse hpl many cost br hsy))), (hnow, .inl (g 0, 253, .inl (aI S))), (hpast, .inl (g 0, 1518, .inl (aI PA)))] := va_Dadr hD rfl
  refine lv_aload_n hx hb dX3_walk_16 rfl (lv_at hl 0 rfl) ?_
  refine va_get (D := G) (ci := 2) (v := .int (iI (mayV S one other (0 ≤ w_ ∧ w_ ≤ 3)))) (C := RX3) (T := TX3) (N := 20) hx hb hts in_X3 hown hK hP 0 rfl rfl 6 (by decide) (hts _ q1444) (fun _ h9 => h9) rfl dX3_walk_17 ?_
  refine g_if_eq (tgt := 25) hx hb dX3_walk_20 (by decide) ⟨by omega, by omega⟩ (fun c2 => ?_) (fun c2 => ?_)
  · refine lv_aload_n hx hb dX3_walk_25 rfl (lv_at hl 0 rfl) ?_
    refine g_callVwv (As := []) (rest := []) (m_X3_saves l G g H.size hM hnow hthen hpast kept htx ty (mayV S one other (0 ≤ w_ ∧ w_ ≤ 3)) at_ fa htold tolds hac hal hre hse hpl many cost br hsy S PA hkp) hx hb hml hown hts Stab.tt hA hK hP hD hS hEs [0, 1, 2] rfl rfl (fun _ => rfl) (q0 := 0) rfl rfl q1541 q1543 qs57 q102 q1544 hd_X3_saves rfl rfl ⟨Nat.le_of_ble_eq_true rfl, Nat.le_of_ble_eq_true rfl⟩ rfl hl rfl (Nat.le_of_ble_eq_true rfl) ⟨Nat.le_refl _, Nat.le_refl _⟩ dX3_walk_26 (fun u H locs hp hP hS => ?_)
    have hP : va_P G CL [(hM, .inr (2, (mO hnow hthen hpast (svK kept) htx ty (mayV S one other (0 ≤ w_ ∧ w_ ≤ 3)) at_ fa htold tolds hac hal hre hse hpl many cost br hsy))), (hnow, .inl (g 0, 253, .inl (aI S))), (hpast, .inl (g 0, 1518, .inl (aI (svP S PA kept))))] H := hP
    have hD : va_D A [(hM, .inr (2, (mO hnow hthen hpast (svK kept) htx ty (mayV S one other (0 ≤ w_ ∧ w_ ≤ 3)) at_ fa htold tolds hac hal hre hse hpl many cost br hsy))), (hnow, .inl (g 0, 253, .inl (aI S))), (hpast, .inl (g 0, 1518, .inl (aI (svP S PA kept))))] := va_Dadr hD rfl
    refine W.widen (k := 0) (n := 0) (Nat.le_refl _) (Nat.le_refl _) ?_
    refine lv_aload_n hx hb dX3_walk_29 rfl (lv_at hl 0 rfl) ?_
    refine lv_iload_n hx hb dX3_walk_30 rfl (lv_at hl 1 rfl) ?_
    refine lv_iload_n hx hb dX3_walk_31 rfl (lv_at hl 2 rfl) ?_
    refine lv_iload_n hx hb dX3_walk_32 rfl (lv_at hl 3 rfl) ?_
    refine g_callVwi (As := [.int (iI one), .int (iI other), .int (iI w_)]) (rest := []) (m_X3_walking l G g H.size hM one other w_ hnow hthen hpast (svK kept) htx ty (mayV S one other (0 ≤ w_ ∧ w_ ≤ 3)) at_ fa htold tolds hac hal hre hse hpl many cost br hsy S r_one r_other r_w_ kS (ht1.1) (ht2.1)) hx hb hml hown hts Stab.tt hA hK hP hD hS hEs [0, 1] rfl rfl (fun _ => rfl) (q0 := 0) rfl rfl q1560 q1562 qs59 q102 q1563 hd_X3_walking rfl rfl ⟨Nat.le_of_ble_eq_true rfl, Nat.le_of_ble_eq_true rfl⟩ rfl hl rfl (Nat.le_of_ble_eq_true rfl) ⟨Nat.le_refl _, Nat.le_refl _⟩ dX3_walk_33 (fun rr u H locs hp hP hS => ?_)
    have hrr : rr = (iI (S (216 + 6 * one + other))) := hp
    subst hrr
    have hP : va_P G CL [(hM, .inr (2, (mO hnow hthen hpast (svK kept) htx ty (mayV S one other (0 ≤ w_ ∧ w_ ≤ 3)) at_ fa htold tolds hac hal hre hse hpl many cost br hsy))), (hnow, .inl (g 0, 253, .inl (aI (wkS S one other w_)))), (hpast, .inl (g 0, 1518, .inl (aI (svP S PA kept))))] H := hP
    have hD : va_D A [(hM, .inr (2, (mO hnow hthen hpast (svK kept) htx ty (mayV S one other (0 ≤ w_ ∧ w_ ≤ 3)) at_ fa htold tolds hac hal hre hse hpl many cost br hsy))), (hnow, .inl (g 0, 253, .inl (aI (wkS S one other w_)))), (hpast, .inl (g 0, 1518, .inl (aI (svP S PA kept))))] := va_Dadr hD rfl
    refine W.widen (k := 0) (n := 0) (Nat.le_refl _) (Nat.le_refl _) ?_
    exact W.iret (v := (iI (S (216 + 6 * one + other)))) hx hb hr (fun t ht hW => ⟨⟨_, (), rfl, rfl, by rw [← ht] at hP; exact hP⟩, hS.F ht⟩) hS.2.2 dX3_walk_36 hlk
  · exact False.elim (by contradiction)
theorem hd_X3_dig : yX3_dig.cls = RX3 ∧ yX3_dig.cls ≠ "java/lang/invoke/MethodHandle" ∧ yX3_dig.cls ≠ "java/lang/invoke/VarHandle" ∧ (parseMethodDescriptor yX3_dig.desc).map (fun d => d.parameters.length) = some 2 := by decide +kernel
set_option maxHeartbeats 1000000 in
set_option maxRecDepth 100000 in
theorem m_X3_dig_1 (l : Launch) (G : va_G) (g : Nat → ClassId) (sz : Nat) (hM : Nat) (x : Int) (y : Int) (hnow : Nat) (hthen : Nat) (hpast : Nat) (kept : Int) (htx : Nat) (ty : Int) (th : Int) (at_ : Int) (fa : Prop) (htold : Nat) (tolds : Int) (hac : Nat) (hal : Nat) (hre : Nat) (hse : Nat) (hpl : Nat) (many : Int) (cost : Int) (br : Int) (hsy : Nat) (r_x : r32 x) (r_y : r32 y) (hno : ¬ isSq x y) : Met l yX3_dig (ws_ yX3_dig cX3_dig 3 (Option.some Jvm.ClassFile.FieldType.int)) ({ frames := 2, cells := 0, slots := 0, locals := 43 }) (va_Pc [.ref hM, .int (iI x), .int (iI y)] (wrB G CL (TY g) (fun _ => True) [(hM, .inr (2, (mO hnow hthen hpast kept htx ty th at_ fa htold tolds hac hal hre hse hpl many cost br hsy)))] sz)) (va_Qi (fun (r : Int32) (u : Unit) => r = (iI 0)) (fun (u : Unit) t => va_P G CL [(hM, .inr (2, (mO hnow hthen hpast kept htx ty 1 at_ fa htold tolds hac hal hre hse hpl many cost br hsy)))] t.heap) (va_A [(hM, .inr (2, (mO hnow hthen hpast kept htx ty th at_ fa htold tolds hac hal hre hse hpl many cost br hsy)))] sz)) 0 0 (va_A [(hM, .inr (2, (mO hnow hthen hpast kept htx ty th at_ fa htold tolds hac hal hre hse hpl many cost br hsy)))] sz) := by
  refine Met.at (by decide) (Nat.le_of_ble_eq_true rfl) ?_
  intro p e s m below meth c hx hb hr hlk hml hown hnm hts hB ls hl
  have hown : s.vm.findClass RX3 = some m.cls := hown
  obtain ⟨hsz, hP, hK, hD0, hEs⟩ := hB
  subst hsz
  have hD := hD0.self (sz := s.heap.size)
  generalize hAe : va_A [(hM, .inr (2, (mO hnow hthen hpast kept htx ty th at_ fa htold tolds hac hal hre hse hpl many cost br hsy)))] s.heap.size = A at hD ⊢
  have hA : ∀ q : Nat, s.heap.size ≤ q → A q := fun q h => by rw [← hAe]; exact Or.inr h
  have hS : va_S A s.heap s.heap [] := va_S.rf
  have hl : lv_has ls 3 [(0, .ref hM), (1, .int (iI x)), (2, .int (iI y))] := hl
  refine lv_aload_n hx hb dX3_dig_0 rfl (lv_at hl 0 rfl) ?_
  refine lv_iconst (v := iI 0) hx hb dX3_dig_1 rfl ?_
  refine g_put (D := G) (ci := 2) (v := .int (iI 0)) (ty := .int) (C := RX3) (T := TX3) (N := 20) (ws1 := [(hM, .inr (2, (mO hnow hthen hpast kept htx ty 0 at_ fa htold tolds hac hal hre hse hpl many cost br hsy)))]) hx hb hts in_X3 tyX3 tyX3_ok nmX3 hown hK hP hD hS 0 rfl rfl 6 (by decide) (hts _ q1444) (fun _ h9 => h9) rfl (by decide +kernel) (rfl) (rfl) (Nat.le_of_ble_eq_true rfl) dX3_dig_2 rfl (fun H locs hP hS => ?_)
  have hD : va_D A [(hM, .inr (2, (mO hnow hthen hpast kept htx ty 0 at_ fa htold tolds hac hal hre hse hpl many cost br hsy)))] := va_Dadr hD rfl
  refine lv_iload_n hx hb dX3_dig_5 rfl (lv_at hl 1 rfl) ?_
  refine lv_iload_n hx hb dX3_dig_6 rfl (lv_at hl 2 rfl) ?_
  refine g_callS (As := [.int (iI x), .int (iI y)]) (rest := []) (m_X3_isSquare l G g x y r_x r_y) hx hb hml hown hts Stab.tt hK hP hS hEs [] rfl q1538 q1539 q102 q1540 hd_X3_isSquare rfl rfl ⟨Nat.le_of_ble_eq_true rfl, Nat.le_of_ble_eq_true rfl⟩ rfl hl rfl (Nat.le_of_ble_eq_true rfl) ⟨Nat.le_refl _, Nat.le_refl _⟩ dX3_dig_7 ?_
  refine g_ifq_ne (tgt := 19) hx hb dX3_dig_10 (by decide) (fun c1 => ?_) (fun c1 => ?_)
  · exact False.elim (by contradiction)
  · refine lv_aload_n hx hb dX3_dig_13 rfl (lv_at hl 0 rfl) ?_
    refine lv_iconst (v := iI 1) hx hb dX3_dig_14 rfl ?_
    refine g_callVwi (As := [.int (iI 1)]) (rest := []) (m_X3_fails l G g H.size hM 1 hnow hthen hpast kept htx ty 0 at_ fa htold tolds hac hal hre hse hpl many cost br hsy ⟨by decide, by decide⟩) hx hb hml hown hts Stab.tt hA hK hP hD hS hEs [0] rfl rfl (fun _ => rfl) (q0 := 0) rfl rfl q1507 q1509 qs54 q102 q1510 hd_X3_fails rfl rfl ⟨Nat.le_of_ble_eq_true rfl, Nat.le_of_ble_eq_true rfl⟩ rfl hl rfl (Nat.le_of_ble_eq_true rfl) ⟨Nat.le_refl _, Nat.le_refl _⟩ dX3_dig_15 (fun rr u H locs hp hP hS => ?_)
    have hrr : rr = (iI 0) := hp
    subst hrr
    have hP : va_P G CL [(hM, .inr (2, (mO hnow hthen hpast kept htx ty 1 at_ fa htold tolds hac hal hre hse hpl many cost br hsy)))] H := hP
    have hD : va_D A [(hM, .inr (2, (mO hnow hthen hpast kept htx ty 1 at_ fa htold tolds hac hal hre hse hpl many cost br hsy)))] := va_Dadr hD rfl
    refine W.widen (k := 0) (n := 0) (Nat.le_refl _) (Nat.le_refl _) ?_
    exact W.iret (v := (iI 0)) hx hb hr (fun t ht hW => ⟨⟨_, (), rfl, rfl, by rw [← ht] at hP; exact hP⟩, hS.F ht⟩) hS.2.2 dX3_dig_18 hlk
set_option maxHeartbeats 1000000 in
set_option maxRecDepth 100000 in
theorem m_X3_dig_2 (l : Launch) (G : va_G) (g : Nat → ClassId) (sz : Nat) (hM : Nat) (x : Int) (y : Int) (hnow : Nat) (hthen : Nat) (hpast : Nat) (kept : Int) (htx : Nat) (ty : Int) (th : Int) (at_ : Int) (fa : Prop) (htold : Nat) (tolds : Int) (hac : Nat) (hal : Nat) (hre : Nat) (hse : Nat) (hpl : Nat) (many : Int) (cost : Int) (br : Int) (hsy : Nat) (S : Int → Int) (r_x : r32 x) (r_y : r32 y) (kS : rgS S) (hys : isSq x y) (hno : ¬ wh S x y < 0) : Met l yX3_dig (ws_ yX3_dig cX3_dig 3 (Option.some Jvm.ClassFile.FieldType.int)) ({ frames := 3, cells := 0, slots := 0, locals := 65 }) (va_Pc [.ref hM, .int (iI x), .int (iI y)] (wrB G CL (TY g) (fun _ => True) [(hM, .inr (2, (mO hnow hthen hpast kept htx ty th at_ fa htold tolds hac hal hre hse hpl many cost br hsy))), (hnow, .inl (g 0, 253, .inl (aI S)))] sz)) (va_Qi (fun (r : Int32) (u : Unit) => r = (iI 0)) (fun (u : Unit) t => va_P G CL [(hM, .inr (2, (mO hnow hthen hpast kept htx ty 2 at_ fa htold tolds hac hal hre hse hpl many cost br hsy))), (hnow, .inl (g 0, 253, .inl (aI S)))] t.heap) (va_A [(hM, .inr (2, (mO hnow hthen hpast kept htx ty th at_ fa htold tolds hac hal hre hse hpl many cost br hsy))), (hnow, .inl (g 0, 253, .inl (aI S)))] sz)) 0 0 (va_A [(hM, .inr (2, (mO hnow hthen hpast kept htx ty th at_ fa htold tolds hac hal hre hse hpl many cost br hsy))), (hnow, .inl (g 0, 253, .inl (aI S)))] sz) := by
  refine Met.at (by decide) (Nat.le_of_ble_eq_true rfl) ?_
  intro p e s m below meth c hx hb hr hlk hml hown hnm hts hB ls hl
  have hown : s.vm.findClass RX3 = some m.cls := hown
  obtain ⟨hsz, hP, hK, hD0, hEs⟩ := hB
  subst hsz
  have hD := hD0.self (sz := s.heap.size)
  generalize hAe : va_A [(hM, .inr (2, (mO hnow hthen hpast kept htx ty th at_ fa htold tolds hac hal hre hse hpl many cost br hsy))), (hnow, .inl (g 0, 253, .inl (aI S)))] s.heap.size = A at hD ⊢
  have hA : ∀ q : Nat, s.heap.size ≤ q → A q := fun q h => by rw [← hAe]; exact Or.inr h
  have hS : va_S A s.heap s.heap [] := va_S.rf
  have hl : lv_has ls 3 [(0, .ref hM), (1, .int (iI x)), (2, .int (iI y))] := hl
  refine lv_aload_n hx hb dX3_dig_0 rfl (lv_at hl 0 rfl) ?_
  refine lv_iconst (v := iI 0) hx hb dX3_dig_1 rfl ?_
  refine g_put (D := G) (ci := 2) (v := .int (iI 0)) (ty := .int) (C := RX3) (T := TX3) (N := 20) (ws1 := [(hM, .inr (2, (mO hnow hthen hpast kept htx ty 0 at_ fa htold tolds hac hal hre hse hpl many cost br hsy))), (hnow, .inl (g 0, 253, .inl (aI S)))]) hx hb hts in_X3 tyX3 tyX3_ok nmX3 hown hK hP hD hS 0 rfl rfl 6 (by decide) (hts _ q1444) (fun _ h9 => h9) rfl (by decide +kernel) (rfl) (rfl) (Nat.le_of_ble_eq_true rfl) dX3_dig_2 rfl (fun H locs hP hS => ?_)
  have hD : va_D A [(hM, .inr (2, (mO hnow hthen hpast kept htx ty 0 at_ fa htold tolds hac hal hre hse hpl many cost br hsy))), (hnow, .inl (g 0, 253, .inl (aI S)))] := va_Dadr hD rfl
  refine lv_iload_n hx hb dX3_dig_5 rfl (lv_at hl 1 rfl) ?_
  refine lv_iload_n hx hb dX3_dig_6 rfl (lv_at hl 2 rfl) ?_
  refine g_callS (As := [.int (iI x), .int (iI y)]) (rest := []) (m_X3_isSquare l G g x y r_x r_y) hx hb hml hown hts Stab.tt hK hP hS hEs [] rfl q1538 q1539 q102 q1540 hd_X3_isSquare rfl rfl ⟨Nat.le_of_ble_eq_true rfl, Nat.le_of_ble_eq_true rfl⟩ rfl hl rfl (Nat.le_of_ble_eq_true rfl) ⟨Nat.le_refl _, Nat.le_refl _⟩ dX3_dig_7 ?_
  refine g_ifq_ne (tgt := 19) hx hb dX3_dig_10 (by decide) (fun c1 => ?_) (fun c1 => ?_)
  · refine lv_aload_n hx hb dX3_dig_19 rfl (lv_at hl 0 rfl) ?_
    refine va_get (D := G) (ci := 2) (v := .ref hnow) (C := RX3) (T := TX3) (N := 20) hx hb hts in_X3 hown hK hP 0 rfl rfl 0 (by decide) (hts _ q1438) (fun _ h9 => h9) rfl dX3_dig_20 ?_
    refine lv_iload_n hx hb dX3_dig_23 rfl (lv_at hl 1 rfl) ?_
    refine lv_iload_n hx hb dX3_dig_24 rfl (lv_at hl 2 rfl) ?_
    refine g_callS (As := [.ref hnow, .int (iI x), .int (iI y)]) (rest := []) (m_X3_what l G g hnow x y S r_x r_y kS) hx hb hml hown hts Stab.tt hK hP hS hEs [1] rfl q1535 q1536 q102 q1537 hd_X3_what rfl rfl ⟨Nat.le_of_ble_eq_true rfl, Nat.le_of_ble_eq_true rfl⟩ rfl hl rfl (Nat.le_of_ble_eq_true rfl) ⟨Nat.le_refl _, Nat.le_refl _⟩ dX3_dig_25 ?_
    have w2 := wh_rng kS x y
    refine g_if_lt (tgt := 37) hx hb dX3_dig_28 (by decide) ⟨by omega, by omega⟩ (fun c3 => ?_) (fun c3 => ?_)
    · exact False.elim (by contradiction)
    · refine lv_aload_n hx hb dX3_dig_31 rfl (lv_at hl 0 rfl) ?_
      refine lv_iconst (v := iI 2) hx hb dX3_dig_32 rfl ?_
      refine g_callVwi (As := [.int (iI 2)]) (rest := []) (m_X3_fails l G g H.size hM 2 hnow hthen hpast kept htx ty 0 at_ fa htold tolds hac hal hre hse hpl many cost br hsy ⟨by decide, by decide⟩) hx hb hml hown hts Stab.tt hA hK hP hD hS hEs [0] rfl rfl (fun _ => rfl) (q0 := 0) rfl rfl q1507 q1509 qs54 q102 q1510 hd_X3_fails rfl rfl ⟨Nat.le_of_ble_eq_true rfl, Nat.le_of_ble_eq_true rfl⟩ rfl hl rfl (Nat.le_of_ble_eq_true rfl) ⟨Nat.le_refl _, Nat.le_refl _⟩ dX3_dig_33 (fun rr u H locs hp hP hS => ?_)
      have hrr : rr = (iI 0) := hp
      subst hrr
      have hP : va_P G CL [(hM, .inr (2, (mO hnow hthen hpast kept htx ty 2 at_ fa htold tolds hac hal hre hse hpl many cost br hsy))), (hnow, .inl (g 0, 253, .inl (aI S)))] H := hP
      have hD : va_D A [(hM, .inr (2, (mO hnow hthen hpast kept htx ty 2 at_ fa htold tolds hac hal hre hse hpl many cost br hsy))), (hnow, .inl (g 0, 253, .inl (aI S)))] := va_Dadr hD rfl
      refine W.widen (k := 0) (n := 0) (Nat.le_refl _) (Nat.le_refl _) ?_
      exact W.iret (v := (iI 0)) hx hb hr (fun t ht hW => ⟨⟨_, (), rfl, rfl, by rw [← ht] at hP; exact hP⟩, hS.F ht⟩) hS.2.2 dX3_dig_36 hlk
  · exact False.elim (by contradiction)
set_option maxHeartbeats 1000000 in
set_option maxRecDepth 100000 in
theorem m_X3_dig_0 (l : Launch) (G : va_G) (g : Nat → ClassId) (sz : Nat) (hM : Nat) (x : Int) (y : Int) (hnow : Nat) (hthen : Nat) (hpast : Nat) (kept : Int) (htx : Nat) (ty : Int) (th : Int) (at_ : Int) (fa : Prop) (htold : Nat) (tolds : Int) (hac : Nat) (hal : Nat) (hre : Nat) (hse : Nat) (hpl : Nat) (many : Int) (cost : Int) (br : Int) (hsy : Nat) (S : Int → Int) (PA : Int → Int) (r_x : r32 x) (r_y : r32 y) (kS : rgS S) (hkp : 0 ≤ kept ∧ kept ≤ 6) (hys : isSq x y) (hwh : wh S x y < 0) : Met l yX3_dig (ws_ yX3_dig cX3_dig 3 (Option.some Jvm.ClassFile.FieldType.int)) ({ frames := 3, cells := 0, slots := 0, locals := 65 }) (va_Pc [.ref hM, .int (iI x), .int (iI y)] (wrB G CL (TY g) (fun _ => True) [(hM, .inr (2, (mO hnow hthen hpast kept htx ty th at_ fa htold tolds hac hal hre hse hpl many cost br hsy))), (hnow, .inl (g 0, 253, .inl (aI S))), (hpast, .inl (g 0, 1518, .inl (aI PA)))] sz)) (va_Qi (fun (r : Int32) (u : Unit) => r = (iI (qz (wh (tgl S (16 * y + x)) x y = (-1))))) (fun (u : Unit) t => va_P G CL [(hM, .inr (2, (mO hnow hthen hpast (svK kept) htx ty 0 at_ fa htold tolds hac hal hre hse hpl many cost br hsy))), (hnow, .inl (g 0, 253, .inl (aI (tgl S (16 * y + x))))), (hpast, .inl (g 0, 1518, .inl (aI (svP S PA kept))))] t.heap) (va_A [(hM, .inr (2, (mO hnow hthen hpast kept htx ty th at_ fa htold tolds hac hal hre hse hpl many cost br hsy))), (hnow, .inl (g 0, 253, .inl (aI S))), (hpast, .inl (g 0, 1518, .inl (aI PA)))] sz)) 0 0 (va_A [(hM, .inr (2, (mO hnow hthen hpast kept htx ty th at_ fa htold tolds hac hal hre hse hpl many cost br hsy))), (hnow, .inl (g 0, 253, .inl (aI S))), (hpast, .inl (g 0, 1518, .inl (aI PA)))] sz) := by
  refine Met.at (by decide) (Nat.le_of_ble_eq_true rfl) ?_
  intro p e s m below meth c hx hb hr hlk hml hown hnm hts hB ls hl
  have hown : s.vm.findClass RX3 = some m.cls := hown
  obtain ⟨hsz, hP, hK, hD0, hEs⟩ := hB
  subst hsz
  have hD := hD0.self (sz := s.heap.size)
  generalize hAe : va_A [(hM, .inr (2, (mO hnow hthen hpast kept htx ty th at_ fa htold tolds hac hal hre hse hpl many cost br hsy))), (hnow, .inl (g 0, 253, .inl (aI S))), (hpast, .inl (g 0, 1518, .inl (aI PA)))] s.heap.size = A at hD ⊢
  have hA : ∀ q : Nat, s.heap.size ≤ q → A q := fun q h => by rw [← hAe]; exact Or.inr h
  have hS : va_S A s.heap s.heap [] := va_S.rf
  have hl : lv_has ls 3 [(0, .ref hM), (1, .int (iI x)), (2, .int (iI y))] := hl
  refine lv_aload_n hx hb dX3_dig_0 rfl (lv_at hl 0 rfl) ?_
  refine lv_iconst (v := iI 0) hx hb dX3_dig_1 rfl ?_
  refine g_put (D := G) (ci := 2) (v := .int (iI 0)) (ty := .int) (C := RX3) (T := TX3) (N := 20) (ws1 := [(hM, .inr (2, (mO hnow hthen hpast kept htx ty 0 at_ fa htold tolds hac hal hre hse hpl many cost br hsy))), (hnow, .inl (g 0, 253, .inl (aI S))), (hpast, .inl (g 0, 1518, .inl (aI PA)))]) hx hb hts in_X3 tyX3 tyX3_ok nmX3 hown hK hP hD hS 0 rfl rfl 6 (by decide) (hts _ q1444) (fun _ h9 => h9) rfl (by decide +kernel) (rfl) (rfl) (Nat.le_of_ble_eq_true rfl) dX3_dig_2 rfl (fun H locs hP hS => ?_)
  have hD : va_D A [(hM, .inr (2, (mO hnow hthen hpast kept htx ty 0 at_ fa htold tolds hac hal hre hse hpl many cost br hsy))), (hnow, .inl (g 0, 253, .inl (aI S))), (hpast, .inl (g 0, 1518, .inl (aI PA)))] := va_Dadr hD rfl
  refine lv_iload_n hx hb dX3_dig_5 rfl (lv_at hl 1 rfl) ?_
  refine lv_iload_n hx hb dX3_dig_6 rfl (lv_at hl 2 rfl) ?_
  refine g_callS (As := [.int (iI x), .int (iI y)]) (rest := []) (m_X3_isSquare l G g x y r_x r_y) hx hb hml hown hts Stab.tt hK hP hS hEs [] rfl q1538 q1539 q102 q1540 hd_X3_isSquare rfl rfl ⟨Nat.le_of_ble_eq_true rfl, Nat.le_of_ble_eq_true rfl⟩ rfl hl rfl (Nat.le_of_ble_eq_true rfl) ⟨Nat.le_refl _, Nat.le_refl _⟩ dX3_dig_7 ?_
  refine g_ifq_ne (tgt := 19) hx hb dX3_dig_10 (by decide) (fun c1 => ?_) (fun c1 => ?_)
  · refine lv_aload_n hx hb dX3_dig_19 rfl (lv_at hl 0 rfl) ?_
    refine va_get (D := G) (ci := 2) (v := .ref hnow) (C := RX3) (T := TX3) (N := 20) hx hb hts in_X3 hown hK hP 0 rfl rfl 0 (by decide) (hts _ q1438) (fun _ h9 => h9) rfl dX3_dig_20 ?_
    refine lv_iload_n hx hb dX3_dig_23 rfl (lv_at hl 1 rfl) ?_
    refine lv_iload_n hx hb dX3_dig_24 rfl (lv_at hl 2 rfl) ?_
    refine g_callS (As := [.ref hnow, .int (iI x), .int (iI y)]) (rest := []) (m_X3_what l G g hnow x y S r_x r_y kS) hx hb hml hown hts Stab.tt hK hP hS hEs [1] rfl q1535 q1536 q102 q1537 hd_X3_what rfl rfl ⟨Nat.le_of_ble_eq_true rfl, Nat.le_of_ble_eq_true rfl⟩ rfl hl rfl (Nat.le_of_ble_eq_true rfl) ⟨Nat.le_refl _, Nat.le_refl _⟩ dX3_dig_25 ?_
    have w2 := wh_rng kS x y
    refine g_if_lt (tgt := 37) hx hb dX3_dig_28 (by decide) ⟨by omega, by omega⟩ (fun c3 => ?_) (fun c3 => ?_)
    · refine lv_aload_n hx hb dX3_dig_37 rfl (lv_at hl 0 rfl) ?_
      refine g_callVwv (As := []) (rest := []) (m_X3_saves l G g H.size hM hnow hthen hpast kept htx ty 0 at_ fa htold tolds hac hal hre hse hpl many cost br hsy S PA hkp) hx hb hml hown hts Stab.tt hA hK hP hD hS hEs [0, 1, 2] rfl rfl (fun _ => rfl) (q0 := 0) rfl rfl q1541 q1543 qs57 q102 q1544 hd_X3_saves rfl rfl ⟨Nat.le_of_ble_eq_true rfl, Nat.le_of_ble_eq_true rfl⟩ rfl hl rfl (Nat.le_of_ble_eq_true rfl) ⟨Nat.le_refl _, Nat.le_refl _⟩ dX3_dig_38 (fun u H locs hp hP hS => ?_)
      have hP : va_P G CL [(hM, .inr (2, (mO hnow hthen hpast (svK kept) htx ty 0 at_ fa htold tolds hac hal hre hse hpl many cost br hsy))), (hnow, .inl (g 0, 253, .inl (aI S))), (hpast, .inl (g 0, 1518, .inl (aI (svP S PA kept))))] H := hP
      have hD : va_D A [(hM, .inr (2, (mO hnow hthen hpast (svK kept) htx ty 0 at_ fa htold tolds hac hal hre hse hpl many cost br hsy))), (hnow, .inl (g 0, 253, .inl (aI S))), (hpast, .inl (g 0, 1518, .inl (aI (svP S PA kept))))] := va_Dadr hD rfl
      refine W.widen (k := 0) (n := 0) (Nat.le_refl _) (Nat.le_refl _) ?_
      refine lv_aload_n hx hb dX3_dig_41 rfl (lv_at hl 0 rfl) ?_
      refine va_get (D := G) (ci := 2) (v := .ref hnow) (C := RX3) (T := TX3) (N := 20) hx hb hts in_X3 hown hK hP 0 rfl rfl 0 (by decide) (hts _ q1438) (fun _ h9 => h9) rfl dX3_dig_42 ?_
      refine lv_bipush (v := iI 16) hx hb dX3_dig_45 rfl ?_
      refine lv_iload_n hx hb dX3_dig_47 rfl (lv_at hl 2 rfl) ?_
      refine g_imul hx hb dX3_dig_48 ?_
      refine lv_iload_n hx hb dX3_dig_49 rfl (lv_at hl 1 rfl) ?_
      refine g_iadd hx hb dX3_dig_50 ?_
      refine g_callSwv (As := [.ref hnow, .int (iI ((16 * y) + x))]) (rest := []) (m_X3_toggles l G g H.size hnow ((16 * y) + x) S (⟨by omega, by omega⟩) kS (by omega)) hx hb hml hown hts Stab.tt hA hK hP hD hS hEs [1] rfl rfl (fun _ => rfl) q1571 q1572 q102 q1573 hd_X3_toggles rfl rfl ⟨Nat.le_of_ble_eq_true rfl, Nat.le_of_ble_eq_true rfl⟩ rfl hl rfl (Nat.le_of_ble_eq_true rfl) ⟨Nat.le_refl _, Nat.le_refl _⟩ dX3_dig_51 (fun u H locs hp hP hS => ?_)
      have hP : va_P G CL [(hM, .inr (2, (mO hnow hthen hpast (svK kept) htx ty 0 at_ fa htold tolds hac hal hre hse hpl many cost br hsy))), (hnow, .inl (g 0, 253, .inl (aI (tgl S ((16 * y) + x))))), (hpast, .inl (g 0, 1518, .inl (aI (svP S PA kept))))] H := hP
      have hD : va_D A [(hM, .inr (2, (mO hnow hthen hpast (svK kept) htx ty 0 at_ fa htold tolds hac hal hre hse hpl many cost br hsy))), (hnow, .inl (g 0, 253, .inl (aI (tgl S ((16 * y) + x))))), (hpast, .inl (g 0, 1518, .inl (aI (svP S PA kept))))] := va_Dadr hD rfl
      refine W.widen (k := 0) (n := 0) (Nat.le_refl _) (Nat.le_refl _) ?_
      have kS2 : rgS (tgl S (16 * y + x)) := rgS_tgl kS
      refine lv_aload_n hx hb dX3_dig_54 rfl (lv_at hl 0 rfl) ?_
      refine va_get (D := G) (ci := 2) (v := .ref hnow) (C := RX3) (T := TX3) (N := 20) hx hb hts in_X3 hown hK hP 0 rfl rfl 0 (by decide) (hts _ q1438) (fun _ h9 => h9) rfl dX3_dig_55 ?_
      refine lv_iload_n hx hb dX3_dig_58 rfl (lv_at hl 1 rfl) ?_
      refine lv_iload_n hx hb dX3_dig_59 rfl (lv_at hl 2 rfl) ?_
      refine g_callS (As := [.ref hnow, .int (iI x), .int (iI y)]) (rest := []) (m_X3_what l G g hnow x y (tgl S ((16 * y) + x)) r_x r_y kS2) hx hb hml hown hts Stab.tt hK hP hS hEs [1] rfl q1535 q1536 q102 q1537 hd_X3_what rfl rfl ⟨Nat.le_of_ble_eq_true rfl, Nat.le_of_ble_eq_true rfl⟩ rfl hl rfl (Nat.le_of_ble_eq_true rfl) ⟨Nat.le_refl _, Nat.le_refl _⟩ dX3_dig_60 ?_
      have w4 := wh_rng kS2 x y
      refine lv_iconst (v := iI (-1)) hx hb dX3_dig_63 rfl ?_
      have hJ5 : ∀ ls : Array Slot, lv_has ls 3 [(0, .ref hM), (1, .int (iI x)), (2, .int (iI y))] → W p l e ({ frames := 3, cells := 0, slots := 0, locals := 65 }) s m ([.ref hM, .int (iI x), .int (iI y)] : List Value).toArray below meth c H locs 0 0 (MQ below (va_Qi (fun (r : Int32) (u : Unit) => r = (iI (qz (wh (tgl S (16 * y + x)) x y = (-1))))) (fun (u : Unit) t => va_P G CL [(hM, .inr (2, (mO hnow hthen hpast (svK kept) htx ty 0 at_ fa htold tolds hac hal hre hse hpl many cost br hsy))), (hnow, .inl (g 0, 253, .inl (aI (tgl S (16 * y + x))))), (hpast, .inl (g 0, 1518, .inl (aI (svP S PA kept))))] t.heap) A) ([.ref hM, .int (iI x), .int (iI y)] : List Value).toArray s 0 0 A) (F0 m 72 ls [.int (iI (qz ((wh (tgl S ((16 * y) + x)) x y) = (-1))))]) := by
        intro ls hl
        exact W.iret (v := (iI (qz ((wh (tgl S ((16 * y) + x)) x y) = (-1))))) hx hb hr (fun t ht hW => ⟨⟨_, (), rfl, rfl, by rw [← ht] at hP; exact hP⟩, hS.F ht⟩) hS.2.2 dX3_dig_72 hlk
      refine g_icmp_ne (tgt := 71) hx hb dX3_dig_64 (by decide) ⟨⟨by omega, by omega⟩, ⟨by decide, by decide⟩⟩ (fun c6 => ?_) (fun c6 => ?_)
      · refine lv_iconst (v := iI 0) hx hb dX3_dig_71 rfl ?_
        refine g_eq (b := qz ((wh (tgl S ((16 * y) + x)) x y) = (-1))) (qz_f (fun xx => (c6 xx))).symm ?_
        exact hJ5 ls (lv_sub hl [0, 1, 2] rfl)
      · refine lv_iconst (v := iI 1) hx hb dX3_dig_67 rfl ?_
        refine lv_goto (tgt := 72) hx hb dX3_dig_68 (by decide) ?_
        refine g_eq (b := qz ((wh (tgl S ((16 * y) + x)) x y) = (-1))) (qz_t c6).symm ?_
        exact hJ5 ls (lv_sub hl [0, 1, 2] rfl)
    · exact False.elim (by contradiction)
  · exact False.elim (by contradiction)
theorem hd_X3_carve : yX3_carve.cls = RX3 ∧ yX3_carve.cls ≠ "java/lang/invoke/MethodHandle" ∧ yX3_carve.cls ≠ "java/lang/invoke/VarHandle" ∧ (parseMethodDescriptor yX3_carve.desc).map (fun d => d.parameters.length) = some 2 := by decide +kernel
set_option maxHeartbeats 1000000 in
set_option maxRecDepth 100000 in
theorem m_X3_carve_x (l : Launch) (G : va_G) (g : Nat → ClassId) (sz : Nat) (hM : Nat) (one : Int) (other : Int) (hnow : Nat) (hthen : Nat) (hpast : Nat) (kept : Int) (htx : Nat) (ty : Int) (th : Int) (at_ : Int) (fa : Prop) (htold : Nat) (tolds : Int) (hac : Nat) (hal : Nat) (hre : Nat) (hse : Nat) (hpl : Nat) (many : Int) (cost : Int) (br : Int) (hsy : Nat) (S : Int → Int) (r_one : r32 one) (r_other : r32 other) (kS : rgS S) (hno : ¬ mayV S one other True = 0) : Met l yX3_carve (ws_ yX3_carve cX3_carve 3 (Option.some Jvm.ClassFile.FieldType.int)) ({ frames := 3, cells := 0, slots := 0, locals := 66 }) (va_Pc [.ref hM, .int (iI one), .int (iI other)] (wrB G CL (TY g) (fun _ => True) [(hM, .inr (2, (mO hnow hthen hpast kept htx ty th at_ fa htold tolds hac hal hre hse hpl many cost br hsy))), (hnow, .inl (g 0, 253, .inl (aI S)))] sz)) (va_Qi (fun (r : Int32) (u : Unit) => r = (iI 0)) (fun (u : Unit) t => va_P G CL [(hM, .inr (2, (mO hnow hthen hpast kept htx ty (mayV S one other True) at_ fa htold tolds hac hal hre hse hpl many cost br hsy))), (hnow, .inl (g 0, 253, .inl (aI S)))] t.heap) (va_A [(hM, .inr (2, (mO hnow hthen hpast kept htx ty th at_ fa htold tolds hac hal hre hse hpl many cost br hsy))), (hnow, .inl (g 0, 253, .inl (aI S)))] sz)) 0 0 (va_A [(hM, .inr (2, (mO hnow hthen hpast kept htx ty th at_ fa htold tolds hac hal hre hse hpl many cost br hsy))), (hnow, .inl (g 0, 253, .inl (aI S)))] sz) := by
  refine Met.at (by decide) (Nat.le_of_ble_eq_true rfl) ?_
  intro p e s m below meth c hx hb hr hlk hml hown hnm hts hB ls hl
  have hown : s.vm.findClass RX3 = some m.cls := hown
  obtain ⟨hsz, hP, hK, hD0, hEs⟩ := hB
  subst hsz
  have hD := hD0.self (sz := s.heap.size)
  generalize hAe : va_A [(hM, .inr (2, (mO hnow hthen hpast kept htx ty th at_ fa htold tolds hac hal hre hse hpl many cost br hsy))), (hnow, .inl (g 0, 253, .inl (aI S)))] s.heap.size = A at hD ⊢
  have hA : ∀ q : Nat, s.heap.size ≤ q → A q := fun q h => by rw [← hAe]; exact Or.inr h
  have hS : va_S A s.heap s.heap [] := va_S.rf
  have hl : lv_has ls 3 [(0, .ref hM), (1, .int (iI one)), (2, .int (iI other))] := hl
  refine lv_aload_n hx hb dX3_carve_0 rfl (lv_at hl 0 rfl) ?_
  refine lv_aload_n hx hb dX3_carve_1 rfl (lv_at hl 0 rfl) ?_
  refine lv_iload_n hx hb dX3_carve_2 rfl (lv_at hl 1 rfl) ?_
  refine lv_iload_n hx hb dX3_carve_3 rfl (lv_at hl 2 rfl) ?_
  refine lv_iconst (v := iI 1) hx hb dX3_carve_4 rfl ?_
  refine W.eq (g2 := F0 m 5 ls [.int (iI (qz True)), .int (iI other), .int (iI one), .ref hM, .ref hM]) (by simp only [qz_T, qz_F]) ?_
  refine g_callV (As := [.int (iI one), .int (iI other), .int (iI (qz True))]) (rest := [.ref hM]) (m_X3_may l G g hM one other True (mO hnow hthen hpast kept htx ty th at_ fa htold tolds hac hal hre hse hpl many cost br hsy) hnow S rfl r_one r_other kS) hx hb hml hown hts Stab.tt hK hP hS hEs [0, 1] rfl (q0 := 0) rfl rfl q1556 q1558 qs58 q102 q1559 hd_X3_may rfl rfl ⟨Nat.le_of_ble_eq_true rfl, Nat.le_of_ble_eq_true rfl⟩ rfl hl rfl (Nat.le_of_ble_eq_true rfl) ⟨Nat.le_refl _, Nat.le_refl _⟩ dX3_carve_5 ?_
  have w1 := may_rng S one other True
  refine g_put (D := G) (ci := 2) (v := .int (iI (mayV S one other True))) (ty := .int) (C := RX3) (T := TX3) (N := 20) (ws1 := [(hM, .inr (2, (mO hnow hthen hpast kept htx ty (mayV S one other True) at_ fa htold tolds hac hal hre hse hpl many cost br hsy))), (hnow, .inl (g 0, 253, .inl (aI S)))]) hx hb hts in_X3 tyX3 tyX3_ok nmX3 hown hK hP hD hS 0 rfl rfl 6 (by decide) (hts _ q1444) (fun _ h9 => h9) rfl (by decide +kernel) (rfl) (rfl) (Nat.le_of_ble_eq_true rfl) dX3_carve_8 rfl (fun H locs hP hS => ?_)
  have hD : va_D A [(hM, .inr (2, (mO hnow hthen hpast kept htx ty (mayV S one other True) at_ fa htold tolds hac hal hre hse hpl many cost br hsy))), (hnow, .inl (g 0, 253, .inl (aI S)))] := va_Dadr hD rfl
  refine lv_aload_n hx hb dX3_carve_11 rfl (lv_at hl 0 rfl) ?_
  refine va_get (D := G) (ci := 2) (v := .int (iI (mayV S one other True))) (C := RX3) (T := TX3) (N := 20) hx hb hts in_X3 hown hK hP 0 rfl rfl 6 (by decide) (hts _ q1444) (fun _ h9 => h9) rfl dX3_carve_12 ?_
  refine g_if_eq (tgt := 20) hx hb dX3_carve_15 (by decide) ⟨by omega, by omega⟩ (fun c2 => ?_) (fun c2 => ?_)
  · exact False.elim (by contradiction)
  · refine lv_iconst (v := iI 0) hx hb dX3_carve_18 rfl ?_
    exact W.iret (v := (iI 0)) hx hb hr (fun t ht hW => ⟨⟨_, (), rfl, rfl, by rw [← ht] at hP; exact hP⟩, hS.F ht⟩) hS.2.2 dX3_carve_19 hlk
set_option maxHeartbeats 1000000 in
set_option maxRecDepth 100000 in
theorem m_X3_carve_3 (l : Launch) (G : va_G) (g : Nat → ClassId) (sz : Nat) (hM : Nat) (one : Int) (other : Int) (hnow : Nat) (hthen : Nat) (hpast : Nat) (kept : Int) (htx : Nat) (ty : Int) (th : Int) (at_ : Int) (fa : Prop) (htold : Nat) (tolds : Int) (hac : Nat) (hal : Nat) (hre : Nat) (hse : Nat) (hpl : Nat) (many : Int) (cost : Int) (br : Int) (hsy : Nat) (S : Int → Int) (RE : Int → Int) (SE : Int → Prop) (PL : Int → Int) (r_one : r32 one) (r_other : r32 other) (kS : rgS S) (kW : rgW S) (ht1 : isTh S one) (ht2 : isTh S other) (hne : ¬ one = other) (hno : ¬ wYes S one other) : Met l yX3_carve (ws_ yX3_carve cX3_carve 3 (Option.some Jvm.ClassFile.FieldType.int)) ({ frames := 7, cells := 0, slots := 0, locals := 167 }) (va_Pc [.ref hM, .int (iI one), .int (iI other)] (wrB G CL (TY g) (fun _ => True) [(hM, .inr (2, (mO hnow hthen hpast kept htx ty th at_ fa htold tolds hac hal hre hse hpl many cost br hsy))), (hnow, .inl (g 0, 253, .inl (aI S))), (hac, .inl (g 0, 4, .inl (aI dx))), (hal, .inl (g 0, 4, .inl (aI dy))), (hre, .inl (g 0, 192, .inl (aI RE))), (hse, .inl (g 1, 192, .inl (aP SE))), (hpl, .inl (g 0, 192, .inl (aI PL)))] sz)) (va_Qi (fun (r : Int32) (u : (Int → Int) × (Int → Prop) × (Int → Int) × Int × Int × Int) => r = (iI 0)) (fun (u : (Int → Int) × (Int → Prop) × (Int → Int) × Int × Int × Int) t => va_P G CL [(hM, .inr (2, (mO hnow hthen hpast kept htx ty 3 at_ fa htold tolds hac hal hre hse hpl u.2.2.2.1 u.2.2.2.2.1 u.2.2.2.2.2 hsy))), (hnow, .inl (g 0, 253, .inl (aI S))), (hac, .inl (g 0, 4, .inl (aI dx))), (hal, .inl (g 0, 4, .inl (aI dy))), (hre, .inl (g 0, 192, .inl (aI u.1))), (hse, .inl (g 1, 192, .inl (aP u.2.1))), (hpl, .inl (g 0, 192, .inl (aI u.2.2.1)))] t.heap) (va_A [(hM, .inr (2, (mO hnow hthen hpast kept htx ty th at_ fa htold tolds hac hal hre hse hpl many cost br hsy))), (hnow, .inl (g 0, 253, .inl (aI S))), (hac, .inl (g 0, 4, .inl (aI dx))), (hal, .inl (g 0, 4, .inl (aI dy))), (hre, .inl (g 0, 192, .inl (aI RE))), (hse, .inl (g 1, 192, .inl (aP SE))), (hpl, .inl (g 0, 192, .inl (aI PL)))] sz)) 0 0 (va_A [(hM, .inr (2, (mO hnow hthen hpast kept htx ty th at_ fa htold tolds hac hal hre hse hpl many cost br hsy))), (hnow, .inl (g 0, 253, .inl (aI S))), (hac, .inl (g 0, 4, .inl (aI dx))), (hal, .inl (g 0, 4, .inl (aI dy))), (hre, .inl (g 0, 192, .inl (aI RE))), (hse, .inl (g 1, 192, .inl (aP SE))), (hpl, .inl (g 0, 192, .inl (aI PL)))] sz) := by
  refine Met.at (by decide) (Nat.le_of_ble_eq_true rfl) ?_
  intro p e s m below meth c hx hb hr hlk hml hown hnm hts hB ls hl
  have hown : s.vm.findClass RX3 = some m.cls := hown
  obtain ⟨hsz, hP, hK, hD0, hEs⟩ := hB
  subst hsz
  have hD := hD0.self (sz := s.heap.size)
  generalize hAe : va_A [(hM, .inr (2, (mO hnow hthen hpast kept htx ty th at_ fa htold tolds hac hal hre hse hpl many cost br hsy))), (hnow, .inl (g 0, 253, .inl (aI S))), (hac, .inl (g 0, 4, .inl (aI dx))), (hal, .inl (g 0, 4, .inl (aI dy))), (hre, .inl (g 0, 192, .inl (aI RE))), (hse, .inl (g 1, 192, .inl (aP SE))), (hpl, .inl (g 0, 192, .inl (aI PL)))] s.heap.size = A at hD ⊢
  have hA : ∀ q : Nat, s.heap.size ≤ q → A q := fun q h => by rw [← hAe]; exact Or.inr h
  have hS : va_S A s.heap s.heap [] := va_S.rf
  have hl : lv_has ls 3 [(0, .ref hM), (1, .int (iI one)), (2, .int (iI other))] := hl
  have m0 := may_0 (F := True) ht1 ht2 hne trivial
  refine lv_aload_n hx hb dX3_carve_0 rfl (lv_at hl 0 rfl) ?_
  refine lv_aload_n hx hb dX3_carve_1 rfl (lv_at hl 0 rfl) ?_
  refine lv_iload_n hx hb dX3_carve_2 rfl (lv_at hl 1 rfl) ?_
  refine lv_iload_n hx hb dX3_carve_3 rfl (lv_at hl 2 rfl) ?_
  refine lv_iconst (v := iI 1) hx hb dX3_carve_4 rfl ?_
  refine W.eq (g2 := F0 m 5 ls [.int (iI (qz True)), .int (iI other), .int (iI one), .ref hM, .ref hM]) (by simp only [qz_T, qz_F]) ?_
  refine g_callV (As := [.int (iI one), .int (iI other), .int (iI (qz True))]) (rest := [.ref hM]) (m_X3_may l G g hM one other True (mO hnow hthen hpast kept htx ty th at_ fa htold tolds hac hal hre hse hpl many cost br hsy) hnow S rfl r_one r_other kS) hx hb hml hown hts Stab.tt hK hP hS hEs [0, 1] rfl (q0 := 0) rfl rfl q1556 q1558 qs58 q102 q1559 hd_X3_may rfl rfl ⟨Nat.le_of_ble_eq_true rfl, Nat.le_of_ble_eq_true rfl⟩ rfl hl rfl (Nat.le_of_ble_eq_true rfl) ⟨Nat.le_refl _, Nat.le_refl _⟩ dX3_carve_5 ?_
  have w1 := may_rng S one other True
  refine g_put (D := G) (ci := 2) (v := .int (iI (mayV S one other True))) (ty := .int) (C := RX3) (T := TX3) (N := 20) (ws1 := [(hM, .inr (2, (mO hnow hthen hpast kept htx ty (mayV S one other True) at_ fa htold tolds hac hal hre hse hpl many cost br hsy))), (hnow, .inl (g 0, 253, .inl (aI S))), (hac, .inl (g 0, 4, .inl (aI dx))), (hal, .inl (g 0, 4, .inl (aI dy))), (hre, .inl (g 0, 192, .inl (aI RE))), (hse, .inl (g 1, 192, .inl (aP SE))), (hpl, .inl (g 0, 192, .inl (aI PL)))]) hx hb hts in_X3 tyX3 tyX3_ok nmX3 hown hK hP hD hS 0 rfl rfl 6 (by decide) (hts _ q1444) (fun _ h9 => h9) rfl (by decide +kernel) (rfl) (rfl) (Nat.le_of_ble_eq_true rfl) dX3_carve_8 rfl (fun H locs hP hS => ?_)
  have hD : va_D A [(hM, .inr (2, (mO hnow hthen hpast kept htx ty (mayV S one other True) at_ fa htold tolds hac hal hre hse hpl many cost br hsy))), (hnow, .inl (g 0, 253, .inl (aI S))), (hac, .inl (g 0, 4, .inl (aI dx))), (hal, .inl (g 0, 4, .inl (aI dy))), (hre, .inl (g 0, 192, .inl (aI RE))), (hse, .inl (g 1, 192, .inl (aP SE))), (hpl, .inl (g 0, 192, .inl (aI PL)))] := va_Dadr hD rfl
  refine lv_aload_n hx hb dX3_carve_11 rfl (lv_at hl 0 rfl) ?_
  refine va_get (D := G) (ci := 2) (v := .int (iI (mayV S one other True))) (C := RX3) (T := TX3) (N := 20) hx hb hts in_X3 hown hK hP 0 rfl rfl 6 (by decide) (hts _ q1444) (fun _ h9 => h9) rfl dX3_carve_12 ?_
  refine g_if_eq (tgt := 20) hx hb dX3_carve_15 (by decide) ⟨by omega, by omega⟩ (fun c2 => ?_) (fun c2 => ?_)
  · refine lv_aload_n hx hb dX3_carve_20 rfl (lv_at hl 0 rfl) ?_
    refine lv_aload_n hx hb dX3_carve_21 rfl (lv_at hl 0 rfl) ?_
    refine va_get (D := G) (ci := 2) (v := .ref hnow) (C := RX3) (T := TX3) (N := 20) hx hb hts in_X3 hown hK hP 0 rfl rfl 0 (by decide) (hts _ q1438) (fun _ h9 => h9) rfl dX3_carve_22 ?_
    refine lv_iload_n hx hb dX3_carve_25 rfl (lv_at hl 1 rfl) ?_
    refine lv_iload_n hx hb dX3_carve_26 rfl (lv_at hl 2 rfl) ?_
    refine g_callVwi (As := [.ref hnow, .int (iI one), .int (iI other)]) (rest := []) (m_X3_isWay l G g H.size hM hnow one other hnow hthen hpast kept htx ty (mayV S one other True) at_ fa htold tolds hac hal hre hse hpl many cost br hsy S RE SE PL r_one r_other kS kW (ht1.1) (ht2.1)) hx hb hml hown hts Stab.tt hA hK hP hD hS hEs [0, 1, 2, 3, 4, 5, 6] rfl rfl (fun _ => rfl) (q0 := 0) rfl rfl q1578 q1580 qs60 q102 q1581 hd_X3_isWay rfl rfl ⟨Nat.le_of_ble_eq_true rfl, Nat.le_of_ble_eq_true rfl⟩ rfl hl rfl (Nat.le_of_ble_eq_true rfl) ⟨Nat.le_refl _, Nat.le_refl _⟩ dX3_carve_27 (fun rr u H locs hp hP hS => ?_)
    obtain ⟨RE1_3, SE1_4, PL1_5⟩ := u
    obtain ⟨hrr, wpl_6, dsx_7⟩ : rr = (iI (qz (¬ wB S (brW S one other) one other = -1))) ∧ (∀ j9 : Nat, (j9 : Int) < wL S (brW S one other) one other → PL1_5 (j9 : Int) = wP S (brW S one other) one other j9) ∧ (isDist S (brW S one other) other (dsF S (brW S one other) other)) := hp
    subst hrr
    have hP : va_P G CL [(hM, .inr (2, (mO hnow hthen hpast kept htx ty (mayV S one other True) at_ fa htold tolds hac hal hre hse hpl (wL S (brW S one other) one other) (wC S (brW S one other) one other) (brW S one other) hsy))), (hnow, .inl (g 0, 253, .inl (aI S))), (hac, .inl (g 0, 4, .inl (aI dx))), (hal, .inl (g 0, 4, .inl (aI dy))), (hre, .inl (g 0, 192, .inl (aI RE1_3))), (hse, .inl (g 1, 192, .inl (aP SE1_4))), (hpl, .inl (g 0, 192, .inl (aI PL1_5)))] H := hP
    have hD : va_D A [(hM, .inr (2, (mO hnow hthen hpast kept htx ty (mayV S one other True) at_ fa htold tolds hac hal hre hse hpl (wL S (brW S one other) one other) (wC S (brW S one other) one other) (brW S one other) hsy))), (hnow, .inl (g 0, 253, .inl (aI S))), (hac, .inl (g 0, 4, .inl (aI dx))), (hal, .inl (g 0, 4, .inl (aI dy))), (hre, .inl (g 0, 192, .inl (aI RE1_3))), (hse, .inl (g 1, 192, .inl (aP SE1_4))), (hpl, .inl (g 0, 192, .inl (aI PL1_5)))] := va_Dadr hD rfl
    refine W.widen (k := 0) (n := 0) (Nat.le_refl _) (Nat.le_refl _) ?_
    refine g_ifq_ne (tgt := 39) hx hb dX3_carve_30 (by decide) (fun c8 => ?_) (fun c8 => ?_)
    · exact False.elim (by contradiction)
    · refine lv_aload_n hx hb dX3_carve_33 rfl (lv_at hl 0 rfl) ?_
      refine lv_iconst (v := iI 3) hx hb dX3_carve_34 rfl ?_
      refine g_callVwi (As := [.int (iI 3)]) (rest := []) (m_X3_fails l G g H.size hM 3 hnow hthen hpast kept htx ty (mayV S one other True) at_ fa htold tolds hac hal hre hse hpl (wL S (brW S one other) one other) (wC S (brW S one other) one other) (brW S one other) hsy ⟨by decide, by decide⟩) hx hb hml hown hts Stab.tt hA hK hP hD hS hEs [0] rfl rfl (fun _ => rfl) (q0 := 0) rfl rfl q1507 q1509 qs54 q102 q1510 hd_X3_fails rfl rfl ⟨Nat.le_of_ble_eq_true rfl, Nat.le_of_ble_eq_true rfl⟩ rfl hl rfl (Nat.le_of_ble_eq_true rfl) ⟨Nat.le_refl _, Nat.le_refl _⟩ dX3_carve_35 (fun rr u H locs hp hP hS => ?_)
      have hrr : rr = (iI 0) := hp
      subst hrr
      have hP : va_P G CL [(hM, .inr (2, (mO hnow hthen hpast kept htx ty 3 at_ fa htold tolds hac hal hre hse hpl (wL S (brW S one other) one other) (wC S (brW S one other) one other) (brW S one other) hsy))), (hnow, .inl (g 0, 253, .inl (aI S))), (hac, .inl (g 0, 4, .inl (aI dx))), (hal, .inl (g 0, 4, .inl (aI dy))), (hre, .inl (g 0, 192, .inl (aI RE1_3))), (hse, .inl (g 1, 192, .inl (aP SE1_4))), (hpl, .inl (g 0, 192, .inl (aI PL1_5)))] H := hP
      have hD : va_D A [(hM, .inr (2, (mO hnow hthen hpast kept htx ty 3 at_ fa htold tolds hac hal hre hse hpl (wL S (brW S one other) one other) (wC S (brW S one other) one other) (brW S one other) hsy))), (hnow, .inl (g 0, 253, .inl (aI S))), (hac, .inl (g 0, 4, .inl (aI dx))), (hal, .inl (g 0, 4, .inl (aI dy))), (hre, .inl (g 0, 192, .inl (aI RE1_3))), (hse, .inl (g 1, 192, .inl (aP SE1_4))), (hpl, .inl (g 0, 192, .inl (aI PL1_5)))] := va_Dadr hD rfl
      refine W.widen (k := 0) (n := 0) (Nat.le_refl _) (Nat.le_refl _) ?_
      exact W.iret (v := (iI 0)) hx hb hr (fun t ht hW => ⟨⟨_, (RE1_3, SE1_4, PL1_5, (wL S (brW S one other) one other), (wC S (brW S one other) one other), (brW S one other)), rfl, rfl, by rw [← ht] at hP; exact hP⟩, hS.F ht⟩) hS.2.2 dX3_carve_38 hlk
  · exact False.elim (by contradiction)
set_option maxHeartbeats 1000000 in
set_option maxRecDepth 100000 in
theorem m_X3_carve_0 (l : Launch) (G : va_G) (g : Nat → ClassId) (sz : Nat) (hM : Nat) (one : Int) (other : Int) (hnow : Nat) (hthen : Nat) (hpast : Nat) (kept : Int) (htx : Nat) (ty : Int) (th : Int) (at_ : Int) (fa : Prop) (htold : Nat) (tolds : Int) (hac : Nat) (hal : Nat) (hre : Nat) (hse : Nat) (hpl : Nat) (many : Int) (cost : Int) (br : Int) (hsy : Nat) (S : Int → Int) (PA : Int → Int) (RE : Int → Int) (SE : Int → Prop) (PL : Int → Int) (r_one : r32 one) (r_other : r32 other) (kS : rgS S) (kW : rgW S) (hkp : 0 ≤ kept ∧ kept ≤ 6) (ht1 : isTh S one) (ht2 : isTh S other) (hne : ¬ one = other) (hys : wYes S one other) : Met l yX3_carve (ws_ yX3_carve cX3_carve 3 (Option.some Jvm.ClassFile.FieldType.int)) ({ frames := 7, cells := 0, slots := 0, locals := 167 }) (va_Pc [.ref hM, .int (iI one), .int (iI other)] (wrB G CL (TY g) (fun _ => True) [(hM, .inr (2, (mO hnow hthen hpast kept htx ty th at_ fa htold tolds hac hal hre hse hpl many cost br hsy))), (hnow, .inl (g 0, 253, .inl (aI S))), (hpast, .inl (g 0, 1518, .inl (aI PA))), (hac, .inl (g 0, 4, .inl (aI dx))), (hal, .inl (g 0, 4, .inl (aI dy))), (hre, .inl (g 0, 192, .inl (aI RE))), (hse, .inl (g 1, 192, .inl (aP SE))), (hpl, .inl (g 0, 192, .inl (aI PL)))] sz)) (va_Qi (fun (r : Int32) (u : (Int → Int) × (Int → Prop) × (Int → Int) × Int × Int × Int) => r = (iI (dgN S (brW S one other) one other))) (fun (u : (Int → Int) × (Int → Prop) × (Int → Int) × Int × Int × Int) t => va_P G CL [(hM, .inr (2, (mO hnow hthen hpast (svK kept) htx ty (mayV S one other True) at_ fa htold tolds hac hal hre hse hpl u.2.2.2.1 u.2.2.2.2.1 u.2.2.2.2.2 hsy))), (hnow, .inl (g 0, 253, .inl (aI (dgS S (brW S one other) one other)))), (hpast, .inl (g 0, 1518, .inl (aI (svP S PA kept)))), (hac, .inl (g 0, 4, .inl (aI dx))), (hal, .inl (g 0, 4, .inl (aI dy))), (hre, .inl (g 0, 192, .inl (aI u.1))), (hse, .inl (g 1, 192, .inl (aP u.2.1))), (hpl, .inl (g 0, 192, .inl (aI u.2.2.1)))] t.heap) (va_A [(hM, .inr (2, (mO hnow hthen hpast kept htx ty th at_ fa htold tolds hac hal hre hse hpl many cost br hsy))), (hnow, .inl (g 0, 253, .inl (aI S))), (hpast, .inl (g 0, 1518, .inl (aI PA))), (hac, .inl (g 0, 4, .inl (aI dx))), (hal, .inl (g 0, 4, .inl (aI dy))), (hre, .inl (g 0, 192, .inl (aI RE))), (hse, .inl (g 1, 192, .inl (aP SE))), (hpl, .inl (g 0, 192, .inl (aI PL)))] sz)) 0 0 (va_A [(hM, .inr (2, (mO hnow hthen hpast kept htx ty th at_ fa htold tolds hac hal hre hse hpl many cost br hsy))), (hnow, .inl (g 0, 253, .inl (aI S))), (hpast, .inl (g 0, 1518, .inl (aI PA))), (hac, .inl (g 0, 4, .inl (aI dx))), (hal, .inl (g 0, 4, .inl (aI dy))), (hre, .inl (g 0, 192, .inl (aI RE))), (hse, .inl (g 1, 192, .inl (aP SE))), (hpl, .inl (g 0, 192, .inl (aI PL)))] sz) := by
  refine Met.at (by decide) (Nat.le_of_ble_eq_true rfl) ?_
  intro p e s m below meth c hx hb hr hlk hml hown hnm hts hB ls hl
  have hown : s.vm.findClass RX3 = some m.cls := hown
  obtain ⟨hsz, hP, hK, hD0, hEs⟩ := hB
  subst hsz
  have hD := hD0.self (sz := s.heap.size)
  generalize hAe : va_A [(hM, .inr (2, (mO hnow hthen hpast kept htx ty th at_ fa htold tolds hac hal hre hse hpl many cost br hsy))), (hnow, .inl (g 0, 253, .inl (aI S))), (hpast, .inl (g 0, 1518, .inl (aI PA))), (hac, .inl (g 0, 4, .inl (aI dx))), (hal, .inl (g 0, 4, .inl (aI dy))), (hre, .inl (g 0, 192, .inl (aI RE))), (hse, .inl (g 1, 192, .inl (aP SE))), (hpl, .inl (g 0, 192, .inl (aI PL)))] s.heap.size = A at hD ⊢
  have hA : ∀ q : Nat, s.heap.size ≤ q → A q := fun q h => by rw [← hAe]; exact Or.inr h
  have hS : va_S A s.heap s.heap [] := va_S.rf
  have hl : lv_has ls 3 [(0, .ref hM), (1, .int (iI one)), (2, .int (iI other))] := hl
  have m0 := may_0 (F := True) ht1 ht2 hne trivial
  have hbw := brW_rng kW ht1.1 ht2.1
  refine lv_aload_n hx hb dX3_carve_0 rfl (lv_at hl 0 rfl) ?_
  refine lv_aload_n hx hb dX3_carve_1 rfl (lv_at hl 0 rfl) ?_
  refine lv_iload_n hx hb dX3_carve_2 rfl (lv_at hl 1 rfl) ?_
  refine lv_iload_n hx hb dX3_carve_3 rfl (lv_at hl 2 rfl) ?_
  refine lv_iconst (v := iI 1) hx hb dX3_carve_4 rfl ?_
  refine W.eq (g2 := F0 m 5 ls [.int (iI (qz True)), .int (iI other), .int (iI one), .ref hM, .ref hM]) (by simp only [qz_T, qz_F]) ?_
  refine g_callV (As := [.int (iI one), .int (iI other), .int (iI (qz True))]) (rest := [.ref hM]) (m_X3_may l G g hM one other True (mO hnow hthen hpast kept htx ty th at_ fa htold tolds hac hal hre hse hpl many cost br hsy) hnow S rfl r_one r_other kS) hx hb hml hown hts Stab.tt hK hP hS hEs [0, 1] rfl (q0 := 0) rfl rfl q1556 q1558 qs58 q102 q1559 hd_X3_may rfl rfl ⟨Nat.le_of_ble_eq_true rfl, Nat.le_of_ble_eq_true rfl⟩ rfl hl rfl (Nat.le_of_ble_eq_true rfl) ⟨Nat.le_refl _, Nat.le_refl _⟩ dX3_carve_5 ?_
  have w1 := may_rng S one other True
  refine g_put (D := G) (ci := 2) (v := .int (iI (mayV S one other True))) (ty := .int) (C := RX3) (T := TX3) (N := 20) (ws1 := [(hM, .inr (2, (mO hnow hthen hpast kept htx ty (mayV S one other True) at_ fa htold tolds hac hal hre hse hpl many cost br hsy))), (hnow, .inl (g 0, 253, .inl (aI S))), (hpast, .inl (g 0, 1518, .inl (aI PA))), (hac, .inl (g 0, 4, .inl (aI dx))), (hal, .inl (g 0, 4, .inl (aI dy))), (hre, .inl (g 0, 192, .inl (aI RE))), (hse, .inl (g 1, 192, .inl (aP SE))), (hpl, .inl (g 0, 192, .inl (aI PL)))]) hx hb hts in_X3 tyX3 tyX3_ok nmX3 hown hK hP hD hS 0 rfl rfl 6 (by decide) (hts _ q1444) (fun _ h9 => h9) rfl (by decide +kernel) (rfl) (rfl) (Nat.le_of_ble_eq_true rfl) dX3_carve_8 rfl (fun H locs hP hS => ?_)
  have hD : va_D A [(hM, .inr (2, (mO hnow hthen hpast kept htx ty (mayV S one other True) at_ fa htold tolds hac hal hre hse hpl many cost br hsy))), (hnow, .inl (g 0, 253, .inl (aI S))), (hpast, .inl (g 0, 1518, .inl (aI PA))), (hac, .inl (g 0, 4, .inl (aI dx))), (hal, .inl (g 0, 4, .inl (aI dy))), (hre, .inl (g 0, 192, .inl (aI RE))), (hse, .inl (g 1, 192, .inl (aP SE))), (hpl, .inl (g 0, 192, .inl (aI PL)))] := va_Dadr hD rfl
  refine lv_aload_n hx hb dX3_carve_11 rfl (lv_at hl 0 rfl) ?_
  refine va_get (D := G) (ci := 2) (v := .int (iI (mayV S one other True))) (C := RX3) (T := TX3) (N := 20) hx hb hts in_X3 hown hK hP 0 rfl rfl 6 (by decide) (hts _ q1444) (fun _ h9 => h9) rfl dX3_carve_12 ?_
  refine g_if_eq (tgt := 20) hx hb dX3_carve_15 (by decide) ⟨by omega, by omega⟩ (fun c2 => ?_) (fun c2 => ?_)
  · refine lv_aload_n hx hb dX3_carve_20 rfl (lv_at hl 0 rfl) ?_
    refine lv_aload_n hx hb dX3_carve_21 rfl (lv_at hl 0 rfl) ?_
    refine va_get (D := G) (ci := 2) (v := .ref hnow) (C := RX3) (T := TX3) (N := 20) hx hb hts in_X3 hown hK hP 0 rfl rfl 0 (by decide) (hts _ q1438) (fun _ h9 => h9) rfl dX3_carve_22 ?_
    refine lv_iload_n hx hb dX3_carve_25 rfl (lv_at hl 1 rfl) ?_
    refine lv_iload_n hx hb dX3_carve_26 rfl (lv_at hl 2 rfl) ?_
    refine g_callVwi (As := [.ref hnow, .int (iI one), .int (iI other)]) (rest := []) (m_X3_isWay l G g H.size hM hnow one other hnow hthen hpast kept htx ty (mayV S one other True) at_ fa htold tolds hac hal hre hse hpl many cost br hsy S RE SE PL r_one r_other kS kW (ht1.1) (ht2.1)) hx hb hml hown hts Stab.tt hA hK hP hD hS hEs [0, 1, 3, 4, 5, 6, 7] rfl rfl (fun _ => rfl) (q0 := 0) rfl rfl q1578 q1580 qs60 q102 q1581 hd_X3_isWay rfl rfl ⟨Nat.le_of_ble_eq_true rfl, Nat.le_of_ble_eq_true rfl⟩ rfl hl rfl (Nat.le_of_ble_eq_true rfl) ⟨Nat.le_refl _, Nat.le_refl _⟩ dX3_carve_27 (fun rr u H locs hp hP hS => ?_)
    obtain ⟨RE1_3, SE1_4, PL1_5⟩ := u
    obtain ⟨hrr, wpl, dsx⟩ : rr = (iI (qz (¬ wB S (brW S one other) one other = -1))) ∧ (∀ j9 : Nat, (j9 : Int) < wL S (brW S one other) one other → PL1_5 (j9 : Int) = wP S (brW S one other) one other j9) ∧ (isDist S (brW S one other) other (dsF S (brW S one other) other)) := hp
    subst hrr
    have hP : va_P G CL [(hM, .inr (2, (mO hnow hthen hpast kept htx ty (mayV S one other True) at_ fa htold tolds hac hal hre hse hpl (wL S (brW S one other) one other) (wC S (brW S one other) one other) (brW S one other) hsy))), (hnow, .inl (g 0, 253, .inl (aI S))), (hpast, .inl (g 0, 1518, .inl (aI PA))), (hac, .inl (g 0, 4, .inl (aI dx))), (hal, .inl (g 0, 4, .inl (aI dy))), (hre, .inl (g 0, 192, .inl (aI RE1_3))), (hse, .inl (g 1, 192, .inl (aP SE1_4))), (hpl, .inl (g 0, 192, .inl (aI PL1_5)))] H := hP
    have hD : va_D A [(hM, .inr (2, (mO hnow hthen hpast kept htx ty (mayV S one other True) at_ fa htold tolds hac hal hre hse hpl (wL S (brW S one other) one other) (wC S (brW S one other) one other) (brW S one other) hsy))), (hnow, .inl (g 0, 253, .inl (aI S))), (hpast, .inl (g 0, 1518, .inl (aI PA))), (hac, .inl (g 0, 4, .inl (aI dx))), (hal, .inl (g 0, 4, .inl (aI dy))), (hre, .inl (g 0, 192, .inl (aI RE1_3))), (hse, .inl (g 1, 192, .inl (aP SE1_4))), (hpl, .inl (g 0, 192, .inl (aI PL1_5)))] := va_Dadr hD rfl
    refine W.widen (k := 0) (n := 0) (Nat.le_refl _) (Nat.le_refl _) ?_
    refine g_ifq_ne (tgt := 39) hx hb dX3_carve_30 (by decide) (fun c6 => ?_) (fun c6 => ?_)
    · refine lv_aload_n hx hb dX3_carve_39 rfl (lv_at hl 0 rfl) ?_
      refine g_callVwv (As := []) (rest := []) (m_X3_saves l G g H.size hM hnow hthen hpast kept htx ty (mayV S one other True) at_ fa htold tolds hac hal hre hse hpl (wL S (brW S one other) one other) (wC S (brW S one other) one other) (brW S one other) hsy S PA hkp) hx hb hml hown hts Stab.tt hA hK hP hD hS hEs [0, 1, 2] rfl rfl (fun _ => rfl) (q0 := 0) rfl rfl q1541 q1543 qs57 q102 q1544 hd_X3_saves rfl rfl ⟨Nat.le_of_ble_eq_true rfl, Nat.le_of_ble_eq_true rfl⟩ rfl hl rfl (Nat.le_of_ble_eq_true rfl) ⟨Nat.le_refl _, Nat.le_refl _⟩ dX3_carve_40 (fun u H locs hp hP hS => ?_)
      have hP : va_P G CL [(hM, .inr (2, (mO hnow hthen hpast (svK kept) htx ty (mayV S one other True) at_ fa htold tolds hac hal hre hse hpl (wL S (brW S one other) one other) (wC S (brW S one other) one other) (brW S one other) hsy))), (hnow, .inl (g 0, 253, .inl (aI S))), (hpast, .inl (g 0, 1518, .inl (aI (svP S PA kept)))), (hac, .inl (g 0, 4, .inl (aI dx))), (hal, .inl (g 0, 4, .inl (aI dy))), (hre, .inl (g 0, 192, .inl (aI RE1_3))), (hse, .inl (g 1, 192, .inl (aP SE1_4))), (hpl, .inl (g 0, 192, .inl (aI PL1_5)))] H := hP
      have hD : va_D A [(hM, .inr (2, (mO hnow hthen hpast (svK kept) htx ty (mayV S one other True) at_ fa htold tolds hac hal hre hse hpl (wL S (brW S one other) one other) (wC S (brW S one other) one other) (brW S one other) hsy))), (hnow, .inl (g 0, 253, .inl (aI S))), (hpast, .inl (g 0, 1518, .inl (aI (svP S PA kept)))), (hac, .inl (g 0, 4, .inl (aI dx))), (hal, .inl (g 0, 4, .inl (aI dy))), (hre, .inl (g 0, 192, .inl (aI RE1_3))), (hse, .inl (g 1, 192, .inl (aP SE1_4))), (hpl, .inl (g 0, 192, .inl (aI PL1_5)))] := va_Dadr hD rfl
      refine W.widen (k := 0) (n := 0) (Nat.le_refl _) (Nat.le_refl _) ?_
      refine lv_aload_n hx hb dX3_carve_43 rfl (lv_at hl 0 rfl) ?_
      refine lv_aload_n hx hb dX3_carve_44 rfl (lv_at hl 0 rfl) ?_
      refine va_get (D := G) (ci := 2) (v := .ref hnow) (C := RX3) (T := TX3) (N := 20) hx hb hts in_X3 hown hK hP 0 rfl rfl 0 (by decide) (hts _ q1438) (fun _ h9 => h9) rfl dX3_carve_45 ?_
      refine g_callVwi (As := [.ref hnow]) (rest := []) (m_X3_digs l G g H.size hM hnow hnow hthen hpast (svK kept) htx ty (mayV S one other True) at_ fa htold tolds hac hal hre hse hpl (wL S (brW S one other) one other) (wC S (brW S one other) one other) (brW S one other) hsy S PL1_5 kS (hbw) (wL_rng S _ _ _) (okPL_way hbw dsx wpl)) hx hb hml hown hts Stab.tt hA hK hP hD hS hEs [0, 1, 7] rfl rfl (fun _ => rfl) (q0 := 0) rfl rfl q1614 q1616 qs68 q102 q1617 hd_X3_digs rfl rfl ⟨Nat.le_of_ble_eq_true rfl, Nat.le_of_ble_eq_true rfl⟩ rfl hl rfl (Nat.le_of_ble_eq_true rfl) ⟨Nat.le_refl _, Nat.le_refl _⟩ dX3_carve_48 (fun rr u H locs hp hP hS => ?_)
      have hrr : rr = (iI (dgON PL1_5 (brW S one other) S (wL S (brW S one other) one other).toNat)) := hp
      subst hrr
      have hP : va_P G CL [(hM, .inr (2, (mO hnow hthen hpast (svK kept) htx ty (mayV S one other True) at_ fa htold tolds hac hal hre hse hpl (wL S (brW S one other) one other) (wC S (brW S one other) one other) (brW S one other) hsy))), (hnow, .inl (g 0, 253, .inl (aI (dgO PL1_5 (brW S one other) S (wL S (brW S one other) one other).toNat)))), (hpast, .inl (g 0, 1518, .inl (aI (svP S PA kept)))), (hac, .inl (g 0, 4, .inl (aI dx))), (hal, .inl (g 0, 4, .inl (aI dy))), (hre, .inl (g 0, 192, .inl (aI RE1_3))), (hse, .inl (g 1, 192, .inl (aP SE1_4))), (hpl, .inl (g 0, 192, .inl (aI PL1_5)))] H := hP
      have hD : va_D A [(hM, .inr (2, (mO hnow hthen hpast (svK kept) htx ty (mayV S one other True) at_ fa htold tolds hac hal hre hse hpl (wL S (brW S one other) one other) (wC S (brW S one other) one other) (brW S one other) hsy))), (hnow, .inl (g 0, 253, .inl (aI (dgO PL1_5 (brW S one other) S (wL S (brW S one other) one other).toNat)))), (hpast, .inl (g 0, 1518, .inl (aI (svP S PA kept)))), (hac, .inl (g 0, 4, .inl (aI dx))), (hal, .inl (g 0, 4, .inl (aI dy))), (hre, .inl (g 0, 192, .inl (aI RE1_3))), (hse, .inl (g 1, 192, .inl (aP SE1_4))), (hpl, .inl (g 0, 192, .inl (aI PL1_5)))] := va_Dadr hD rfl
      refine W.widen (k := 0) (n := 0) (Nat.le_refl _) (Nat.le_refl _) ?_
      exact W.iret (v := (iI (dgON PL1_5 (brW S one other) S (wL S (brW S one other) one other).toNat))) hx hb hr (fun t ht hW => ⟨⟨_, (RE1_3, SE1_4, PL1_5, (wL S (brW S one other) one other), (wC S (brW S one other) one other), (brW S one other)), rfl, congrArg iI (dg_way wpl).2, by rw [← ht] at hP; exact (by rw [← (dg_way wpl).1]; exact hP)⟩, hS.F ht⟩) hS.2.2 dX3_carve_51 hlk
    · exact False.elim (by contradiction)
  · exact False.elim (by contradiction)
theorem hd_X3_carveAll : yX3_carveAll.cls = RX3 ∧ yX3_carveAll.cls ≠ "java/lang/invoke/MethodHandle" ∧ yX3_carveAll.cls ≠ "java/lang/invoke/VarHandle" ∧ (parseMethodDescriptor yX3_carveAll.desc).map (fun d => d.parameters.length) = some 0 := by decide +kernel
set_option maxHeartbeats 1000000 in
set_option maxRecDepth 100000 in
theorem m_X3_carveAll (l : Launch) (G : va_G) (g : Nat → ClassId) (sz : Nat) (hM : Nat) (hnow : Nat) (hthen : Nat) (hpast : Nat) (kept : Int) (htx : Nat) (ty : Int) (th : Int) (at_ : Int) (fa : Prop) (htold : Nat) (tolds : Int) (hac : Nat) (hal : Nat) (hre : Nat) (hse : Nat) (hpl : Nat) (many : Int) (cost : Int) (br : Int) (hsy : Nat) (S : Int → Int) (PA : Int → Int) (RE : Int → Int) (SE : Int → Prop) (PL : Int → Int) (kS : rgS S) (kW : rgW S) (hkp : 0 ≤ kept ∧ kept ≤ 6) : Met l yX3_carveAll (ws_ yX3_carveAll cX3_carveAll 2 (Option.some Jvm.ClassFile.FieldType.int)) ({ frames := 8, cells := 0, slots := 0, locals := 194 }) (va_Pc [.ref hM] (wrB G CL (TY g) (fun _ => True) [(hM, .inr (2, (mO hnow hthen hpast kept htx ty th at_ fa htold tolds hac hal hre hse hpl many cost br hsy))), (hnow, .inl (g 0, 253, .inl (aI S))), (hpast, .inl (g 0, 1518, .inl (aI PA))), (hac, .inl (g 0, 4, .inl (aI dx))), (hal, .inl (g 0, 4, .inl (aI dy))), (hre, .inl (g 0, 192, .inl (aI RE))), (hse, .inl (g 1, 192, .inl (aP SE))), (hpl, .inl (g 0, 192, .inl (aI PL)))] sz)) (va_Qi (fun (r : Int32) (u : (Int → Int) × (Int → Prop) × (Int → Int) × Int × Int × Int) => r = (iI (nIt S : Int))) (fun (u : (Int → Int) × (Int → Prop) × (Int → Int) × Int × Int × Int) t => va_P G CL [(hM, .inr (2, (mO hnow hthen hpast (svK kept) htx ty 0 at_ fa htold tolds hac hal hre hse hpl u.2.2.2.1 u.2.2.2.2.1 u.2.2.2.2.2 hsy))), (hnow, .inl (g 0, 253, .inl (aI (faT S (nIt S))))), (hpast, .inl (g 0, 1518, .inl (aI (svP S PA kept)))), (hac, .inl (g 0, 4, .inl (aI dx))), (hal, .inl (g 0, 4, .inl (aI dy))), (hre, .inl (g 0, 192, .inl (aI u.1))), (hse, .inl (g 1, 192, .inl (aP u.2.1))), (hpl, .inl (g 0, 192, .inl (aI u.2.2.1)))] t.heap) (va_A [(hM, .inr (2, (mO hnow hthen hpast kept htx ty th at_ fa htold tolds hac hal hre hse hpl many cost br hsy))), (hnow, .inl (g 0, 253, .inl (aI S))), (hpast, .inl (g 0, 1518, .inl (aI PA))), (hac, .inl (g 0, 4, .inl (aI dx))), (hal, .inl (g 0, 4, .inl (aI dy))), (hre, .inl (g 0, 192, .inl (aI RE))), (hse, .inl (g 1, 192, .inl (aP SE))), (hpl, .inl (g 0, 192, .inl (aI PL)))] sz)) 0 0 (va_A [(hM, .inr (2, (mO hnow hthen hpast kept htx ty th at_ fa htold tolds hac hal hre hse hpl many cost br hsy))), (hnow, .inl (g 0, 253, .inl (aI S))), (hpast, .inl (g 0, 1518, .inl (aI PA))), (hac, .inl (g 0, 4, .inl (aI dx))), (hal, .inl (g 0, 4, .inl (aI dy))), (hre, .inl (g 0, 192, .inl (aI RE))), (hse, .inl (g 1, 192, .inl (aP SE))), (hpl, .inl (g 0, 192, .inl (aI PL)))] sz) := by
  refine Met.at (by decide) (Nat.le_of_ble_eq_true rfl) ?_
  intro p e s m below meth c hx hb hr hlk hml hown hnm hts hB ls hl
  have hown : s.vm.findClass RX3 = some m.cls := hown
  obtain ⟨hsz, hP, hK, hD0, hEs⟩ := hB
  subst hsz
  have hD := hD0.self (sz := s.heap.size)
  generalize hAe : va_A [(hM, .inr (2, (mO hnow hthen hpast kept htx ty th at_ fa htold tolds hac hal hre hse hpl many cost br hsy))), (hnow, .inl (g 0, 253, .inl (aI S))), (hpast, .inl (g 0, 1518, .inl (aI PA))), (hac, .inl (g 0, 4, .inl (aI dx))), (hal, .inl (g 0, 4, .inl (aI dy))), (hre, .inl (g 0, 192, .inl (aI RE))), (hse, .inl (g 1, 192, .inl (aP SE))), (hpl, .inl (g 0, 192, .inl (aI PL)))] s.heap.size = A at hD ⊢
  have hA : ∀ q : Nat, s.heap.size ≤ q → A q := fun q h => by rw [← hAe]; exact Or.inr h
  have hS : va_S A s.heap s.heap [] := va_S.rf
  have hl : lv_has ls 2 [(0, .ref hM)] := hl
  refine lv_aload_n hx hb dX3_carveAll_0 rfl (lv_at hl 0 rfl) ?_
  refine lv_iconst (v := iI 0) hx hb dX3_carveAll_1 rfl ?_
  refine g_put (D := G) (ci := 2) (v := .int (iI 0)) (ty := .int) (C := RX3) (T := TX3) (N := 20) (ws1 := [(hM, .inr (2, (mO hnow hthen hpast kept htx ty 0 at_ fa htold tolds hac hal hre hse hpl many cost br hsy))), (hnow, .inl (g 0, 253, .inl (aI S))), (hpast, .inl (g 0, 1518, .inl (aI PA))), (hac, .inl (g 0, 4, .inl (aI dx))), (hal, .inl (g 0, 4, .inl (aI dy))), (hre, .inl (g 0, 192, .inl (aI RE))), (hse, .inl (g 1, 192, .inl (aP SE))), (hpl, .inl (g 0, 192, .inl (aI PL)))]) hx hb hts in_X3 tyX3 tyX3_ok nmX3 hown hK hP hD hS 0 rfl rfl 6 (by decide) (hts _ q1444) (fun _ h9 => h9) rfl (by decide +kernel) (rfl) (rfl) (Nat.le_of_ble_eq_true rfl) dX3_carveAll_2 rfl (fun H locs hP hS => ?_)
  have hD : va_D A [(hM, .inr (2, (mO hnow hthen hpast kept htx ty 0 at_ fa htold tolds hac hal hre hse hpl many cost br hsy))), (hnow, .inl (g 0, 253, .inl (aI S))), (hpast, .inl (g 0, 1518, .inl (aI PA))), (hac, .inl (g 0, 4, .inl (aI dx))), (hal, .inl (g 0, 4, .inl (aI dy))), (hre, .inl (g 0, 192, .inl (aI RE))), (hse, .inl (g 1, 192, .inl (aP SE))), (hpl, .inl (g 0, 192, .inl (aI PL)))] := va_Dadr hD rfl
  refine lv_aload_n hx hb dX3_carveAll_5 rfl (lv_at hl 0 rfl) ?_
  refine g_callVwv (As := []) (rest := []) (m_X3_saves l G g H.size hM hnow hthen hpast kept htx ty 0 at_ fa htold tolds hac hal hre hse hpl many cost br hsy S PA hkp) hx hb hml hown hts Stab.tt hA hK hP hD hS hEs [0, 1, 2] rfl rfl (fun _ => rfl) (q0 := 0) rfl rfl q1541 q1543 qs57 q102 q1544 hd_X3_saves rfl rfl ⟨Nat.le_of_ble_eq_true rfl, Nat.le_of_ble_eq_true rfl⟩ rfl hl rfl (Nat.le_of_ble_eq_true rfl) ⟨Nat.le_refl _, Nat.le_refl _⟩ dX3_carveAll_6 (fun u H locs hp hP hS => ?_)
  have hP : va_P G CL [(hM, .inr (2, (mO hnow hthen hpast (svK kept) htx ty 0 at_ fa htold tolds hac hal hre hse hpl many cost br hsy))), (hnow, .inl (g 0, 253, .inl (aI S))), (hpast, .inl (g 0, 1518, .inl (aI (svP S PA kept)))), (hac, .inl (g 0, 4, .inl (aI dx))), (hal, .inl (g 0, 4, .inl (aI dy))), (hre, .inl (g 0, 192, .inl (aI RE))), (hse, .inl (g 1, 192, .inl (aP SE))), (hpl, .inl (g 0, 192, .inl (aI PL)))] H := hP
  have hD : va_D A [(hM, .inr (2, (mO hnow hthen hpast (svK kept) htx ty 0 at_ fa htold tolds hac hal hre hse hpl many cost br hsy))), (hnow, .inl (g 0, 253, .inl (aI S))), (hpast, .inl (g 0, 1518, .inl (aI (svP S PA kept)))), (hac, .inl (g 0, 4, .inl (aI dx))), (hal, .inl (g 0, 4, .inl (aI dy))), (hre, .inl (g 0, 192, .inl (aI RE))), (hse, .inl (g 1, 192, .inl (aP SE))), (hpl, .inl (g 0, 192, .inl (aI PL)))] := va_Dadr hD rfl
  refine W.widen (k := 0) (n := 0) (Nat.le_refl _) (Nat.le_refl _) ?_
  refine lv_iconst (v := iI 0) hx hb dX3_carveAll_9 rfl ?_
  refine lv_istore_n (lv' := [(1, .int (iI 0)), (0, .ref hM)]) hx hb dX3_carveAll_10 rfl hl (by decide) rfl (fun ls hl => ?_)
  have lp11 : ∀ (n : Nat) (i_ : Nat) (rA : Int → Int) (eA : Int → Prop) (lA : Int → Int) (mA : Int) (cA_ : Int) (bA : Int), (∀ j : Nat, j < i_ → ¬ nxN (faT S j) = -1) → (sqC (faT S i_) (-2)).toNat = n → ∀ (H : Heap) (locs : List Loc), va_P G CL [(hM, .inr (2, (mO hnow hthen hpast (svK kept) htx ty 0 at_ fa htold tolds hac hal hre hse hpl mA cA_ bA hsy))), (hnow, .inl (g 0, 253, .inl (aI (faT S i_)))), (hpast, .inl (g 0, 1518, .inl (aI (svP S PA kept)))), (hac, .inl (g 0, 4, .inl (aI dx))), (hal, .inl (g 0, 4, .inl (aI dy))), (hre, .inl (g 0, 192, .inl (aI rA))), (hse, .inl (g 1, 192, .inl (aP eA))), (hpl, .inl (g 0, 192, .inl (aI lA)))] H → va_D A [(hM, .inr (2, (mO hnow hthen hpast (svK kept) htx ty 0 at_ fa htold tolds hac hal hre hse hpl mA cA_ bA hsy))), (hnow, .inl (g 0, 253, .inl (aI (faT S i_)))), (hpast, .inl (g 0, 1518, .inl (aI (svP S PA kept)))), (hac, .inl (g 0, 4, .inl (aI dx))), (hal, .inl (g 0, 4, .inl (aI dy))), (hre, .inl (g 0, 192, .inl (aI rA))), (hse, .inl (g 1, 192, .inl (aP eA))), (hpl, .inl (g 0, 192, .inl (aI lA)))] → va_S A s.heap H locs → ∀ ls : Array Slot, lv_has ls 2 [(0, .ref hM), (1, .int (iI (i_ : Int)))] → W p l e ({ frames := 8, cells := 0, slots := 0, locals := 194 }) s m ([.ref hM] : List Value).toArray below meth c H locs 0 0 (MQ below (va_Qi (fun (r : Int32) (u : (Int → Int) × (Int → Prop) × (Int → Int) × Int × Int × Int) => r = (iI (nIt S : Int))) (fun (u : (Int → Int) × (Int → Prop) × (Int → Int) × Int × Int × Int) t => va_P G CL [(hM, .inr (2, (mO hnow hthen hpast (svK kept) htx ty 0 at_ fa htold tolds hac hal hre hse hpl u.2.2.2.1 u.2.2.2.2.1 u.2.2.2.2.2 hsy))), (hnow, .inl (g 0, 253, .inl (aI (faT S (nIt S))))), (hpast, .inl (g 0, 1518, .inl (aI (svP S PA kept)))), (hac, .inl (g 0, 4, .inl (aI dx))), (hal, .inl (g 0, 4, .inl (aI dy))), (hre, .inl (g 0, 192, .inl (aI u.1))), (hse, .inl (g 1, 192, .inl (aP u.2.1))), (hpl, .inl (g 0, 192, .inl (aI u.2.2.1)))] t.heap) A) ([.ref hM] : List Value).toArray s 0 0 A) (F0 m 11 ls []) := by
    intro n
    refine Nat.strongRecOn n ?_
    intro n ih11 i_ rA eA lA mA cA_ bA hi_ hmu11 H locs hP hD hS ls hl
    have dr := nxN_rng (S := faT S i_) (fa_ok kS kW i_).2.1
    refine lv_aload_n hx hb dX3_carveAll_11 rfl (lv_at hl 0 rfl) ?_
    refine lv_aload_n hx hb dX3_carveAll_12 rfl (lv_at hl 0 rfl) ?_
    refine va_get (D := G) (ci := 2) (v := .ref hnow) (C := RX3) (T := TX3) (N := 20) hx hb hts in_X3 hown hK hP 0 rfl rfl 0 (by decide) (hts _ q1438) (fun _ h9 => h9) rfl dX3_carveAll_13 ?_
    refine g_callVwi (As := [.ref hnow]) (rest := []) (m_X3_digsNext l G g H.size hM hnow hnow hthen hpast (svK kept) htx ty 0 at_ fa htold tolds hac hal hre hse hpl mA cA_ bA hsy (faT S i_) rA eA lA ((fa_ok kS kW i_).1) ((fa_ok kS kW i_).2.1)) hx hb hml hown hts Stab.tt hA hK hP hD hS hEs [0, 1, 3, 4, 5, 6, 7] rfl rfl (fun _ => rfl) (q0 := 0) rfl rfl q1622 q1624 qs69 q102 q1625 hd_X3_digsNext rfl rfl ⟨Nat.le_of_ble_eq_true rfl, Nat.le_of_ble_eq_true rfl⟩ rfl hl rfl (Nat.le_of_ble_eq_true rfl) ⟨Nat.le_refl _, Nat.le_refl _⟩ dX3_carveAll_16 (fun rr u H locs hp hP hS => ?_)
    obtain ⟨RE1_1, SE1_2, PL1_3, m1_4, c1_5, b1_6⟩ := u
    have hrr : rr = (iI (nxN (faT S i_))) := hp
    subst hrr
    have hP : va_P G CL [(hM, .inr (2, (mO hnow hthen hpast (svK kept) htx ty 0 at_ fa htold tolds hac hal hre hse hpl m1_4 c1_5 b1_6 hsy))), (hnow, .inl (g 0, 253, .inl (aI (nxS (faT S i_))))), (hpast, .inl (g 0, 1518, .inl (aI (svP S PA kept)))), (hac, .inl (g 0, 4, .inl (aI dx))), (hal, .inl (g 0, 4, .inl (aI dy))), (hre, .inl (g 0, 192, .inl (aI RE1_1))), (hse, .inl (g 1, 192, .inl (aP SE1_2))), (hpl, .inl (g 0, 192, .inl (aI PL1_3)))] H := hP
    have hD : va_D A [(hM, .inr (2, (mO hnow hthen hpast (svK kept) htx ty 0 at_ fa htold tolds hac hal hre hse hpl m1_4 c1_5 b1_6 hsy))), (hnow, .inl (g 0, 253, .inl (aI (nxS (faT S i_))))), (hpast, .inl (g 0, 1518, .inl (aI (svP S PA kept)))), (hac, .inl (g 0, 4, .inl (aI dx))), (hal, .inl (g 0, 4, .inl (aI dy))), (hre, .inl (g 0, 192, .inl (aI RE1_1))), (hse, .inl (g 1, 192, .inl (aP SE1_2))), (hpl, .inl (g 0, 192, .inl (aI PL1_3)))] := va_Dadr hD rfl
    refine W.widen (k := 0) (n := 0) (Nat.le_refl _) (Nat.le_refl _) ?_
    refine lv_iconst (v := iI (-1)) hx hb dX3_carveAll_19 rfl ?_
    refine g_icmp_eq (tgt := 29) hx hb dX3_carveAll_20 (by decide) ⟨⟨by omega, by omega⟩, ⟨by decide, by decide⟩⟩ (fun c7 => ?_) (fun c7 => ?_)
    · have en : nIt S = i_ := nIt_eq ⟨hi_, by assumption⟩
      refine lv_iload_n hx hb dX3_carveAll_29 rfl (lv_at hl 1 rfl) ?_
      exact W.iret (v := (iI (i_ : Int))) hx hb hr (fun t ht hW => ⟨⟨_, (RE1_1, SE1_2, PL1_3, m1_4, c1_5, b1_6), rfl, by show iI ((i_ : Int)) = iI ((nIt S : Int)); rw [en], by rw [← ht] at hP; exact (by rw [en, show faT S i_ = nxS (faT S i_) from (nxS_same (by assumption) (fa_ok kS kW i_).2.1).symm]; exact hP)⟩, hS.F ht⟩) hS.2.2 dX3_carveAll_30 hlk
    · refine g_iinc (lv' := [(1, .int (iI ((i_ : Int) + 1))), (0, .ref hM)]) hx hb dX3_carveAll_23 hl (k := 1) rfl (by decide) rfl (fun ls hl => ?_)
      refine lv_goto (tgt := 11) hx hb dX3_carveAll_26 (by decide) ?_
      exact ih11 _ (by have u1 := fa_mu kS kW (k := i_) (by assumption); omega) (i_ + 1) RE1_1 SE1_2 PL1_3 m1_4 c1_5 b1_6 (fun j hj => by
      by_cases e : j = i_
      · rw [e]; assumption
      · exact hi_ j (by omega)) rfl _ _ hP (va_Dadr hD rfl) hS ls (lv_sub hl [1, 0] rfl)
  exact lp11 _ 0 RE SE PL many cost br (fun j hj => absurd hj (Nat.not_lt_zero j)) rfl H locs hP (va_Dadr hD rfl) hS ls (lv_sub hl [1, 0] rfl)
