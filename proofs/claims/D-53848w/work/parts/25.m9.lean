theorem hd_X3_share : yX3_share.cls = RX3 ∧ yX3_share.cls ≠ "java/lang/invoke/MethodHandle" ∧ yX3_share.cls ≠ "java/lang/invoke/VarHandle" ∧ (parseMethodDescriptor yX3_share.desc).map (fun d => d.parameters.length) = some 0 := by decide +kernel
set_option maxHeartbeats 1000000 in
set_option maxRecDepth 100000 in
theorem m_X3_share (l : Launch) (G : va_G) (g : Nat → ClassId) (sz : Nat) (hM : Nat) (hnow : Nat) (hthen : Nat) (hpast : Nat) (kept : Int) (htx : Nat) (ty : Int) (th : Int) (at_ : Int) (fa : Prop) (htold : Nat) (tolds : Int) (hac : Nat) (hal : Nat) (hre : Nat) (hse : Nat) (hpl : Nat) (many : Int) (cost : Int) (br : Int) (hsy : Nat) (S : Int → Int) (RE : Int → Int) (SE : Int → Prop) (PL : Int → Int) (kS : rgS S) (kW : rgW S) : Met l yX3_share (ws_ yX3_share cX3_share 2 (Option.some Jvm.ClassFile.FieldType.double)) ({ frames := 8, cells := 0, slots := 0, locals := 192 }) (va_Pc [.ref hM] (wrB G CL (TY g) (fun _ => True) [(hM, .inr (2, (mO hnow hthen hpast kept htx ty th at_ fa htold tolds hac hal hre hse hpl many cost br hsy))), (hnow, .inl (g 0, 253, .inl (aI S))), (hac, .inl (g 0, 4, .inl (aI dx))), (hal, .inl (g 0, 4, .inl (aI dy))), (hre, .inl (g 0, 192, .inl (aI RE))), (hse, .inl (g 1, 192, .inl (aP SE))), (hpl, .inl (g 0, 192, .inl (aI PL)))] sz)) (va_Qd (fun (r : UInt64) (u : (Int → Int) × (Int → Prop) × (Int → Int) × Int × Int × Int) => r = shV S) (fun (u : (Int → Int) × (Int → Prop) × (Int → Int) × Int × Int × Int) t => va_P G CL [(hM, .inr (2, (mO hnow hthen hpast kept htx ty th at_ fa htold tolds hac hal hre hse hpl u.2.2.2.1 u.2.2.2.2.1 u.2.2.2.2.2 hsy))), (hnow, .inl (g 0, 253, .inl (aI S))), (hac, .inl (g 0, 4, .inl (aI dx))), (hal, .inl (g 0, 4, .inl (aI dy))), (hre, .inl (g 0, 192, .inl (aI u.1))), (hse, .inl (g 1, 192, .inl (aP u.2.1))), (hpl, .inl (g 0, 192, .inl (aI u.2.2.1)))] t.heap) (va_A [(hM, .inr (2, (mO hnow hthen hpast kept htx ty th at_ fa htold tolds hac hal hre hse hpl many cost br hsy))), (hnow, .inl (g 0, 253, .inl (aI S))), (hac, .inl (g 0, 4, .inl (aI dx))), (hal, .inl (g 0, 4, .inl (aI dy))), (hre, .inl (g 0, 192, .inl (aI RE))), (hse, .inl (g 1, 192, .inl (aP SE))), (hpl, .inl (g 0, 192, .inl (aI PL)))] sz)) 0 0 (va_A [(hM, .inr (2, (mO hnow hthen hpast kept htx ty th at_ fa htold tolds hac hal hre hse hpl many cost br hsy))), (hnow, .inl (g 0, 253, .inl (aI S))), (hac, .inl (g 0, 4, .inl (aI dx))), (hal, .inl (g 0, 4, .inl (aI dy))), (hre, .inl (g 0, 192, .inl (aI RE))), (hse, .inl (g 1, 192, .inl (aP SE))), (hpl, .inl (g 0, 192, .inl (aI PL)))] sz) := by
  refine Met.at (by decide) (Nat.le_of_ble_eq_true rfl) ?_
  intro p e s m below meth c hx hb hr hlk hml hown hnm hts hB ls hl
  have hown : s.vm.findClass RX3 = some m.cls := hown
  obtain ⟨hsz, hP, hK, hD0, hEs⟩ := hB
  subst hsz
  have hD := hD0.self (sz := s.heap.size)
  generalize hAe : va_A [(hM, .inr (2, (mO hnow hthen hpast kept htx ty th at_ fa htold tolds hac hal hre hse hpl many cost br hsy))), (hnow, .inl (g 0, 253, .inl (aI S))), (hac, .inl (g 0, 4, .inl (aI dx))), (hal, .inl (g 0, 4, .inl (aI dy))), (hre, .inl (g 0, 192, .inl (aI RE))), (hse, .inl (g 1, 192, .inl (aP SE))), (hpl, .inl (g 0, 192, .inl (aI PL)))] s.heap.size = A at hD ⊢
  have hA : ∀ q : Nat, s.heap.size ≤ q → A q := fun q h => by rw [← hAe]; exact Or.inr h
  have hS : va_S A s.heap s.heap [] := va_S.rf
  have hl : lv_has ls 2 [(0, .ref hM)] := hl
  have pb0 := prs_b (S := S) (w := 0) (Or.inl rfl)
  have pb1 := prs_b (S := S) (w := 1) (Or.inr rfl)
  have ple := prs_le S
  refine lv_aload_n hx hb dX3_share_0 rfl (lv_at hl 0 rfl) ?_
  refine lv_aload_n hx hb dX3_share_1 rfl (lv_at hl 0 rfl) ?_
  refine va_get (D := G) (ci := 2) (v := .ref hnow) (C := RX3) (T := TX3) (N := 20) hx hb hts in_X3 hown hK hP 0 rfl rfl 0 (by decide) (hts _ q1438) (fun _ h9 => h9) rfl dX3_share_2 ?_
  refine lv_iconst (v := iI 0) hx hb dX3_share_5 rfl ?_
  refine g_callVwi (As := [.ref hnow, .int (iI 0)]) (rest := []) (m_X3_pairs_0 l G g s.heap.size hM hnow hnow hthen hpast kept htx ty th at_ fa htold tolds hac hal hre hse hpl many cost br hsy S RE SE PL kS kW) hx hb hml hown hts Stab.tt hA hK hP hD hS hEs [0, 1, 2, 3, 4, 5, 6] rfl rfl (fun _ => rfl) (q0 := 0) rfl rfl q1740 q1742 qs87 q102 q1743 hd_X3_pairs rfl rfl ⟨Nat.le_of_ble_eq_true rfl, Nat.le_of_ble_eq_true rfl⟩ rfl hl rfl (Nat.le_of_ble_eq_true rfl) ⟨Nat.le_refl _, Nat.le_refl _⟩ dX3_share_6 (fun rr u H locs hp hP hS => ?_)
  obtain ⟨RE1_1, SE1_2, PL1_3, m1_4, c1_5, b1_6⟩ := u
  have hrr : rr = (iI (prs S 0)) := hp
  subst hrr
  have hP : va_P G CL [(hM, .inr (2, (mO hnow hthen hpast kept htx ty th at_ fa htold tolds hac hal hre hse hpl m1_4 c1_5 b1_6 hsy))), (hnow, .inl (g 0, 253, .inl (aI S))), (hac, .inl (g 0, 4, .inl (aI dx))), (hal, .inl (g 0, 4, .inl (aI dy))), (hre, .inl (g 0, 192, .inl (aI RE1_1))), (hse, .inl (g 1, 192, .inl (aP SE1_2))), (hpl, .inl (g 0, 192, .inl (aI PL1_3)))] H := hP
  have hD : va_D A [(hM, .inr (2, (mO hnow hthen hpast kept htx ty th at_ fa htold tolds hac hal hre hse hpl m1_4 c1_5 b1_6 hsy))), (hnow, .inl (g 0, 253, .inl (aI S))), (hac, .inl (g 0, 4, .inl (aI dx))), (hal, .inl (g 0, 4, .inl (aI dy))), (hre, .inl (g 0, 192, .inl (aI RE1_1))), (hse, .inl (g 1, 192, .inl (aP SE1_2))), (hpl, .inl (g 0, 192, .inl (aI PL1_3)))] := va_Dadr hD rfl
  refine W.widen (k := 0) (n := 0) (Nat.le_refl _) (Nat.le_refl _) ?_
  refine lv_istore_n (lv' := [(1, .int (iI (prs S 0))), (0, .ref hM)]) hx hb dX3_share_9 rfl hl (by decide) rfl (fun ls hl => ?_)
  refine lv_iload_n hx hb dX3_share_10 rfl (lv_at hl 0 rfl) ?_
  refine g_if_ne (tgt := 18) hx hb dX3_share_11 (by decide) ⟨by omega, by omega⟩ (fun c7 => ?_) (fun c7 => ?_)
  · refine lv_iload_n hx hb dX3_share_18 rfl (lv_at hl 0 rfl) ?_
    refine lv_aload_n hx hb dX3_share_19 rfl (lv_at hl 1 rfl) ?_
    refine lv_aload_n hx hb dX3_share_20 rfl (lv_at hl 1 rfl) ?_
    refine va_get (D := G) (ci := 2) (v := .ref hnow) (C := RX3) (T := TX3) (N := 20) hx hb hts in_X3 hown hK hP 0 rfl rfl 0 (by decide) (hts _ q1438) (fun _ h9 => h9) rfl dX3_share_21 ?_
    refine lv_iconst (v := iI 1) hx hb dX3_share_24 rfl ?_
    refine g_callVwi (As := [.ref hnow, .int (iI 1)]) (rest := [.int (iI (prs S 0))]) (m_X3_pairs_1 l G g H.size hM hnow hnow hthen hpast kept htx ty th at_ fa htold tolds hac hal hre hse hpl m1_4 c1_5 b1_6 hsy S RE1_1 SE1_2 PL1_3 kS kW) hx hb hml hown hts Stab.tt hA hK hP hD hS hEs [0, 1, 2, 3, 4, 5, 6] rfl rfl (fun _ => rfl) (q0 := 0) rfl rfl q1740 q1742 qs87 q102 q1743 hd_X3_pairs rfl rfl ⟨Nat.le_of_ble_eq_true rfl, Nat.le_of_ble_eq_true rfl⟩ rfl hl rfl (Nat.le_of_ble_eq_true rfl) ⟨Nat.le_refl _, Nat.le_refl _⟩ dX3_share_25 (fun rr u H locs hp hP hS => ?_)
    obtain ⟨RE1_8, SE1_9, PL1_10, m1_11, c1_12, b1_13⟩ := u
    have hrr : rr = (iI (prs S 1)) := hp
    subst hrr
    have hP : va_P G CL [(hM, .inr (2, (mO hnow hthen hpast kept htx ty th at_ fa htold tolds hac hal hre hse hpl m1_11 c1_12 b1_13 hsy))), (hnow, .inl (g 0, 253, .inl (aI S))), (hac, .inl (g 0, 4, .inl (aI dx))), (hal, .inl (g 0, 4, .inl (aI dy))), (hre, .inl (g 0, 192, .inl (aI RE1_8))), (hse, .inl (g 1, 192, .inl (aP SE1_9))), (hpl, .inl (g 0, 192, .inl (aI PL1_10)))] H := hP
    have hD : va_D A [(hM, .inr (2, (mO hnow hthen hpast kept htx ty th at_ fa htold tolds hac hal hre hse hpl m1_11 c1_12 b1_13 hsy))), (hnow, .inl (g 0, 253, .inl (aI S))), (hac, .inl (g 0, 4, .inl (aI dx))), (hal, .inl (g 0, 4, .inl (aI dy))), (hre, .inl (g 0, 192, .inl (aI RE1_8))), (hse, .inl (g 1, 192, .inl (aP SE1_9))), (hpl, .inl (g 0, 192, .inl (aI PL1_10)))] := va_Dadr hD rfl
    refine W.widen (k := 0) (n := 0) (Nat.le_refl _) (Nat.le_refl _) ?_
    refine g_isub hx hb dX3_share_28 ?_
    refine lv_i2d hx hb dX3_share_29 ?_
    refine lv_iload_n hx hb dX3_share_30 rfl (lv_at hl 0 rfl) ?_
    refine lv_i2d hx hb dX3_share_31 ?_
    refine lv_ddiv hx hb dX3_share_32 (n64 (by omega) (by omega)) ?_
    exact W.dret (v := FP.ddiv (FP.i2d (iI ((prs S 0) - (prs S 1)))) (FP.i2d (iI (prs S 0)))) hx hb hr (fun t ht hW => ⟨⟨_, (RE1_8, SE1_9, PL1_10, m1_11, c1_12, b1_13), rfl, shV_f (by assumption), by rw [← ht] at hP; exact hP⟩, hS.F ht⟩) hS.2.2 dX3_share_33 hlk
  · refine lv_dconst1 hx hb dX3_share_14 ?_
    refine lv_goto (tgt := 33) hx hb dX3_share_15 (by decide) ?_
    exact W.dret (v := FP.dconst1) hx hb hr (fun t ht hW => ⟨⟨_, (RE1_1, SE1_2, PL1_3, m1_4, c1_5, b1_6), rfl, shV_t (by assumption), by rw [← ht] at hP; exact hP⟩, hS.F ht⟩) hS.2.2 dX3_share_33 hlk
theorem hd_X3_openShare : yX3_openShare.cls = RX3 ∧ yX3_openShare.cls ≠ "java/lang/invoke/MethodHandle" ∧ yX3_openShare.cls ≠ "java/lang/invoke/VarHandle" ∧ (parseMethodDescriptor yX3_openShare.desc).map (fun d => d.parameters.length) = some 0 := by decide +kernel
set_option maxHeartbeats 1000000 in
set_option maxRecDepth 100000 in
theorem m_X3_openShare (l : Launch) (G : va_G) (g : Nat → ClassId) (sz : Nat) (hM : Nat) (hnow : Nat) (hthen : Nat) (hpast : Nat) (kept : Int) (htx : Nat) (ty : Int) (th : Int) (at_ : Int) (fa : Prop) (htold : Nat) (tolds : Int) (hac : Nat) (hal : Nat) (hre : Nat) (hse : Nat) (hpl : Nat) (many : Int) (cost : Int) (br : Int) (hsy : Nat) (S : Int → Int) (RE : Int → Int) (SE : Int → Prop) (PL : Int → Int) (kS : rgS S) (kW : rgW S) : Met l yX3_openShare (ws_ yX3_openShare cX3_openShare 1 (Option.some Jvm.ClassFile.FieldType.double)) ({ frames := 9, cells := 0, slots := 0, locals := 213 }) (va_Pc [.ref hM] (wrB G CL (TY g) (fun _ => True) [(hM, .inr (2, (mO hnow hthen hpast kept htx ty th at_ fa htold tolds hac hal hre hse hpl many cost br hsy))), (hnow, .inl (g 0, 253, .inl (aI S))), (hac, .inl (g 0, 4, .inl (aI dx))), (hal, .inl (g 0, 4, .inl (aI dy))), (hre, .inl (g 0, 192, .inl (aI RE))), (hse, .inl (g 1, 192, .inl (aP SE))), (hpl, .inl (g 0, 192, .inl (aI PL)))] sz)) (va_Qd (fun (r : UInt64) (u : (Int → Int) × (Int → Prop) × (Int → Int) × Int × Int × Int) => r = shV S) (fun (u : (Int → Int) × (Int → Prop) × (Int → Int) × Int × Int × Int) t => va_P G CL [(hM, .inr (2, (mO hnow hthen hpast kept htx ty 0 at_ fa htold tolds hac hal hre hse hpl u.2.2.2.1 u.2.2.2.2.1 u.2.2.2.2.2 hsy))), (hnow, .inl (g 0, 253, .inl (aI S))), (hac, .inl (g 0, 4, .inl (aI dx))), (hal, .inl (g 0, 4, .inl (aI dy))), (hre, .inl (g 0, 192, .inl (aI u.1))), (hse, .inl (g 1, 192, .inl (aP u.2.1))), (hpl, .inl (g 0, 192, .inl (aI u.2.2.1)))] t.heap) (va_A [(hM, .inr (2, (mO hnow hthen hpast kept htx ty th at_ fa htold tolds hac hal hre hse hpl many cost br hsy))), (hnow, .inl (g 0, 253, .inl (aI S))), (hac, .inl (g 0, 4, .inl (aI dx))), (hal, .inl (g 0, 4, .inl (aI dy))), (hre, .inl (g 0, 192, .inl (aI RE))), (hse, .inl (g 1, 192, .inl (aP SE))), (hpl, .inl (g 0, 192, .inl (aI PL)))] sz)) 0 0 (va_A [(hM, .inr (2, (mO hnow hthen hpast kept htx ty th at_ fa htold tolds hac hal hre hse hpl many cost br hsy))), (hnow, .inl (g 0, 253, .inl (aI S))), (hac, .inl (g 0, 4, .inl (aI dx))), (hal, .inl (g 0, 4, .inl (aI dy))), (hre, .inl (g 0, 192, .inl (aI RE))), (hse, .inl (g 1, 192, .inl (aP SE))), (hpl, .inl (g 0, 192, .inl (aI PL)))] sz) := by
  refine Met.at (by decide) (Nat.le_of_ble_eq_true rfl) ?_
  intro p e s m below meth c hx hb hr hlk hml hown hnm hts hB ls hl
  have hown : s.vm.findClass RX3 = some m.cls := hown
  obtain ⟨hsz, hP, hK, hD0, hEs⟩ := hB
  subst hsz
  have hD := hD0.self (sz := s.heap.size)
  generalize hAe : va_A [(hM, .inr (2, (mO hnow hthen hpast kept htx ty th at_ fa htold tolds hac hal hre hse hpl many cost br hsy))), (hnow, .inl (g 0, 253, .inl (aI S))), (hac, .inl (g 0, 4, .inl (aI dx))), (hal, .inl (g 0, 4, .inl (aI dy))), (hre, .inl (g 0, 192, .inl (aI RE))), (hse, .inl (g 1, 192, .inl (aP SE))), (hpl, .inl (g 0, 192, .inl (aI PL)))] s.heap.size = A at hD ⊢
  have hA : ∀ q : Nat, s.heap.size ≤ q → A q := fun q h => by rw [← hAe]; exact Or.inr h
  have hS : va_S A s.heap s.heap [] := va_S.rf
  have hl : lv_has ls 1 [(0, .ref hM)] := hl
  refine lv_aload_n hx hb dX3_openShare_0 rfl (lv_at hl 0 rfl) ?_
  refine lv_iconst (v := iI 0) hx hb dX3_openShare_1 rfl ?_
  refine g_put (D := G) (ci := 2) (v := .int (iI 0)) (ty := .int) (C := RX3) (T := TX3) (N := 20) (ws1 := [(hM, .inr (2, (mO hnow hthen hpast kept htx ty 0 at_ fa htold tolds hac hal hre hse hpl many cost br hsy))), (hnow, .inl (g 0, 253, .inl (aI S))), (hac, .inl (g 0, 4, .inl (aI dx))), (hal, .inl (g 0, 4, .inl (aI dy))), (hre, .inl (g 0, 192, .inl (aI RE))), (hse, .inl (g 1, 192, .inl (aP SE))), (hpl, .inl (g 0, 192, .inl (aI PL)))]) hx hb hts in_X3 tyX3 tyX3_ok nmX3 hown hK hP hD hS 0 rfl rfl 6 (by decide) (hts _ q1444) (fun _ h9 => h9) rfl (by decide +kernel) (rfl) (rfl) (Nat.le_of_ble_eq_true rfl) dX3_openShare_2 rfl (fun H locs hP hS => ?_)
  have hD : va_D A [(hM, .inr (2, (mO hnow hthen hpast kept htx ty 0 at_ fa htold tolds hac hal hre hse hpl many cost br hsy))), (hnow, .inl (g 0, 253, .inl (aI S))), (hac, .inl (g 0, 4, .inl (aI dx))), (hal, .inl (g 0, 4, .inl (aI dy))), (hre, .inl (g 0, 192, .inl (aI RE))), (hse, .inl (g 1, 192, .inl (aP SE))), (hpl, .inl (g 0, 192, .inl (aI PL)))] := va_Dadr hD rfl
  refine lv_aload_n hx hb dX3_openShare_5 rfl (lv_at hl 0 rfl) ?_
  refine g_callVwd (As := []) (rest := []) (m_X3_share l G g H.size hM hnow hthen hpast kept htx ty 0 at_ fa htold tolds hac hal hre hse hpl many cost br hsy S RE SE PL kS kW) hx hb hml hown hts Stab.tt hA hK hP hD hS hEs [0, 1, 2, 3, 4, 5, 6] rfl rfl (fun _ => rfl) (q0 := 0) rfl rfl q1776 q1778 qs92 q102 q1779 hd_X3_share rfl rfl ⟨Nat.le_of_ble_eq_true rfl, Nat.le_of_ble_eq_true rfl⟩ rfl hl rfl (Nat.le_of_ble_eq_true rfl) ⟨Nat.le_refl _, Nat.le_refl _⟩ dX3_openShare_6 (fun rr u H locs hp hP hS => ?_)
  obtain ⟨RE1_1, SE1_2, PL1_3, m1_4, c1_5, b1_6⟩ := u
  have hrr : rr = shV S := hp
  subst hrr
  have hP : va_P G CL [(hM, .inr (2, (mO hnow hthen hpast kept htx ty 0 at_ fa htold tolds hac hal hre hse hpl m1_4 c1_5 b1_6 hsy))), (hnow, .inl (g 0, 253, .inl (aI S))), (hac, .inl (g 0, 4, .inl (aI dx))), (hal, .inl (g 0, 4, .inl (aI dy))), (hre, .inl (g 0, 192, .inl (aI RE1_1))), (hse, .inl (g 1, 192, .inl (aP SE1_2))), (hpl, .inl (g 0, 192, .inl (aI PL1_3)))] H := hP
  have hD : va_D A [(hM, .inr (2, (mO hnow hthen hpast kept htx ty 0 at_ fa htold tolds hac hal hre hse hpl m1_4 c1_5 b1_6 hsy))), (hnow, .inl (g 0, 253, .inl (aI S))), (hac, .inl (g 0, 4, .inl (aI dx))), (hal, .inl (g 0, 4, .inl (aI dy))), (hre, .inl (g 0, 192, .inl (aI RE1_1))), (hse, .inl (g 1, 192, .inl (aP SE1_2))), (hpl, .inl (g 0, 192, .inl (aI PL1_3)))] := va_Dadr hD rfl
  refine W.widen (k := 0) (n := 0) (Nat.le_refl _) (Nat.le_refl _) ?_
  exact W.dret (v := shV S) hx hb hr (fun t ht hW => ⟨⟨_, (RE1_1, SE1_2, PL1_3, m1_4, c1_5, b1_6), rfl, rfl, by rw [← ht] at hP; exact hP⟩, hS.F ht⟩) hS.2.2 dX3_openShare_9 hlk
theorem hd_X3_allCost : yX3_allCost.cls = RX3 ∧ yX3_allCost.cls ≠ "java/lang/invoke/MethodHandle" ∧ yX3_allCost.cls ≠ "java/lang/invoke/VarHandle" ∧ (parseMethodDescriptor yX3_allCost.desc).map (fun d => d.parameters.length) = some 0 := by decide +kernel
set_option maxHeartbeats 1000000 in
set_option maxRecDepth 100000 in
theorem m_X3_allCost (l : Launch) (G : va_G) (g : Nat → ClassId) (sz : Nat) (hM : Nat) (hnow : Nat) (hthen : Nat) (hpast : Nat) (kept : Int) (htx : Nat) (ty : Int) (th : Int) (at_ : Int) (fa : Prop) (htold : Nat) (tolds : Int) (hac : Nat) (hal : Nat) (hre : Nat) (hse : Nat) (hpl : Nat) (many : Int) (cost : Int) (br : Int) (hsy : Nat) (S : Int → Int) (S2 : Int → Int) (RE : Int → Int) (SE : Int → Prop) (PL : Int → Int) (kS : rgS S) (kW : rgW S) : Met l yX3_allCost (ws_ yX3_allCost cX3_allCost 1 (Option.some Jvm.ClassFile.FieldType.int)) ({ frames := 9, cells := 0, slots := 0, locals := 216 }) (va_Pc [.ref hM] (wrB G CL (TY g) (fun _ => True) [(hM, .inr (2, (mO hnow hthen hpast kept htx ty th at_ fa htold tolds hac hal hre hse hpl many cost br hsy))), (hnow, .inl (g 0, 253, .inl (aI S))), (hthen, .inl (g 0, 253, .inl (aI S2))), (hac, .inl (g 0, 4, .inl (aI dx))), (hal, .inl (g 0, 4, .inl (aI dy))), (hre, .inl (g 0, 192, .inl (aI RE))), (hse, .inl (g 1, 192, .inl (aP SE))), (hpl, .inl (g 0, 192, .inl (aI PL)))] sz)) (va_Qi (fun (r : Int32) (u : (Int → Int) × (Int → Int) × (Int → Prop) × (Int → Int) × Int × Int × Int) => r = (iI (faV S))) (fun (u : (Int → Int) × (Int → Int) × (Int → Prop) × (Int → Int) × Int × Int × Int) t => va_P G CL [(hM, .inr (2, (mO hnow hthen hpast kept htx ty 0 at_ fa htold tolds hac hal hre hse hpl u.2.2.2.2.1 u.2.2.2.2.2.1 u.2.2.2.2.2.2 hsy))), (hnow, .inl (g 0, 253, .inl (aI S))), (hthen, .inl (g 0, 253, .inl (aI u.1))), (hac, .inl (g 0, 4, .inl (aI dx))), (hal, .inl (g 0, 4, .inl (aI dy))), (hre, .inl (g 0, 192, .inl (aI u.2.1))), (hse, .inl (g 1, 192, .inl (aP u.2.2.1))), (hpl, .inl (g 0, 192, .inl (aI u.2.2.2.1)))] t.heap) (va_A [(hM, .inr (2, (mO hnow hthen hpast kept htx ty th at_ fa htold tolds hac hal hre hse hpl many cost br hsy))), (hnow, .inl (g 0, 253, .inl (aI S))), (hthen, .inl (g 0, 253, .inl (aI S2))), (hac, .inl (g 0, 4, .inl (aI dx))), (hal, .inl (g 0, 4, .inl (aI dy))), (hre, .inl (g 0, 192, .inl (aI RE))), (hse, .inl (g 1, 192, .inl (aP SE))), (hpl, .inl (g 0, 192, .inl (aI PL)))] sz)) 0 0 (va_A [(hM, .inr (2, (mO hnow hthen hpast kept htx ty th at_ fa htold tolds hac hal hre hse hpl many cost br hsy))), (hnow, .inl (g 0, 253, .inl (aI S))), (hthen, .inl (g 0, 253, .inl (aI S2))), (hac, .inl (g 0, 4, .inl (aI dx))), (hal, .inl (g 0, 4, .inl (aI dy))), (hre, .inl (g 0, 192, .inl (aI RE))), (hse, .inl (g 1, 192, .inl (aP SE))), (hpl, .inl (g 0, 192, .inl (aI PL)))] sz) := by
  refine Met.at (by decide) (Nat.le_of_ble_eq_true rfl) ?_
  intro p e s m below meth c hx hb hr hlk hml hown hnm hts hB ls hl
  have hown : s.vm.findClass RX3 = some m.cls := hown
  obtain ⟨hsz, hP, hK, hD0, hEs⟩ := hB
  subst hsz
  have hD := hD0.self (sz := s.heap.size)
  generalize hAe : va_A [(hM, .inr (2, (mO hnow hthen hpast kept htx ty th at_ fa htold tolds hac hal hre hse hpl many cost br hsy))), (hnow, .inl (g 0, 253, .inl (aI S))), (hthen, .inl (g 0, 253, .inl (aI S2))), (hac, .inl (g 0, 4, .inl (aI dx))), (hal, .inl (g 0, 4, .inl (aI dy))), (hre, .inl (g 0, 192, .inl (aI RE))), (hse, .inl (g 1, 192, .inl (aP SE))), (hpl, .inl (g 0, 192, .inl (aI PL)))] s.heap.size = A at hD ⊢
  have hA : ∀ q : Nat, s.heap.size ≤ q → A q := fun q h => by rw [← hAe]; exact Or.inr h
  have hS : va_S A s.heap s.heap [] := va_S.rf
  have hl : lv_has ls 1 [(0, .ref hM)] := hl
  refine lv_aload_n hx hb dX3_allCost_0 rfl (lv_at hl 0 rfl) ?_
  refine lv_iconst (v := iI 0) hx hb dX3_allCost_1 rfl ?_
  refine g_put (D := G) (ci := 2) (v := .int (iI 0)) (ty := .int) (C := RX3) (T := TX3) (N := 20) (ws1 := [(hM, .inr (2, (mO hnow hthen hpast kept htx ty 0 at_ fa htold tolds hac hal hre hse hpl many cost br hsy))), (hnow, .inl (g 0, 253, .inl (aI S))), (hthen, .inl (g 0, 253, .inl (aI S2))), (hac, .inl (g 0, 4, .inl (aI dx))), (hal, .inl (g 0, 4, .inl (aI dy))), (hre, .inl (g 0, 192, .inl (aI RE))), (hse, .inl (g 1, 192, .inl (aP SE))), (hpl, .inl (g 0, 192, .inl (aI PL)))]) hx hb hts in_X3 tyX3 tyX3_ok nmX3 hown hK hP hD hS 0 rfl rfl 6 (by decide) (hts _ q1444) (fun _ h9 => h9) rfl (by decide +kernel) (rfl) (rfl) (Nat.le_of_ble_eq_true rfl) dX3_allCost_2 rfl (fun H locs hP hS => ?_)
  have hD : va_D A [(hM, .inr (2, (mO hnow hthen hpast kept htx ty 0 at_ fa htold tolds hac hal hre hse hpl many cost br hsy))), (hnow, .inl (g 0, 253, .inl (aI S))), (hthen, .inl (g 0, 253, .inl (aI S2))), (hac, .inl (g 0, 4, .inl (aI dx))), (hal, .inl (g 0, 4, .inl (aI dy))), (hre, .inl (g 0, 192, .inl (aI RE))), (hse, .inl (g 1, 192, .inl (aP SE))), (hpl, .inl (g 0, 192, .inl (aI PL)))] := va_Dadr hD rfl
  refine lv_aload_n hx hb dX3_allCost_5 rfl (lv_at hl 0 rfl) ?_
  refine g_callVwi (As := []) (rest := []) (m_X3_forAll l G g H.size hM hnow hthen hpast kept htx ty 0 at_ fa htold tolds hac hal hre hse hpl many cost br hsy S S2 RE SE PL kS kW) hx hb hml hown hts Stab.tt hA hK hP hD hS hEs [0, 1, 2, 3, 4, 5, 6, 7] rfl rfl (fun _ => rfl) (q0 := 0) rfl rfl q1768 q1770 qs91 q102 q1771 hd_X3_forAll rfl rfl ⟨Nat.le_of_ble_eq_true rfl, Nat.le_of_ble_eq_true rfl⟩ rfl hl rfl (Nat.le_of_ble_eq_true rfl) ⟨Nat.le_refl _, Nat.le_refl _⟩ dX3_allCost_6 (fun rr u H locs hp hP hS => ?_)
  obtain ⟨T1_1, RE1_2, SE1_3, PL1_4, m1_5, c1_6, b1_7⟩ := u
  have hrr : rr = (iI (faV S)) := hp
  subst hrr
  have hP : va_P G CL [(hM, .inr (2, (mO hnow hthen hpast kept htx ty 0 at_ fa htold tolds hac hal hre hse hpl m1_5 c1_6 b1_7 hsy))), (hnow, .inl (g 0, 253, .inl (aI S))), (hthen, .inl (g 0, 253, .inl (aI T1_1))), (hac, .inl (g 0, 4, .inl (aI dx))), (hal, .inl (g 0, 4, .inl (aI dy))), (hre, .inl (g 0, 192, .inl (aI RE1_2))), (hse, .inl (g 1, 192, .inl (aP SE1_3))), (hpl, .inl (g 0, 192, .inl (aI PL1_4)))] H := hP
  have hD : va_D A [(hM, .inr (2, (mO hnow hthen hpast kept htx ty 0 at_ fa htold tolds hac hal hre hse hpl m1_5 c1_6 b1_7 hsy))), (hnow, .inl (g 0, 253, .inl (aI S))), (hthen, .inl (g 0, 253, .inl (aI T1_1))), (hac, .inl (g 0, 4, .inl (aI dx))), (hal, .inl (g 0, 4, .inl (aI dy))), (hre, .inl (g 0, 192, .inl (aI RE1_2))), (hse, .inl (g 1, 192, .inl (aP SE1_3))), (hpl, .inl (g 0, 192, .inl (aI PL1_4)))] := va_Dadr hD rfl
  refine W.widen (k := 0) (n := 0) (Nat.le_refl _) (Nat.le_refl _) ?_
  exact W.iret (v := (iI (faV S))) hx hb hr (fun t ht hW => ⟨⟨_, (T1_1, RE1_2, SE1_3, PL1_4, m1_5, c1_6, b1_7), rfl, rfl, by rw [← ht] at hP; exact hP⟩, hS.F ht⟩) hS.2.2 dX3_allCost_9 hlk
theorem hd_X3_ifGiven : yX3_ifGiven.cls = RX3 ∧ yX3_ifGiven.cls ≠ "java/lang/invoke/MethodHandle" ∧ yX3_ifGiven.cls ≠ "java/lang/invoke/VarHandle" ∧ (parseMethodDescriptor yX3_ifGiven.desc).map (fun d => d.parameters.length) = some 1 := by decide +kernel
set_option maxHeartbeats 1000000 in
set_option maxRecDepth 100000 in
theorem m_X3_ifGiven_1 (l : Launch) (G : va_G) (g : Nat → ClassId) (sz : Nat) (hM : Nat) (room : Int) (hnow : Nat) (hthen : Nat) (hpast : Nat) (kept : Int) (htx : Nat) (ty : Int) (th : Int) (at_ : Int) (fa : Prop) (htold : Nat) (tolds : Int) (hac : Nat) (hal : Nat) (hre : Nat) (hse : Nat) (hpl : Nat) (many : Int) (cost : Int) (br : Int) (hsy : Nat) (S : Int → Int) (r_room : r32 room) (kS : rgS S) (hno : ¬ isTh S room) : Met l yX3_ifGiven (ws_ yX3_ifGiven cX3_ifGiven 2 (Option.some Jvm.ClassFile.FieldType.int)) ({ frames := 2, cells := 0, slots := 0, locals := 43 }) (va_Pc [.ref hM, .int (iI room)] (wrB G CL (TY g) (fun _ => True) [(hM, .inr (2, (mO hnow hthen hpast kept htx ty th at_ fa htold tolds hac hal hre hse hpl many cost br hsy))), (hnow, .inl (g 0, 253, .inl (aI S)))] sz)) (va_Qi (fun (r : Int32) (u : Unit) => r = (iI 0)) (fun (u : Unit) t => va_P G CL [(hM, .inr (2, (mO hnow hthen hpast kept htx ty 1 at_ fa htold tolds hac hal hre hse hpl many cost br hsy))), (hnow, .inl (g 0, 253, .inl (aI S)))] t.heap) (va_A [(hM, .inr (2, (mO hnow hthen hpast kept htx ty th at_ fa htold tolds hac hal hre hse hpl many cost br hsy))), (hnow, .inl (g 0, 253, .inl (aI S)))] sz)) 0 0 (va_A [(hM, .inr (2, (mO hnow hthen hpast kept htx ty th at_ fa htold tolds hac hal hre hse hpl many cost br hsy))), (hnow, .inl (g 0, 253, .inl (aI S)))] sz) := by
  refine Met.at (by decide) (Nat.le_of_ble_eq_true rfl) ?_
  intro p e s m below meth c hx hb hr hlk hml hown hnm hts hB ls hl
  have hown : s.vm.findClass RX3 = some m.cls := hown
  obtain ⟨hsz, hP, hK, hD0, hEs⟩ := hB
  subst hsz
  have hD := hD0.self (sz := s.heap.size)
  generalize hAe : va_A [(hM, .inr (2, (mO hnow hthen hpast kept htx ty th at_ fa htold tolds hac hal hre hse hpl many cost br hsy))), (hnow, .inl (g 0, 253, .inl (aI S)))] s.heap.size = A at hD ⊢
  have hA : ∀ q : Nat, s.heap.size ≤ q → A q := fun q h => by rw [← hAe]; exact Or.inr h
  have hS : va_S A s.heap s.heap [] := va_S.rf
  have hl : lv_has ls 2 [(0, .ref hM), (1, .int (iI room))] := hl
  refine lv_aload_n hx hb dX3_ifGiven_0 rfl (lv_at hl 0 rfl) ?_
  refine lv_iconst (v := iI 0) hx hb dX3_ifGiven_1 rfl ?_
  refine g_put (D := G) (ci := 2) (v := .int (iI 0)) (ty := .int) (C := RX3) (T := TX3) (N := 20) (ws1 := [(hM, .inr (2, (mO hnow hthen hpast kept htx ty 0 at_ fa htold tolds hac hal hre hse hpl many cost br hsy))), (hnow, .inl (g 0, 253, .inl (aI S)))]) hx hb hts in_X3 tyX3 tyX3_ok nmX3 hown hK hP hD hS 0 rfl rfl 6 (by decide) (hts _ q1444) (fun _ h9 => h9) rfl (by decide +kernel) (rfl) (rfl) (Nat.le_of_ble_eq_true rfl) dX3_ifGiven_2 rfl (fun H locs hP hS => ?_)
  have hD : va_D A [(hM, .inr (2, (mO hnow hthen hpast kept htx ty 0 at_ fa htold tolds hac hal hre hse hpl many cost br hsy))), (hnow, .inl (g 0, 253, .inl (aI S)))] := va_Dadr hD rfl
  refine lv_aload_n hx hb dX3_ifGiven_5 rfl (lv_at hl 0 rfl) ?_
  refine va_get (D := G) (ci := 2) (v := .ref hnow) (C := RX3) (T := TX3) (N := 20) hx hb hts in_X3 hown hK hP 0 rfl rfl 0 (by decide) (hts _ q1438) (fun _ h9 => h9) rfl dX3_ifGiven_6 ?_
  refine lv_iload_n hx hb dX3_ifGiven_9 rfl (lv_at hl 1 rfl) ?_
  refine g_callS (As := [.ref hnow, .int (iI room)]) (rest := []) (m_X3_isThere l G g hnow room S r_room kS) hx hb hml hown hts Stab.tt hK hP hS hEs [1] rfl q1525 q1526 q102 q1527 hd_X3_isThere rfl rfl ⟨Nat.le_of_ble_eq_true rfl, Nat.le_of_ble_eq_true rfl⟩ rfl hl rfl (Nat.le_of_ble_eq_true rfl) ⟨Nat.le_refl _, Nat.le_refl _⟩ dX3_ifGiven_10 ?_
  refine g_ifq_eq (tgt := 24) hx hb dX3_ifGiven_13 (by decide) (fun c1 => ?_) (fun c1 => ?_)
  · refine lv_aload_n hx hb dX3_ifGiven_24 rfl (lv_at hl 0 rfl) ?_
    refine lv_iconst (v := iI 1) hx hb dX3_ifGiven_25 rfl ?_
    refine g_callVwi (As := [.int (iI 1)]) (rest := []) (m_X3_fails l G g H.size hM 1 hnow hthen hpast kept htx ty 0 at_ fa htold tolds hac hal hre hse hpl many cost br hsy ⟨by decide, by decide⟩) hx hb hml hown hts Stab.tt hA hK hP hD hS hEs [0] rfl rfl (fun _ => rfl) (q0 := 0) rfl rfl q1507 q1509 qs54 q102 q1510 hd_X3_fails rfl rfl ⟨Nat.le_of_ble_eq_true rfl, Nat.le_of_ble_eq_true rfl⟩ rfl hl rfl (Nat.le_of_ble_eq_true rfl) ⟨Nat.le_refl _, Nat.le_refl _⟩ dX3_ifGiven_26 (fun rr u H locs hp hP hS => ?_)
    have hrr : rr = (iI 0) := hp
    subst hrr
    have hP : va_P G CL [(hM, .inr (2, (mO hnow hthen hpast kept htx ty 1 at_ fa htold tolds hac hal hre hse hpl many cost br hsy))), (hnow, .inl (g 0, 253, .inl (aI S)))] H := hP
    have hD : va_D A [(hM, .inr (2, (mO hnow hthen hpast kept htx ty 1 at_ fa htold tolds hac hal hre hse hpl many cost br hsy))), (hnow, .inl (g 0, 253, .inl (aI S)))] := va_Dadr hD rfl
    refine W.widen (k := 0) (n := 0) (Nat.le_refl _) (Nat.le_refl _) ?_
    exact W.iret (v := (iI 0)) hx hb hr (fun t ht hW => ⟨⟨_, (), rfl, rfl, by rw [← ht] at hP; exact hP⟩, hS.F ht⟩) hS.2.2 dX3_ifGiven_29 hlk
  · exact False.elim (by contradiction)
set_option maxHeartbeats 1000000 in
set_option maxRecDepth 100000 in
theorem m_X3_ifGiven_0 (l : Launch) (G : va_G) (g : Nat → ClassId) (sz : Nat) (hM : Nat) (room : Int) (hnow : Nat) (hthen : Nat) (hpast : Nat) (kept : Int) (htx : Nat) (ty : Int) (th : Int) (at_ : Int) (fa : Prop) (htold : Nat) (tolds : Int) (hac : Nat) (hal : Nat) (hre : Nat) (hse : Nat) (hpl : Nat) (many : Int) (cost : Int) (br : Int) (hsy : Nat) (S : Int → Int) (S2 : Int → Int) (RE : Int → Int) (SE : Int → Prop) (PL : Int → Int) (r_room : r32 room) (kS : rgS S) (kW : rgW S) (hys : isTh S room) : Met l yX3_ifGiven (ws_ yX3_ifGiven cX3_ifGiven 2 (Option.some Jvm.ClassFile.FieldType.int)) ({ frames := 9, cells := 0, slots := 0, locals := 213 }) (va_Pc [.ref hM, .int (iI room)] (wrB G CL (TY g) (fun _ => True) [(hM, .inr (2, (mO hnow hthen hpast kept htx ty th at_ fa htold tolds hac hal hre hse hpl many cost br hsy))), (hnow, .inl (g 0, 253, .inl (aI S))), (hthen, .inl (g 0, 253, .inl (aI S2))), (hac, .inl (g 0, 4, .inl (aI dx))), (hal, .inl (g 0, 4, .inl (aI dy))), (hre, .inl (g 0, 192, .inl (aI RE))), (hse, .inl (g 1, 192, .inl (aP SE))), (hpl, .inl (g 0, 192, .inl (aI PL)))] sz)) (va_Qi (fun (r : Int32) (u : (Int → Int) × (Int → Int) × (Int → Prop) × (Int → Int) × Int × Int × Int) => r = (iI (prs (gvS S room) 2))) (fun (u : (Int → Int) × (Int → Int) × (Int → Prop) × (Int → Int) × Int × Int × Int) t => va_P G CL [(hM, .inr (2, (mO hnow hthen hpast kept htx ty 0 at_ fa htold tolds hac hal hre hse hpl u.2.2.2.2.1 u.2.2.2.2.2.1 u.2.2.2.2.2.2 hsy))), (hnow, .inl (g 0, 253, .inl (aI S))), (hthen, .inl (g 0, 253, .inl (aI u.1))), (hac, .inl (g 0, 4, .inl (aI dx))), (hal, .inl (g 0, 4, .inl (aI dy))), (hre, .inl (g 0, 192, .inl (aI u.2.1))), (hse, .inl (g 1, 192, .inl (aP u.2.2.1))), (hpl, .inl (g 0, 192, .inl (aI u.2.2.2.1)))] t.heap) (va_A [(hM, .inr (2, (mO hnow hthen hpast kept htx ty th at_ fa htold tolds hac hal hre hse hpl many cost br hsy))), (hnow, .inl (g 0, 253, .inl (aI S))), (hthen, .inl (g 0, 253, .inl (aI S2))), (hac, .inl (g 0, 4, .inl (aI dx))), (hal, .inl (g 0, 4, .inl (aI dy))), (hre, .inl (g 0, 192, .inl (aI RE))), (hse, .inl (g 1, 192, .inl (aP SE))), (hpl, .inl (g 0, 192, .inl (aI PL)))] sz)) 0 0 (va_A [(hM, .inr (2, (mO hnow hthen hpast kept htx ty th at_ fa htold tolds hac hal hre hse hpl many cost br hsy))), (hnow, .inl (g 0, 253, .inl (aI S))), (hthen, .inl (g 0, 253, .inl (aI S2))), (hac, .inl (g 0, 4, .inl (aI dx))), (hal, .inl (g 0, 4, .inl (aI dy))), (hre, .inl (g 0, 192, .inl (aI RE))), (hse, .inl (g 1, 192, .inl (aP SE))), (hpl, .inl (g 0, 192, .inl (aI PL)))] sz) := by
  refine Met.at (by decide) (Nat.le_of_ble_eq_true rfl) ?_
  intro p e s m below meth c hx hb hr hlk hml hown hnm hts hB ls hl
  have hown : s.vm.findClass RX3 = some m.cls := hown
  obtain ⟨hsz, hP, hK, hD0, hEs⟩ := hB
  subst hsz
  have hD := hD0.self (sz := s.heap.size)
  generalize hAe : va_A [(hM, .inr (2, (mO hnow hthen hpast kept htx ty th at_ fa htold tolds hac hal hre hse hpl many cost br hsy))), (hnow, .inl (g 0, 253, .inl (aI S))), (hthen, .inl (g 0, 253, .inl (aI S2))), (hac, .inl (g 0, 4, .inl (aI dx))), (hal, .inl (g 0, 4, .inl (aI dy))), (hre, .inl (g 0, 192, .inl (aI RE))), (hse, .inl (g 1, 192, .inl (aP SE))), (hpl, .inl (g 0, 192, .inl (aI PL)))] s.heap.size = A at hD ⊢
  have hA : ∀ q : Nat, s.heap.size ≤ q → A q := fun q h => by rw [← hAe]; exact Or.inr h
  have hS : va_S A s.heap s.heap [] := va_S.rf
  have hl : lv_has ls 2 [(0, .ref hM), (1, .int (iI room))] := hl
  refine lv_aload_n hx hb dX3_ifGiven_0 rfl (lv_at hl 0 rfl) ?_
  refine lv_iconst (v := iI 0) hx hb dX3_ifGiven_1 rfl ?_
  refine g_put (D := G) (ci := 2) (v := .int (iI 0)) (ty := .int) (C := RX3) (T := TX3) (N := 20) (ws1 := [(hM, .inr (2, (mO hnow hthen hpast kept htx ty 0 at_ fa htold tolds hac hal hre hse hpl many cost br hsy))), (hnow, .inl (g 0, 253, .inl (aI S))), (hthen, .inl (g 0, 253, .inl (aI S2))), (hac, .inl (g 0, 4, .inl (aI dx))), (hal, .inl (g 0, 4, .inl (aI dy))), (hre, .inl (g 0, 192, .inl (aI RE))), (hse, .inl (g 1, 192, .inl (aP SE))), (hpl, .inl (g 0, 192, .inl (aI PL)))]) hx hb hts in_X3 tyX3 tyX3_ok nmX3 hown hK hP hD hS 0 rfl rfl 6 (by decide) (hts _ q1444) (fun _ h9 => h9) rfl (by decide +kernel) (rfl) (rfl) (Nat.le_of_ble_eq_true rfl) dX3_ifGiven_2 rfl (fun H locs hP hS => ?_)
  have hD : va_D A [(hM, .inr (2, (mO hnow hthen hpast kept htx ty 0 at_ fa htold tolds hac hal hre hse hpl many cost br hsy))), (hnow, .inl (g 0, 253, .inl (aI S))), (hthen, .inl (g 0, 253, .inl (aI S2))), (hac, .inl (g 0, 4, .inl (aI dx))), (hal, .inl (g 0, 4, .inl (aI dy))), (hre, .inl (g 0, 192, .inl (aI RE))), (hse, .inl (g 1, 192, .inl (aP SE))), (hpl, .inl (g 0, 192, .inl (aI PL)))] := va_Dadr hD rfl
  refine lv_aload_n hx hb dX3_ifGiven_5 rfl (lv_at hl 0 rfl) ?_
  refine va_get (D := G) (ci := 2) (v := .ref hnow) (C := RX3) (T := TX3) (N := 20) hx hb hts in_X3 hown hK hP 0 rfl rfl 0 (by decide) (hts _ q1438) (fun _ h9 => h9) rfl dX3_ifGiven_6 ?_
  refine lv_iload_n hx hb dX3_ifGiven_9 rfl (lv_at hl 1 rfl) ?_
  refine g_callS (As := [.ref hnow, .int (iI room)]) (rest := []) (m_X3_isThere l G g hnow room S r_room kS) hx hb hml hown hts Stab.tt hK hP hS hEs [1] rfl q1525 q1526 q102 q1527 hd_X3_isThere rfl rfl ⟨Nat.le_of_ble_eq_true rfl, Nat.le_of_ble_eq_true rfl⟩ rfl hl rfl (Nat.le_of_ble_eq_true rfl) ⟨Nat.le_refl _, Nat.le_refl _⟩ dX3_ifGiven_10 ?_
  refine g_ifq_eq (tgt := 24) hx hb dX3_ifGiven_13 (by decide) (fun c1 => ?_) (fun c1 => ?_)
  · exact False.elim (by contradiction)
  · refine lv_aload_n hx hb dX3_ifGiven_16 rfl (lv_at hl 0 rfl) ?_
    refine lv_iload_n hx hb dX3_ifGiven_17 rfl (lv_at hl 1 rfl) ?_
    refine g_callVwi (As := [.int (iI room)]) (rest := []) (m_X3_without l G g H.size hM room hnow hthen hpast kept htx ty 0 at_ fa htold tolds hac hal hre hse hpl many cost br hsy S S2 RE SE PL r_room kS kW (hys.1)) hx hb hml hown hts Stab.tt hA hK hP hD hS hEs [0, 1, 2, 3, 4, 5, 6, 7] rfl rfl (fun _ => rfl) (q0 := 0) rfl rfl q1760 q1762 qs90 q102 q1763 hd_X3_without rfl rfl ⟨Nat.le_of_ble_eq_true rfl, Nat.le_of_ble_eq_true rfl⟩ rfl hl rfl (Nat.le_of_ble_eq_true rfl) ⟨Nat.le_refl _, Nat.le_refl _⟩ dX3_ifGiven_18 (fun rr u H locs hp hP hS => ?_)
    obtain ⟨T1_2, RE1_3, SE1_4, PL1_5, m1_6, c1_7, b1_8⟩ := u
    have hrr : rr = (iI (prs (gvS S room) 2)) := hp
    subst hrr
    have hP : va_P G CL [(hM, .inr (2, (mO hnow hthen hpast kept htx ty 0 at_ fa htold tolds hac hal hre hse hpl m1_6 c1_7 b1_8 hsy))), (hnow, .inl (g 0, 253, .inl (aI S))), (hthen, .inl (g 0, 253, .inl (aI T1_2))), (hac, .inl (g 0, 4, .inl (aI dx))), (hal, .inl (g 0, 4, .inl (aI dy))), (hre, .inl (g 0, 192, .inl (aI RE1_3))), (hse, .inl (g 1, 192, .inl (aP SE1_4))), (hpl, .inl (g 0, 192, .inl (aI PL1_5)))] H := hP
    have hD : va_D A [(hM, .inr (2, (mO hnow hthen hpast kept htx ty 0 at_ fa htold tolds hac hal hre hse hpl m1_6 c1_7 b1_8 hsy))), (hnow, .inl (g 0, 253, .inl (aI S))), (hthen, .inl (g 0, 253, .inl (aI T1_2))), (hac, .inl (g 0, 4, .inl (aI dx))), (hal, .inl (g 0, 4, .inl (aI dy))), (hre, .inl (g 0, 192, .inl (aI RE1_3))), (hse, .inl (g 1, 192, .inl (aP SE1_4))), (hpl, .inl (g 0, 192, .inl (aI PL1_5)))] := va_Dadr hD rfl
    refine W.widen (k := 0) (n := 0) (Nat.le_refl _) (Nat.le_refl _) ?_
    refine lv_goto (tgt := 29) hx hb dX3_ifGiven_21 (by decide) ?_
    exact W.iret (v := (iI (prs (gvS S room) 2))) hx hb hr (fun t ht hW => ⟨⟨_, (T1_2, RE1_3, SE1_4, PL1_5, m1_6, c1_7, b1_8), rfl, rfl, by rw [← ht] at hP; exact hP⟩, hS.F ht⟩) hS.2.2 dX3_ifGiven_29 hlk
theorem hd_X3_ifDug : yX3_ifDug.cls = RX3 ∧ yX3_ifDug.cls ≠ "java/lang/invoke/MethodHandle" ∧ yX3_ifDug.cls ≠ "java/lang/invoke/VarHandle" ∧ (parseMethodDescriptor yX3_ifDug.desc).map (fun d => d.parameters.length) = some 3 := by decide +kernel
set_option maxHeartbeats 1000000 in
set_option maxRecDepth 100000 in
theorem m_X3_ifDug_1 (l : Launch) (G : va_G) (g : Nat → ClassId) (sz : Nat) (hM : Nat) (x : Int) (y : Int) (what : Int) (hnow : Nat) (hthen : Nat) (hpast : Nat) (kept : Int) (htx : Nat) (ty : Int) (th : Int) (at_ : Int) (fa : Prop) (htold : Nat) (tolds : Int) (hac : Nat) (hal : Nat) (hre : Nat) (hse : Nat) (hpl : Nat) (many : Int) (cost : Int) (br : Int) (hsy : Nat) (r_x : r32 x) (r_y : r32 y) (r_what : r32 what) (hno : ¬ (isSq x y ∧ (0 ≤ what ∧ what ≤ 2))) : Met l yX3_ifDug (ws_ yX3_ifDug cX3_ifDug 4 (Option.some Jvm.ClassFile.FieldType.int)) ({ frames := 2, cells := 0, slots := 0, locals := 43 }) (va_Pc [.ref hM, .int (iI x), .int (iI y), .int (iI what)] (wrB G CL (TY g) (fun _ => True) [(hM, .inr (2, (mO hnow hthen hpast kept htx ty th at_ fa htold tolds hac hal hre hse hpl many cost br hsy)))] sz)) (va_Qi (fun (r : Int32) (u : Unit) => r = (iI 0)) (fun (u : Unit) t => va_P G CL [(hM, .inr (2, (mO hnow hthen hpast kept htx ty 1 at_ fa htold tolds hac hal hre hse hpl many cost br hsy)))] t.heap) (va_A [(hM, .inr (2, (mO hnow hthen hpast kept htx ty th at_ fa htold tolds hac hal hre hse hpl many cost br hsy)))] sz)) 0 0 (va_A [(hM, .inr (2, (mO hnow hthen hpast kept htx ty th at_ fa htold tolds hac hal hre hse hpl many cost br hsy)))] sz) := by
  refine Met.at (by decide) (Nat.le_of_ble_eq_true rfl) ?_
  intro p e s m below meth c hx hb hr hlk hml hown hnm hts hB ls hl
  have hown : s.vm.findClass RX3 = some m.cls := hown
  obtain ⟨hsz, hP, hK, hD0, hEs⟩ := hB
  subst hsz
  have hD := hD0.self (sz := s.heap.size)
  generalize hAe : va_A [(hM, .inr (2, (mO hnow hthen hpast kept htx ty th at_ fa htold tolds hac hal hre hse hpl many cost br hsy)))] s.heap.size = A at hD ⊢
  have hA : ∀ q : Nat, s.heap.size ≤ q → A q := fun q h => by rw [← hAe]; exact Or.inr h
  have hS : va_S A s.heap s.heap [] := va_S.rf
  have hl : lv_has ls 4 [(0, .ref hM), (1, .int (iI x)), (2, .int (iI y)), (3, .int (iI what))] := hl
  refine lv_aload_n hx hb dX3_ifDug_0 rfl (lv_at hl 0 rfl) ?_
  refine lv_iconst (v := iI 0) hx hb dX3_ifDug_1 rfl ?_
  refine g_put (D := G) (ci := 2) (v := .int (iI 0)) (ty := .int) (C := RX3) (T := TX3) (N := 20) (ws1 := [(hM, .inr (2, (mO hnow hthen hpast kept htx ty 0 at_ fa htold tolds hac hal hre hse hpl many cost br hsy)))]) hx hb hts in_X3 tyX3 tyX3_ok nmX3 hown hK hP hD hS 0 rfl rfl 6 (by decide) (hts _ q1444) (fun _ h9 => h9) rfl (by decide +kernel) (rfl) (rfl) (Nat.le_of_ble_eq_true rfl) dX3_ifDug_2 rfl (fun H locs hP hS => ?_)
  have hD : va_D A [(hM, .inr (2, (mO hnow hthen hpast kept htx ty 0 at_ fa htold tolds hac hal hre hse hpl many cost br hsy)))] := va_Dadr hD rfl
  refine lv_iload_n hx hb dX3_ifDug_5 rfl (lv_at hl 1 rfl) ?_
  refine lv_iload_n hx hb dX3_ifDug_6 rfl (lv_at hl 2 rfl) ?_
  refine g_callS (As := [.int (iI x), .int (iI y)]) (rest := []) (m_X3_isSquare l G g x y r_x r_y) hx hb hml hown hts Stab.tt hK hP hS hEs [] rfl q1538 q1539 q102 q1540 hd_X3_isSquare rfl rfl ⟨Nat.le_of_ble_eq_true rfl, Nat.le_of_ble_eq_true rfl⟩ rfl hl rfl (Nat.le_of_ble_eq_true rfl) ⟨Nat.le_refl _, Nat.le_refl _⟩ dX3_ifDug_7 ?_
  refine g_ifq_eq (tgt := 32) hx hb dX3_ifDug_10 (by decide) (fun c1 => ?_) (fun c1 => ?_)
  · refine lv_aload_n hx hb dX3_ifDug_32 rfl (lv_at hl 0 rfl) ?_
    refine lv_iconst (v := iI 1) hx hb dX3_ifDug_33 rfl ?_
    refine g_callVwi (As := [.int (iI 1)]) (rest := []) (m_X3_fails l G g H.size hM 1 hnow hthen hpast kept htx ty 0 at_ fa htold tolds hac hal hre hse hpl many cost br hsy ⟨by decide, by decide⟩) hx hb hml hown hts Stab.tt hA hK hP hD hS hEs [0] rfl rfl (fun _ => rfl) (q0 := 0) rfl rfl q1507 q1509 qs54 q102 q1510 hd_X3_fails rfl rfl ⟨Nat.le_of_ble_eq_true rfl, Nat.le_of_ble_eq_true rfl⟩ rfl hl rfl (Nat.le_of_ble_eq_true rfl) ⟨Nat.le_refl _, Nat.le_refl _⟩ dX3_ifDug_34 (fun rr u H locs hp hP hS => ?_)
    have hrr : rr = (iI 0) := hp
    subst hrr
    have hP : va_P G CL [(hM, .inr (2, (mO hnow hthen hpast kept htx ty 1 at_ fa htold tolds hac hal hre hse hpl many cost br hsy)))] H := hP
    have hD : va_D A [(hM, .inr (2, (mO hnow hthen hpast kept htx ty 1 at_ fa htold tolds hac hal hre hse hpl many cost br hsy)))] := va_Dadr hD rfl
    refine W.widen (k := 0) (n := 0) (Nat.le_refl _) (Nat.le_refl _) ?_
    exact W.iret (v := (iI 0)) hx hb hr (fun t ht hW => ⟨⟨_, (), rfl, rfl, by rw [← ht] at hP; exact hP⟩, hS.F ht⟩) hS.2.2 dX3_ifDug_37 hlk
  · refine lv_iload_n hx hb dX3_ifDug_13 rfl (lv_at hl 3 rfl) ?_
    refine lv_iconst (v := iI 0) hx hb dX3_ifDug_14 rfl ?_
    refine lv_iconst (v := iI 2) hx hb dX3_ifDug_15 rfl ?_
    refine g_callS (As := [.int (iI what), .int (iI 0), .int (iI 2)]) (rest := []) (m_X3_in l G g what 0 2 r_what ⟨by decide, by decide⟩ ⟨by decide, by decide⟩) hx hb hml hown hts Stab.tt hK hP hS hEs [] rfl q1518 q1519 q102 q1520 hd_X3_in rfl rfl ⟨Nat.le_of_ble_eq_true rfl, Nat.le_of_ble_eq_true rfl⟩ rfl hl rfl (Nat.le_of_ble_eq_true rfl) ⟨Nat.le_refl _, Nat.le_refl _⟩ dX3_ifDug_16 ?_
    refine g_ifq_eq (tgt := 32) hx hb dX3_ifDug_19 (by decide) (fun c2 => ?_) (fun c2 => ?_)
    · refine lv_aload_n hx hb dX3_ifDug_32 rfl (lv_at hl 0 rfl) ?_
      refine lv_iconst (v := iI 1) hx hb dX3_ifDug_33 rfl ?_
      refine g_callVwi (As := [.int (iI 1)]) (rest := []) (m_X3_fails l G g H.size hM 1 hnow hthen hpast kept htx ty 0 at_ fa htold tolds hac hal hre hse hpl many cost br hsy ⟨by decide, by decide⟩) hx hb hml hown hts Stab.tt hA hK hP hD hS hEs [0] rfl rfl (fun _ => rfl) (q0 := 0) rfl rfl q1507 q1509 qs54 q102 q1510 hd_X3_fails rfl rfl ⟨Nat.le_of_ble_eq_true rfl, Nat.le_of_ble_eq_true rfl⟩ rfl hl rfl (Nat.le_of_ble_eq_true rfl) ⟨Nat.le_refl _, Nat.le_refl _⟩ dX3_ifDug_34 (fun rr u H locs hp hP hS => ?_)
      have hrr : rr = (iI 0) := hp
      subst hrr
      have hP : va_P G CL [(hM, .inr (2, (mO hnow hthen hpast kept htx ty 1 at_ fa htold tolds hac hal hre hse hpl many cost br hsy)))] H := hP
      have hD : va_D A [(hM, .inr (2, (mO hnow hthen hpast kept htx ty 1 at_ fa htold tolds hac hal hre hse hpl many cost br hsy)))] := va_Dadr hD rfl
      refine W.widen (k := 0) (n := 0) (Nat.le_refl _) (Nat.le_refl _) ?_
      exact W.iret (v := (iI 0)) hx hb hr (fun t ht hW => ⟨⟨_, (), rfl, rfl, by rw [← ht] at hP; exact hP⟩, hS.F ht⟩) hS.2.2 dX3_ifDug_37 hlk
    · exact False.elim (by omega)
set_option maxHeartbeats 1000000 in
set_option maxRecDepth 100000 in
theorem m_X3_ifDug_0 (l : Launch) (G : va_G) (g : Nat → ClassId) (sz : Nat) (hM : Nat) (x : Int) (y : Int) (what : Int) (hnow : Nat) (hthen : Nat) (hpast : Nat) (kept : Int) (htx : Nat) (ty : Int) (th : Int) (at_ : Int) (fa : Prop) (htold : Nat) (tolds : Int) (hac : Nat) (hal : Nat) (hre : Nat) (hse : Nat) (hpl : Nat) (many : Int) (cost : Int) (br : Int) (hsy : Nat) (S : Int → Int) (S2 : Int → Int) (RE : Int → Int) (SE : Int → Prop) (PL : Int → Int) (r_x : r32 x) (r_y : r32 y) (r_what : r32 what) (kS : rgS S) (kW : rgW S) (kT : 0 ≤ S 252) (hys : isSq x y) (hw3 : 0 ≤ what ∧ what ≤ 2) : Met l yX3_ifDug (ws_ yX3_ifDug cX3_ifDug 4 (Option.some Jvm.ClassFile.FieldType.int)) ({ frames := 9, cells := 0, slots := 0, locals := 215 }) (va_Pc [.ref hM, .int (iI x), .int (iI y), .int (iI what)] (wrB G CL (TY g) (fun _ => True) [(hM, .inr (2, (mO hnow hthen hpast kept htx ty th at_ fa htold tolds hac hal hre hse hpl many cost br hsy))), (hnow, .inl (g 0, 253, .inl (aI S))), (hthen, .inl (g 0, 253, .inl (aI S2))), (hac, .inl (g 0, 4, .inl (aI dx))), (hal, .inl (g 0, 4, .inl (aI dy))), (hre, .inl (g 0, 192, .inl (aI RE))), (hse, .inl (g 1, 192, .inl (aP SE))), (hpl, .inl (g 0, 192, .inl (aI PL)))] sz)) (va_Qi (fun (r : Int32) (u : (Int → Int) × (Int → Int) × (Int → Prop) × (Int → Int) × Int × Int × Int) => r = (iI (bdV S x y what))) (fun (u : (Int → Int) × (Int → Int) × (Int → Prop) × (Int → Int) × Int × Int × Int) t => va_P G CL [(hM, .inr (2, (mO hnow hthen hpast kept htx ty 0 at_ fa htold tolds hac hal hre hse hpl u.2.2.2.2.1 u.2.2.2.2.2.1 u.2.2.2.2.2.2 hsy))), (hnow, .inl (g 0, 253, .inl (aI S))), (hthen, .inl (g 0, 253, .inl (aI u.1))), (hac, .inl (g 0, 4, .inl (aI dx))), (hal, .inl (g 0, 4, .inl (aI dy))), (hre, .inl (g 0, 192, .inl (aI u.2.1))), (hse, .inl (g 1, 192, .inl (aP u.2.2.1))), (hpl, .inl (g 0, 192, .inl (aI u.2.2.2.1)))] t.heap) (va_A [(hM, .inr (2, (mO hnow hthen hpast kept htx ty th at_ fa htold tolds hac hal hre hse hpl many cost br hsy))), (hnow, .inl (g 0, 253, .inl (aI S))), (hthen, .inl (g 0, 253, .inl (aI S2))), (hac, .inl (g 0, 4, .inl (aI dx))), (hal, .inl (g 0, 4, .inl (aI dy))), (hre, .inl (g 0, 192, .inl (aI RE))), (hse, .inl (g 1, 192, .inl (aP SE))), (hpl, .inl (g 0, 192, .inl (aI PL)))] sz)) 0 0 (va_A [(hM, .inr (2, (mO hnow hthen hpast kept htx ty th at_ fa htold tolds hac hal hre hse hpl many cost br hsy))), (hnow, .inl (g 0, 253, .inl (aI S))), (hthen, .inl (g 0, 253, .inl (aI S2))), (hac, .inl (g 0, 4, .inl (aI dx))), (hal, .inl (g 0, 4, .inl (aI dy))), (hre, .inl (g 0, 192, .inl (aI RE))), (hse, .inl (g 1, 192, .inl (aP SE))), (hpl, .inl (g 0, 192, .inl (aI PL)))] sz) := by
  refine Met.at (by decide) (Nat.le_of_ble_eq_true rfl) ?_
  intro p e s m below meth c hx hb hr hlk hml hown hnm hts hB ls hl
  have hown : s.vm.findClass RX3 = some m.cls := hown
  obtain ⟨hsz, hP, hK, hD0, hEs⟩ := hB
  subst hsz
  have hD := hD0.self (sz := s.heap.size)
  generalize hAe : va_A [(hM, .inr (2, (mO hnow hthen hpast kept htx ty th at_ fa htold tolds hac hal hre hse hpl many cost br hsy))), (hnow, .inl (g 0, 253, .inl (aI S))), (hthen, .inl (g 0, 253, .inl (aI S2))), (hac, .inl (g 0, 4, .inl (aI dx))), (hal, .inl (g 0, 4, .inl (aI dy))), (hre, .inl (g 0, 192, .inl (aI RE))), (hse, .inl (g 1, 192, .inl (aP SE))), (hpl, .inl (g 0, 192, .inl (aI PL)))] s.heap.size = A at hD ⊢
  have hA : ∀ q : Nat, s.heap.size ≤ q → A q := fun q h => by rw [← hAe]; exact Or.inr h
  have hS : va_S A s.heap s.heap [] := va_S.rf
  have hl : lv_has ls 4 [(0, .ref hM), (1, .int (iI x)), (2, .int (iI y)), (3, .int (iI what))] := hl
  refine lv_aload_n hx hb dX3_ifDug_0 rfl (lv_at hl 0 rfl) ?_
  refine lv_iconst (v := iI 0) hx hb dX3_ifDug_1 rfl ?_
  refine g_put (D := G) (ci := 2) (v := .int (iI 0)) (ty := .int) (C := RX3) (T := TX3) (N := 20) (ws1 := [(hM, .inr (2, (mO hnow hthen hpast kept htx ty 0 at_ fa htold tolds hac hal hre hse hpl many cost br hsy))), (hnow, .inl (g 0, 253, .inl (aI S))), (hthen, .inl (g 0, 253, .inl (aI S2))), (hac, .inl (g 0, 4, .inl (aI dx))), (hal, .inl (g 0, 4, .inl (aI dy))), (hre, .inl (g 0, 192, .inl (aI RE))), (hse, .inl (g 1, 192, .inl (aP SE))), (hpl, .inl (g 0, 192, .inl (aI PL)))]) hx hb hts in_X3 tyX3 tyX3_ok nmX3 hown hK hP hD hS 0 rfl rfl 6 (by decide) (hts _ q1444) (fun _ h9 => h9) rfl (by decide +kernel) (rfl) (rfl) (Nat.le_of_ble_eq_true rfl) dX3_ifDug_2 rfl (fun H locs hP hS => ?_)
  have hD : va_D A [(hM, .inr (2, (mO hnow hthen hpast kept htx ty 0 at_ fa htold tolds hac hal hre hse hpl many cost br hsy))), (hnow, .inl (g 0, 253, .inl (aI S))), (hthen, .inl (g 0, 253, .inl (aI S2))), (hac, .inl (g 0, 4, .inl (aI dx))), (hal, .inl (g 0, 4, .inl (aI dy))), (hre, .inl (g 0, 192, .inl (aI RE))), (hse, .inl (g 1, 192, .inl (aP SE))), (hpl, .inl (g 0, 192, .inl (aI PL)))] := va_Dadr hD rfl
  refine lv_iload_n hx hb dX3_ifDug_5 rfl (lv_at hl 1 rfl) ?_
  refine lv_iload_n hx hb dX3_ifDug_6 rfl (lv_at hl 2 rfl) ?_
  refine g_callS (As := [.int (iI x), .int (iI y)]) (rest := []) (m_X3_isSquare l G g x y r_x r_y) hx hb hml hown hts Stab.tt hK hP hS hEs [] rfl q1538 q1539 q102 q1540 hd_X3_isSquare rfl rfl ⟨Nat.le_of_ble_eq_true rfl, Nat.le_of_ble_eq_true rfl⟩ rfl hl rfl (Nat.le_of_ble_eq_true rfl) ⟨Nat.le_refl _, Nat.le_refl _⟩ dX3_ifDug_7 ?_
  refine g_ifq_eq (tgt := 32) hx hb dX3_ifDug_10 (by decide) (fun c1 => ?_) (fun c1 => ?_)
  · exact False.elim (by contradiction)
  · refine lv_iload_n hx hb dX3_ifDug_13 rfl (lv_at hl 3 rfl) ?_
    refine lv_iconst (v := iI 0) hx hb dX3_ifDug_14 rfl ?_
    refine lv_iconst (v := iI 2) hx hb dX3_ifDug_15 rfl ?_
    refine g_callS (As := [.int (iI what), .int (iI 0), .int (iI 2)]) (rest := []) (m_X3_in l G g what 0 2 r_what ⟨by decide, by decide⟩ ⟨by decide, by decide⟩) hx hb hml hown hts Stab.tt hK hP hS hEs [] rfl q1518 q1519 q102 q1520 hd_X3_in rfl rfl ⟨Nat.le_of_ble_eq_true rfl, Nat.le_of_ble_eq_true rfl⟩ rfl hl rfl (Nat.le_of_ble_eq_true rfl) ⟨Nat.le_refl _, Nat.le_refl _⟩ dX3_ifDug_16 ?_
    refine g_ifq_eq (tgt := 32) hx hb dX3_ifDug_19 (by decide) (fun c2 => ?_) (fun c2 => ?_)
    · exact False.elim (by contradiction)
    · refine lv_aload_n hx hb dX3_ifDug_22 rfl (lv_at hl 0 rfl) ?_
      refine lv_iload_n hx hb dX3_ifDug_23 rfl (lv_at hl 1 rfl) ?_
      refine lv_iload_n hx hb dX3_ifDug_24 rfl (lv_at hl 2 rfl) ?_
      refine lv_iload_n hx hb dX3_ifDug_25 rfl (lv_at hl 3 rfl) ?_
      refine g_callVwi (As := [.int (iI x), .int (iI y), .int (iI what)]) (rest := []) (m_X3_byDigging l G g H.size hM x y what hnow hthen hpast kept htx ty 0 at_ fa htold tolds hac hal hre hse hpl many cost br hsy S S2 RE SE PL r_x r_y r_what kS kW kT (by omega) (by omega) hw3) hx hb hml hown hts Stab.tt hA hK hP hD hS hEs [0, 1, 2, 3, 4, 5, 6, 7] rfl rfl (fun _ => rfl) (q0 := 0) rfl rfl q1748 q1750 qs88 q102 q1751 hd_X3_byDigging rfl rfl ⟨Nat.le_of_ble_eq_true rfl, Nat.le_of_ble_eq_true rfl⟩ rfl hl rfl (Nat.le_of_ble_eq_true rfl) ⟨Nat.le_refl _, Nat.le_refl _⟩ dX3_ifDug_26 (fun rr u H locs hp hP hS => ?_)
      obtain ⟨T1_3, RE1_4, SE1_5, PL1_6, m1_7, c1_8, b1_9⟩ := u
      have hrr : rr = (iI (bdV S x y what)) := hp
      subst hrr
      have hP : va_P G CL [(hM, .inr (2, (mO hnow hthen hpast kept htx ty 0 at_ fa htold tolds hac hal hre hse hpl m1_7 c1_8 b1_9 hsy))), (hnow, .inl (g 0, 253, .inl (aI S))), (hthen, .inl (g 0, 253, .inl (aI T1_3))), (hac, .inl (g 0, 4, .inl (aI dx))), (hal, .inl (g 0, 4, .inl (aI dy))), (hre, .inl (g 0, 192, .inl (aI RE1_4))), (hse, .inl (g 1, 192, .inl (aP SE1_5))), (hpl, .inl (g 0, 192, .inl (aI PL1_6)))] H := hP
      have hD : va_D A [(hM, .inr (2, (mO hnow hthen hpast kept htx ty 0 at_ fa htold tolds hac hal hre hse hpl m1_7 c1_8 b1_9 hsy))), (hnow, .inl (g 0, 253, .inl (aI S))), (hthen, .inl (g 0, 253, .inl (aI T1_3))), (hac, .inl (g 0, 4, .inl (aI dx))), (hal, .inl (g 0, 4, .inl (aI dy))), (hre, .inl (g 0, 192, .inl (aI RE1_4))), (hse, .inl (g 1, 192, .inl (aP SE1_5))), (hpl, .inl (g 0, 192, .inl (aI PL1_6)))] := va_Dadr hD rfl
      refine W.widen (k := 0) (n := 0) (Nat.le_refl _) (Nat.le_refl _) ?_
      refine lv_goto (tgt := 37) hx hb dX3_ifDug_29 (by decide) ?_
      exact W.iret (v := (iI (bdV S x y what))) hx hb hr (fun t ht hW => ⟨⟨_, (T1_3, RE1_4, SE1_5, PL1_6, m1_7, c1_8, b1_9), rfl, rfl, by rw [← ht] at hP; exact hP⟩, hS.F ht⟩) hS.2.2 dX3_ifDug_37 hlk
theorem hd_X3_count : yX3_count.cls = RX3 ∧ yX3_count.cls ≠ "java/lang/invoke/MethodHandle" ∧ yX3_count.cls ≠ "java/lang/invoke/VarHandle" ∧ (parseMethodDescriptor yX3_count.desc).map (fun d => d.parameters.length) = some 1 := by decide +kernel
set_option maxHeartbeats 1000000 in
set_option maxRecDepth 100000 in
theorem m_X3_count_1 (l : Launch) (G : va_G) (g : Nat → ClassId) (sz : Nat) (hM : Nat) (what : Int) (hnow : Nat) (hthen : Nat) (hpast : Nat) (kept : Int) (htx : Nat) (ty : Int) (th : Int) (at_ : Int) (fa : Prop) (htold : Nat) (tolds : Int) (hac : Nat) (hal : Nat) (hre : Nat) (hse : Nat) (hpl : Nat) (many : Int) (cost : Int) (br : Int) (hsy : Nat) (r_what : r32 what) (hno : ¬ (0 ≤ what ∧ what ≤ 8)) : Met l yX3_count (ws_ yX3_count cX3_count 2 (Option.some Jvm.ClassFile.FieldType.int)) ({ frames := 1, cells := 0, slots := 0, locals := 22 }) (va_Pc [.ref hM, .int (iI what)] (wrB G CL (TY g) (fun _ => True) [(hM, .inr (2, (mO hnow hthen hpast kept htx ty th at_ fa htold tolds hac hal hre hse hpl many cost br hsy)))] sz)) (va_Qi (fun (r : Int32) (u : Unit) => r = (iI 0)) (fun (u : Unit) t => va_P G CL [(hM, .inr (2, (mO hnow hthen hpast kept htx ty 1 at_ fa htold tolds hac hal hre hse hpl many cost br hsy)))] t.heap) (va_A [(hM, .inr (2, (mO hnow hthen hpast kept htx ty th at_ fa htold tolds hac hal hre hse hpl many cost br hsy)))] sz)) 0 0 (va_A [(hM, .inr (2, (mO hnow hthen hpast kept htx ty th at_ fa htold tolds hac hal hre hse hpl many cost br hsy)))] sz) := by
  refine Met.at (by decide) (Nat.le_of_ble_eq_true rfl) ?_
  intro p e s m below meth c hx hb hr hlk hml hown hnm hts hB ls hl
  have hown : s.vm.findClass RX3 = some m.cls := hown
  obtain ⟨hsz, hP, hK, hD0, hEs⟩ := hB
  subst hsz
  have hD := hD0.self (sz := s.heap.size)
  generalize hAe : va_A [(hM, .inr (2, (mO hnow hthen hpast kept htx ty th at_ fa htold tolds hac hal hre hse hpl many cost br hsy)))] s.heap.size = A at hD ⊢
  have hA : ∀ q : Nat, s.heap.size ≤ q → A q := fun q h => by rw [← hAe]; exact Or.inr h
  have hS : va_S A s.heap s.heap [] := va_S.rf
  have hl : lv_has ls 2 [(0, .ref hM), (1, .int (iI what))] := hl
  refine lv_aload_n hx hb dX3_count_0 rfl (lv_at hl 0 rfl) ?_
  refine lv_iconst (v := iI 0) hx hb dX3_count_1 rfl ?_
  refine g_put (D := G) (ci := 2) (v := .int (iI 0)) (ty := .int) (C := RX3) (T := TX3) (N := 20) (ws1 := [(hM, .inr (2, (mO hnow hthen hpast kept htx ty 0 at_ fa htold tolds hac hal hre hse hpl many cost br hsy)))]) hx hb hts in_X3 tyX3 tyX3_ok nmX3 hown hK hP hD hS 0 rfl rfl 6 (by decide) (hts _ q1444) (fun _ h9 => h9) rfl (by decide +kernel) (rfl) (rfl) (Nat.le_of_ble_eq_true rfl) dX3_count_2 rfl (fun H locs hP hS => ?_)
  have hD : va_D A [(hM, .inr (2, (mO hnow hthen hpast kept htx ty 0 at_ fa htold tolds hac hal hre hse hpl many cost br hsy)))] := va_Dadr hD rfl
  refine lv_iload_n hx hb dX3_count_5 rfl (lv_at hl 1 rfl) ?_
  refine lv_iconst (v := iI 0) hx hb dX3_count_6 rfl ?_
  refine lv_bipush (v := iI 8) hx hb dX3_count_7 rfl ?_
  refine g_callS (As := [.int (iI what), .int (iI 0), .int (iI 8)]) (rest := []) (m_X3_in l G g what 0 8 r_what ⟨by decide, by decide⟩ ⟨by decide, by decide⟩) hx hb hml hown hts Stab.tt hK hP hS hEs [] rfl q1518 q1519 q102 q1520 hd_X3_in rfl rfl ⟨Nat.le_of_ble_eq_true rfl, Nat.le_of_ble_eq_true rfl⟩ rfl hl rfl (Nat.le_of_ble_eq_true rfl) ⟨Nat.le_refl _, Nat.le_refl _⟩ dX3_count_9 ?_
  refine g_ifq_eq (tgt := 23) hx hb dX3_count_12 (by decide) (fun c1 => ?_) (fun c1 => ?_)
  · refine lv_aload_n hx hb dX3_count_23 rfl (lv_at hl 0 rfl) ?_
    refine lv_iconst (v := iI 1) hx hb dX3_count_24 rfl ?_
    refine g_callVwi (As := [.int (iI 1)]) (rest := []) (m_X3_fails l G g H.size hM 1 hnow hthen hpast kept htx ty 0 at_ fa htold tolds hac hal hre hse hpl many cost br hsy ⟨by decide, by decide⟩) hx hb hml hown hts Stab.tt hA hK hP hD hS hEs [0] rfl rfl (fun _ => rfl) (q0 := 0) rfl rfl q1507 q1509 qs54 q102 q1510 hd_X3_fails rfl rfl ⟨Nat.le_of_ble_eq_true rfl, Nat.le_of_ble_eq_true rfl⟩ rfl hl rfl (Nat.le_of_ble_eq_true rfl) ⟨Nat.le_refl _, Nat.le_refl _⟩ dX3_count_25 (fun rr u H locs hp hP hS => ?_)
    have hrr : rr = (iI 0) := hp
    subst hrr
    have hP : va_P G CL [(hM, .inr (2, (mO hnow hthen hpast kept htx ty 1 at_ fa htold tolds hac hal hre hse hpl many cost br hsy)))] H := hP
    have hD : va_D A [(hM, .inr (2, (mO hnow hthen hpast kept htx ty 1 at_ fa htold tolds hac hal hre hse hpl many cost br hsy)))] := va_Dadr hD rfl
    refine W.widen (k := 0) (n := 0) (Nat.le_refl _) (Nat.le_refl _) ?_
    exact W.iret (v := (iI 0)) hx hb hr (fun t ht hW => ⟨⟨_, (), rfl, rfl, by rw [← ht] at hP; exact hP⟩, hS.F ht⟩) hS.2.2 dX3_count_28 hlk
  · exact False.elim (by contradiction)
set_option maxHeartbeats 1000000 in
set_option maxRecDepth 100000 in
theorem m_X3_count_0 (l : Launch) (G : va_G) (g : Nat → ClassId) (sz : Nat) (hM : Nat) (what : Int) (hnow : Nat) (hthen : Nat) (hpast : Nat) (kept : Int) (htx : Nat) (ty : Int) (th : Int) (at_ : Int) (fa : Prop) (htold : Nat) (tolds : Int) (hac : Nat) (hal : Nat) (hre : Nat) (hse : Nat) (hpl : Nat) (many : Int) (cost : Int) (br : Int) (hsy : Nat) (S : Int → Int) (RE : Int → Int) (SE : Int → Prop) (PL : Int → Int) (r_what : r32 what) (kS : rgS S) (kW : rgW S) (kT : 0 ≤ S 252) (hw9 : 0 ≤ what ∧ what ≤ 8) : Met l yX3_count (ws_ yX3_count cX3_count 2 (Option.some Jvm.ClassFile.FieldType.int)) ({ frames := 9, cells := 0, slots := 0, locals := 213 }) (va_Pc [.ref hM, .int (iI what)] (wrB G CL (TY g) (fun _ => True) [(hM, .inr (2, (mO hnow hthen hpast kept htx ty th at_ fa htold tolds hac hal hre hse hpl many cost br hsy))), (hnow, .inl (g 0, 253, .inl (aI S))), (hac, .inl (g 0, 4, .inl (aI dx))), (hal, .inl (g 0, 4, .inl (aI dy))), (hre, .inl (g 0, 192, .inl (aI RE))), (hse, .inl (g 1, 192, .inl (aP SE))), (hpl, .inl (g 0, 192, .inl (aI PL)))] sz)) (va_Qi (fun (r : Int32) (u : (Int → Int) × (Int → Prop) × (Int → Int) × Int × Int × Int) => r = (iI (cntV S kept what))) (fun (u : (Int → Int) × (Int → Prop) × (Int → Int) × Int × Int × Int) t => va_P G CL [(hM, .inr (2, (mO hnow hthen hpast kept htx ty 0 at_ fa htold tolds hac hal hre hse hpl u.2.2.2.1 u.2.2.2.2.1 u.2.2.2.2.2 hsy))), (hnow, .inl (g 0, 253, .inl (aI S))), (hac, .inl (g 0, 4, .inl (aI dx))), (hal, .inl (g 0, 4, .inl (aI dy))), (hre, .inl (g 0, 192, .inl (aI u.1))), (hse, .inl (g 1, 192, .inl (aP u.2.1))), (hpl, .inl (g 0, 192, .inl (aI u.2.2.1)))] t.heap) (va_A [(hM, .inr (2, (mO hnow hthen hpast kept htx ty th at_ fa htold tolds hac hal hre hse hpl many cost br hsy))), (hnow, .inl (g 0, 253, .inl (aI S))), (hac, .inl (g 0, 4, .inl (aI dx))), (hal, .inl (g 0, 4, .inl (aI dy))), (hre, .inl (g 0, 192, .inl (aI RE))), (hse, .inl (g 1, 192, .inl (aP SE))), (hpl, .inl (g 0, 192, .inl (aI PL)))] sz)) 0 0 (va_A [(hM, .inr (2, (mO hnow hthen hpast kept htx ty th at_ fa htold tolds hac hal hre hse hpl many cost br hsy))), (hnow, .inl (g 0, 253, .inl (aI S))), (hac, .inl (g 0, 4, .inl (aI dx))), (hal, .inl (g 0, 4, .inl (aI dy))), (hre, .inl (g 0, 192, .inl (aI RE))), (hse, .inl (g 1, 192, .inl (aP SE))), (hpl, .inl (g 0, 192, .inl (aI PL)))] sz) := by
  refine Met.at (by decide) (Nat.le_of_ble_eq_true rfl) ?_
  intro p e s m below meth c hx hb hr hlk hml hown hnm hts hB ls hl
  have hown : s.vm.findClass RX3 = some m.cls := hown
  obtain ⟨hsz, hP, hK, hD0, hEs⟩ := hB
  subst hsz
  have hD := hD0.self (sz := s.heap.size)
  generalize hAe : va_A [(hM, .inr (2, (mO hnow hthen hpast kept htx ty th at_ fa htold tolds hac hal hre hse hpl many cost br hsy))), (hnow, .inl (g 0, 253, .inl (aI S))), (hac, .inl (g 0, 4, .inl (aI dx))), (hal, .inl (g 0, 4, .inl (aI dy))), (hre, .inl (g 0, 192, .inl (aI RE))), (hse, .inl (g 1, 192, .inl (aP SE))), (hpl, .inl (g 0, 192, .inl (aI PL)))] s.heap.size = A at hD ⊢
  have hA : ∀ q : Nat, s.heap.size ≤ q → A q := fun q h => by rw [← hAe]; exact Or.inr h
  have hS : va_S A s.heap s.heap [] := va_S.rf
  have hl : lv_has ls 2 [(0, .ref hM), (1, .int (iI what))] := hl
  refine lv_aload_n hx hb dX3_count_0 rfl (lv_at hl 0 rfl) ?_
  refine lv_iconst (v := iI 0) hx hb dX3_count_1 rfl ?_
  refine g_put (D := G) (ci := 2) (v := .int (iI 0)) (ty := .int) (C := RX3) (T := TX3) (N := 20) (ws1 := [(hM, .inr (2, (mO hnow hthen hpast kept htx ty 0 at_ fa htold tolds hac hal hre hse hpl many cost br hsy))), (hnow, .inl (g 0, 253, .inl (aI S))), (hac, .inl (g 0, 4, .inl (aI dx))), (hal, .inl (g 0, 4, .inl (aI dy))), (hre, .inl (g 0, 192, .inl (aI RE))), (hse, .inl (g 1, 192, .inl (aP SE))), (hpl, .inl (g 0, 192, .inl (aI PL)))]) hx hb hts in_X3 tyX3 tyX3_ok nmX3 hown hK hP hD hS 0 rfl rfl 6 (by decide) (hts _ q1444) (fun _ h9 => h9) rfl (by decide +kernel) (rfl) (rfl) (Nat.le_of_ble_eq_true rfl) dX3_count_2 rfl (fun H locs hP hS => ?_)
  have hD : va_D A [(hM, .inr (2, (mO hnow hthen hpast kept htx ty 0 at_ fa htold tolds hac hal hre hse hpl many cost br hsy))), (hnow, .inl (g 0, 253, .inl (aI S))), (hac, .inl (g 0, 4, .inl (aI dx))), (hal, .inl (g 0, 4, .inl (aI dy))), (hre, .inl (g 0, 192, .inl (aI RE))), (hse, .inl (g 1, 192, .inl (aP SE))), (hpl, .inl (g 0, 192, .inl (aI PL)))] := va_Dadr hD rfl
  refine lv_iload_n hx hb dX3_count_5 rfl (lv_at hl 1 rfl) ?_
  refine lv_iconst (v := iI 0) hx hb dX3_count_6 rfl ?_
  refine lv_bipush (v := iI 8) hx hb dX3_count_7 rfl ?_
  refine g_callS (As := [.int (iI what), .int (iI 0), .int (iI 8)]) (rest := []) (m_X3_in l G g what 0 8 r_what ⟨by decide, by decide⟩ ⟨by decide, by decide⟩) hx hb hml hown hts Stab.tt hK hP hS hEs [] rfl q1518 q1519 q102 q1520 hd_X3_in rfl rfl ⟨Nat.le_of_ble_eq_true rfl, Nat.le_of_ble_eq_true rfl⟩ rfl hl rfl (Nat.le_of_ble_eq_true rfl) ⟨Nat.le_refl _, Nat.le_refl _⟩ dX3_count_9 ?_
  refine g_ifq_eq (tgt := 23) hx hb dX3_count_12 (by decide) (fun c1 => ?_) (fun c1 => ?_)
  · exact False.elim (by contradiction)
  · refine lv_aload_n hx hb dX3_count_15 rfl (lv_at hl 0 rfl) ?_
    refine lv_iload_n hx hb dX3_count_16 rfl (lv_at hl 1 rfl) ?_
    refine g_callVwi (As := [.int (iI what)]) (rest := []) (m_X3_counted l G g H.size hM what hnow hthen hpast kept htx ty 0 at_ fa htold tolds hac hal hre hse hpl many cost br hsy S RE SE PL r_what kS kW kT hw9) hx hb hml hown hts Stab.tt hA hK hP hD hS hEs [0, 1, 2, 3, 4, 5, 6] rfl rfl (fun _ => rfl) (q0 := 0) rfl rfl q1725 q1727 qs84 q102 q1728 hd_X3_counted rfl rfl ⟨Nat.le_of_ble_eq_true rfl, Nat.le_of_ble_eq_true rfl⟩ rfl hl rfl (Nat.le_of_ble_eq_true rfl) ⟨Nat.le_refl _, Nat.le_refl _⟩ dX3_count_17 (fun rr u H locs hp hP hS => ?_)
    obtain ⟨RE1_2, SE1_3, PL1_4, m1_5, c1_6, b1_7⟩ := u
    have hrr : rr = (iI (cntV S kept what)) := hp
    subst hrr
    have hP : va_P G CL [(hM, .inr (2, (mO hnow hthen hpast kept htx ty 0 at_ fa htold tolds hac hal hre hse hpl m1_5 c1_6 b1_7 hsy))), (hnow, .inl (g 0, 253, .inl (aI S))), (hac, .inl (g 0, 4, .inl (aI dx))), (hal, .inl (g 0, 4, .inl (aI dy))), (hre, .inl (g 0, 192, .inl (aI RE1_2))), (hse, .inl (g 1, 192, .inl (aP SE1_3))), (hpl, .inl (g 0, 192, .inl (aI PL1_4)))] H := hP
    have hD : va_D A [(hM, .inr (2, (mO hnow hthen hpast kept htx ty 0 at_ fa htold tolds hac hal hre hse hpl m1_5 c1_6 b1_7 hsy))), (hnow, .inl (g 0, 253, .inl (aI S))), (hac, .inl (g 0, 4, .inl (aI dx))), (hal, .inl (g 0, 4, .inl (aI dy))), (hre, .inl (g 0, 192, .inl (aI RE1_2))), (hse, .inl (g 1, 192, .inl (aP SE1_3))), (hpl, .inl (g 0, 192, .inl (aI PL1_4)))] := va_Dadr hD rfl
    refine W.widen (k := 0) (n := 0) (Nat.le_refl _) (Nat.le_refl _) ?_
    refine lv_goto (tgt := 28) hx hb dX3_count_20 (by decide) ?_
    exact W.iret (v := (iI (cntV S kept what))) hx hb hr (fun t ht hW => ⟨⟨_, (RE1_2, SE1_3, PL1_4, m1_5, c1_6, b1_7), rfl, rfl, by rw [← ht] at hP; exact hP⟩, hS.F ht⟩) hS.2.2 dX3_count_28 hlk
theorem hd_X3_way : yX3_way.cls = RX3 ∧ yX3_way.cls ≠ "java/lang/invoke/MethodHandle" ∧ yX3_way.cls ≠ "java/lang/invoke/VarHandle" ∧ (parseMethodDescriptor yX3_way.desc).map (fun d => d.parameters.length) = some 3 := by decide +kernel
set_option maxHeartbeats 1000000 in
set_option maxRecDepth 100000 in
theorem m_X3_way_x (l : Launch) (G : va_G) (g : Nat → ClassId) (sz : Nat) (hM : Nat) (one : Int) (other : Int) (what : Int) (hnow : Nat) (hthen : Nat) (hpast : Nat) (kept : Int) (htx : Nat) (ty : Int) (th : Int) (at_ : Int) (fa : Prop) (htold : Nat) (tolds : Int) (hac : Nat) (hal : Nat) (hre : Nat) (hse : Nat) (hpl : Nat) (many : Int) (cost : Int) (br : Int) (hsy : Nat) (S : Int → Int) (r_one : r32 one) (r_other : r32 other) (r_what : r32 what) (kS : rgS S) (hno : ¬ mayV S one other (0 ≤ what ∧ what ≤ 4) = 0) : Met l yX3_way (ws_ yX3_way cX3_way 4 (Option.some Jvm.ClassFile.FieldType.int)) ({ frames := 3, cells := 0, slots := 0, locals := 66 }) (va_Pc [.ref hM, .int (iI one), .int (iI other), .int (iI what)] (wrB G CL (TY g) (fun _ => True) [(hM, .inr (2, (mO hnow hthen hpast kept htx ty th at_ fa htold tolds hac hal hre hse hpl many cost br hsy))), (hnow, .inl (g 0, 253, .inl (aI S)))] sz)) (va_Qi (fun (r : Int32) (u : Unit) => r = (iI 0)) (fun (u : Unit) t => va_P G CL [(hM, .inr (2, (mO hnow hthen hpast kept htx ty (mayV S one other (0 ≤ what ∧ what ≤ 4)) at_ fa htold tolds hac hal hre hse hpl many cost br hsy))), (hnow, .inl (g 0, 253, .inl (aI S)))] t.heap) (va_A [(hM, .inr (2, (mO hnow hthen hpast kept htx ty th at_ fa htold tolds hac hal hre hse hpl many cost br hsy))), (hnow, .inl (g 0, 253, .inl (aI S)))] sz)) 0 0 (va_A [(hM, .inr (2, (mO hnow hthen hpast kept htx ty th at_ fa htold tolds hac hal hre hse hpl many cost br hsy))), (hnow, .inl (g 0, 253, .inl (aI S)))] sz) := by
  refine Met.at (by decide) (Nat.le_of_ble_eq_true rfl) ?_
  intro p e s m below meth c hx hb hr hlk hml hown hnm hts hB ls hl
  have hown : s.vm.findClass RX3 = some m.cls := hown
  obtain ⟨hsz, hP, hK, hD0, hEs⟩ := hB
  subst hsz
  have hD := hD0.self (sz := s.heap.size)
  generalize hAe : va_A [(hM, .inr (2, (mO hnow hthen hpast kept htx ty th at_ fa htold tolds hac hal hre hse hpl many cost br hsy))), (hnow, .inl (g 0, 253, .inl (aI S)))] s.heap.size = A at hD ⊢
  have hA : ∀ q : Nat, s.heap.size ≤ q → A q := fun q h => by rw [← hAe]; exact Or.inr h
  have hS : va_S A s.heap s.heap [] := va_S.rf
  have hl : lv_has ls 4 [(0, .ref hM), (1, .int (iI one)), (2, .int (iI other)), (3, .int (iI what))] := hl
  refine lv_aload_n hx hb dX3_way_0 rfl (lv_at hl 0 rfl) ?_
  refine lv_aload_n hx hb dX3_way_1 rfl (lv_at hl 0 rfl) ?_
  refine lv_iload_n hx hb dX3_way_2 rfl (lv_at hl 1 rfl) ?_
  refine lv_iload_n hx hb dX3_way_3 rfl (lv_at hl 2 rfl) ?_
  refine lv_iload_n hx hb dX3_way_4 rfl (lv_at hl 3 rfl) ?_
  refine lv_iconst (v := iI 0) hx hb dX3_way_5 rfl ?_
  refine lv_iconst (v := iI 4) hx hb dX3_way_6 rfl ?_
  refine g_callS (As := [.int (iI what), .int (iI 0), .int (iI 4)]) (rest := [.int (iI other), .int (iI one), .ref hM, .ref hM]) (m_X3_in l G g what 0 4 r_what ⟨by decide, by decide⟩ ⟨by decide, by decide⟩) hx hb hml hown hts Stab.tt hK hP hS hEs [] rfl q1518 q1519 q102 q1520 hd_X3_in rfl rfl ⟨Nat.le_of_ble_eq_true rfl, Nat.le_of_ble_eq_true rfl⟩ rfl hl rfl (Nat.le_of_ble_eq_true rfl) ⟨Nat.le_refl _, Nat.le_refl _⟩ dX3_way_7 ?_
  refine g_callV (As := [.int (iI one), .int (iI other), .int (iI (qz (0 ≤ what ∧ what ≤ 4)))]) (rest := [.ref hM]) (m_X3_may l G g hM one other (0 ≤ what ∧ what ≤ 4) (mO hnow hthen hpast kept htx ty th at_ fa htold tolds hac hal hre hse hpl many cost br hsy) hnow S rfl r_one r_other kS) hx hb hml hown hts Stab.tt hK hP hS hEs [0, 1] rfl (q0 := 0) rfl rfl q1556 q1558 qs58 q102 q1559 hd_X3_may rfl rfl ⟨Nat.le_of_ble_eq_true rfl, Nat.le_of_ble_eq_true rfl⟩ rfl hl rfl (Nat.le_of_ble_eq_true rfl) ⟨Nat.le_refl _, Nat.le_refl _⟩ dX3_way_10 ?_
  have w1 := may_rng S one other (0 ≤ what ∧ what ≤ 4)
  refine g_put (D := G) (ci := 2) (v := .int (iI (mayV S one other (0 ≤ what ∧ what ≤ 4)))) (ty := .int) (C := RX3) (T := TX3) (N := 20) (ws1 := [(hM, .inr (2, (mO hnow hthen hpast kept htx ty (mayV S one other (0 ≤ what ∧ what ≤ 4)) at_ fa htold tolds hac hal hre hse hpl many cost br hsy))), (hnow, .inl (g 0, 253, .inl (aI S)))]) hx hb hts in_X3 tyX3 tyX3_ok nmX3 hown hK hP hD hS 0 rfl rfl 6 (by decide) (hts _ q1444) (fun _ h9 => h9) rfl (by decide +kernel) (rfl) (rfl) (Nat.le_of_ble_eq_true rfl) dX3_way_13 rfl (fun H locs hP hS => ?_)
  have hD : va_D A [(hM, .inr (2, (mO hnow hthen hpast kept htx ty (mayV S one other (0 ≤ what ∧ what ≤ 4)) at_ fa htold tolds hac hal hre hse hpl many cost br hsy))), (hnow, .inl (g 0, 253, .inl (aI S)))] := va_Dadr hD rfl
  refine lv_aload_n hx hb dX3_way_16 rfl (lv_at hl 0 rfl) ?_
  refine va_get (D := G) (ci := 2) (v := .int (iI (mayV S one other (0 ≤ what ∧ what ≤ 4)))) (C := RX3) (T := TX3) (N := 20) hx hb hts in_X3 hown hK hP 0 rfl rfl 6 (by decide) (hts _ q1444) (fun _ h9 => h9) rfl dX3_way_17 ?_
  refine g_if_ne (tgt := 33) hx hb dX3_way_20 (by decide) ⟨by omega, by omega⟩ (fun c2 => ?_) (fun c2 => ?_)
  · refine lv_iconst (v := iI 0) hx hb dX3_way_33 rfl ?_
    exact W.iret (v := (iI 0)) hx hb hr (fun t ht hW => ⟨⟨_, (), rfl, rfl, by rw [← ht] at hP; exact hP⟩, hS.F ht⟩) hS.2.2 dX3_way_34 hlk
  · exact False.elim (by contradiction)
set_option maxHeartbeats 1000000 in
set_option maxRecDepth 100000 in
theorem m_X3_way_0 (l : Launch) (G : va_G) (g : Nat → ClassId) (sz : Nat) (hM : Nat) (one : Int) (other : Int) (what : Int) (hnow : Nat) (hthen : Nat) (hpast : Nat) (kept : Int) (htx : Nat) (ty : Int) (th : Int) (at_ : Int) (fa : Prop) (htold : Nat) (tolds : Int) (hac : Nat) (hal : Nat) (hre : Nat) (hse : Nat) (hpl : Nat) (many : Int) (cost : Int) (br : Int) (hsy : Nat) (S : Int → Int) (RE : Int → Int) (SE : Int → Prop) (PL : Int → Int) (r_one : r32 one) (r_other : r32 other) (r_what : r32 what) (kS : rgS S) (kW : rgW S) (ht1 : isTh S one) (ht2 : isTh S other) (hne : ¬ one = other) (hw5 : 0 ≤ what ∧ what ≤ 4) : Met l yX3_way (ws_ yX3_way cX3_way 4 (Option.some Jvm.ClassFile.FieldType.int)) ({ frames := 8, cells := 0, slots := 0, locals := 190 }) (va_Pc [.ref hM, .int (iI one), .int (iI other), .int (iI what)] (wrB G CL (TY g) (fun _ => True) [(hM, .inr (2, (mO hnow hthen hpast kept htx ty th at_ fa htold tolds hac hal hre hse hpl many cost br hsy))), (hnow, .inl (g 0, 253, .inl (aI S))), (hac, .inl (g 0, 4, .inl (aI dx))), (hal, .inl (g 0, 4, .inl (aI dy))), (hre, .inl (g 0, 192, .inl (aI RE))), (hse, .inl (g 1, 192, .inl (aP SE))), (hpl, .inl (g 0, 192, .inl (aI PL)))] sz)) (va_Qi (fun (r : Int32) (u : (Int → Int) × (Int → Prop) × (Int → Int) × Int × Int × Int) => r = (iI (wyV S one other what))) (fun (u : (Int → Int) × (Int → Prop) × (Int → Int) × Int × Int × Int) t => va_P G CL [(hM, .inr (2, (mO hnow hthen hpast kept htx ty (mayV S one other (0 ≤ what ∧ what ≤ 4)) at_ fa htold tolds hac hal hre hse hpl u.2.2.2.1 u.2.2.2.2.1 u.2.2.2.2.2 hsy))), (hnow, .inl (g 0, 253, .inl (aI S))), (hac, .inl (g 0, 4, .inl (aI dx))), (hal, .inl (g 0, 4, .inl (aI dy))), (hre, .inl (g 0, 192, .inl (aI u.1))), (hse, .inl (g 1, 192, .inl (aP u.2.1))), (hpl, .inl (g 0, 192, .inl (aI u.2.2.1)))] t.heap) (va_A [(hM, .inr (2, (mO hnow hthen hpast kept htx ty th at_ fa htold tolds hac hal hre hse hpl many cost br hsy))), (hnow, .inl (g 0, 253, .inl (aI S))), (hac, .inl (g 0, 4, .inl (aI dx))), (hal, .inl (g 0, 4, .inl (aI dy))), (hre, .inl (g 0, 192, .inl (aI RE))), (hse, .inl (g 1, 192, .inl (aP SE))), (hpl, .inl (g 0, 192, .inl (aI PL)))] sz)) 0 0 (va_A [(hM, .inr (2, (mO hnow hthen hpast kept htx ty th at_ fa htold tolds hac hal hre hse hpl many cost br hsy))), (hnow, .inl (g 0, 253, .inl (aI S))), (hac, .inl (g 0, 4, .inl (aI dx))), (hal, .inl (g 0, 4, .inl (aI dy))), (hre, .inl (g 0, 192, .inl (aI RE))), (hse, .inl (g 1, 192, .inl (aP SE))), (hpl, .inl (g 0, 192, .inl (aI PL)))] sz) := by
  refine Met.at (by decide) (Nat.le_of_ble_eq_true rfl) ?_
  intro p e s m below meth c hx hb hr hlk hml hown hnm hts hB ls hl
  have hown : s.vm.findClass RX3 = some m.cls := hown
  obtain ⟨hsz, hP, hK, hD0, hEs⟩ := hB
  subst hsz
  have hD := hD0.self (sz := s.heap.size)
  generalize hAe : va_A [(hM, .inr (2, (mO hnow hthen hpast kept htx ty th at_ fa htold tolds hac hal hre hse hpl many cost br hsy))), (hnow, .inl (g 0, 253, .inl (aI S))), (hac, .inl (g 0, 4, .inl (aI dx))), (hal, .inl (g 0, 4, .inl (aI dy))), (hre, .inl (g 0, 192, .inl (aI RE))), (hse, .inl (g 1, 192, .inl (aP SE))), (hpl, .inl (g 0, 192, .inl (aI PL)))] s.heap.size = A at hD ⊢
  have hA : ∀ q : Nat, s.heap.size ≤ q → A q := fun q h => by rw [← hAe]; exact Or.inr h
  have hS : va_S A s.heap s.heap [] := va_S.rf
  have hl : lv_has ls 4 [(0, .ref hM), (1, .int (iI one)), (2, .int (iI other)), (3, .int (iI what))] := hl
  have m0 := may_0 (F := 0 ≤ what ∧ what ≤ 4) ht1 ht2 hne hw5
  refine lv_aload_n hx hb dX3_way_0 rfl (lv_at hl 0 rfl) ?_
  refine lv_aload_n hx hb dX3_way_1 rfl (lv_at hl 0 rfl) ?_
  refine lv_iload_n hx hb dX3_way_2 rfl (lv_at hl 1 rfl) ?_
  refine lv_iload_n hx hb dX3_way_3 rfl (lv_at hl 2 rfl) ?_
  refine lv_iload_n hx hb dX3_way_4 rfl (lv_at hl 3 rfl) ?_
  refine lv_iconst (v := iI 0) hx hb dX3_way_5 rfl ?_
  refine lv_iconst (v := iI 4) hx hb dX3_way_6 rfl ?_
  refine g_callS (As := [.int (iI what), .int (iI 0), .int (iI 4)]) (rest := [.int (iI other), .int (iI one), .ref hM, .ref hM]) (m_X3_in l G g what 0 4 r_what ⟨by decide, by decide⟩ ⟨by decide, by decide⟩) hx hb hml hown hts Stab.tt hK hP hS hEs [] rfl q1518 q1519 q102 q1520 hd_X3_in rfl rfl ⟨Nat.le_of_ble_eq_true rfl, Nat.le_of_ble_eq_true rfl⟩ rfl hl rfl (Nat.le_of_ble_eq_true rfl) ⟨Nat.le_refl _, Nat.le_refl _⟩ dX3_way_7 ?_
  refine g_callV (As := [.int (iI one), .int (iI other), .int (iI (qz (0 ≤ what ∧ what ≤ 4)))]) (rest := [.ref hM]) (m_X3_may l G g hM one other (0 ≤ what ∧ what ≤ 4) (mO hnow hthen hpast kept htx ty th at_ fa htold tolds hac hal hre hse hpl many cost br hsy) hnow S rfl r_one r_other kS) hx hb hml hown hts Stab.tt hK hP hS hEs [0, 1] rfl (q0 := 0) rfl rfl q1556 q1558 qs58 q102 q1559 hd_X3_may rfl rfl ⟨Nat.le_of_ble_eq_true rfl, Nat.le_of_ble_eq_true rfl⟩ rfl hl rfl (Nat.le_of_ble_eq_true rfl) ⟨Nat.le_refl _, Nat.le_refl _⟩ dX3_way_10 ?_
  have w1 := may_rng S one other (0 ≤ what ∧ what ≤ 4)
  refine g_put (D := G) (ci := 2) (v := .int (iI (mayV S one other (0 ≤ what ∧ what ≤ 4)))) (ty := .int) (C := RX3) (T := TX3) (N := 20) (ws1 := [(hM, .inr (2, (mO hnow hthen hpast kept htx ty (mayV S one other (0 ≤ what ∧ what ≤ 4)) at_ fa htold tolds hac hal hre hse hpl many cost br hsy))), (hnow, .inl (g 0, 253, .inl (aI S))), (hac, .inl (g 0, 4, .inl (aI dx))), (hal, .inl (g 0, 4, .inl (aI dy))), (hre, .inl (g 0, 192, .inl (aI RE))), (hse, .inl (g 1, 192, .inl (aP SE))), (hpl, .inl (g 0, 192, .inl (aI PL)))]) hx hb hts in_X3 tyX3 tyX3_ok nmX3 hown hK hP hD hS 0 rfl rfl 6 (by decide) (hts _ q1444) (fun _ h9 => h9) rfl (by decide +kernel) (rfl) (rfl) (Nat.le_of_ble_eq_true rfl) dX3_way_13 rfl (fun H locs hP hS => ?_)
  have hD : va_D A [(hM, .inr (2, (mO hnow hthen hpast kept htx ty (mayV S one other (0 ≤ what ∧ what ≤ 4)) at_ fa htold tolds hac hal hre hse hpl many cost br hsy))), (hnow, .inl (g 0, 253, .inl (aI S))), (hac, .inl (g 0, 4, .inl (aI dx))), (hal, .inl (g 0, 4, .inl (aI dy))), (hre, .inl (g 0, 192, .inl (aI RE))), (hse, .inl (g 1, 192, .inl (aP SE))), (hpl, .inl (g 0, 192, .inl (aI PL)))] := va_Dadr hD rfl
  refine lv_aload_n hx hb dX3_way_16 rfl (lv_at hl 0 rfl) ?_
  refine va_get (D := G) (ci := 2) (v := .int (iI (mayV S one other (0 ≤ what ∧ what ≤ 4)))) (C := RX3) (T := TX3) (N := 20) hx hb hts in_X3 hown hK hP 0 rfl rfl 6 (by decide) (hts _ q1444) (fun _ h9 => h9) rfl dX3_way_17 ?_
  refine g_if_ne (tgt := 33) hx hb dX3_way_20 (by decide) ⟨by omega, by omega⟩ (fun c2 => ?_) (fun c2 => ?_)
  · exact False.elim (by contradiction)
  · refine lv_aload_n hx hb dX3_way_23 rfl (lv_at hl 0 rfl) ?_
    refine lv_iload_n hx hb dX3_way_24 rfl (lv_at hl 1 rfl) ?_
    refine lv_iload_n hx hb dX3_way_25 rfl (lv_at hl 2 rfl) ?_
    refine lv_iload_n hx hb dX3_way_26 rfl (lv_at hl 3 rfl) ?_
    refine g_callVwi (As := [.int (iI one), .int (iI other), .int (iI what)]) (rest := []) (m_X3_ofWay l G g H.size hM one other what hnow hthen hpast kept htx ty (mayV S one other (0 ≤ what ∧ what ≤ 4)) at_ fa htold tolds hac hal hre hse hpl many cost br hsy S RE SE PL r_one r_other r_what kS kW (ht1.1) (ht2.1) hw5) hx hb hml hown hts Stab.tt hA hK hP hD hS hEs [0, 1, 2, 3, 4, 5, 6] rfl rfl (fun _ => rfl) (q0 := 0) rfl rfl q1717 q1719 qs83 q102 q1720 hd_X3_ofWay rfl rfl ⟨Nat.le_of_ble_eq_true rfl, Nat.le_of_ble_eq_true rfl⟩ rfl hl rfl (Nat.le_of_ble_eq_true rfl) ⟨Nat.le_refl _, Nat.le_refl _⟩ dX3_way_27 (fun rr u H locs hp hP hS => ?_)
    obtain ⟨RE1_3, SE1_4, PL1_5, m1_6, c1_7, b1_8⟩ := u
    have hrr : rr = (iI (wyV S one other what)) := hp
    subst hrr
    have hP : va_P G CL [(hM, .inr (2, (mO hnow hthen hpast kept htx ty (mayV S one other (0 ≤ what ∧ what ≤ 4)) at_ fa htold tolds hac hal hre hse hpl m1_6 c1_7 b1_8 hsy))), (hnow, .inl (g 0, 253, .inl (aI S))), (hac, .inl (g 0, 4, .inl (aI dx))), (hal, .inl (g 0, 4, .inl (aI dy))), (hre, .inl (g 0, 192, .inl (aI RE1_3))), (hse, .inl (g 1, 192, .inl (aP SE1_4))), (hpl, .inl (g 0, 192, .inl (aI PL1_5)))] H := hP
    have hD : va_D A [(hM, .inr (2, (mO hnow hthen hpast kept htx ty (mayV S one other (0 ≤ what ∧ what ≤ 4)) at_ fa htold tolds hac hal hre hse hpl m1_6 c1_7 b1_8 hsy))), (hnow, .inl (g 0, 253, .inl (aI S))), (hac, .inl (g 0, 4, .inl (aI dx))), (hal, .inl (g 0, 4, .inl (aI dy))), (hre, .inl (g 0, 192, .inl (aI RE1_3))), (hse, .inl (g 1, 192, .inl (aP SE1_4))), (hpl, .inl (g 0, 192, .inl (aI PL1_5)))] := va_Dadr hD rfl
    refine W.widen (k := 0) (n := 0) (Nat.le_refl _) (Nat.le_refl _) ?_
    refine lv_goto (tgt := 34) hx hb dX3_way_30 (by decide) ?_
    exact W.iret (v := (iI (wyV S one other what))) hx hb hr (fun t ht hW => ⟨⟨_, (RE1_3, SE1_4, PL1_5, m1_6, c1_7, b1_8), rfl, rfl, by rw [← ht] at hP; exact hP⟩, hS.F ht⟩) hS.2.2 dX3_way_34 hlk
theorem hd_X3_chamber : yX3_chamber.cls = RX3 ∧ yX3_chamber.cls ≠ "java/lang/invoke/MethodHandle" ∧ yX3_chamber.cls ≠ "java/lang/invoke/VarHandle" ∧ (parseMethodDescriptor yX3_chamber.desc).map (fun d => d.parameters.length) = some 2 := by decide +kernel
set_option maxHeartbeats 1000000 in
set_option maxRecDepth 100000 in
theorem m_X3_chamber_1 (l : Launch) (G : va_G) (g : Nat → ClassId) (sz : Nat) (hM : Nat) (room : Int) (what : Int) (hnow : Nat) (hthen : Nat) (hpast : Nat) (kept : Int) (htx : Nat) (ty : Int) (th : Int) (at_ : Int) (fa : Prop) (htold : Nat) (tolds : Int) (hac : Nat) (hal : Nat) (hre : Nat) (hse : Nat) (hpl : Nat) (many : Int) (cost : Int) (br : Int) (hsy : Nat) (S : Int → Int) (r_room : r32 room) (r_what : r32 what) (kS : rgS S) (hno : ¬ isTh S room) : Met l yX3_chamber (ws_ yX3_chamber cX3_chamber 3 (Option.some Jvm.ClassFile.FieldType.int)) ({ frames := 2, cells := 0, slots := 0, locals := 43 }) (va_Pc [.ref hM, .int (iI room), .int (iI what)] (wrB G CL (TY g) (fun _ => True) [(hM, .inr (2, (mO hnow hthen hpast kept htx ty th at_ fa htold tolds hac hal hre hse hpl many cost br hsy))), (hnow, .inl (g 0, 253, .inl (aI S)))] sz)) (va_Qi (fun (r : Int32) (u : Unit) => r = (iI 0)) (fun (u : Unit) t => va_P G CL [(hM, .inr (2, (mO hnow hthen hpast kept htx ty 1 at_ fa htold tolds hac hal hre hse hpl many cost br hsy))), (hnow, .inl (g 0, 253, .inl (aI S)))] t.heap) (va_A [(hM, .inr (2, (mO hnow hthen hpast kept htx ty th at_ fa htold tolds hac hal hre hse hpl many cost br hsy))), (hnow, .inl (g 0, 253, .inl (aI S)))] sz)) 0 0 (va_A [(hM, .inr (2, (mO hnow hthen hpast kept htx ty th at_ fa htold tolds hac hal hre hse hpl many cost br hsy))), (hnow, .inl (g 0, 253, .inl (aI S)))] sz) := by
  refine Met.at (by decide) (Nat.le_of_ble_eq_true rfl) ?_
  intro p e s m below meth c hx hb hr hlk hml hown hnm hts hB ls hl
  have hown : s.vm.findClass RX3 = some m.cls := hown
  obtain ⟨hsz, hP, hK, hD0, hEs⟩ := hB
  subst hsz
  have hD := hD0.self (sz := s.heap.size)
  generalize hAe : va_A [(hM, .inr (2, (mO hnow hthen hpast kept htx ty th at_ fa htold tolds hac hal hre hse hpl many cost br hsy))), (hnow, .inl (g 0, 253, .inl (aI S)))] s.heap.size = A at hD ⊢
  have hA : ∀ q : Nat, s.heap.size ≤ q → A q := fun q h => by rw [← hAe]; exact Or.inr h
  have hS : va_S A s.heap s.heap [] := va_S.rf
  have hl : lv_has ls 3 [(0, .ref hM), (1, .int (iI room)), (2, .int (iI what))] := hl
  refine lv_aload_n hx hb dX3_chamber_0 rfl (lv_at hl 0 rfl) ?_
  refine lv_iconst (v := iI 0) hx hb dX3_chamber_1 rfl ?_
  refine g_put (D := G) (ci := 2) (v := .int (iI 0)) (ty := .int) (C := RX3) (T := TX3) (N := 20) (ws1 := [(hM, .inr (2, (mO hnow hthen hpast kept htx ty 0 at_ fa htold tolds hac hal hre hse hpl many cost br hsy))), (hnow, .inl (g 0, 253, .inl (aI S)))]) hx hb hts in_X3 tyX3 tyX3_ok nmX3 hown hK hP hD hS 0 rfl rfl 6 (by decide) (hts _ q1444) (fun _ h9 => h9) rfl (by decide +kernel) (rfl) (rfl) (Nat.le_of_ble_eq_true rfl) dX3_chamber_2 rfl (fun H locs hP hS => ?_)
  have hD : va_D A [(hM, .inr (2, (mO hnow hthen hpast kept htx ty 0 at_ fa htold tolds hac hal hre hse hpl many cost br hsy))), (hnow, .inl (g 0, 253, .inl (aI S)))] := va_Dadr hD rfl
  refine lv_aload_n hx hb dX3_chamber_5 rfl (lv_at hl 0 rfl) ?_
  refine va_get (D := G) (ci := 2) (v := .ref hnow) (C := RX3) (T := TX3) (N := 20) hx hb hts in_X3 hown hK hP 0 rfl rfl 0 (by decide) (hts _ q1438) (fun _ h9 => h9) rfl dX3_chamber_6 ?_
  refine lv_iload_n hx hb dX3_chamber_9 rfl (lv_at hl 1 rfl) ?_
  refine g_callS (As := [.ref hnow, .int (iI room)]) (rest := []) (m_X3_isThere l G g hnow room S r_room kS) hx hb hml hown hts Stab.tt hK hP hS hEs [1] rfl q1525 q1526 q102 q1527 hd_X3_isThere rfl rfl ⟨Nat.le_of_ble_eq_true rfl, Nat.le_of_ble_eq_true rfl⟩ rfl hl rfl (Nat.le_of_ble_eq_true rfl) ⟨Nat.le_refl _, Nat.le_refl _⟩ dX3_chamber_10 ?_
  refine g_ifq_ne (tgt := 22) hx hb dX3_chamber_13 (by decide) (fun c1 => ?_) (fun c1 => ?_)
  · exact False.elim (by contradiction)
  · refine lv_aload_n hx hb dX3_chamber_16 rfl (lv_at hl 0 rfl) ?_
    refine lv_iconst (v := iI 1) hx hb dX3_chamber_17 rfl ?_
    refine g_callVwi (As := [.int (iI 1)]) (rest := []) (m_X3_fails l G g H.size hM 1 hnow hthen hpast kept htx ty 0 at_ fa htold tolds hac hal hre hse hpl many cost br hsy ⟨by decide, by decide⟩) hx hb hml hown hts Stab.tt hA hK hP hD hS hEs [0] rfl rfl (fun _ => rfl) (q0 := 0) rfl rfl q1507 q1509 qs54 q102 q1510 hd_X3_fails rfl rfl ⟨Nat.le_of_ble_eq_true rfl, Nat.le_of_ble_eq_true rfl⟩ rfl hl rfl (Nat.le_of_ble_eq_true rfl) ⟨Nat.le_refl _, Nat.le_refl _⟩ dX3_chamber_18 (fun rr u H locs hp hP hS => ?_)
    have hrr : rr = (iI 0) := hp
    subst hrr
    have hP : va_P G CL [(hM, .inr (2, (mO hnow hthen hpast kept htx ty 1 at_ fa htold tolds hac hal hre hse hpl many cost br hsy))), (hnow, .inl (g 0, 253, .inl (aI S)))] H := hP
    have hD : va_D A [(hM, .inr (2, (mO hnow hthen hpast kept htx ty 1 at_ fa htold tolds hac hal hre hse hpl many cost br hsy))), (hnow, .inl (g 0, 253, .inl (aI S)))] := va_Dadr hD rfl
    refine W.widen (k := 0) (n := 0) (Nat.le_refl _) (Nat.le_refl _) ?_
    exact W.iret (v := (iI 0)) hx hb hr (fun t ht hW => ⟨⟨_, (), rfl, rfl, by rw [← ht] at hP; exact hP⟩, hS.F ht⟩) hS.2.2 dX3_chamber_21 hlk
set_option maxHeartbeats 1000000 in
set_option maxRecDepth 100000 in
theorem m_X3_chamber_2 (l : Launch) (G : va_G) (g : Nat → ClassId) (sz : Nat) (hM : Nat) (room : Int) (what : Int) (hnow : Nat) (hthen : Nat) (hpast : Nat) (kept : Int) (htx : Nat) (ty : Int) (th : Int) (at_ : Int) (fa : Prop) (htold : Nat) (tolds : Int) (hac : Nat) (hal : Nat) (hre : Nat) (hse : Nat) (hpl : Nat) (many : Int) (cost : Int) (br : Int) (hsy : Nat) (S : Int → Int) (r_room : r32 room) (r_what : r32 what) (kS : rgS S) (hys : isTh S room) (hno : ¬ (0 ≤ what ∧ what ≤ 7)) : Met l yX3_chamber (ws_ yX3_chamber cX3_chamber 3 (Option.some Jvm.ClassFile.FieldType.int)) ({ frames := 2, cells := 0, slots := 0, locals := 43 }) (va_Pc [.ref hM, .int (iI room), .int (iI what)] (wrB G CL (TY g) (fun _ => True) [(hM, .inr (2, (mO hnow hthen hpast kept htx ty th at_ fa htold tolds hac hal hre hse hpl many cost br hsy))), (hnow, .inl (g 0, 253, .inl (aI S)))] sz)) (va_Qi (fun (r : Int32) (u : Unit) => r = (iI 0)) (fun (u : Unit) t => va_P G CL [(hM, .inr (2, (mO hnow hthen hpast kept htx ty 2 at_ fa htold tolds hac hal hre hse hpl many cost br hsy))), (hnow, .inl (g 0, 253, .inl (aI S)))] t.heap) (va_A [(hM, .inr (2, (mO hnow hthen hpast kept htx ty th at_ fa htold tolds hac hal hre hse hpl many cost br hsy))), (hnow, .inl (g 0, 253, .inl (aI S)))] sz)) 0 0 (va_A [(hM, .inr (2, (mO hnow hthen hpast kept htx ty th at_ fa htold tolds hac hal hre hse hpl many cost br hsy))), (hnow, .inl (g 0, 253, .inl (aI S)))] sz) := by
  refine Met.at (by decide) (Nat.le_of_ble_eq_true rfl) ?_
  intro p e s m below meth c hx hb hr hlk hml hown hnm hts hB ls hl
  have hown : s.vm.findClass RX3 = some m.cls := hown
  obtain ⟨hsz, hP, hK, hD0, hEs⟩ := hB
  subst hsz
  have hD := hD0.self (sz := s.heap.size)
  generalize hAe : va_A [(hM, .inr (2, (mO hnow hthen hpast kept htx ty th at_ fa htold tolds hac hal hre hse hpl many cost br hsy))), (hnow, .inl (g 0, 253, .inl (aI S)))] s.heap.size = A at hD ⊢
  have hA : ∀ q : Nat, s.heap.size ≤ q → A q := fun q h => by rw [← hAe]; exact Or.inr h
  have hS : va_S A s.heap s.heap [] := va_S.rf
  have hl : lv_has ls 3 [(0, .ref hM), (1, .int (iI room)), (2, .int (iI what))] := hl
  refine lv_aload_n hx hb dX3_chamber_0 rfl (lv_at hl 0 rfl) ?_
  refine lv_iconst (v := iI 0) hx hb dX3_chamber_1 rfl ?_
  refine g_put (D := G) (ci := 2) (v := .int (iI 0)) (ty := .int) (C := RX3) (T := TX3) (N := 20) (ws1 := [(hM, .inr (2, (mO hnow hthen hpast kept htx ty 0 at_ fa htold tolds hac hal hre hse hpl many cost br hsy))), (hnow, .inl (g 0, 253, .inl (aI S)))]) hx hb hts in_X3 tyX3 tyX3_ok nmX3 hown hK hP hD hS 0 rfl rfl 6 (by decide) (hts _ q1444) (fun _ h9 => h9) rfl (by decide +kernel) (rfl) (rfl) (Nat.le_of_ble_eq_true rfl) dX3_chamber_2 rfl (fun H locs hP hS => ?_)
  have hD : va_D A [(hM, .inr (2, (mO hnow hthen hpast kept htx ty 0 at_ fa htold tolds hac hal hre hse hpl many cost br hsy))), (hnow, .inl (g 0, 253, .inl (aI S)))] := va_Dadr hD rfl
  refine lv_aload_n hx hb dX3_chamber_5 rfl (lv_at hl 0 rfl) ?_
  refine va_get (D := G) (ci := 2) (v := .ref hnow) (C := RX3) (T := TX3) (N := 20) hx hb hts in_X3 hown hK hP 0 rfl rfl 0 (by decide) (hts _ q1438) (fun _ h9 => h9) rfl dX3_chamber_6 ?_
  refine lv_iload_n hx hb dX3_chamber_9 rfl (lv_at hl 1 rfl) ?_
  refine g_callS (As := [.ref hnow, .int (iI room)]) (rest := []) (m_X3_isThere l G g hnow room S r_room kS) hx hb hml hown hts Stab.tt hK hP hS hEs [1] rfl q1525 q1526 q102 q1527 hd_X3_isThere rfl rfl ⟨Nat.le_of_ble_eq_true rfl, Nat.le_of_ble_eq_true rfl⟩ rfl hl rfl (Nat.le_of_ble_eq_true rfl) ⟨Nat.le_refl _, Nat.le_refl _⟩ dX3_chamber_10 ?_
  refine g_ifq_ne (tgt := 22) hx hb dX3_chamber_13 (by decide) (fun c1 => ?_) (fun c1 => ?_)
  · refine lv_iload_n hx hb dX3_chamber_22 rfl (lv_at hl 2 rfl) ?_
    refine lv_iconst (v := iI 0) hx hb dX3_chamber_23 rfl ?_
    refine lv_bipush (v := iI 7) hx hb dX3_chamber_24 rfl ?_
    refine g_callS (As := [.int (iI what), .int (iI 0), .int (iI 7)]) (rest := []) (m_X3_in l G g what 0 7 r_what ⟨by decide, by decide⟩ ⟨by decide, by decide⟩) hx hb hml hown hts Stab.tt hK hP hS hEs [] rfl q1518 q1519 q102 q1520 hd_X3_in rfl rfl ⟨Nat.le_of_ble_eq_true rfl, Nat.le_of_ble_eq_true rfl⟩ rfl hl rfl (Nat.le_of_ble_eq_true rfl) ⟨Nat.le_refl _, Nat.le_refl _⟩ dX3_chamber_26 ?_
    refine g_ifq_eq (tgt := 41) hx hb dX3_chamber_29 (by decide) (fun c2 => ?_) (fun c2 => ?_)
    · refine lv_aload_n hx hb dX3_chamber_41 rfl (lv_at hl 0 rfl) ?_
      refine lv_iconst (v := iI 2) hx hb dX3_chamber_42 rfl ?_
      refine g_callVwi (As := [.int (iI 2)]) (rest := []) (m_X3_fails l G g H.size hM 2 hnow hthen hpast kept htx ty 0 at_ fa htold tolds hac hal hre hse hpl many cost br hsy ⟨by decide, by decide⟩) hx hb hml hown hts Stab.tt hA hK hP hD hS hEs [0] rfl rfl (fun _ => rfl) (q0 := 0) rfl rfl q1507 q1509 qs54 q102 q1510 hd_X3_fails rfl rfl ⟨Nat.le_of_ble_eq_true rfl, Nat.le_of_ble_eq_true rfl⟩ rfl hl rfl (Nat.le_of_ble_eq_true rfl) ⟨Nat.le_refl _, Nat.le_refl _⟩ dX3_chamber_43 (fun rr u H locs hp hP hS => ?_)
      have hrr : rr = (iI 0) := hp
      subst hrr
      have hP : va_P G CL [(hM, .inr (2, (mO hnow hthen hpast kept htx ty 2 at_ fa htold tolds hac hal hre hse hpl many cost br hsy))), (hnow, .inl (g 0, 253, .inl (aI S)))] H := hP
      have hD : va_D A [(hM, .inr (2, (mO hnow hthen hpast kept htx ty 2 at_ fa htold tolds hac hal hre hse hpl many cost br hsy))), (hnow, .inl (g 0, 253, .inl (aI S)))] := va_Dadr hD rfl
      refine W.widen (k := 0) (n := 0) (Nat.le_refl _) (Nat.le_refl _) ?_
      exact W.iret (v := (iI 0)) hx hb hr (fun t ht hW => ⟨⟨_, (), rfl, rfl, by rw [← ht] at hP; exact hP⟩, hS.F ht⟩) hS.2.2 dX3_chamber_46 hlk
    · exact False.elim (by contradiction)
  · exact False.elim (by contradiction)
set_option maxHeartbeats 1000000 in
set_option maxRecDepth 100000 in
theorem m_X3_chamber_0 (l : Launch) (G : va_G) (g : Nat → ClassId) (sz : Nat) (hM : Nat) (room : Int) (what : Int) (hnow : Nat) (hthen : Nat) (hpast : Nat) (kept : Int) (htx : Nat) (ty : Int) (th : Int) (at_ : Int) (fa : Prop) (htold : Nat) (tolds : Int) (hac : Nat) (hal : Nat) (hre : Nat) (hse : Nat) (hpl : Nat) (many : Int) (cost : Int) (br : Int) (hsy : Nat) (S : Int → Int) (RE : Int → Int) (SE : Int → Prop) (PL : Int → Int) (r_room : r32 room) (r_what : r32 what) (kS : rgS S) (kW : rgW S) (kT : 0 ≤ S 252) (hys : isTh S room) (hw8 : 0 ≤ what ∧ what ≤ 7) : Met l yX3_chamber (ws_ yX3_chamber cX3_chamber 3 (Option.some Jvm.ClassFile.FieldType.int)) ({ frames := 10, cells := 0, slots := 0, locals := 236 }) (va_Pc [.ref hM, .int (iI room), .int (iI what)] (wrB G CL (TY g) (fun _ => True) [(hM, .inr (2, (mO hnow hthen hpast kept htx ty th at_ fa htold tolds hac hal hre hse hpl many cost br hsy))), (hnow, .inl (g 0, 253, .inl (aI S))), (hac, .inl (g 0, 4, .inl (aI dx))), (hal, .inl (g 0, 4, .inl (aI dy))), (hre, .inl (g 0, 192, .inl (aI RE))), (hse, .inl (g 1, 192, .inl (aP SE))), (hpl, .inl (g 0, 192, .inl (aI PL)))] sz)) (va_Qi (fun (r : Int32) (u : (Int → Int) × (Int → Prop) × (Int → Int) × Int × Int × Int) => r = (iI (orV S room what))) (fun (u : (Int → Int) × (Int → Prop) × (Int → Int) × Int × Int × Int) t => va_P G CL [(hM, .inr (2, (mO hnow hthen hpast kept htx ty 0 at_ fa htold tolds hac hal hre hse hpl u.2.2.2.1 u.2.2.2.2.1 u.2.2.2.2.2 hsy))), (hnow, .inl (g 0, 253, .inl (aI S))), (hac, .inl (g 0, 4, .inl (aI dx))), (hal, .inl (g 0, 4, .inl (aI dy))), (hre, .inl (g 0, 192, .inl (aI u.1))), (hse, .inl (g 1, 192, .inl (aP u.2.1))), (hpl, .inl (g 0, 192, .inl (aI u.2.2.1)))] t.heap) (va_A [(hM, .inr (2, (mO hnow hthen hpast kept htx ty th at_ fa htold tolds hac hal hre hse hpl many cost br hsy))), (hnow, .inl (g 0, 253, .inl (aI S))), (hac, .inl (g 0, 4, .inl (aI dx))), (hal, .inl (g 0, 4, .inl (aI dy))), (hre, .inl (g 0, 192, .inl (aI RE))), (hse, .inl (g 1, 192, .inl (aP SE))), (hpl, .inl (g 0, 192, .inl (aI PL)))] sz)) 0 0 (va_A [(hM, .inr (2, (mO hnow hthen hpast kept htx ty th at_ fa htold tolds hac hal hre hse hpl many cost br hsy))), (hnow, .inl (g 0, 253, .inl (aI S))), (hac, .inl (g 0, 4, .inl (aI dx))), (hal, .inl (g 0, 4, .inl (aI dy))), (hre, .inl (g 0, 192, .inl (aI RE))), (hse, .inl (g 1, 192, .inl (aP SE))), (hpl, .inl (g 0, 192, .inl (aI PL)))] sz) := by
  refine Met.at (by decide) (Nat.le_of_ble_eq_true rfl) ?_
  intro p e s m below meth c hx hb hr hlk hml hown hnm hts hB ls hl
  have hown : s.vm.findClass RX3 = some m.cls := hown
  obtain ⟨hsz, hP, hK, hD0, hEs⟩ := hB
  subst hsz
  have hD := hD0.self (sz := s.heap.size)
  generalize hAe : va_A [(hM, .inr (2, (mO hnow hthen hpast kept htx ty th at_ fa htold tolds hac hal hre hse hpl many cost br hsy))), (hnow, .inl (g 0, 253, .inl (aI S))), (hac, .inl (g 0, 4, .inl (aI dx))), (hal, .inl (g 0, 4, .inl (aI dy))), (hre, .inl (g 0, 192, .inl (aI RE))), (hse, .inl (g 1, 192, .inl (aP SE))), (hpl, .inl (g 0, 192, .inl (aI PL)))] s.heap.size = A at hD ⊢
  have hA : ∀ q : Nat, s.heap.size ≤ q → A q := fun q h => by rw [← hAe]; exact Or.inr h
  have hS : va_S A s.heap s.heap [] := va_S.rf
  have hl : lv_has ls 3 [(0, .ref hM), (1, .int (iI room)), (2, .int (iI what))] := hl
  refine lv_aload_n hx hb dX3_chamber_0 rfl (lv_at hl 0 rfl) ?_
  refine lv_iconst (v := iI 0) hx hb dX3_chamber_1 rfl ?_
  refine g_put (D := G) (ci := 2) (v := .int (iI 0)) (ty := .int) (C := RX3) (T := TX3) (N := 20) (ws1 := [(hM, .inr (2, (mO hnow hthen hpast kept htx ty 0 at_ fa htold tolds hac hal hre hse hpl many cost br hsy))), (hnow, .inl (g 0, 253, .inl (aI S))), (hac, .inl (g 0, 4, .inl (aI dx))), (hal, .inl (g 0, 4, .inl (aI dy))), (hre, .inl (g 0, 192, .inl (aI RE))), (hse, .inl (g 1, 192, .inl (aP SE))), (hpl, .inl (g 0, 192, .inl (aI PL)))]) hx hb hts in_X3 tyX3 tyX3_ok nmX3 hown hK hP hD hS 0 rfl rfl 6 (by decide) (hts _ q1444) (fun _ h9 => h9) rfl (by decide +kernel) (rfl) (rfl) (Nat.le_of_ble_eq_true rfl) dX3_chamber_2 rfl (fun H locs hP hS => ?_)
  have hD : va_D A [(hM, .inr (2, (mO hnow hthen hpast kept htx ty 0 at_ fa htold tolds hac hal hre hse hpl many cost br hsy))), (hnow, .inl (g 0, 253, .inl (aI S))), (hac, .inl (g 0, 4, .inl (aI dx))), (hal, .inl (g 0, 4, .inl (aI dy))), (hre, .inl (g 0, 192, .inl (aI RE))), (hse, .inl (g 1, 192, .inl (aP SE))), (hpl, .inl (g 0, 192, .inl (aI PL)))] := va_Dadr hD rfl
  refine lv_aload_n hx hb dX3_chamber_5 rfl (lv_at hl 0 rfl) ?_
  refine va_get (D := G) (ci := 2) (v := .ref hnow) (C := RX3) (T := TX3) (N := 20) hx hb hts in_X3 hown hK hP 0 rfl rfl 0 (by decide) (hts _ q1438) (fun _ h9 => h9) rfl dX3_chamber_6 ?_
  refine lv_iload_n hx hb dX3_chamber_9 rfl (lv_at hl 1 rfl) ?_
  refine g_callS (As := [.ref hnow, .int (iI room)]) (rest := []) (m_X3_isThere l G g hnow room S r_room kS) hx hb hml hown hts Stab.tt hK hP hS hEs [1] rfl q1525 q1526 q102 q1527 hd_X3_isThere rfl rfl ⟨Nat.le_of_ble_eq_true rfl, Nat.le_of_ble_eq_true rfl⟩ rfl hl rfl (Nat.le_of_ble_eq_true rfl) ⟨Nat.le_refl _, Nat.le_refl _⟩ dX3_chamber_10 ?_
  refine g_ifq_ne (tgt := 22) hx hb dX3_chamber_13 (by decide) (fun c1 => ?_) (fun c1 => ?_)
  · refine lv_iload_n hx hb dX3_chamber_22 rfl (lv_at hl 2 rfl) ?_
    refine lv_iconst (v := iI 0) hx hb dX3_chamber_23 rfl ?_
    refine lv_bipush (v := iI 7) hx hb dX3_chamber_24 rfl ?_
    refine g_callS (As := [.int (iI what), .int (iI 0), .int (iI 7)]) (rest := []) (m_X3_in l G g what 0 7 r_what ⟨by decide, by decide⟩ ⟨by decide, by decide⟩) hx hb hml hown hts Stab.tt hK hP hS hEs [] rfl q1518 q1519 q102 q1520 hd_X3_in rfl rfl ⟨Nat.le_of_ble_eq_true rfl, Nat.le_of_ble_eq_true rfl⟩ rfl hl rfl (Nat.le_of_ble_eq_true rfl) ⟨Nat.le_refl _, Nat.le_refl _⟩ dX3_chamber_26 ?_
    refine g_ifq_eq (tgt := 41) hx hb dX3_chamber_29 (by decide) (fun c2 => ?_) (fun c2 => ?_)
    · exact False.elim (by contradiction)
    · refine lv_aload_n hx hb dX3_chamber_32 rfl (lv_at hl 0 rfl) ?_
      refine lv_iload_n hx hb dX3_chamber_33 rfl (lv_at hl 1 rfl) ?_
      refine lv_iload_n hx hb dX3_chamber_34 rfl (lv_at hl 2 rfl) ?_
      refine g_callVwi (As := [.int (iI room), .int (iI what)]) (rest := []) (m_X3_ofRoom l G g H.size hM room what hnow hthen hpast kept htx ty 0 at_ fa htold tolds hac hal hre hse hpl many cost br hsy S RE SE PL r_room r_what kS kW kT (hys.1) hw8) hx hb hml hown hts Stab.tt hA hK hP hD hS hEs [0, 1, 2, 3, 4, 5, 6] rfl rfl (fun _ => rfl) (q0 := 0) rfl rfl q1697 q1699 qs79 q102 q1700 hd_X3_ofRoom rfl rfl ⟨Nat.le_of_ble_eq_true rfl, Nat.le_of_ble_eq_true rfl⟩ rfl hl rfl (Nat.le_of_ble_eq_true rfl) ⟨Nat.le_refl _, Nat.le_refl _⟩ dX3_chamber_35 (fun rr u H locs hp hP hS => ?_)
      obtain ⟨RE1_3, SE1_4, PL1_5, m1_6, c1_7, b1_8⟩ := u
      have hrr : rr = (iI (orV S room what)) := hp
      subst hrr
      have hP : va_P G CL [(hM, .inr (2, (mO hnow hthen hpast kept htx ty 0 at_ fa htold tolds hac hal hre hse hpl m1_6 c1_7 b1_8 hsy))), (hnow, .inl (g 0, 253, .inl (aI S))), (hac, .inl (g 0, 4, .inl (aI dx))), (hal, .inl (g 0, 4, .inl (aI dy))), (hre, .inl (g 0, 192, .inl (aI RE1_3))), (hse, .inl (g 1, 192, .inl (aP SE1_4))), (hpl, .inl (g 0, 192, .inl (aI PL1_5)))] H := hP
      have hD : va_D A [(hM, .inr (2, (mO hnow hthen hpast kept htx ty 0 at_ fa htold tolds hac hal hre hse hpl m1_6 c1_7 b1_8 hsy))), (hnow, .inl (g 0, 253, .inl (aI S))), (hac, .inl (g 0, 4, .inl (aI dx))), (hal, .inl (g 0, 4, .inl (aI dy))), (hre, .inl (g 0, 192, .inl (aI RE1_3))), (hse, .inl (g 1, 192, .inl (aP SE1_4))), (hpl, .inl (g 0, 192, .inl (aI PL1_5)))] := va_Dadr hD rfl
      refine W.widen (k := 0) (n := 0) (Nat.le_refl _) (Nat.le_refl _) ?_
      refine lv_goto (tgt := 46) hx hb dX3_chamber_38 (by decide) ?_
      exact W.iret (v := (iI (orV S room what))) hx hb hr (fun t ht hW => ⟨⟨_, (RE1_3, SE1_4, PL1_5, m1_6, c1_7, b1_8), rfl, rfl, by rw [← ht] at hP; exact hP⟩, hS.F ht⟩) hS.2.2 dX3_chamber_46 hlk
  · exact False.elim (by contradiction)
theorem hd_X3_square : yX3_square.cls = RX3 ∧ yX3_square.cls ≠ "java/lang/invoke/MethodHandle" ∧ yX3_square.cls ≠ "java/lang/invoke/VarHandle" ∧ (parseMethodDescriptor yX3_square.desc).map (fun d => d.parameters.length) = some 3 := by decide +kernel
set_option maxHeartbeats 1000000 in
set_option maxRecDepth 100000 in
theorem m_X3_square_1 (l : Launch) (G : va_G) (g : Nat → ClassId) (sz : Nat) (hM : Nat) (x : Int) (y : Int) (what : Int) (hnow : Nat) (hthen : Nat) (hpast : Nat) (kept : Int) (htx : Nat) (ty : Int) (th : Int) (at_ : Int) (fa : Prop) (htold : Nat) (tolds : Int) (hac : Nat) (hal : Nat) (hre : Nat) (hse : Nat) (hpl : Nat) (many : Int) (cost : Int) (br : Int) (hsy : Nat) (r_x : r32 x) (r_y : r32 y) (r_what : r32 what) (hno : ¬ (isSq x y ∧ (0 ≤ what ∧ what ≤ 1))) : Met l yX3_square (ws_ yX3_square cX3_square 4 (Option.some Jvm.ClassFile.FieldType.int)) ({ frames := 2, cells := 0, slots := 0, locals := 43 }) (va_Pc [.ref hM, .int (iI x), .int (iI y), .int (iI what)] (wrB G CL (TY g) (fun _ => True) [(hM, .inr (2, (mO hnow hthen hpast kept htx ty th at_ fa htold tolds hac hal hre hse hpl many cost br hsy)))] sz)) (va_Qi (fun (r : Int32) (u : Unit) => r = (iI 0)) (fun (u : Unit) t => va_P G CL [(hM, .inr (2, (mO hnow hthen hpast kept htx ty 1 at_ fa htold tolds hac hal hre hse hpl many cost br hsy)))] t.heap) (va_A [(hM, .inr (2, (mO hnow hthen hpast kept htx ty th at_ fa htold tolds hac hal hre hse hpl many cost br hsy)))] sz)) 0 0 (va_A [(hM, .inr (2, (mO hnow hthen hpast kept htx ty th at_ fa htold tolds hac hal hre hse hpl many cost br hsy)))] sz) := by
  refine Met.at (by decide) (Nat.le_of_ble_eq_true rfl) ?_
  intro p e s m below meth c hx hb hr hlk hml hown hnm hts hB ls hl
  have hown : s.vm.findClass RX3 = some m.cls := hown
  obtain ⟨hsz, hP, hK, hD0, hEs⟩ := hB
  subst hsz
  have hD := hD0.self (sz := s.heap.size)
  generalize hAe : va_A [(hM, .inr (2, (mO hnow hthen hpast kept htx ty th at_ fa htold tolds hac hal hre hse hpl many cost br hsy)))] s.heap.size = A at hD ⊢
  have hA : ∀ q : Nat, s.heap.size ≤ q → A q := fun q h => by rw [← hAe]; exact Or.inr h
  have hS : va_S A s.heap s.heap [] := va_S.rf
  have hl : lv_has ls 4 [(0, .ref hM), (1, .int (iI x)), (2, .int (iI y)), (3, .int (iI what))] := hl
  refine lv_aload_n hx hb dX3_square_0 rfl (lv_at hl 0 rfl) ?_
  refine lv_iconst (v := iI 0) hx hb dX3_square_1 rfl ?_
  refine g_put (D := G) (ci := 2) (v := .int (iI 0)) (ty := .int) (C := RX3) (T := TX3) (N := 20) (ws1 := [(hM, .inr (2, (mO hnow hthen hpast kept htx ty 0 at_ fa htold tolds hac hal hre hse hpl many cost br hsy)))]) hx hb hts in_X3 tyX3 tyX3_ok nmX3 hown hK hP hD hS 0 rfl rfl 6 (by decide) (hts _ q1444) (fun _ h9 => h9) rfl (by decide +kernel) (rfl) (rfl) (Nat.le_of_ble_eq_true rfl) dX3_square_2 rfl (fun H locs hP hS => ?_)
  have hD : va_D A [(hM, .inr (2, (mO hnow hthen hpast kept htx ty 0 at_ fa htold tolds hac hal hre hse hpl many cost br hsy)))] := va_Dadr hD rfl
  refine lv_iload_n hx hb dX3_square_5 rfl (lv_at hl 1 rfl) ?_
  refine lv_iload_n hx hb dX3_square_6 rfl (lv_at hl 2 rfl) ?_
  refine g_callS (As := [.int (iI x), .int (iI y)]) (rest := []) (m_X3_isSquare l G g x y r_x r_y) hx hb hml hown hts Stab.tt hK hP hS hEs [] rfl q1538 q1539 q102 q1540 hd_X3_isSquare rfl rfl ⟨Nat.le_of_ble_eq_true rfl, Nat.le_of_ble_eq_true rfl⟩ rfl hl rfl (Nat.le_of_ble_eq_true rfl) ⟨Nat.le_refl _, Nat.le_refl _⟩ dX3_square_7 ?_
  refine g_ifq_eq (tgt := 22) hx hb dX3_square_10 (by decide) (fun c1 => ?_) (fun c1 => ?_)
  · refine lv_aload_n hx hb dX3_square_22 rfl (lv_at hl 0 rfl) ?_
    refine lv_iconst (v := iI 1) hx hb dX3_square_23 rfl ?_
    refine g_callVwi (As := [.int (iI 1)]) (rest := []) (m_X3_fails l G g H.size hM 1 hnow hthen hpast kept htx ty 0 at_ fa htold tolds hac hal hre hse hpl many cost br hsy ⟨by decide, by decide⟩) hx hb hml hown hts Stab.tt hA hK hP hD hS hEs [0] rfl rfl (fun _ => rfl) (q0 := 0) rfl rfl q1507 q1509 qs54 q102 q1510 hd_X3_fails rfl rfl ⟨Nat.le_of_ble_eq_true rfl, Nat.le_of_ble_eq_true rfl⟩ rfl hl rfl (Nat.le_of_ble_eq_true rfl) ⟨Nat.le_refl _, Nat.le_refl _⟩ dX3_square_24 (fun rr u H locs hp hP hS => ?_)
    have hrr : rr = (iI 0) := hp
    subst hrr
    have hP : va_P G CL [(hM, .inr (2, (mO hnow hthen hpast kept htx ty 1 at_ fa htold tolds hac hal hre hse hpl many cost br hsy)))] H := hP
    have hD : va_D A [(hM, .inr (2, (mO hnow hthen hpast kept htx ty 1 at_ fa htold tolds hac hal hre hse hpl many cost br hsy)))] := va_Dadr hD rfl
    refine W.widen (k := 0) (n := 0) (Nat.le_refl _) (Nat.le_refl _) ?_
    exact W.iret (v := (iI 0)) hx hb hr (fun t ht hW => ⟨⟨_, (), rfl, rfl, by rw [← ht] at hP; exact hP⟩, hS.F ht⟩) hS.2.2 dX3_square_27 hlk
  · refine lv_iload_n hx hb dX3_square_13 rfl (lv_at hl 3 rfl) ?_
    refine lv_iconst (v := iI 0) hx hb dX3_square_14 rfl ?_
    refine lv_iconst (v := iI 1) hx hb dX3_square_15 rfl ?_
    refine g_callS (As := [.int (iI what), .int (iI 0), .int (iI 1)]) (rest := []) (m_X3_in l G g what 0 1 r_what ⟨by decide, by decide⟩ ⟨by decide, by decide⟩) hx hb hml hown hts Stab.tt hK hP hS hEs [] rfl q1518 q1519 q102 q1520 hd_X3_in rfl rfl ⟨Nat.le_of_ble_eq_true rfl, Nat.le_of_ble_eq_true rfl⟩ rfl hl rfl (Nat.le_of_ble_eq_true rfl) ⟨Nat.le_refl _, Nat.le_refl _⟩ dX3_square_16 ?_
    refine g_ifq_ne (tgt := 28) hx hb dX3_square_19 (by decide) (fun c2 => ?_) (fun c2 => ?_)
    · exact False.elim (by omega)
    · refine lv_aload_n hx hb dX3_square_22 rfl (lv_at hl 0 rfl) ?_
      refine lv_iconst (v := iI 1) hx hb dX3_square_23 rfl ?_
      refine g_callVwi (As := [.int (iI 1)]) (rest := []) (m_X3_fails l G g H.size hM 1 hnow hthen hpast kept htx ty 0 at_ fa htold tolds hac hal hre hse hpl many cost br hsy ⟨by decide, by decide⟩) hx hb hml hown hts Stab.tt hA hK hP hD hS hEs [0] rfl rfl (fun _ => rfl) (q0 := 0) rfl rfl q1507 q1509 qs54 q102 q1510 hd_X3_fails rfl rfl ⟨Nat.le_of_ble_eq_true rfl, Nat.le_of_ble_eq_true rfl⟩ rfl hl rfl (Nat.le_of_ble_eq_true rfl) ⟨Nat.le_refl _, Nat.le_refl _⟩ dX3_square_24 (fun rr u H locs hp hP hS => ?_)
      have hrr : rr = (iI 0) := hp
      subst hrr
      have hP : va_P G CL [(hM, .inr (2, (mO hnow hthen hpast kept htx ty 1 at_ fa htold tolds hac hal hre hse hpl many cost br hsy)))] H := hP
      have hD : va_D A [(hM, .inr (2, (mO hnow hthen hpast kept htx ty 1 at_ fa htold tolds hac hal hre hse hpl many cost br hsy)))] := va_Dadr hD rfl
      refine W.widen (k := 0) (n := 0) (Nat.le_refl _) (Nat.le_refl _) ?_
      exact W.iret (v := (iI 0)) hx hb hr (fun t ht hW => ⟨⟨_, (), rfl, rfl, by rw [← ht] at hP; exact hP⟩, hS.F ht⟩) hS.2.2 dX3_square_27 hlk
set_option maxHeartbeats 1000000 in
set_option maxRecDepth 100000 in
theorem m_X3_square_0 (l : Launch) (G : va_G) (g : Nat → ClassId) (sz : Nat) (hM : Nat) (x : Int) (y : Int) (what : Int) (hnow : Nat) (hthen : Nat) (hpast : Nat) (kept : Int) (htx : Nat) (ty : Int) (th : Int) (at_ : Int) (fa : Prop) (htold : Nat) (tolds : Int) (hac : Nat) (hal : Nat) (hre : Nat) (hse : Nat) (hpl : Nat) (many : Int) (cost : Int) (br : Int) (hsy : Nat) (S : Int → Int) (r_x : r32 x) (r_y : r32 y) (r_what : r32 what) (kS : rgS S) (hys : isSq x y) (hw2 : 0 ≤ what ∧ what ≤ 1) : Met l yX3_square (ws_ yX3_square cX3_square 4 (Option.some Jvm.ClassFile.FieldType.int)) ({ frames := 4, cells := 0, slots := 0, locals := 88 }) (va_Pc [.ref hM, .int (iI x), .int (iI y), .int (iI what)] (wrB G CL (TY g) (fun _ => True) [(hM, .inr (2, (mO hnow hthen hpast kept htx ty th at_ fa htold tolds hac hal hre hse hpl many cost br hsy))), (hnow, .inl (g 0, 253, .inl (aI S)))] sz)) (va_Qi (fun (r : Int32) (u : Unit) => r = (iI (sqV S x y what))) (fun (u : Unit) t => va_P G CL [(hM, .inr (2, (mO hnow hthen hpast kept htx ty 0 at_ fa htold tolds hac hal hre hse hpl many cost br hsy))), (hnow, .inl (g 0, 253, .inl (aI S)))] t.heap) (va_A [(hM, .inr (2, (mO hnow hthen hpast kept htx ty th at_ fa htold tolds hac hal hre hse hpl many cost br hsy))), (hnow, .inl (g 0, 253, .inl (aI S)))] sz)) 0 0 (va_A [(hM, .inr (2, (mO hnow hthen hpast kept htx ty th at_ fa htold tolds hac hal hre hse hpl many cost br hsy))), (hnow, .inl (g 0, 253, .inl (aI S)))] sz) := by
  refine Met.at (by decide) (Nat.le_of_ble_eq_true rfl) ?_
  intro p e s m below meth c hx hb hr hlk hml hown hnm hts hB ls hl
  have hown : s.vm.findClass RX3 = some m.cls := hown
  obtain ⟨hsz, hP, hK, hD0, hEs⟩ := hB
  subst hsz
  have hD := hD0.self (sz := s.heap.size)
  generalize hAe : va_A [(hM, .inr (2, (mO hnow hthen hpast kept htx ty th at_ fa htold tolds hac hal hre hse hpl many cost br hsy))), (hnow, .inl (g 0, 253, .inl (aI S)))] s.heap.size = A at hD ⊢
  have hA : ∀ q : Nat, s.heap.size ≤ q → A q := fun q h => by rw [← hAe]; exact Or.inr h
  have hS : va_S A s.heap s.heap [] := va_S.rf
  have hl : lv_has ls 4 [(0, .ref hM), (1, .int (iI x)), (2, .int (iI y)), (3, .int (iI what))] := hl
  refine lv_aload_n hx hb dX3_square_0 rfl (lv_at hl 0 rfl) ?_
  refine lv_iconst (v := iI 0) hx hb dX3_square_1 rfl ?_
  refine g_put (D := G) (ci := 2) (v := .int (iI 0)) (ty := .int) (C := RX3) (T := TX3) (N := 20) (ws1 := [(hM, .inr (2, (mO hnow hthen hpast kept htx ty 0 at_ fa htold tolds hac hal hre hse hpl many cost br hsy))), (hnow, .inl (g 0, 253, .inl (aI S)))]) hx hb hts in_X3 tyX3 tyX3_ok nmX3 hown hK hP hD hS 0 rfl rfl 6 (by decide) (hts _ q1444) (fun _ h9 => h9) rfl (by decide +kernel) (rfl) (rfl) (Nat.le_of_ble_eq_true rfl) dX3_square_2 rfl (fun H locs hP hS => ?_)
  have hD : va_D A [(hM, .inr (2, (mO hnow hthen hpast kept htx ty 0 at_ fa htold tolds hac hal hre hse hpl many cost br hsy))), (hnow, .inl (g 0, 253, .inl (aI S)))] := va_Dadr hD rfl
  refine lv_iload_n hx hb dX3_square_5 rfl (lv_at hl 1 rfl) ?_
  refine lv_iload_n hx hb dX3_square_6 rfl (lv_at hl 2 rfl) ?_
  refine g_callS (As := [.int (iI x), .int (iI y)]) (rest := []) (m_X3_isSquare l G g x y r_x r_y) hx hb hml hown hts Stab.tt hK hP hS hEs [] rfl q1538 q1539 q102 q1540 hd_X3_isSquare rfl rfl ⟨Nat.le_of_ble_eq_true rfl, Nat.le_of_ble_eq_true rfl⟩ rfl hl rfl (Nat.le_of_ble_eq_true rfl) ⟨Nat.le_refl _, Nat.le_refl _⟩ dX3_square_7 ?_
  refine g_ifq_eq (tgt := 22) hx hb dX3_square_10 (by decide) (fun c1 => ?_) (fun c1 => ?_)
  · exact False.elim (by contradiction)
  · refine lv_iload_n hx hb dX3_square_13 rfl (lv_at hl 3 rfl) ?_
    refine lv_iconst (v := iI 0) hx hb dX3_square_14 rfl ?_
    refine lv_iconst (v := iI 1) hx hb dX3_square_15 rfl ?_
    refine g_callS (As := [.int (iI what), .int (iI 0), .int (iI 1)]) (rest := []) (m_X3_in l G g what 0 1 r_what ⟨by decide, by decide⟩ ⟨by decide, by decide⟩) hx hb hml hown hts Stab.tt hK hP hS hEs [] rfl q1518 q1519 q102 q1520 hd_X3_in rfl rfl ⟨Nat.le_of_ble_eq_true rfl, Nat.le_of_ble_eq_true rfl⟩ rfl hl rfl (Nat.le_of_ble_eq_true rfl) ⟨Nat.le_refl _, Nat.le_refl _⟩ dX3_square_16 ?_
    refine g_ifq_ne (tgt := 28) hx hb dX3_square_19 (by decide) (fun c2 => ?_) (fun c2 => ?_)
    · refine lv_iload_n hx hb dX3_square_28 rfl (lv_at hl 3 rfl) ?_
      have hJ3 : ∀ ls : Array Slot, lv_has ls 4 [(0, .ref hM), (1, .int (iI x)), (2, .int (iI y)), (3, .int (iI what))] → W p l e ({ frames := 4, cells := 0, slots := 0, locals := 88 }) s m ([.ref hM, .int (iI x), .int (iI y), .int (iI what)] : List Value).toArray below meth c H locs 0 0 (MQ below (va_Qi (fun (r : Int32) (u : Unit) => r = (iI (sqV S x y what))) (fun (u : Unit) t => va_P G CL [(hM, .inr (2, (mO hnow hthen hpast kept htx ty 0 at_ fa htold tolds hac hal hre hse hpl many cost br hsy))), (hnow, .inl (g 0, 253, .inl (aI S)))] t.heap) A) ([.ref hM, .int (iI x), .int (iI y), .int (iI what)] : List Value).toArray s 0 0 A) (F0 m 53 ls [.int (iI (zi (what = 0) (wh S x y) (sdM S x y)))]) := by
        intro ls hl
        exact W.iret (v := (iI (zi (what = 0) (wh S x y) (sdM S x y)))) hx hb hr (fun t ht hW => ⟨⟨_, (), rfl, rfl, by rw [← ht] at hP; exact hP⟩, hS.F ht⟩) hS.2.2 dX3_square_53 hlk
      refine g_if_ne (tgt := 44) hx hb dX3_square_29 (by decide) r_what (fun c4 => ?_) (fun c4 => ?_)
      · refine lv_aload_n hx hb dX3_square_44 rfl (lv_at hl 0 rfl) ?_
        refine va_get (D := G) (ci := 2) (v := .ref hnow) (C := RX3) (T := TX3) (N := 20) hx hb hts in_X3 hown hK hP 0 rfl rfl 0 (by decide) (hts _ q1438) (fun _ h9 => h9) rfl dX3_square_45 ?_
        refine lv_iload_n hx hb dX3_square_48 rfl (lv_at hl 1 rfl) ?_
        refine lv_iload_n hx hb dX3_square_49 rfl (lv_at hl 2 rfl) ?_
        refine g_callS (As := [.ref hnow, .int (iI x), .int (iI y)]) (rest := []) (m_X3_sides l G g hnow x y S r_x r_y kS (by omega) (by omega)) hx hb hml hown hts Stab.tt hK hP hS hEs [1] rfl q1690 q1691 q102 q1692 hd_X3_sides rfl rfl ⟨Nat.le_of_ble_eq_true rfl, Nat.le_of_ble_eq_true rfl⟩ rfl hl rfl (Nat.le_of_ble_eq_true rfl) ⟨Nat.le_refl _, Nat.le_refl _⟩ dX3_square_50 ?_
        refine g_eq (b := zi (what = 0) (wh S x y) (sdM S x y)) ((zi_f c4)).symm ?_
        exact hJ3 ls (lv_sub hl [0, 1, 2, 3] rfl)
      · refine lv_aload_n hx hb dX3_square_32 rfl (lv_at hl 0 rfl) ?_
        refine va_get (D := G) (ci := 2) (v := .ref hnow) (C := RX3) (T := TX3) (N := 20) hx hb hts in_X3 hown hK hP 0 rfl rfl 0 (by decide) (hts _ q1438) (fun _ h9 => h9) rfl dX3_square_33 ?_
        refine lv_iload_n hx hb dX3_square_36 rfl (lv_at hl 1 rfl) ?_
        refine lv_iload_n hx hb dX3_square_37 rfl (lv_at hl 2 rfl) ?_
        refine g_callS (As := [.ref hnow, .int (iI x), .int (iI y)]) (rest := []) (m_X3_what l G g hnow x y S r_x r_y kS) hx hb hml hown hts Stab.tt hK hP hS hEs [1] rfl q1535 q1536 q102 q1537 hd_X3_what rfl rfl ⟨Nat.le_of_ble_eq_true rfl, Nat.le_of_ble_eq_true rfl⟩ rfl hl rfl (Nat.le_of_ble_eq_true rfl) ⟨Nat.le_refl _, Nat.le_refl _⟩ dX3_square_38 ?_
        have w5 := wh_rng kS x y
        refine lv_goto (tgt := 53) hx hb dX3_square_41 (by decide) ?_
        refine g_eq (b := zi (what = 0) (wh S x y) (sdM S x y)) ((zi_t c4)).symm ?_
        exact hJ3 ls (lv_sub hl [0, 1, 2, 3] rfl)
    · exact False.elim (by contradiction)
theorem hd_X3_undo : yX3_undo.cls = RX3 ∧ yX3_undo.cls ≠ "java/lang/invoke/MethodHandle" ∧ yX3_undo.cls ≠ "java/lang/invoke/VarHandle" ∧ (parseMethodDescriptor yX3_undo.desc).map (fun d => d.parameters.length) = some 0 := by decide +kernel
set_option maxHeartbeats 1000000 in
set_option maxRecDepth 100000 in
theorem m_X3_undo_1 (l : Launch) (G : va_G) (g : Nat → ClassId) (sz : Nat) (hM : Nat) (hnow : Nat) (hthen : Nat) (hpast : Nat) (kept : Int) (htx : Nat) (ty : Int) (th : Int) (at_ : Int) (fa : Prop) (htold : Nat) (tolds : Int) (hac : Nat) (hal : Nat) (hre : Nat) (hse : Nat) (hpl : Nat) (many : Int) (cost : Int) (br : Int) (hsy : Nat) (hno : kept = 0) : Met l yX3_undo (ws_ yX3_undo cX3_undo 1 (Option.some Jvm.ClassFile.FieldType.int)) ({ frames := 1, cells := 0, slots := 0, locals := 21 }) (va_Pc [.ref hM] (wrB G CL (TY g) (fun _ => True) [(hM, .inr (2, (mO hnow hthen hpast kept htx ty th at_ fa htold tolds hac hal hre hse hpl many cost br hsy)))] sz)) (va_Qi (fun (r : Int32) (u : Unit) => r = (iI 0)) (fun (u : Unit) t => va_P G CL [(hM, .inr (2, (mO hnow hthen hpast kept htx ty 1 at_ fa htold tolds hac hal hre hse hpl many cost br hsy)))] t.heap) (va_A [(hM, .inr (2, (mO hnow hthen hpast kept htx ty th at_ fa htold tolds hac hal hre hse hpl many cost br hsy)))] sz)) 0 0 (va_A [(hM, .inr (2, (mO hnow hthen hpast kept htx ty th at_ fa htold tolds hac hal hre hse hpl many cost br hsy)))] sz) := by
  refine Met.at (by decide) (Nat.le_of_ble_eq_true rfl) ?_
  intro p e s m below meth c hx hb hr hlk hml hown hnm hts hB ls hl
  have hown : s.vm.findClass RX3 = some m.cls := hown
  obtain ⟨hsz, hP, hK, hD0, hEs⟩ := hB
  subst hsz
  have hD := hD0.self (sz := s.heap.size)
  generalize hAe : va_A [(hM, .inr (2, (mO hnow hthen hpast kept htx ty th at_ fa htold tolds hac hal hre hse hpl many cost br hsy)))] s.heap.size = A at hD ⊢
  have hA : ∀ q : Nat, s.heap.size ≤ q → A q := fun q h => by rw [← hAe]; exact Or.inr h
  have hS : va_S A s.heap s.heap [] := va_S.rf
  have hl : lv_has ls 1 [(0, .ref hM)] := hl
  refine lv_aload_n hx hb dX3_undo_0 rfl (lv_at hl 0 rfl) ?_
  refine lv_iconst (v := iI 0) hx hb dX3_undo_1 rfl ?_
  refine g_put (D := G) (ci := 2) (v := .int (iI 0)) (ty := .int) (C := RX3) (T := TX3) (N := 20) (ws1 := [(hM, .inr (2, (mO hnow hthen hpast kept htx ty 0 at_ fa htold tolds hac hal hre hse hpl many cost br hsy)))]) hx hb hts in_X3 tyX3 tyX3_ok nmX3 hown hK hP hD hS 0 rfl rfl 6 (by decide) (hts _ q1444) (fun _ h9 => h9) rfl (by decide +kernel) (rfl) (rfl) (Nat.le_of_ble_eq_true rfl) dX3_undo_2 rfl (fun H locs hP hS => ?_)
  have hD : va_D A [(hM, .inr (2, (mO hnow hthen hpast kept htx ty 0 at_ fa htold tolds hac hal hre hse hpl many cost br hsy)))] := va_Dadr hD rfl
  refine lv_aload_n hx hb dX3_undo_5 rfl (lv_at hl 0 rfl) ?_
  refine va_get (D := G) (ci := 2) (v := .int (iI kept)) (C := RX3) (T := TX3) (N := 20) hx hb hts in_X3 hown hK hP 0 rfl rfl 3 (by decide) (hts _ q1441) (fun _ h9 => h9) rfl dX3_undo_6 ?_
  refine g_if_ne (tgt := 18) hx hb dX3_undo_9 (by decide) ⟨by omega, by omega⟩ (fun c1 => ?_) (fun c1 => ?_)
  · exact False.elim (by first | omega | contradiction)
  · refine lv_aload_n hx hb dX3_undo_12 rfl (lv_at hl 0 rfl) ?_
    refine lv_iconst (v := iI 1) hx hb dX3_undo_13 rfl ?_
    refine g_callVwi (As := [.int (iI 1)]) (rest := []) (m_X3_fails l G g H.size hM 1 hnow hthen hpast kept htx ty 0 at_ fa htold tolds hac hal hre hse hpl many cost br hsy ⟨by decide, by decide⟩) hx hb hml hown hts Stab.tt hA hK hP hD hS hEs [0] rfl rfl (fun _ => rfl) (q0 := 0) rfl rfl q1507 q1509 qs54 q102 q1510 hd_X3_fails rfl rfl ⟨Nat.le_of_ble_eq_true rfl, Nat.le_of_ble_eq_true rfl⟩ rfl hl rfl (Nat.le_of_ble_eq_true rfl) ⟨Nat.le_refl _, Nat.le_refl _⟩ dX3_undo_14 (fun rr u H locs hp hP hS => ?_)
    have hrr : rr = (iI 0) := hp
    subst hrr
    have hP : va_P G CL [(hM, .inr (2, (mO hnow hthen hpast kept htx ty 1 at_ fa htold tolds hac hal hre hse hpl many cost br hsy)))] H := hP
    have hD : va_D A [(hM, .inr (2, (mO hnow hthen hpast kept htx ty 1 at_ fa htold tolds hac hal hre hse hpl many cost br hsy)))] := va_Dadr hD rfl
    refine W.widen (k := 0) (n := 0) (Nat.le_refl _) (Nat.le_refl _) ?_
    exact W.iret (v := (iI 0)) hx hb hr (fun t ht hW => ⟨⟨_, (), rfl, rfl, by rw [← ht] at hP; exact hP⟩, hS.F ht⟩) hS.2.2 dX3_undo_17 hlk
set_option maxHeartbeats 1000000 in
set_option maxRecDepth 100000 in
theorem m_X3_undo_0 (l : Launch) (G : va_G) (g : Nat → ClassId) (sz : Nat) (hM : Nat) (hnow : Nat) (hthen : Nat) (hpast : Nat) (kept : Int) (htx : Nat) (ty : Int) (th : Int) (at_ : Int) (fa : Prop) (htold : Nat) (tolds : Int) (hac : Nat) (hal : Nat) (hre : Nat) (hse : Nat) (hpl : Nat) (many : Int) (cost : Int) (br : Int) (hsy : Nat) (S : Int → Int) (PA : Int → Int) (hys : 1 ≤ kept ∧ kept ≤ 6) : Met l yX3_undo (ws_ yX3_undo cX3_undo 1 (Option.some Jvm.ClassFile.FieldType.int)) ({ frames := 1, cells := 0, slots := 0, locals := 24 }) (va_Pc [.ref hM] (wrB G CL (TY g) (fun _ => True) [(hM, .inr (2, (mO hnow hthen hpast kept htx ty th at_ fa htold tolds hac hal hre hse hpl many cost br hsy))), (hnow, .inl (g 0, 253, .inl (aI S))), (hpast, .inl (g 0, 1518, .inl (aI PA)))] sz)) (va_Qi (fun (r : Int32) (u : Unit) => r = (iI (kept - 1))) (fun (u : Unit) t => va_P G CL [(hM, .inr (2, (mO hnow hthen hpast (kept - 1) htx ty 0 at_ fa htold tolds hac hal hre hse hpl many cost br hsy))), (hnow, .inl (g 0, 253, .inl (aI (cpZ PA S (253 * (kept - 1)) 0 253)))), (hpast, .inl (g 0, 1518, .inl (aI PA)))] t.heap) (va_A [(hM, .inr (2, (mO hnow hthen hpast kept htx ty th at_ fa htold tolds hac hal hre hse hpl many cost br hsy))), (hnow, .inl (g 0, 253, .inl (aI S))), (hpast, .inl (g 0, 1518, .inl (aI PA)))] sz)) 0 0 (va_A [(hM, .inr (2, (mO hnow hthen hpast kept htx ty th at_ fa htold tolds hac hal hre hse hpl many cost br hsy))), (hnow, .inl (g 0, 253, .inl (aI S))), (hpast, .inl (g 0, 1518, .inl (aI PA)))] sz) := by
  refine Met.at (by decide) (Nat.le_of_ble_eq_true rfl) ?_
  intro p e s m below meth c hx hb hr hlk hml hown hnm hts hB ls hl
  have hown : s.vm.findClass RX3 = some m.cls := hown
  obtain ⟨hsz, hP, hK, hD0, hEs⟩ := hB
  subst hsz
  have hD := hD0.self (sz := s.heap.size)
  generalize hAe : va_A [(hM, .inr (2, (mO hnow hthen hpast kept htx ty th at_ fa htold tolds hac hal hre hse hpl many cost br hsy))), (hnow, .inl (g 0, 253, .inl (aI S))), (hpast, .inl (g 0, 1518, .inl (aI PA)))] s.heap.size = A at hD ⊢
  have hA : ∀ q : Nat, s.heap.size ≤ q → A q := fun q h => by rw [← hAe]; exact Or.inr h
  have hS : va_S A s.heap s.heap [] := va_S.rf
  have hl : lv_has ls 1 [(0, .ref hM)] := hl
  refine lv_aload_n hx hb dX3_undo_0 rfl (lv_at hl 0 rfl) ?_
  refine lv_iconst (v := iI 0) hx hb dX3_undo_1 rfl ?_
  refine g_put (D := G) (ci := 2) (v := .int (iI 0)) (ty := .int) (C := RX3) (T := TX3) (N := 20) (ws1 := [(hM, .inr (2, (mO hnow hthen hpast kept htx ty 0 at_ fa htold tolds hac hal hre hse hpl many cost br hsy))), (hnow, .inl (g 0, 253, .inl (aI S))), (hpast, .inl (g 0, 1518, .inl (aI PA)))]) hx hb hts in_X3 tyX3 tyX3_ok nmX3 hown hK hP hD hS 0 rfl rfl 6 (by decide) (hts _ q1444) (fun _ h9 => h9) rfl (by decide +kernel) (rfl) (rfl) (Nat.le_of_ble_eq_true rfl) dX3_undo_2 rfl (fun H locs hP hS => ?_)
  have hD : va_D A [(hM, .inr (2, (mO hnow hthen hpast kept htx ty 0 at_ fa htold tolds hac hal hre hse hpl many cost br hsy))), (hnow, .inl (g 0, 253, .inl (aI S))), (hpast, .inl (g 0, 1518, .inl (aI PA)))] := va_Dadr hD rfl
  refine lv_aload_n hx hb dX3_undo_5 rfl (lv_at hl 0 rfl) ?_
  refine va_get (D := G) (ci := 2) (v := .int (iI kept)) (C := RX3) (T := TX3) (N := 20) hx hb hts in_X3 hown hK hP 0 rfl rfl 3 (by decide) (hts _ q1441) (fun _ h9 => h9) rfl dX3_undo_6 ?_
  refine g_if_ne (tgt := 18) hx hb dX3_undo_9 (by decide) ⟨by omega, by omega⟩ (fun c1 => ?_) (fun c1 => ?_)
  · refine lv_aload_n hx hb dX3_undo_18 rfl (lv_at hl 0 rfl) ?_
    refine lv_dup hx hb dX3_undo_19 rfl ?_
    refine va_get (D := G) (ci := 2) (v := .int (iI kept)) (C := RX3) (T := TX3) (N := 20) hx hb hts in_X3 hown hK hP 0 rfl rfl 3 (by decide) (hts _ q1441) (fun _ h9 => h9) rfl dX3_undo_20 ?_
    refine lv_iconst (v := iI 1) hx hb dX3_undo_23 rfl ?_
    refine g_isub hx hb dX3_undo_24 ?_
    refine g_put (D := G) (ci := 2) (v := .int (iI (kept - 1))) (ty := .int) (C := RX3) (T := TX3) (N := 20) (ws1 := [(hM, .inr (2, (mO hnow hthen hpast (kept - 1) htx ty 0 at_ fa htold tolds hac hal hre hse hpl many cost br hsy))), (hnow, .inl (g 0, 253, .inl (aI S))), (hpast, .inl (g 0, 1518, .inl (aI PA)))]) hx hb hts in_X3 tyX3 tyX3_ok nmX3 hown hK hP hD hS 0 rfl rfl 3 (by decide) (hts _ q1441) (fun _ h9 => h9) rfl (by decide +kernel) (rfl) (rfl) (Nat.le_of_ble_eq_true rfl) dX3_undo_25 rfl (fun H locs hP hS => ?_)
    have hD : va_D A [(hM, .inr (2, (mO hnow hthen hpast (kept - 1) htx ty 0 at_ fa htold tolds hac hal hre hse hpl many cost br hsy))), (hnow, .inl (g 0, 253, .inl (aI S))), (hpast, .inl (g 0, 1518, .inl (aI PA)))] := va_Dadr hD rfl
    refine lv_aload_n hx hb dX3_undo_28 rfl (lv_at hl 0 rfl) ?_
    refine va_get (D := G) (ci := 2) (v := .ref hpast) (C := RX3) (T := TX3) (N := 20) hx hb hts in_X3 hown hK hP 0 rfl rfl 2 (by decide) (hts _ q1440) (fun _ h9 => h9) rfl dX3_undo_29 ?_
    refine lv_sipush (v := iI 253) hx hb dX3_undo_32 rfl ?_
    refine lv_aload_n hx hb dX3_undo_35 rfl (lv_at hl 0 rfl) ?_
    refine va_get (D := G) (ci := 2) (v := .int (iI (kept - 1))) (C := RX3) (T := TX3) (N := 20) hx hb hts in_X3 hown hK hP 0 rfl rfl 3 (by decide) (hts _ q1441) (fun _ h9 => h9) rfl dX3_undo_36 ?_
    refine g_imul hx hb dX3_undo_39 ?_
    refine lv_aload_n hx hb dX3_undo_40 rfl (lv_at hl 0 rfl) ?_
    refine va_get (D := G) (ci := 2) (v := .ref hnow) (C := RX3) (T := TX3) (N := 20) hx hb hts in_X3 hown hK hP 0 rfl rfl 0 (by decide) (hts _ q1438) (fun _ h9 => h9) rfl dX3_undo_41 ?_
    refine lv_iconst (v := iI 0) hx hb dX3_undo_44 rfl ?_
    refine g_callSwv (As := [.ref hpast, .int (iI (253 * (kept - 1))), .ref hnow, .int (iI 0)]) (rest := []) (m_X3_copies l G g H.size hpast (253 * (kept - 1)) hnow 0 1518 PA 253 S (⟨by omega, by omega⟩) ⟨by decide, by decide⟩ (by omega) (by omega) (by omega) (by omega)) hx hb hml hown hts Stab.tt hA hK hP hD hS hEs [2, 1] rfl rfl (fun _ => rfl) q1511 q1512 q102 q1513 hd_X3_copies rfl rfl ⟨Nat.le_of_ble_eq_true rfl, Nat.le_of_ble_eq_true rfl⟩ rfl hl rfl (Nat.le_of_ble_eq_true rfl) ⟨Nat.le_refl _, Nat.le_refl _⟩ dX3_undo_45 (fun u H locs hp hP hS => ?_)
    have hP : va_P G CL [(hM, .inr (2, (mO hnow hthen hpast (kept - 1) htx ty 0 at_ fa htold tolds hac hal hre hse hpl many cost br hsy))), (hnow, .inl (g 0, 253, .inl (aI (cpZ PA S (253 * (kept - 1)) 0 253)))), (hpast, .inl (g 0, 1518, .inl (aI PA)))] H := hP
    have hD : va_D A [(hM, .inr (2, (mO hnow hthen hpast (kept - 1) htx ty 0 at_ fa htold tolds hac hal hre hse hpl many cost br hsy))), (hnow, .inl (g 0, 253, .inl (aI (cpZ PA S (253 * (kept - 1)) 0 253)))), (hpast, .inl (g 0, 1518, .inl (aI PA)))] := va_Dadr hD rfl
    refine W.widen (k := 0) (n := 0) (Nat.le_refl _) (Nat.le_refl _) ?_
    refine lv_aload_n hx hb dX3_undo_48 rfl (lv_at hl 0 rfl) ?_
    refine va_get (D := G) (ci := 2) (v := .int (iI (kept - 1))) (C := RX3) (T := TX3) (N := 20) hx hb hts in_X3 hown hK hP 0 rfl rfl 3 (by decide) (hts _ q1441) (fun _ h9 => h9) rfl dX3_undo_49 ?_
    exact W.iret (v := (iI (kept - 1))) hx hb hr (fun t ht hW => ⟨⟨_, (), rfl, rfl, by rw [← ht] at hP; exact hP⟩, hS.F ht⟩) hS.2.2 dX3_undo_52 hlk
  · exact False.elim (by first | omega | contradiction)
theorem hd_X3_room : yX3_room.cls = RX3 ∧ yX3_room.cls ≠ "java/lang/invoke/MethodHandle" ∧ yX3_room.cls ≠ "java/lang/invoke/VarHandle" ∧ (parseMethodDescriptor yX3_room.desc).map (fun d => d.parameters.length) = some 4 := by decide +kernel
set_option maxHeartbeats 1000000 in
set_option maxRecDepth 100000 in
theorem m_X3_room_1 (l : Launch) (G : va_G) (g : Nat → ClassId) (sz : Nat) (hM : Nat) (x : Int) (y : Int) (c_ : Int) (r_ : Int) (hnow : Nat) (hthen : Nat) (hpast : Nat) (kept : Int) (htx : Nat) (ty : Int) (th : Int) (at_ : Int) (fa : Prop) (htold : Nat) (tolds : Int) (hac : Nat) (hal : Nat) (hre : Nat) (hse : Nat) (hpl : Nat) (many : Int) (cost : Int) (br : Int) (hsy : Nat) (r_x : r32 x) (r_y : r32 y) (r_c_ : r32 c_) (r_r_ : r32 r_) (hno : ¬ inP x y c_ r_) : Met l yX3_room (ws_ yX3_room cX3_room 7 (Option.some Jvm.ClassFile.FieldType.int)) ({ frames := 1, cells := 0, slots := 0, locals := 22 }) (va_Pc [.ref hM, .int (iI x), .int (iI y), .int (iI c_), .int (iI r_)] (wrB G CL (TY g) (fun _ => True) [(hM, .inr (2, (mO hnow hthen hpast kept htx ty th at_ fa htold tolds hac hal hre hse hpl many cost br hsy)))] sz)) (va_Qi (fun (r : Int32) (u : Unit) => r = (iI 0)) (fun (u : Unit) t => va_P G CL [(hM, .inr (2, (mO hnow hthen hpast kept htx ty 1 at_ fa htold tolds hac hal hre hse hpl many cost br hsy)))] t.heap) (va_A [(hM, .inr (2, (mO hnow hthen hpast kept htx ty th at_ fa htold tolds hac hal hre hse hpl many cost br hsy)))] sz)) 0 0 (va_A [(hM, .inr (2, (mO hnow hthen hpast kept htx ty th at_ fa htold tolds hac hal hre hse hpl many cost br hsy)))] sz) := by
  refine Met.at (by decide) (Nat.le_of_ble_eq_true rfl) ?_
  intro p e s m below meth c hx hb hr hlk hml hown hnm hts hB ls hl
  have hown : s.vm.findClass RX3 = some m.cls := hown
  obtain ⟨hsz, hP, hK, hD0, hEs⟩ := hB
  subst hsz
  have hD := hD0.self (sz := s.heap.size)
  generalize hAe : va_A [(hM, .inr (2, (mO hnow hthen hpast kept htx ty th at_ fa htold tolds hac hal hre hse hpl many cost br hsy)))] s.heap.size = A at hD ⊢
  have hA : ∀ q : Nat, s.heap.size ≤ q → A q := fun q h => by rw [← hAe]; exact Or.inr h
  have hS : va_S A s.heap s.heap [] := va_S.rf
  have hl : lv_has ls 7 [(0, .ref hM), (1, .int (iI x)), (2, .int (iI y)), (3, .int (iI c_)), (4, .int (iI r_))] := hl
  refine lv_aload_n hx hb dX3_room_0 rfl (lv_at hl 0 rfl) ?_
  refine lv_iconst (v := iI 0) hx hb dX3_room_1 rfl ?_
  refine g_put (D := G) (ci := 2) (v := .int (iI 0)) (ty := .int) (C := RX3) (T := TX3) (N := 20) (ws1 := [(hM, .inr (2, (mO hnow hthen hpast kept htx ty 0 at_ fa htold tolds hac hal hre hse hpl many cost br hsy)))]) hx hb hts in_X3 tyX3 tyX3_ok nmX3 hown hK hP hD hS 0 rfl rfl 6 (by decide) (hts _ q1444) (fun _ h9 => h9) rfl (by decide +kernel) (rfl) (rfl) (Nat.le_of_ble_eq_true rfl) dX3_room_2 rfl (fun H locs hP hS => ?_)
  have hD : va_D A [(hM, .inr (2, (mO hnow hthen hpast kept htx ty 0 at_ fa htold tolds hac hal hre hse hpl many cost br hsy)))] := va_Dadr hD rfl
  refine lv_iload_n hx hb dX3_room_5 rfl (lv_at hl 3 rfl) ?_
  refine lv_iconst (v := iI 1) hx hb dX3_room_6 rfl ?_
  refine lv_bipush (v := iI 6) hx hb dX3_room_7 rfl ?_
  refine g_callS (As := [.int (iI c_), .int (iI 1), .int (iI 6)]) (rest := []) (m_X3_in l G g c_ 1 6 r_c_ ⟨by decide, by decide⟩ ⟨by decide, by decide⟩) hx hb hml hown hts Stab.tt hK hP hS hEs [] rfl q1518 q1519 q102 q1520 hd_X3_in rfl rfl ⟨Nat.le_of_ble_eq_true rfl, Nat.le_of_ble_eq_true rfl⟩ rfl hl rfl (Nat.le_of_ble_eq_true rfl) ⟨Nat.le_refl _, Nat.le_refl _⟩ dX3_room_9 ?_
  refine g_ifq_eq (tgt := 51) hx hb dX3_room_12 (by decide) (fun c1 => ?_) (fun c1 => ?_)
  · refine lv_aload_n hx hb dX3_room_51 rfl (lv_at hl 0 rfl) ?_
    refine lv_iconst (v := iI 1) hx hb dX3_room_52 rfl ?_
    refine g_callVwi (As := [.int (iI 1)]) (rest := []) (m_X3_fails l G g H.size hM 1 hnow hthen hpast kept htx ty 0 at_ fa htold tolds hac hal hre hse hpl many cost br hsy ⟨by decide, by decide⟩) hx hb hml hown hts Stab.tt hA hK hP hD hS hEs [0] rfl rfl (fun _ => rfl) (q0 := 0) rfl rfl q1507 q1509 qs54 q102 q1510 hd_X3_fails rfl rfl ⟨Nat.le_of_ble_eq_true rfl, Nat.le_of_ble_eq_true rfl⟩ rfl hl rfl (Nat.le_of_ble_eq_true rfl) ⟨Nat.le_refl _, Nat.le_refl _⟩ dX3_room_53 (fun rr u H locs hp hP hS => ?_)
    have hrr : rr = (iI 0) := hp
    subst hrr
    have hP : va_P G CL [(hM, .inr (2, (mO hnow hthen hpast kept htx ty 1 at_ fa htold tolds hac hal hre hse hpl many cost br hsy)))] H := hP
    have hD : va_D A [(hM, .inr (2, (mO hnow hthen hpast kept htx ty 1 at_ fa htold tolds hac hal hre hse hpl many cost br hsy)))] := va_Dadr hD rfl
    refine W.widen (k := 0) (n := 0) (Nat.le_refl _) (Nat.le_refl _) ?_
    exact W.iret (v := (iI 0)) hx hb hr (fun t ht hW => ⟨⟨_, (), rfl, rfl, by rw [← ht] at hP; exact hP⟩, hS.F ht⟩) hS.2.2 dX3_room_56 hlk
  · refine lv_iload hx hb dX3_room_15 (lv_at hl 4 rfl) ?_
    refine lv_iconst (v := iI 1) hx hb dX3_room_17 rfl ?_
    refine lv_bipush (v := iI 6) hx hb dX3_room_18 rfl ?_
    refine g_callS (As := [.int (iI r_), .int (iI 1), .int (iI 6)]) (rest := []) (m_X3_in l G g r_ 1 6 r_r_ ⟨by decide, by decide⟩ ⟨by decide, by decide⟩) hx hb hml hown hts Stab.tt hK hP hS hEs [] rfl q1518 q1519 q102 q1520 hd_X3_in rfl rfl ⟨Nat.le_of_ble_eq_true rfl, Nat.le_of_ble_eq_true rfl⟩ rfl hl rfl (Nat.le_of_ble_eq_true rfl) ⟨Nat.le_refl _, Nat.le_refl _⟩ dX3_room_20 ?_
    refine g_ifq_eq (tgt := 51) hx hb dX3_room_23 (by decide) (fun c2 => ?_) (fun c2 => ?_)
    · refine lv_aload_n hx hb dX3_room_51 rfl (lv_at hl 0 rfl) ?_
      refine lv_iconst (v := iI 1) hx hb dX3_room_52 rfl ?_
      refine g_callVwi (As := [.int (iI 1)]) (rest := []) (m_X3_fails l G g H.size hM 1 hnow hthen hpast kept htx ty 0 at_ fa htold tolds hac hal hre hse hpl many cost br hsy ⟨by decide, by decide⟩) hx hb hml hown hts Stab.tt hA hK hP hD hS hEs [0] rfl rfl (fun _ => rfl) (q0 := 0) rfl rfl q1507 q1509 qs54 q102 q1510 hd_X3_fails rfl rfl ⟨Nat.le_of_ble_eq_true rfl, Nat.le_of_ble_eq_true rfl⟩ rfl hl rfl (Nat.le_of_ble_eq_true rfl) ⟨Nat.le_refl _, Nat.le_refl _⟩ dX3_room_53 (fun rr u H locs hp hP hS => ?_)
      have hrr : rr = (iI 0) := hp
      subst hrr
      have hP : va_P G CL [(hM, .inr (2, (mO hnow hthen hpast kept htx ty 1 at_ fa htold tolds hac hal hre hse hpl many cost br hsy)))] H := hP
      have hD : va_D A [(hM, .inr (2, (mO hnow hthen hpast kept htx ty 1 at_ fa htold tolds hac hal hre hse hpl many cost br hsy)))] := va_Dadr hD rfl
      refine W.widen (k := 0) (n := 0) (Nat.le_refl _) (Nat.le_refl _) ?_
      exact W.iret (v := (iI 0)) hx hb hr (fun t ht hW => ⟨⟨_, (), rfl, rfl, by rw [← ht] at hP; exact hP⟩, hS.F ht⟩) hS.2.2 dX3_room_56 hlk
    · refine lv_iload_n hx hb dX3_room_26 rfl (lv_at hl 1 rfl) ?_
      refine lv_iconst (v := iI 0) hx hb dX3_room_27 rfl ?_
      refine lv_bipush (v := iI 16) hx hb dX3_room_28 rfl ?_
      refine lv_iload_n hx hb dX3_room_30 rfl (lv_at hl 3 rfl) ?_
      refine g_isub hx hb dX3_room_31 ?_
      refine g_callS (As := [.int (iI x), .int (iI 0), .int (iI (16 - c_))]) (rest := []) (m_X3_in l G g x 0 (16 - c_) r_x ⟨by decide, by decide⟩ (⟨by omega, by omega⟩)) hx hb hml hown hts Stab.tt hK hP hS hEs [] rfl q1518 q1519 q102 q1520 hd_X3_in rfl rfl ⟨Nat.le_of_ble_eq_true rfl, Nat.le_of_ble_eq_true rfl⟩ rfl hl rfl (Nat.le_of_ble_eq_true rfl) ⟨Nat.le_refl _, Nat.le_refl _⟩ dX3_room_32 ?_
      refine g_ifq_eq (tgt := 51) hx hb dX3_room_35 (by decide) (fun c3 => ?_) (fun c3 => ?_)
      · refine lv_aload_n hx hb dX3_room_51 rfl (lv_at hl 0 rfl) ?_
        refine lv_iconst (v := iI 1) hx hb dX3_room_52 rfl ?_
        refine g_callVwi (As := [.int (iI 1)]) (rest := []) (m_X3_fails l G g H.size hM 1 hnow hthen hpast kept htx ty 0 at_ fa htold tolds hac hal hre hse hpl many cost br hsy ⟨by decide, by decide⟩) hx hb hml hown hts Stab.tt hA hK hP hD hS hEs [0] rfl rfl (fun _ => rfl) (q0 := 0) rfl rfl q1507 q1509 qs54 q102 q1510 hd_X3_fails rfl rfl ⟨Nat.le_of_ble_eq_true rfl, Nat.le_of_ble_eq_true rfl⟩ rfl hl rfl (Nat.le_of_ble_eq_true rfl) ⟨Nat.le_refl _, Nat.le_refl _⟩ dX3_room_53 (fun rr u H locs hp hP hS => ?_)
        have hrr : rr = (iI 0) := hp
        subst hrr
        have hP : va_P G CL [(hM, .inr (2, (mO hnow hthen hpast kept htx ty 1 at_ fa htold tolds hac hal hre hse hpl many cost br hsy)))] H := hP
        have hD : va_D A [(hM, .inr (2, (mO hnow hthen hpast kept htx ty 1 at_ fa htold tolds hac hal hre hse hpl many cost br hsy)))] := va_Dadr hD rfl
        refine W.widen (k := 0) (n := 0) (Nat.le_refl _) (Nat.le_refl _) ?_
        exact W.iret (v := (iI 0)) hx hb hr (fun t ht hW => ⟨⟨_, (), rfl, rfl, by rw [← ht] at hP; exact hP⟩, hS.F ht⟩) hS.2.2 dX3_room_56 hlk
      · refine lv_iload_n hx hb dX3_room_38 rfl (lv_at hl 2 rfl) ?_
        refine lv_iconst (v := iI 0) hx hb dX3_room_39 rfl ?_
        refine lv_bipush (v := iI 12) hx hb dX3_room_40 rfl ?_
        refine lv_iload hx hb dX3_room_42 (lv_at hl 4 rfl) ?_
        refine g_isub hx hb dX3_room_44 ?_
        refine g_callS (As := [.int (iI y), .int (iI 0), .int (iI (12 - r_))]) (rest := []) (m_X3_in l G g y 0 (12 - r_) r_y ⟨by decide, by decide⟩ (⟨by omega, by omega⟩)) hx hb hml hown hts Stab.tt hK hP hS hEs [] rfl q1518 q1519 q102 q1520 hd_X3_in rfl rfl ⟨Nat.le_of_ble_eq_true rfl, Nat.le_of_ble_eq_true rfl⟩ rfl hl rfl (Nat.le_of_ble_eq_true rfl) ⟨Nat.le_refl _, Nat.le_refl _⟩ dX3_room_45 ?_
        refine g_ifq_ne (tgt := 57) hx hb dX3_room_48 (by decide) (fun c4 => ?_) (fun c4 => ?_)
        · exact False.elim (by omega)
        · refine lv_aload_n hx hb dX3_room_51 rfl (lv_at hl 0 rfl) ?_
          refine lv_iconst (v := iI 1) hx hb dX3_room_52 rfl ?_
          refine g_callVwi (As := [.int (iI 1)]) (rest := []) (m_X3_fails l G g H.size hM 1 hnow hthen hpast kept htx ty 0 at_ fa htold tolds hac hal hre hse hpl many cost br hsy ⟨by decide, by decide⟩) hx hb hml hown hts Stab.tt hA hK hP hD hS hEs [0] rfl rfl (fun _ => rfl) (q0 := 0) rfl rfl q1507 q1509 qs54 q102 q1510 hd_X3_fails rfl rfl ⟨Nat.le_of_ble_eq_true rfl, Nat.le_of_ble_eq_true rfl⟩ rfl hl rfl (Nat.le_of_ble_eq_true rfl) ⟨Nat.le_refl _, Nat.le_refl _⟩ dX3_room_53 (fun rr u H locs hp hP hS => ?_)
          have hrr : rr = (iI 0) := hp
          subst hrr
          have hP : va_P G CL [(hM, .inr (2, (mO hnow hthen hpast kept htx ty 1 at_ fa htold tolds hac hal hre hse hpl many cost br hsy)))] H := hP
          have hD : va_D A [(hM, .inr (2, (mO hnow hthen hpast kept htx ty 1 at_ fa htold tolds hac hal hre hse hpl many cost br hsy)))] := va_Dadr hD rfl
          refine W.widen (k := 0) (n := 0) (Nat.le_refl _) (Nat.le_refl _) ?_
          exact W.iret (v := (iI 0)) hx hb hr (fun t ht hW => ⟨⟨_, (), rfl, rfl, by rw [← ht] at hP; exact hP⟩, hS.F ht⟩) hS.2.2 dX3_room_56 hlk
set_option maxHeartbeats 1000000 in
set_option maxRecDepth 100000 in
theorem m_X3_room_2 (l : Launch) (G : va_G) (g : Nat → ClassId) (sz : Nat) (hM : Nat) (x : Int) (y : Int) (c_ : Int) (r_ : Int) (hnow : Nat) (hthen : Nat) (hpast : Nat) (kept : Int) (htx : Nat) (ty : Int) (th : Int) (at_ : Int) (fa : Prop) (htold : Nat) (tolds : Int) (hac : Nat) (hal : Nat) (hre : Nat) (hse : Nat) (hpl : Nat) (many : Int) (cost : Int) (br : Int) (hsy : Nat) (S : Int → Int) (r_x : r32 x) (r_y : r32 y) (r_c_ : r32 c_) (r_r_ : r32 r_) (kS : rgS S) (hys : inP x y c_ r_) (hno : fre S = 6 ∨ ¬ cbe S x y c_ r_) : Met l yX3_room (ws_ yX3_room cX3_room 7 (Option.some Jvm.ClassFile.FieldType.int)) ({ frames := 4, cells := 0, slots := 0, locals := 92 }) (va_Pc [.ref hM, .int (iI x), .int (iI y), .int (iI c_), .int (iI r_)] (wrB G CL (TY g) (fun _ => True) [(hM, .inr (2, (mO hnow hthen hpast kept htx ty th at_ fa htold tolds hac hal hre hse hpl many cost br hsy))), (hnow, .inl (g 0, 253, .inl (aI S)))] sz)) (va_Qi (fun (r : Int32) (u : Unit) => r = (iI 0)) (fun (u : Unit) t => va_P G CL [(hM, .inr (2, (mO hnow hthen hpast kept htx ty 2 at_ fa htold tolds hac hal hre hse hpl many cost br hsy))), (hnow, .inl (g 0, 253, .inl (aI S)))] t.heap) (va_A [(hM, .inr (2, (mO hnow hthen hpast kept htx ty th at_ fa htold tolds hac hal hre hse hpl many cost br hsy))), (hnow, .inl (g 0, 253, .inl (aI S)))] sz)) 0 0 (va_A [(hM, .inr (2, (mO hnow hthen hpast kept htx ty th at_ fa htold tolds hac hal hre hse hpl many cost br hsy))), (hnow, .inl (g 0, 253, .inl (aI S)))] sz) := by
  refine Met.at (by decide) (Nat.le_of_ble_eq_true rfl) ?_
  intro p e s m below meth c hx hb hr hlk hml hown hnm hts hB ls hl
  have hown : s.vm.findClass RX3 = some m.cls := hown
  obtain ⟨hsz, hP, hK, hD0, hEs⟩ := hB
  subst hsz
  have hD := hD0.self (sz := s.heap.size)
  generalize hAe : va_A [(hM, .inr (2, (mO hnow hthen hpast kept htx ty th at_ fa htold tolds hac hal hre hse hpl many cost br hsy))), (hnow, .inl (g 0, 253, .inl (aI S)))] s.heap.size = A at hD ⊢
  have hA : ∀ q : Nat, s.heap.size ≤ q → A q := fun q h => by rw [← hAe]; exact Or.inr h
  have hS : va_S A s.heap s.heap [] := va_S.rf
  have hl : lv_has ls 7 [(0, .ref hM), (1, .int (iI x)), (2, .int (iI y)), (3, .int (iI c_)), (4, .int (iI r_))] := hl
  refine lv_aload_n hx hb dX3_room_0 rfl (lv_at hl 0 rfl) ?_
  refine lv_iconst (v := iI 0) hx hb dX3_room_1 rfl ?_
  refine g_put (D := G) (ci := 2) (v := .int (iI 0)) (ty := .int) (C := RX3) (T := TX3) (N := 20) (ws1 := [(hM, .inr (2, (mO hnow hthen hpast kept htx ty 0 at_ fa htold tolds hac hal hre hse hpl many cost br hsy))), (hnow, .inl (g 0, 253, .inl (aI S)))]) hx hb hts in_X3 tyX3 tyX3_ok nmX3 hown hK hP hD hS 0 rfl rfl 6 (by decide) (hts _ q1444) (fun _ h9 => h9) rfl (by decide +kernel) (rfl) (rfl) (Nat.le_of_ble_eq_true rfl) dX3_room_2 rfl (fun H locs hP hS => ?_)
  have hD : va_D A [(hM, .inr (2, (mO hnow hthen hpast kept htx ty 0 at_ fa htold tolds hac hal hre hse hpl many cost br hsy))), (hnow, .inl (g 0, 253, .inl (aI S)))] := va_Dadr hD rfl
  refine lv_iload_n hx hb dX3_room_5 rfl (lv_at hl 3 rfl) ?_
  refine lv_iconst (v := iI 1) hx hb dX3_room_6 rfl ?_
  refine lv_bipush (v := iI 6) hx hb dX3_room_7 rfl ?_
  refine g_callS (As := [.int (iI c_), .int (iI 1), .int (iI 6)]) (rest := []) (m_X3_in l G g c_ 1 6 r_c_ ⟨by decide, by decide⟩ ⟨by decide, by decide⟩) hx hb hml hown hts Stab.tt hK hP hS hEs [] rfl q1518 q1519 q102 q1520 hd_X3_in rfl rfl ⟨Nat.le_of_ble_eq_true rfl, Nat.le_of_ble_eq_true rfl⟩ rfl hl rfl (Nat.le_of_ble_eq_true rfl) ⟨Nat.le_refl _, Nat.le_refl _⟩ dX3_room_9 ?_
  refine g_ifq_eq (tgt := 51) hx hb dX3_room_12 (by decide) (fun c1 => ?_) (fun c1 => ?_)
  · exact False.elim (by omega)
  · refine lv_iload hx hb dX3_room_15 (lv_at hl 4 rfl) ?_
    refine lv_iconst (v := iI 1) hx hb dX3_room_17 rfl ?_
    refine lv_bipush (v := iI 6) hx hb dX3_room_18 rfl ?_
    refine g_callS (As := [.int (iI r_), .int (iI 1), .int (iI 6)]) (rest := []) (m_X3_in l G g r_ 1 6 r_r_ ⟨by decide, by decide⟩ ⟨by decide, by decide⟩) hx hb hml hown hts Stab.tt hK hP hS hEs [] rfl q1518 q1519 q102 q1520 hd_X3_in rfl rfl ⟨Nat.le_of_ble_eq_true rfl, Nat.le_of_ble_eq_true rfl⟩ rfl hl rfl (Nat.le_of_ble_eq_true rfl) ⟨Nat.le_refl _, Nat.le_refl _⟩ dX3_room_20 ?_
    refine g_ifq_eq (tgt := 51) hx hb dX3_room_23 (by decide) (fun c2 => ?_) (fun c2 => ?_)
    · exact False.elim (by omega)
    · refine lv_iload_n hx hb dX3_room_26 rfl (lv_at hl 1 rfl) ?_
      refine lv_iconst (v := iI 0) hx hb dX3_room_27 rfl ?_
      refine lv_bipush (v := iI 16) hx hb dX3_room_28 rfl ?_
      refine lv_iload_n hx hb dX3_room_30 rfl (lv_at hl 3 rfl) ?_
      refine g_isub hx hb dX3_room_31 ?_
      refine g_callS (As := [.int (iI x), .int (iI 0), .int (iI (16 - c_))]) (rest := []) (m_X3_in l G g x 0 (16 - c_) r_x ⟨by decide, by decide⟩ (⟨by omega, by omega⟩)) hx hb hml hown hts Stab.tt hK hP hS hEs [] rfl q1518 q1519 q102 q1520 hd_X3_in rfl rfl ⟨Nat.le_of_ble_eq_true rfl, Nat.le_of_ble_eq_true rfl⟩ rfl hl rfl (Nat.le_of_ble_eq_true rfl) ⟨Nat.le_refl _, Nat.le_refl _⟩ dX3_room_32 ?_
      refine g_ifq_eq (tgt := 51) hx hb dX3_room_35 (by decide) (fun c3 => ?_) (fun c3 => ?_)
      · exact False.elim (by omega)
      · refine lv_iload_n hx hb dX3_room_38 rfl (lv_at hl 2 rfl) ?_
        refine lv_iconst (v := iI 0) hx hb dX3_room_39 rfl ?_
        refine lv_bipush (v := iI 12) hx hb dX3_room_40 rfl ?_
        refine lv_iload hx hb dX3_room_42 (lv_at hl 4 rfl) ?_
        refine g_isub hx hb dX3_room_44 ?_
        refine g_callS (As := [.int (iI y), .int (iI 0), .int (iI (12 - r_))]) (rest := []) (m_X3_in l G g y 0 (12 - r_) r_y ⟨by decide, by decide⟩ (⟨by omega, by omega⟩)) hx hb hml hown hts Stab.tt hK hP hS hEs [] rfl q1518 q1519 q102 q1520 hd_X3_in rfl rfl ⟨Nat.le_of_ble_eq_true rfl, Nat.le_of_ble_eq_true rfl⟩ rfl hl rfl (Nat.le_of_ble_eq_true rfl) ⟨Nat.le_refl _, Nat.le_refl _⟩ dX3_room_45 ?_
        refine g_ifq_ne (tgt := 57) hx hb dX3_room_48 (by decide) (fun c4 => ?_) (fun c4 => ?_)
        · refine lv_aload_n hx hb dX3_room_57 rfl (lv_at hl 0 rfl) ?_
          refine g_callV (As := []) (rest := []) (m_X3_free l G g hM (mO hnow hthen hpast kept htx ty 0 at_ fa htold tolds hac hal hre hse hpl many cost br hsy) hnow S rfl kS) hx hb hml hown hts Stab.tt hK hP hS hEs [0, 1] rfl (q0 := 0) rfl rfl q1521 q1523 qs55 q102 q1524 hd_X3_free rfl rfl ⟨Nat.le_of_ble_eq_true rfl, Nat.le_of_ble_eq_true rfl⟩ rfl hl rfl (Nat.le_of_ble_eq_true rfl) ⟨Nat.le_refl _, Nat.le_refl _⟩ dX3_room_58 ?_
          have w5 := fre_rng S
          refine lv_istore (lv' := [(5, .int (iI (fre S))), (0, .ref hM), (1, .int (iI x)), (2, .int (iI y)), (3, .int (iI c_)), (4, .int (iI r_))]) hx hb dX3_room_61 hl (by decide) rfl (fun ls hl => ?_)
          refine lv_iload hx hb dX3_room_63 (lv_at hl 0 rfl) ?_
          refine lv_bipush (v := iI 6) hx hb dX3_room_65 rfl ?_
          refine g_icmp_eq (tgt := 82) hx hb dX3_room_67 (by decide) ⟨⟨by omega, by omega⟩, ⟨by decide, by decide⟩⟩ (fun c6 => ?_) (fun c6 => ?_)
          · refine lv_aload_n hx hb dX3_room_82 rfl (lv_at hl 1 rfl) ?_
            refine lv_iconst (v := iI 2) hx hb dX3_room_83 rfl ?_
            refine g_callVwi (As := [.int (iI 2)]) (rest := []) (m_X3_fails l G g H.size hM 2 hnow hthen hpast kept htx ty 0 at_ fa htold tolds hac hal hre hse hpl many cost br hsy ⟨by decide, by decide⟩) hx hb hml hown hts Stab.tt hA hK hP hD hS hEs [0] rfl rfl (fun _ => rfl) (q0 := 0) rfl rfl q1507 q1509 qs54 q102 q1510 hd_X3_fails rfl rfl ⟨Nat.le_of_ble_eq_true rfl, Nat.le_of_ble_eq_true rfl⟩ rfl hl rfl (Nat.le_of_ble_eq_true rfl) ⟨Nat.le_refl _, Nat.le_refl _⟩ dX3_room_84 (fun rr u H locs hp hP hS => ?_)
            have hrr : rr = (iI 0) := hp
            subst hrr
            have hP : va_P G CL [(hM, .inr (2, (mO hnow hthen hpast kept htx ty 2 at_ fa htold tolds hac hal hre hse hpl many cost br hsy))), (hnow, .inl (g 0, 253, .inl (aI S)))] H := hP
            have hD : va_D A [(hM, .inr (2, (mO hnow hthen hpast kept htx ty 2 at_ fa htold tolds hac hal hre hse hpl many cost br hsy))), (hnow, .inl (g 0, 253, .inl (aI S)))] := va_Dadr hD rfl
            refine W.widen (k := 0) (n := 0) (Nat.le_refl _) (Nat.le_refl _) ?_
            exact W.iret (v := (iI 0)) hx hb hr (fun t ht hW => ⟨⟨_, (), rfl, rfl, by rw [← ht] at hP; exact hP⟩, hS.F ht⟩) hS.2.2 dX3_room_87 hlk
          · refine lv_aload_n hx hb dX3_room_70 rfl (lv_at hl 1 rfl) ?_
            refine lv_iload_n hx hb dX3_room_71 rfl (lv_at hl 2 rfl) ?_
            refine lv_iload_n hx hb dX3_room_72 rfl (lv_at hl 3 rfl) ?_
            refine lv_iload_n hx hb dX3_room_73 rfl (lv_at hl 4 rfl) ?_
            refine lv_iload hx hb dX3_room_74 (lv_at hl 5 rfl) ?_
            refine g_callV (As := [.int (iI x), .int (iI y), .int (iI c_), .int (iI r_)]) (rest := []) (m_X3_canBe l G g hM x y c_ r_ (mO hnow hthen hpast kept htx ty 0 at_ fa htold tolds hac hal hre hse hpl many cost br hsy) hnow S rfl r_x r_y r_c_ r_r_ kS (by omega) (by omega) (by omega) (by omega)) hx hb hml hown hts Stab.tt hK hP hS hEs [0, 1] rfl (q0 := 0) rfl rfl q1531 q1533 qs56 q102 q1534 hd_X3_canBe rfl rfl ⟨Nat.le_of_ble_eq_true rfl, Nat.le_of_ble_eq_true rfl⟩ rfl hl rfl (Nat.le_of_ble_eq_true rfl) ⟨Nat.le_refl _, Nat.le_refl _⟩ dX3_room_76 ?_
            refine g_ifq_ne (tgt := 88) hx hb dX3_room_79 (by decide) (fun c7 => ?_) (fun c7 => ?_)
            · exact False.elim (hno.elim (fun z => absurd z (by assumption)) (fun z => absurd (by assumption) z))
            · refine lv_aload_n hx hb dX3_room_82 rfl (lv_at hl 1 rfl) ?_
              refine lv_iconst (v := iI 2) hx hb dX3_room_83 rfl ?_
              refine g_callVwi (As := [.int (iI 2)]) (rest := []) (m_X3_fails l G g H.size hM 2 hnow hthen hpast kept htx ty 0 at_ fa htold tolds hac hal hre hse hpl many cost br hsy ⟨by decide, by decide⟩) hx hb hml hown hts Stab.tt hA hK hP hD hS hEs [0] rfl rfl (fun _ => rfl) (q0 := 0) rfl rfl q1507 q1509 qs54 q102 q1510 hd_X3_fails rfl rfl ⟨Nat.le_of_ble_eq_true rfl, Nat.le_of_ble_eq_true rfl⟩ rfl hl rfl (Nat.le_of_ble_eq_true rfl) ⟨Nat.le_refl _, Nat.le_refl _⟩ dX3_room_84 (fun rr u H locs hp hP hS => ?_)
              have hrr : rr = (iI 0) := hp
              subst hrr
              have hP : va_P G CL [(hM, .inr (2, (mO hnow hthen hpast kept htx ty 2 at_ fa htold tolds hac hal hre hse hpl many cost br hsy))), (hnow, .inl (g 0, 253, .inl (aI S)))] H := hP
              have hD : va_D A [(hM, .inr (2, (mO hnow hthen hpast kept htx ty 2 at_ fa htold tolds hac hal hre hse hpl many cost br hsy))), (hnow, .inl (g 0, 253, .inl (aI S)))] := va_Dadr hD rfl
              refine W.widen (k := 0) (n := 0) (Nat.le_refl _) (Nat.le_refl _) ?_
              exact W.iret (v := (iI 0)) hx hb hr (fun t ht hW => ⟨⟨_, (), rfl, rfl, by rw [← ht] at hP; exact hP⟩, hS.F ht⟩) hS.2.2 dX3_room_87 hlk
        · exact False.elim (by omega)
set_option maxHeartbeats 1000000 in
set_option maxRecDepth 100000 in
theorem m_X3_room_0 (l : Launch) (G : va_G) (g : Nat → ClassId) (sz : Nat) (hM : Nat) (x : Int) (y : Int) (c_ : Int) (r_ : Int) (hnow : Nat) (hthen : Nat) (hpast : Nat) (kept : Int) (htx : Nat) (ty : Int) (th : Int) (at_ : Int) (fa : Prop) (htold : Nat) (tolds : Int) (hac : Nat) (hal : Nat) (hre : Nat) (hse : Nat) (hpl : Nat) (many : Int) (cost : Int) (br : Int) (hsy : Nat) (S : Int → Int) (PA : Int → Int) (r_x : r32 x) (r_y : r32 y) (r_c_ : r32 c_) (r_r_ : r32 r_) (kS : rgS S) (hkp : 0 ≤ kept ∧ kept ≤ 6) (hys : inP x y c_ r_) (hfr : ¬ fre S = 6) (hcb : cbe S x y c_ r_) : Met l yX3_room (ws_ yX3_room cX3_room 7 (Option.some Jvm.ClassFile.FieldType.int)) ({ frames := 4, cells := 0, slots := 0, locals := 92 }) (va_Pc [.ref hM, .int (iI x), .int (iI y), .int (iI c_), .int (iI r_)] (wrB G CL (TY g) (fun _ => True) [(hM, .inr (2, (mO hnow hthen hpast kept htx ty th at_ fa htold tolds hac hal hre hse hpl many cost br hsy))), (hnow, .inl (g 0, 253, .inl (aI S))), (hpast, .inl (g 0, 1518, .inl (aI PA)))] sz)) (va_Qi (fun (r : Int32) (u : Unit) => r = (iI (fre S))) (fun (u : Unit) t => va_P G CL [(hM, .inr (2, (mO hnow hthen hpast (svK kept) htx ty 0 at_ fa htold tolds hac hal hre hse hpl many cost br hsy))), (hnow, .inl (g 0, 253, .inl (aI (rmS S x y c_ r_)))), (hpast, .inl (g 0, 1518, .inl (aI (svP S PA kept))))] t.heap) (va_A [(hM, .inr (2, (mO hnow hthen hpast kept htx ty th at_ fa htold tolds hac hal hre hse hpl many cost br hsy))), (hnow, .inl (g 0, 253, .inl (aI S))), (hpast, .inl (g 0, 1518, .inl (aI PA)))] sz)) 0 0 (va_A [(hM, .inr (2, (mO hnow hthen hpast kept htx ty th at_ fa htold tolds hac hal hre hse hpl many cost br hsy))), (hnow, .inl (g 0, 253, .inl (aI S))), (hpast, .inl (g 0, 1518, .inl (aI PA)))] sz) := by
  refine Met.at (by decide) (Nat.le_of_ble_eq_true rfl) ?_
  intro p e s m below meth c hx hb hr hlk hml hown hnm hts hB ls hl
  have hown : s.vm.findClass RX3 = some m.cls := hown
  obtain ⟨hsz, hP, hK, hD0, hEs⟩ := hB
  subst hsz
  have hD := hD0.self (sz := s.heap.size)
  generalize hAe : va_A [(hM, .inr (2, (mO hnow hthen hpast kept htx ty th at_ fa htold tolds hac hal hre hse hpl many cost br hsy))), (hnow, .inl (g 0, 253, .inl (aI S))), (hpast, .inl (g 0, 1518, .inl (aI PA)))] s.heap.size = A at hD ⊢
  have hA : ∀ q : Nat, s.heap.size ≤ q → A q := fun q h => by rw [← hAe]; exact Or.inr h
  have hS : va_S A s.heap s.heap [] := va_S.rf
  have hl : lv_has ls 7 [(0, .ref hM), (1, .int (iI x)), (2, .int (iI y)), (3, .int (iI c_)), (4, .int (iI r_))] := hl
  have bb := cr_rng hys.1 hys.2.1
  refine lv_aload_n hx hb dX3_room_0 rfl (lv_at hl 0 rfl) ?_
  refine lv_iconst (v := iI 0) hx hb dX3_room_1 rfl ?_
  refine g_put (D := G) (ci := 2) (v := .int (iI 0)) (ty := .int) (C := RX3) (T := TX3) (N := 20) (ws1 := [(hM, .inr (2, (mO hnow hthen hpast kept htx ty 0 at_ fa htold tolds hac hal hre hse hpl many cost br hsy))), (hnow, .inl (g 0, 253, .inl (aI S))), (hpast, .inl (g 0, 1518, .inl (aI PA)))]) hx hb hts in_X3 tyX3 tyX3_ok nmX3 hown hK hP hD hS 0 rfl rfl 6 (by decide) (hts _ q1444) (fun _ h9 => h9) rfl (by decide +kernel) (rfl) (rfl) (Nat.le_of_ble_eq_true rfl) dX3_room_2 rfl (fun H locs hP hS => ?_)
  have hD : va_D A [(hM, .inr (2, (mO hnow hthen hpast kept htx ty 0 at_ fa htold tolds hac hal hre hse hpl many cost br hsy))), (hnow, .inl (g 0, 253, .inl (aI S))), (hpast, .inl (g 0, 1518, .inl (aI PA)))] := va_Dadr hD rfl
  refine lv_iload_n hx hb dX3_room_5 rfl (lv_at hl 3 rfl) ?_
  refine lv_iconst (v := iI 1) hx hb dX3_room_6 rfl ?_
  refine lv_bipush (v := iI 6) hx hb dX3_room_7 rfl ?_
  refine g_callS (As := [.int (iI c_), .int (iI 1), .int (iI 6)]) (rest := []) (m_X3_in l G g c_ 1 6 r_c_ ⟨by decide, by decide⟩ ⟨by decide, by decide⟩) hx hb hml hown hts Stab.tt hK hP hS hEs [] rfl q1518 q1519 q102 q1520 hd_X3_in rfl rfl ⟨Nat.le_of_ble_eq_true rfl, Nat.le_of_ble_eq_true rfl⟩ rfl hl rfl (Nat.le_of_ble_eq_true rfl) ⟨Nat.le_refl _, Nat.le_refl _⟩ dX3_room_9 ?_
  refine g_ifq_eq (tgt := 51) hx hb dX3_room_12 (by decide) (fun c1 => ?_) (fun c1 => ?_)
  · exact False.elim (by omega)
  · refine lv_iload hx hb dX3_room_15 (lv_at hl 4 rfl) ?_
    refine lv_iconst (v := iI 1) hx hb dX3_room_17 rfl ?_
    refine lv_bipush (v := iI 6) hx hb dX3_room_18 rfl ?_
    refine g_callS (As := [.int (iI r_), .int (iI 1), .int (iI 6)]) (rest := []) (m_X3_in l G g r_ 1 6 r_r_ ⟨by decide, by decide⟩ ⟨by decide, by decide⟩) hx hb hml hown hts Stab.tt hK hP hS hEs [] rfl q1518 q1519 q102 q1520 hd_X3_in rfl rfl ⟨Nat.le_of_ble_eq_true rfl, Nat.le_of_ble_eq_true rfl⟩ rfl hl rfl (Nat.le_of_ble_eq_true rfl) ⟨Nat.le_refl _, Nat.le_refl _⟩ dX3_room_20 ?_
    refine g_ifq_eq (tgt := 51) hx hb dX3_room_23 (by decide) (fun c2 => ?_) (fun c2 => ?_)
    · exact False.elim (by omega)
    · refine lv_iload_n hx hb dX3_room_26 rfl (lv_at hl 1 rfl) ?_
      refine lv_iconst (v := iI 0) hx hb dX3_room_27 rfl ?_
      refine lv_bipush (v := iI 16) hx hb dX3_room_28 rfl ?_
      refine lv_iload_n hx hb dX3_room_30 rfl (lv_at hl 3 rfl) ?_
      refine g_isub hx hb dX3_room_31 ?_
      refine g_callS (As := [.int (iI x), .int (iI 0), .int (iI (16 - c_))]) (rest := []) (m_X3_in l G g x 0 (16 - c_) r_x ⟨by decide, by decide⟩ (⟨by omega, by omega⟩)) hx hb hml hown hts Stab.tt hK hP hS hEs [] rfl q1518 q1519 q102 q1520 hd_X3_in rfl rfl ⟨Nat.le_of_ble_eq_true rfl, Nat.le_of_ble_eq_true rfl⟩ rfl hl rfl (Nat.le_of_ble_eq_true rfl) ⟨Nat.le_refl _, Nat.le_refl _⟩ dX3_room_32 ?_
      refine g_ifq_eq (tgt := 51) hx hb dX3_room_35 (by decide) (fun c3 => ?_) (fun c3 => ?_)
      · exact False.elim (by omega)
      · refine lv_iload_n hx hb dX3_room_38 rfl (lv_at hl 2 rfl) ?_
        refine lv_iconst (v := iI 0) hx hb dX3_room_39 rfl ?_
        refine lv_bipush (v := iI 12) hx hb dX3_room_40 rfl ?_
        refine lv_iload hx hb dX3_room_42 (lv_at hl 4 rfl) ?_
        refine g_isub hx hb dX3_room_44 ?_
        refine g_callS (As := [.int (iI y), .int (iI 0), .int (iI (12 - r_))]) (rest := []) (m_X3_in l G g y 0 (12 - r_) r_y ⟨by decide, by decide⟩ (⟨by omega, by omega⟩)) hx hb hml hown hts Stab.tt hK hP hS hEs [] rfl q1518 q1519 q102 q1520 hd_X3_in rfl rfl ⟨Nat.le_of_ble_eq_true rfl, Nat.le_of_ble_eq_true rfl⟩ rfl hl rfl (Nat.le_of_ble_eq_true rfl) ⟨Nat.le_refl _, Nat.le_refl _⟩ dX3_room_45 ?_
        refine g_ifq_ne (tgt := 57) hx hb dX3_room_48 (by decide) (fun c4 => ?_) (fun c4 => ?_)
        · refine lv_aload_n hx hb dX3_room_57 rfl (lv_at hl 0 rfl) ?_
          refine g_callV (As := []) (rest := []) (m_X3_free l G g hM (mO hnow hthen hpast kept htx ty 0 at_ fa htold tolds hac hal hre hse hpl many cost br hsy) hnow S rfl kS) hx hb hml hown hts Stab.tt hK hP hS hEs [0, 1] rfl (q0 := 0) rfl rfl q1521 q1523 qs55 q102 q1524 hd_X3_free rfl rfl ⟨Nat.le_of_ble_eq_true rfl, Nat.le_of_ble_eq_true rfl⟩ rfl hl rfl (Nat.le_of_ble_eq_true rfl) ⟨Nat.le_refl _, Nat.le_refl _⟩ dX3_room_58 ?_
          have w5 := fre_rng S
          refine lv_istore (lv' := [(5, .int (iI (fre S))), (0, .ref hM), (1, .int (iI x)), (2, .int (iI y)), (3, .int (iI c_)), (4, .int (iI r_))]) hx hb dX3_room_61 hl (by decide) rfl (fun ls hl => ?_)
          refine lv_iload hx hb dX3_room_63 (lv_at hl 0 rfl) ?_
          refine lv_bipush (v := iI 6) hx hb dX3_room_65 rfl ?_
          refine g_icmp_eq (tgt := 82) hx hb dX3_room_67 (by decide) ⟨⟨by omega, by omega⟩, ⟨by decide, by decide⟩⟩ (fun c6 => ?_) (fun c6 => ?_)
          · exact False.elim (by omega)
          · refine lv_aload_n hx hb dX3_room_70 rfl (lv_at hl 1 rfl) ?_
            refine lv_iload_n hx hb dX3_room_71 rfl (lv_at hl 2 rfl) ?_
            refine lv_iload_n hx hb dX3_room_72 rfl (lv_at hl 3 rfl) ?_
            refine lv_iload_n hx hb dX3_room_73 rfl (lv_at hl 4 rfl) ?_
            refine lv_iload hx hb dX3_room_74 (lv_at hl 5 rfl) ?_
            refine g_callV (As := [.int (iI x), .int (iI y), .int (iI c_), .int (iI r_)]) (rest := []) (m_X3_canBe l G g hM x y c_ r_ (mO hnow hthen hpast kept htx ty 0 at_ fa htold tolds hac hal hre hse hpl many cost br hsy) hnow S rfl r_x r_y r_c_ r_r_ kS (by omega) (by omega) (by omega) (by omega)) hx hb hml hown hts Stab.tt hK hP hS hEs [0, 1] rfl (q0 := 0) rfl rfl q1531 q1533 qs56 q102 q1534 hd_X3_canBe rfl rfl ⟨Nat.le_of_ble_eq_true rfl, Nat.le_of_ble_eq_true rfl⟩ rfl hl rfl (Nat.le_of_ble_eq_true rfl) ⟨Nat.le_refl _, Nat.le_refl _⟩ dX3_room_76 ?_
            refine g_ifq_ne (tgt := 88) hx hb dX3_room_79 (by decide) (fun c7 => ?_) (fun c7 => ?_)
            · refine lv_aload_n hx hb dX3_room_88 rfl (lv_at hl 1 rfl) ?_
              refine g_callVwv (As := []) (rest := []) (m_X3_saves l G g H.size hM hnow hthen hpast kept htx ty 0 at_ fa htold tolds hac hal hre hse hpl many cost br hsy S PA hkp) hx hb hml hown hts Stab.tt hA hK hP hD hS hEs [0, 1, 2] rfl rfl (fun _ => rfl) (q0 := 0) rfl rfl q1541 q1543 qs57 q102 q1544 hd_X3_saves rfl rfl ⟨Nat.le_of_ble_eq_true rfl, Nat.le_of_ble_eq_true rfl⟩ rfl hl rfl (Nat.le_of_ble_eq_true rfl) ⟨Nat.le_refl _, Nat.le_refl _⟩ dX3_room_89 (fun u H locs hp hP hS => ?_)
              have hP : va_P G CL [(hM, .inr (2, (mO hnow hthen hpast (svK kept) htx ty 0 at_ fa htold tolds hac hal hre hse hpl many cost br hsy))), (hnow, .inl (g 0, 253, .inl (aI S))), (hpast, .inl (g 0, 1518, .inl (aI (svP S PA kept))))] H := hP
              have hD : va_D A [(hM, .inr (2, (mO hnow hthen hpast (svK kept) htx ty 0 at_ fa htold tolds hac hal hre hse hpl many cost br hsy))), (hnow, .inl (g 0, 253, .inl (aI S))), (hpast, .inl (g 0, 1518, .inl (aI (svP S PA kept))))] := va_Dadr hD rfl
              refine W.widen (k := 0) (n := 0) (Nat.le_refl _) (Nat.le_refl _) ?_
              refine lv_aload_n hx hb dX3_room_92 rfl (lv_at hl 1 rfl) ?_
              refine va_get (D := G) (ci := 2) (v := .ref hnow) (C := RX3) (T := TX3) (N := 20) hx hb hts in_X3 hown hK hP 0 rfl rfl 0 (by decide) (hts _ q1438) (fun _ h9 => h9) rfl dX3_room_93 ?_
              refine lv_sipush (v := iI 192) hx hb dX3_room_96 rfl ?_
              refine lv_iconst (v := iI 4) hx hb dX3_room_99 rfl ?_
              refine lv_iload hx hb dX3_room_100 (lv_at hl 0 rfl) ?_
              refine g_imul hx hb dX3_room_102 ?_
              refine g_iadd hx hb dX3_room_103 ?_
              refine lv_iload_n hx hb dX3_room_104 rfl (lv_at hl 2 rfl) ?_
              refine g_iast (ws1 := [(hM, .inr (2, (mO hnow hthen hpast (svK kept) htx ty 0 at_ fa htold tolds hac hal hre hse hpl many cost br hsy))), (hnow, .inl (g 0, 253, .inl (aI (uZ S (192 + (4 * (fre S))) x)))), (hpast, .inl (g 0, 1518, .inl (aI (svP S PA kept))))]) hx hb hK hP hD hS 1 0 rfl rfl (i := 192 + (4 * (fre S))) (⟨by omega, by omega⟩) (by decide) dX3_room_105 rfl (fun H locs hP hS => ?_)
              have hD : va_D A [(hM, .inr (2, (mO hnow hthen hpast (svK kept) htx ty 0 at_ fa htold tolds hac hal hre hse hpl many cost br hsy))), (hnow, .inl (g 0, 253, .inl (aI (uZ S (192 + (4 * (fre S))) x)))), (hpast, .inl (g 0, 1518, .inl (aI (svP S PA kept))))] := va_Dadr hD rfl
              refine lv_aload_n hx hb dX3_room_106 rfl (lv_at hl 1 rfl) ?_
              refine va_get (D := G) (ci := 2) (v := .ref hnow) (C := RX3) (T := TX3) (N := 20) hx hb hts in_X3 hown hK hP 0 rfl rfl 0 (by decide) (hts _ q1438) (fun _ h9 => h9) rfl dX3_room_107 ?_
              refine lv_sipush (v := iI 192) hx hb dX3_room_110 rfl ?_
              refine lv_iconst (v := iI 4) hx hb dX3_room_113 rfl ?_
              refine lv_iload hx hb dX3_room_114 (lv_at hl 0 rfl) ?_
              refine g_imul hx hb dX3_room_116 ?_
              refine g_iadd hx hb dX3_room_117 ?_
              refine lv_iconst (v := iI 1) hx hb dX3_room_118 rfl ?_
              refine g_iadd hx hb dX3_room_119 ?_
              refine lv_iload_n hx hb dX3_room_120 rfl (lv_at hl 3 rfl) ?_
              refine g_iast (ws1 := [(hM, .inr (2, (mO hnow hthen hpast (svK kept) htx ty 0 at_ fa htold tolds hac hal hre hse hpl many cost br hsy))), (hnow, .inl (g 0, 253, .inl (aI (uZ (uZ S (192 + (4 * (fre S))) x) ((192 + (4 * (fre S))) + 1) y)))), (hpast, .inl (g 0, 1518, .inl (aI (svP S PA kept))))]) hx hb hK hP hD hS 1 0 rfl rfl (i := (192 + (4 * (fre S))) + 1) (⟨by omega, by omega⟩) (by decide) dX3_room_121 rfl (fun H locs hP hS => ?_)
              have hD : va_D A [(hM, .inr (2, (mO hnow hthen hpast (svK kept) htx ty 0 at_ fa htold tolds hac hal hre hse hpl many cost br hsy))), (hnow, .inl (g 0, 253, .inl (aI (uZ (uZ S (192 + (4 * (fre S))) x) ((192 + (4 * (fre S))) + 1) y)))), (hpast, .inl (g 0, 1518, .inl (aI (svP S PA kept))))] := va_Dadr hD rfl
              refine lv_aload_n hx hb dX3_room_122 rfl (lv_at hl 1 rfl) ?_
              refine va_get (D := G) (ci := 2) (v := .ref hnow) (C := RX3) (T := TX3) (N := 20) hx hb hts in_X3 hown hK hP 0 rfl rfl 0 (by decide) (hts _ q1438) (fun _ h9 => h9) rfl dX3_room_123 ?_
              refine lv_sipush (v := iI 192) hx hb dX3_room_126 rfl ?_
              refine lv_iconst (v := iI 4) hx hb dX3_room_129 rfl ?_
              refine lv_iload hx hb dX3_room_130 (lv_at hl 0 rfl) ?_
              refine g_imul hx hb dX3_room_132 ?_
              refine g_iadd hx hb dX3_room_133 ?_
              refine lv_iconst (v := iI 2) hx hb dX3_room_134 rfl ?_
              refine g_iadd hx hb dX3_room_135 ?_
              refine lv_iload_n hx hb dX3_room_136 rfl (lv_at hl 4 rfl) ?_
              refine g_iast (ws1 := [(hM, .inr (2, (mO hnow hthen hpast (svK kept) htx ty 0 at_ fa htold tolds hac hal hre hse hpl many cost br hsy))), (hnow, .inl (g 0, 253, .inl (aI (uZ (uZ (uZ S (192 + (4 * (fre S))) x) ((192 + (4 * (fre S))) + 1) y) ((192 + (4 * (fre S))) + 2) c_)))), (hpast, .inl (g 0, 1518, .inl (aI (svP S PA kept))))]) hx hb hK hP hD hS 1 0 rfl rfl (i := (192 + (4 * (fre S))) + 2) (⟨by omega, by omega⟩) (by decide) dX3_room_137 rfl (fun H locs hP hS => ?_)
              have hD : va_D A [(hM, .inr (2, (mO hnow hthen hpast (svK kept) htx ty 0 at_ fa htold tolds hac hal hre hse hpl many cost br hsy))), (hnow, .inl (g 0, 253, .inl (aI (uZ (uZ (uZ S (192 + (4 * (fre S))) x) ((192 + (4 * (fre S))) + 1) y) ((192 + (4 * (fre S))) + 2) c_)))), (hpast, .inl (g 0, 1518, .inl (aI (svP S PA kept))))] := va_Dadr hD rfl
              refine lv_aload_n hx hb dX3_room_138 rfl (lv_at hl 1 rfl) ?_
              refine va_get (D := G) (ci := 2) (v := .ref hnow) (C := RX3) (T := TX3) (N := 20) hx hb hts in_X3 hown hK hP 0 rfl rfl 0 (by decide) (hts _ q1438) (fun _ h9 => h9) rfl dX3_room_139 ?_
              refine lv_sipush (v := iI 192) hx hb dX3_room_142 rfl ?_
              refine lv_iconst (v := iI 4) hx hb dX3_room_145 rfl ?_
              refine lv_iload hx hb dX3_room_146 (lv_at hl 0 rfl) ?_
              refine g_imul hx hb dX3_room_148 ?_
              refine g_iadd hx hb dX3_room_149 ?_
              refine lv_iconst (v := iI 3) hx hb dX3_room_150 rfl ?_
              refine g_iadd hx hb dX3_room_151 ?_
              refine lv_iload hx hb dX3_room_152 (lv_at hl 5 rfl) ?_
              refine g_iast (ws1 := [(hM, .inr (2, (mO hnow hthen hpast (svK kept) htx ty 0 at_ fa htold tolds hac hal hre hse hpl many cost br hsy))), (hnow, .inl (g 0, 253, .inl (aI (uZ (uZ (uZ (uZ S (192 + (4 * (fre S))) x) ((192 + (4 * (fre S))) + 1) y) ((192 + (4 * (fre S))) + 2) c_) ((192 + (4 * (fre S))) + 3) r_)))), (hpast, .inl (g 0, 1518, .inl (aI (svP S PA kept))))]) hx hb hK hP hD hS 1 0 rfl rfl (i := (192 + (4 * (fre S))) + 3) (⟨by omega, by omega⟩) (by decide) dX3_room_154 rfl (fun H locs hP hS => ?_)
              have hD : va_D A [(hM, .inr (2, (mO hnow hthen hpast (svK kept) htx ty 0 at_ fa htold tolds hac hal hre hse hpl many cost br hsy))), (hnow, .inl (g 0, 253, .inl (aI (uZ (uZ (uZ (uZ S (192 + (4 * (fre S))) x) ((192 + (4 * (fre S))) + 1) y) ((192 + (4 * (fre S))) + 2) c_) ((192 + (4 * (fre S))) + 3) r_)))), (hpast, .inl (g 0, 1518, .inl (aI (svP S PA kept))))] := va_Dadr hD rfl
              refine lv_iconst (v := iI 0) hx hb dX3_room_155 rfl ?_
              refine lv_istore (lv' := [(6, .int (iI 0)), (5, .int (iI (fre S))), (0, .ref hM), (1, .int (iI x)), (2, .int (iI y)), (3, .int (iI c_)), (4, .int (iI r_))]) hx hb dX3_room_156 hl (by decide) rfl (fun ls hl => ?_)
              have lp158 : ∀ (n : Nat) (k : Nat), ((k : Int) ≤ c_ * r_) → (c_ * r_).toNat - k = n → ∀ (H : Heap) (locs : List Loc), va_P G CL [(hM, .inr (2, (mO hnow hthen hpast (svK kept) htx ty 0 at_ fa htold tolds hac hal hre hse hpl many cost br hsy))), (hnow, .inl (g 0, 253, .inl (aI (rmL (rm4 S (fre S) x y c_ r_) (fre S) x y c_ k)))), (hpast, .inl (g 0, 1518, .inl (aI (svP S PA kept))))] H → va_D A [(hM, .inr (2, (mO hnow hthen hpast (svK kept) htx ty 0 at_ fa htold tolds hac hal hre hse hpl many cost br hsy))), (hnow, .inl (g 0, 253, .inl (aI (rmL (rm4 S (fre S) x y c_ r_) (fre S) x y c_ k)))), (hpast, .inl (g 0, 1518, .inl (aI (svP S PA kept))))] → va_S A s.heap H locs → ∀ ls : Array Slot, lv_has ls 7 [(0, .ref hM), (1, .int (iI x)), (2, .int (iI y)), (3, .int (iI c_)), (4, .int (iI r_)), (5, .int (iI (fre S))), (6, .int (iI (k : Int)))] → W p l e ({ frames := 4, cells := 0, slots := 0, locals := 92 }) s m ([.ref hM, .int (iI x), .int (iI y), .int (iI c_), .int (iI r_)] : List Value).toArray below meth c H locs 0 0 (MQ below (va_Qi (fun (r : Int32) (u : Unit) => r = (iI (fre S))) (fun (u : Unit) t => va_P G CL [(hM, .inr (2, (mO hnow hthen hpast (svK kept) htx ty 0 at_ fa htold tolds hac hal hre hse hpl many cost br hsy))), (hnow, .inl (g 0, 253, .inl (aI (rmS S x y c_ r_)))), (hpast, .inl (g 0, 1518, .inl (aI (svP S PA kept))))] t.heap) A) ([.ref hM, .int (iI x), .int (iI y), .int (iI c_), .int (iI r_)] : List Value).toArray s 0 0 A) (F0 m 158 ls []) := by
                intro n
                refine Nat.strongRecOn n ?_
                intro n ih158 k hk hmu158 H locs hP hD hS ls hl
                refine lv_iload hx hb dX3_room_158 (lv_at hl 6 rfl) ?_
                refine lv_iload_n hx hb dX3_room_160 rfl (lv_at hl 3 rfl) ?_
                refine lv_iload hx hb dX3_room_161 (lv_at hl 4 rfl) ?_
                refine g_imul hx hb dX3_room_163 ?_
                refine g_icmp_ge (tgt := 196) hx hb dX3_room_164 (by decide) ⟨⟨by omega, by omega⟩, ⟨by omega, by omega⟩⟩ (fun c8 => ?_) (fun c8 => ?_)
                · refine lv_iload hx hb dX3_room_196 (lv_at hl 5 rfl) ?_
                  exact W.iret (v := (iI (fre S))) hx hb hr (fun t ht hW => ⟨⟨_, (), rfl, rfl, by rw [← ht] at hP; exact (by rw [show rmS S x y c_ r_ = rmL (rm4 S (fre S) x y c_ r_) (fre S) x y c_ k from by rw [show k = (c_ * r_).toNat from by omega]; rfl]; exact hP)⟩, hS.F ht⟩) hS.2.2 dX3_room_198 hlk
                · have dk := dm2 (k := (k : Int)) (c := c_) (r := r_) (by omega) hys.1.1 (by assumption)
                  refine lv_aload_n hx hb dX3_room_167 rfl (lv_at hl 0 rfl) ?_
                  refine va_get (D := G) (ci := 2) (v := .ref hnow) (C := RX3) (T := TX3) (N := 20) hx hb hts in_X3 hown hK hP 0 rfl rfl 0 (by decide) (hts _ q1438) (fun _ h9 => h9) rfl dX3_room_168 ?_
                  refine lv_bipush (v := iI 16) hx hb dX3_room_171 rfl ?_
                  refine lv_iload_n hx hb dX3_room_173 rfl (lv_at hl 2 rfl) ?_
                  refine lv_iload hx hb dX3_room_174 (lv_at hl 6 rfl) ?_
                  refine lv_iload_n hx hb dX3_room_176 rfl (lv_at hl 3 rfl) ?_
                  refine g_idiv hx hb dX3_room_177 ⟨⟨by omega, by omega⟩, ⟨by omega, by omega⟩⟩ ?_
                  refine g_iadd hx hb dX3_room_178 ?_
                  refine g_imul hx hb dX3_room_179 ?_
                  refine lv_iload_n hx hb dX3_room_180 rfl (lv_at hl 1 rfl) ?_
                  refine g_iadd hx hb dX3_room_181 ?_
                  refine lv_iload hx hb dX3_room_182 (lv_at hl 6 rfl) ?_
                  refine lv_iload_n hx hb dX3_room_184 rfl (lv_at hl 3 rfl) ?_
                  refine g_irem hx hb dX3_room_185 ⟨⟨by omega, by omega⟩, ⟨by omega, by omega⟩⟩ ?_
                  refine g_iadd hx hb dX3_room_186 ?_
                  refine lv_iload hx hb dX3_room_187 (lv_at hl 5 rfl) ?_
                  refine g_iast (ws1 := [(hM, .inr (2, (mO hnow hthen hpast (svK kept) htx ty 0 at_ fa htold tolds hac hal hre hse hpl many cost br hsy))), (hnow, .inl (g 0, 253, .inl (aI (uZ (rmL (rm4 S (fre S) x y c_ r_) (fre S) x y c_ k) (((16 * (y + ((k : Int) / c_))) + x) + ((k : Int) % c_)) (fre S))))), (hpast, .inl (g 0, 1518, .inl (aI (svP S PA kept))))]) hx hb hK hP hD hS 1 0 rfl rfl (i := ((16 * (y + ((k : Int) / c_))) + x) + ((k : Int) % c_)) (⟨by omega, by omega⟩) (by decide) dX3_room_189 rfl (fun H locs hP hS => ?_)
                  have hD : va_D A [(hM, .inr (2, (mO hnow hthen hpast (svK kept) htx ty 0 at_ fa htold tolds hac hal hre hse hpl many cost br hsy))), (hnow, .inl (g 0, 253, .inl (aI (uZ (rmL (rm4 S (fre S) x y c_ r_) (fre S) x y c_ k) (((16 * (y + ((k : Int) / c_))) + x) + ((k : Int) % c_)) (fre S))))), (hpast, .inl (g 0, 1518, .inl (aI (svP S PA kept))))] := va_Dadr hD rfl
                  refine g_iinc (lv' := [(6, .int (iI ((k : Int) + 1))), (0, .ref hM), (1, .int (iI x)), (2, .int (iI y)), (3, .int (iI c_)), (4, .int (iI r_)), (5, .int (iI (fre S)))]) hx hb dX3_room_190 hl (k := 6) rfl (by decide) rfl (fun ls hl => ?_)
                  refine lv_goto (tgt := 158) hx hb dX3_room_193 (by decide) ?_
                  exact ih158 _ (by omega) (k + 1) (by omega) rfl _ _ hP (va_Dadr hD rfl) hS ls (lv_sub hl [1, 2, 3, 4, 5, 6, 0] rfl)
              exact lp158 _ 0 (by omega) rfl H locs hP (va_Dadr hD rfl) hS ls (lv_sub hl [2, 3, 4, 5, 6, 1, 0] rfl)
            · exact False.elim (by contradiction)
        · exact False.elim (by omega)
