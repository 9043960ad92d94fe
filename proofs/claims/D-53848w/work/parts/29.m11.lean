theorem hd_J23_isNaN : yJ23_isNaN.cls ≠ "java/lang/invoke/MethodHandle" ∧ yJ23_isNaN.cls ≠ "java/lang/invoke/VarHandle" ∧ (parseMethodDescriptor yJ23_isNaN.desc).map (fun d => d.parameters.length) = some 1 := by decide +kernel
set_option maxHeartbeats 1000000 in
set_option maxRecDepth 100000 in
theorem m_J23_isNaN (l : Launch) (G : va_G) (g : Nat → ClassId) (v_ : UInt64)  : Met l yJ23_isNaN (ws_ yJ23_isNaN cJ23_isNaN 2 (Option.some Jvm.ClassFile.FieldType.boolean)) ({ frames := 0, cells := 0, slots := 0, locals := 0 }) (va_Pc [.double v_] (rdB G CL (TY g) (fun _ => True) [])) (QcRead ((iI (qz (¬ dcI v_ v_ = 0))))) 0 0 (fun _ => False) := by
  refine Met.at (by decide) (Nat.le_of_ble_eq_true rfl) ?_
  intro p e s m below meth c hx hb hr hlk hml hown hnm hts hB ls hl
  have hown : s.vm.findClass RJ23 = some m.cls := hown
  obtain ⟨hP, hK, hEs⟩ := hB
  have hl : lv_has ls 2 [(0, .double v_)] := hl
  refine lv_dload_n hx hb dJ23_isNaN_0 rfl (lv_at hl 0 rfl) ?_
  refine lv_dload_n hx hb dJ23_isNaN_1 rfl (lv_at hl 0 rfl) ?_
  refine g_dcmp hx hb dJ23_isNaN_2 ?_
  have w1 := dcI_rng v_ v_
  have hJ2 : ∀ ls : Array Slot, lv_has ls 2 [(0, .double v_)] → W p l e ({ frames := 0, cells := 0, slots := 0, locals := 0 }) s m ([.double v_] : List Value).toArray below meth c s.heap [] 0 0 (MQ below (QcRead ((iI (qz (¬ dcI v_ v_ = 0))))) ([.double v_] : List Value).toArray s 0 0 (fun _ => False)) (F0 m 11 ls [.int (iI (qz (¬ ((dcI v_ v_) = 0))))]) := by
    intro ls hl
    exact g_zret hx hb hr hlk (by first | exact Iff.rfl | (constructor <;> intro _ <;> omega)) dJ23_isNaN_11
  refine g_if_eq (tgt := 10) hx hb dJ23_isNaN_3 (by decide) ⟨by omega, by omega⟩ (fun c3 => ?_) (fun c3 => ?_)
  · refine lv_iconst (v := iI 0) hx hb dJ23_isNaN_10 rfl ?_
    refine g_eq (b := qz (¬ ((dcI v_ v_) = 0))) (qz_f (fun xx => (xx c3))).symm ?_
    exact hJ2 ls (lv_sub hl [0] rfl)
  · refine lv_iconst (v := iI 1) hx hb dJ23_isNaN_6 rfl ?_
    refine lv_goto (tgt := 11) hx hb dJ23_isNaN_7 (by decide) ?_
    refine g_eq (b := qz (¬ ((dcI v_ v_) = 0))) (qz_t c3).symm ?_
    exact hJ2 ls (lv_sub hl [0] rfl)
theorem hd_J23_doubleToLongBits : yJ23_doubleToLongBits.cls ≠ "java/lang/invoke/MethodHandle" ∧ yJ23_doubleToLongBits.cls ≠ "java/lang/invoke/VarHandle" ∧ (parseMethodDescriptor yJ23_doubleToLongBits.desc).map (fun d => d.parameters.length) = some 1 := by decide +kernel
set_option maxHeartbeats 1000000 in
set_option maxRecDepth 100000 in
theorem m_J23_doubleToLongBits (l : Launch) (G : va_G) (g : Nat → ClassId) (sz : Nat) (v_ : UInt64)  : Met l yJ23_doubleToLongBits (ws_ yJ23_doubleToLongBits cJ23_doubleToLongBits 2 (Option.some Jvm.ClassFile.FieldType.long)) ({ frames := 1, cells := 0, slots := 0, locals := 30 }) (va_Pc [.double v_] (wrB G CL (TY g) (fun _ => True) [] sz)) (va_Ql (fun (r : Int64) (u : Unit) => r = dlb v_) (fun (u : Unit) t => va_P G CL [] t.heap) (va_A [] sz)) 0 0 (va_A [] sz) := by
  refine Met.at (by decide) (Nat.le_of_ble_eq_true rfl) ?_
  intro p e s m below meth c hx hb hr hlk hml hown hnm hts hB ls hl
  have hown : s.vm.findClass RJ23 = some m.cls := hown
  obtain ⟨hsz, hP, hK, hD0, hEs⟩ := hB
  subst hsz
  have hD := hD0.self (sz := s.heap.size)
  generalize hAe : va_A [] s.heap.size = A at hD ⊢
  have hA : ∀ q : Nat, s.heap.size ≤ q → A q := fun q h => by rw [← hAe]; exact Or.inr h
  have hS : va_S A s.heap s.heap [] := va_S.rf
  have hl : lv_has ls 2 [(0, .double v_)] := hl
  refine lv_dload_n hx hb dJ23_doubleToLongBits_0 rfl (lv_at hl 0 rfl) ?_
  refine g_callS (As := [.double v_]) (rest := []) (m_J23_isNaN l G g v_) hx hb hml hown hts Stab.tt hK hP hS hEs [] rfl q1119 q1120 q125 q1121 hd_J23_isNaN rfl rfl ⟨Nat.le_of_ble_eq_true rfl, Nat.le_of_ble_eq_true rfl⟩ rfl hl rfl (Nat.le_of_ble_eq_true rfl) ⟨Nat.le_refl _, Nat.le_refl _⟩ dJ23_doubleToLongBits_1 ?_
  refine g_ifq_ne (tgt := 12) hx hb dJ23_doubleToLongBits_4 (by decide) (fun c1 => ?_) (fun c1 => ?_)
  · refine lv_ldc2 hx hb hown (hts _ q1125) dJ23_doubleToLongBits_12 ?_
    exact W.lret (v := (9221120237041090560 : Int64)) hx hb hr (fun t ht hW => ⟨⟨_, (), rfl, (zl_t (by assumption)).symm, by rw [← ht] at hP; exact hP⟩, hS.F ht⟩) hS.2.2 dJ23_doubleToLongBits_15 hlk
  · refine lv_dload_n hx hb dJ23_doubleToLongBits_7 rfl (lv_at hl 0 rfl) ?_
    refine vn_d2l hx hb (hml.trans hl.1.symm) hown (hts _ q1122) (hts _ q1124) (hts _ q1123) (hts _ q125) (Nat.le_of_ble_eq_true rfl) (Nat.le_of_ble_eq_true rfl) dJ23_doubleToLongBits_8 ?_
    exact W.lret (v := (v_).toInt64) hx hb hr (fun t ht hW => ⟨⟨_, (), rfl, (zl_f (by assumption)).symm, by rw [← ht] at hP; exact hP⟩, hS.F ht⟩) hS.2.2 dJ23_doubleToLongBits_11 hlk
