theorem hd_X3_stops : yX3_stops.cls = RX3 ∧ yX3_stops.cls ≠ "java/lang/invoke/MethodHandle" ∧ yX3_stops.cls ≠ "java/lang/invoke/VarHandle" ∧ (parseMethodDescriptor yX3_stops.desc).map (fun d => d.parameters.length) = some 0 := by decide +kernel
set_option maxHeartbeats 1000000 in
set_option maxRecDepth 100000 in
theorem m_X3_stops (l : Launch) (G : va_G) (g : Nat → ClassId) (sz : Nat) (hM : Nat) (hnow : Nat) (hthen : Nat) (hpast : Nat) (kept : Int) (htx : Nat) (ty : Int) (th : Int) (at_ : Int) (fa : Prop) (htold : Nat) (tolds : Int) (hac : Nat) (hal : Nat) (hre : Nat) (hse : Nat) (hpl : Nat) (many : Int) (cost : Int) (br : Int) (hsy : Nat) (hat : 0 ≤ at_ ∧ at_ ≤ ty ∧ ty ≤ 60) : Met l yX3_stops (ws_ yX3_stops cX3_stops 1 (Option.some Jvm.ClassFile.FieldType.boolean)) ({ frames := 0, cells := 0, slots := 0, locals := 0 }) (va_Pc [.ref hM] (wrB G CL (TY g) (fun _ => True) [(hM, .inr (2, (mO hnow hthen hpast kept htx ty th at_ fa htold tolds hac hal hre hse hpl many cost br hsy)))] sz)) (va_Qi (fun (r : Int32) (u : Unit) => r = (iI 0)) (fun (u : Unit) t => va_P G CL [(hM, .inr (2, (mO hnow hthen hpast kept htx ty th at_ (at_ < ty) htold tolds hac hal hre hse hpl many cost br hsy)))] t.heap) (va_A [(hM, .inr (2, (mO hnow hthen hpast kept htx ty th at_ fa htold tolds hac hal hre hse hpl many cost br hsy)))] sz)) 0 0 (va_A [(hM, .inr (2, (mO hnow hthen hpast kept htx ty th at_ fa htold tolds hac hal hre hse hpl many cost br hsy)))] sz) := by
  refine Met.at (by decide) (Nat.le_of_ble_eq_true rfl) ?_
  intro p e s m below meth c hx hb hr hlk hml hown hnm hts hB ls hl
  have hown : s.vm.findClass RX3 = some m.cls := hown
  obtain ⟨hsz, hP, hK, hD0, hEs⟩ := hB
  subst hsz
  have hD := hD0.self (sz := s.heap.size)
  generalize hAe : va_A [(hM, .inr (2, (mO hnow hthen hpast kept htx ty th at_ fa htold tolds hac hal hre hse hpl many cost br hsy)))] s.heap.size = A at hD ⊢
  have hA : ∀ q : Nat, s.heap.size ≤ q → A q := fun q h => by rw [← hAe]; exact Or.inr h
  have hS : va_S A s.heap s.heap [] := va_S.rf
  have hl : lv_has ls 1 [(0, .ref hM)] := hl
  refine lv_aload_n hx hb dX3_stops_0 rfl (lv_at hl 0 rfl) ?_
  refine lv_aload_n hx hb dX3_stops_1 rfl (lv_at hl 0 rfl) ?_
  refine va_get (D := G) (ci := 2) (v := .int (iI at_)) (C := RX3) (T := TX3) (N := 20) hx hb hts in_X3 hown hK hP 0 rfl rfl 7 (by decide) (hts _ q1445) (fun _ h9 => h9) rfl dX3_stops_2 ?_
  refine lv_aload_n hx hb dX3_stops_5 rfl (lv_at hl 0 rfl) ?_
  refine va_get (D := G) (ci := 2) (v := .int (iI ty)) (C := RX3) (T := TX3) (N := 20) hx hb hts in_X3 hown hK hP 0 rfl rfl 5 (by decide) (hts _ q1443) (fun _ h9 => h9) rfl dX3_stops_6 ?_
  have hJ1 : ∀ ls : Array Slot, lv_has ls 1 [(0, .ref hM)] → W p l e ({ frames := 0, cells := 0, slots := 0, locals := 0 }) s m ([.ref hM] : List Value).toArray below meth c s.heap [] 0 0 (MQ below (va_Qi (fun (r : Int32) (u : Unit) => r = (iI 0)) (fun (u : Unit) t => va_P G CL [(hM, .inr (2, (mO hnow hthen hpast kept htx ty th at_ (at_ < ty) htold tolds hac hal hre hse hpl many cost br hsy)))] t.heap) A) ([.ref hM] : List Value).toArray s 0 0 A) (F0 m 17 ls [.int (iI (qz (at_ < ty))), .ref hM]) := by
    intro ls hl
    refine g_put (D := G) (ci := 2) (v := .int (iI (qz (at_ < ty)))) (ty := .boolean) (C := RX3) (T := TX3) (N := 20) (ws1 := [(hM, .inr (2, (mO hnow hthen hpast kept htx ty th at_ (at_ < ty) htold tolds hac hal hre hse hpl many cost br hsy)))]) hx hb hts in_X3 tyX3 tyX3_ok nmX3 hown hK hP hD hS 0 rfl rfl 8 (by decide) (hts _ q1446) (fun _ h9 => h9) rfl (by decide +kernel) (narrow_z _) (fits_z _) (Nat.le_of_ble_eq_true rfl) dX3_stops_17 rfl (fun H locs hP hS => ?_)
    have hD : va_D A [(hM, .inr (2, (mO hnow hthen hpast kept htx ty th at_ (at_ < ty) htold tolds hac hal hre hse hpl many cost br hsy)))] := va_Dadr hD rfl
    refine lv_iconst (v := iI 0) hx hb dX3_stops_20 rfl ?_
    exact W.zret (v := (iI 0)) hx hb hr rfl (fun t ht hW => ⟨⟨_, (), rfl, rfl, by rw [← ht] at hP; exact hP⟩, hS.F ht⟩) hS.2.2 dX3_stops_21 hlk
  refine g_icmp_ge (tgt := 16) hx hb dX3_stops_9 (by decide) ⟨⟨by omega, by omega⟩, ⟨by omega, by omega⟩⟩ (fun c2 => ?_) (fun c2 => ?_)
  · refine lv_iconst (v := iI 0) hx hb dX3_stops_16 rfl ?_
    refine g_eq (b := qz (at_ < ty)) (qz_f (fun xx => (c2 xx))).symm ?_
    exact hJ1 ls (lv_sub hl [0] rfl)
  · refine lv_iconst (v := iI 1) hx hb dX3_stops_12 rfl ?_
    refine lv_goto (tgt := 17) hx hb dX3_stops_13 (by decide) ?_
    refine g_eq (b := qz (at_ < ty)) (qz_t c2).symm ?_
    exact hJ1 ls (lv_sub hl [0] rfl)
theorem hd_X3_isSign : yX3_isSign.cls = RX3 ∧ yX3_isSign.cls ≠ "java/lang/invoke/MethodHandle" ∧ yX3_isSign.cls ≠ "java/lang/invoke/VarHandle" ∧ (parseMethodDescriptor yX3_isSign.desc).map (fun d => d.parameters.length) = some 1 := by decide +kernel
set_option maxHeartbeats 1000000 in
set_option maxRecDepth 100000 in
theorem m_X3_isSign (l : Launch) (G : va_G) (g : Nat → ClassId) (sz : Nat) (hM : Nat) (sign : Int) (hnow : Nat) (hthen : Nat) (hpast : Nat) (kept : Int) (htx : Nat) (ty : Int) (th : Int) (at_ : Int) (fa : Prop) (htold : Nat) (tolds : Int) (hac : Nat) (hal : Nat) (hre : Nat) (hse : Nat) (hpl : Nat) (many : Int) (cost : Int) (br : Int) (hsy : Nat) (TX : Int → Int) (r_sign : r32 sign) (kTX : rgT TX) (hat : 0 ≤ at_ ∧ at_ ≤ ty ∧ ty ≤ 60) : Met l yX3_isSign (ws_ yX3_isSign cX3_isSign 2 (Option.some Jvm.ClassFile.FieldType.boolean)) ({ frames := 1, cells := 0, slots := 0, locals := 21 }) (va_Pc [.ref hM, .int (iI sign)] (wrB G CL (TY g) (fun _ => True) [(hM, .inr (2, (mO hnow hthen hpast kept htx ty th at_ fa htold tolds hac hal hre hse hpl many cost br hsy))), (htx, .inl (g 0, 60, .inl (aI TX)))] sz)) (va_Qi (fun (r : Int32) (u : Int × Prop) => r = (iI (qz (at_ < ty ∧ TX at_ = sign))) ∧ (((at_ < ty ∧ TX at_ = sign) ∧ u.1 = at_ + 1) ∨ (¬ (at_ < ty ∧ TX at_ = sign) ∧ u.1 = at_)) ∧ (¬ (at_ < ty ∧ TX at_ = sign) → (u.2 ↔ at_ < ty))) (fun (u : Int × Prop) t => va_P G CL [(hM, .inr (2, (mO hnow hthen hpast kept htx ty th u.1 u.2 htold tolds hac hal hre hse hpl many cost br hsy))), (htx, .inl (g 0, 60, .inl (aI TX)))] t.heap) (va_A [(hM, .inr (2, (mO hnow hthen hpast kept htx ty th at_ fa htold tolds hac hal hre hse hpl many cost br hsy))), (htx, .inl (g 0, 60, .inl (aI TX)))] sz)) 0 0 (va_A [(hM, .inr (2, (mO hnow hthen hpast kept htx ty th at_ fa htold tolds hac hal hre hse hpl many cost br hsy))), (htx, .inl (g 0, 60, .inl (aI TX)))] sz) := by
  refine Met.at (by decide) (Nat.le_of_ble_eq_true rfl) ?_
  intro p e s m below meth c hx hb hr hlk hml hown hnm hts hB ls hl
  have hown : s.vm.findClass RX3 = some m.cls := hown
  obtain ⟨hsz, hP, hK, hD0, hEs⟩ := hB
  subst hsz
  have hD := hD0.self (sz := s.heap.size)
  generalize hAe : va_A [(hM, .inr (2, (mO hnow hthen hpast kept htx ty th at_ fa htold tolds hac hal hre hse hpl many cost br hsy))), (htx, .inl (g 0, 60, .inl (aI TX)))] s.heap.size = A at hD ⊢
  have hA : ∀ q : Nat, s.heap.size ≤ q → A q := fun q h => by rw [← hAe]; exact Or.inr h
  have hS : va_S A s.heap s.heap [] := va_S.rf
  have hl : lv_has ls 2 [(0, .ref hM), (1, .int (iI sign))] := hl
  refine lv_aload_n hx hb dX3_isSign_0 rfl (lv_at hl 0 rfl) ?_
  refine lv_iload_n hx hb dX3_isSign_1 rfl (lv_at hl 1 rfl) ?_
  refine g_callV (As := [.int (iI sign)]) (rest := []) (m_X3_isAt l G g hM sign (mO hnow hthen hpast kept htx ty th at_ fa htold tolds hac hal hre hse hpl many cost br hsy) htx ty at_ TX rfl rfl rfl r_sign kTX (hat)) hx hb hml hown hts Stab.tt hK hP hS hEs [0, 1] rfl (q0 := 0) rfl rfl q1670 q1672 qs76 q102 q1673 hd_X3_isAt rfl rfl ⟨Nat.le_of_ble_eq_true rfl, Nat.le_of_ble_eq_true rfl⟩ rfl hl rfl (Nat.le_of_ble_eq_true rfl) ⟨Nat.le_refl _, Nat.le_refl _⟩ dX3_isSign_2 ?_
  refine g_ifq_ne (tgt := 13) hx hb dX3_isSign_5 (by decide) (fun c1 => ?_) (fun c1 => ?_)
  · refine lv_aload_n hx hb dX3_isSign_13 rfl (lv_at hl 0 rfl) ?_
    refine lv_dup hx hb dX3_isSign_14 rfl ?_
    refine va_get (D := G) (ci := 2) (v := .int (iI at_)) (C := RX3) (T := TX3) (N := 20) hx hb hts in_X3 hown hK hP 0 rfl rfl 7 (by decide) (hts _ q1445) (fun _ h9 => h9) rfl dX3_isSign_15 ?_
    refine lv_iconst (v := iI 1) hx hb dX3_isSign_18 rfl ?_
    refine g_iadd hx hb dX3_isSign_19 ?_
    refine g_put (D := G) (ci := 2) (v := .int (iI (at_ + 1))) (ty := .int) (C := RX3) (T := TX3) (N := 20) (ws1 := [(hM, .inr (2, (mO hnow hthen hpast kept htx ty th (at_ + 1) fa htold tolds hac hal hre hse hpl many cost br hsy))), (htx, .inl (g 0, 60, .inl (aI TX)))]) hx hb hts in_X3 tyX3 tyX3_ok nmX3 hown hK hP hD hS 0 rfl rfl 7 (by decide) (hts _ q1445) (fun _ h9 => h9) rfl (by decide +kernel) (rfl) (rfl) (Nat.le_of_ble_eq_true rfl) dX3_isSign_20 rfl (fun H locs hP hS => ?_)
    have hD : va_D A [(hM, .inr (2, (mO hnow hthen hpast kept htx ty th (at_ + 1) fa htold tolds hac hal hre hse hpl many cost br hsy))), (htx, .inl (g 0, 60, .inl (aI TX)))] := va_Dadr hD rfl
    refine lv_iconst (v := iI 1) hx hb dX3_isSign_23 rfl ?_
    exact W.zret (v := (iI 1)) hx hb hr rfl (fun t ht hW => ⟨⟨_, (at_ + 1, fa), rfl, ⟨congrArg iI (qz_t (by assumption)).symm, Or.inl ⟨by assumption, rfl⟩, fun z => absurd (by assumption) z⟩, by rw [← ht] at hP; exact hP⟩, hS.F ht⟩) hS.2.2 dX3_isSign_24 hlk
  · refine lv_aload_n hx hb dX3_isSign_8 rfl (lv_at hl 0 rfl) ?_
    refine g_callVwi (As := []) (rest := []) (m_X3_stops l G g s.heap.size hM hnow hthen hpast kept htx ty th at_ fa htold tolds hac hal hre hse hpl many cost br hsy hat) hx hb hml hown hts Stab.tt hA hK hP hD hS hEs [0] rfl rfl (fun _ => rfl) (q0 := 0) rfl rfl q1662 q1664 qs74 q102 q1665 hd_X3_stops rfl rfl ⟨Nat.le_of_ble_eq_true rfl, Nat.le_of_ble_eq_true rfl⟩ rfl hl rfl (Nat.le_of_ble_eq_true rfl) ⟨Nat.le_refl _, Nat.le_refl _⟩ dX3_isSign_9 (fun rr u H locs hp hP hS => ?_)
    have hrr : rr = (iI 0) := hp
    subst hrr
    have hP : va_P G CL [(hM, .inr (2, (mO hnow hthen hpast kept htx ty th at_ (at_ < ty) htold tolds hac hal hre hse hpl many cost br hsy))), (htx, .inl (g 0, 60, .inl (aI TX)))] H := hP
    have hD : va_D A [(hM, .inr (2, (mO hnow hthen hpast kept htx ty th at_ (at_ < ty) htold tolds hac hal hre hse hpl many cost br hsy))), (htx, .inl (g 0, 60, .inl (aI TX)))] := va_Dadr hD rfl
    refine W.widen (k := 0) (n := 0) (Nat.le_refl _) (Nat.le_refl _) ?_
    exact W.zret (v := (iI 0)) hx hb hr rfl (fun t ht hW => ⟨⟨_, (at_, at_ < ty), rfl, ⟨congrArg iI (qz_f (by assumption)).symm, Or.inr ⟨by assumption, rfl⟩, fun _ => Iff.rfl⟩, by rw [← ht] at hP; exact hP⟩, hS.F ht⟩) hS.2.2 dX3_isSign_12 hlk
theorem hd_X3_isWord : yX3_isWord.cls = RX3 ∧ yX3_isWord.cls ≠ "java/lang/invoke/MethodHandle" ∧ yX3_isWord.cls ≠ "java/lang/invoke/VarHandle" ∧ (parseMethodDescriptor yX3_isWord.desc).map (fun d => d.parameters.length) = some 4 := by decide +kernel
set_option maxHeartbeats 1000000 in
set_option maxRecDepth 100000 in
theorem m_X3_isWord_0 (l : Launch) (G : va_G) (g : Nat → ClassId) (sz : Nat) (hM : Nat) (hnow : Nat) (hthen : Nat) (hpast : Nat) (kept : Int) (htx : Nat) (ty : Int) (th : Int) (at_ : Int) (fa : Prop) (htold : Nat) (tolds : Int) (hac : Nat) (hal : Nat) (hre : Nat) (hse : Nat) (hpl : Nat) (many : Int) (cost : Int) (br : Int) (hsy : Nat) (TX : Int → Int) (kTX : rgT TX) (hat : 0 ≤ at_ ∧ at_ ≤ ty ∧ ty ≤ 60) : Met l yX3_isWord (ws_ yX3_isWord cX3_isWord 5 (Option.some Jvm.ClassFile.FieldType.boolean)) ({ frames := 2, cells := 0, slots := 0, locals := 42 }) (va_Pc [.ref hM, .int (iI 110), .int (iI 111), .int (iI 110), .int (iI 101)] (wrB G CL (TY g) (fun _ => True) [(hM, .inr (2, (mO hnow hthen hpast kept htx ty th at_ fa htold tolds hac hal hre hse hpl many cost br hsy))), (htx, .inl (g 0, 60, .inl (aI TX)))] sz)) (va_Qi (fun (r : Int32) (u : Int × Prop) => r = (iI (qz (mt TX ty at_ (wd 0) 4 = 4))) ∧ (u.1 = at_ + mt TX ty at_ (wd 0) 4) ∧ (¬ mt TX ty at_ (wd 0) 4 = 4 → (u.2 ↔ u.1 < ty))) (fun (u : Int × Prop) t => va_P G CL [(hM, .inr (2, (mO hnow hthen hpast kept htx ty th u.1 u.2 htold tolds hac hal hre hse hpl many cost br hsy))), (htx, .inl (g 0, 60, .inl (aI TX)))] t.heap) (va_A [(hM, .inr (2, (mO hnow hthen hpast kept htx ty th at_ fa htold tolds hac hal hre hse hpl many cost br hsy))), (htx, .inl (g 0, 60, .inl (aI TX)))] sz)) 0 0 (va_A [(hM, .inr (2, (mO hnow hthen hpast kept htx ty th at_ fa htold tolds hac hal hre hse hpl many cost br hsy))), (htx, .inl (g 0, 60, .inl (aI TX)))] sz) := by
  refine Met.at (by decide) (Nat.le_of_ble_eq_true rfl) ?_
  intro p e s m below meth c hx hb hr hlk hml hown hnm hts hB ls hl
  have hown : s.vm.findClass RX3 = some m.cls := hown
  obtain ⟨hsz, hP, hK, hD0, hEs⟩ := hB
  subst hsz
  have hD := hD0.self (sz := s.heap.size)
  generalize hAe : va_A [(hM, .inr (2, (mO hnow hthen hpast kept htx ty th at_ fa htold tolds hac hal hre hse hpl many cost br hsy))), (htx, .inl (g 0, 60, .inl (aI TX)))] s.heap.size = A at hD ⊢
  have hA : ∀ q : Nat, s.heap.size ≤ q → A q := fun q h => by rw [← hAe]; exact Or.inr h
  have hS : va_S A s.heap s.heap [] := va_S.rf
  have hl : lv_has ls 5 [(0, .ref hM), (1, .int (iI 110)), (2, .int (iI 111)), (3, .int (iI 110)), (4, .int (iI 101))] := hl
  refine lv_aload_n hx hb dX3_isWord_0 rfl (lv_at hl 0 rfl) ?_
  refine lv_iload_n hx hb dX3_isWord_1 rfl (lv_at hl 1 rfl) ?_
  refine g_callVwi (As := [.int (iI 110)]) (rest := []) (m_X3_isSign l G g s.heap.size hM 110 hnow hthen hpast kept htx ty th at_ fa htold tolds hac hal hre hse hpl many cost br hsy TX ⟨by decide, by decide⟩ kTX (by omega)) hx hb hml hown hts Stab.tt hA hK hP hD hS hEs [0, 1] rfl rfl (fun _ => rfl) (q0 := 0) rfl rfl q1666 q1668 qs75 q102 q1669 hd_X3_isSign rfl rfl ⟨Nat.le_of_ble_eq_true rfl, Nat.le_of_ble_eq_true rfl⟩ rfl hl rfl (Nat.le_of_ble_eq_true rfl) ⟨Nat.le_refl _, Nat.le_refl _⟩ dX3_isWord_2 (fun rr u H locs hp hP hS => ?_)
  obtain ⟨A1, F1⟩ := u
  obtain ⟨hrr, s1, t1⟩ : rr = (iI (qz (at_ < ty ∧ TX at_ = 110))) ∧ (((at_ < ty ∧ TX at_ = 110) ∧ A1 = at_ + 1) ∨ (¬ (at_ < ty ∧ TX at_ = 110) ∧ A1 = at_)) ∧ (¬ (at_ < ty ∧ TX at_ = 110) → (F1 ↔ at_ < ty)) := hp
  subst hrr
  have hP : va_P G CL [(hM, .inr (2, (mO hnow hthen hpast kept htx ty th A1 F1 htold tolds hac hal hre hse hpl many cost br hsy))), (htx, .inl (g 0, 60, .inl (aI TX)))] H := hP
  have hD : va_D A [(hM, .inr (2, (mO hnow hthen hpast kept htx ty th A1 F1 htold tolds hac hal hre hse hpl many cost br hsy))), (htx, .inl (g 0, 60, .inl (aI TX)))] := va_Dadr hD rfl
  refine W.widen (k := 0) (n := 0) (Nat.le_refl _) (Nat.le_refl _) ?_
  refine g_ifq_eq (tgt := 42) hx hb dX3_isWord_5 (by decide) (fun c1 => ?_) (fun c1 => ?_)
  · refine lv_iconst (v := iI 0) hx hb dX3_isWord_42 rfl ?_
    exact W.zret (v := (iI 0)) hx hb hr rfl (fun t ht hW => ⟨⟨_, (A1, F1), rfl, (by have hm := mt_stop (T := TX) (n := ty) (a := at_) (w := wd 0) (j := 0) (fun i a b => absurd b (by omega)) (fun z => by have z1 := z.1; have z2 := z.2; rw [show at_ + ((0 : Nat) : Int) = at_ from by omega, show wd 0 ((0 : Nat) : Int) = 110 from by decide] at z2; omega) 4 (by decide); exact ⟨congrArg iI (qz_f (by rw [hm]; decide)).symm, by rw [hm]; omega, fun _ => (t1 (by assumption)).trans ⟨fun z => by omega, fun z => by omega⟩⟩), by rw [← ht] at hP; exact hP⟩, hS.F ht⟩) hS.2.2 dX3_isWord_43 hlk
  · have q1 : TX (at_ + 0) = wd 0 0 := (by rw [show at_ + 0 = at_ from by omega, show wd 0 0 = 110 from by decide]; omega)
    refine lv_aload_n hx hb dX3_isWord_8 rfl (lv_at hl 0 rfl) ?_
    refine lv_iload_n hx hb dX3_isWord_9 rfl (lv_at hl 2 rfl) ?_
    refine g_callVwi (As := [.int (iI 111)]) (rest := []) (m_X3_isSign l G g H.size hM 111 hnow hthen hpast kept htx ty th A1 F1 htold tolds hac hal hre hse hpl many cost br hsy TX ⟨by decide, by decide⟩ kTX (by omega)) hx hb hml hown hts Stab.tt hA hK hP hD hS hEs [0, 1] rfl rfl (fun _ => rfl) (q0 := 0) rfl rfl q1666 q1668 qs75 q102 q1669 hd_X3_isSign rfl rfl ⟨Nat.le_of_ble_eq_true rfl, Nat.le_of_ble_eq_true rfl⟩ rfl hl rfl (Nat.le_of_ble_eq_true rfl) ⟨Nat.le_refl _, Nat.le_refl _⟩ dX3_isWord_10 (fun rr u H locs hp hP hS => ?_)
    obtain ⟨A2, F2⟩ := u
    obtain ⟨hrr, s2, t2⟩ : rr = (iI (qz (A1 < ty ∧ TX A1 = 111))) ∧ (((A1 < ty ∧ TX A1 = 111) ∧ A2 = A1 + 1) ∨ (¬ (A1 < ty ∧ TX A1 = 111) ∧ A2 = A1)) ∧ (¬ (A1 < ty ∧ TX A1 = 111) → (F2 ↔ A1 < ty)) := hp
    subst hrr
    have hP : va_P G CL [(hM, .inr (2, (mO hnow hthen hpast kept htx ty th A2 F2 htold tolds hac hal hre hse hpl many cost br hsy))), (htx, .inl (g 0, 60, .inl (aI TX)))] H := hP
    have hD : va_D A [(hM, .inr (2, (mO hnow hthen hpast kept htx ty th A2 F2 htold tolds hac hal hre hse hpl many cost br hsy))), (htx, .inl (g 0, 60, .inl (aI TX)))] := va_Dadr hD rfl
    refine W.widen (k := 0) (n := 0) (Nat.le_refl _) (Nat.le_refl _) ?_
    refine g_ifq_eq (tgt := 42) hx hb dX3_isWord_13 (by decide) (fun c2 => ?_) (fun c2 => ?_)
    · refine lv_iconst (v := iI 0) hx hb dX3_isWord_42 rfl ?_
      exact W.zret (v := (iI 0)) hx hb hr rfl (fun t ht hW => ⟨⟨_, (A2, F2), rfl, (by have hm := mt_stop (T := TX) (n := ty) (a := at_) (w := wd 0) (j := 1) (fun i a b => by rcases (show i = 0 from by omega) with rfl <;> first | exact ⟨by omega, q1⟩ | exact ⟨by omega, q2⟩ | exact ⟨by omega, q3⟩ | exact ⟨by omega, q4⟩) (fun z => by have z1 := z.1; have z2 := z.2; rw [show at_ + ((1 : Nat) : Int) = A1 from by omega, show wd 0 ((1 : Nat) : Int) = 111 from by decide] at z2; omega) 4 (by decide); exact ⟨congrArg iI (qz_f (by rw [hm]; decide)).symm, by rw [hm]; omega, fun _ => (t2 (by assumption)).trans ⟨fun z => by omega, fun z => by omega⟩⟩), by rw [← ht] at hP; exact hP⟩, hS.F ht⟩) hS.2.2 dX3_isWord_43 hlk
    · have q2 : TX (at_ + 1) = wd 0 1 := (by rw [show at_ + 1 = A1 from by omega, show wd 0 1 = 111 from by decide]; omega)
      refine lv_aload_n hx hb dX3_isWord_16 rfl (lv_at hl 0 rfl) ?_
      refine lv_iload_n hx hb dX3_isWord_17 rfl (lv_at hl 3 rfl) ?_
      refine g_callVwi (As := [.int (iI 110)]) (rest := []) (m_X3_isSign l G g H.size hM 110 hnow hthen hpast kept htx ty th A2 F2 htold tolds hac hal hre hse hpl many cost br hsy TX ⟨by decide, by decide⟩ kTX (by omega)) hx hb hml hown hts Stab.tt hA hK hP hD hS hEs [0, 1] rfl rfl (fun _ => rfl) (q0 := 0) rfl rfl q1666 q1668 qs75 q102 q1669 hd_X3_isSign rfl rfl ⟨Nat.le_of_ble_eq_true rfl, Nat.le_of_ble_eq_true rfl⟩ rfl hl rfl (Nat.le_of_ble_eq_true rfl) ⟨Nat.le_refl _, Nat.le_refl _⟩ dX3_isWord_18 (fun rr u H locs hp hP hS => ?_)
      obtain ⟨A3, F3⟩ := u
      obtain ⟨hrr, s3, t3⟩ : rr = (iI (qz (A2 < ty ∧ TX A2 = 110))) ∧ (((A2 < ty ∧ TX A2 = 110) ∧ A3 = A2 + 1) ∨ (¬ (A2 < ty ∧ TX A2 = 110) ∧ A3 = A2)) ∧ (¬ (A2 < ty ∧ TX A2 = 110) → (F3 ↔ A2 < ty)) := hp
      subst hrr
      have hP : va_P G CL [(hM, .inr (2, (mO hnow hthen hpast kept htx ty th A3 F3 htold tolds hac hal hre hse hpl many cost br hsy))), (htx, .inl (g 0, 60, .inl (aI TX)))] H := hP
      have hD : va_D A [(hM, .inr (2, (mO hnow hthen hpast kept htx ty th A3 F3 htold tolds hac hal hre hse hpl many cost br hsy))), (htx, .inl (g 0, 60, .inl (aI TX)))] := va_Dadr hD rfl
      refine W.widen (k := 0) (n := 0) (Nat.le_refl _) (Nat.le_refl _) ?_
      refine g_ifq_eq (tgt := 42) hx hb dX3_isWord_21 (by decide) (fun c3 => ?_) (fun c3 => ?_)
      · refine lv_iconst (v := iI 0) hx hb dX3_isWord_42 rfl ?_
        exact W.zret (v := (iI 0)) hx hb hr rfl (fun t ht hW => ⟨⟨_, (A3, F3), rfl, (by have hm := mt_stop (T := TX) (n := ty) (a := at_) (w := wd 0) (j := 2) (fun i a b => by rcases (show i = 0 ∨ i = 1 from by omega) with rfl | rfl <;> first | exact ⟨by omega, q1⟩ | exact ⟨by omega, q2⟩ | exact ⟨by omega, q3⟩ | exact ⟨by omega, q4⟩) (fun z => by have z1 := z.1; have z2 := z.2; rw [show at_ + ((2 : Nat) : Int) = A2 from by omega, show wd 0 ((2 : Nat) : Int) = 110 from by decide] at z2; omega) 4 (by decide); exact ⟨congrArg iI (qz_f (by rw [hm]; decide)).symm, by rw [hm]; omega, fun _ => (t3 (by assumption)).trans ⟨fun z => by omega, fun z => by omega⟩⟩), by rw [← ht] at hP; exact hP⟩, hS.F ht⟩) hS.2.2 dX3_isWord_43 hlk
      · have q3 : TX (at_ + 2) = wd 0 2 := (by rw [show at_ + 2 = A2 from by omega, show wd 0 2 = 110 from by decide]; omega)
        refine lv_iload hx hb dX3_isWord_24 (lv_at hl 4 rfl) ?_
        refine g_if_eq (tgt := 38) hx hb dX3_isWord_26 (by decide) ⟨by decide, by decide⟩ (fun c4 => ?_) (fun c4 => ?_)
        · exact False.elim (by first | omega | contradiction)
        · refine lv_aload_n hx hb dX3_isWord_29 rfl (lv_at hl 0 rfl) ?_
          refine lv_iload hx hb dX3_isWord_30 (lv_at hl 4 rfl) ?_
          refine g_callVwi (As := [.int (iI 101)]) (rest := []) (m_X3_isSign l G g H.size hM 101 hnow hthen hpast kept htx ty th A3 F3 htold tolds hac hal hre hse hpl many cost br hsy TX ⟨by decide, by decide⟩ kTX (by omega)) hx hb hml hown hts Stab.tt hA hK hP hD hS hEs [0, 1] rfl rfl (fun _ => rfl) (q0 := 0) rfl rfl q1666 q1668 qs75 q102 q1669 hd_X3_isSign rfl rfl ⟨Nat.le_of_ble_eq_true rfl, Nat.le_of_ble_eq_true rfl⟩ rfl hl rfl (Nat.le_of_ble_eq_true rfl) ⟨Nat.le_refl _, Nat.le_refl _⟩ dX3_isWord_32 (fun rr u H locs hp hP hS => ?_)
          obtain ⟨A4, F4⟩ := u
          obtain ⟨hrr, s4, t4⟩ : rr = (iI (qz (A3 < ty ∧ TX A3 = 101))) ∧ (((A3 < ty ∧ TX A3 = 101) ∧ A4 = A3 + 1) ∨ (¬ (A3 < ty ∧ TX A3 = 101) ∧ A4 = A3)) ∧ (¬ (A3 < ty ∧ TX A3 = 101) → (F4 ↔ A3 < ty)) := hp
          subst hrr
          have hP : va_P G CL [(hM, .inr (2, (mO hnow hthen hpast kept htx ty th A4 F4 htold tolds hac hal hre hse hpl many cost br hsy))), (htx, .inl (g 0, 60, .inl (aI TX)))] H := hP
          have hD : va_D A [(hM, .inr (2, (mO hnow hthen hpast kept htx ty th A4 F4 htold tolds hac hal hre hse hpl many cost br hsy))), (htx, .inl (g 0, 60, .inl (aI TX)))] := va_Dadr hD rfl
          refine W.widen (k := 0) (n := 0) (Nat.le_refl _) (Nat.le_refl _) ?_
          refine g_ifq_eq (tgt := 42) hx hb dX3_isWord_35 (by decide) (fun c5 => ?_) (fun c5 => ?_)
          · refine lv_iconst (v := iI 0) hx hb dX3_isWord_42 rfl ?_
            exact W.zret (v := (iI 0)) hx hb hr rfl (fun t ht hW => ⟨⟨_, (A4, F4), rfl, (by have hm := mt_stop (T := TX) (n := ty) (a := at_) (w := wd 0) (j := 3) (fun i a b => by rcases (show i = 0 ∨ i = 1 ∨ i = 2 from by omega) with rfl | rfl | rfl <;> first | exact ⟨by omega, q1⟩ | exact ⟨by omega, q2⟩ | exact ⟨by omega, q3⟩ | exact ⟨by omega, q4⟩) (fun z => by have z1 := z.1; have z2 := z.2; rw [show at_ + ((3 : Nat) : Int) = A3 from by omega, show wd 0 ((3 : Nat) : Int) = 101 from by decide] at z2; omega) 4 (by decide); exact ⟨congrArg iI (qz_f (by rw [hm]; decide)).symm, by rw [hm]; omega, fun _ => (t4 (by assumption)).trans ⟨fun z => by omega, fun z => by omega⟩⟩), by rw [← ht] at hP; exact hP⟩, hS.F ht⟩) hS.2.2 dX3_isWord_43 hlk
          · have q4 : TX (at_ + 3) = wd 0 3 := (by rw [show at_ + 3 = A3 from by omega, show wd 0 3 = 101 from by decide]; omega)
            refine lv_iconst (v := iI 1) hx hb dX3_isWord_38 rfl ?_
            refine lv_goto (tgt := 43) hx hb dX3_isWord_39 (by decide) ?_
            exact W.zret (v := (iI 1)) hx hb hr rfl (fun t ht hW => ⟨⟨_, (A4, F4), rfl, (by have hm := mt_full (T := TX) (n := ty) (a := at_) (w := wd 0) 4 (fun i a b => by rcases (show i = 0 ∨ i = 1 ∨ i = 2 ∨ i = 3 from by omega) with rfl | rfl | rfl | rfl <;> first | exact ⟨by omega, q1⟩ | exact ⟨by omega, q2⟩ | exact ⟨by omega, q3⟩ | exact ⟨by omega, q4⟩); have hm : mt TX ty at_ (wd 0) 4 = 4 := hm; exact ⟨congrArg iI (qz_t hm).symm, by rw [hm]; omega, fun z => absurd hm z⟩), by rw [← ht] at hP; exact hP⟩, hS.F ht⟩) hS.2.2 dX3_isWord_43 hlk
set_option maxHeartbeats 1000000 in
set_option maxRecDepth 100000 in
theorem m_X3_isWord_1 (l : Launch) (G : va_G) (g : Nat → ClassId) (sz : Nat) (hM : Nat) (hnow : Nat) (hthen : Nat) (hpast : Nat) (kept : Int) (htx : Nat) (ty : Int) (th : Int) (at_ : Int) (fa : Prop) (htold : Nat) (tolds : Int) (hac : Nat) (hal : Nat) (hre : Nat) (hse : Nat) (hpl : Nat) (many : Int) (cost : Int) (br : Int) (hsy : Nat) (TX : Int → Int) (kTX : rgT TX) (hat : 0 ≤ at_ ∧ at_ ≤ ty ∧ ty ≤ 60) : Met l yX3_isWord (ws_ yX3_isWord cX3_isWord 5 (Option.some Jvm.ClassFile.FieldType.boolean)) ({ frames := 2, cells := 0, slots := 0, locals := 42 }) (va_Pc [.ref hM, .int (iI 111), .int (iI 110), .int (iI 101), .int (iI 0)] (wrB G CL (TY g) (fun _ => True) [(hM, .inr (2, (mO hnow hthen hpast kept htx ty th at_ fa htold tolds hac hal hre hse hpl many cost br hsy))), (htx, .inl (g 0, 60, .inl (aI TX)))] sz)) (va_Qi (fun (r : Int32) (u : Int × Prop) => r = (iI (qz (mt TX ty at_ (wd 1) 3 = 3))) ∧ (u.1 = at_ + mt TX ty at_ (wd 1) 3) ∧ (¬ mt TX ty at_ (wd 1) 3 = 3 → (u.2 ↔ u.1 < ty))) (fun (u : Int × Prop) t => va_P G CL [(hM, .inr (2, (mO hnow hthen hpast kept htx ty th u.1 u.2 htold tolds hac hal hre hse hpl many cost br hsy))), (htx, .inl (g 0, 60, .inl (aI TX)))] t.heap) (va_A [(hM, .inr (2, (mO hnow hthen hpast kept htx ty th at_ fa htold tolds hac hal hre hse hpl many cost br hsy))), (htx, .inl (g 0, 60, .inl (aI TX)))] sz)) 0 0 (va_A [(hM, .inr (2, (mO hnow hthen hpast kept htx ty th at_ fa htold tolds hac hal hre hse hpl many cost br hsy))), (htx, .inl (g 0, 60, .inl (aI TX)))] sz) := by
  refine Met.at (by decide) (Nat.le_of_ble_eq_true rfl) ?_
  intro p e s m below meth c hx hb hr hlk hml hown hnm hts hB ls hl
  have hown : s.vm.findClass RX3 = some m.cls := hown
  obtain ⟨hsz, hP, hK, hD0, hEs⟩ := hB
  subst hsz
  have hD := hD0.self (sz := s.heap.size)
  generalize hAe : va_A [(hM, .inr (2, (mO hnow hthen hpast kept htx ty th at_ fa htold tolds hac hal hre hse hpl many cost br hsy))), (htx, .inl (g 0, 60, .inl (aI TX)))] s.heap.size = A at hD ⊢
  have hA : ∀ q : Nat, s.heap.size ≤ q → A q := fun q h => by rw [← hAe]; exact Or.inr h
  have hS : va_S A s.heap s.heap [] := va_S.rf
  have hl : lv_has ls 5 [(0, .ref hM), (1, .int (iI 111)), (2, .int (iI 110)), (3, .int (iI 101)), (4, .int (iI 0))] := hl
  refine lv_aload_n hx hb dX3_isWord_0 rfl (lv_at hl 0 rfl) ?_
  refine lv_iload_n hx hb dX3_isWord_1 rfl (lv_at hl 1 rfl) ?_
  refine g_callVwi (As := [.int (iI 111)]) (rest := []) (m_X3_isSign l G g s.heap.size hM 111 hnow hthen hpast kept htx ty th at_ fa htold tolds hac hal hre hse hpl many cost br hsy TX ⟨by decide, by decide⟩ kTX (by omega)) hx hb hml hown hts Stab.tt hA hK hP hD hS hEs [0, 1] rfl rfl (fun _ => rfl) (q0 := 0) rfl rfl q1666 q1668 qs75 q102 q1669 hd_X3_isSign rfl rfl ⟨Nat.le_of_ble_eq_true rfl, Nat.le_of_ble_eq_true rfl⟩ rfl hl rfl (Nat.le_of_ble_eq_true rfl) ⟨Nat.le_refl _, Nat.le_refl _⟩ dX3_isWord_2 (fun rr u H locs hp hP hS => ?_)
  obtain ⟨A1, F1⟩ := u
  obtain ⟨hrr, s1, t1⟩ : rr = (iI (qz (at_ < ty ∧ TX at_ = 111))) ∧ (((at_ < ty ∧ TX at_ = 111) ∧ A1 = at_ + 1) ∨ (¬ (at_ < ty ∧ TX at_ = 111) ∧ A1 = at_)) ∧ (¬ (at_ < ty ∧ TX at_ = 111) → (F1 ↔ at_ < ty)) := hp
  subst hrr
  have hP : va_P G CL [(hM, .inr (2, (mO hnow hthen hpast kept htx ty th A1 F1 htold tolds hac hal hre hse hpl many cost br hsy))), (htx, .inl (g 0, 60, .inl (aI TX)))] H := hP
  have hD : va_D A [(hM, .inr (2, (mO hnow hthen hpast kept htx ty th A1 F1 htold tolds hac hal hre hse hpl many cost br hsy))), (htx, .inl (g 0, 60, .inl (aI TX)))] := va_Dadr hD rfl
  refine W.widen (k := 0) (n := 0) (Nat.le_refl _) (Nat.le_refl _) ?_
  refine g_ifq_eq (tgt := 42) hx hb dX3_isWord_5 (by decide) (fun c1 => ?_) (fun c1 => ?_)
  · refine lv_iconst (v := iI 0) hx hb dX3_isWord_42 rfl ?_
    exact W.zret (v := (iI 0)) hx hb hr rfl (fun t ht hW => ⟨⟨_, (A1, F1), rfl, (by have hm := mt_stop (T := TX) (n := ty) (a := at_) (w := wd 1) (j := 0) (fun i a b => absurd b (by omega)) (fun z => by have z1 := z.1; have z2 := z.2; rw [show at_ + ((0 : Nat) : Int) = at_ from by omega, show wd 1 ((0 : Nat) : Int) = 111 from by decide] at z2; omega) 3 (by decide); exact ⟨congrArg iI (qz_f (by rw [hm]; decide)).symm, by rw [hm]; omega, fun _ => (t1 (by assumption)).trans ⟨fun z => by omega, fun z => by omega⟩⟩), by rw [← ht] at hP; exact hP⟩, hS.F ht⟩) hS.2.2 dX3_isWord_43 hlk
  · have q1 : TX (at_ + 0) = wd 1 0 := (by rw [show at_ + 0 = at_ from by omega, show wd 1 0 = 111 from by decide]; omega)
    refine lv_aload_n hx hb dX3_isWord_8 rfl (lv_at hl 0 rfl) ?_
    refine lv_iload_n hx hb dX3_isWord_9 rfl (lv_at hl 2 rfl) ?_
    refine g_callVwi (As := [.int (iI 110)]) (rest := []) (m_X3_isSign l G g H.size hM 110 hnow hthen hpast kept htx ty th A1 F1 htold tolds hac hal hre hse hpl many cost br hsy TX ⟨by decide, by decide⟩ kTX (by omega)) hx hb hml hown hts Stab.tt hA hK hP hD hS hEs [0, 1] rfl rfl (fun _ => rfl) (q0 := 0) rfl rfl q1666 q1668 qs75 q102 q1669 hd_X3_isSign rfl rfl ⟨Nat.le_of_ble_eq_true rfl, Nat.le_of_ble_eq_true rfl⟩ rfl hl rfl (Nat.le_of_ble_eq_true rfl) ⟨Nat.le_refl _, Nat.le_refl _⟩ dX3_isWord_10 (fun rr u H locs hp hP hS => ?_)
    obtain ⟨A2, F2⟩ := u
    obtain ⟨hrr, s2, t2⟩ : rr = (iI (qz (A1 < ty ∧ TX A1 = 110))) ∧ (((A1 < ty ∧ TX A1 = 110) ∧ A2 = A1 + 1) ∨ (¬ (A1 < ty ∧ TX A1 = 110) ∧ A2 = A1)) ∧ (¬ (A1 < ty ∧ TX A1 = 110) → (F2 ↔ A1 < ty)) := hp
    subst hrr
    have hP : va_P G CL [(hM, .inr (2, (mO hnow hthen hpast kept htx ty th A2 F2 htold tolds hac hal hre hse hpl many cost br hsy))), (htx, .inl (g 0, 60, .inl (aI TX)))] H := hP
    have hD : va_D A [(hM, .inr (2, (mO hnow hthen hpast kept htx ty th A2 F2 htold tolds hac hal hre hse hpl many cost br hsy))), (htx, .inl (g 0, 60, .inl (aI TX)))] := va_Dadr hD rfl
    refine W.widen (k := 0) (n := 0) (Nat.le_refl _) (Nat.le_refl _) ?_
    refine g_ifq_eq (tgt := 42) hx hb dX3_isWord_13 (by decide) (fun c2 => ?_) (fun c2 => ?_)
    · refine lv_iconst (v := iI 0) hx hb dX3_isWord_42 rfl ?_
      exact W.zret (v := (iI 0)) hx hb hr rfl (fun t ht hW => ⟨⟨_, (A2, F2), rfl, (by have hm := mt_stop (T := TX) (n := ty) (a := at_) (w := wd 1) (j := 1) (fun i a b => by rcases (show i = 0 from by omega) with rfl <;> first | exact ⟨by omega, q1⟩ | exact ⟨by omega, q2⟩ | exact ⟨by omega, q3⟩ | exact ⟨by omega, q4⟩) (fun z => by have z1 := z.1; have z2 := z.2; rw [show at_ + ((1 : Nat) : Int) = A1 from by omega, show wd 1 ((1 : Nat) : Int) = 110 from by decide] at z2; omega) 3 (by decide); exact ⟨congrArg iI (qz_f (by rw [hm]; decide)).symm, by rw [hm]; omega, fun _ => (t2 (by assumption)).trans ⟨fun z => by omega, fun z => by omega⟩⟩), by rw [← ht] at hP; exact hP⟩, hS.F ht⟩) hS.2.2 dX3_isWord_43 hlk
    · have q2 : TX (at_ + 1) = wd 1 1 := (by rw [show at_ + 1 = A1 from by omega, show wd 1 1 = 110 from by decide]; omega)
      refine lv_aload_n hx hb dX3_isWord_16 rfl (lv_at hl 0 rfl) ?_
      refine lv_iload_n hx hb dX3_isWord_17 rfl (lv_at hl 3 rfl) ?_
      refine g_callVwi (As := [.int (iI 101)]) (rest := []) (m_X3_isSign l G g H.size hM 101 hnow hthen hpast kept htx ty th A2 F2 htold tolds hac hal hre hse hpl many cost br hsy TX ⟨by decide, by decide⟩ kTX (by omega)) hx hb hml hown hts Stab.tt hA hK hP hD hS hEs [0, 1] rfl rfl (fun _ => rfl) (q0 := 0) rfl rfl q1666 q1668 qs75 q102 q1669 hd_X3_isSign rfl rfl ⟨Nat.le_of_ble_eq_true rfl, Nat.le_of_ble_eq_true rfl⟩ rfl hl rfl (Nat.le_of_ble_eq_true rfl) ⟨Nat.le_refl _, Nat.le_refl _⟩ dX3_isWord_18 (fun rr u H locs hp hP hS => ?_)
      obtain ⟨A3, F3⟩ := u
      obtain ⟨hrr, s3, t3⟩ : rr = (iI (qz (A2 < ty ∧ TX A2 = 101))) ∧ (((A2 < ty ∧ TX A2 = 101) ∧ A3 = A2 + 1) ∨ (¬ (A2 < ty ∧ TX A2 = 101) ∧ A3 = A2)) ∧ (¬ (A2 < ty ∧ TX A2 = 101) → (F3 ↔ A2 < ty)) := hp
      subst hrr
      have hP : va_P G CL [(hM, .inr (2, (mO hnow hthen hpast kept htx ty th A3 F3 htold tolds hac hal hre hse hpl many cost br hsy))), (htx, .inl (g 0, 60, .inl (aI TX)))] H := hP
      have hD : va_D A [(hM, .inr (2, (mO hnow hthen hpast kept htx ty th A3 F3 htold tolds hac hal hre hse hpl many cost br hsy))), (htx, .inl (g 0, 60, .inl (aI TX)))] := va_Dadr hD rfl
      refine W.widen (k := 0) (n := 0) (Nat.le_refl _) (Nat.le_refl _) ?_
      refine g_ifq_eq (tgt := 42) hx hb dX3_isWord_21 (by decide) (fun c3 => ?_) (fun c3 => ?_)
      · refine lv_iconst (v := iI 0) hx hb dX3_isWord_42 rfl ?_
        exact W.zret (v := (iI 0)) hx hb hr rfl (fun t ht hW => ⟨⟨_, (A3, F3), rfl, (by have hm := mt_stop (T := TX) (n := ty) (a := at_) (w := wd 1) (j := 2) (fun i a b => by rcases (show i = 0 ∨ i = 1 from by omega) with rfl | rfl <;> first | exact ⟨by omega, q1⟩ | exact ⟨by omega, q2⟩ | exact ⟨by omega, q3⟩ | exact ⟨by omega, q4⟩) (fun z => by have z1 := z.1; have z2 := z.2; rw [show at_ + ((2 : Nat) : Int) = A2 from by omega, show wd 1 ((2 : Nat) : Int) = 101 from by decide] at z2; omega) 3 (by decide); exact ⟨congrArg iI (qz_f (by rw [hm]; decide)).symm, by rw [hm]; omega, fun _ => (t3 (by assumption)).trans ⟨fun z => by omega, fun z => by omega⟩⟩), by rw [← ht] at hP; exact hP⟩, hS.F ht⟩) hS.2.2 dX3_isWord_43 hlk
      · have q3 : TX (at_ + 2) = wd 1 2 := (by rw [show at_ + 2 = A2 from by omega, show wd 1 2 = 101 from by decide]; omega)
        refine lv_iload hx hb dX3_isWord_24 (lv_at hl 4 rfl) ?_
        refine g_if_eq (tgt := 38) hx hb dX3_isWord_26 (by decide) ⟨by decide, by decide⟩ (fun c4 => ?_) (fun c4 => ?_)
        · refine lv_iconst (v := iI 1) hx hb dX3_isWord_38 rfl ?_
          refine lv_goto (tgt := 43) hx hb dX3_isWord_39 (by decide) ?_
          exact W.zret (v := (iI 1)) hx hb hr rfl (fun t ht hW => ⟨⟨_, (A3, F3), rfl, (by have hm := mt_full (T := TX) (n := ty) (a := at_) (w := wd 1) 3 (fun i a b => by rcases (show i = 0 ∨ i = 1 ∨ i = 2 from by omega) with rfl | rfl | rfl <;> first | exact ⟨by omega, q1⟩ | exact ⟨by omega, q2⟩ | exact ⟨by omega, q3⟩ | exact ⟨by omega, q4⟩); have hm : mt TX ty at_ (wd 1) 3 = 3 := hm; exact ⟨congrArg iI (qz_t hm).symm, by rw [hm]; omega, fun z => absurd hm z⟩), by rw [← ht] at hP; exact hP⟩, hS.F ht⟩) hS.2.2 dX3_isWord_43 hlk
        · exact False.elim (by first | omega | contradiction)
set_option maxHeartbeats 1000000 in
set_option maxRecDepth 100000 in
theorem m_X3_isWord_2 (l : Launch) (G : va_G) (g : Nat → ClassId) (sz : Nat) (hM : Nat) (hnow : Nat) (hthen : Nat) (hpast : Nat) (kept : Int) (htx : Nat) (ty : Int) (th : Int) (at_ : Int) (fa : Prop) (htold : Nat) (tolds : Int) (hac : Nat) (hal : Nat) (hre : Nat) (hse : Nat) (hpl : Nat) (many : Int) (cost : Int) (br : Int) (hsy : Nat) (TX : Int → Int) (kTX : rgT TX) (hat : 0 ≤ at_ ∧ at_ ≤ ty ∧ ty ≤ 60) : Met l yX3_isWord (ws_ yX3_isWord cX3_isWord 5 (Option.some Jvm.ClassFile.FieldType.boolean)) ({ frames := 2, cells := 0, slots := 0, locals := 42 }) (va_Pc [.ref hM, .int (iI 112), .int (iI 97), .int (iI 105), .int (iI 114)] (wrB G CL (TY g) (fun _ => True) [(hM, .inr (2, (mO hnow hthen hpast kept htx ty th at_ fa htold tolds hac hal hre hse hpl many cost br hsy))), (htx, .inl (g 0, 60, .inl (aI TX)))] sz)) (va_Qi (fun (r : Int32) (u : Int × Prop) => r = (iI (qz (mt TX ty at_ (wd 2) 4 = 4))) ∧ (u.1 = at_ + mt TX ty at_ (wd 2) 4) ∧ (¬ mt TX ty at_ (wd 2) 4 = 4 → (u.2 ↔ u.1 < ty))) (fun (u : Int × Prop) t => va_P G CL [(hM, .inr (2, (mO hnow hthen hpast kept htx ty th u.1 u.2 htold tolds hac hal hre hse hpl many cost br hsy))), (htx, .inl (g 0, 60, .inl (aI TX)))] t.heap) (va_A [(hM, .inr (2, (mO hnow hthen hpast kept htx ty th at_ fa htold tolds hac hal hre hse hpl many cost br hsy))), (htx, .inl (g 0, 60, .inl (aI TX)))] sz)) 0 0 (va_A [(hM, .inr (2, (mO hnow hthen hpast kept htx ty th at_ fa htold tolds hac hal hre hse hpl many cost br hsy))), (htx, .inl (g 0, 60, .inl (aI TX)))] sz) := by
  refine Met.at (by decide) (Nat.le_of_ble_eq_true rfl) ?_
  intro p e s m below meth c hx hb hr hlk hml hown hnm hts hB ls hl
  have hown : s.vm.findClass RX3 = some m.cls := hown
  obtain ⟨hsz, hP, hK, hD0, hEs⟩ := hB
  subst hsz
  have hD := hD0.self (sz := s.heap.size)
  generalize hAe : va_A [(hM, .inr (2, (mO hnow hthen hpast kept htx ty th at_ fa htold tolds hac hal hre hse hpl many cost br hsy))), (htx, .inl (g 0, 60, .inl (aI TX)))] s.heap.size = A at hD ⊢
  have hA : ∀ q : Nat, s.heap.size ≤ q → A q := fun q h => by rw [← hAe]; exact Or.inr h
  have hS : va_S A s.heap s.heap [] := va_S.rf
  have hl : lv_has ls 5 [(0, .ref hM), (1, .int (iI 112)), (2, .int (iI 97)), (3, .int (iI 105)), (4, .int (iI 114))] := hl
  refine lv_aload_n hx hb dX3_isWord_0 rfl (lv_at hl 0 rfl) ?_
  refine lv_iload_n hx hb dX3_isWord_1 rfl (lv_at hl 1 rfl) ?_
  refine g_callVwi (As := [.int (iI 112)]) (rest := []) (m_X3_isSign l G g s.heap.size hM 112 hnow hthen hpast kept htx ty th at_ fa htold tolds hac hal hre hse hpl many cost br hsy TX ⟨by decide, by decide⟩ kTX (by omega)) hx hb hml hown hts Stab.tt hA hK hP hD hS hEs [0, 1] rfl rfl (fun _ => rfl) (q0 := 0) rfl rfl q1666 q1668 qs75 q102 q1669 hd_X3_isSign rfl rfl ⟨Nat.le_of_ble_eq_true rfl, Nat.le_of_ble_eq_true rfl⟩ rfl hl rfl (Nat.le_of_ble_eq_true rfl) ⟨Nat.le_refl _, Nat.le_refl _⟩ dX3_isWord_2 (fun rr u H locs hp hP hS => ?_)
  obtain ⟨A1, F1⟩ := u
  obtain ⟨hrr, s1, t1⟩ : rr = (iI (qz (at_ < ty ∧ TX at_ = 112))) ∧ (((at_ < ty ∧ TX at_ = 112) ∧ A1 = at_ + 1) ∨ (¬ (at_ < ty ∧ TX at_ = 112) ∧ A1 = at_)) ∧ (¬ (at_ < ty ∧ TX at_ = 112) → (F1 ↔ at_ < ty)) := hp
  subst hrr
  have hP : va_P G CL [(hM, .inr (2, (mO hnow hthen hpast kept htx ty th A1 F1 htold tolds hac hal hre hse hpl many cost br hsy))), (htx, .inl (g 0, 60, .inl (aI TX)))] H := hP
  have hD : va_D A [(hM, .inr (2, (mO hnow hthen hpast kept htx ty th A1 F1 htold tolds hac hal hre hse hpl many cost br hsy))), (htx, .inl (g 0, 60, .inl (aI TX)))] := va_Dadr hD rfl
  refine W.widen (k := 0) (n := 0) (Nat.le_refl _) (Nat.le_refl _) ?_
  refine g_ifq_eq (tgt := 42) hx hb dX3_isWord_5 (by decide) (fun c1 => ?_) (fun c1 => ?_)
  · refine lv_iconst (v := iI 0) hx hb dX3_isWord_42 rfl ?_
    exact W.zret (v := (iI 0)) hx hb hr rfl (fun t ht hW => ⟨⟨_, (A1, F1), rfl, (by have hm := mt_stop (T := TX) (n := ty) (a := at_) (w := wd 2) (j := 0) (fun i a b => absurd b (by omega)) (fun z => by have z1 := z.1; have z2 := z.2; rw [show at_ + ((0 : Nat) : Int) = at_ from by omega, show wd 2 ((0 : Nat) : Int) = 112 from by decide] at z2; omega) 4 (by decide); exact ⟨congrArg iI (qz_f (by rw [hm]; decide)).symm, by rw [hm]; omega, fun _ => (t1 (by assumption)).trans ⟨fun z => by omega, fun z => by omega⟩⟩), by rw [← ht] at hP; exact hP⟩, hS.F ht⟩) hS.2.2 dX3_isWord_43 hlk
  · have q1 : TX (at_ + 0) = wd 2 0 := (by rw [show at_ + 0 = at_ from by omega, show wd 2 0 = 112 from by decide]; omega)
    refine lv_aload_n hx hb dX3_isWord_8 rfl (lv_at hl 0 rfl) ?_
    refine lv_iload_n hx hb dX3_isWord_9 rfl (lv_at hl 2 rfl) ?_
    refine g_callVwi (As := [.int (iI 97)]) (rest := []) (m_X3_isSign l G g H.size hM 97 hnow hthen hpast kept htx ty th A1 F1 htold tolds hac hal hre hse hpl many cost br hsy TX ⟨by decide, by decide⟩ kTX (by omega)) hx hb hml hown hts Stab.tt hA hK hP hD hS hEs [0, 1] rfl rfl (fun _ => rfl) (q0 := 0) rfl rfl q1666 q1668 qs75 q102 q1669 hd_X3_isSign rfl rfl ⟨Nat.le_of_ble_eq_true rfl, Nat.le_of_ble_eq_true rfl⟩ rfl hl rfl (Nat.le_of_ble_eq_true rfl) ⟨Nat.le_refl _, Nat.le_refl _⟩ dX3_isWord_10 (fun rr u H locs hp hP hS => ?_)
    obtain ⟨A2, F2⟩ := u
    obtain ⟨hrr, s2, t2⟩ : rr = (iI (qz (A1 < ty ∧ TX A1 = 97))) ∧ (((A1 < ty ∧ TX A1 = 97) ∧ A2 = A1 + 1) ∨ (¬ (A1 < ty ∧ TX A1 = 97) ∧ A2 = A1)) ∧ (¬ (A1 < ty ∧ TX A1 = 97) → (F2 ↔ A1 < ty)) := hp
    subst hrr
    have hP : va_P G CL [(hM, .inr (2, (mO hnow hthen hpast kept htx ty th A2 F2 htold tolds hac hal hre hse hpl many cost br hsy))), (htx, .inl (g 0, 60, .inl (aI TX)))] H := hP
    have hD : va_D A [(hM, .inr (2, (mO hnow hthen hpast kept htx ty th A2 F2 htold tolds hac hal hre hse hpl many cost br hsy))), (htx, .inl (g 0, 60, .inl (aI TX)))] := va_Dadr hD rfl
    refine W.widen (k := 0) (n := 0) (Nat.le_refl _) (Nat.le_refl _) ?_
    refine g_ifq_eq (tgt := 42) hx hb dX3_isWord_13 (by decide) (fun c2 => ?_) (fun c2 => ?_)
    · refine lv_iconst (v := iI 0) hx hb dX3_isWord_42 rfl ?_
      exact W.zret (v := (iI 0)) hx hb hr rfl (fun t ht hW => ⟨⟨_, (A2, F2), rfl, (by have hm := mt_stop (T := TX) (n := ty) (a := at_) (w := wd 2) (j := 1) (fun i a b => by rcases (show i = 0 from by omega) with rfl <;> first | exact ⟨by omega, q1⟩ | exact ⟨by omega, q2⟩ | exact ⟨by omega, q3⟩ | exact ⟨by omega, q4⟩) (fun z => by have z1 := z.1; have z2 := z.2; rw [show at_ + ((1 : Nat) : Int) = A1 from by omega, show wd 2 ((1 : Nat) : Int) = 97 from by decide] at z2; omega) 4 (by decide); exact ⟨congrArg iI (qz_f (by rw [hm]; decide)).symm, by rw [hm]; omega, fun _ => (t2 (by assumption)).trans ⟨fun z => by omega, fun z => by omega⟩⟩), by rw [← ht] at hP; exact hP⟩, hS.F ht⟩) hS.2.2 dX3_isWord_43 hlk
    · have q2 : TX (at_ + 1) = wd 2 1 := (by rw [show at_ + 1 = A1 from by omega, show wd 2 1 = 97 from by decide]; omega)
      refine lv_aload_n hx hb dX3_isWord_16 rfl (lv_at hl 0 rfl) ?_
      refine lv_iload_n hx hb dX3_isWord_17 rfl (lv_at hl 3 rfl) ?_
      refine g_callVwi (As := [.int (iI 105)]) (rest := []) (m_X3_isSign l G g H.size hM 105 hnow hthen hpast kept htx ty th A2 F2 htold tolds hac hal hre hse hpl many cost br hsy TX ⟨by decide, by decide⟩ kTX (by omega)) hx hb hml hown hts Stab.tt hA hK hP hD hS hEs [0, 1] rfl rfl (fun _ => rfl) (q0 := 0) rfl rfl q1666 q1668 qs75 q102 q1669 hd_X3_isSign rfl rfl ⟨Nat.le_of_ble_eq_true rfl, Nat.le_of_ble_eq_true rfl⟩ rfl hl rfl (Nat.le_of_ble_eq_true rfl) ⟨Nat.le_refl _, Nat.le_refl _⟩ dX3_isWord_18 (fun rr u H locs hp hP hS => ?_)
      obtain ⟨A3, F3⟩ := u
      obtain ⟨hrr, s3, t3⟩ : rr = (iI (qz (A2 < ty ∧ TX A2 = 105))) ∧ (((A2 < ty ∧ TX A2 = 105) ∧ A3 = A2 + 1) ∨ (¬ (A2 < ty ∧ TX A2 = 105) ∧ A3 = A2)) ∧ (¬ (A2 < ty ∧ TX A2 = 105) → (F3 ↔ A2 < ty)) := hp
      subst hrr
      have hP : va_P G CL [(hM, .inr (2, (mO hnow hthen hpast kept htx ty th A3 F3 htold tolds hac hal hre hse hpl many cost br hsy))), (htx, .inl (g 0, 60, .inl (aI TX)))] H := hP
      have hD : va_D A [(hM, .inr (2, (mO hnow hthen hpast kept htx ty th A3 F3 htold tolds hac hal hre hse hpl many cost br hsy))), (htx, .inl (g 0, 60, .inl (aI TX)))] := va_Dadr hD rfl
      refine W.widen (k := 0) (n := 0) (Nat.le_refl _) (Nat.le_refl _) ?_
      refine g_ifq_eq (tgt := 42) hx hb dX3_isWord_21 (by decide) (fun c3 => ?_) (fun c3 => ?_)
      · refine lv_iconst (v := iI 0) hx hb dX3_isWord_42 rfl ?_
        exact W.zret (v := (iI 0)) hx hb hr rfl (fun t ht hW => ⟨⟨_, (A3, F3), rfl, (by have hm := mt_stop (T := TX) (n := ty) (a := at_) (w := wd 2) (j := 2) (fun i a b => by rcases (show i = 0 ∨ i = 1 from by omega) with rfl | rfl <;> first | exact ⟨by omega, q1⟩ | exact ⟨by omega, q2⟩ | exact ⟨by omega, q3⟩ | exact ⟨by omega, q4⟩) (fun z => by have z1 := z.1; have z2 := z.2; rw [show at_ + ((2 : Nat) : Int) = A2 from by omega, show wd 2 ((2 : Nat) : Int) = 105 from by decide] at z2; omega) 4 (by decide); exact ⟨congrArg iI (qz_f (by rw [hm]; decide)).symm, by rw [hm]; omega, fun _ => (t3 (by assumption)).trans ⟨fun z => by omega, fun z => by omega⟩⟩), by rw [← ht] at hP; exact hP⟩, hS.F ht⟩) hS.2.2 dX3_isWord_43 hlk
      · have q3 : TX (at_ + 2) = wd 2 2 := (by rw [show at_ + 2 = A2 from by omega, show wd 2 2 = 105 from by decide]; omega)
        refine lv_iload hx hb dX3_isWord_24 (lv_at hl 4 rfl) ?_
        refine g_if_eq (tgt := 38) hx hb dX3_isWord_26 (by decide) ⟨by decide, by decide⟩ (fun c4 => ?_) (fun c4 => ?_)
        · exact False.elim (by first | omega | contradiction)
        · refine lv_aload_n hx hb dX3_isWord_29 rfl (lv_at hl 0 rfl) ?_
          refine lv_iload hx hb dX3_isWord_30 (lv_at hl 4 rfl) ?_
          refine g_callVwi (As := [.int (iI 114)]) (rest := []) (m_X3_isSign l G g H.size hM 114 hnow hthen hpast kept htx ty th A3 F3 htold tolds hac hal hre hse hpl many cost br hsy TX ⟨by decide, by decide⟩ kTX (by omega)) hx hb hml hown hts Stab.tt hA hK hP hD hS hEs [0, 1] rfl rfl (fun _ => rfl) (q0 := 0) rfl rfl q1666 q1668 qs75 q102 q1669 hd_X3_isSign rfl rfl ⟨Nat.le_of_ble_eq_true rfl, Nat.le_of_ble_eq_true rfl⟩ rfl hl rfl (Nat.le_of_ble_eq_true rfl) ⟨Nat.le_refl _, Nat.le_refl _⟩ dX3_isWord_32 (fun rr u H locs hp hP hS => ?_)
          obtain ⟨A4, F4⟩ := u
          obtain ⟨hrr, s4, t4⟩ : rr = (iI (qz (A3 < ty ∧ TX A3 = 114))) ∧ (((A3 < ty ∧ TX A3 = 114) ∧ A4 = A3 + 1) ∨ (¬ (A3 < ty ∧ TX A3 = 114) ∧ A4 = A3)) ∧ (¬ (A3 < ty ∧ TX A3 = 114) → (F4 ↔ A3 < ty)) := hp
          subst hrr
          have hP : va_P G CL [(hM, .inr (2, (mO hnow hthen hpast kept htx ty th A4 F4 htold tolds hac hal hre hse hpl many cost br hsy))), (htx, .inl (g 0, 60, .inl (aI TX)))] H := hP
          have hD : va_D A [(hM, .inr (2, (mO hnow hthen hpast kept htx ty th A4 F4 htold tolds hac hal hre hse hpl many cost br hsy))), (htx, .inl (g 0, 60, .inl (aI TX)))] := va_Dadr hD rfl
          refine W.widen (k := 0) (n := 0) (Nat.le_refl _) (Nat.le_refl _) ?_
          refine g_ifq_eq (tgt := 42) hx hb dX3_isWord_35 (by decide) (fun c5 => ?_) (fun c5 => ?_)
          · refine lv_iconst (v := iI 0) hx hb dX3_isWord_42 rfl ?_
            exact W.zret (v := (iI 0)) hx hb hr rfl (fun t ht hW => ⟨⟨_, (A4, F4), rfl, (by have hm := mt_stop (T := TX) (n := ty) (a := at_) (w := wd 2) (j := 3) (fun i a b => by rcases (show i = 0 ∨ i = 1 ∨ i = 2 from by omega) with rfl | rfl | rfl <;> first | exact ⟨by omega, q1⟩ | exact ⟨by omega, q2⟩ | exact ⟨by omega, q3⟩ | exact ⟨by omega, q4⟩) (fun z => by have z1 := z.1; have z2 := z.2; rw [show at_ + ((3 : Nat) : Int) = A3 from by omega, show wd 2 ((3 : Nat) : Int) = 114 from by decide] at z2; omega) 4 (by decide); exact ⟨congrArg iI (qz_f (by rw [hm]; decide)).symm, by rw [hm]; omega, fun _ => (t4 (by assumption)).trans ⟨fun z => by omega, fun z => by omega⟩⟩), by rw [← ht] at hP; exact hP⟩, hS.F ht⟩) hS.2.2 dX3_isWord_43 hlk
          · have q4 : TX (at_ + 3) = wd 2 3 := (by rw [show at_ + 3 = A3 from by omega, show wd 2 3 = 114 from by decide]; omega)
            refine lv_iconst (v := iI 1) hx hb dX3_isWord_38 rfl ?_
            refine lv_goto (tgt := 43) hx hb dX3_isWord_39 (by decide) ?_
            exact W.zret (v := (iI 1)) hx hb hr rfl (fun t ht hW => ⟨⟨_, (A4, F4), rfl, (by have hm := mt_full (T := TX) (n := ty) (a := at_) (w := wd 2) 4 (fun i a b => by rcases (show i = 0 ∨ i = 1 ∨ i = 2 ∨ i = 3 from by omega) with rfl | rfl | rfl | rfl <;> first | exact ⟨by omega, q1⟩ | exact ⟨by omega, q2⟩ | exact ⟨by omega, q3⟩ | exact ⟨by omega, q4⟩); have hm : mt TX ty at_ (wd 2) 4 = 4 := hm; exact ⟨congrArg iI (qz_t hm).symm, by rw [hm]; omega, fun z => absurd hm z⟩), by rw [← ht] at hP; exact hP⟩, hS.F ht⟩) hS.2.2 dX3_isWord_43 hlk
set_option maxHeartbeats 1000000 in
set_option maxRecDepth 100000 in
theorem m_X3_isWord_3 (l : Launch) (G : va_G) (g : Nat → ClassId) (sz : Nat) (hM : Nat) (hnow : Nat) (hthen : Nat) (hpast : Nat) (kept : Int) (htx : Nat) (ty : Int) (th : Int) (at_ : Int) (fa : Prop) (htold : Nat) (tolds : Int) (hac : Nat) (hal : Nat) (hre : Nat) (hse : Nat) (hpl : Nat) (many : Int) (cost : Int) (br : Int) (hsy : Nat) (TX : Int → Int) (kTX : rgT TX) (hat : 0 ≤ at_ ∧ at_ ≤ ty ∧ ty ≤ 60) : Met l yX3_isWord (ws_ yX3_isWord cX3_isWord 5 (Option.some Jvm.ClassFile.FieldType.boolean)) ({ frames := 2, cells := 0, slots := 0, locals := 42 }) (va_Pc [.ref hM, .int (iI 99), .int (iI 97), .int (iI 114), .int (iI 116)] (wrB G CL (TY g) (fun _ => True) [(hM, .inr (2, (mO hnow hthen hpast kept htx ty th at_ fa htold tolds hac hal hre hse hpl many cost br hsy))), (htx, .inl (g 0, 60, .inl (aI TX)))] sz)) (va_Qi (fun (r : Int32) (u : Int × Prop) => r = (iI (qz (mt TX ty at_ (wd 3) 4 = 4))) ∧ (u.1 = at_ + mt TX ty at_ (wd 3) 4) ∧ (¬ mt TX ty at_ (wd 3) 4 = 4 → (u.2 ↔ u.1 < ty))) (fun (u : Int × Prop) t => va_P G CL [(hM, .inr (2, (mO hnow hthen hpast kept htx ty th u.1 u.2 htold tolds hac hal hre hse hpl many cost br hsy))), (htx, .inl (g 0, 60, .inl (aI TX)))] t.heap) (va_A [(hM, .inr (2, (mO hnow hthen hpast kept htx ty th at_ fa htold tolds hac hal hre hse hpl many cost br hsy))), (htx, .inl (g 0, 60, .inl (aI TX)))] sz)) 0 0 (va_A [(hM, .inr (2, (mO hnow hthen hpast kept htx ty th at_ fa htold tolds hac hal hre hse hpl many cost br hsy))), (htx, .inl (g 0, 60, .inl (aI TX)))] sz) := by
  refine Met.at (by decide) (Nat.le_of_ble_eq_true rfl) ?_
  intro p e s m below meth c hx hb hr hlk hml hown hnm hts hB ls hl
  have hown : s.vm.findClass RX3 = some m.cls := hown
  obtain ⟨hsz, hP, hK, hD0, hEs⟩ := hB
  subst hsz
  have hD := hD0.self (sz := s.heap.size)
  generalize hAe : va_A [(hM, .inr (2, (mO hnow hthen hpast kept htx ty th at_ fa htold tolds hac hal hre hse hpl many cost br hsy))), (htx, .inl (g 0, 60, .inl (aI TX)))] s.heap.size = A at hD ⊢
  have hA : ∀ q : Nat, s.heap.size ≤ q → A q := fun q h => by rw [← hAe]; exact Or.inr h
  have hS : va_S A s.heap s.heap [] := va_S.rf
  have hl : lv_has ls 5 [(0, .ref hM), (1, .int (iI 99)), (2, .int (iI 97)), (3, .int (iI 114)), (4, .int (iI 116))] := hl
  refine lv_aload_n hx hb dX3_isWord_0 rfl (lv_at hl 0 rfl) ?_
  refine lv_iload_n hx hb dX3_isWord_1 rfl (lv_at hl 1 rfl) ?_
  refine g_callVwi (As := [.int (iI 99)]) (rest := []) (m_X3_isSign l G g s.heap.size hM 99 hnow hthen hpast kept htx ty th at_ fa htold tolds hac hal hre hse hpl many cost br hsy TX ⟨by decide, by decide⟩ kTX (by omega)) hx hb hml hown hts Stab.tt hA hK hP hD hS hEs [0, 1] rfl rfl (fun _ => rfl) (q0 := 0) rfl rfl q1666 q1668 qs75 q102 q1669 hd_X3_isSign rfl rfl ⟨Nat.le_of_ble_eq_true rfl, Nat.le_of_ble_eq_true rfl⟩ rfl hl rfl (Nat.le_of_ble_eq_true rfl) ⟨Nat.le_refl _, Nat.le_refl _⟩ dX3_isWord_2 (fun rr u H locs hp hP hS => ?_)
  obtain ⟨A1, F1⟩ := u
  obtain ⟨hrr, s1, t1⟩ : rr = (iI (qz (at_ < ty ∧ TX at_ = 99))) ∧ (((at_ < ty ∧ TX at_ = 99) ∧ A1 = at_ + 1) ∨ (¬ (at_ < ty ∧ TX at_ = 99) ∧ A1 = at_)) ∧ (¬ (at_ < ty ∧ TX at_ = 99) → (F1 ↔ at_ < ty)) := hp
  subst hrr
  have hP : va_P G CL [(hM, .inr (2, (mO hnow hthen hpast kept htx ty th A1 F1 htold tolds hac hal hre hse hpl many cost br hsy))), (htx, .inl (g 0, 60, .inl (aI TX)))] H := hP
  have hD : va_D A [(hM, .inr (2, (mO hnow hthen hpast kept htx ty th A1 F1 htold tolds hac hal hre hse hpl many cost br hsy))), (htx, .inl (g 0, 60, .inl (aI TX)))] := va_Dadr hD rfl
  refine W.widen (k := 0) (n := 0) (Nat.le_refl _) (Nat.le_refl _) ?_
  refine g_ifq_eq (tgt := 42) hx hb dX3_isWord_5 (by decide) (fun c1 => ?_) (fun c1 => ?_)
  · refine lv_iconst (v := iI 0) hx hb dX3_isWord_42 rfl ?_
    exact W.zret (v := (iI 0)) hx hb hr rfl (fun t ht hW => ⟨⟨_, (A1, F1), rfl, (by have hm := mt_stop (T := TX) (n := ty) (a := at_) (w := wd 3) (j := 0) (fun i a b => absurd b (by omega)) (fun z => by have z1 := z.1; have z2 := z.2; rw [show at_ + ((0 : Nat) : Int) = at_ from by omega, show wd 3 ((0 : Nat) : Int) = 99 from by decide] at z2; omega) 4 (by decide); exact ⟨congrArg iI (qz_f (by rw [hm]; decide)).symm, by rw [hm]; omega, fun _ => (t1 (by assumption)).trans ⟨fun z => by omega, fun z => by omega⟩⟩), by rw [← ht] at hP; exact hP⟩, hS.F ht⟩) hS.2.2 dX3_isWord_43 hlk
  · have q1 : TX (at_ + 0) = wd 3 0 := (by rw [show at_ + 0 = at_ from by omega, show wd 3 0 = 99 from by decide]; omega)
    refine lv_aload_n hx hb dX3_isWord_8 rfl (lv_at hl 0 rfl) ?_
    refine lv_iload_n hx hb dX3_isWord_9 rfl (lv_at hl 2 rfl) ?_
    refine g_callVwi (As := [.int (iI 97)]) (rest := []) (m_X3_isSign l G g H.size hM 97 hnow hthen hpast kept htx ty th A1 F1 htold tolds hac hal hre hse hpl many cost br hsy TX ⟨by decide, by decide⟩ kTX (by omega)) hx hb hml hown hts Stab.tt hA hK hP hD hS hEs [0, 1] rfl rfl (fun _ => rfl) (q0 := 0) rfl rfl q1666 q1668 qs75 q102 q1669 hd_X3_isSign rfl rfl ⟨Nat.le_of_ble_eq_true rfl, Nat.le_of_ble_eq_true rfl⟩ rfl hl rfl (Nat.le_of_ble_eq_true rfl) ⟨Nat.le_refl _, Nat.le_refl _⟩ dX3_isWord_10 (fun rr u H locs hp hP hS => ?_)
    obtain ⟨A2, F2⟩ := u
    obtain ⟨hrr, s2, t2⟩ : rr = (iI (qz (A1 < ty ∧ TX A1 = 97))) ∧ (((A1 < ty ∧ TX A1 = 97) ∧ A2 = A1 + 1) ∨ (¬ (A1 < ty ∧ TX A1 = 97) ∧ A2 = A1)) ∧ (¬ (A1 < ty ∧ TX A1 = 97) → (F2 ↔ A1 < ty)) := hp
    subst hrr
    have hP : va_P G CL [(hM, .inr (2, (mO hnow hthen hpast kept htx ty th A2 F2 htold tolds hac hal hre hse hpl many cost br hsy))), (htx, .inl (g 0, 60, .inl (aI TX)))] H := hP
    have hD : va_D A [(hM, .inr (2, (mO hnow hthen hpast kept htx ty th A2 F2 htold tolds hac hal hre hse hpl many cost br hsy))), (htx, .inl (g 0, 60, .inl (aI TX)))] := va_Dadr hD rfl
    refine W.widen (k := 0) (n := 0) (Nat.le_refl _) (Nat.le_refl _) ?_
    refine g_ifq_eq (tgt := 42) hx hb dX3_isWord_13 (by decide) (fun c2 => ?_) (fun c2 => ?_)
    · refine lv_iconst (v := iI 0) hx hb dX3_isWord_42 rfl ?_
      exact W.zret (v := (iI 0)) hx hb hr rfl (fun t ht hW => ⟨⟨_, (A2, F2), rfl, (by have hm := mt_stop (T := TX) (n := ty) (a := at_) (w := wd 3) (j := 1) (fun i a b => by rcases (show i = 0 from by omega) with rfl <;> first | exact ⟨by omega, q1⟩ | exact ⟨by omega, q2⟩ | exact ⟨by omega, q3⟩ | exact ⟨by omega, q4⟩) (fun z => by have z1 := z.1; have z2 := z.2; rw [show at_ + ((1 : Nat) : Int) = A1 from by omega, show wd 3 ((1 : Nat) : Int) = 97 from by decide] at z2; omega) 4 (by decide); exact ⟨congrArg iI (qz_f (by rw [hm]; decide)).symm, by rw [hm]; omega, fun _ => (t2 (by assumption)).trans ⟨fun z => by omega, fun z => by omega⟩⟩), by rw [← ht] at hP; exact hP⟩, hS.F ht⟩) hS.2.2 dX3_isWord_43 hlk
    · have q2 : TX (at_ + 1) = wd 3 1 := (by rw [show at_ + 1 = A1 from by omega, show wd 3 1 = 97 from by decide]; omega)
      refine lv_aload_n hx hb dX3_isWord_16 rfl (lv_at hl 0 rfl) ?_
      refine lv_iload_n hx hb dX3_isWord_17 rfl (lv_at hl 3 rfl) ?_
      refine g_callVwi (As := [.int (iI 114)]) (rest := []) (m_X3_isSign l G g H.size hM 114 hnow hthen hpast kept htx ty th A2 F2 htold tolds hac hal hre hse hpl many cost br hsy TX ⟨by decide, by decide⟩ kTX (by omega)) hx hb hml hown hts Stab.tt hA hK hP hD hS hEs [0, 1] rfl rfl (fun _ => rfl) (q0 := 0) rfl rfl q1666 q1668 qs75 q102 q1669 hd_X3_isSign rfl rfl ⟨Nat.le_of_ble_eq_true rfl, Nat.le_of_ble_eq_true rfl⟩ rfl hl rfl (Nat.le_of_ble_eq_true rfl) ⟨Nat.le_refl _, Nat.le_refl _⟩ dX3_isWord_18 (fun rr u H locs hp hP hS => ?_)
      obtain ⟨A3, F3⟩ := u
      obtain ⟨hrr, s3, t3⟩ : rr = (iI (qz (A2 < ty ∧ TX A2 = 114))) ∧ (((A2 < ty ∧ TX A2 = 114) ∧ A3 = A2 + 1) ∨ (¬ (A2 < ty ∧ TX A2 = 114) ∧ A3 = A2)) ∧ (¬ (A2 < ty ∧ TX A2 = 114) → (F3 ↔ A2 < ty)) := hp
      subst hrr
      have hP : va_P G CL [(hM, .inr (2, (mO hnow hthen hpast kept htx ty th A3 F3 htold tolds hac hal hre hse hpl many cost br hsy))), (htx, .inl (g 0, 60, .inl (aI TX)))] H := hP
      have hD : va_D A [(hM, .inr (2, (mO hnow hthen hpast kept htx ty th A3 F3 htold tolds hac hal hre hse hpl many cost br hsy))), (htx, .inl (g 0, 60, .inl (aI TX)))] := va_Dadr hD rfl
      refine W.widen (k := 0) (n := 0) (Nat.le_refl _) (Nat.le_refl _) ?_
      refine g_ifq_eq (tgt := 42) hx hb dX3_isWord_21 (by decide) (fun c3 => ?_) (fun c3 => ?_)
      · refine lv_iconst (v := iI 0) hx hb dX3_isWord_42 rfl ?_
        exact W.zret (v := (iI 0)) hx hb hr rfl (fun t ht hW => ⟨⟨_, (A3, F3), rfl, (by have hm := mt_stop (T := TX) (n := ty) (a := at_) (w := wd 3) (j := 2) (fun i a b => by rcases (show i = 0 ∨ i = 1 from by omega) with rfl | rfl <;> first | exact ⟨by omega, q1⟩ | exact ⟨by omega, q2⟩ | exact ⟨by omega, q3⟩ | exact ⟨by omega, q4⟩) (fun z => by have z1 := z.1; have z2 := z.2; rw [show at_ + ((2 : Nat) : Int) = A2 from by omega, show wd 3 ((2 : Nat) : Int) = 114 from by decide] at z2; omega) 4 (by decide); exact ⟨congrArg iI (qz_f (by rw [hm]; decide)).symm, by rw [hm]; omega, fun _ => (t3 (by assumption)).trans ⟨fun z => by omega, fun z => by omega⟩⟩), by rw [← ht] at hP; exact hP⟩, hS.F ht⟩) hS.2.2 dX3_isWord_43 hlk
      · have q3 : TX (at_ + 2) = wd 3 2 := (by rw [show at_ + 2 = A2 from by omega, show wd 3 2 = 114 from by decide]; omega)
        refine lv_iload hx hb dX3_isWord_24 (lv_at hl 4 rfl) ?_
        refine g_if_eq (tgt := 38) hx hb dX3_isWord_26 (by decide) ⟨by decide, by decide⟩ (fun c4 => ?_) (fun c4 => ?_)
        · exact False.elim (by first | omega | contradiction)
        · refine lv_aload_n hx hb dX3_isWord_29 rfl (lv_at hl 0 rfl) ?_
          refine lv_iload hx hb dX3_isWord_30 (lv_at hl 4 rfl) ?_
          refine g_callVwi (As := [.int (iI 116)]) (rest := []) (m_X3_isSign l G g H.size hM 116 hnow hthen hpast kept htx ty th A3 F3 htold tolds hac hal hre hse hpl many cost br hsy TX ⟨by decide, by decide⟩ kTX (by omega)) hx hb hml hown hts Stab.tt hA hK hP hD hS hEs [0, 1] rfl rfl (fun _ => rfl) (q0 := 0) rfl rfl q1666 q1668 qs75 q102 q1669 hd_X3_isSign rfl rfl ⟨Nat.le_of_ble_eq_true rfl, Nat.le_of_ble_eq_true rfl⟩ rfl hl rfl (Nat.le_of_ble_eq_true rfl) ⟨Nat.le_refl _, Nat.le_refl _⟩ dX3_isWord_32 (fun rr u H locs hp hP hS => ?_)
          obtain ⟨A4, F4⟩ := u
          obtain ⟨hrr, s4, t4⟩ : rr = (iI (qz (A3 < ty ∧ TX A3 = 116))) ∧ (((A3 < ty ∧ TX A3 = 116) ∧ A4 = A3 + 1) ∨ (¬ (A3 < ty ∧ TX A3 = 116) ∧ A4 = A3)) ∧ (¬ (A3 < ty ∧ TX A3 = 116) → (F4 ↔ A3 < ty)) := hp
          subst hrr
          have hP : va_P G CL [(hM, .inr (2, (mO hnow hthen hpast kept htx ty th A4 F4 htold tolds hac hal hre hse hpl many cost br hsy))), (htx, .inl (g 0, 60, .inl (aI TX)))] H := hP
          have hD : va_D A [(hM, .inr (2, (mO hnow hthen hpast kept htx ty th A4 F4 htold tolds hac hal hre hse hpl many cost br hsy))), (htx, .inl (g 0, 60, .inl (aI TX)))] := va_Dadr hD rfl
          refine W.widen (k := 0) (n := 0) (Nat.le_refl _) (Nat.le_refl _) ?_
          refine g_ifq_eq (tgt := 42) hx hb dX3_isWord_35 (by decide) (fun c5 => ?_) (fun c5 => ?_)
          · refine lv_iconst (v := iI 0) hx hb dX3_isWord_42 rfl ?_
            exact W.zret (v := (iI 0)) hx hb hr rfl (fun t ht hW => ⟨⟨_, (A4, F4), rfl, (by have hm := mt_stop (T := TX) (n := ty) (a := at_) (w := wd 3) (j := 3) (fun i a b => by rcases (show i = 0 ∨ i = 1 ∨ i = 2 from by omega) with rfl | rfl | rfl <;> first | exact ⟨by omega, q1⟩ | exact ⟨by omega, q2⟩ | exact ⟨by omega, q3⟩ | exact ⟨by omega, q4⟩) (fun z => by have z1 := z.1; have z2 := z.2; rw [show at_ + ((3 : Nat) : Int) = A3 from by omega, show wd 3 ((3 : Nat) : Int) = 116 from by decide] at z2; omega) 4 (by decide); exact ⟨congrArg iI (qz_f (by rw [hm]; decide)).symm, by rw [hm]; omega, fun _ => (t4 (by assumption)).trans ⟨fun z => by omega, fun z => by omega⟩⟩), by rw [← ht] at hP; exact hP⟩, hS.F ht⟩) hS.2.2 dX3_isWord_43 hlk
          · have q4 : TX (at_ + 3) = wd 3 3 := (by rw [show at_ + 3 = A3 from by omega, show wd 3 3 = 116 from by decide]; omega)
            refine lv_iconst (v := iI 1) hx hb dX3_isWord_38 rfl ?_
            refine lv_goto (tgt := 43) hx hb dX3_isWord_39 (by decide) ?_
            exact W.zret (v := (iI 1)) hx hb hr rfl (fun t ht hW => ⟨⟨_, (A4, F4), rfl, (by have hm := mt_full (T := TX) (n := ty) (a := at_) (w := wd 3) 4 (fun i a b => by rcases (show i = 0 ∨ i = 1 ∨ i = 2 ∨ i = 3 from by omega) with rfl | rfl | rfl | rfl <;> first | exact ⟨by omega, q1⟩ | exact ⟨by omega, q2⟩ | exact ⟨by omega, q3⟩ | exact ⟨by omega, q4⟩); have hm : mt TX ty at_ (wd 3) 4 = 4 := hm; exact ⟨congrArg iI (qz_t hm).symm, by rw [hm]; omega, fun z => absurd hm z⟩), by rw [← ht] at hP; exact hP⟩, hS.F ht⟩) hS.2.2 dX3_isWord_43 hlk
