theorem hd_X3_isText : yX3_isText.cls = RX3 ∧ yX3_isText.cls ≠ "java/lang/invoke/MethodHandle" ∧ yX3_isText.cls ≠ "java/lang/invoke/VarHandle" ∧ (parseMethodDescriptor yX3_isText.desc).map (fun d => d.parameters.length) = some 0 := by decide +kernel
set_option maxHeartbeats 1000000 in
set_option maxRecDepth 100000 in
theorem m_X3_isText (l : Launch) (G : va_G) (g : Nat → ClassId) (sz : Nat) (hM : Nat) (hnow : Nat) (hthen : Nat) (hpast : Nat) (kept : Int) (htx : Nat) (ty : Int) (th : Int) (at_ : Int) (fa : Prop) (htold : Nat) (tolds : Int) (hac : Nat) (hal : Nat) (hre : Nat) (hse : Nat) (hpl : Nat) (many : Int) (cost : Int) (br : Int) (hsy : Nat) (TX : Int → Int) (TO : Int → Int) (kTX : rgT TX) (hty : 0 ≤ ty ∧ ty ≤ 60) : Met l yX3_isText (ws_ yX3_isText cX3_isText 2 (Option.some Jvm.ClassFile.FieldType.boolean)) ({ frames := 4, cells := 0, slots := 0, locals := 87 }) (va_Pc [.ref hM] (wrB G CL (TY g) (fun _ => True) [(hM, .inr (2, (mO hnow hthen hpast kept htx ty th at_ fa htold tolds hac hal hre hse hpl many cost br hsy))), (htx, .inl (g 0, 60, .inl (aI TX))), (htold, .inl (g 0, 63, .inl (aI TO)))] sz)) (va_Qi (fun (r : Int32) (u : Int × Prop × (Int → Int) × Int) => r = (iI (qz (txOK TX ty))) ∧ (u.1 = txE TX ty) ∧ (¬ txOK TX ty → (u.2.1 ↔ u.1 < ty)) ∧ (txOK TX ty → toP TX ty u.2.2.1 (nT TX ty + 1) ∧ u.2.2.2 = (nT TX ty : Int) + 1) ∧ (0 ≤ txE TX ty ∧ txE TX ty ≤ ty ∧ (txOK TX ty → txE TX ty = ty))) (fun (u : Int × Prop × (Int → Int) × Int) t => va_P G CL [(hM, .inr (2, (mO hnow hthen hpast kept htx ty th u.1 u.2.1 htold u.2.2.2 hac hal hre hse hpl many cost br hsy))), (htx, .inl (g 0, 60, .inl (aI TX))), (htold, .inl (g 0, 63, .inl (aI u.2.2.1)))] t.heap) (va_A [(hM, .inr (2, (mO hnow hthen hpast kept htx ty th at_ fa htold tolds hac hal hre hse hpl many cost br hsy))), (htx, .inl (g 0, 60, .inl (aI TX))), (htold, .inl (g 0, 63, .inl (aI TO)))] sz)) 0 0 (va_A [(hM, .inr (2, (mO hnow hthen hpast kept htx ty th at_ fa htold tolds hac hal hre hse hpl many cost br hsy))), (htx, .inl (g 0, 60, .inl (aI TX))), (htold, .inl (g 0, 63, .inl (aI TO)))] sz) := by
  refine Met.at (by decide) (Nat.le_of_ble_eq_true rfl) ?_
  intro p e s m below meth c hx hb hr hlk hml hown hnm hts hB ls hl
  have hown : s.vm.findClass RX3 = some m.cls := hown
  obtain ⟨hsz, hP, hK, hD0, hEs⟩ := hB
  subst hsz
  have hD := hD0.self (sz := s.heap.size)
  generalize hAe : va_A [(hM, .inr (2, (mO hnow hthen hpast kept htx ty th at_ fa htold tolds hac hal hre hse hpl many cost br hsy))), (htx, .inl (g 0, 60, .inl (aI TX))), (htold, .inl (g 0, 63, .inl (aI TO)))] s.heap.size = A at hD ⊢
  have hA : ∀ q : Nat, s.heap.size ≤ q → A q := fun q h => by rw [← hAe]; exact Or.inr h
  have hS : va_S A s.heap s.heap [] := va_S.rf
  have hl : lv_has ls 2 [(0, .ref hM)] := hl
  refine lv_aload_n hx hb dX3_isText_0 rfl (lv_at hl 0 rfl) ?_
  refine lv_iconst (v := iI 0) hx hb dX3_isText_1 rfl ?_
  refine g_put (D := G) (ci := 2) (v := .int (iI 0)) (ty := .int) (C := RX3) (T := TX3) (N := 20) (ws1 := [(hM, .inr (2, (mO hnow hthen hpast kept htx ty th 0 fa htold tolds hac hal hre hse hpl many cost br hsy))), (htx, .inl (g 0, 60, .inl (aI TX))), (htold, .inl (g 0, 63, .inl (aI TO)))]) hx hb hts in_X3 tyX3 tyX3_ok nmX3 hown hK hP hD hS 0 rfl rfl 7 (by decide) (hts _ q1445) (fun _ h9 => h9) rfl (by decide +kernel) (rfl) (rfl) (Nat.le_of_ble_eq_true rfl) dX3_isText_2 rfl (fun H locs hP hS => ?_)
  have hD : va_D A [(hM, .inr (2, (mO hnow hthen hpast kept htx ty th 0 fa htold tolds hac hal hre hse hpl many cost br hsy))), (htx, .inl (g 0, 60, .inl (aI TX))), (htold, .inl (g 0, 63, .inl (aI TO)))] := va_Dadr hD rfl
  refine lv_aload_n hx hb dX3_isText_5 rfl (lv_at hl 0 rfl) ?_
  refine lv_iconst (v := iI 0) hx hb dX3_isText_6 rfl ?_
  refine g_put (D := G) (ci := 2) (v := .int (iI 0)) (ty := .int) (C := RX3) (T := TX3) (N := 20) (ws1 := [(hM, .inr (2, (mO hnow hthen hpast kept htx ty th 0 fa htold 0 hac hal hre hse hpl many cost br hsy))), (htx, .inl (g 0, 60, .inl (aI TX))), (htold, .inl (g 0, 63, .inl (aI TO)))]) hx hb hts in_X3 tyX3 tyX3_ok nmX3 hown hK hP hD hS 0 rfl rfl 10 (by decide) (hts _ q1448) (fun _ h9 => h9) rfl (by decide +kernel) (rfl) (rfl) (Nat.le_of_ble_eq_true rfl) dX3_isText_7 rfl (fun H locs hP hS => ?_)
  have hD : va_D A [(hM, .inr (2, (mO hnow hthen hpast kept htx ty th 0 fa htold 0 hac hal hre hse hpl many cost br hsy))), (htx, .inl (g 0, 60, .inl (aI TX))), (htold, .inl (g 0, 63, .inl (aI TO)))] := va_Dadr hD rfl
  refine lv_aload_n hx hb dX3_isText_10 rfl (lv_at hl 0 rfl) ?_
  refine lv_iconst (v := iI 0) hx hb dX3_isText_11 rfl ?_
  refine g_eq (b := qz False) (qz_f id).symm ?_
  refine g_put (D := G) (ci := 2) (v := .int (iI (qz False))) (ty := .boolean) (C := RX3) (T := TX3) (N := 20) (ws1 := [(hM, .inr (2, (mO hnow hthen hpast kept htx ty th 0 False htold 0 hac hal hre hse hpl many cost br hsy))), (htx, .inl (g 0, 60, .inl (aI TX))), (htold, .inl (g 0, 63, .inl (aI TO)))]) hx hb hts in_X3 tyX3 tyX3_ok nmX3 hown hK hP hD hS 0 rfl rfl 8 (by decide) (hts _ q1446) (fun _ h9 => h9) rfl (by decide +kernel) (narrow_z _) (fits_z _) (Nat.le_of_ble_eq_true rfl) dX3_isText_12 rfl (fun H locs hP hS => ?_)
  have hD : va_D A [(hM, .inr (2, (mO hnow hthen hpast kept htx ty th 0 False htold 0 hac hal hre hse hpl many cost br hsy))), (htx, .inl (g 0, 60, .inl (aI TX))), (htold, .inl (g 0, 63, .inl (aI TO)))] := va_Dadr hD rfl
  refine lv_iconst (v := iI 1) hx hb dX3_isText_15 rfl ?_
  refine lv_istore_n (lv' := [(1, .int (iI 1)), (0, .ref hM)]) hx hb dX3_isText_16 rfl hl (by decide) rfl (fun ls hl => ?_)
  have lp17 : ∀ (n : Nat) (t_ : Nat) (mP : Prop) (aP : Int) (fP : Prop) (O2 : Int → Int), (txI TX ty t_ mP aP) → (toP TX ty O2 t_) → 61 - t_ = n → ∀ (H : Heap) (locs : List Loc), va_P G CL [(hM, .inr (2, (mO hnow hthen hpast kept htx ty th aP fP htold (t_ : Int) hac hal hre hse hpl many cost br hsy))), (htx, .inl (g 0, 60, .inl (aI TX))), (htold, .inl (g 0, 63, .inl (aI O2)))] H → va_D A [(hM, .inr (2, (mO hnow hthen hpast kept htx ty th aP fP htold (t_ : Int) hac hal hre hse hpl many cost br hsy))), (htx, .inl (g 0, 60, .inl (aI TX))), (htold, .inl (g 0, 63, .inl (aI O2)))] → va_S A s.heap H locs → ∀ ls : Array Slot, lv_has ls 2 [(0, .ref hM), (1, .int (iI (qz mP)))] → W p l e ({ frames := 4, cells := 0, slots := 0, locals := 87 }) s m ([.ref hM] : List Value).toArray below meth c H locs 0 0 (MQ below (va_Qi (fun (r : Int32) (u : Int × Prop × (Int → Int) × Int) => r = (iI (qz (txOK TX ty))) ∧ (u.1 = txE TX ty) ∧ (¬ txOK TX ty → (u.2.1 ↔ u.1 < ty)) ∧ (txOK TX ty → toP TX ty u.2.2.1 (nT TX ty + 1) ∧ u.2.2.2 = (nT TX ty : Int) + 1) ∧ (0 ≤ txE TX ty ∧ txE TX ty ≤ ty ∧ (txOK TX ty → txE TX ty = ty))) (fun (u : Int × Prop × (Int → Int) × Int) t => va_P G CL [(hM, .inr (2, (mO hnow hthen hpast kept htx ty th u.1 u.2.1 htold u.2.2.2 hac hal hre hse hpl many cost br hsy))), (htx, .inl (g 0, 60, .inl (aI TX))), (htold, .inl (g 0, 63, .inl (aI u.2.2.1)))] t.heap) A) ([.ref hM] : List Value).toArray s 0 0 A) (F0 m 17 ls []) := by
    intro n
    refine Nat.strongRecOn n ?_
    intro n ih17 t_ mP aP fP O2 ti tp hmu17 H locs hP hD hS ls hl
    have tr := txI_rng hty ti
    refine lv_iload_n hx hb dX3_isText_17 rfl (lv_at hl 1 rfl) ?_
    refine g_ifq_eq (tgt := 68) hx hb dX3_isText_18 (by decide) (fun c1 => ?_) (fun c1 => ?_)
    · obtain ⟨r_, r1, r2, r3, r4, r5⟩ := ti.2 (by assumption)
      obtain ⟨q1, q2, q3⟩ := tx_end r2 r3 r4 r5
      refine lv_aload_n hx hb dX3_isText_68 rfl (lv_at hl 0 rfl) ?_
      refine lv_aload_n hx hb dX3_isText_69 rfl (lv_at hl 0 rfl) ?_
      refine va_get (D := G) (ci := 2) (v := .int (iI aP)) (C := RX3) (T := TX3) (N := 20) hx hb hts in_X3 hown hK hP 0 rfl rfl 7 (by decide) (hts _ q1445) (fun _ h9 => h9) rfl dX3_isText_70 ?_
      refine lv_aload_n hx hb dX3_isText_73 rfl (lv_at hl 0 rfl) ?_
      refine va_get (D := G) (ci := 2) (v := .int (iI ty)) (C := RX3) (T := TX3) (N := 20) hx hb hts in_X3 hown hK hP 0 rfl rfl 5 (by decide) (hts _ q1443) (fun _ h9 => h9) rfl dX3_isText_74 ?_
      have hJ2 : ∀ ls : Array Slot, lv_has ls 2 [(0, .ref hM), (1, .int (iI (qz mP)))] → W p l e ({ frames := 4, cells := 0, slots := 0, locals := 87 }) s m ([.ref hM] : List Value).toArray below meth c H locs 0 0 (MQ below (va_Qi (fun (r : Int32) (u : Int × Prop × (Int → Int) × Int) => r = (iI (qz (txOK TX ty))) ∧ (u.1 = txE TX ty) ∧ (¬ txOK TX ty → (u.2.1 ↔ u.1 < ty)) ∧ (txOK TX ty → toP TX ty u.2.2.1 (nT TX ty + 1) ∧ u.2.2.2 = (nT TX ty : Int) + 1) ∧ (0 ≤ txE TX ty ∧ txE TX ty ≤ ty ∧ (txOK TX ty → txE TX ty = ty))) (fun (u : Int × Prop × (Int → Int) × Int) t => va_P G CL [(hM, .inr (2, (mO hnow hthen hpast kept htx ty th u.1 u.2.1 htold u.2.2.2 hac hal hre hse hpl many cost br hsy))), (htx, .inl (g 0, 60, .inl (aI TX))), (htold, .inl (g 0, 63, .inl (aI u.2.2.1)))] t.heap) A) ([.ref hM] : List Value).toArray s 0 0 A) (F0 m 85 ls [.int (iI (qz (aP < ty))), .ref hM]) := by
        intro ls hl
        refine g_put (D := G) (ci := 2) (v := .int (iI (qz (aP < ty)))) (ty := .boolean) (C := RX3) (T := TX3) (N := 20) (ws1 := [(hM, .inr (2, (mO hnow hthen hpast kept htx ty th aP (aP < ty) htold (t_ : Int) hac hal hre hse hpl many cost br hsy))), (htx, .inl (g 0, 60, .inl (aI TX))), (htold, .inl (g 0, 63, .inl (aI O2)))]) hx hb hts in_X3 tyX3 tyX3_ok nmX3 hown hK hP hD hS 0 rfl rfl 8 (by decide) (hts _ q1446) (fun _ h9 => h9) rfl (by decide +kernel) (narrow_z _) (fits_z _) (Nat.le_of_ble_eq_true rfl) dX3_isText_85 rfl (fun H locs hP hS => ?_)
        have hD : va_D A [(hM, .inr (2, (mO hnow hthen hpast kept htx ty th aP (aP < ty) htold (t_ : Int) hac hal hre hse hpl many cost br hsy))), (htx, .inl (g 0, 60, .inl (aI TX))), (htold, .inl (g 0, 63, .inl (aI O2)))] := va_Dadr hD rfl
        refine lv_aload_n hx hb dX3_isText_88 rfl (lv_at hl 0 rfl) ?_
        refine va_get (D := G) (ci := 2) (v := .int (iI aP)) (C := RX3) (T := TX3) (N := 20) hx hb hts in_X3 hown hK hP 0 rfl rfl 7 (by decide) (hts _ q1445) (fun _ h9 => h9) rfl dX3_isText_89 ?_
        refine lv_aload_n hx hb dX3_isText_92 rfl (lv_at hl 0 rfl) ?_
        refine va_get (D := G) (ci := 2) (v := .int (iI ty)) (C := RX3) (T := TX3) (N := 20) hx hb hts in_X3 hown hK hP 0 rfl rfl 5 (by decide) (hts _ q1443) (fun _ h9 => h9) rfl dX3_isText_93 ?_
        have hJ3 : ∀ ls : Array Slot, lv_has ls 2 [(0, .ref hM), (1, .int (iI (qz mP)))] → W p l e ({ frames := 4, cells := 0, slots := 0, locals := 87 }) s m ([.ref hM] : List Value).toArray below meth c H locs 0 0 (MQ below (va_Qi (fun (r : Int32) (u : Int × Prop × (Int → Int) × Int) => r = (iI (qz (txOK TX ty))) ∧ (u.1 = txE TX ty) ∧ (¬ txOK TX ty → (u.2.1 ↔ u.1 < ty)) ∧ (txOK TX ty → toP TX ty u.2.2.1 (nT TX ty + 1) ∧ u.2.2.2 = (nT TX ty : Int) + 1) ∧ (0 ≤ txE TX ty ∧ txE TX ty ≤ ty ∧ (txOK TX ty → txE TX ty = ty))) (fun (u : Int × Prop × (Int → Int) × Int) t => va_P G CL [(hM, .inr (2, (mO hnow hthen hpast kept htx ty th u.1 u.2.1 htold u.2.2.2 hac hal hre hse hpl many cost br hsy))), (htx, .inl (g 0, 60, .inl (aI TX))), (htold, .inl (g 0, 63, .inl (aI u.2.2.1)))] t.heap) A) ([.ref hM] : List Value).toArray s 0 0 A) (F0 m 104 ls [.int (iI (qz (aP = ty)))]) := by
          intro ls hl
          exact W.zret (v := (iI (qz (aP = ty)))) hx hb hr (narrow_z _) (fun t ht hW => ⟨⟨_, (aP, aP < ty, O2, (t_ : Int)), rfl, ⟨congrArg iI (qz_congr q1.symm), q2.symm, fun _ => Iff.rfl, fun _ => ⟨by rw [q3, ← r1]; exact tp, by rw [q3, r1]; rfl⟩, by rw [q2]; exact ⟨by omega, by omega, fun z => q1.mp z⟩⟩, by rw [← ht] at hP; exact hP⟩, hS.F ht⟩) hS.2.2 dX3_isText_104 hlk
        refine g_icmp_ne (tgt := 103) hx hb dX3_isText_96 (by decide) ⟨⟨by omega, by omega⟩, ⟨by omega, by omega⟩⟩ (fun c4 => ?_) (fun c4 => ?_)
        · refine lv_iconst (v := iI 0) hx hb dX3_isText_103 rfl ?_
          refine g_eq (b := qz (aP = ty)) (qz_f (fun xx => (c4 xx))).symm ?_
          exact hJ3 ls (lv_sub hl [0, 1] rfl)
        · refine lv_iconst (v := iI 1) hx hb dX3_isText_99 rfl ?_
          refine lv_goto (tgt := 104) hx hb dX3_isText_100 (by decide) ?_
          refine g_eq (b := qz (aP = ty)) (qz_t c4).symm ?_
          exact hJ3 ls (lv_sub hl [0, 1] rfl)
      refine g_icmp_ge (tgt := 84) hx hb dX3_isText_77 (by decide) ⟨⟨by omega, by omega⟩, ⟨by omega, by omega⟩⟩ (fun c5 => ?_) (fun c5 => ?_)
      · refine lv_iconst (v := iI 0) hx hb dX3_isText_84 rfl ?_
        refine g_eq (b := qz (aP < ty)) (qz_f (fun xx => (c5 xx))).symm ?_
        exact hJ2 ls (lv_sub hl [0, 1] rfl)
      · refine lv_iconst (v := iI 1) hx hb dX3_isText_80 rfl ?_
        refine lv_goto (tgt := 85) hx hb dX3_isText_81 (by decide) ?_
        refine g_eq (b := qz (aP < ty)) (qz_t c5).symm ?_
        exact hJ2 ls (lv_sub hl [0, 1] rfl)
    · obtain ⟨t1, t2⟩ := ti.1 (by assumption)
      refine lv_aload_n hx hb dX3_isText_21 rfl (lv_at hl 0 rfl) ?_
      refine g_callVwi (As := []) (rest := []) (m_X3_isOrder l G g H.size hM hnow hthen hpast kept htx ty th aP fP htold (t_ : Int) hac hal hre hse hpl many cost br hsy TX O2 kTX (by omega) (by have := tr.1 (by assumption); omega)) hx hb hml hown hts Stab.tt hA hK hP hD hS hEs [0, 1, 2] rfl rfl (fun _ => rfl) (q0 := 0) rfl rfl q1654 q1656 qs72 q102 q1657 hd_X3_isOrder rfl rfl ⟨Nat.le_of_ble_eq_true rfl, Nat.le_of_ble_eq_true rfl⟩ rfl hl rfl (Nat.le_of_ble_eq_true rfl) ⟨Nat.le_refl _, Nat.le_refl _⟩ dX3_isText_22 (fun rr u H locs hp hP hS => ?_)
      obtain ⟨A1, F1, O3⟩ := u
      obtain ⟨hrr, or1, or2, or3, or4⟩ : rr = (iI (qz (orOK TX ty aP))) ∧ (A1 = orA TX ty aP) ∧ (¬ orOK TX ty aP → (F1 ↔ A1 < ty)) ∧ (orOK TX ty aP → O3 (3 * (t_ : Int)) = TX aP - 65 ∧ O3 (3 * (t_ : Int) + 1) = TX (aP + 1) - 65 ∧ O3 (3 * (t_ : Int) + 2) = orW TX ty aP) ∧ (∀ j9 : Int, 0 ≤ j9 → j9 < 3 * (t_ : Int) → O3 j9 = O2 j9) := hp
      subst hrr
      have hP : va_P G CL [(hM, .inr (2, (mO hnow hthen hpast kept htx ty th A1 F1 htold (t_ : Int) hac hal hre hse hpl many cost br hsy))), (htx, .inl (g 0, 60, .inl (aI TX))), (htold, .inl (g 0, 63, .inl (aI O3)))] H := hP
      have hD : va_D A [(hM, .inr (2, (mO hnow hthen hpast kept htx ty th A1 F1 htold (t_ : Int) hac hal hre hse hpl many cost br hsy))), (htx, .inl (g 0, 60, .inl (aI TX))), (htold, .inl (g 0, 63, .inl (aI O3)))] := va_Dadr hD rfl
      refine W.widen (k := 0) (n := 0) (Nat.le_refl _) (Nat.le_refl _) ?_
      have oar := orA_rng (T := TX) (n := ty) (a := aP) (by omega)
      refine g_ifq_ne (tgt := 30) hx hb dX3_isText_25 (by decide) (fun c6 => ?_) (fun c6 => ?_)
      · have ok8 : orOK TX ty aP := by assumption
        have ok9 : orOK TX ty (txA TX ty t_) := by rw [← t1]; exact ok8
        refine lv_aload_n hx hb dX3_isText_30 rfl (lv_at hl 0 rfl) ?_
        refine lv_dup hx hb dX3_isText_31 rfl ?_
        refine va_get (D := G) (ci := 2) (v := .int (iI (t_ : Int))) (C := RX3) (T := TX3) (N := 20) hx hb hts in_X3 hown hK hP 0 rfl rfl 10 (by decide) (hts _ q1448) (fun _ h9 => h9) rfl dX3_isText_32 ?_
        refine lv_iconst (v := iI 1) hx hb dX3_isText_35 rfl ?_
        refine g_iadd hx hb dX3_isText_36 ?_
        refine g_put (D := G) (ci := 2) (v := .int (iI ((t_ : Int) + 1))) (ty := .int) (C := RX3) (T := TX3) (N := 20) (ws1 := [(hM, .inr (2, (mO hnow hthen hpast kept htx ty th A1 F1 htold ((t_ : Int) + 1) hac hal hre hse hpl many cost br hsy))), (htx, .inl (g 0, 60, .inl (aI TX))), (htold, .inl (g 0, 63, .inl (aI O3)))]) hx hb hts in_X3 tyX3 tyX3_ok nmX3 hown hK hP hD hS 0 rfl rfl 10 (by decide) (hts _ q1448) (fun _ h9 => h9) rfl (by decide +kernel) (rfl) (rfl) (Nat.le_of_ble_eq_true rfl) dX3_isText_37 rfl (fun H locs hP hS => ?_)
        have hD : va_D A [(hM, .inr (2, (mO hnow hthen hpast kept htx ty th A1 F1 htold ((t_ : Int) + 1) hac hal hre hse hpl many cost br hsy))), (htx, .inl (g 0, 60, .inl (aI TX))), (htold, .inl (g 0, 63, .inl (aI O3)))] := va_Dadr hD rfl
        refine lv_aload_n hx hb dX3_isText_40 rfl (lv_at hl 0 rfl) ?_
        refine lv_bipush (v := iI 59) hx hb dX3_isText_41 rfl ?_
        refine g_callV (As := [.int (iI 59)]) (rest := []) (m_X3_isAt l G g hM 59 (mO hnow hthen hpast kept htx ty th A1 F1 htold ((t_ : Int) + 1) hac hal hre hse hpl many cost br hsy) htx ty A1 TX rfl rfl rfl ⟨by decide, by decide⟩ kTX (by omega)) hx hb hml hown hts Stab.tt hK hP hS hEs [0, 1] rfl (q0 := 0) rfl rfl q1670 q1672 qs76 q102 q1673 hd_X3_isAt rfl rfl ⟨Nat.le_of_ble_eq_true rfl, Nat.le_of_ble_eq_true rfl⟩ rfl hl rfl (Nat.le_of_ble_eq_true rfl) ⟨Nat.le_refl _, Nat.le_refl _⟩ dX3_isText_43 ?_
        refine lv_istore_n (lv' := [(1, .int (iI (qz (A1 < ty ∧ TX A1 = 59)))), (0, .ref hM)]) hx hb dX3_isText_46 rfl hl (by decide) rfl (fun ls hl => ?_)
        refine lv_aload_n hx hb dX3_isText_47 rfl (lv_at hl 1 rfl) ?_
        refine lv_dup hx hb dX3_isText_48 rfl ?_
        refine va_get (D := G) (ci := 2) (v := .int (iI A1)) (C := RX3) (T := TX3) (N := 20) hx hb hts in_X3 hown hK hP 0 rfl rfl 7 (by decide) (hts _ q1445) (fun _ h9 => h9) rfl dX3_isText_49 ?_
        refine lv_iload_n hx hb dX3_isText_52 rfl (lv_at hl 0 rfl) ?_
        have hJ7 : ∀ ls : Array Slot, lv_has ls 2 [(0, .ref hM), (1, .int (iI (qz (A1 < ty ∧ TX A1 = 59))))] → W p l e ({ frames := 4, cells := 0, slots := 0, locals := 87 }) s m ([.ref hM] : List Value).toArray below meth c H locs 0 0 (MQ below (va_Qi (fun (r : Int32) (u : Int × Prop × (Int → Int) × Int) => r = (iI (qz (txOK TX ty))) ∧ (u.1 = txE TX ty) ∧ (¬ txOK TX ty → (u.2.1 ↔ u.1 < ty)) ∧ (txOK TX ty → toP TX ty u.2.2.1 (nT TX ty + 1) ∧ u.2.2.2 = (nT TX ty : Int) + 1) ∧ (0 ≤ txE TX ty ∧ txE TX ty ≤ ty ∧ (txOK TX ty → txE TX ty = ty))) (fun (u : Int × Prop × (Int → Int) × Int) t => va_P G CL [(hM, .inr (2, (mO hnow hthen hpast kept htx ty th u.1 u.2.1 htold u.2.2.2 hac hal hre hse hpl many cost br hsy))), (htx, .inl (g 0, 60, .inl (aI TX))), (htold, .inl (g 0, 63, .inl (aI u.2.2.1)))] t.heap) A) ([.ref hM] : List Value).toArray s 0 0 A) (F0 m 61 ls [.int (iI (qz (A1 < ty ∧ TX A1 = 59))), .int (iI A1), .ref hM]) := by
          intro ls hl
          refine g_iadd hx hb dX3_isText_61 ?_
          refine g_put (D := G) (ci := 2) (v := .int (iI (A1 + (qz (A1 < ty ∧ TX A1 = 59))))) (ty := .int) (C := RX3) (T := TX3) (N := 20) (ws1 := [(hM, .inr (2, (mO hnow hthen hpast kept htx ty th (A1 + (qz (A1 < ty ∧ TX A1 = 59))) F1 htold ((t_ : Int) + 1) hac hal hre hse hpl many cost br hsy))), (htx, .inl (g 0, 60, .inl (aI TX))), (htold, .inl (g 0, 63, .inl (aI O3)))]) hx hb hts in_X3 tyX3 tyX3_ok nmX3 hown hK hP hD hS 0 rfl rfl 7 (by decide) (hts _ q1445) (fun _ h9 => h9) rfl (by decide +kernel) (rfl) (rfl) (Nat.le_of_ble_eq_true rfl) dX3_isText_62 rfl (fun H locs hP hS => ?_)
          have hD : va_D A [(hM, .inr (2, (mO hnow hthen hpast kept htx ty th (A1 + (qz (A1 < ty ∧ TX A1 = 59))) F1 htold ((t_ : Int) + 1) hac hal hre hse hpl many cost br hsy))), (htx, .inl (g 0, 60, .inl (aI TX))), (htold, .inl (g 0, 63, .inl (aI O3)))] := va_Dadr hD rfl
          refine lv_goto (tgt := 17) hx hb dX3_isText_65 (by decide) ?_
          exact ih17 _ (by omega) (t_ + 1) (A1 < ty ∧ TX A1 = 59) (A1 + (qz (A1 < ty ∧ TX A1 = 59))) F1 O3 (by rw [show A1 = orA TX ty (txA TX ty t_) from by rw [or1, t1]]; exact txI_next t2 ok9) (toP_add (toP_keep tp (fun j a b => or4 j a b)) (by rw [← t1]; exact (or3 ok8).1) (by rw [← t1]; exact (or3 ok8).2.1) (by rw [← t1]; exact (or3 ok8).2.2)) rfl _ _ hP (va_Dadr hD rfl) hS ls (lv_sub hl [0, 1] rfl)
        refine g_ifq_eq (tgt := 60) hx hb dX3_isText_53 (by decide) (fun c8 => ?_) (fun c8 => ?_)
        · refine lv_iconst (v := iI 0) hx hb dX3_isText_60 rfl ?_
          refine g_eq (b := qz (A1 < ty ∧ TX A1 = 59)) (qz_f (fun xx => (c8 xx))).symm ?_
          exact hJ7 ls (lv_sub hl [1, 0] rfl)
        · refine lv_iconst (v := iI 1) hx hb dX3_isText_56 rfl ?_
          refine lv_goto (tgt := 61) hx hb dX3_isText_57 (by decide) ?_
          refine g_eq (b := qz (A1 < ty ∧ TX A1 = 59)) (qz_t c8).symm ?_
          exact hJ7 ls (lv_sub hl [1, 0] rfl)
      · refine lv_iconst (v := iI 0) hx hb dX3_isText_28 rfl ?_
        exact W.zret (v := (iI 0)) hx hb hr rfl (fun t ht hW => ⟨⟨_, (A1, F1, O3, (t_ : Int)), rfl, (by have hn : ¬ orOK TX ty (txA TX ty t_) := (by rw [← t1]; assumption); have o1 := tx_fail t2 hn; have e9 : txE TX ty = A1 := (by rw [o1.2, or1, t1]); exact ⟨congrArg iI (qz_f o1.1).symm, e9.symm, fun _ => or2 (by assumption), fun z => absurd z o1.1, by rw [e9]; exact ⟨by omega, by omega, fun z => absurd z o1.1⟩⟩), by rw [← ht] at hP; exact hP⟩, hS.F ht⟩) hS.2.2 dX3_isText_29 hlk
  exact lp17 _ 0 True 0 False TO (txI_0) (toP_0) rfl H locs hP (va_Dadr hD rfl) hS ls (by rw [show qz True = 1 from qz_T]; exact lv_sub hl [1, 0] rfl)
theorem hd_X3_firstError : yX3_firstError.cls = RX3 ∧ yX3_firstError.cls ≠ "java/lang/invoke/MethodHandle" ∧ yX3_firstError.cls ≠ "java/lang/invoke/VarHandle" ∧ (parseMethodDescriptor yX3_firstError.desc).map (fun d => d.parameters.length) = some 0 := by decide +kernel
set_option maxHeartbeats 1000000 in
set_option maxRecDepth 100000 in
theorem m_X3_firstError (l : Launch) (G : va_G) (g : Nat → ClassId) (sz : Nat) (hM : Nat) (hnow : Nat) (hthen : Nat) (hpast : Nat) (kept : Int) (htx : Nat) (ty : Int) (th : Int) (at_ : Int) (fa : Prop) (htold : Nat) (tolds : Int) (hac : Nat) (hal : Nat) (hre : Nat) (hse : Nat) (hpl : Nat) (many : Int) (cost : Int) (br : Int) (hsy : Nat) (TX : Int → Int) (TO : Int → Int) (kTX : rgT TX) (hty : 0 ≤ ty ∧ ty ≤ 60) : Met l yX3_firstError (ws_ yX3_firstError cX3_firstError 2 (Option.some Jvm.ClassFile.FieldType.int)) ({ frames := 5, cells := 0, slots := 0, locals := 108 }) (va_Pc [.ref hM] (wrB G CL (TY g) (fun _ => True) [(hM, .inr (2, (mO hnow hthen hpast kept htx ty th at_ fa htold tolds hac hal hre hse hpl many cost br hsy))), (htx, .inl (g 0, 60, .inl (aI TX))), (htold, .inl (g 0, 63, .inl (aI TO)))] sz)) (va_Qi (fun (r : Int32) (u : Int × Prop × (Int → Int) × Int) => r = (iI (txE TX ty))) (fun (u : Int × Prop × (Int → Int) × Int) t => va_P G CL [(hM, .inr (2, (mO hnow hthen hpast kept htx ty 0 u.1 u.2.1 htold u.2.2.2 hac hal hre hse hpl many cost br hsy))), (htx, .inl (g 0, 60, .inl (aI TX))), (htold, .inl (g 0, 63, .inl (aI u.2.2.1)))] t.heap) (va_A [(hM, .inr (2, (mO hnow hthen hpast kept htx ty th at_ fa htold tolds hac hal hre hse hpl many cost br hsy))), (htx, .inl (g 0, 60, .inl (aI TX))), (htold, .inl (g 0, 63, .inl (aI TO)))] sz)) 0 0 (va_A [(hM, .inr (2, (mO hnow hthen hpast kept htx ty th at_ fa htold tolds hac hal hre hse hpl many cost br hsy))), (htx, .inl (g 0, 60, .inl (aI TX))), (htold, .inl (g 0, 63, .inl (aI TO)))] sz) := by
  refine Met.at (by decide) (Nat.le_of_ble_eq_true rfl) ?_
  intro p e s m below meth c hx hb hr hlk hml hown hnm hts hB ls hl
  have hown : s.vm.findClass RX3 = some m.cls := hown
  obtain ⟨hsz, hP, hK, hD0, hEs⟩ := hB
  subst hsz
  have hD := hD0.self (sz := s.heap.size)
  generalize hAe : va_A [(hM, .inr (2, (mO hnow hthen hpast kept htx ty th at_ fa htold tolds hac hal hre hse hpl many cost br hsy))), (htx, .inl (g 0, 60, .inl (aI TX))), (htold, .inl (g 0, 63, .inl (aI TO)))] s.heap.size = A at hD ⊢
  have hA : ∀ q : Nat, s.heap.size ≤ q → A q := fun q h => by rw [← hAe]; exact Or.inr h
  have hS : va_S A s.heap s.heap [] := va_S.rf
  have hl : lv_has ls 2 [(0, .ref hM)] := hl
  refine lv_aload_n hx hb dX3_firstError_0 rfl (lv_at hl 0 rfl) ?_
  refine lv_iconst (v := iI 0) hx hb dX3_firstError_1 rfl ?_
  refine g_put (D := G) (ci := 2) (v := .int (iI 0)) (ty := .int) (C := RX3) (T := TX3) (N := 20) (ws1 := [(hM, .inr (2, (mO hnow hthen hpast kept htx ty 0 at_ fa htold tolds hac hal hre hse hpl many cost br hsy))), (htx, .inl (g 0, 60, .inl (aI TX))), (htold, .inl (g 0, 63, .inl (aI TO)))]) hx hb hts in_X3 tyX3 tyX3_ok nmX3 hown hK hP hD hS 0 rfl rfl 6 (by decide) (hts _ q1444) (fun _ h9 => h9) rfl (by decide +kernel) (rfl) (rfl) (Nat.le_of_ble_eq_true rfl) dX3_firstError_2 rfl (fun H locs hP hS => ?_)
  have hD : va_D A [(hM, .inr (2, (mO hnow hthen hpast kept htx ty 0 at_ fa htold tolds hac hal hre hse hpl many cost br hsy))), (htx, .inl (g 0, 60, .inl (aI TX))), (htold, .inl (g 0, 63, .inl (aI TO)))] := va_Dadr hD rfl
  refine lv_aload_n hx hb dX3_firstError_5 rfl (lv_at hl 0 rfl) ?_
  refine g_callVwi (As := []) (rest := []) (m_X3_isText l G g H.size hM hnow hthen hpast kept htx ty 0 at_ fa htold tolds hac hal hre hse hpl many cost br hsy TX TO kTX hty) hx hb hml hown hts Stab.tt hA hK hP hD hS hEs [0, 1, 2] rfl rfl (fun _ => rfl) (q0 := 0) rfl rfl q1650 q1652 qs71 q102 q1653 hd_X3_isText rfl rfl ⟨Nat.le_of_ble_eq_true rfl, Nat.le_of_ble_eq_true rfl⟩ rfl hl rfl (Nat.le_of_ble_eq_true rfl) ⟨Nat.le_refl _, Nat.le_refl _⟩ dX3_firstError_6 (fun rr u H locs hp hP hS => ?_)
  obtain ⟨A1, F1, O1, D1⟩ := u
  obtain ⟨hrr, tx1, tx2, tx3, tx4⟩ : rr = (iI (qz (txOK TX ty))) ∧ (A1 = txE TX ty) ∧ (¬ txOK TX ty → (F1 ↔ A1 < ty)) ∧ (txOK TX ty → toP TX ty O1 (nT TX ty + 1) ∧ D1 = (nT TX ty : Int) + 1) ∧ (0 ≤ txE TX ty ∧ txE TX ty ≤ ty ∧ (txOK TX ty → txE TX ty = ty)) := hp
  subst hrr
  have hP : va_P G CL [(hM, .inr (2, (mO hnow hthen hpast kept htx ty 0 A1 F1 htold D1 hac hal hre hse hpl many cost br hsy))), (htx, .inl (g 0, 60, .inl (aI TX))), (htold, .inl (g 0, 63, .inl (aI O1)))] H := hP
  have hD : va_D A [(hM, .inr (2, (mO hnow hthen hpast kept htx ty 0 A1 F1 htold D1 hac hal hre hse hpl many cost br hsy))), (htx, .inl (g 0, 60, .inl (aI TX))), (htold, .inl (g 0, 63, .inl (aI O1)))] := va_Dadr hD rfl
  refine W.widen (k := 0) (n := 0) (Nat.le_refl _) (Nat.le_refl _) ?_
  refine lv_istore_n (lv' := [(1, .int (iI (qz (txOK TX ty)))), (0, .ref hM)]) hx hb dX3_firstError_9 rfl hl (by decide) rfl (fun ls hl => ?_)
  refine lv_iload_n hx hb dX3_firstError_10 rfl (lv_at hl 0 rfl) ?_
  have hJ1 : ∀ ls : Array Slot, lv_has ls 2 [(0, .ref hM), (1, .int (iI (qz (txOK TX ty))))] → W p l e ({ frames := 5, cells := 0, slots := 0, locals := 108 }) s m ([.ref hM] : List Value).toArray below meth c H locs 0 0 (MQ below (va_Qi (fun (r : Int32) (u : Int × Prop × (Int → Int) × Int) => r = (iI (txE TX ty))) (fun (u : Int × Prop × (Int → Int) × Int) t => va_P G CL [(hM, .inr (2, (mO hnow hthen hpast kept htx ty 0 u.1 u.2.1 htold u.2.2.2 hac hal hre hse hpl many cost br hsy))), (htx, .inl (g 0, 60, .inl (aI TX))), (htold, .inl (g 0, 63, .inl (aI u.2.2.1)))] t.heap) A) ([.ref hM] : List Value).toArray s 0 0 A) (F0 m 32 ls [.int (iI (zi (txOK TX ty) ty (zi F1 A1 ty)))]) := by
    intro ls hl
    exact W.iret (v := (iI (zi (txOK TX ty) ty (zi F1 A1 ty)))) hx hb hr (fun t ht hW => ⟨⟨_, (A1, F1, O1, D1), rfl, congrArg iI (fe_eq tx1 tx2 tx4), by rw [← ht] at hP; exact hP⟩, hS.F ht⟩) hS.2.2 dX3_firstError_32 hlk
  refine g_ifq_ne (tgt := 28) hx hb dX3_firstError_11 (by decide) (fun c2 => ?_) (fun c2 => ?_)
  · refine lv_aload_n hx hb dX3_firstError_28 rfl (lv_at hl 1 rfl) ?_
    refine va_get (D := G) (ci := 2) (v := .int (iI ty)) (C := RX3) (T := TX3) (N := 20) hx hb hts in_X3 hown hK hP 0 rfl rfl 5 (by decide) (hts _ q1443) (fun _ h9 => h9) rfl dX3_firstError_29 ?_
    refine g_eq (b := zi (txOK TX ty) ty (zi F1 A1 ty)) ((zi_t c2)).symm ?_
    exact hJ1 ls (lv_sub hl [1, 0] rfl)
  · refine lv_aload_n hx hb dX3_firstError_14 rfl (lv_at hl 1 rfl) ?_
    refine va_get (D := G) (ci := 2) (v := .int (iI (qz F1))) (C := RX3) (T := TX3) (N := 20) hx hb hts in_X3 hown hK hP 0 rfl rfl 8 (by decide) (hts _ q1446) (fun _ h9 => h9) rfl dX3_firstError_15 ?_
    refine g_ifq_eq (tgt := 28) hx hb dX3_firstError_18 (by decide) (fun c3 => ?_) (fun c3 => ?_)
    · refine lv_aload_n hx hb dX3_firstError_28 rfl (lv_at hl 1 rfl) ?_
      refine va_get (D := G) (ci := 2) (v := .int (iI ty)) (C := RX3) (T := TX3) (N := 20) hx hb hts in_X3 hown hK hP 0 rfl rfl 5 (by decide) (hts _ q1443) (fun _ h9 => h9) rfl dX3_firstError_29 ?_
      refine g_eq (b := zi (txOK TX ty) ty (zi F1 A1 ty)) (((zi_f c2).trans (zi_f c3))).symm ?_
      exact hJ1 ls (lv_sub hl [1, 0] rfl)
    · refine lv_aload_n hx hb dX3_firstError_21 rfl (lv_at hl 1 rfl) ?_
      refine va_get (D := G) (ci := 2) (v := .int (iI A1)) (C := RX3) (T := TX3) (N := 20) hx hb hts in_X3 hown hK hP 0 rfl rfl 7 (by decide) (hts _ q1445) (fun _ h9 => h9) rfl dX3_firstError_22 ?_
      refine lv_goto (tgt := 32) hx hb dX3_firstError_25 (by decide) ?_
      refine g_eq (b := zi (txOK TX ty) ty (zi F1 A1 ty)) (((zi_f c2).trans (zi_t c3))).symm ?_
      exact hJ1 ls (lv_sub hl [1, 0] rfl)
theorem hd_X3_does : yX3_does.cls = RX3 ∧ yX3_does.cls ≠ "java/lang/invoke/MethodHandle" ∧ yX3_does.cls ≠ "java/lang/invoke/VarHandle" ∧ (parseMethodDescriptor yX3_does.desc).map (fun d => d.parameters.length) = some 1 := by decide +kernel
set_option maxHeartbeats 1000000 in
set_option maxRecDepth 100000 in
theorem m_X3_does (l : Launch) (G : va_G) (g : Nat → ClassId) (sz : Nat) (hM : Nat) (k_ : Int) (hnow : Nat) (hthen : Nat) (hpast : Nat) (kept : Int) (htx : Nat) (ty : Int) (th : Int) (at_ : Int) (fa : Prop) (htold : Nat) (tolds : Int) (hac : Nat) (hal : Nat) (hre : Nat) (hse : Nat) (hpl : Nat) (many : Int) (cost : Int) (br : Int) (hsy : Nat) (S : Int → Int) (TO : Int → Int) (RE : Int → Int) (SE : Int → Prop) (PL : Int → Int) (r_k_ : r32 k_) (kS : rgS S) (kW : rgW S) (hk20 : 0 ≤ k_ ∧ k_ ≤ 20) (hd1 : 0 ≤ TO (3 * k_) ∧ TO (3 * k_) ≤ 5) (hd2 : 0 ≤ TO (3 * k_ + 1) ∧ TO (3 * k_ + 1) ≤ 5) (hd3 : -1 ≤ TO (3 * k_ + 2) ∧ TO (3 * k_ + 2) ≤ 3) (hdn : ¬ TO (3 * k_) = TO (3 * k_ + 1)) : Met l yX3_does (ws_ yX3_does cX3_does 5 (Option.some Jvm.ClassFile.FieldType.boolean)) ({ frames := 7, cells := 0, slots := 0, locals := 167 }) (va_Pc [.ref hM, .int (iI k_)] (wrB G CL (TY g) (fun _ => True) [(hM, .inr (2, (mO hnow hthen hpast kept htx ty th at_ fa htold tolds hac hal hre hse hpl many cost br hsy))), (hnow, .inl (g 0, 253, .inl (aI S))), (htold, .inl (g 0, 63, .inl (aI TO))), (hac, .inl (g 0, 4, .inl (aI dx))), (hal, .inl (g 0, 4, .inl (aI dy))), (hre, .inl (g 0, 192, .inl (aI RE))), (hse, .inl (g 1, 192, .inl (aP SE))), (hpl, .inl (g 0, 192, .inl (aI PL)))] sz)) (va_Qi (fun (r : Int32) (u : (Int → Int) × (Int → Prop) × (Int → Int) × Int × Int × Int) => r = (iI (qz (doOK S (TO (3 * k_)) (TO (3 * k_ + 1)) (TO (3 * k_ + 2)))))) (fun (u : (Int → Int) × (Int → Prop) × (Int → Int) × Int × Int × Int) t => va_P G CL [(hM, .inr (2, (mO hnow hthen hpast kept htx ty th at_ fa htold tolds hac hal hre hse hpl u.2.2.2.1 u.2.2.2.2.1 u.2.2.2.2.2 hsy))), (hnow, .inl (g 0, 253, .inl (aI (doS S (TO (3 * k_)) (TO (3 * k_ + 1)) (TO (3 * k_ + 2)))))), (htold, .inl (g 0, 63, .inl (aI TO))), (hac, .inl (g 0, 4, .inl (aI dx))), (hal, .inl (g 0, 4, .inl (aI dy))), (hre, .inl (g 0, 192, .inl (aI u.1))), (hse, .inl (g 1, 192, .inl (aP u.2.1))), (hpl, .inl (g 0, 192, .inl (aI u.2.2.1)))] t.heap) (va_A [(hM, .inr (2, (mO hnow hthen hpast kept htx ty th at_ fa htold tolds hac hal hre hse hpl many cost br hsy))), (hnow, .inl (g 0, 253, .inl (aI S))), (htold, .inl (g 0, 63, .inl (aI TO))), (hac, .inl (g 0, 4, .inl (aI dx))), (hal, .inl (g 0, 4, .inl (aI dy))), (hre, .inl (g 0, 192, .inl (aI RE))), (hse, .inl (g 1, 192, .inl (aP SE))), (hpl, .inl (g 0, 192, .inl (aI PL)))] sz)) 0 0 (va_A [(hM, .inr (2, (mO hnow hthen hpast kept htx ty th at_ fa htold tolds hac hal hre hse hpl many cost br hsy))), (hnow, .inl (g 0, 253, .inl (aI S))), (htold, .inl (g 0, 63, .inl (aI TO))), (hac, .inl (g 0, 4, .inl (aI dx))), (hal, .inl (g 0, 4, .inl (aI dy))), (hre, .inl (g 0, 192, .inl (aI RE))), (hse, .inl (g 1, 192, .inl (aP SE))), (hpl, .inl (g 0, 192, .inl (aI PL)))] sz) := by
  refine Met.at (by decide) (Nat.le_of_ble_eq_true rfl) ?_
  intro p e s m below meth c hx hb hr hlk hml hown hnm hts hB ls hl
  have hown : s.vm.findClass RX3 = some m.cls := hown
  obtain ⟨hsz, hP, hK, hD0, hEs⟩ := hB
  subst hsz
  have hD := hD0.self (sz := s.heap.size)
  generalize hAe : va_A [(hM, .inr (2, (mO hnow hthen hpast kept htx ty th at_ fa htold tolds hac hal hre hse hpl many cost br hsy))), (hnow, .inl (g 0, 253, .inl (aI S))), (htold, .inl (g 0, 63, .inl (aI TO))), (hac, .inl (g 0, 4, .inl (aI dx))), (hal, .inl (g 0, 4, .inl (aI dy))), (hre, .inl (g 0, 192, .inl (aI RE))), (hse, .inl (g 1, 192, .inl (aP SE))), (hpl, .inl (g 0, 192, .inl (aI PL)))] s.heap.size = A at hD ⊢
  have hA : ∀ q : Nat, s.heap.size ≤ q → A q := fun q h => by rw [← hAe]; exact Or.inr h
  have hS : va_S A s.heap s.heap [] := va_S.rf
  have hl : lv_has ls 5 [(0, .ref hM), (1, .int (iI k_))] := hl
  have hbw := brW_rng kW hd1 hd2
  refine lv_aload_n hx hb dX3_does_0 rfl (lv_at hl 0 rfl) ?_
  refine va_get (D := G) (ci := 2) (v := .ref htold) (C := RX3) (T := TX3) (N := 20) hx hb hts in_X3 hown hK hP 0 rfl rfl 9 (by decide) (hts _ q1447) (fun _ h9 => h9) rfl dX3_does_1 ?_
  refine lv_iconst (v := iI 3) hx hb dX3_does_4 rfl ?_
  refine lv_iload_n hx hb dX3_does_5 rfl (lv_at hl 1 rfl) ?_
  refine g_imul hx hb dX3_does_6 ?_
  refine g_iald hx hb hK hP 2 0 rfl rfl (i := 3 * k_) (⟨by omega, by omega⟩) (by decide) dX3_does_7 ?_
  refine lv_istore_n (lv' := [(2, .int (iI (TO (3 * k_)))), (0, .ref hM), (1, .int (iI k_))]) hx hb dX3_does_8 rfl hl (by decide) rfl (fun ls hl => ?_)
  refine lv_aload_n hx hb dX3_does_9 rfl (lv_at hl 1 rfl) ?_
  refine va_get (D := G) (ci := 2) (v := .ref htold) (C := RX3) (T := TX3) (N := 20) hx hb hts in_X3 hown hK hP 0 rfl rfl 9 (by decide) (hts _ q1447) (fun _ h9 => h9) rfl dX3_does_10 ?_
  refine lv_iconst (v := iI 3) hx hb dX3_does_13 rfl ?_
  refine lv_iload_n hx hb dX3_does_14 rfl (lv_at hl 2 rfl) ?_
  refine g_imul hx hb dX3_does_15 ?_
  refine lv_iconst (v := iI 1) hx hb dX3_does_16 rfl ?_
  refine g_iadd hx hb dX3_does_17 ?_
  refine g_iald hx hb hK hP 2 0 rfl rfl (i := (3 * k_) + 1) (⟨by omega, by omega⟩) (by decide) dX3_does_18 ?_
  refine lv_istore_n (lv' := [(3, .int (iI (TO ((3 * k_) + 1)))), (2, .int (iI (TO (3 * k_)))), (0, .ref hM), (1, .int (iI k_))]) hx hb dX3_does_19 rfl hl (by decide) rfl (fun ls hl => ?_)
  refine lv_aload_n hx hb dX3_does_20 rfl (lv_at hl 2 rfl) ?_
  refine lv_iload_n hx hb dX3_does_21 rfl (lv_at hl 1 rfl) ?_
  refine lv_iload_n hx hb dX3_does_22 rfl (lv_at hl 0 rfl) ?_
  refine lv_iconst (v := iI 1) hx hb dX3_does_23 rfl ?_
  refine W.eq (g2 := F0 m 24 ls [.int (iI (qz True)), .int (iI (TO ((3 * k_) + 1))), .int (iI (TO (3 * k_))), .ref hM]) (by simp only [qz_T, qz_F]) ?_
  refine g_callV (As := [.int (iI (TO (3 * k_))), .int (iI (TO ((3 * k_) + 1))), .int (iI (qz True))]) (rest := []) (m_X3_may l G g hM (TO (3 * k_)) (TO ((3 * k_) + 1)) True (mO hnow hthen hpast kept htx ty th at_ fa htold tolds hac hal hre hse hpl many cost br hsy) hnow S rfl (⟨by omega, by omega⟩) (⟨by omega, by omega⟩) kS) hx hb hml hown hts Stab.tt hK hP hS hEs [0, 1] rfl (q0 := 0) rfl rfl q1556 q1558 qs58 q102 q1559 hd_X3_may rfl rfl ⟨Nat.le_of_ble_eq_true rfl, Nat.le_of_ble_eq_true rfl⟩ rfl hl rfl (Nat.le_of_ble_eq_true rfl) ⟨Nat.le_refl _, Nat.le_refl _⟩ dX3_does_24 ?_
  have w1 := may_rng S (TO (3 * k_)) (TO ((3 * k_) + 1)) True
  refine g_if_eq (tgt := 32) hx hb dX3_does_27 (by decide) ⟨by omega, by omega⟩ (fun c2 => ?_) (fun c2 => ?_)
  · have th2 := may_i (by assumption)
    refine lv_aload_n hx hb dX3_does_32 rfl (lv_at hl 2 rfl) ?_
    refine va_get (D := G) (ci := 2) (v := .ref htold) (C := RX3) (T := TX3) (N := 20) hx hb hts in_X3 hown hK hP 0 rfl rfl 9 (by decide) (hts _ q1447) (fun _ h9 => h9) rfl dX3_does_33 ?_
    refine lv_iconst (v := iI 3) hx hb dX3_does_36 rfl ?_
    refine lv_iload_n hx hb dX3_does_37 rfl (lv_at hl 3 rfl) ?_
    refine g_imul hx hb dX3_does_38 ?_
    refine lv_iconst (v := iI 2) hx hb dX3_does_39 rfl ?_
    refine g_iadd hx hb dX3_does_40 ?_
    refine g_iald hx hb hK hP 2 0 rfl rfl (i := (3 * k_) + 2) (⟨by omega, by omega⟩) (by decide) dX3_does_41 ?_
    refine lv_iconst (v := iI (-1)) hx hb dX3_does_42 rfl ?_
    refine g_icmp_eq (tgt := 65) hx hb dX3_does_43 (by decide) ⟨⟨by omega, by omega⟩, ⟨by decide, by decide⟩⟩ (fun c3 => ?_) (fun c3 => ?_)
    · refine lv_aload_n hx hb dX3_does_65 rfl (lv_at hl 2 rfl) ?_
      refine lv_aload_n hx hb dX3_does_66 rfl (lv_at hl 2 rfl) ?_
      refine va_get (D := G) (ci := 2) (v := .ref hnow) (C := RX3) (T := TX3) (N := 20) hx hb hts in_X3 hown hK hP 0 rfl rfl 0 (by decide) (hts _ q1438) (fun _ h9 => h9) rfl dX3_does_67 ?_
      refine lv_iload_n hx hb dX3_does_70 rfl (lv_at hl 1 rfl) ?_
      refine lv_iload_n hx hb dX3_does_71 rfl (lv_at hl 0 rfl) ?_
      refine g_callVwi (As := [.ref hnow, .int (iI (TO (3 * k_))), .int (iI (TO ((3 * k_) + 1)))]) (rest := []) (m_X3_isWay l G g s.heap.size hM hnow (TO (3 * k_)) (TO ((3 * k_) + 1)) hnow hthen hpast kept htx ty th at_ fa htold tolds hac hal hre hse hpl many cost br hsy S RE SE PL (⟨by omega, by omega⟩) (⟨by omega, by omega⟩) kS kW hd1 hd2) hx hb hml hown hts Stab.tt hA hK hP hD hS hEs [0, 1, 3, 4, 5, 6, 7] rfl rfl (fun _ => rfl) (q0 := 0) rfl rfl q1578 q1580 qs60 q102 q1581 hd_X3_isWay rfl rfl ⟨Nat.le_of_ble_eq_true rfl, Nat.le_of_ble_eq_true rfl⟩ rfl hl rfl (Nat.le_of_ble_eq_true rfl) ⟨Nat.le_refl _, Nat.le_refl _⟩ dX3_does_72 (fun rr u H locs hp hP hS => ?_)
      obtain ⟨RA, EA, PA⟩ := u
      obtain ⟨hrr, wpl, dsx⟩ : rr = (iI (qz (¬ wB S (brW S (TO (3 * k_)) (TO ((3 * k_) + 1))) (TO (3 * k_)) (TO ((3 * k_) + 1)) = -1))) ∧ (∀ j9 : Nat, (j9 : Int) < wL S (brW S (TO (3 * k_)) (TO ((3 * k_) + 1))) (TO (3 * k_)) (TO ((3 * k_) + 1)) → PA (j9 : Int) = wP S (brW S (TO (3 * k_)) (TO ((3 * k_) + 1))) (TO (3 * k_)) (TO ((3 * k_) + 1)) j9) ∧ (isDist S (brW S (TO (3 * k_)) (TO ((3 * k_) + 1))) (TO ((3 * k_) + 1)) (dsF S (brW S (TO (3 * k_)) (TO ((3 * k_) + 1))) (TO ((3 * k_) + 1)))) := hp
      subst hrr
      have hP : va_P G CL [(hM, .inr (2, (mO hnow hthen hpast kept htx ty th at_ fa htold tolds hac hal hre hse hpl (wL S (brW S (TO (3 * k_)) (TO ((3 * k_) + 1))) (TO (3 * k_)) (TO ((3 * k_) + 1))) (wC S (brW S (TO (3 * k_)) (TO ((3 * k_) + 1))) (TO (3 * k_)) (TO ((3 * k_) + 1))) (brW S (TO (3 * k_)) (TO ((3 * k_) + 1))) hsy))), (hnow, .inl (g 0, 253, .inl (aI S))), (htold, .inl (g 0, 63, .inl (aI TO))), (hac, .inl (g 0, 4, .inl (aI dx))), (hal, .inl (g 0, 4, .inl (aI dy))), (hre, .inl (g 0, 192, .inl (aI RA))), (hse, .inl (g 1, 192, .inl (aP EA))), (hpl, .inl (g 0, 192, .inl (aI PA)))] H := hP
      have hD : va_D A [(hM, .inr (2, (mO hnow hthen hpast kept htx ty th at_ fa htold tolds hac hal hre hse hpl (wL S (brW S (TO (3 * k_)) (TO ((3 * k_) + 1))) (TO (3 * k_)) (TO ((3 * k_) + 1))) (wC S (brW S (TO (3 * k_)) (TO ((3 * k_) + 1))) (TO (3 * k_)) (TO ((3 * k_) + 1))) (brW S (TO (3 * k_)) (TO ((3 * k_) + 1))) hsy))), (hnow, .inl (g 0, 253, .inl (aI S))), (htold, .inl (g 0, 63, .inl (aI TO))), (hac, .inl (g 0, 4, .inl (aI dx))), (hal, .inl (g 0, 4, .inl (aI dy))), (hre, .inl (g 0, 192, .inl (aI RA))), (hse, .inl (g 1, 192, .inl (aP EA))), (hpl, .inl (g 0, 192, .inl (aI PA)))] := va_Dadr hD rfl
      refine W.widen (k := 0) (n := 0) (Nat.le_refl _) (Nat.le_refl _) ?_
      refine lv_istore (lv' := [(4, .int (iI (qz (¬ wB S (brW S (TO (3 * k_)) (TO ((3 * k_) + 1))) (TO (3 * k_)) (TO ((3 * k_) + 1)) = -1)))), (3, .int (iI (TO ((3 * k_) + 1)))), (2, .int (iI (TO (3 * k_)))), (0, .ref hM), (1, .int (iI k_))]) hx hb dX3_does_75 hl (by decide) rfl (fun ls hl => ?_)
      refine lv_iload hx hb dX3_does_77 (lv_at hl 0 rfl) ?_
      refine g_ifq_eq (tgt := 91) hx hb dX3_does_79 (by decide) (fun c4 => ?_) (fun c4 => ?_)
      · refine lv_iload hx hb dX3_does_91 (lv_at hl 0 rfl) ?_
        exact W.zret (v := (iI (qz (¬ wB S (brW S (TO (3 * k_)) (TO ((3 * k_) + 1))) (TO (3 * k_)) (TO ((3 * k_) + 1)) = -1)))) hx hb hr (narrow_z _) (fun t ht hW => ⟨⟨_, (RA, EA, PA, wL S (brW S (TO (3 * k_)) (TO ((3 * k_) + 1))) (TO (3 * k_)) (TO ((3 * k_) + 1)), wC S (brW S (TO (3 * k_)) (TO ((3 * k_) + 1))) (TO (3 * k_)) (TO ((3 * k_) + 1)), brW S (TO (3 * k_)) (TO ((3 * k_) + 1))), rfl, congrArg iI (qz_congr ⟨fun z => ⟨th2, Or.inr z⟩, fun z => z.2.resolve_left (fun nn => nn (by assumption))⟩), by rw [← ht] at hP; exact (by rw [show doS S (TO (3 * k_)) (TO (3 * k_ + 1)) (TO (3 * k_ + 2)) = S from (zf_t th2).trans ((zf_t (by assumption)).trans (zf_f (by assumption)))]; exact hP)⟩, hS.F ht⟩) hS.2.2 dX3_does_93 hlk
      · refine lv_aload_n hx hb dX3_does_82 rfl (lv_at hl 3 rfl) ?_
        refine lv_aload_n hx hb dX3_does_83 rfl (lv_at hl 3 rfl) ?_
        refine va_get (D := G) (ci := 2) (v := .ref hnow) (C := RX3) (T := TX3) (N := 20) hx hb hts in_X3 hown hK hP 0 rfl rfl 0 (by decide) (hts _ q1438) (fun _ h9 => h9) rfl dX3_does_84 ?_
        refine g_callVwi (As := [.ref hnow]) (rest := []) (m_X3_digs l G g H.size hM hnow hnow hthen hpast kept htx ty th at_ fa htold tolds hac hal hre hse hpl (wL S (brW S (TO (3 * k_)) (TO ((3 * k_) + 1))) (TO (3 * k_)) (TO ((3 * k_) + 1))) (wC S (brW S (TO (3 * k_)) (TO ((3 * k_) + 1))) (TO (3 * k_)) (TO ((3 * k_) + 1))) (brW S (TO (3 * k_)) (TO ((3 * k_) + 1))) hsy S PA kS (hbw) (wL_rng S _ _ _) (okPL_way hbw dsx wpl)) hx hb hml hown hts Stab.tt hA hK hP hD hS hEs [0, 1, 7] rfl rfl (fun _ => rfl) (q0 := 0) rfl rfl q1614 q1616 qs68 q102 q1617 hd_X3_digs rfl rfl ⟨Nat.le_of_ble_eq_true rfl, Nat.le_of_ble_eq_true rfl⟩ rfl hl rfl (Nat.le_of_ble_eq_true rfl) ⟨Nat.le_refl _, Nat.le_refl _⟩ dX3_does_87 (fun rr u H locs hp hP hS => ?_)
        have hrr : rr = (iI (dgON PA (brW S (TO (3 * k_)) (TO ((3 * k_) + 1))) S (wL S (brW S (TO (3 * k_)) (TO ((3 * k_) + 1))) (TO (3 * k_)) (TO ((3 * k_) + 1))).toNat)) := hp
        subst hrr
        have hP : va_P G CL [(hM, .inr (2, (mO hnow hthen hpast kept htx ty th at_ fa htold tolds hac hal hre hse hpl (wL S (brW S (TO (3 * k_)) (TO ((3 * k_) + 1))) (TO (3 * k_)) (TO ((3 * k_) + 1))) (wC S (brW S (TO (3 * k_)) (TO ((3 * k_) + 1))) (TO (3 * k_)) (TO ((3 * k_) + 1))) (brW S (TO (3 * k_)) (TO ((3 * k_) + 1))) hsy))), (hnow, .inl (g 0, 253, .inl (aI (dgO PA (brW S (TO (3 * k_)) (TO ((3 * k_) + 1))) S (wL S (brW S (TO (3 * k_)) (TO ((3 * k_) + 1))) (TO (3 * k_)) (TO ((3 * k_) + 1))).toNat)))), (htold, .inl (g 0, 63, .inl (aI TO))), (hac, .inl (g 0, 4, .inl (aI dx))), (hal, .inl (g 0, 4, .inl (aI dy))), (hre, .inl (g 0, 192, .inl (aI RA))), (hse, .inl (g 1, 192, .inl (aP EA))), (hpl, .inl (g 0, 192, .inl (aI PA)))] H := hP
        have hD : va_D A [(hM, .inr (2, (mO hnow hthen hpast kept htx ty th at_ fa htold tolds hac hal hre hse hpl (wL S (brW S (TO (3 * k_)) (TO ((3 * k_) + 1))) (TO (3 * k_)) (TO ((3 * k_) + 1))) (wC S (brW S (TO (3 * k_)) (TO ((3 * k_) + 1))) (TO (3 * k_)) (TO ((3 * k_) + 1))) (brW S (TO (3 * k_)) (TO ((3 * k_) + 1))) hsy))), (hnow, .inl (g 0, 253, .inl (aI (dgO PA (brW S (TO (3 * k_)) (TO ((3 * k_) + 1))) S (wL S (brW S (TO (3 * k_)) (TO ((3 * k_) + 1))) (TO (3 * k_)) (TO ((3 * k_) + 1))).toNat)))), (htold, .inl (g 0, 63, .inl (aI TO))), (hac, .inl (g 0, 4, .inl (aI dx))), (hal, .inl (g 0, 4, .inl (aI dy))), (hre, .inl (g 0, 192, .inl (aI RA))), (hse, .inl (g 1, 192, .inl (aP EA))), (hpl, .inl (g 0, 192, .inl (aI PA)))] := va_Dadr hD rfl
        refine W.widen (k := 0) (n := 0) (Nat.le_refl _) (Nat.le_refl _) ?_
        refine lv_pop hx hb dX3_does_90 rfl ?_
        refine lv_iload hx hb dX3_does_91 (lv_at hl 0 rfl) ?_
        exact W.zret (v := (iI (qz (¬ wB S (brW S (TO (3 * k_)) (TO ((3 * k_) + 1))) (TO (3 * k_)) (TO ((3 * k_) + 1)) = -1)))) hx hb hr (narrow_z _) (fun t ht hW => ⟨⟨_, (RA, EA, PA, (wL S (brW S (TO (3 * k_)) (TO ((3 * k_) + 1))) (TO (3 * k_)) (TO ((3 * k_) + 1))), (wC S (brW S (TO (3 * k_)) (TO ((3 * k_) + 1))) (TO (3 * k_)) (TO ((3 * k_) + 1))), (brW S (TO (3 * k_)) (TO ((3 * k_) + 1)))), rfl, congrArg iI (qz_congr ⟨fun z => ⟨th2, Or.inr z⟩, fun z => z.2.resolve_left (fun nn => nn (by assumption))⟩), by rw [← ht] at hP; exact (by rw [show doS S (TO (3 * k_)) (TO (3 * k_ + 1)) (TO (3 * k_ + 2)) = dgO PA (brW S (TO (3 * k_)) (TO (3 * k_ + 1))) S (wL S (brW S (TO (3 * k_)) (TO (3 * k_ + 1))) (TO (3 * k_)) (TO (3 * k_ + 1))).toNat from (zf_t th2).trans ((zf_t (by assumption)).trans ((zf_t (by assumption)).trans (dg_way wpl).1.symm))]; exact hP)⟩, hS.F ht⟩) hS.2.2 dX3_does_93 hlk
    · refine lv_aload_n hx hb dX3_does_46 rfl (lv_at hl 2 rfl) ?_
      refine lv_iload_n hx hb dX3_does_47 rfl (lv_at hl 1 rfl) ?_
      refine lv_iload_n hx hb dX3_does_48 rfl (lv_at hl 0 rfl) ?_
      refine lv_aload_n hx hb dX3_does_49 rfl (lv_at hl 2 rfl) ?_
      refine va_get (D := G) (ci := 2) (v := .ref htold) (C := RX3) (T := TX3) (N := 20) hx hb hts in_X3 hown hK hP 0 rfl rfl 9 (by decide) (hts _ q1447) (fun _ h9 => h9) rfl dX3_does_50 ?_
      refine lv_iconst (v := iI 3) hx hb dX3_does_53 rfl ?_
      refine lv_iload_n hx hb dX3_does_54 rfl (lv_at hl 3 rfl) ?_
      refine g_imul hx hb dX3_does_55 ?_
      refine lv_iconst (v := iI 2) hx hb dX3_does_56 rfl ?_
      refine g_iadd hx hb dX3_does_57 ?_
      refine g_iald hx hb hK hP 2 0 rfl rfl (i := (3 * k_) + 2) (⟨by omega, by omega⟩) (by decide) dX3_does_58 ?_
      refine g_callVwi (As := [.int (iI (TO (3 * k_))), .int (iI (TO ((3 * k_) + 1))), .int (iI (TO ((3 * k_) + 2)))]) (rest := []) (m_X3_walking l G g s.heap.size hM (TO (3 * k_)) (TO ((3 * k_) + 1)) (TO ((3 * k_) + 2)) hnow hthen hpast kept htx ty th at_ fa htold tolds hac hal hre hse hpl many cost br hsy S (⟨by omega, by omega⟩) (⟨by omega, by omega⟩) (⟨by omega, by omega⟩) kS hd1 hd2) hx hb hml hown hts Stab.tt hA hK hP hD hS hEs [0, 1] rfl rfl (fun _ => rfl) (q0 := 0) rfl rfl q1560 q1562 qs59 q102 q1563 hd_X3_walking rfl rfl ⟨Nat.le_of_ble_eq_true rfl, Nat.le_of_ble_eq_true rfl⟩ rfl hl rfl (Nat.le_of_ble_eq_true rfl) ⟨Nat.le_refl _, Nat.le_refl _⟩ dX3_does_59 (fun rr u H locs hp hP hS => ?_)
      have hrr : rr = (iI (S (216 + 6 * (TO (3 * k_)) + (TO ((3 * k_) + 1))))) := hp
      subst hrr
      have hP : va_P G CL [(hM, .inr (2, (mO hnow hthen hpast kept htx ty th at_ fa htold tolds hac hal hre hse hpl many cost br hsy))), (hnow, .inl (g 0, 253, .inl (aI (wkS S (TO (3 * k_)) (TO ((3 * k_) + 1)) (TO ((3 * k_) + 2)))))), (htold, .inl (g 0, 63, .inl (aI TO))), (hac, .inl (g 0, 4, .inl (aI dx))), (hal, .inl (g 0, 4, .inl (aI dy))), (hre, .inl (g 0, 192, .inl (aI RE))), (hse, .inl (g 1, 192, .inl (aP SE))), (hpl, .inl (g 0, 192, .inl (aI PL)))] H := hP
      have hD : va_D A [(hM, .inr (2, (mO hnow hthen hpast kept htx ty th at_ fa htold tolds hac hal hre hse hpl many cost br hsy))), (hnow, .inl (g 0, 253, .inl (aI (wkS S (TO (3 * k_)) (TO ((3 * k_) + 1)) (TO ((3 * k_) + 2)))))), (htold, .inl (g 0, 63, .inl (aI TO))), (hac, .inl (g 0, 4, .inl (aI dx))), (hal, .inl (g 0, 4, .inl (aI dy))), (hre, .inl (g 0, 192, .inl (aI RE))), (hse, .inl (g 1, 192, .inl (aP SE))), (hpl, .inl (g 0, 192, .inl (aI PL)))] := va_Dadr hD rfl
      refine W.widen (k := 0) (n := 0) (Nat.le_refl _) (Nat.le_refl _) ?_
      refine lv_pop hx hb dX3_does_62 rfl ?_
      refine lv_iconst (v := iI 1) hx hb dX3_does_63 rfl ?_
      exact W.zret (v := (iI 1)) hx hb hr rfl (fun t ht hW => ⟨⟨_, (RE, SE, PL, many, cost, br), rfl, congrArg iI (qz_t ⟨th2, Or.inl (by assumption)⟩).symm, by rw [← ht] at hP; exact (by rw [show doS S (TO (3 * k_)) (TO (3 * k_ + 1)) (TO (3 * k_ + 2)) = wkS S (TO (3 * k_)) (TO (3 * k_ + 1)) (TO (3 * k_ + 2)) from (zf_t th2).trans (zf_f (by assumption))]; exact hP)⟩, hS.F ht⟩) hS.2.2 dX3_does_64 hlk
  · have nth : ¬ (isTh S (TO (3 * k_)) ∧ isTh S (TO (3 * k_ + 1))) := fun z => absurd (may_0 (F := True) z.1 z.2 hdn trivial) (by assumption)
    refine lv_iconst (v := iI 0) hx hb dX3_does_30 rfl ?_
    exact W.zret (v := (iI 0)) hx hb hr rfl (fun t ht hW => ⟨⟨_, (RE, SE, PL, many, cost, br), rfl, congrArg iI (qz_f (fun z => nth z.1)).symm, by rw [← ht] at hP; exact (by rw [show doS S (TO (3 * k_)) (TO (3 * k_ + 1)) (TO (3 * k_ + 2)) = S from zf_f nth]; exact hP)⟩, hS.F ht⟩) hS.2.2 dX3_does_31 hlk
theorem hd_X3_run : yX3_run.cls = RX3 ∧ yX3_run.cls ≠ "java/lang/invoke/MethodHandle" ∧ yX3_run.cls ≠ "java/lang/invoke/VarHandle" ∧ (parseMethodDescriptor yX3_run.desc).map (fun d => d.parameters.length) = some 0 := by decide +kernel
set_option maxHeartbeats 1000000 in
set_option maxRecDepth 100000 in
theorem m_X3_run_1 (l : Launch) (G : va_G) (g : Nat → ClassId) (sz : Nat) (hM : Nat) (hnow : Nat) (hthen : Nat) (hpast : Nat) (kept : Int) (htx : Nat) (ty : Int) (th : Int) (at_ : Int) (fa : Prop) (htold : Nat) (tolds : Int) (hac : Nat) (hal : Nat) (hre : Nat) (hse : Nat) (hpl : Nat) (many : Int) (cost : Int) (br : Int) (hsy : Nat) (TX : Int → Int) (TO : Int → Int) (kTX : rgT TX) (hty : 0 ≤ ty ∧ ty ≤ 60) (hno : ¬ txOK TX ty) : Met l yX3_run (ws_ yX3_run cX3_run 2 (Option.some Jvm.ClassFile.FieldType.int)) ({ frames := 5, cells := 0, slots := 0, locals := 108 }) (va_Pc [.ref hM] (wrB G CL (TY g) (fun _ => True) [(hM, .inr (2, (mO hnow hthen hpast kept htx ty th at_ fa htold tolds hac hal hre hse hpl many cost br hsy))), (htx, .inl (g 0, 60, .inl (aI TX))), (htold, .inl (g 0, 63, .inl (aI TO)))] sz)) (va_Qi (fun (r : Int32) (u : Int × Prop × (Int → Int) × Int) => r = (iI 0)) (fun (u : Int × Prop × (Int → Int) × Int) t => va_P G CL [(hM, .inr (2, (mO hnow hthen hpast kept htx ty 1 u.1 u.2.1 htold u.2.2.2 hac hal hre hse hpl many cost br hsy))), (htx, .inl (g 0, 60, .inl (aI TX))), (htold, .inl (g 0, 63, .inl (aI u.2.2.1)))] t.heap) (va_A [(hM, .inr (2, (mO hnow hthen hpast kept htx ty th at_ fa htold tolds hac hal hre hse hpl many cost br hsy))), (htx, .inl (g 0, 60, .inl (aI TX))), (htold, .inl (g 0, 63, .inl (aI TO)))] sz)) 0 0 (va_A [(hM, .inr (2, (mO hnow hthen hpast kept htx ty th at_ fa htold tolds hac hal hre hse hpl many cost br hsy))), (htx, .inl (g 0, 60, .inl (aI TX))), (htold, .inl (g 0, 63, .inl (aI TO)))] sz) := by
  refine Met.at (by decide) (Nat.le_of_ble_eq_true rfl) ?_
  intro p e s m below meth c hx hb hr hlk hml hown hnm hts hB ls hl
  have hown : s.vm.findClass RX3 = some m.cls := hown
  obtain ⟨hsz, hP, hK, hD0, hEs⟩ := hB
  subst hsz
  have hD := hD0.self (sz := s.heap.size)
  generalize hAe : va_A [(hM, .inr (2, (mO hnow hthen hpast kept htx ty th at_ fa htold tolds hac hal hre hse hpl many cost br hsy))), (htx, .inl (g 0, 60, .inl (aI TX))), (htold, .inl (g 0, 63, .inl (aI TO)))] s.heap.size = A at hD ⊢
  have hA : ∀ q : Nat, s.heap.size ≤ q → A q := fun q h => by rw [← hAe]; exact Or.inr h
  have hS : va_S A s.heap s.heap [] := va_S.rf
  have hl : lv_has ls 2 [(0, .ref hM)] := hl
  refine lv_aload_n hx hb dX3_run_0 rfl (lv_at hl 0 rfl) ?_
  refine lv_iconst (v := iI 0) hx hb dX3_run_1 rfl ?_
  refine g_put (D := G) (ci := 2) (v := .int (iI 0)) (ty := .int) (C := RX3) (T := TX3) (N := 20) (ws1 := [(hM, .inr (2, (mO hnow hthen hpast kept htx ty 0 at_ fa htold tolds hac hal hre hse hpl many cost br hsy))), (htx, .inl (g 0, 60, .inl (aI TX))), (htold, .inl (g 0, 63, .inl (aI TO)))]) hx hb hts in_X3 tyX3 tyX3_ok nmX3 hown hK hP hD hS 0 rfl rfl 6 (by decide) (hts _ q1444) (fun _ h9 => h9) rfl (by decide +kernel) (rfl) (rfl) (Nat.le_of_ble_eq_true rfl) dX3_run_2 rfl (fun H locs hP hS => ?_)
  have hD : va_D A [(hM, .inr (2, (mO hnow hthen hpast kept htx ty 0 at_ fa htold tolds hac hal hre hse hpl many cost br hsy))), (htx, .inl (g 0, 60, .inl (aI TX))), (htold, .inl (g 0, 63, .inl (aI TO)))] := va_Dadr hD rfl
  refine lv_aload_n hx hb dX3_run_5 rfl (lv_at hl 0 rfl) ?_
  refine g_callVwi (As := []) (rest := []) (m_X3_isText l G g H.size hM hnow hthen hpast kept htx ty 0 at_ fa htold tolds hac hal hre hse hpl many cost br hsy TX TO kTX hty) hx hb hml hown hts Stab.tt hA hK hP hD hS hEs [0, 1, 2] rfl rfl (fun _ => rfl) (q0 := 0) rfl rfl q1650 q1652 qs71 q102 q1653 hd_X3_isText rfl rfl ⟨Nat.le_of_ble_eq_true rfl, Nat.le_of_ble_eq_true rfl⟩ rfl hl rfl (Nat.le_of_ble_eq_true rfl) ⟨Nat.le_refl _, Nat.le_refl _⟩ dX3_run_6 (fun rr u H locs hp hP hS => ?_)
  obtain ⟨a1_1, f1_2, TO1_3, td1_4⟩ := u
  obtain ⟨hrr, tx1_5, tx2_6, tx3_7, tx4_8⟩ : rr = (iI (qz (txOK TX ty))) ∧ (a1_1 = txE TX ty) ∧ (¬ txOK TX ty → (f1_2 ↔ a1_1 < ty)) ∧ (txOK TX ty → toP TX ty TO1_3 (nT TX ty + 1) ∧ td1_4 = (nT TX ty : Int) + 1) ∧ (0 ≤ txE TX ty ∧ txE TX ty ≤ ty ∧ (txOK TX ty → txE TX ty = ty)) := hp
  subst hrr
  have hP : va_P G CL [(hM, .inr (2, (mO hnow hthen hpast kept htx ty 0 a1_1 f1_2 htold td1_4 hac hal hre hse hpl many cost br hsy))), (htx, .inl (g 0, 60, .inl (aI TX))), (htold, .inl (g 0, 63, .inl (aI TO1_3)))] H := hP
  have hD : va_D A [(hM, .inr (2, (mO hnow hthen hpast kept htx ty 0 a1_1 f1_2 htold td1_4 hac hal hre hse hpl many cost br hsy))), (htx, .inl (g 0, 60, .inl (aI TX))), (htold, .inl (g 0, 63, .inl (aI TO1_3)))] := va_Dadr hD rfl
  refine W.widen (k := 0) (n := 0) (Nat.le_refl _) (Nat.le_refl _) ?_
  refine g_ifq_ne (tgt := 18) hx hb dX3_run_9 (by decide) (fun c9 => ?_) (fun c9 => ?_)
  · exact False.elim (by contradiction)
  · refine lv_aload_n hx hb dX3_run_12 rfl (lv_at hl 0 rfl) ?_
    refine lv_iconst (v := iI 1) hx hb dX3_run_13 rfl ?_
    refine g_callVwi (As := [.int (iI 1)]) (rest := []) (m_X3_fails l G g H.size hM 1 hnow hthen hpast kept htx ty 0 a1_1 f1_2 htold td1_4 hac hal hre hse hpl many cost br hsy ⟨by decide, by decide⟩) hx hb hml hown hts Stab.tt hA hK hP hD hS hEs [0] rfl rfl (fun _ => rfl) (q0 := 0) rfl rfl q1507 q1509 qs54 q102 q1510 hd_X3_fails rfl rfl ⟨Nat.le_of_ble_eq_true rfl, Nat.le_of_ble_eq_true rfl⟩ rfl hl rfl (Nat.le_of_ble_eq_true rfl) ⟨Nat.le_refl _, Nat.le_refl _⟩ dX3_run_14 (fun rr u H locs hp hP hS => ?_)
    have hrr : rr = (iI 0) := hp
    subst hrr
    have hP : va_P G CL [(hM, .inr (2, (mO hnow hthen hpast kept htx ty 1 a1_1 f1_2 htold td1_4 hac hal hre hse hpl many cost br hsy))), (htx, .inl (g 0, 60, .inl (aI TX))), (htold, .inl (g 0, 63, .inl (aI TO1_3)))] H := hP
    have hD : va_D A [(hM, .inr (2, (mO hnow hthen hpast kept htx ty 1 a1_1 f1_2 htold td1_4 hac hal hre hse hpl many cost br hsy))), (htx, .inl (g 0, 60, .inl (aI TX))), (htold, .inl (g 0, 63, .inl (aI TO1_3)))] := va_Dadr hD rfl
    refine W.widen (k := 0) (n := 0) (Nat.le_refl _) (Nat.le_refl _) ?_
    exact W.iret (v := (iI 0)) hx hb hr (fun t ht hW => ⟨⟨_, (a1_1, f1_2, TO1_3, td1_4), rfl, rfl, by rw [← ht] at hP; exact hP⟩, hS.F ht⟩) hS.2.2 dX3_run_17 hlk
set_option maxHeartbeats 1000000 in
set_option maxRecDepth 100000 in
theorem m_X3_run_0 (l : Launch) (G : va_G) (g : Nat → ClassId) (sz : Nat) (hM : Nat) (hnow : Nat) (hthen : Nat) (hpast : Nat) (kept : Int) (htx : Nat) (ty : Int) (th : Int) (at_ : Int) (fa : Prop) (htold : Nat) (tolds : Int) (hac : Nat) (hal : Nat) (hre : Nat) (hse : Nat) (hpl : Nat) (many : Int) (cost : Int) (br : Int) (hsy : Nat) (S : Int → Int) (PA : Int → Int) (TX : Int → Int) (TO : Int → Int) (RE : Int → Int) (SE : Int → Prop) (PL : Int → Int) (kS : rgS S) (kW : rgW S) (hkp : 0 ≤ kept ∧ kept ≤ 6) (kTX : rgT TX) (hty : 0 ≤ ty ∧ ty ≤ 60) (hys : txOK TX ty) : Met l yX3_run (ws_ yX3_run cX3_run 2 (Option.some Jvm.ClassFile.FieldType.int)) ({ frames := 8, cells := 0, slots := 0, locals := 191 }) (va_Pc [.ref hM] (wrB G CL (TY g) (fun _ => True) [(hM, .inr (2, (mO hnow hthen hpast kept htx ty th at_ fa htold tolds hac hal hre hse hpl many cost br hsy))), (hnow, .inl (g 0, 253, .inl (aI S))), (hpast, .inl (g 0, 1518, .inl (aI PA))), (htx, .inl (g 0, 60, .inl (aI TX))), (htold, .inl (g 0, 63, .inl (aI TO))), (hac, .inl (g 0, 4, .inl (aI dx))), (hal, .inl (g 0, 4, .inl (aI dy))), (hre, .inl (g 0, 192, .inl (aI RE))), (hse, .inl (g 1, 192, .inl (aP SE))), (hpl, .inl (g 0, 192, .inl (aI PL)))] sz)) (va_Qi (fun (r : Int32) (u : Int × Prop × (Int → Int) × Int × (Int → Int) × (Int → Prop) × (Int → Int) × Int × Int × Int) => r = (iI (rnN TX ty S : Int))) (fun (u : Int × Prop × (Int → Int) × Int × (Int → Int) × (Int → Prop) × (Int → Int) × Int × Int × Int) t => va_P G CL [(hM, .inr (2, (mO hnow hthen hpast (svK kept) htx 0 0 u.1 u.2.1 htold u.2.2.2.1 hac hal hre hse hpl u.2.2.2.2.2.2.2.1 u.2.2.2.2.2.2.2.2.1 u.2.2.2.2.2.2.2.2.2 hsy))), (hnow, .inl (g 0, 253, .inl (aI (rnS TX ty S (rnN TX ty S))))), (hpast, .inl (g 0, 1518, .inl (aI (svP S PA kept)))), (htx, .inl (g 0, 60, .inl (aI TX))), (htold, .inl (g 0, 63, .inl (aI u.2.2.1))), (hac, .inl (g 0, 4, .inl (aI dx))), (hal, .inl (g 0, 4, .inl (aI dy))), (hre, .inl (g 0, 192, .inl (aI u.2.2.2.2.1))), (hse, .inl (g 1, 192, .inl (aP u.2.2.2.2.2.1))), (hpl, .inl (g 0, 192, .inl (aI u.2.2.2.2.2.2.1)))] t.heap) (va_A [(hM, .inr (2, (mO hnow hthen hpast kept htx ty th at_ fa htold tolds hac hal hre hse hpl many cost br hsy))), (hnow, .inl (g 0, 253, .inl (aI S))), (hpast, .inl (g 0, 1518, .inl (aI PA))), (htx, .inl (g 0, 60, .inl (aI TX))), (htold, .inl (g 0, 63, .inl (aI TO))), (hac, .inl (g 0, 4, .inl (aI dx))), (hal, .inl (g 0, 4, .inl (aI dy))), (hre, .inl (g 0, 192, .inl (aI RE))), (hse, .inl (g 1, 192, .inl (aP SE))), (hpl, .inl (g 0, 192, .inl (aI PL)))] sz)) 0 0 (va_A [(hM, .inr (2, (mO hnow hthen hpast kept htx ty th at_ fa htold tolds hac hal hre hse hpl many cost br hsy))), (hnow, .inl (g 0, 253, .inl (aI S))), (hpast, .inl (g 0, 1518, .inl (aI PA))), (htx, .inl (g 0, 60, .inl (aI TX))), (htold, .inl (g 0, 63, .inl (aI TO))), (hac, .inl (g 0, 4, .inl (aI dx))), (hal, .inl (g 0, 4, .inl (aI dy))), (hre, .inl (g 0, 192, .inl (aI RE))), (hse, .inl (g 1, 192, .inl (aP SE))), (hpl, .inl (g 0, 192, .inl (aI PL)))] sz) := by
  refine Met.at (by decide) (Nat.le_of_ble_eq_true rfl) ?_
  intro p e s m below meth c hx hb hr hlk hml hown hnm hts hB ls hl
  have hown : s.vm.findClass RX3 = some m.cls := hown
  obtain ⟨hsz, hP, hK, hD0, hEs⟩ := hB
  subst hsz
  have hD := hD0.self (sz := s.heap.size)
  generalize hAe : va_A [(hM, .inr (2, (mO hnow hthen hpast kept htx ty th at_ fa htold tolds hac hal hre hse hpl many cost br hsy))), (hnow, .inl (g 0, 253, .inl (aI S))), (hpast, .inl (g 0, 1518, .inl (aI PA))), (htx, .inl (g 0, 60, .inl (aI TX))), (htold, .inl (g 0, 63, .inl (aI TO))), (hac, .inl (g 0, 4, .inl (aI dx))), (hal, .inl (g 0, 4, .inl (aI dy))), (hre, .inl (g 0, 192, .inl (aI RE))), (hse, .inl (g 1, 192, .inl (aP SE))), (hpl, .inl (g 0, 192, .inl (aI PL)))] s.heap.size = A at hD ⊢
  have hA : ∀ q : Nat, s.heap.size ≤ q → A q := fun q h => by rw [← hAe]; exact Or.inr h
  have hS : va_S A s.heap s.heap [] := va_S.rf
  have hl : lv_has ls 2 [(0, .ref hM)] := hl
  refine lv_aload_n hx hb dX3_run_0 rfl (lv_at hl 0 rfl) ?_
  refine lv_iconst (v := iI 0) hx hb dX3_run_1 rfl ?_
  refine g_put (D := G) (ci := 2) (v := .int (iI 0)) (ty := .int) (C := RX3) (T := TX3) (N := 20) (ws1 := [(hM, .inr (2, (mO hnow hthen hpast kept htx ty 0 at_ fa htold tolds hac hal hre hse hpl many cost br hsy))), (hnow, .inl (g 0, 253, .inl (aI S))), (hpast, .inl (g 0, 1518, .inl (aI PA))), (htx, .inl (g 0, 60, .inl (aI TX))), (htold, .inl (g 0, 63, .inl (aI TO))), (hac, .inl (g 0, 4, .inl (aI dx))), (hal, .inl (g 0, 4, .inl (aI dy))), (hre, .inl (g 0, 192, .inl (aI RE))), (hse, .inl (g 1, 192, .inl (aP SE))), (hpl, .inl (g 0, 192, .inl (aI PL)))]) hx hb hts in_X3 tyX3 tyX3_ok nmX3 hown hK hP hD hS 0 rfl rfl 6 (by decide) (hts _ q1444) (fun _ h9 => h9) rfl (by decide +kernel) (rfl) (rfl) (Nat.le_of_ble_eq_true rfl) dX3_run_2 rfl (fun H locs hP hS => ?_)
  have hD : va_D A [(hM, .inr (2, (mO hnow hthen hpast kept htx ty 0 at_ fa htold tolds hac hal hre hse hpl many cost br hsy))), (hnow, .inl (g 0, 253, .inl (aI S))), (hpast, .inl (g 0, 1518, .inl (aI PA))), (htx, .inl (g 0, 60, .inl (aI TX))), (htold, .inl (g 0, 63, .inl (aI TO))), (hac, .inl (g 0, 4, .inl (aI dx))), (hal, .inl (g 0, 4, .inl (aI dy))), (hre, .inl (g 0, 192, .inl (aI RE))), (hse, .inl (g 1, 192, .inl (aP SE))), (hpl, .inl (g 0, 192, .inl (aI PL)))] := va_Dadr hD rfl
  refine lv_aload_n hx hb dX3_run_5 rfl (lv_at hl 0 rfl) ?_
  refine g_callVwi (As := []) (rest := []) (m_X3_isText l G g H.size hM hnow hthen hpast kept htx ty 0 at_ fa htold tolds hac hal hre hse hpl many cost br hsy TX TO kTX hty) hx hb hml hown hts Stab.tt hA hK hP hD hS hEs [0, 3, 4] rfl rfl (fun _ => rfl) (q0 := 0) rfl rfl q1650 q1652 qs71 q102 q1653 hd_X3_isText rfl rfl ⟨Nat.le_of_ble_eq_true rfl, Nat.le_of_ble_eq_true rfl⟩ rfl hl rfl (Nat.le_of_ble_eq_true rfl) ⟨Nat.le_refl _, Nat.le_refl _⟩ dX3_run_6 (fun rr u H locs hp hP hS => ?_)
  obtain ⟨A1, F1, O1, D1⟩ := u
  obtain ⟨hrr, tx1, tx2, tx3, tx4⟩ : rr = (iI (qz (txOK TX ty))) ∧ (A1 = txE TX ty) ∧ (¬ txOK TX ty → (F1 ↔ A1 < ty)) ∧ (txOK TX ty → toP TX ty O1 (nT TX ty + 1) ∧ D1 = (nT TX ty : Int) + 1) ∧ (0 ≤ txE TX ty ∧ txE TX ty ≤ ty ∧ (txOK TX ty → txE TX ty = ty)) := hp
  subst hrr
  have hP : va_P G CL [(hM, .inr (2, (mO hnow hthen hpast kept htx ty 0 A1 F1 htold D1 hac hal hre hse hpl many cost br hsy))), (hnow, .inl (g 0, 253, .inl (aI S))), (hpast, .inl (g 0, 1518, .inl (aI PA))), (htx, .inl (g 0, 60, .inl (aI TX))), (htold, .inl (g 0, 63, .inl (aI O1))), (hac, .inl (g 0, 4, .inl (aI dx))), (hal, .inl (g 0, 4, .inl (aI dy))), (hre, .inl (g 0, 192, .inl (aI RE))), (hse, .inl (g 1, 192, .inl (aP SE))), (hpl, .inl (g 0, 192, .inl (aI PL)))] H := hP
  have hD : va_D A [(hM, .inr (2, (mO hnow hthen hpast kept htx ty 0 A1 F1 htold D1 hac hal hre hse hpl many cost br hsy))), (hnow, .inl (g 0, 253, .inl (aI S))), (hpast, .inl (g 0, 1518, .inl (aI PA))), (htx, .inl (g 0, 60, .inl (aI TX))), (htold, .inl (g 0, 63, .inl (aI O1))), (hac, .inl (g 0, 4, .inl (aI dx))), (hal, .inl (g 0, 4, .inl (aI dy))), (hre, .inl (g 0, 192, .inl (aI RE))), (hse, .inl (g 1, 192, .inl (aP SE))), (hpl, .inl (g 0, 192, .inl (aI PL)))] := va_Dadr hD rfl
  refine W.widen (k := 0) (n := 0) (Nat.le_refl _) (Nat.le_refl _) ?_
  refine g_ifq_ne (tgt := 18) hx hb dX3_run_9 (by decide) (fun c1 => ?_) (fun c1 => ?_)
  · obtain ⟨tp9, td9⟩ := tx3 hys
    have nr := nT_rng (T := TX) hty
    refine lv_aload_n hx hb dX3_run_18 rfl (lv_at hl 0 rfl) ?_
    refine g_callVwv (As := []) (rest := []) (m_X3_saves l G g H.size hM hnow hthen hpast kept htx ty 0 A1 F1 htold D1 hac hal hre hse hpl many cost br hsy S PA hkp) hx hb hml hown hts Stab.tt hA hK hP hD hS hEs [0, 1, 2] rfl rfl (fun _ => rfl) (q0 := 0) rfl rfl q1541 q1543 qs57 q102 q1544 hd_X3_saves rfl rfl ⟨Nat.le_of_ble_eq_true rfl, Nat.le_of_ble_eq_true rfl⟩ rfl hl rfl (Nat.le_of_ble_eq_true rfl) ⟨Nat.le_refl _, Nat.le_refl _⟩ dX3_run_19 (fun u H locs hp hP hS => ?_)
    have hP : va_P G CL [(hM, .inr (2, (mO hnow hthen hpast (svK kept) htx ty 0 A1 F1 htold D1 hac hal hre hse hpl many cost br hsy))), (hnow, .inl (g 0, 253, .inl (aI S))), (hpast, .inl (g 0, 1518, .inl (aI (svP S PA kept)))), (htx, .inl (g 0, 60, .inl (aI TX))), (htold, .inl (g 0, 63, .inl (aI O1))), (hac, .inl (g 0, 4, .inl (aI dx))), (hal, .inl (g 0, 4, .inl (aI dy))), (hre, .inl (g 0, 192, .inl (aI RE))), (hse, .inl (g 1, 192, .inl (aP SE))), (hpl, .inl (g 0, 192, .inl (aI PL)))] H := hP
    have hD : va_D A [(hM, .inr (2, (mO hnow hthen hpast (svK kept) htx ty 0 A1 F1 htold D1 hac hal hre hse hpl many cost br hsy))), (hnow, .inl (g 0, 253, .inl (aI S))), (hpast, .inl (g 0, 1518, .inl (aI (svP S PA kept)))), (htx, .inl (g 0, 60, .inl (aI TX))), (htold, .inl (g 0, 63, .inl (aI O1))), (hac, .inl (g 0, 4, .inl (aI dx))), (hal, .inl (g 0, 4, .inl (aI dy))), (hre, .inl (g 0, 192, .inl (aI RE))), (hse, .inl (g 1, 192, .inl (aP SE))), (hpl, .inl (g 0, 192, .inl (aI PL)))] := va_Dadr hD rfl
    refine W.widen (k := 0) (n := 0) (Nat.le_refl _) (Nat.le_refl _) ?_
    refine lv_aload_n hx hb dX3_run_22 rfl (lv_at hl 0 rfl) ?_
    refine lv_iconst (v := iI 0) hx hb dX3_run_23 rfl ?_
    refine g_put (D := G) (ci := 2) (v := .int (iI 0)) (ty := .int) (C := RX3) (T := TX3) (N := 20) (ws1 := [(hM, .inr (2, (mO hnow hthen hpast (svK kept) htx 0 0 A1 F1 htold D1 hac hal hre hse hpl many cost br hsy))), (hnow, .inl (g 0, 253, .inl (aI S))), (hpast, .inl (g 0, 1518, .inl (aI (svP S PA kept)))), (htx, .inl (g 0, 60, .inl (aI TX))), (htold, .inl (g 0, 63, .inl (aI O1))), (hac, .inl (g 0, 4, .inl (aI dx))), (hal, .inl (g 0, 4, .inl (aI dy))), (hre, .inl (g 0, 192, .inl (aI RE))), (hse, .inl (g 1, 192, .inl (aP SE))), (hpl, .inl (g 0, 192, .inl (aI PL)))]) hx hb hts in_X3 tyX3 tyX3_ok nmX3 hown hK hP hD hS 0 rfl rfl 5 (by decide) (hts _ q1443) (fun _ h9 => h9) rfl (by decide +kernel) (rfl) (rfl) (Nat.le_of_ble_eq_true rfl) dX3_run_24 rfl (fun H locs hP hS => ?_)
    have hD : va_D A [(hM, .inr (2, (mO hnow hthen hpast (svK kept) htx 0 0 A1 F1 htold D1 hac hal hre hse hpl many cost br hsy))), (hnow, .inl (g 0, 253, .inl (aI S))), (hpast, .inl (g 0, 1518, .inl (aI (svP S PA kept)))), (htx, .inl (g 0, 60, .inl (aI TX))), (htold, .inl (g 0, 63, .inl (aI O1))), (hac, .inl (g 0, 4, .inl (aI dx))), (hal, .inl (g 0, 4, .inl (aI dy))), (hre, .inl (g 0, 192, .inl (aI RE))), (hse, .inl (g 1, 192, .inl (aP SE))), (hpl, .inl (g 0, 192, .inl (aI PL)))] := va_Dadr hD rfl
    refine lv_iconst (v := iI 0) hx hb dX3_run_27 rfl ?_
    refine lv_istore_n (lv' := [(1, .int (iI 0)), (0, .ref hM)]) hx hb dX3_run_28 rfl hl (by decide) rfl (fun ls hl => ?_)
    have lp29 : ∀ (n : Nat) (i_ : Nat) (rA : Int → Int) (eA : Int → Prop) (lA : Int → Int) (mA : Int) (cA_ : Int) (bA : Int), (i_ ≤ nT TX ty + 1) → (∀ j : Nat, j < i_ → doOK (rnS TX ty S j) (oA TX ty j) (oB TX ty j) (oW TX ty j)) → nT TX ty + 1 - i_ = n → ∀ (H : Heap) (locs : List Loc), va_P G CL [(hM, .inr (2, (mO hnow hthen hpast (svK kept) htx 0 0 A1 F1 htold D1 hac hal hre hse hpl mA cA_ bA hsy))), (hnow, .inl (g 0, 253, .inl (aI (rnS TX ty S i_)))), (hpast, .inl (g 0, 1518, .inl (aI (svP S PA kept)))), (htx, .inl (g 0, 60, .inl (aI TX))), (htold, .inl (g 0, 63, .inl (aI O1))), (hac, .inl (g 0, 4, .inl (aI dx))), (hal, .inl (g 0, 4, .inl (aI dy))), (hre, .inl (g 0, 192, .inl (aI rA))), (hse, .inl (g 1, 192, .inl (aP eA))), (hpl, .inl (g 0, 192, .inl (aI lA)))] H → va_D A [(hM, .inr (2, (mO hnow hthen hpast (svK kept) htx 0 0 A1 F1 htold D1 hac hal hre hse hpl mA cA_ bA hsy))), (hnow, .inl (g 0, 253, .inl (aI (rnS TX ty S i_)))), (hpast, .inl (g 0, 1518, .inl (aI (svP S PA kept)))), (htx, .inl (g 0, 60, .inl (aI TX))), (htold, .inl (g 0, 63, .inl (aI O1))), (hac, .inl (g 0, 4, .inl (aI dx))), (hal, .inl (g 0, 4, .inl (aI dy))), (hre, .inl (g 0, 192, .inl (aI rA))), (hse, .inl (g 1, 192, .inl (aP eA))), (hpl, .inl (g 0, 192, .inl (aI lA)))] → va_S A s.heap H locs → ∀ ls : Array Slot, lv_has ls 2 [(0, .ref hM), (1, .int (iI (i_ : Int)))] → W p l e ({ frames := 8, cells := 0, slots := 0, locals := 191 }) s m ([.ref hM] : List Value).toArray below meth c H locs 0 0 (MQ below (va_Qi (fun (r : Int32) (u : Int × Prop × (Int → Int) × Int × (Int → Int) × (Int → Prop) × (Int → Int) × Int × Int × Int) => r = (iI (rnN TX ty S : Int))) (fun (u : Int × Prop × (Int → Int) × Int × (Int → Int) × (Int → Prop) × (Int → Int) × Int × Int × Int) t => va_P G CL [(hM, .inr (2, (mO hnow hthen hpast (svK kept) htx 0 0 u.1 u.2.1 htold u.2.2.2.1 hac hal hre hse hpl u.2.2.2.2.2.2.2.1 u.2.2.2.2.2.2.2.2.1 u.2.2.2.2.2.2.2.2.2 hsy))), (hnow, .inl (g 0, 253, .inl (aI (rnS TX ty S (rnN TX ty S))))), (hpast, .inl (g 0, 1518, .inl (aI (svP S PA kept)))), (htx, .inl (g 0, 60, .inl (aI TX))), (htold, .inl (g 0, 63, .inl (aI u.2.2.1))), (hac, .inl (g 0, 4, .inl (aI dx))), (hal, .inl (g 0, 4, .inl (aI dy))), (hre, .inl (g 0, 192, .inl (aI u.2.2.2.2.1))), (hse, .inl (g 1, 192, .inl (aP u.2.2.2.2.2.1))), (hpl, .inl (g 0, 192, .inl (aI u.2.2.2.2.2.2.1)))] t.heap) A) ([.ref hM] : List Value).toArray s 0 0 A) (F0 m 29 ls []) := by
      intro n
      refine Nat.strongRecOn n ?_
      intro n ih29 i_ rA eA lA mA cA_ bA hi0 hi_ hmu29 H locs hP hD hS ls hl
      refine lv_iload_n hx hb dX3_run_29 rfl (lv_at hl 1 rfl) ?_
      refine lv_aload_n hx hb dX3_run_30 rfl (lv_at hl 0 rfl) ?_
      refine va_get (D := G) (ci := 2) (v := .int (iI D1)) (C := RX3) (T := TX3) (N := 20) hx hb hts in_X3 hown hK hP 0 rfl rfl 10 (by decide) (hts _ q1448) (fun _ h9 => h9) rfl dX3_run_31 ?_
      refine g_icmp_ge (tgt := 51) hx hb dX3_run_34 (by decide) ⟨⟨by omega, by omega⟩, ⟨by omega, by omega⟩⟩ (fun c2 => ?_) (fun c2 => ?_)
      · refine lv_iload_n hx hb dX3_run_51 rfl (lv_at hl 1 rfl) ?_
        exact W.iret (v := (iI (i_ : Int))) hx hb hr (fun t ht hW => ⟨⟨_, (A1, F1, O1, D1, rA, eA, lA, mA, cA_, bA), rfl, (by have e9 : rnN TX ty S = i_ := rnN_eq ⟨hi_, hi0, Or.inl (by omega)⟩; rw [e9]), by rw [← ht] at hP; exact (by rw [show rnN TX ty S = i_ from rnN_eq ⟨hi_, hi0, Or.inl (by omega)⟩]; exact hP)⟩, hS.F ht⟩) hS.2.2 dX3_run_52 hlk
      · have ot := tp9 i_ (by omega)
        have og := o_rng (txOK_all hty hys i_ (by omega))
        refine lv_aload_n hx hb dX3_run_37 rfl (lv_at hl 0 rfl) ?_
        refine lv_iload_n hx hb dX3_run_38 rfl (lv_at hl 1 rfl) ?_
        refine g_callVwi (As := [.int (iI (i_ : Int))]) (rest := []) (m_X3_does l G g H.size hM (i_ : Int) hnow hthen hpast (svK kept) htx 0 0 A1 F1 htold D1 hac hal hre hse hpl mA cA_ bA hsy (rnS TX ty S i_) O1 rA eA lA (⟨by omega, by omega⟩) ((rn_ok hty hys kS kW i_ (by omega)).1) ((rn_ok hty hys kS kW i_ (by omega)).2) (by omega) (by rw [ot.1]; exact og.1) (by rw [ot.2.1]; exact og.2.1) (by rw [ot.2.2]; exact og.2.2.1) (by rw [ot.1, ot.2.1]; exact og.2.2.2)) hx hb hml hown hts Stab.tt hA hK hP hD hS hEs [0, 1, 4, 5, 6, 7, 8, 9] rfl rfl (fun _ => rfl) (q0 := 0) rfl rfl q1682 q1684 qs78 q102 q1685 hd_X3_does rfl rfl ⟨Nat.le_of_ble_eq_true rfl, Nat.le_of_ble_eq_true rfl⟩ rfl hl rfl (Nat.le_of_ble_eq_true rfl) ⟨Nat.le_refl _, Nat.le_refl _⟩ dX3_run_39 (fun rr u H locs hp hP hS => ?_)
        obtain ⟨RE1_3, SE1_4, PL1_5, m1_6, c1_7, b1_8⟩ := u
        have hrr : rr = (iI (qz (doOK (rnS TX ty S i_) (O1 (3 * (i_ : Int))) (O1 (3 * (i_ : Int) + 1)) (O1 (3 * (i_ : Int) + 2))))) := hp
        subst hrr
        have hP : va_P G CL [(hM, .inr (2, (mO hnow hthen hpast (svK kept) htx 0 0 A1 F1 htold D1 hac hal hre hse hpl m1_6 c1_7 b1_8 hsy))), (hnow, .inl (g 0, 253, .inl (aI (doS (rnS TX ty S i_) (O1 (3 * (i_ : Int))) (O1 (3 * (i_ : Int) + 1)) (O1 (3 * (i_ : Int) + 2)))))), (hpast, .inl (g 0, 1518, .inl (aI (svP S PA kept)))), (htx, .inl (g 0, 60, .inl (aI TX))), (htold, .inl (g 0, 63, .inl (aI O1))), (hac, .inl (g 0, 4, .inl (aI dx))), (hal, .inl (g 0, 4, .inl (aI dy))), (hre, .inl (g 0, 192, .inl (aI RE1_3))), (hse, .inl (g 1, 192, .inl (aP SE1_4))), (hpl, .inl (g 0, 192, .inl (aI PL1_5)))] H := hP
        have hD : va_D A [(hM, .inr (2, (mO hnow hthen hpast (svK kept) htx 0 0 A1 F1 htold D1 hac hal hre hse hpl m1_6 c1_7 b1_8 hsy))), (hnow, .inl (g 0, 253, .inl (aI (doS (rnS TX ty S i_) (O1 (3 * (i_ : Int))) (O1 (3 * (i_ : Int) + 1)) (O1 (3 * (i_ : Int) + 2)))))), (hpast, .inl (g 0, 1518, .inl (aI (svP S PA kept)))), (htx, .inl (g 0, 60, .inl (aI TX))), (htold, .inl (g 0, 63, .inl (aI O1))), (hac, .inl (g 0, 4, .inl (aI dx))), (hal, .inl (g 0, 4, .inl (aI dy))), (hre, .inl (g 0, 192, .inl (aI RE1_3))), (hse, .inl (g 1, 192, .inl (aP SE1_4))), (hpl, .inl (g 0, 192, .inl (aI PL1_5)))] := va_Dadr hD rfl
        refine W.widen (k := 0) (n := 0) (Nat.le_refl _) (Nat.le_refl _) ?_
        refine g_ifq_eq (tgt := 51) hx hb dX3_run_42 (by decide) (fun c9 => ?_) (fun c9 => ?_)
        · refine lv_iload_n hx hb dX3_run_51 rfl (lv_at hl 1 rfl) ?_
          exact W.iret (v := (iI (i_ : Int))) hx hb hr (fun t ht hW => ⟨⟨_, (A1, F1, O1, D1, RE1_3, SE1_4, PL1_5, m1_6, c1_7, b1_8), rfl, (by have nk : ¬ doOK (rnS TX ty S i_) (oA TX ty i_) (oB TX ty i_) (oW TX ty i_) := (fun z => absurd (show doOK (rnS TX ty S i_) (O1 (3 * (i_ : Int))) (O1 (3 * (i_ : Int) + 1)) (O1 (3 * (i_ : Int) + 2)) from by rw [ot.1, ot.2.1, ot.2.2]; exact z) (by assumption)); have e9 : rnN TX ty S = i_ := rnN_eq ⟨hi_, hi0, Or.inr nk⟩; rw [e9]), by rw [← ht] at hP; exact (by have nk : ¬ doOK (rnS TX ty S i_) (oA TX ty i_) (oB TX ty i_) (oW TX ty i_) := (fun z => absurd (show doOK (rnS TX ty S i_) (O1 (3 * (i_ : Int))) (O1 (3 * (i_ : Int) + 1)) (O1 (3 * (i_ : Int) + 2)) from by rw [ot.1, ot.2.1, ot.2.2]; exact z) (by assumption)); rw [show rnN TX ty S = i_ from rnN_eq ⟨hi_, hi0, Or.inr nk⟩]; rw [doS_no (by assumption)] at hP; exact hP)⟩, hS.F ht⟩) hS.2.2 dX3_run_52 hlk
        · have ok7 : doOK (rnS TX ty S i_) (oA TX ty i_) (oB TX ty i_) (oW TX ty i_) := (by have z : doOK (rnS TX ty S i_) (O1 (3 * (i_ : Int))) (O1 (3 * (i_ : Int) + 1)) (O1 (3 * (i_ : Int) + 2)) := (by assumption); rw [ot.1, ot.2.1, ot.2.2] at z; exact z)
          refine g_iinc (lv' := [(1, .int (iI ((i_ : Int) + 1))), (0, .ref hM)]) hx hb dX3_run_45 hl (k := 1) rfl (by decide) rfl (fun ls hl => ?_)
          refine lv_goto (tgt := 29) hx hb dX3_run_48 (by decide) ?_
          exact ih29 _ (by omega) (i_ + 1) RE1_3 SE1_4 PL1_5 m1_6 c1_7 b1_8 (by omega) (fun j hj => by
      by_cases e : j = i_
      · rw [e]; exact ok7
      · exact hi_ j (by omega)) rfl _ _ (by rw [show rnS TX ty S (i_ + 1) = doS (rnS TX ty S i_) (O1 (3 * (i_ : Int))) (O1 (3 * (i_ : Int) + 1)) (O1 (3 * (i_ : Int) + 2)) from by rw [ot.1, ot.2.1, ot.2.2]; rfl]; exact hP) (va_Dadr hD rfl) hS ls (lv_sub hl [1, 0] rfl)
    exact lp29 _ 0 RE SE PL many cost br (by omega) (fun j hj => absurd hj (Nat.not_lt_zero j)) rfl H locs hP (va_Dadr hD rfl) hS ls (lv_sub hl [1, 0] rfl)
  · exact False.elim (by contradiction)
