theorem hd_X3_isLetter : yX3_isLetter.cls = RX3 ∧ yX3_isLetter.cls ≠ "java/lang/invoke/MethodHandle" ∧ yX3_isLetter.cls ≠ "java/lang/invoke/VarHandle" ∧ (parseMethodDescriptor yX3_isLetter.desc).map (fun d => d.parameters.length) = some 2 := by decide +kernel
set_option maxHeartbeats 1000000 in
set_option maxRecDepth 100000 in
theorem m_X3_isLetter (l : Launch) (G : va_G) (g : Nat → ClassId) (sz : Nat) (hM : Nat) (k_ : Int) (o_ : Int) (hnow : Nat) (hthen : Nat) (hpast : Nat) (kept : Int) (htx : Nat) (ty : Int) (th : Int) (at_ : Int) (fa : Prop) (htold : Nat) (tolds : Int) (hac : Nat) (hal : Nat) (hre : Nat) (hse : Nat) (hpl : Nat) (many : Int) (cost : Int) (br : Int) (hsy : Nat) (TX : Int → Int) (TO : Int → Int) (r_k_ : r32 k_) (r_o_ : r32 o_) (kTX : rgT TX) (hat : 0 ≤ at_ ∧ at_ ≤ ty ∧ ty ≤ 60) (htd : 0 ≤ tolds ∧ tolds ≤ 20) (hk2 : 0 ≤ k_ ∧ k_ ≤ 1) : Met l yX3_isLetter (ws_ yX3_isLetter cX3_isLetter 3 (Option.some Jvm.ClassFile.FieldType.boolean)) ({ frames := 1, cells := 0, slots := 0, locals := 22 }) (va_Pc [.ref hM, .int (iI k_), .int (iI o_)] (wrB G CL (TY g) (fun _ => True) [(hM, .inr (2, (mO hnow hthen hpast kept htx ty th at_ fa htold tolds hac hal hre hse hpl many cost br hsy))), (htx, .inl (g 0, 60, .inl (aI TX))), (htold, .inl (g 0, 63, .inl (aI TO)))] sz)) (va_Qi (fun (r : Int32) (u : Int × Prop) => r = (iI (qz (ltP TX ty at_ o_))) ∧ ((ltP TX ty at_ o_ ∧ u.1 = at_ + 1) ∨ (¬ ltP TX ty at_ o_ ∧ u.1 = at_)) ∧ (¬ ltP TX ty at_ o_ → (u.2 ↔ at_ < ty))) (fun (u : Int × Prop) t => va_P G CL [(hM, .inr (2, (mO hnow hthen hpast kept htx ty th u.1 u.2 htold tolds hac hal hre hse hpl many cost br hsy))), (htx, .inl (g 0, 60, .inl (aI TX))), (htold, .inl (g 0, 63, .inl (aI (zf (ltP TX ty at_ o_) (uZ TO (3 * tolds + k_) (TX at_ - 65)) TO))))] t.heap) (va_A [(hM, .inr (2, (mO hnow hthen hpast kept htx ty th at_ fa htold tolds hac hal hre hse hpl many cost br hsy))), (htx, .inl (g 0, 60, .inl (aI TX))), (htold, .inl (g 0, 63, .inl (aI TO)))] sz)) 0 0 (va_A [(hM, .inr (2, (mO hnow hthen hpast kept htx ty th at_ fa htold tolds hac hal hre hse hpl many cost br hsy))), (htx, .inl (g 0, 60, .inl (aI TX))), (htold, .inl (g 0, 63, .inl (aI TO)))] sz) := by
  refine Met.at (by decide) (Nat.le_of_ble_eq_true rfl) ?_
  intro p e s m below meth c hx hb hr hlk hml hown hnm hts hB ls hl
  have hown : s.vm.findClass RX3 = some m.cls := hown
  obtain ⟨hsz, hP, hK, hD0, hEs⟩ := hB
  subst hsz
  have hD := hD0.self (sz := s.heap.size)
  generalize hAe : va_A [(hM, .inr (2, (mO hnow hthen hpast kept htx ty th at_ fa htold tolds hac hal hre hse hpl many cost br hsy))), (htx, .inl (g 0, 60, .inl (aI TX))), (htold, .inl (g 0, 63, .inl (aI TO)))] s.heap.size = A at hD ⊢
  have hA : ∀ q : Nat, s.heap.size ≤ q → A q := fun q h => by rw [← hAe]; exact Or.inr h
  have hS : va_S A s.heap s.heap [] := va_S.rf
  have hl : lv_has ls 3 [(0, .ref hM), (1, .int (iI k_)), (2, .int (iI o_))] := hl
  refine lv_aload_n hx hb dX3_isLetter_0 rfl (lv_at hl 0 rfl) ?_
  refine va_get (D := G) (ci := 2) (v := .int (iI at_)) (C := RX3) (T := TX3) (N := 20) hx hb hts in_X3 hown hK hP 0 rfl rfl 7 (by decide) (hts _ q1445) (fun _ h9 => h9) rfl dX3_isLetter_1 ?_
  refine lv_aload_n hx hb dX3_isLetter_4 rfl (lv_at hl 0 rfl) ?_
  refine va_get (D := G) (ci := 2) (v := .int (iI ty)) (C := RX3) (T := TX3) (N := 20) hx hb hts in_X3 hown hK hP 0 rfl rfl 5 (by decide) (hts _ q1443) (fun _ h9 => h9) rfl dX3_isLetter_5 ?_
  refine g_icmp_eq (tgt := 46) hx hb dX3_isLetter_8 (by decide) ⟨⟨by omega, by omega⟩, ⟨by omega, by omega⟩⟩ (fun c1 => ?_) (fun c1 => ?_)
  · refine lv_aload_n hx hb dX3_isLetter_46 rfl (lv_at hl 0 rfl) ?_
    refine g_callVwi (As := []) (rest := []) (m_X3_stops l G g s.heap.size hM hnow hthen hpast kept htx ty th at_ fa htold tolds hac hal hre hse hpl many cost br hsy hat) hx hb hml hown hts Stab.tt hA hK hP hD hS hEs [0] rfl rfl (fun _ => rfl) (q0 := 0) rfl rfl q1662 q1664 qs74 q102 q1665 hd_X3_stops rfl rfl ⟨Nat.le_of_ble_eq_true rfl, Nat.le_of_ble_eq_true rfl⟩ rfl hl rfl (Nat.le_of_ble_eq_true rfl) ⟨Nat.le_refl _, Nat.le_refl _⟩ dX3_isLetter_47 (fun rr u H locs hp hP hS => ?_)
    have hrr : rr = (iI 0) := hp
    subst hrr
    have hP : va_P G CL [(hM, .inr (2, (mO hnow hthen hpast kept htx ty th at_ (at_ < ty) htold tolds hac hal hre hse hpl many cost br hsy))), (htx, .inl (g 0, 60, .inl (aI TX))), (htold, .inl (g 0, 63, .inl (aI TO)))] H := hP
    have hD : va_D A [(hM, .inr (2, (mO hnow hthen hpast kept htx ty th at_ (at_ < ty) htold tolds hac hal hre hse hpl many cost br hsy))), (htx, .inl (g 0, 60, .inl (aI TX))), (htold, .inl (g 0, 63, .inl (aI TO)))] := va_Dadr hD rfl
    refine W.widen (k := 0) (n := 0) (Nat.le_refl _) (Nat.le_refl _) ?_
    exact W.zret (v := (iI 0)) hx hb hr rfl (fun t ht hW => ⟨⟨_, (at_, at_ < ty), rfl, (by have hn : ¬ ltP TX ty at_ o_ := fun z => z.1 (by assumption); exact ⟨congrArg iI (qz_f hn).symm, Or.inr ⟨hn, rfl⟩, fun _ => Iff.rfl⟩), by rw [← ht] at hP; exact (by rw [zf_f (P := ltP TX ty at_ o_) (fun z => z.1 (by assumption))]; exact hP)⟩, hS.F ht⟩) hS.2.2 dX3_isLetter_50 hlk
  · refine lv_aload_n hx hb dX3_isLetter_11 rfl (lv_at hl 0 rfl) ?_
    refine va_get (D := G) (ci := 2) (v := .ref htx) (C := RX3) (T := TX3) (N := 20) hx hb hts in_X3 hown hK hP 0 rfl rfl 4 (by decide) (hts _ q1442) (fun _ h9 => h9) rfl dX3_isLetter_12 ?_
    refine lv_aload_n hx hb dX3_isLetter_15 rfl (lv_at hl 0 rfl) ?_
    refine va_get (D := G) (ci := 2) (v := .int (iI at_)) (C := RX3) (T := TX3) (N := 20) hx hb hts in_X3 hown hK hP 0 rfl rfl 7 (by decide) (hts _ q1445) (fun _ h9 => h9) rfl dX3_isLetter_16 ?_
    refine g_iald hx hb hK hP 1 0 rfl rfl (i := at_) (⟨by omega, by omega⟩) (by decide) dX3_isLetter_19 ?_
    have w2 := kTX at_ (by omega) (by omega)
    refine lv_bipush (v := iI 65) hx hb dX3_isLetter_20 rfl ?_
    refine lv_bipush (v := iI 70) hx hb dX3_isLetter_22 rfl ?_
    refine g_callS (As := [.int (iI (TX at_)), .int (iI 65), .int (iI 70)]) (rest := []) (m_X3_in l G g (TX at_) 65 70 (⟨by omega, by omega⟩) ⟨by decide, by decide⟩ ⟨by decide, by decide⟩) hx hb hml hown hts Stab.tt hK hP hS hEs [] rfl q1518 q1519 q102 q1520 hd_X3_in rfl rfl ⟨Nat.le_of_ble_eq_true rfl, Nat.le_of_ble_eq_true rfl⟩ rfl hl rfl (Nat.le_of_ble_eq_true rfl) ⟨Nat.le_refl _, Nat.le_refl _⟩ dX3_isLetter_24 ?_
    refine g_ifq_eq (tgt := 46) hx hb dX3_isLetter_27 (by decide) (fun c3 => ?_) (fun c3 => ?_)
    · refine lv_aload_n hx hb dX3_isLetter_46 rfl (lv_at hl 0 rfl) ?_
      refine g_callVwi (As := []) (rest := []) (m_X3_stops l G g s.heap.size hM hnow hthen hpast kept htx ty th at_ fa htold tolds hac hal hre hse hpl many cost br hsy hat) hx hb hml hown hts Stab.tt hA hK hP hD hS hEs [0] rfl rfl (fun _ => rfl) (q0 := 0) rfl rfl q1662 q1664 qs74 q102 q1665 hd_X3_stops rfl rfl ⟨Nat.le_of_ble_eq_true rfl, Nat.le_of_ble_eq_true rfl⟩ rfl hl rfl (Nat.le_of_ble_eq_true rfl) ⟨Nat.le_refl _, Nat.le_refl _⟩ dX3_isLetter_47 (fun rr u H locs hp hP hS => ?_)
      have hrr : rr = (iI 0) := hp
      subst hrr
      have hP : va_P G CL [(hM, .inr (2, (mO hnow hthen hpast kept htx ty th at_ (at_ < ty) htold tolds hac hal hre hse hpl many cost br hsy))), (htx, .inl (g 0, 60, .inl (aI TX))), (htold, .inl (g 0, 63, .inl (aI TO)))] H := hP
      have hD : va_D A [(hM, .inr (2, (mO hnow hthen hpast kept htx ty th at_ (at_ < ty) htold tolds hac hal hre hse hpl many cost br hsy))), (htx, .inl (g 0, 60, .inl (aI TX))), (htold, .inl (g 0, 63, .inl (aI TO)))] := va_Dadr hD rfl
      refine W.widen (k := 0) (n := 0) (Nat.le_refl _) (Nat.le_refl _) ?_
      exact W.zret (v := (iI 0)) hx hb hr rfl (fun t ht hW => ⟨⟨_, (at_, at_ < ty), rfl, (by have hn : ¬ ltP TX ty at_ o_ := fun z => absurd z.2.1 (by assumption); exact ⟨congrArg iI (qz_f hn).symm, Or.inr ⟨hn, rfl⟩, fun _ => Iff.rfl⟩), by rw [← ht] at hP; exact (by rw [zf_f (P := ltP TX ty at_ o_) (fun z => absurd z.2.1 (by assumption))]; exact hP)⟩, hS.F ht⟩) hS.2.2 dX3_isLetter_50 hlk
    · refine lv_aload_n hx hb dX3_isLetter_30 rfl (lv_at hl 0 rfl) ?_
      refine va_get (D := G) (ci := 2) (v := .ref htx) (C := RX3) (T := TX3) (N := 20) hx hb hts in_X3 hown hK hP 0 rfl rfl 4 (by decide) (hts _ q1442) (fun _ h9 => h9) rfl dX3_isLetter_31 ?_
      refine lv_aload_n hx hb dX3_isLetter_34 rfl (lv_at hl 0 rfl) ?_
      refine va_get (D := G) (ci := 2) (v := .int (iI at_)) (C := RX3) (T := TX3) (N := 20) hx hb hts in_X3 hown hK hP 0 rfl rfl 7 (by decide) (hts _ q1445) (fun _ h9 => h9) rfl dX3_isLetter_35 ?_
      refine g_iald hx hb hK hP 1 0 rfl rfl (i := at_) (⟨by omega, by omega⟩) (by decide) dX3_isLetter_38 ?_
      have w4 := kTX at_ (by omega) (by omega)
      refine lv_bipush (v := iI 65) hx hb dX3_isLetter_39 rfl ?_
      refine g_isub hx hb dX3_isLetter_41 ?_
      refine lv_iload_n hx hb dX3_isLetter_42 rfl (lv_at hl 2 rfl) ?_
      refine g_icmp_ne (tgt := 51) hx hb dX3_isLetter_43 (by decide) ⟨⟨by omega, by omega⟩, r_o_⟩ (fun c5 => ?_) (fun c5 => ?_)
      · refine lv_aload_n hx hb dX3_isLetter_51 rfl (lv_at hl 0 rfl) ?_
        refine va_get (D := G) (ci := 2) (v := .ref htold) (C := RX3) (T := TX3) (N := 20) hx hb hts in_X3 hown hK hP 0 rfl rfl 9 (by decide) (hts _ q1447) (fun _ h9 => h9) rfl dX3_isLetter_52 ?_
        refine lv_iconst (v := iI 3) hx hb dX3_isLetter_55 rfl ?_
        refine lv_aload_n hx hb dX3_isLetter_56 rfl (lv_at hl 0 rfl) ?_
        refine va_get (D := G) (ci := 2) (v := .int (iI tolds)) (C := RX3) (T := TX3) (N := 20) hx hb hts in_X3 hown hK hP 0 rfl rfl 10 (by decide) (hts _ q1448) (fun _ h9 => h9) rfl dX3_isLetter_57 ?_
        refine g_imul hx hb dX3_isLetter_60 ?_
        refine lv_iload_n hx hb dX3_isLetter_61 rfl (lv_at hl 1 rfl) ?_
        refine g_iadd hx hb dX3_isLetter_62 ?_
        refine lv_aload_n hx hb dX3_isLetter_63 rfl (lv_at hl 0 rfl) ?_
        refine va_get (D := G) (ci := 2) (v := .ref htx) (C := RX3) (T := TX3) (N := 20) hx hb hts in_X3 hown hK hP 0 rfl rfl 4 (by decide) (hts _ q1442) (fun _ h9 => h9) rfl dX3_isLetter_64 ?_
        refine lv_aload_n hx hb dX3_isLetter_67 rfl (lv_at hl 0 rfl) ?_
        refine va_get (D := G) (ci := 2) (v := .int (iI at_)) (C := RX3) (T := TX3) (N := 20) hx hb hts in_X3 hown hK hP 0 rfl rfl 7 (by decide) (hts _ q1445) (fun _ h9 => h9) rfl dX3_isLetter_68 ?_
        refine g_iald hx hb hK hP 1 0 rfl rfl (i := at_) (⟨by omega, by omega⟩) (by decide) dX3_isLetter_71 ?_
        have w6 := kTX at_ (by omega) (by omega)
        refine lv_bipush (v := iI 65) hx hb dX3_isLetter_72 rfl ?_
        refine g_isub hx hb dX3_isLetter_74 ?_
        refine g_iast (ws1 := [(hM, .inr (2, (mO hnow hthen hpast kept htx ty th at_ fa htold tolds hac hal hre hse hpl many cost br hsy))), (htx, .inl (g 0, 60, .inl (aI TX))), (htold, .inl (g 0, 63, .inl (aI (uZ TO ((3 * tolds) + k_) ((TX at_) - 65)))))]) hx hb hK hP hD hS 2 0 rfl rfl (i := (3 * tolds) + k_) (⟨by omega, by omega⟩) (by decide) dX3_isLetter_75 rfl (fun H locs hP hS => ?_)
        have hD : va_D A [(hM, .inr (2, (mO hnow hthen hpast kept htx ty th at_ fa htold tolds hac hal hre hse hpl many cost br hsy))), (htx, .inl (g 0, 60, .inl (aI TX))), (htold, .inl (g 0, 63, .inl (aI (uZ TO ((3 * tolds) + k_) ((TX at_) - 65)))))] := va_Dadr hD rfl
        refine lv_aload_n hx hb dX3_isLetter_76 rfl (lv_at hl 0 rfl) ?_
        refine lv_dup hx hb dX3_isLetter_77 rfl ?_
        refine va_get (D := G) (ci := 2) (v := .int (iI at_)) (C := RX3) (T := TX3) (N := 20) hx hb hts in_X3 hown hK hP 0 rfl rfl 7 (by decide) (hts _ q1445) (fun _ h9 => h9) rfl dX3_isLetter_78 ?_
        refine lv_iconst (v := iI 1) hx hb dX3_isLetter_81 rfl ?_
        refine g_iadd hx hb dX3_isLetter_82 ?_
        refine g_put (D := G) (ci := 2) (v := .int (iI (at_ + 1))) (ty := .int) (C := RX3) (T := TX3) (N := 20) (ws1 := [(hM, .inr (2, (mO hnow hthen hpast kept htx ty th (at_ + 1) fa htold tolds hac hal hre hse hpl many cost br hsy))), (htx, .inl (g 0, 60, .inl (aI TX))), (htold, .inl (g 0, 63, .inl (aI (uZ TO ((3 * tolds) + k_) ((TX at_) - 65)))))]) hx hb hts in_X3 tyX3 tyX3_ok nmX3 hown hK hP hD hS 0 rfl rfl 7 (by decide) (hts _ q1445) (fun _ h9 => h9) rfl (by decide +kernel) (rfl) (rfl) (Nat.le_of_ble_eq_true rfl) dX3_isLetter_83 rfl (fun H locs hP hS => ?_)
        have hD : va_D A [(hM, .inr (2, (mO hnow hthen hpast kept htx ty th (at_ + 1) fa htold tolds hac hal hre hse hpl many cost br hsy))), (htx, .inl (g 0, 60, .inl (aI TX))), (htold, .inl (g 0, 63, .inl (aI (uZ TO ((3 * tolds) + k_) ((TX at_) - 65)))))] := va_Dadr hD rfl
        refine lv_iconst (v := iI 1) hx hb dX3_isLetter_86 rfl ?_
        exact W.zret (v := (iI 1)) hx hb hr rfl (fun t ht hW => ⟨⟨_, (at_ + 1, fa), rfl, ⟨congrArg iI (qz_t ⟨by assumption, by assumption, by assumption⟩).symm, Or.inl ⟨⟨by assumption, by assumption, by assumption⟩, rfl⟩, fun z => absurd ⟨by assumption, by assumption, by assumption⟩ z⟩, by rw [← ht] at hP; exact (by rw [zf_t ⟨by assumption, by assumption, by assumption⟩]; exact hP)⟩, hS.F ht⟩) hS.2.2 dX3_isLetter_87 hlk
      · refine lv_aload_n hx hb dX3_isLetter_46 rfl (lv_at hl 0 rfl) ?_
        refine g_callVwi (As := []) (rest := []) (m_X3_stops l G g s.heap.size hM hnow hthen hpast kept htx ty th at_ fa htold tolds hac hal hre hse hpl many cost br hsy hat) hx hb hml hown hts Stab.tt hA hK hP hD hS hEs [0] rfl rfl (fun _ => rfl) (q0 := 0) rfl rfl q1662 q1664 qs74 q102 q1665 hd_X3_stops rfl rfl ⟨Nat.le_of_ble_eq_true rfl, Nat.le_of_ble_eq_true rfl⟩ rfl hl rfl (Nat.le_of_ble_eq_true rfl) ⟨Nat.le_refl _, Nat.le_refl _⟩ dX3_isLetter_47 (fun rr u H locs hp hP hS => ?_)
        have hrr : rr = (iI 0) := hp
        subst hrr
        have hP : va_P G CL [(hM, .inr (2, (mO hnow hthen hpast kept htx ty th at_ (at_ < ty) htold tolds hac hal hre hse hpl many cost br hsy))), (htx, .inl (g 0, 60, .inl (aI TX))), (htold, .inl (g 0, 63, .inl (aI TO)))] H := hP
        have hD : va_D A [(hM, .inr (2, (mO hnow hthen hpast kept htx ty th at_ (at_ < ty) htold tolds hac hal hre hse hpl many cost br hsy))), (htx, .inl (g 0, 60, .inl (aI TX))), (htold, .inl (g 0, 63, .inl (aI TO)))] := va_Dadr hD rfl
        refine W.widen (k := 0) (n := 0) (Nat.le_refl _) (Nat.le_refl _) ?_
        exact W.zret (v := (iI 0)) hx hb hr rfl (fun t ht hW => ⟨⟨_, (at_, at_ < ty), rfl, (by have hn : ¬ ltP TX ty at_ o_ := fun z => z.2.2 (by assumption); exact ⟨congrArg iI (qz_f hn).symm, Or.inr ⟨hn, rfl⟩, fun _ => Iff.rfl⟩), by rw [← ht] at hP; exact (by rw [zf_f (P := ltP TX ty at_ o_) (fun z => z.2.2 (by assumption))]; exact hP)⟩, hS.F ht⟩) hS.2.2 dX3_isLetter_50 hlk
theorem hd_X3_isOrder : yX3_isOrder.cls = RX3 ∧ yX3_isOrder.cls ≠ "java/lang/invoke/MethodHandle" ∧ yX3_isOrder.cls ≠ "java/lang/invoke/VarHandle" ∧ (parseMethodDescriptor yX3_isOrder.desc).map (fun d => d.parameters.length) = some 0 := by decide +kernel
set_option maxHeartbeats 1000000 in
set_option maxRecDepth 100000 in
theorem m_X3_isOrder (l : Launch) (G : va_G) (g : Nat → ClassId) (sz : Nat) (hM : Nat) (hnow : Nat) (hthen : Nat) (hpast : Nat) (kept : Int) (htx : Nat) (ty : Int) (th : Int) (at_ : Int) (fa : Prop) (htold : Nat) (tolds : Int) (hac : Nat) (hal : Nat) (hre : Nat) (hse : Nat) (hpl : Nat) (many : Int) (cost : Int) (br : Int) (hsy : Nat) (TX : Int → Int) (TO : Int → Int) (kTX : rgT TX) (hat : 0 ≤ at_ ∧ at_ ≤ ty ∧ ty ≤ 60) (htd : 0 ≤ tolds ∧ tolds ≤ 12) : Met l yX3_isOrder (ws_ yX3_isOrder cX3_isOrder 2 (Option.some Jvm.ClassFile.FieldType.boolean)) ({ frames := 3, cells := 0, slots := 0, locals := 66 }) (va_Pc [.ref hM] (wrB G CL (TY g) (fun _ => True) [(hM, .inr (2, (mO hnow hthen hpast kept htx ty th at_ fa htold tolds hac hal hre hse hpl many cost br hsy))), (htx, .inl (g 0, 60, .inl (aI TX))), (htold, .inl (g 0, 63, .inl (aI TO)))] sz)) (va_Qi (fun (r : Int32) (u : Int × Prop × (Int → Int)) => r = (iI (qz (orOK TX ty at_))) ∧ (u.1 = orA TX ty at_) ∧ (¬ orOK TX ty at_ → (u.2.1 ↔ u.1 < ty)) ∧ (orOK TX ty at_ → u.2.2 (3 * tolds) = TX at_ - 65 ∧ u.2.2 (3 * tolds + 1) = TX (at_ + 1) - 65 ∧ u.2.2 (3 * tolds + 2) = orW TX ty at_) ∧ (∀ j9 : Int, 0 ≤ j9 → j9 < 3 * tolds → u.2.2 j9 = TO j9)) (fun (u : Int × Prop × (Int → Int)) t => va_P G CL [(hM, .inr (2, (mO hnow hthen hpast kept htx ty th u.1 u.2.1 htold tolds hac hal hre hse hpl many cost br hsy))), (htx, .inl (g 0, 60, .inl (aI TX))), (htold, .inl (g 0, 63, .inl (aI u.2.2)))] t.heap) (va_A [(hM, .inr (2, (mO hnow hthen hpast kept htx ty th at_ fa htold tolds hac hal hre hse hpl many cost br hsy))), (htx, .inl (g 0, 60, .inl (aI TX))), (htold, .inl (g 0, 63, .inl (aI TO)))] sz)) 0 0 (va_A [(hM, .inr (2, (mO hnow hthen hpast kept htx ty th at_ fa htold tolds hac hal hre hse hpl many cost br hsy))), (htx, .inl (g 0, 60, .inl (aI TX))), (htold, .inl (g 0, 63, .inl (aI TO)))] sz) := by
  refine Met.at (by decide) (Nat.le_of_ble_eq_true rfl) ?_
  intro p e s m below meth c hx hb hr hlk hml hown hnm hts hB ls hl
  have hown : s.vm.findClass RX3 = some m.cls := hown
  obtain ⟨hsz, hP, hK, hD0, hEs⟩ := hB
  subst hsz
  have hD := hD0.self (sz := s.heap.size)
  generalize hAe : va_A [(hM, .inr (2, (mO hnow hthen hpast kept htx ty th at_ fa htold tolds hac hal hre hse hpl many cost br hsy))), (htx, .inl (g 0, 60, .inl (aI TX))), (htold, .inl (g 0, 63, .inl (aI TO)))] s.heap.size = A at hD ⊢
  have hA : ∀ q : Nat, s.heap.size ≤ q → A q := fun q h => by rw [← hAe]; exact Or.inr h
  have hS : va_S A s.heap s.heap [] := va_S.rf
  have hl : lv_has ls 2 [(0, .ref hM)] := hl
  refine lv_aload_n hx hb dX3_isOrder_0 rfl (lv_at hl 0 rfl) ?_
  refine lv_iconst (v := iI 0) hx hb dX3_isOrder_1 rfl ?_
  refine lv_iconst (v := iI (-1)) hx hb dX3_isOrder_2 rfl ?_
  refine g_callVwi (As := [.int (iI 0), .int (iI (-1))]) (rest := []) (m_X3_isLetter l G g s.heap.size hM 0 (-1) hnow hthen hpast kept htx ty th at_ fa htold tolds hac hal hre hse hpl many cost br hsy TX TO ⟨by decide, by decide⟩ (⟨by decide, by decide⟩) kTX hat (by omega) (by omega)) hx hb hml hown hts Stab.tt hA hK hP hD hS hEs [0, 1, 2] rfl rfl (fun _ => rfl) (q0 := 0) rfl rfl q1658 q1660 qs73 q102 q1661 hd_X3_isLetter rfl rfl ⟨Nat.le_of_ble_eq_true rfl, Nat.le_of_ble_eq_true rfl⟩ rfl hl rfl (Nat.le_of_ble_eq_true rfl) ⟨Nat.le_refl _, Nat.le_refl _⟩ dX3_isOrder_3 (fun rr u H locs hp hP hS => ?_)
  obtain ⟨A1, F1⟩ := u
  obtain ⟨hrr, la, lb⟩ : rr = (iI (qz (ltP TX ty at_ (-1)))) ∧ ((ltP TX ty at_ (-1) ∧ A1 = at_ + 1) ∨ (¬ ltP TX ty at_ (-1) ∧ A1 = at_)) ∧ (¬ ltP TX ty at_ (-1) → (F1 ↔ at_ < ty)) := hp
  subst hrr
  have hP : va_P G CL [(hM, .inr (2, (mO hnow hthen hpast kept htx ty th A1 F1 htold tolds hac hal hre hse hpl many cost br hsy))), (htx, .inl (g 0, 60, .inl (aI TX))), (htold, .inl (g 0, 63, .inl (aI (zf (ltP TX ty at_ (-1)) (uZ TO (3 * tolds + 0) (TX at_ - 65)) TO))))] H := hP
  have hD : va_D A [(hM, .inr (2, (mO hnow hthen hpast kept htx ty th A1 F1 htold tolds hac hal hre hse hpl many cost br hsy))), (htx, .inl (g 0, 60, .inl (aI TX))), (htold, .inl (g 0, 63, .inl (aI (zf (ltP TX ty at_ (-1)) (uZ TO (3 * tolds + 0) (TX at_ - 65)) TO))))] := va_Dadr hD rfl
  refine W.widen (k := 0) (n := 0) (Nat.le_refl _) (Nat.le_refl _) ?_
  refine g_ifq_eq (tgt := 28) hx hb dX3_isOrder_6 (by decide) (fun c1 => ?_) (fun c1 => ?_)
  · refine lv_iconst (v := iI 0) hx hb dX3_isOrder_28 rfl ?_
    exact W.zret (v := (iI 0)) hx hb hr rfl (fun t ht hW => ⟨⟨_, (A1, F1, (zf (ltP TX ty at_ (-1)) (uZ TO (3 * tolds + 0) (TX at_ - 65)) TO)), rfl, (by have hn : ¬ ltP TX ty at_ (-1) := (by assumption); have o1 := or_1 hn; exact ⟨congrArg iI (qz_f o1.1).symm, by rw [o1.2]; omega, fun _ => (lb hn).trans ⟨fun z => by omega, fun z => by omega⟩, fun z => absurd z o1.1, fun j a b => congrFun (zf_f hn) j⟩), by rw [← ht] at hP; exact hP⟩, hS.F ht⟩) hS.2.2 dX3_isOrder_29 hlk
  · have l1 : ltP TX ty at_ (-1) := by assumption
    have e1 : A1 = at_ + 1 := by omega
    have hP : va_P G CL [(hM, .inr (2, (mO hnow hthen hpast kept htx ty th A1 F1 htold tolds hac hal hre hse hpl many cost br hsy))), (htx, .inl (g 0, 60, .inl (aI TX))), (htold, .inl (g 0, 63, .inl (aI (uZ TO (3 * tolds + 0) (TX at_ - 65)))))] H := g_re hP 2 rfl (fun j a c => congrFun (zf_t l1) j) rfl
    have hD : va_D A [(hM, .inr (2, (mO hnow hthen hpast kept htx ty th A1 F1 htold tolds hac hal hre hse hpl many cost br hsy))), (htx, .inl (g 0, 60, .inl (aI TX))), (htold, .inl (g 0, 63, .inl (aI (uZ TO (3 * tolds + 0) (TX at_ - 65)))))] := va_Dadr hD rfl
    refine lv_aload_n hx hb dX3_isOrder_9 rfl (lv_at hl 0 rfl) ?_
    refine lv_iconst (v := iI 1) hx hb dX3_isOrder_10 rfl ?_
    refine lv_aload_n hx hb dX3_isOrder_11 rfl (lv_at hl 0 rfl) ?_
    refine va_get (D := G) (ci := 2) (v := .ref htold) (C := RX3) (T := TX3) (N := 20) hx hb hts in_X3 hown hK hP 0 rfl rfl 9 (by decide) (hts _ q1447) (fun _ h9 => h9) rfl dX3_isOrder_12 ?_
    refine lv_iconst (v := iI 3) hx hb dX3_isOrder_15 rfl ?_
    refine lv_aload_n hx hb dX3_isOrder_16 rfl (lv_at hl 0 rfl) ?_
    refine va_get (D := G) (ci := 2) (v := .int (iI tolds)) (C := RX3) (T := TX3) (N := 20) hx hb hts in_X3 hown hK hP 0 rfl rfl 10 (by decide) (hts _ q1448) (fun _ h9 => h9) rfl dX3_isOrder_17 ?_
    refine g_imul hx hb dX3_isOrder_20 ?_
    refine g_iald hx hb hK hP 2 0 rfl rfl (i := 3 * tolds) (⟨by omega, by omega⟩) (by decide) dX3_isOrder_21 ?_
    refine g_eq (show (uZ TO (3 * tolds + 0) (TX at_ - 65)) (3 * tolds) = TX at_ - 65 from by rw [show 3 * tolds + 0 = 3 * tolds from by omega]; exact uZ_s) ?_
    refine g_callVwi (As := [.int (iI 1), .int (iI (TX at_ - 65))]) (rest := []) (m_X3_isLetter l G g H.size hM 1 (TX at_ - 65) hnow hthen hpast kept htx ty th A1 F1 htold tolds hac hal hre hse hpl many cost br hsy TX (uZ TO (3 * tolds + 0) (TX at_ - 65)) ⟨by decide, by decide⟩ (⟨by omega, by omega⟩) kTX (by omega) (by omega) (by omega)) hx hb hml hown hts Stab.tt hA hK hP hD hS hEs [0, 1, 2] rfl rfl (fun _ => rfl) (q0 := 0) rfl rfl q1658 q1660 qs73 q102 q1661 hd_X3_isLetter rfl rfl ⟨Nat.le_of_ble_eq_true rfl, Nat.le_of_ble_eq_true rfl⟩ rfl hl rfl (Nat.le_of_ble_eq_true rfl) ⟨Nat.le_refl _, Nat.le_refl _⟩ dX3_isOrder_22 (fun rr u H locs hp hP hS => ?_)
    obtain ⟨A2, F2⟩ := u
    obtain ⟨hrr, lc, ld⟩ : rr = (iI (qz (ltP TX ty A1 (TX at_ - 65)))) ∧ ((ltP TX ty A1 (TX at_ - 65) ∧ A2 = A1 + 1) ∨ (¬ ltP TX ty A1 (TX at_ - 65) ∧ A2 = A1)) ∧ (¬ ltP TX ty A1 (TX at_ - 65) → (F2 ↔ A1 < ty)) := hp
    subst hrr
    have hP : va_P G CL [(hM, .inr (2, (mO hnow hthen hpast kept htx ty th A2 F2 htold tolds hac hal hre hse hpl many cost br hsy))), (htx, .inl (g 0, 60, .inl (aI TX))), (htold, .inl (g 0, 63, .inl (aI (zf (ltP TX ty A1 (TX at_ - 65)) (uZ (uZ TO (3 * tolds + 0) (TX at_ - 65)) (3 * tolds + 1) (TX A1 - 65)) (uZ TO (3 * tolds + 0) (TX at_ - 65))))))] H := hP
    have hD : va_D A [(hM, .inr (2, (mO hnow hthen hpast kept htx ty th A2 F2 htold tolds hac hal hre hse hpl many cost br hsy))), (htx, .inl (g 0, 60, .inl (aI TX))), (htold, .inl (g 0, 63, .inl (aI (zf (ltP TX ty A1 (TX at_ - 65)) (uZ (uZ TO (3 * tolds + 0) (TX at_ - 65)) (3 * tolds + 1) (TX A1 - 65)) (uZ TO (3 * tolds + 0) (TX at_ - 65))))))] := va_Dadr hD rfl
    refine W.widen (k := 0) (n := 0) (Nat.le_refl _) (Nat.le_refl _) ?_
    refine g_ifq_ne (tgt := 30) hx hb dX3_isOrder_25 (by decide) (fun c2 => ?_) (fun c2 => ?_)
    · have l2a : ltP TX ty A1 (TX at_ - 65) := by assumption
      have l2 : ltP TX ty (at_ + 1) (TX at_ - 65) := by rw [← e1]; exact l2a
      have e2 : A2 = at_ + 2 := by omega
      have hP : va_P G CL [(hM, .inr (2, (mO hnow hthen hpast kept htx ty th A2 F2 htold tolds hac hal hre hse hpl many cost br hsy))), (htx, .inl (g 0, 60, .inl (aI TX))), (htold, .inl (g 0, 63, .inl (aI (uZ (uZ TO (3 * tolds + 0) (TX at_ - 65)) (3 * tolds + 1) (TX A1 - 65)))))] H := g_re hP 2 rfl (fun j a c => congrFun (zf_t l2a) j) rfl
      have hD : va_D A [(hM, .inr (2, (mO hnow hthen hpast kept htx ty th A2 F2 htold tolds hac hal hre hse hpl many cost br hsy))), (htx, .inl (g 0, 60, .inl (aI TX))), (htold, .inl (g 0, 63, .inl (aI (uZ (uZ TO (3 * tolds + 0) (TX at_ - 65)) (3 * tolds + 1) (TX A1 - 65)))))] := va_Dadr hD rfl
      refine lv_aload_n hx hb dX3_isOrder_30 rfl (lv_at hl 0 rfl) ?_
      refine va_get (D := G) (ci := 2) (v := .ref htold) (C := RX3) (T := TX3) (N := 20) hx hb hts in_X3 hown hK hP 0 rfl rfl 9 (by decide) (hts _ q1447) (fun _ h9 => h9) rfl dX3_isOrder_31 ?_
      refine lv_iconst (v := iI 3) hx hb dX3_isOrder_34 rfl ?_
      refine lv_aload_n hx hb dX3_isOrder_35 rfl (lv_at hl 0 rfl) ?_
      refine va_get (D := G) (ci := 2) (v := .int (iI tolds)) (C := RX3) (T := TX3) (N := 20) hx hb hts in_X3 hown hK hP 0 rfl rfl 10 (by decide) (hts _ q1448) (fun _ h9 => h9) rfl dX3_isOrder_36 ?_
      refine g_imul hx hb dX3_isOrder_39 ?_
      refine lv_iconst (v := iI 2) hx hb dX3_isOrder_40 rfl ?_
      refine g_iadd hx hb dX3_isOrder_41 ?_
      refine lv_iconst (v := iI (-1)) hx hb dX3_isOrder_42 rfl ?_
      refine g_iast (ws1 := [(hM, .inr (2, (mO hnow hthen hpast kept htx ty th A2 F2 htold tolds hac hal hre hse hpl many cost br hsy))), (htx, .inl (g 0, 60, .inl (aI TX))), (htold, .inl (g 0, 63, .inl (aI (uZ (uZ (uZ TO (3 * tolds + 0) (TX at_ - 65)) (3 * tolds + 1) (TX A1 - 65)) ((3 * tolds) + 2) (-1)))))]) hx hb hK hP hD hS 2 0 rfl rfl (i := (3 * tolds) + 2) (⟨by omega, by omega⟩) (by decide) dX3_isOrder_43 rfl (fun H locs hP hS => ?_)
      have hD : va_D A [(hM, .inr (2, (mO hnow hthen hpast kept htx ty th A2 F2 htold tolds hac hal hre hse hpl many cost br hsy))), (htx, .inl (g 0, 60, .inl (aI TX))), (htold, .inl (g 0, 63, .inl (aI (uZ (uZ (uZ TO (3 * tolds + 0) (TX at_ - 65)) (3 * tolds + 1) (TX A1 - 65)) ((3 * tolds) + 2) (-1)))))] := va_Dadr hD rfl
      refine lv_aload_n hx hb dX3_isOrder_44 rfl (lv_at hl 0 rfl) ?_
      refine lv_bipush (v := iI 58) hx hb dX3_isOrder_45 rfl ?_
      refine g_callVwi (As := [.int (iI 58)]) (rest := []) (m_X3_isSign l G g H.size hM 58 hnow hthen hpast kept htx ty th A2 F2 htold tolds hac hal hre hse hpl many cost br hsy TX ⟨by decide, by decide⟩ kTX (by omega)) hx hb hml hown hts Stab.tt hA hK hP hD hS hEs [0, 1] rfl rfl (fun _ => rfl) (q0 := 0) rfl rfl q1666 q1668 qs75 q102 q1669 hd_X3_isSign rfl rfl ⟨Nat.le_of_ble_eq_true rfl, Nat.le_of_ble_eq_true rfl⟩ rfl hl rfl (Nat.le_of_ble_eq_true rfl) ⟨Nat.le_refl _, Nat.le_refl _⟩ dX3_isOrder_47 (fun rr u H locs hp hP hS => ?_)
      obtain ⟨A3, F3⟩ := u
      obtain ⟨hrr, le, lf⟩ : rr = (iI (qz (A2 < ty ∧ TX A2 = 58))) ∧ (((A2 < ty ∧ TX A2 = 58) ∧ A3 = A2 + 1) ∨ (¬ (A2 < ty ∧ TX A2 = 58) ∧ A3 = A2)) ∧ (¬ (A2 < ty ∧ TX A2 = 58) → (F3 ↔ A2 < ty)) := hp
      subst hrr
      have hP : va_P G CL [(hM, .inr (2, (mO hnow hthen hpast kept htx ty th A3 F3 htold tolds hac hal hre hse hpl many cost br hsy))), (htx, .inl (g 0, 60, .inl (aI TX))), (htold, .inl (g 0, 63, .inl (aI (uZ (uZ (uZ TO (3 * tolds + 0) (TX at_ - 65)) (3 * tolds + 1) (TX A1 - 65)) ((3 * tolds) + 2) (-1)))))] H := hP
      have hD : va_D A [(hM, .inr (2, (mO hnow hthen hpast kept htx ty th A3 F3 htold tolds hac hal hre hse hpl many cost br hsy))), (htx, .inl (g 0, 60, .inl (aI TX))), (htold, .inl (g 0, 63, .inl (aI (uZ (uZ (uZ TO (3 * tolds + 0) (TX at_ - 65)) (3 * tolds + 1) (TX A1 - 65)) ((3 * tolds) + 2) (-1)))))] := va_Dadr hD rfl
      refine W.widen (k := 0) (n := 0) (Nat.le_refl _) (Nat.le_refl _) ?_
      refine g_ifq_ne (tgt := 55) hx hb dX3_isOrder_50 (by decide) (fun c3 => ?_) (fun c3 => ?_)
      · have l3 : at_ + 2 < ty ∧ TX (at_ + 2) = 58 := by rw [show at_ + 2 = A2 from by omega]; assumption
        have e3 : A3 = at_ + 3 := by omega
        refine lv_aload_n hx hb dX3_isOrder_55 rfl (lv_at hl 0 rfl) ?_
        refine lv_bipush (v := iI 33) hx hb dX3_isOrder_56 rfl ?_
        refine g_callV (As := [.int (iI 33)]) (rest := []) (m_X3_isAt l G g hM 33 (mO hnow hthen hpast kept htx ty th A3 F3 htold tolds hac hal hre hse hpl many cost br hsy) htx ty A3 TX rfl rfl rfl ⟨by decide, by decide⟩ kTX (by omega)) hx hb hml hown hts Stab.tt hK hP hS hEs [0, 1] rfl (q0 := 0) rfl rfl q1670 q1672 qs76 q102 q1673 hd_X3_isAt rfl rfl ⟨Nat.le_of_ble_eq_true rfl, Nat.le_of_ble_eq_true rfl⟩ rfl hl rfl (Nat.le_of_ble_eq_true rfl) ⟨Nat.le_refl _, Nat.le_refl _⟩ dX3_isOrder_58 ?_
        refine g_ifq_eq (tgt := 76) hx hb dX3_isOrder_61 (by decide) (fun c4 => ?_) (fun c4 => ?_)
        · have l4 : ¬ exP TX ty at_ := by unfold exP; rw [show at_ + 3 = A3 from by omega]; assumption
          refine lv_aload_n hx hb dX3_isOrder_76 rfl (lv_at hl 0 rfl) ?_
          refine lv_bipush (v := iI 110) hx hb dX3_isOrder_77 rfl ?_
          refine g_callV (As := [.int (iI 110)]) (rest := []) (m_X3_isAt l G g hM 110 (mO hnow hthen hpast kept htx ty th A3 F3 htold tolds hac hal hre hse hpl many cost br hsy) htx ty A3 TX rfl rfl rfl ⟨by decide, by decide⟩ kTX (by omega)) hx hb hml hown hts Stab.tt hK hP hS hEs [0, 1] rfl (q0 := 0) rfl rfl q1670 q1672 qs76 q102 q1673 hd_X3_isAt rfl rfl ⟨Nat.le_of_ble_eq_true rfl, Nat.le_of_ble_eq_true rfl⟩ rfl hl rfl (Nat.le_of_ble_eq_true rfl) ⟨Nat.le_refl _, Nat.le_refl _⟩ dX3_isOrder_79 ?_
          have hJ5 : ∀ ls : Array Slot, lv_has ls 2 [(0, .ref hM)] → W p l e ({ frames := 3, cells := 0, slots := 0, locals := 66 }) s m ([.ref hM] : List Value).toArray below meth c H locs 0 0 (MQ below (va_Qi (fun (r : Int32) (u : Int × Prop × (Int → Int)) => r = (iI (qz (orOK TX ty at_))) ∧ (u.1 = orA TX ty at_) ∧ (¬ orOK TX ty at_ → (u.2.1 ↔ u.1 < ty)) ∧ (orOK TX ty at_ → u.2.2 (3 * tolds) = TX at_ - 65 ∧ u.2.2 (3 * tolds + 1) = TX (at_ + 1) - 65 ∧ u.2.2 (3 * tolds + 2) = orW TX ty at_) ∧ (∀ j9 : Int, 0 ≤ j9 → j9 < 3 * tolds → u.2.2 j9 = TO j9)) (fun (u : Int × Prop × (Int → Int)) t => va_P G CL [(hM, .inr (2, (mO hnow hthen hpast kept htx ty th u.1 u.2.1 htold tolds hac hal hre hse hpl many cost br hsy))), (htx, .inl (g 0, 60, .inl (aI TX))), (htold, .inl (g 0, 63, .inl (aI u.2.2)))] t.heap) A) ([.ref hM] : List Value).toArray s 0 0 A) (F0 m 116 ls [.int (iI (zi (A3 < ty ∧ TX A3 = 110) 0 (zi (A3 < ty ∧ TX A3 = 111) 1 (zi (A3 < ty ∧ TX A3 = 112) 2 3))))]) := by
            intro ls hl
            have o7 := zi_or (A3 < ty ∧ TX A3 = 110) 0 (zi (A3 < ty ∧ TX A3 = 111) 1 (zi (A3 < ty ∧ TX A3 = 112) 2 3))
            have o8 := zi_or (A3 < ty ∧ TX A3 = 111) 1 (zi (A3 < ty ∧ TX A3 = 112) 2 3)
            have o9 := zi_or (A3 < ty ∧ TX A3 = 112) 2 3
            obtain ⟨v6, e_v6⟩ : ∃ z : Int, z = zi (A3 < ty ∧ TX A3 = 110) 0 (zi (A3 < ty ∧ TX A3 = 111) 1 (zi (A3 < ty ∧ TX A3 = 112) 2 3)) := ⟨_, rfl⟩
            refine g_eq e_v6.symm ?_
            refine lv_istore_n (lv' := [(1, .int (iI v6)), (0, .ref hM)]) hx hb dX3_isOrder_116 rfl hl (by decide) rfl (fun ls hl => ?_)
            have ow : owd TX ty at_ = v6 := by rw [e_v6]; unfold owd; rw [show at_ + 3 = A3 from by omega]
            refine lv_aload_n hx hb dX3_isOrder_117 rfl (lv_at hl 1 rfl) ?_
            refine va_get (D := G) (ci := 2) (v := .ref htold) (C := RX3) (T := TX3) (N := 20) hx hb hts in_X3 hown hK hP 0 rfl rfl 9 (by decide) (hts _ q1447) (fun _ h9 => h9) rfl dX3_isOrder_118 ?_
            refine lv_iconst (v := iI 3) hx hb dX3_isOrder_121 rfl ?_
            refine lv_aload_n hx hb dX3_isOrder_122 rfl (lv_at hl 1 rfl) ?_
            refine va_get (D := G) (ci := 2) (v := .int (iI tolds)) (C := RX3) (T := TX3) (N := 20) hx hb hts in_X3 hown hK hP 0 rfl rfl 10 (by decide) (hts _ q1448) (fun _ h9 => h9) rfl dX3_isOrder_123 ?_
            refine g_imul hx hb dX3_isOrder_126 ?_
            refine lv_iconst (v := iI 2) hx hb dX3_isOrder_127 rfl ?_
            refine g_iadd hx hb dX3_isOrder_128 ?_
            refine lv_iload_n hx hb dX3_isOrder_129 rfl (lv_at hl 0 rfl) ?_
            refine g_iast (ws1 := [(hM, .inr (2, (mO hnow hthen hpast kept htx ty th A3 F3 htold tolds hac hal hre hse hpl many cost br hsy))), (htx, .inl (g 0, 60, .inl (aI TX))), (htold, .inl (g 0, 63, .inl (aI (uZ (uZ (uZ (uZ TO (3 * tolds + 0) (TX at_ - 65)) (3 * tolds + 1) (TX A1 - 65)) ((3 * tolds) + 2) (-1)) ((3 * tolds) + 2) v6))))]) hx hb hK hP hD hS 2 0 rfl rfl (i := (3 * tolds) + 2) (⟨by omega, by omega⟩) (by decide) dX3_isOrder_130 rfl (fun H locs hP hS => ?_)
            have hD : va_D A [(hM, .inr (2, (mO hnow hthen hpast kept htx ty th A3 F3 htold tolds hac hal hre hse hpl many cost br hsy))), (htx, .inl (g 0, 60, .inl (aI TX))), (htold, .inl (g 0, 63, .inl (aI (uZ (uZ (uZ (uZ TO (3 * tolds + 0) (TX at_ - 65)) (3 * tolds + 1) (TX A1 - 65)) ((3 * tolds) + 2) (-1)) ((3 * tolds) + 2) v6))))] := va_Dadr hD rfl
            refine lv_iload_n hx hb dX3_isOrder_131 rfl (lv_at hl 0 rfl) ?_
            have s10 : v6 = 0 ∨ v6 = 1 ∨ v6 = 2 ∨ v6 = 3 := by omega
            rcases s10 with s10 | s10 | s10 | s10
            · refine g_eq s10 ?_
              refine lv_tableIn (tgt := 160) hx hb dX3_isOrder_132 (by decide) (by decide) rfl (by decide) ?_
              refine lv_aload_n hx hb dX3_isOrder_160 rfl (lv_at hl 1 rfl) ?_
              refine lv_bipush (v := iI 110) hx hb dX3_isOrder_161 rfl ?_
              refine lv_bipush (v := iI 111) hx hb dX3_isOrder_163 rfl ?_
              refine lv_bipush (v := iI 110) hx hb dX3_isOrder_165 rfl ?_
              refine lv_bipush (v := iI 101) hx hb dX3_isOrder_167 rfl ?_
              refine g_callVwi (As := [.int (iI 110), .int (iI 111), .int (iI 110), .int (iI 101)]) (rest := []) (m_X3_isWord_0 l G g H.size hM hnow hthen hpast kept htx ty th A3 F3 htold tolds hac hal hre hse hpl many cost br hsy TX kTX (by omega)) hx hb hml hown hts Stab.tt hA hK hP hD hS hEs [0, 1] rfl rfl (fun _ => rfl) (q0 := 0) rfl rfl q1674 q1676 qs77 q102 q1677 hd_X3_isWord rfl rfl ⟨Nat.le_of_ble_eq_true rfl, Nat.le_of_ble_eq_true rfl⟩ rfl hl rfl (Nat.le_of_ble_eq_true rfl) ⟨Nat.le_refl _, Nat.le_refl _⟩ dX3_isOrder_169 (fun rr u H locs hp hP hS => ?_)
              obtain ⟨a1_11, f1_12⟩ := u
              obtain ⟨hrr, wm1, wm2⟩ : rr = (iI (qz (mt TX ty A3 (wd 0) 4 = 4))) ∧ (a1_11 = A3 + mt TX ty A3 (wd 0) 4) ∧ (¬ mt TX ty A3 (wd 0) 4 = 4 → (f1_12 ↔ a1_11 < ty)) := hp
              subst hrr
              have hP : va_P G CL [(hM, .inr (2, (mO hnow hthen hpast kept htx ty th a1_11 f1_12 htold tolds hac hal hre hse hpl many cost br hsy))), (htx, .inl (g 0, 60, .inl (aI TX))), (htold, .inl (g 0, 63, .inl (aI (uZ (uZ (uZ (uZ TO (3 * tolds + 0) (TX at_ - 65)) (3 * tolds + 1) (TX A1 - 65)) ((3 * tolds) + 2) (-1)) ((3 * tolds) + 2) v6))))] H := hP
              have hD : va_D A [(hM, .inr (2, (mO hnow hthen hpast kept htx ty th a1_11 f1_12 htold tolds hac hal hre hse hpl many cost br hsy))), (htx, .inl (g 0, 60, .inl (aI TX))), (htold, .inl (g 0, 63, .inl (aI (uZ (uZ (uZ (uZ TO (3 * tolds + 0) (TX at_ - 65)) (3 * tolds + 1) (TX A1 - 65)) ((3 * tolds) + 2) (-1)) ((3 * tolds) + 2) v6))))] := va_Dadr hD rfl
              refine W.widen (k := 0) (n := 0) (Nat.le_refl _) (Nat.le_refl _) ?_
              exact W.zret (v := (iI (qz (mt TX ty A3 (wd 0) 4 = 4)))) hx hb hr (narrow_z _) (fun t ht hW => ⟨⟨_, (a1_11, f1_12, uZ (uZ (uZ (uZ TO (3 * tolds + 0) (TX at_ - 65)) (3 * tolds + 1) (TX A1 - 65)) ((3 * tolds) + 2) (-1)) ((3 * tolds) + 2) v6), rfl, (by have o5 := or_5 (T := TX) (n := ty) (a := at_) l1 l2 l3 (by assumption); have ok := omt_k (T := TX) (n := ty) (a := at_) (k := 0) (N := 4) (by rw [ow]; assumption) rfl; rw [show at_ + 3 = A3 from by omega] at ok; have iff9 : orOK TX ty at_ ↔ mt TX ty A3 (wd 0) 4 = 4 := (by rw [o5.1, ok.1, ok.2]; rfl); exact ⟨congrArg iI (qz_congr iff9.symm), by rw [o5.2.1, ok.1]; omega, fun z => wm2 (fun q => z (iff9.mpr q)), fun _ => ⟨by dsimp only; rw [uZ_n (by omega), uZ_n (by omega), uZ_n (by omega), show 3 * tolds + 0 = 3 * tolds from by omega]; exact uZ_s, by dsimp only; rw [uZ_n (by omega), uZ_n (by omega), show at_ + 1 = A1 from by omega]; exact uZ_s, by rw [o5.2.2, ow]; exact uZ_s⟩, fun j a b => by dsimp only; rw [uZ_n (by omega), uZ_n (by omega), uZ_n (by omega), uZ_n (by omega)]⟩), by rw [← ht] at hP; exact hP⟩, hS.F ht⟩) hS.2.2 dX3_isOrder_172 hlk
            · refine g_eq s10 ?_
              refine lv_tableIn (tgt := 173) hx hb dX3_isOrder_132 (by decide) (by decide) rfl (by decide) ?_
              refine lv_aload_n hx hb dX3_isOrder_173 rfl (lv_at hl 1 rfl) ?_
              refine lv_bipush (v := iI 111) hx hb dX3_isOrder_174 rfl ?_
              refine lv_bipush (v := iI 110) hx hb dX3_isOrder_176 rfl ?_
              refine lv_bipush (v := iI 101) hx hb dX3_isOrder_178 rfl ?_
              refine lv_iconst (v := iI 0) hx hb dX3_isOrder_180 rfl ?_
              refine g_callVwi (As := [.int (iI 111), .int (iI 110), .int (iI 101), .int (iI 0)]) (rest := []) (m_X3_isWord_1 l G g H.size hM hnow hthen hpast kept htx ty th A3 F3 htold tolds hac hal hre hse hpl many cost br hsy TX kTX (by omega)) hx hb hml hown hts Stab.tt hA hK hP hD hS hEs [0, 1] rfl rfl (fun _ => rfl) (q0 := 0) rfl rfl q1674 q1676 qs77 q102 q1677 hd_X3_isWord rfl rfl ⟨Nat.le_of_ble_eq_true rfl, Nat.le_of_ble_eq_true rfl⟩ rfl hl rfl (Nat.le_of_ble_eq_true rfl) ⟨Nat.le_refl _, Nat.le_refl _⟩ dX3_isOrder_181 (fun rr u H locs hp hP hS => ?_)
              obtain ⟨a1_13, f1_14⟩ := u
              obtain ⟨hrr, wm1, wm2⟩ : rr = (iI (qz (mt TX ty A3 (wd 1) 3 = 3))) ∧ (a1_13 = A3 + mt TX ty A3 (wd 1) 3) ∧ (¬ mt TX ty A3 (wd 1) 3 = 3 → (f1_14 ↔ a1_13 < ty)) := hp
              subst hrr
              have hP : va_P G CL [(hM, .inr (2, (mO hnow hthen hpast kept htx ty th a1_13 f1_14 htold tolds hac hal hre hse hpl many cost br hsy))), (htx, .inl (g 0, 60, .inl (aI TX))), (htold, .inl (g 0, 63, .inl (aI (uZ (uZ (uZ (uZ TO (3 * tolds + 0) (TX at_ - 65)) (3 * tolds + 1) (TX A1 - 65)) ((3 * tolds) + 2) (-1)) ((3 * tolds) + 2) v6))))] H := hP
              have hD : va_D A [(hM, .inr (2, (mO hnow hthen hpast kept htx ty th a1_13 f1_14 htold tolds hac hal hre hse hpl many cost br hsy))), (htx, .inl (g 0, 60, .inl (aI TX))), (htold, .inl (g 0, 63, .inl (aI (uZ (uZ (uZ (uZ TO (3 * tolds + 0) (TX at_ - 65)) (3 * tolds + 1) (TX A1 - 65)) ((3 * tolds) + 2) (-1)) ((3 * tolds) + 2) v6))))] := va_Dadr hD rfl
              refine W.widen (k := 0) (n := 0) (Nat.le_refl _) (Nat.le_refl _) ?_
              exact W.zret (v := (iI (qz (mt TX ty A3 (wd 1) 3 = 3)))) hx hb hr (narrow_z _) (fun t ht hW => ⟨⟨_, (a1_13, f1_14, uZ (uZ (uZ (uZ TO (3 * tolds + 0) (TX at_ - 65)) (3 * tolds + 1) (TX A1 - 65)) ((3 * tolds) + 2) (-1)) ((3 * tolds) + 2) v6), rfl, (by have o5 := or_5 (T := TX) (n := ty) (a := at_) l1 l2 l3 (by assumption); have ok := omt_k (T := TX) (n := ty) (a := at_) (k := 1) (N := 3) (by rw [ow]; assumption) rfl; rw [show at_ + 3 = A3 from by omega] at ok; have iff9 : orOK TX ty at_ ↔ mt TX ty A3 (wd 1) 3 = 3 := (by rw [o5.1, ok.1, ok.2]; rfl); exact ⟨congrArg iI (qz_congr iff9.symm), by rw [o5.2.1, ok.1]; omega, fun z => wm2 (fun q => z (iff9.mpr q)), fun _ => ⟨by dsimp only; rw [uZ_n (by omega), uZ_n (by omega), uZ_n (by omega), show 3 * tolds + 0 = 3 * tolds from by omega]; exact uZ_s, by dsimp only; rw [uZ_n (by omega), uZ_n (by omega), show at_ + 1 = A1 from by omega]; exact uZ_s, by rw [o5.2.2, ow]; exact uZ_s⟩, fun j a b => by dsimp only; rw [uZ_n (by omega), uZ_n (by omega), uZ_n (by omega), uZ_n (by omega)]⟩), by rw [← ht] at hP; exact hP⟩, hS.F ht⟩) hS.2.2 dX3_isOrder_184 hlk
            · refine g_eq s10 ?_
              refine lv_tableIn (tgt := 185) hx hb dX3_isOrder_132 (by decide) (by decide) rfl (by decide) ?_
              refine lv_aload_n hx hb dX3_isOrder_185 rfl (lv_at hl 1 rfl) ?_
              refine lv_bipush (v := iI 112) hx hb dX3_isOrder_186 rfl ?_
              refine lv_bipush (v := iI 97) hx hb dX3_isOrder_188 rfl ?_
              refine lv_bipush (v := iI 105) hx hb dX3_isOrder_190 rfl ?_
              refine lv_bipush (v := iI 114) hx hb dX3_isOrder_192 rfl ?_
              refine g_callVwi (As := [.int (iI 112), .int (iI 97), .int (iI 105), .int (iI 114)]) (rest := []) (m_X3_isWord_2 l G g H.size hM hnow hthen hpast kept htx ty th A3 F3 htold tolds hac hal hre hse hpl many cost br hsy TX kTX (by omega)) hx hb hml hown hts Stab.tt hA hK hP hD hS hEs [0, 1] rfl rfl (fun _ => rfl) (q0 := 0) rfl rfl q1674 q1676 qs77 q102 q1677 hd_X3_isWord rfl rfl ⟨Nat.le_of_ble_eq_true rfl, Nat.le_of_ble_eq_true rfl⟩ rfl hl rfl (Nat.le_of_ble_eq_true rfl) ⟨Nat.le_refl _, Nat.le_refl _⟩ dX3_isOrder_194 (fun rr u H locs hp hP hS => ?_)
              obtain ⟨a1_15, f1_16⟩ := u
              obtain ⟨hrr, wm1, wm2⟩ : rr = (iI (qz (mt TX ty A3 (wd 2) 4 = 4))) ∧ (a1_15 = A3 + mt TX ty A3 (wd 2) 4) ∧ (¬ mt TX ty A3 (wd 2) 4 = 4 → (f1_16 ↔ a1_15 < ty)) := hp
              subst hrr
              have hP : va_P G CL [(hM, .inr (2, (mO hnow hthen hpast kept htx ty th a1_15 f1_16 htold tolds hac hal hre hse hpl many cost br hsy))), (htx, .inl (g 0, 60, .inl (aI TX))), (htold, .inl (g 0, 63, .inl (aI (uZ (uZ (uZ (uZ TO (3 * tolds + 0) (TX at_ - 65)) (3 * tolds + 1) (TX A1 - 65)) ((3 * tolds) + 2) (-1)) ((3 * tolds) + 2) v6))))] H := hP
              have hD : va_D A [(hM, .inr (2, (mO hnow hthen hpast kept htx ty th a1_15 f1_16 htold tolds hac hal hre hse hpl many cost br hsy))), (htx, .inl (g 0, 60, .inl (aI TX))), (htold, .inl (g 0, 63, .inl (aI (uZ (uZ (uZ (uZ TO (3 * tolds + 0) (TX at_ - 65)) (3 * tolds + 1) (TX A1 - 65)) ((3 * tolds) + 2) (-1)) ((3 * tolds) + 2) v6))))] := va_Dadr hD rfl
              refine W.widen (k := 0) (n := 0) (Nat.le_refl _) (Nat.le_refl _) ?_
              exact W.zret (v := (iI (qz (mt TX ty A3 (wd 2) 4 = 4)))) hx hb hr (narrow_z _) (fun t ht hW => ⟨⟨_, (a1_15, f1_16, uZ (uZ (uZ (uZ TO (3 * tolds + 0) (TX at_ - 65)) (3 * tolds + 1) (TX A1 - 65)) ((3 * tolds) + 2) (-1)) ((3 * tolds) + 2) v6), rfl, (by have o5 := or_5 (T := TX) (n := ty) (a := at_) l1 l2 l3 (by assumption); have ok := omt_k (T := TX) (n := ty) (a := at_) (k := 2) (N := 4) (by rw [ow]; assumption) rfl; rw [show at_ + 3 = A3 from by omega] at ok; have iff9 : orOK TX ty at_ ↔ mt TX ty A3 (wd 2) 4 = 4 := (by rw [o5.1, ok.1, ok.2]; rfl); exact ⟨congrArg iI (qz_congr iff9.symm), by rw [o5.2.1, ok.1]; omega, fun z => wm2 (fun q => z (iff9.mpr q)), fun _ => ⟨by dsimp only; rw [uZ_n (by omega), uZ_n (by omega), uZ_n (by omega), show 3 * tolds + 0 = 3 * tolds from by omega]; exact uZ_s, by dsimp only; rw [uZ_n (by omega), uZ_n (by omega), show at_ + 1 = A1 from by omega]; exact uZ_s, by rw [o5.2.2, ow]; exact uZ_s⟩, fun j a b => by dsimp only; rw [uZ_n (by omega), uZ_n (by omega), uZ_n (by omega), uZ_n (by omega)]⟩), by rw [← ht] at hP; exact hP⟩, hS.F ht⟩) hS.2.2 dX3_isOrder_197 hlk
            · refine g_eq s10 ?_
              refine lv_tableOut (tgt := 198) hx hb dX3_isOrder_132 (by decide) (by decide) ?_
              refine lv_aload_n hx hb dX3_isOrder_198 rfl (lv_at hl 1 rfl) ?_
              refine lv_bipush (v := iI 99) hx hb dX3_isOrder_199 rfl ?_
              refine lv_bipush (v := iI 97) hx hb dX3_isOrder_201 rfl ?_
              refine lv_bipush (v := iI 114) hx hb dX3_isOrder_203 rfl ?_
              refine lv_bipush (v := iI 116) hx hb dX3_isOrder_205 rfl ?_
              refine g_callVwi (As := [.int (iI 99), .int (iI 97), .int (iI 114), .int (iI 116)]) (rest := []) (m_X3_isWord_3 l G g H.size hM hnow hthen hpast kept htx ty th A3 F3 htold tolds hac hal hre hse hpl many cost br hsy TX kTX (by omega)) hx hb hml hown hts Stab.tt hA hK hP hD hS hEs [0, 1] rfl rfl (fun _ => rfl) (q0 := 0) rfl rfl q1674 q1676 qs77 q102 q1677 hd_X3_isWord rfl rfl ⟨Nat.le_of_ble_eq_true rfl, Nat.le_of_ble_eq_true rfl⟩ rfl hl rfl (Nat.le_of_ble_eq_true rfl) ⟨Nat.le_refl _, Nat.le_refl _⟩ dX3_isOrder_207 (fun rr u H locs hp hP hS => ?_)
              obtain ⟨a1_17, f1_18⟩ := u
              obtain ⟨hrr, wm1, wm2⟩ : rr = (iI (qz (mt TX ty A3 (wd 3) 4 = 4))) ∧ (a1_17 = A3 + mt TX ty A3 (wd 3) 4) ∧ (¬ mt TX ty A3 (wd 3) 4 = 4 → (f1_18 ↔ a1_17 < ty)) := hp
              subst hrr
              have hP : va_P G CL [(hM, .inr (2, (mO hnow hthen hpast kept htx ty th a1_17 f1_18 htold tolds hac hal hre hse hpl many cost br hsy))), (htx, .inl (g 0, 60, .inl (aI TX))), (htold, .inl (g 0, 63, .inl (aI (uZ (uZ (uZ (uZ TO (3 * tolds + 0) (TX at_ - 65)) (3 * tolds + 1) (TX A1 - 65)) ((3 * tolds) + 2) (-1)) ((3 * tolds) + 2) v6))))] H := hP
              have hD : va_D A [(hM, .inr (2, (mO hnow hthen hpast kept htx ty th a1_17 f1_18 htold tolds hac hal hre hse hpl many cost br hsy))), (htx, .inl (g 0, 60, .inl (aI TX))), (htold, .inl (g 0, 63, .inl (aI (uZ (uZ (uZ (uZ TO (3 * tolds + 0) (TX at_ - 65)) (3 * tolds + 1) (TX A1 - 65)) ((3 * tolds) + 2) (-1)) ((3 * tolds) + 2) v6))))] := va_Dadr hD rfl
              refine W.widen (k := 0) (n := 0) (Nat.le_refl _) (Nat.le_refl _) ?_
              exact W.zret (v := (iI (qz (mt TX ty A3 (wd 3) 4 = 4)))) hx hb hr (narrow_z _) (fun t ht hW => ⟨⟨_, (a1_17, f1_18, uZ (uZ (uZ (uZ TO (3 * tolds + 0) (TX at_ - 65)) (3 * tolds + 1) (TX A1 - 65)) ((3 * tolds) + 2) (-1)) ((3 * tolds) + 2) v6), rfl, (by have o5 := or_5 (T := TX) (n := ty) (a := at_) l1 l2 l3 (by assumption); have ok := omt_k (T := TX) (n := ty) (a := at_) (k := 3) (N := 4) (by rw [ow]; assumption) rfl; rw [show at_ + 3 = A3 from by omega] at ok; have iff9 : orOK TX ty at_ ↔ mt TX ty A3 (wd 3) 4 = 4 := (by rw [o5.1, ok.1, ok.2]; rfl); exact ⟨congrArg iI (qz_congr iff9.symm), by rw [o5.2.1, ok.1]; omega, fun z => wm2 (fun q => z (iff9.mpr q)), fun _ => ⟨by dsimp only; rw [uZ_n (by omega), uZ_n (by omega), uZ_n (by omega), show 3 * tolds + 0 = 3 * tolds from by omega]; exact uZ_s, by dsimp only; rw [uZ_n (by omega), uZ_n (by omega), show at_ + 1 = A1 from by omega]; exact uZ_s, by rw [o5.2.2, ow]; exact uZ_s⟩, fun j a b => by dsimp only; rw [uZ_n (by omega), uZ_n (by omega), uZ_n (by omega), uZ_n (by omega)]⟩), by rw [← ht] at hP; exact hP⟩, hS.F ht⟩) hS.2.2 dX3_isOrder_210 hlk
          refine g_ifq_eq (tgt := 89) hx hb dX3_isOrder_82 (by decide) (fun c19 => ?_) (fun c19 => ?_)
          · refine lv_aload_n hx hb dX3_isOrder_89 rfl (lv_at hl 0 rfl) ?_
            refine lv_bipush (v := iI 111) hx hb dX3_isOrder_90 rfl ?_
            refine g_callV (As := [.int (iI 111)]) (rest := []) (m_X3_isAt l G g hM 111 (mO hnow hthen hpast kept htx ty th A3 F3 htold tolds hac hal hre hse hpl many cost br hsy) htx ty A3 TX rfl rfl rfl ⟨by decide, by decide⟩ kTX (by omega)) hx hb hml hown hts Stab.tt hK hP hS hEs [0, 1] rfl (q0 := 0) rfl rfl q1670 q1672 qs76 q102 q1673 hd_X3_isAt rfl rfl ⟨Nat.le_of_ble_eq_true rfl, Nat.le_of_ble_eq_true rfl⟩ rfl hl rfl (Nat.le_of_ble_eq_true rfl) ⟨Nat.le_refl _, Nat.le_refl _⟩ dX3_isOrder_92 ?_
            refine g_ifq_eq (tgt := 102) hx hb dX3_isOrder_95 (by decide) (fun c20 => ?_) (fun c20 => ?_)
            · refine lv_aload_n hx hb dX3_isOrder_102 rfl (lv_at hl 0 rfl) ?_
              refine lv_bipush (v := iI 112) hx hb dX3_isOrder_103 rfl ?_
              refine g_callV (As := [.int (iI 112)]) (rest := []) (m_X3_isAt l G g hM 112 (mO hnow hthen hpast kept htx ty th A3 F3 htold tolds hac hal hre hse hpl many cost br hsy) htx ty A3 TX rfl rfl rfl ⟨by decide, by decide⟩ kTX (by omega)) hx hb hml hown hts Stab.tt hK hP hS hEs [0, 1] rfl (q0 := 0) rfl rfl q1670 q1672 qs76 q102 q1673 hd_X3_isAt rfl rfl ⟨Nat.le_of_ble_eq_true rfl, Nat.le_of_ble_eq_true rfl⟩ rfl hl rfl (Nat.le_of_ble_eq_true rfl) ⟨Nat.le_refl _, Nat.le_refl _⟩ dX3_isOrder_105 ?_
              refine g_ifq_eq (tgt := 115) hx hb dX3_isOrder_108 (by decide) (fun c21 => ?_) (fun c21 => ?_)
              · refine lv_iconst (v := iI 3) hx hb dX3_isOrder_115 rfl ?_
                refine g_eq (b := zi (A3 < ty ∧ TX A3 = 110) 0 (zi (A3 < ty ∧ TX A3 = 111) 1 (zi (A3 < ty ∧ TX A3 = 112) 2 3))) (((zi_f c19).trans ((zi_f c20).trans (zi_f c21)))).symm ?_
                exact hJ5 ls (lv_sub hl [0] rfl)
              · refine lv_iconst (v := iI 2) hx hb dX3_isOrder_111 rfl ?_
                refine lv_goto (tgt := 116) hx hb dX3_isOrder_112 (by decide) ?_
                refine g_eq (b := zi (A3 < ty ∧ TX A3 = 110) 0 (zi (A3 < ty ∧ TX A3 = 111) 1 (zi (A3 < ty ∧ TX A3 = 112) 2 3))) (((zi_f c19).trans ((zi_f c20).trans (zi_t c21)))).symm ?_
                exact hJ5 ls (lv_sub hl [0] rfl)
            · refine lv_iconst (v := iI 1) hx hb dX3_isOrder_98 rfl ?_
              refine lv_goto (tgt := 116) hx hb dX3_isOrder_99 (by decide) ?_
              refine g_eq (b := zi (A3 < ty ∧ TX A3 = 110) 0 (zi (A3 < ty ∧ TX A3 = 111) 1 (zi (A3 < ty ∧ TX A3 = 112) 2 3))) (((zi_f c19).trans (zi_t c20))).symm ?_
              exact hJ5 ls (lv_sub hl [0] rfl)
          · refine lv_iconst (v := iI 0) hx hb dX3_isOrder_85 rfl ?_
            refine lv_goto (tgt := 116) hx hb dX3_isOrder_86 (by decide) ?_
            refine g_eq (b := zi (A3 < ty ∧ TX A3 = 110) 0 (zi (A3 < ty ∧ TX A3 = 111) 1 (zi (A3 < ty ∧ TX A3 = 112) 2 3))) ((zi_t c19)).symm ?_
            exact hJ5 ls (lv_sub hl [0] rfl)
        · refine lv_aload_n hx hb dX3_isOrder_64 rfl (lv_at hl 0 rfl) ?_
          refine lv_dup hx hb dX3_isOrder_65 rfl ?_
          refine va_get (D := G) (ci := 2) (v := .int (iI A3)) (C := RX3) (T := TX3) (N := 20) hx hb hts in_X3 hown hK hP 0 rfl rfl 7 (by decide) (hts _ q1445) (fun _ h9 => h9) rfl dX3_isOrder_66 ?_
          refine lv_iconst (v := iI 1) hx hb dX3_isOrder_69 rfl ?_
          refine g_iadd hx hb dX3_isOrder_70 ?_
          refine g_put (D := G) (ci := 2) (v := .int (iI (A3 + 1))) (ty := .int) (C := RX3) (T := TX3) (N := 20) (ws1 := [(hM, .inr (2, (mO hnow hthen hpast kept htx ty th (A3 + 1) F3 htold tolds hac hal hre hse hpl many cost br hsy))), (htx, .inl (g 0, 60, .inl (aI TX))), (htold, .inl (g 0, 63, .inl (aI (uZ (uZ (uZ TO (3 * tolds + 0) (TX at_ - 65)) (3 * tolds + 1) (TX A1 - 65)) ((3 * tolds) + 2) (-1)))))]) hx hb hts in_X3 tyX3 tyX3_ok nmX3 hown hK hP hD hS 0 rfl rfl 7 (by decide) (hts _ q1445) (fun _ h9 => h9) rfl (by decide +kernel) (rfl) (rfl) (Nat.le_of_ble_eq_true rfl) dX3_isOrder_71 rfl (fun H locs hP hS => ?_)
          have hD : va_D A [(hM, .inr (2, (mO hnow hthen hpast kept htx ty th (A3 + 1) F3 htold tolds hac hal hre hse hpl many cost br hsy))), (htx, .inl (g 0, 60, .inl (aI TX))), (htold, .inl (g 0, 63, .inl (aI (uZ (uZ (uZ TO (3 * tolds + 0) (TX at_ - 65)) (3 * tolds + 1) (TX A1 - 65)) ((3 * tolds) + 2) (-1)))))] := va_Dadr hD rfl
          refine lv_iconst (v := iI 1) hx hb dX3_isOrder_74 rfl ?_
          exact W.zret (v := (iI 1)) hx hb hr rfl (fun t ht hW => ⟨⟨_, (A3 + 1, F3, uZ (uZ (uZ TO (3 * tolds + 0) (TX at_ - 65)) (3 * tolds + 1) (TX A1 - 65)) ((3 * tolds) + 2) (-1)), rfl, (by have hx9 : exP TX ty at_ := (by unfold exP; rw [show at_ + 3 = A3 from by omega]; assumption); have o1 := or_4 l1 l2 l3 hx9; exact ⟨congrArg iI (qz_t o1.1).symm, by rw [o1.2.1]; omega, fun z => absurd o1.1 z, fun _ => ⟨by dsimp only; rw [uZ_n (by omega), uZ_n (by omega), show 3 * tolds + 0 = 3 * tolds from by omega]; exact uZ_s, by dsimp only; rw [uZ_n (by omega), show at_ + 1 = A1 from by omega]; exact uZ_s, by rw [o1.2.2]; exact uZ_s⟩, fun j a b => by dsimp only; rw [uZ_n (by omega), uZ_n (by omega), uZ_n (by omega)]⟩), by rw [← ht] at hP; exact hP⟩, hS.F ht⟩) hS.2.2 dX3_isOrder_75 hlk
      · refine lv_iconst (v := iI 0) hx hb dX3_isOrder_53 rfl ?_
        exact W.zret (v := (iI 0)) hx hb hr rfl (fun t ht hW => ⟨⟨_, (A3, F3, uZ (uZ (uZ TO (3 * tolds + 0) (TX at_ - 65)) (3 * tolds + 1) (TX A1 - 65)) ((3 * tolds) + 2) (-1)), rfl, (by have hn : ¬ (at_ + 2 < ty ∧ TX (at_ + 2) = 58) := (by rw [show at_ + 2 = A2 from by omega]; assumption); have o1 := or_3 l1 l2 hn; exact ⟨congrArg iI (qz_f o1.1).symm, by rw [o1.2]; omega, fun _ => (lf (by assumption)).trans ⟨fun z => by omega, fun z => by omega⟩, fun z => absurd z o1.1, fun j a b => by dsimp only; rw [uZ_n (by omega), uZ_n (by omega), uZ_n (by omega)]⟩), by rw [← ht] at hP; exact hP⟩, hS.F ht⟩) hS.2.2 dX3_isOrder_54 hlk
    · refine lv_iconst (v := iI 0) hx hb dX3_isOrder_28 rfl ?_
      exact W.zret (v := (iI 0)) hx hb hr rfl (fun t ht hW => ⟨⟨_, (A2, F2, (zf (ltP TX ty A1 (TX at_ - 65)) (uZ (uZ TO (3 * tolds + 0) (TX at_ - 65)) (3 * tolds + 1) (TX A1 - 65)) (uZ TO (3 * tolds + 0) (TX at_ - 65)))), rfl, (by have hn : ¬ ltP TX ty (at_ + 1) (TX at_ - 65) := (by rw [← e1]; assumption); have o1 := or_2 l1 hn; exact ⟨congrArg iI (qz_f o1.1).symm, by rw [o1.2]; omega, fun _ => (ld (by assumption)).trans ⟨fun z => by omega, fun z => by omega⟩, fun z => absurd z o1.1, fun j a b => (congrFun (zf_f (by assumption)) j).trans (uZ_n (by omega))⟩), by rw [← ht] at hP; exact hP⟩, hS.F ht⟩) hS.2.2 dX3_isOrder_29 hlk
