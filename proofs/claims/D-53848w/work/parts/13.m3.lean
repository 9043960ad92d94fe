theorem hd_X3_laysRests : yX3_laysRests.cls = RX3 ∧ yX3_laysRests.cls ≠ "java/lang/invoke/MethodHandle" ∧ yX3_laysRests.cls ≠ "java/lang/invoke/VarHandle" ∧ (parseMethodDescriptor yX3_laysRests.desc).map (fun d => d.parameters.length) = some 2 := by decide +kernel
set_option maxHeartbeats 4000000 in
set_option maxRecDepth 100000 in
theorem m_X3_laysRests (l : Launch) (G : va_G) (g : Nat → ClassId) (sz : Nat) (hM : Nat) (hs : Nat) (room : Int) (fs : List Value) (hac : Nat) (hal : Nat) (hre : Nat) (hse : Nat) (br : Int) (S : Int → Int) (RE : Int → Int) (SE : Int → Prop) (hF_fs_11 : fs[11]? = some (.ref hac)) (hF_fs_12 : fs[12]? = some (.ref hal)) (hF_fs_13 : fs[13]? = some (.ref hre)) (hF_fs_14 : fs[14]? = some (.ref hse)) (hF_fs_18 : fs[18]? = some (.int (iI br))) (r_room : r32 room) (kS : rgS S) (hbr : 1 ≤ br ∧ br ≤ 3) : Met l yX3_laysRests (ws_ yX3_laysRests cX3_laysRests 7 (Option.none : Option Jvm.ClassFile.FieldType)) ({ frames := 5, cells := 0, slots := 0, locals := 114 }) (va_Pc [.ref hM, .ref hs, .int (iI room)] (wrB G CL (TY g) (fun _ => True) [(hM, .inr (2, fs)), (hs, .inl (g 0, 253, .inl (aI S))), (hac, .inl (g 0, 4, .inl (aI dx))), (hal, .inl (g 0, 4, .inl (aI dy))), (hre, .inl (g 0, 192, .inl (aI RE))), (hse, .inl (g 1, 192, .inl (aP SE)))] sz)) (va_Qv (fun (u : (Int → Int) × (Int → Prop)) => (rgRE u.1) ∧ (isDist S br room u.1)) (fun (u : (Int → Int) × (Int → Prop)) t => va_P G CL [(hM, .inr (2, fs)), (hs, .inl (g 0, 253, .inl (aI S))), (hac, .inl (g 0, 4, .inl (aI dx))), (hal, .inl (g 0, 4, .inl (aI dy))), (hre, .inl (g 0, 192, .inl (aI u.1))), (hse, .inl (g 1, 192, .inl (aP u.2)))] t.heap) (va_A [(hM, .inr (2, fs)), (hs, .inl (g 0, 253, .inl (aI S))), (hac, .inl (g 0, 4, .inl (aI dx))), (hal, .inl (g 0, 4, .inl (aI dy))), (hre, .inl (g 0, 192, .inl (aI RE))), (hse, .inl (g 1, 192, .inl (aP SE)))] sz)) 0 0 (va_A [(hM, .inr (2, fs)), (hs, .inl (g 0, 253, .inl (aI S))), (hac, .inl (g 0, 4, .inl (aI dx))), (hal, .inl (g 0, 4, .inl (aI dy))), (hre, .inl (g 0, 192, .inl (aI RE))), (hse, .inl (g 1, 192, .inl (aP SE)))] sz) := by
  refine Met.at (by decide) (Nat.le_of_ble_eq_true rfl) ?_
  intro p e s m below meth c hx hb hr hlk hml hown hnm hts hB ls hl
  have hown : s.vm.findClass RX3 = some m.cls := hown
  obtain ⟨hsz, hP, hK, hD0, hEs⟩ := hB
  subst hsz
  have hD := hD0.self (sz := s.heap.size)
  generalize hAe : va_A [(hM, .inr (2, fs)), (hs, .inl (g 0, 253, .inl (aI S))), (hac, .inl (g 0, 4, .inl (aI dx))), (hal, .inl (g 0, 4, .inl (aI dy))), (hre, .inl (g 0, 192, .inl (aI RE))), (hse, .inl (g 1, 192, .inl (aP SE)))] s.heap.size = A at hD ⊢
  have hA : ∀ q : Nat, s.heap.size ≤ q → A q := fun q h => by rw [← hAe]; exact Or.inr h
  have hS : va_S A s.heap s.heap [] := va_S.rf
  have hl : lv_has ls 7 [(0, .ref hM), (1, .ref hs), (2, .int (iI room))] := hl
  refine lv_iconst (v := iI 0) hx hb dX3_laysRests_0 rfl ?_
  refine lv_istore_n (lv' := [(3, .int (iI 0)), (0, .ref hM), (1, .ref hs), (2, .int (iI room))]) hx hb dX3_laysRests_1 rfl hl (by decide) rfl (fun ls hl => ?_)
  have lp2 : ∀ (n : Nat) (k : Nat) (R1 : Int → Int) (E1 : Int → Prop), ((k : Int) ≤ 192) → (∀ j : Int, 0 ≤ j → j < (k : Int) → R1 j = re0 S br room j ∧ ¬ E1 j) → 192 - k = n → ∀ (H : Heap) (locs : List Loc), va_P G CL [(hM, .inr (2, fs)), (hs, .inl (g 0, 253, .inl (aI S))), (hac, .inl (g 0, 4, .inl (aI dx))), (hal, .inl (g 0, 4, .inl (aI dy))), (hre, .inl (g 0, 192, .inl (aI R1))), (hse, .inl (g 1, 192, .inl (aP E1)))] H → va_D A [(hM, .inr (2, fs)), (hs, .inl (g 0, 253, .inl (aI S))), (hac, .inl (g 0, 4, .inl (aI dx))), (hal, .inl (g 0, 4, .inl (aI dy))), (hre, .inl (g 0, 192, .inl (aI R1))), (hse, .inl (g 1, 192, .inl (aP E1)))] → va_S A s.heap H locs → ∀ ls : Array Slot, lv_has ls 7 [(0, .ref hM), (1, .ref hs), (2, .int (iI room)), (3, .int (iI (k : Int)))] → W p l e ({ frames := 5, cells := 0, slots := 0, locals := 114 }) s m ([.ref hM, .ref hs, .int (iI room)] : List Value).toArray below meth c H locs 0 0 (MQ below (va_Qv (fun (u : (Int → Int) × (Int → Prop)) => (rgRE u.1) ∧ (isDist S br room u.1)) (fun (u : (Int → Int) × (Int → Prop)) t => va_P G CL [(hM, .inr (2, fs)), (hs, .inl (g 0, 253, .inl (aI S))), (hac, .inl (g 0, 4, .inl (aI dx))), (hal, .inl (g 0, 4, .inl (aI dy))), (hre, .inl (g 0, 192, .inl (aI u.1))), (hse, .inl (g 1, 192, .inl (aP u.2)))] t.heap) A) ([.ref hM, .ref hs, .int (iI room)] : List Value).toArray s 0 0 A) (F0 m 2 ls []) := by
    intro n
    refine Nat.strongRecOn n ?_
    intro n ih2 k R1 E1 hk ha hmu2 H locs hP hD hS ls hl
    refine lv_iload_n hx hb dX3_laysRests_2 rfl (lv_at hl 3 rfl) ?_
    refine lv_sipush (v := iI 192) hx hb dX3_laysRests_3 rfl ?_
    refine g_icmp_ge (tgt := 60) hx hb dX3_laysRests_6 (by decide) ⟨⟨by omega, by omega⟩, ⟨by decide, by decide⟩⟩ (fun c1 => ?_) (fun c1 => ?_)
    · have dji := dJ_init (S := S) (b := br) (r := room) (RE := R1) (SE := E1) (fun q a c => (ha q a (by omega)).1) (fun q a c => (ha q a (by omega)).2)
      refine lv_aload_n hx hb dX3_laysRests_60 rfl (lv_at hl 0 rfl) ?_
      refine g_callV (As := []) (rest := []) (m_X3_nearest l G g hM fs hre hse R1 E1 hF_fs_13 hF_fs_14 (dJ_rg dji)) hx hb hml hown hts Stab.tt hK hP hS hEs [0, 4, 5] rfl (q0 := 0) rfl rfl q1598 q1600 qs64 q102 q1601 hd_X3_nearest rfl rfl ⟨Nat.le_of_ble_eq_true rfl, Nat.le_of_ble_eq_true rfl⟩ rfl hl rfl (Nat.le_of_ble_eq_true rfl) ⟨Nat.le_refl _, Nat.le_refl _⟩ dX3_laysRests_61 ?_
      have w2 := nearN_rng R1 E1 192
      refine lv_istore_n (lv' := [(3, .int (iI (nearN R1 E1 192))), (0, .ref hM), (1, .ref hs), (2, .int (iI room))]) hx hb dX3_laysRests_64 rfl hl (by decide) rfl (fun ls hl => ?_)
      have lp65 : ∀ (n : Nat) (R2 : Int → Int) (E2 : Int → Prop) (v : Int), (dJ S br room R2 E2 (-1) 0) → (v = nearN R2 E2 192) → (unsN E2).toNat = n → ∀ (H : Heap) (locs : List Loc), va_P G CL [(hM, .inr (2, fs)), (hs, .inl (g 0, 253, .inl (aI S))), (hac, .inl (g 0, 4, .inl (aI dx))), (hal, .inl (g 0, 4, .inl (aI dy))), (hre, .inl (g 0, 192, .inl (aI R2))), (hse, .inl (g 1, 192, .inl (aP E2)))] H → va_D A [(hM, .inr (2, fs)), (hs, .inl (g 0, 253, .inl (aI S))), (hac, .inl (g 0, 4, .inl (aI dx))), (hal, .inl (g 0, 4, .inl (aI dy))), (hre, .inl (g 0, 192, .inl (aI R2))), (hse, .inl (g 1, 192, .inl (aP E2)))] → va_S A s.heap H locs → ∀ ls : Array Slot, lv_has ls 7 [(0, .ref hM), (1, .ref hs), (2, .int (iI room)), (3, .int (iI v))] → W p l e ({ frames := 5, cells := 0, slots := 0, locals := 114 }) s m ([.ref hM, .ref hs, .int (iI room)] : List Value).toArray below meth c H locs 0 0 (MQ below (va_Qv (fun (u : (Int → Int) × (Int → Prop)) => (rgRE u.1) ∧ (isDist S br room u.1)) (fun (u : (Int → Int) × (Int → Prop)) t => va_P G CL [(hM, .inr (2, fs)), (hs, .inl (g 0, 253, .inl (aI S))), (hac, .inl (g 0, 4, .inl (aI dx))), (hal, .inl (g 0, 4, .inl (aI dy))), (hre, .inl (g 0, 192, .inl (aI u.1))), (hse, .inl (g 1, 192, .inl (aP u.2)))] t.heap) A) ([.ref hM, .ref hs, .int (iI room)] : List Value).toArray s 0 0 A) (F0 m 65 ls []) := by
        intro n
        refine Nat.strongRecOn n ?_
        intro n ih65 R2 E2 v di ev hmu65 H locs hP hD hS ls hl
        have fr := nearN_rng R2 E2 192
        refine lv_iload_n hx hb dX3_laysRests_65 rfl (lv_at hl 3 rfl) ?_
        refine lv_iconst (v := iI (-1)) hx hb dX3_laysRests_66 rfl ?_
        refine g_icmp_eq (tgt := 170) hx hb dX3_laysRests_67 (by decide) ⟨⟨by omega, by omega⟩, ⟨by decide, by decide⟩⟩ (fun c3 => ?_) (fun c3 => ?_)
        · exact W.vret hx hb hr (fun t ht hW => ⟨⟨(R2, E2), rfl, ⟨dJ_rg di, dJ_exit di (by rw [← ev]; assumption)⟩, by rw [← ht] at hP; exact hP⟩, hS.F ht⟩) hS.2.2 dX3_laysRests_170 hlk
        · obtain ⟨dj0, v0, v1, mlt⟩ := dJ_settle di ev (by assumption)
          refine lv_aload_n hx hb dX3_laysRests_70 rfl (lv_at hl 0 rfl) ?_
          refine va_get (D := G) (ci := 2) (v := .ref hse) (C := RX3) (T := TX3) (N := 20) hx hb hts in_X3 hown hK hP 0 rfl rfl 14 (by decide) (hts _ q1452) (fun _ h9 => h9) hF_fs_14 dX3_laysRests_71 ?_
          refine lv_iload_n hx hb dX3_laysRests_74 rfl (lv_at hl 3 rfl) ?_
          refine lv_iconst (v := iI 1) hx hb dX3_laysRests_75 rfl ?_
          refine g_zast1 (ws1 := [(hM, .inr (2, fs)), (hs, .inl (g 0, 253, .inl (aI S))), (hac, .inl (g 0, 4, .inl (aI dx))), (hal, .inl (g 0, 4, .inl (aI dy))), (hre, .inl (g 0, 192, .inl (aI R2))), (hse, .inl (g 1, 192, .inl (aP (uP E2 v True))))]) hx hb hK hP hD hS 5 1 rfl rfl (i := v) True (qz_t trivial).symm (⟨by omega, by omega⟩) (by decide) dX3_laysRests_76 rfl (fun H locs hP hS => ?_)
          have hD : va_D A [(hM, .inr (2, fs)), (hs, .inl (g 0, 253, .inl (aI S))), (hac, .inl (g 0, 4, .inl (aI dx))), (hal, .inl (g 0, 4, .inl (aI dy))), (hre, .inl (g 0, 192, .inl (aI R2))), (hse, .inl (g 1, 192, .inl (aP (uP E2 v True))))] := va_Dadr hD rfl
          refine lv_iconst (v := iI 0) hx hb dX3_laysRests_77 rfl ?_
          refine lv_istore (lv' := [(4, .int (iI 0)), (0, .ref hM), (1, .ref hs), (2, .int (iI room)), (3, .int (iI v))]) hx hb dX3_laysRests_78 hl (by decide) rfl (fun ls hl => ?_)
          have lp80 : ∀ (n : Nat) (d_ : Nat) (R3 : Int → Int), ((d_ : Int) ≤ 4) → (dJ S br room R3 (uP E2 v True) v (d_ : Int)) → 4 - d_ = n → ∀ (H : Heap) (locs : List Loc), va_P G CL [(hM, .inr (2, fs)), (hs, .inl (g 0, 253, .inl (aI S))), (hac, .inl (g 0, 4, .inl (aI dx))), (hal, .inl (g 0, 4, .inl (aI dy))), (hre, .inl (g 0, 192, .inl (aI R3))), (hse, .inl (g 1, 192, .inl (aP (uP E2 v True))))] H → va_D A [(hM, .inr (2, fs)), (hs, .inl (g 0, 253, .inl (aI S))), (hac, .inl (g 0, 4, .inl (aI dx))), (hal, .inl (g 0, 4, .inl (aI dy))), (hre, .inl (g 0, 192, .inl (aI R3))), (hse, .inl (g 1, 192, .inl (aP (uP E2 v True))))] → va_S A s.heap H locs → ∀ ls : Array Slot, lv_has ls 7 [(0, .ref hM), (1, .ref hs), (2, .int (iI room)), (3, .int (iI v)), (4, .int (iI (d_ : Int)))] → W p l e ({ frames := 5, cells := 0, slots := 0, locals := 114 }) s m ([.ref hM, .ref hs, .int (iI room)] : List Value).toArray below meth c H locs 0 0 (MQ below (va_Qv (fun (u : (Int → Int) × (Int → Prop)) => (rgRE u.1) ∧ (isDist S br room u.1)) (fun (u : (Int → Int) × (Int → Prop)) t => va_P G CL [(hM, .inr (2, fs)), (hs, .inl (g 0, 253, .inl (aI S))), (hac, .inl (g 0, 4, .inl (aI dx))), (hal, .inl (g 0, 4, .inl (aI dy))), (hre, .inl (g 0, 192, .inl (aI u.1))), (hse, .inl (g 1, 192, .inl (aP u.2)))] t.heap) A) ([.ref hM, .ref hs, .int (iI room)] : List Value).toArray s 0 0 A) (F0 m 80 ls []) := by
            intro n
            refine Nat.strongRecOn n ?_
            intro n ih80 d_ R3 hd_ dj hmu80 H locs hP hD hS ls hl
            refine lv_iload hx hb dX3_laysRests_80 (lv_at hl 4 rfl) ?_
            refine lv_iconst (v := iI 4) hx hb dX3_laysRests_82 rfl ?_
            refine g_icmp_ge (tgt := 162) hx hb dX3_laysRests_83 (by decide) ⟨⟨by omega, by omega⟩, ⟨by decide, by decide⟩⟩ (fun c4 => ?_) (fun c4 => ?_)
            · have dj4 := dJ_done (S := S) (b := br) (r := room) (RE := R3) (SE := uP E2 v True) (v := v) (by rw [show (4 : Int) = (d_ : Int) from by omega]; exact dj)
              refine lv_aload_n hx hb dX3_laysRests_162 rfl (lv_at hl 0 rfl) ?_
              refine g_callV (As := []) (rest := []) (m_X3_nearest l G g hM fs hre hse R3 (uP E2 v True) hF_fs_13 hF_fs_14 (dJ_rg dj4)) hx hb hml hown hts Stab.tt hK hP hS hEs [0, 4, 5] rfl (q0 := 0) rfl rfl q1598 q1600 qs64 q102 q1601 hd_X3_nearest rfl rfl ⟨Nat.le_of_ble_eq_true rfl, Nat.le_of_ble_eq_true rfl⟩ rfl hl rfl (Nat.le_of_ble_eq_true rfl) ⟨Nat.le_refl _, Nat.le_refl _⟩ dX3_laysRests_163 ?_
              have w5 := nearN_rng R3 (uP E2 v True) 192
              refine lv_istore_n (lv' := [(3, .int (iI (nearN R3 (uP E2 v True) 192))), (0, .ref hM), (1, .ref hs), (2, .int (iI room)), (4, .int (iI (d_ : Int)))]) hx hb dX3_laysRests_166 rfl hl (by decide) rfl (fun ls hl => ?_)
              refine lv_goto (tgt := 65) hx hb dX3_laysRests_167 (by decide) ?_
              exact ih65 _ (by have u1 := unsN_rng (uP E2 v True); omega) R3 (uP E2 v True) (nearN R3 (uP E2 v True) 192) (dj4) (rfl) rfl _ _ hP (va_Dadr hD rfl) hS ls (lv_sub hl [1, 2, 3, 0] rfl)
            · refine lv_aload_n hx hb dX3_laysRests_86 rfl (lv_at hl 0 rfl) ?_
              refine lv_aload_n hx hb dX3_laysRests_87 rfl (lv_at hl 1 rfl) ?_
              refine lv_iload_n hx hb dX3_laysRests_88 rfl (lv_at hl 3 rfl) ?_
              refine lv_iload hx hb dX3_laysRests_89 (lv_at hl 4 rfl) ?_
              refine g_callV (As := [.ref hs, .int (iI v), .int (iI (d_ : Int))]) (rest := []) (m_X3_next l G g hM hs v (d_ : Int) fs hac hal br S hF_fs_11 hF_fs_12 hF_fs_18 ⟨by omega, by omega⟩ (⟨by omega, by omega⟩) kS hbr (by omega) (by omega)) hx hb hml hown hts Stab.tt hK hP hS hEs [0, 1, 2, 3] rfl (q0 := 0) rfl rfl q1602 q1604 qs65 q102 q1605 hd_X3_next rfl rfl ⟨Nat.le_of_ble_eq_true rfl, Nat.le_of_ble_eq_true rfl⟩ rfl hl rfl (Nat.le_of_ble_eq_true rfl) ⟨Nat.le_refl _, Nat.le_refl _⟩ dX3_laysRests_91 ?_
              have w6 := nxM_rng S (b := br) v (d_ : Int) hbr.1
              refine lv_istore (lv' := [(5, .int (iI (nxM S br v (d_ : Int)))), (0, .ref hM), (1, .ref hs), (2, .int (iI room)), (3, .int (iI v)), (4, .int (iI (d_ : Int)))]) hx hb dX3_laysRests_94 hl (by decide) rfl (fun ls hl => ?_)
              refine lv_iload hx hb dX3_laysRests_96 (lv_at hl 0 rfl) ?_
              refine lv_iconst (v := iI (-1)) hx hb dX3_laysRests_98 rfl ?_
              refine g_icmp_eq (tgt := 156) hx hb dX3_laysRests_99 (by decide) ⟨⟨by omega, by omega⟩, ⟨by decide, by decide⟩⟩ (fun c7 => ?_) (fun c7 => ?_)
              · refine g_iinc (lv' := [(4, .int (iI ((d_ : Int) + 1))), (5, .int (iI (nxM S br v (d_ : Int)))), (0, .ref hM), (1, .ref hs), (2, .int (iI room)), (3, .int (iI v))]) hx hb dX3_laysRests_156 hl (k := 5) rfl (by decide) rfl (fun ls hl => ?_)
                refine lv_goto (tgt := 80) hx hb dX3_laysRests_159 (by decide) ?_
                exact ih80 _ (by omega) (d_ + 1) R3 (by omega) (dJ_skip dj (by assumption)) rfl _ _ hP (va_Dadr hD rfl) hS ls (lv_sub hl [2, 3, 4, 5, 0] rfl)
              · refine lv_aload_n hx hb dX3_laysRests_102 rfl (lv_at hl 1 rfl) ?_
                refine va_get (D := G) (ci := 2) (v := .ref hre) (C := RX3) (T := TX3) (N := 20) hx hb hts in_X3 hown hK hP 0 rfl rfl 13 (by decide) (hts _ q1451) (fun _ h9 => h9) hF_fs_13 dX3_laysRests_103 ?_
                refine lv_iload_n hx hb dX3_laysRests_106 rfl (lv_at hl 4 rfl) ?_
                refine g_iald hx hb hK hP 4 0 rfl rfl (i := v) (⟨by omega, by omega⟩) (by decide) dX3_laysRests_107 ?_
                have w8 := (dJ_rg dj) v (by omega) (by omega)
                refine lv_iconst (v := iI 1) hx hb dX3_laysRests_108 rfl ?_
                refine g_iadd hx hb dX3_laysRests_109 ?_
                refine lv_sipush (v := iI 1000) hx hb dX3_laysRests_110 rfl ?_
                refine lv_aload_n hx hb dX3_laysRests_113 rfl (lv_at hl 1 rfl) ?_
                refine lv_aload_n hx hb dX3_laysRests_114 rfl (lv_at hl 2 rfl) ?_
                refine lv_iload_n hx hb dX3_laysRests_115 rfl (lv_at hl 4 rfl) ?_
                refine lv_iload hx hb dX3_laysRests_116 (lv_at hl 0 rfl) ?_
                refine g_callV (As := [.ref hs, .int (iI v), .int (iI (nxM S br v (d_ : Int)))]) (rest := [.int (iI 1000), .int (iI ((R3 v) + 1))]) (m_X3_rock l G g hM hs v (nxM S br v (d_ : Int)) fs br S hF_fs_18 ⟨by omega, by omega⟩ (⟨by omega, by omega⟩) kS hbr (by omega) (by omega)) hx hb hml hown hts Stab.tt hK hP hS hEs [0, 1] rfl (q0 := 0) rfl rfl q1606 q1608 qs66 q102 q1609 hd_X3_rock rfl rfl ⟨Nat.le_of_ble_eq_true rfl, Nat.le_of_ble_eq_true rfl⟩ rfl hl rfl (Nat.le_of_ble_eq_true rfl) ⟨Nat.le_refl _, Nat.le_refl _⟩ dX3_laysRests_118 ?_
                have w9 := rk_rng S v (nxM S br v (d_ : Int)) hbr
                refine g_imul hx hb dX3_laysRests_121 ?_
                refine g_iadd hx hb dX3_laysRests_122 ?_
                refine lv_istore (lv' := [(6, .int (iI (((R3 v) + 1) + (1000 * (rk S br v (nxM S br v (d_ : Int))))))), (5, .int (iI (nxM S br v (d_ : Int)))), (0, .ref hM), (1, .ref hs), (2, .int (iI room)), (3, .int (iI v)), (4, .int (iI (d_ : Int)))]) hx hb dX3_laysRests_123 hl (by decide) rfl (fun ls hl => ?_)
                refine lv_aload_n hx hb dX3_laysRests_125 rfl (lv_at hl 2 rfl) ?_
                refine va_get (D := G) (ci := 2) (v := .ref hre) (C := RX3) (T := TX3) (N := 20) hx hb hts in_X3 hown hK hP 0 rfl rfl 13 (by decide) (hts _ q1451) (fun _ h9 => h9) hF_fs_13 dX3_laysRests_126 ?_
                refine lv_iload hx hb dX3_laysRests_129 (lv_at hl 1 rfl) ?_
                refine lv_iload hx hb dX3_laysRests_131 (lv_at hl 0 rfl) ?_
                refine lv_aload_n hx hb dX3_laysRests_133 rfl (lv_at hl 2 rfl) ?_
                refine va_get (D := G) (ci := 2) (v := .ref hre) (C := RX3) (T := TX3) (N := 20) hx hb hts in_X3 hown hK hP 0 rfl rfl 13 (by decide) (hts _ q1451) (fun _ h9 => h9) hF_fs_13 dX3_laysRests_134 ?_
                refine lv_iload hx hb dX3_laysRests_137 (lv_at hl 1 rfl) ?_
                refine g_iald hx hb hK hP 4 0 rfl rfl (i := nxM S br v (d_ : Int)) (⟨by omega, by omega⟩) (by decide) dX3_laysRests_139 ?_
                have w10 := (dJ_rg dj) (nxM S br v (d_ : Int)) (by omega) (by omega)
                have hJ11 : ∀ ls : Array Slot, lv_has ls 7 [(0, .ref hM), (1, .ref hs), (2, .int (iI room)), (3, .int (iI v)), (4, .int (iI (d_ : Int))), (5, .int (iI (nxM S br v (d_ : Int)))), (6, .int (iI (((R3 v) + 1) + (1000 * (rk S br v (nxM S br v (d_ : Int)))))))] → W p l e ({ frames := 5, cells := 0, slots := 0, locals := 114 }) s m ([.ref hM, .ref hs, .int (iI room)] : List Value).toArray below meth c H locs 0 0 (MQ below (va_Qv (fun (u : (Int → Int) × (Int → Prop)) => (rgRE u.1) ∧ (isDist S br room u.1)) (fun (u : (Int → Int) × (Int → Prop)) t => va_P G CL [(hM, .inr (2, fs)), (hs, .inl (g 0, 253, .inl (aI S))), (hac, .inl (g 0, 4, .inl (aI dx))), (hal, .inl (g 0, 4, .inl (aI dy))), (hre, .inl (g 0, 192, .inl (aI u.1))), (hse, .inl (g 1, 192, .inl (aP u.2)))] t.heap) A) ([.ref hM, .ref hs, .int (iI room)] : List Value).toArray s 0 0 A) (F0 m 155 ls [.int (iI (zi ((((R3 v) + 1) + (1000 * (rk S br v (nxM S br v (d_ : Int))))) < (R3 (nxM S br v (d_ : Int)))) (((R3 v) + 1) + (1000 * (rk S br v (nxM S br v (d_ : Int))))) (R3 (nxM S br v (d_ : Int))))), .int (iI (nxM S br v (d_ : Int))), .ref hre]) := by
                  intro ls hl
                  have o13 := zi_or ((((R3 v) + 1) + (1000 * (rk S br v (nxM S br v (d_ : Int))))) < (R3 (nxM S br v (d_ : Int)))) (((R3 v) + 1) + (1000 * (rk S br v (nxM S br v (d_ : Int))))) (R3 (nxM S br v (d_ : Int)))
                  obtain ⟨v12, e_v12⟩ : ∃ z : Int, z = zi ((((R3 v) + 1) + (1000 * (rk S br v (nxM S br v (d_ : Int))))) < (R3 (nxM S br v (d_ : Int)))) (((R3 v) + 1) + (1000 * (rk S br v (nxM S br v (d_ : Int))))) (R3 (nxM S br v (d_ : Int))) := ⟨_, rfl⟩
                  refine g_eq e_v12.symm ?_
                  refine g_iast (ws1 := [(hM, .inr (2, fs)), (hs, .inl (g 0, 253, .inl (aI S))), (hac, .inl (g 0, 4, .inl (aI dx))), (hal, .inl (g 0, 4, .inl (aI dy))), (hre, .inl (g 0, 192, .inl (aI (uZ R3 (nxM S br v (d_ : Int)) v12)))), (hse, .inl (g 1, 192, .inl (aP (uP E2 v True))))]) hx hb hK hP hD hS 4 0 rfl rfl (i := nxM S br v (d_ : Int)) (⟨by omega, by omega⟩) (by decide) dX3_laysRests_155 rfl (fun H locs hP hS => ?_)
                  have hD : va_D A [(hM, .inr (2, fs)), (hs, .inl (g 0, 253, .inl (aI S))), (hac, .inl (g 0, 4, .inl (aI dx))), (hal, .inl (g 0, 4, .inl (aI dy))), (hre, .inl (g 0, 192, .inl (aI (uZ R3 (nxM S br v (d_ : Int)) v12)))), (hse, .inl (g 1, 192, .inl (aP (uP E2 v True))))] := va_Dadr hD rfl
                  refine g_iinc (lv' := [(4, .int (iI ((d_ : Int) + 1))), (0, .ref hM), (1, .ref hs), (2, .int (iI room)), (3, .int (iI v)), (5, .int (iI (nxM S br v (d_ : Int)))), (6, .int (iI (((R3 v) + 1) + (1000 * (rk S br v (nxM S br v (d_ : Int)))))))]) hx hb dX3_laysRests_156 hl (k := 4) rfl (by decide) rfl (fun ls hl => ?_)
                  refine lv_goto (tgt := 80) hx hb dX3_laysRests_159 (by decide) ?_
                  exact ih80 _ (by omega) (d_ + 1) (uZ R3 (nxM S br v (d_ : Int)) v12) (by omega) (by rw [e_v12]; exact dJ_relax hbr dj (uP_s.mpr trivial) ⟨v0, v1⟩ ⟨by omega, by omega⟩ (by assumption)) rfl _ _ hP (va_Dadr hD rfl) hS ls (lv_sub hl [1, 2, 3, 4, 0] rfl)
                refine g_icmp_ge (tgt := 148) hx hb dX3_laysRests_140 (by decide) ⟨⟨by omega, by omega⟩, ⟨by omega, by omega⟩⟩ (fun c14 => ?_) (fun c14 => ?_)
                · refine lv_aload_n hx hb dX3_laysRests_148 rfl (lv_at hl 2 rfl) ?_
                  refine va_get (D := G) (ci := 2) (v := .ref hre) (C := RX3) (T := TX3) (N := 20) hx hb hts in_X3 hown hK hP 0 rfl rfl 13 (by decide) (hts _ q1451) (fun _ h9 => h9) hF_fs_13 dX3_laysRests_149 ?_
                  refine lv_iload hx hb dX3_laysRests_152 (lv_at hl 1 rfl) ?_
                  refine g_iald hx hb hK hP 4 0 rfl rfl (i := nxM S br v (d_ : Int)) (⟨by omega, by omega⟩) (by decide) dX3_laysRests_154 ?_
                  have w15 := (dJ_rg dj) (nxM S br v (d_ : Int)) (by omega) (by omega)
                  refine g_eq (b := zi ((((R3 v) + 1) + (1000 * (rk S br v (nxM S br v (d_ : Int))))) < (R3 (nxM S br v (d_ : Int)))) (((R3 v) + 1) + (1000 * (rk S br v (nxM S br v (d_ : Int))))) (R3 (nxM S br v (d_ : Int)))) ((zi_f c14)).symm ?_
                  exact hJ11 ls (lv_sub hl [2, 3, 4, 5, 6, 1, 0] rfl)
                · refine lv_iload hx hb dX3_laysRests_143 (lv_at hl 0 rfl) ?_
                  refine lv_goto (tgt := 155) hx hb dX3_laysRests_145 (by decide) ?_
                  refine g_eq (b := zi ((((R3 v) + 1) + (1000 * (rk S br v (nxM S br v (d_ : Int))))) < (R3 (nxM S br v (d_ : Int)))) (((R3 v) + 1) + (1000 * (rk S br v (nxM S br v (d_ : Int))))) (R3 (nxM S br v (d_ : Int)))) ((zi_t c14)).symm ?_
                  exact hJ11 ls (lv_sub hl [2, 3, 4, 5, 6, 1, 0] rfl)
          exact lp80 _ 0 R2 (by omega) (dj0) rfl H locs hP (va_Dadr hD rfl) hS ls (lv_sub hl [1, 2, 3, 4, 0] rfl)
      exact lp65 _ R1 E1 (nearN R1 E1 192) (dji) (rfl) rfl H locs hP (va_Dadr hD rfl) hS ls (lv_sub hl [1, 2, 3, 0] rfl)
    · refine lv_aload_n hx hb dX3_laysRests_9 rfl (lv_at hl 0 rfl) ?_
      refine va_get (D := G) (ci := 2) (v := .ref hse) (C := RX3) (T := TX3) (N := 20) hx hb hts in_X3 hown hK hP 0 rfl rfl 14 (by decide) (hts _ q1452) (fun _ h9 => h9) hF_fs_14 dX3_laysRests_10 ?_
      refine lv_iload_n hx hb dX3_laysRests_13 rfl (lv_at hl 3 rfl) ?_
      refine lv_iconst (v := iI 0) hx hb dX3_laysRests_14 rfl ?_
      refine g_zast1 (ws1 := [(hM, .inr (2, fs)), (hs, .inl (g 0, 253, .inl (aI S))), (hac, .inl (g 0, 4, .inl (aI dx))), (hal, .inl (g 0, 4, .inl (aI dy))), (hre, .inl (g 0, 192, .inl (aI R1))), (hse, .inl (g 1, 192, .inl (aP (uP E1 (k : Int) False))))]) hx hb hK hP hD hS 5 1 rfl rfl (i := (k : Int)) False (qz_f id).symm (⟨by omega, by omega⟩) (by decide) dX3_laysRests_15 rfl (fun H locs hP hS => ?_)
      have hD : va_D A [(hM, .inr (2, fs)), (hs, .inl (g 0, 253, .inl (aI S))), (hac, .inl (g 0, 4, .inl (aI dx))), (hal, .inl (g 0, 4, .inl (aI dy))), (hre, .inl (g 0, 192, .inl (aI R1))), (hse, .inl (g 1, 192, .inl (aP (uP E1 (k : Int) False))))] := va_Dadr hD rfl
      refine lv_aload_n hx hb dX3_laysRests_16 rfl (lv_at hl 0 rfl) ?_
      refine va_get (D := G) (ci := 2) (v := .ref hre) (C := RX3) (T := TX3) (N := 20) hx hb hts in_X3 hown hK hP 0 rfl rfl 13 (by decide) (hts _ q1451) (fun _ h9 => h9) hF_fs_13 dX3_laysRests_17 ?_
      refine lv_iload_n hx hb dX3_laysRests_20 rfl (lv_at hl 3 rfl) ?_
      refine lv_aload_n hx hb dX3_laysRests_21 rfl (lv_at hl 0 rfl) ?_
      refine lv_aload_n hx hb dX3_laysRests_22 rfl (lv_at hl 1 rfl) ?_
      refine lv_iload_n hx hb dX3_laysRests_23 rfl (lv_at hl 3 rfl) ?_
      refine lv_bipush (v := iI 16) hx hb dX3_laysRests_24 rfl ?_
      refine g_irem hx hb dX3_laysRests_26 ⟨⟨by omega, by omega⟩, ⟨by decide, by decide⟩⟩ ?_
      refine lv_iload_n hx hb dX3_laysRests_27 rfl (lv_at hl 3 rfl) ?_
      refine lv_bipush (v := iI 16) hx hb dX3_laysRests_28 rfl ?_
      refine g_idiv hx hb dX3_laysRests_30 ⟨⟨by omega, by omega⟩, ⟨by decide, by decide⟩⟩ ?_
      refine g_callV (As := [.ref hs, .int (iI ((k : Int) % 16)), .int (iI ((k : Int) / 16))]) (rest := [.int (iI (k : Int)), .ref hre]) (m_X3_isPlace l G g hM hs ((k : Int) % 16) ((k : Int) / 16) fs br S hF_fs_18 (⟨by omega, by omega⟩) (⟨by omega, by omega⟩) kS hbr (by omega) (by omega)) hx hb hml hown hts Stab.tt hK hP hS hEs [0, 1] rfl (q0 := 0) rfl rfl q1586 q1588 qs62 q102 q1589 hd_X3_isPlace rfl rfl ⟨Nat.le_of_ble_eq_true rfl, Nat.le_of_ble_eq_true rfl⟩ rfl hl rfl (Nat.le_of_ble_eq_true rfl) ⟨Nat.le_refl _, Nat.le_refl _⟩ dX3_laysRests_31 ?_
      have hJ16 : ∀ ls : Array Slot, lv_has ls 7 [(0, .ref hM), (1, .ref hs), (2, .int (iI room)), (3, .int (iI (k : Int)))] → W p l e ({ frames := 5, cells := 0, slots := 0, locals := 114 }) s m ([.ref hM, .ref hs, .int (iI room)] : List Value).toArray below meth c H locs 0 0 (MQ below (va_Qv (fun (u : (Int → Int) × (Int → Prop)) => (rgRE u.1) ∧ (isDist S br room u.1)) (fun (u : (Int → Int) × (Int → Prop)) t => va_P G CL [(hM, .inr (2, fs)), (hs, .inl (g 0, 253, .inl (aI S))), (hac, .inl (g 0, 4, .inl (aI dx))), (hal, .inl (g 0, 4, .inl (aI dy))), (hre, .inl (g 0, 192, .inl (aI u.1))), (hse, .inl (g 1, 192, .inl (aP u.2)))] t.heap) A) ([.ref hM, .ref hs, .int (iI room)] : List Value).toArray s 0 0 A) (F0 m 53 ls [.int (iI (zi (plc S br ((k : Int) % 16) ((k : Int) / 16)) (zi (atR S br (k : Int) room) 1 1000000) 1000000)), .int (iI (k : Int)), .ref hre]) := by
        intro ls hl
        have o18 := zi_or (plc S br ((k : Int) % 16) ((k : Int) / 16)) (zi (atR S br (k : Int) room) 1 1000000) 1000000
        have o19 := zi_or (atR S br (k : Int) room) 1 1000000
        obtain ⟨v17, e_v17⟩ : ∃ z : Int, z = zi (plc S br ((k : Int) % 16) ((k : Int) / 16)) (zi (atR S br (k : Int) room) 1 1000000) 1000000 := ⟨_, rfl⟩
        refine g_eq e_v17.symm ?_
        refine g_iast (ws1 := [(hM, .inr (2, fs)), (hs, .inl (g 0, 253, .inl (aI S))), (hac, .inl (g 0, 4, .inl (aI dx))), (hal, .inl (g 0, 4, .inl (aI dy))), (hre, .inl (g 0, 192, .inl (aI (uZ R1 (k : Int) v17)))), (hse, .inl (g 1, 192, .inl (aP (uP E1 (k : Int) False))))]) hx hb hK hP hD hS 4 0 rfl rfl (i := (k : Int)) (⟨by omega, by omega⟩) (by decide) dX3_laysRests_53 rfl (fun H locs hP hS => ?_)
        have hD : va_D A [(hM, .inr (2, fs)), (hs, .inl (g 0, 253, .inl (aI S))), (hac, .inl (g 0, 4, .inl (aI dx))), (hal, .inl (g 0, 4, .inl (aI dy))), (hre, .inl (g 0, 192, .inl (aI (uZ R1 (k : Int) v17)))), (hse, .inl (g 1, 192, .inl (aP (uP E1 (k : Int) False))))] := va_Dadr hD rfl
        refine g_iinc (lv' := [(3, .int (iI ((k : Int) + 1))), (0, .ref hM), (1, .ref hs), (2, .int (iI room))]) hx hb dX3_laysRests_54 hl (k := 3) rfl (by decide) rfl (fun ls hl => ?_)
        refine lv_goto (tgt := 2) hx hb dX3_laysRests_57 (by decide) ?_
        exact ih2 _ (by omega) (k + 1) (uZ R1 (k : Int) v17) (uP E1 (k : Int) False) (by omega) (fun j h1 h2 => by
      by_cases hj : j = (k : Int)
      · subst hj; exact ⟨by rw [uZ_s, e_v17]; exact zi_and, fun z => uP_s.mp z⟩
      · exact ⟨by rw [uZ_n hj]; exact (ha j h1 (by omega)).1, fun z => (ha j h1 (by omega)).2 ((uP_n hj).mp z)⟩) rfl _ _ hP (va_Dadr hD rfl) hS ls (lv_sub hl [1, 2, 3, 0] rfl)
      refine g_ifq_eq (tgt := 51) hx hb dX3_laysRests_34 (by decide) (fun c20 => ?_) (fun c20 => ?_)
      · refine g_ldc (z := 1000000) hx hb hown (hts _ q1597) (by decide) dX3_laysRests_51 ?_
        refine g_eq (b := zi (plc S br ((k : Int) % 16) ((k : Int) / 16)) (zi (atR S br (k : Int) room) 1 1000000) 1000000) ((zi_f c20)).symm ?_
        exact hJ16 ls (lv_sub hl [0, 1, 2, 3] rfl)
      · refine lv_aload_n hx hb dX3_laysRests_37 rfl (lv_at hl 0 rfl) ?_
        refine lv_aload_n hx hb dX3_laysRests_38 rfl (lv_at hl 1 rfl) ?_
        refine lv_iload_n hx hb dX3_laysRests_39 rfl (lv_at hl 3 rfl) ?_
        refine lv_iload_n hx hb dX3_laysRests_40 rfl (lv_at hl 2 rfl) ?_
        refine g_callV (As := [.ref hs, .int (iI (k : Int)), .int (iI room)]) (rest := [.int (iI (k : Int)), .ref hre]) (m_X3_isAtRoom l G g hM hs (k : Int) room fs br S hF_fs_18 (⟨by omega, by omega⟩) r_room kS hbr (by omega)) hx hb hml hown hts Stab.tt hK hP hS hEs [0, 1] rfl (q0 := 0) rfl rfl q1590 q1592 qs63 q102 q1593 hd_X3_isAtRoom rfl rfl ⟨Nat.le_of_ble_eq_true rfl, Nat.le_of_ble_eq_true rfl⟩ rfl hl rfl (Nat.le_of_ble_eq_true rfl) ⟨Nat.le_refl _, Nat.le_refl _⟩ dX3_laysRests_41 ?_
        refine g_ifq_eq (tgt := 51) hx hb dX3_laysRests_44 (by decide) (fun c21 => ?_) (fun c21 => ?_)
        · refine g_ldc (z := 1000000) hx hb hown (hts _ q1597) (by decide) dX3_laysRests_51 ?_
          refine g_eq (b := zi (plc S br ((k : Int) % 16) ((k : Int) / 16)) (zi (atR S br (k : Int) room) 1 1000000) 1000000) (((zi_t c20).trans (zi_f c21))).symm ?_
          exact hJ16 ls (lv_sub hl [0, 1, 2, 3] rfl)
        · refine lv_iconst (v := iI 1) hx hb dX3_laysRests_47 rfl ?_
          refine lv_goto (tgt := 53) hx hb dX3_laysRests_48 (by decide) ?_
          refine g_eq (b := zi (plc S br ((k : Int) % 16) ((k : Int) / 16)) (zi (atR S br (k : Int) room) 1 1000000) 1000000) (((zi_t c20).trans (zi_t c21))).symm ?_
          exact hJ16 ls (lv_sub hl [0, 1, 2, 3] rfl)
  exact lp2 _ 0 RE SE (by omega) (fun j h1 h2 => by omega) rfl s.heap [] hP (va_Dadr hD rfl) hS ls (lv_sub hl [1, 2, 3, 0] rfl)
