theorem hd_X3_pairs : yX3_pairs.cls = RX3 ∧ yX3_pairs.cls ≠ "java/lang/invoke/MethodHandle" ∧ yX3_pairs.cls ≠ "java/lang/invoke/VarHandle" ∧ (parseMethodDescriptor yX3_pairs.desc).map (fun d => d.parameters.length) = some 2 := by decide +kernel
set_option maxHeartbeats 1000000 in
set_option maxRecDepth 100000 in
theorem m_X3_pairs_1 (l : Launch) (G : va_G) (g : Nat → ClassId) (sz : Nat) (hM : Nat) (hs : Nat) (hnow : Nat) (hthen : Nat) (hpast : Nat) (kept : Int) (htx : Nat) (ty : Int) (th : Int) (at_ : Int) (fa : Prop) (htold : Nat) (tolds : Int) (hac : Nat) (hal : Nat) (hre : Nat) (hse : Nat) (hpl : Nat) (many : Int) (cost : Int) (br : Int) (hsy : Nat) (S : Int → Int) (RE : Int → Int) (SE : Int → Prop) (PL : Int → Int) (kS : rgS S) (kW : rgW S) : Met l yX3_pairs (ws_ yX3_pairs cX3_pairs 6 (Option.some Jvm.ClassFile.FieldType.int)) ({ frames := 7, cells := 0, slots := 0, locals := 167 }) (va_Pc [.ref hM, .ref hs, .int (iI 1)] (wrB G CL (TY g) (fun _ => True) [(hM, .inr (2, (mO hnow hthen hpast kept htx ty th at_ fa htold tolds hac hal hre hse hpl many cost br hsy))), (hs, .inl (g 0, 253, .inl (aI S))), (hac, .inl (g 0, 4, .inl (aI dx))), (hal, .inl (g 0, 4, .inl (aI dy))), (hre, .inl (g 0, 192, .inl (aI RE))), (hse, .inl (g 1, 192, .inl (aP SE))), (hpl, .inl (g 0, 192, .inl (aI PL)))] sz)) (va_Qi (fun (r : Int32) (u : (Int → Int) × (Int → Prop) × (Int → Int) × Int × Int × Int) => r = (iI (prs S 1))) (fun (u : (Int → Int) × (Int → Prop) × (Int → Int) × Int × Int × Int) t => va_P G CL [(hM, .inr (2, (mO hnow hthen hpast kept htx ty th at_ fa htold tolds hac hal hre hse hpl u.2.2.2.1 u.2.2.2.2.1 u.2.2.2.2.2 hsy))), (hs, .inl (g 0, 253, .inl (aI S))), (hac, .inl (g 0, 4, .inl (aI dx))), (hal, .inl (g 0, 4, .inl (aI dy))), (hre, .inl (g 0, 192, .inl (aI u.1))), (hse, .inl (g 1, 192, .inl (aP u.2.1))), (hpl, .inl (g 0, 192, .inl (aI u.2.2.1)))] t.heap) (va_A [(hM, .inr (2, (mO hnow hthen hpast kept htx ty th at_ fa htold tolds hac hal hre hse hpl many cost br hsy))), (hs, .inl (g 0, 253, .inl (aI S))), (hac, .inl (g 0, 4, .inl (aI dx))), (hal, .inl (g 0, 4, .inl (aI dy))), (hre, .inl (g 0, 192, .inl (aI RE))), (hse, .inl (g 1, 192, .inl (aP SE))), (hpl, .inl (g 0, 192, .inl (aI PL)))] sz)) 0 0 (va_A [(hM, .inr (2, (mO hnow hthen hpast kept htx ty th at_ fa htold tolds hac hal hre hse hpl many cost br hsy))), (hs, .inl (g 0, 253, .inl (aI S))), (hac, .inl (g 0, 4, .inl (aI dx))), (hal, .inl (g 0, 4, .inl (aI dy))), (hre, .inl (g 0, 192, .inl (aI RE))), (hse, .inl (g 1, 192, .inl (aP SE))), (hpl, .inl (g 0, 192, .inl (aI PL)))] sz) := by
  refine Met.at (by decide) (Nat.le_of_ble_eq_true rfl) ?_
  intro p e s m below meth c hx hb hr hlk hml hown hnm hts hB ls hl
  have hown : s.vm.findClass RX3 = some m.cls := hown
  obtain ⟨hsz, hP, hK, hD0, hEs⟩ := hB
  subst hsz
  have hD := hD0.self (sz := s.heap.size)
  generalize hAe : va_A [(hM, .inr (2, (mO hnow hthen hpast kept htx ty th at_ fa htold tolds hac hal hre hse hpl many cost br hsy))), (hs, .inl (g 0, 253, .inl (aI S))), (hac, .inl (g 0, 4, .inl (aI dx))), (hal, .inl (g 0, 4, .inl (aI dy))), (hre, .inl (g 0, 192, .inl (aI RE))), (hse, .inl (g 1, 192, .inl (aP SE))), (hpl, .inl (g 0, 192, .inl (aI PL)))] s.heap.size = A at hD ⊢
  have hA : ∀ q : Nat, s.heap.size ≤ q → A q := fun q h => by rw [← hAe]; exact Or.inr h
  have hS : va_S A s.heap s.heap [] := va_S.rf
  have hl : lv_has ls 6 [(0, .ref hM), (1, .ref hs), (2, .int (iI 1))] := hl
  refine lv_iconst (v := iI 0) hx hb dX3_pairs_0 rfl ?_
  refine lv_istore_n (lv' := [(3, .int (iI 0)), (0, .ref hM), (1, .ref hs), (2, .int (iI 1))]) hx hb dX3_pairs_1 rfl hl (by decide) rfl (fun ls hl => ?_)
  refine lv_iconst (v := iI 0) hx hb dX3_pairs_2 rfl ?_
  refine lv_istore (lv' := [(4, .int (iI 0)), (3, .int (iI 0)), (0, .ref hM), (1, .ref hs), (2, .int (iI 1))]) hx hb dX3_pairs_3 hl (by decide) rfl (fun ls hl => ?_)
  have lp5 : ∀ (n : Nat) (k : Nat) (rA : Int → Int) (eA : Int → Prop) (lA : Int → Int) (mA : Int) (cA_ : Int) (bA : Int), ((k : Int) ≤ 36) → 36 - k = n → ∀ (H : Heap) (locs : List Loc), va_P G CL [(hM, .inr (2, (mO hnow hthen hpast kept htx ty th at_ fa htold tolds hac hal hre hse hpl mA cA_ bA hsy))), (hs, .inl (g 0, 253, .inl (aI S))), (hac, .inl (g 0, 4, .inl (aI dx))), (hal, .inl (g 0, 4, .inl (aI dy))), (hre, .inl (g 0, 192, .inl (aI rA))), (hse, .inl (g 1, 192, .inl (aP eA))), (hpl, .inl (g 0, 192, .inl (aI lA)))] H → va_D A [(hM, .inr (2, (mO hnow hthen hpast kept htx ty th at_ fa htold tolds hac hal hre hse hpl mA cA_ bA hsy))), (hs, .inl (g 0, 253, .inl (aI S))), (hac, .inl (g 0, 4, .inl (aI dx))), (hal, .inl (g 0, 4, .inl (aI dy))), (hre, .inl (g 0, 192, .inl (aI rA))), (hse, .inl (g 1, 192, .inl (aP eA))), (hpl, .inl (g 0, 192, .inl (aI lA)))] → va_S A s.heap H locs → ∀ ls : Array Slot, lv_has ls 6 [(0, .ref hM), (1, .ref hs), (2, .int (iI 1)), (3, .int (iI (sumN (prT S 1) k))), (4, .int (iI (k : Int)))] → W p l e ({ frames := 7, cells := 0, slots := 0, locals := 167 }) s m ([.ref hM, .ref hs, .int (iI 1)] : List Value).toArray below meth c H locs 0 0 (MQ below (va_Qi (fun (r : Int32) (u : (Int → Int) × (Int → Prop) × (Int → Int) × Int × Int × Int) => r = (iI (prs S 1))) (fun (u : (Int → Int) × (Int → Prop) × (Int → Int) × Int × Int × Int) t => va_P G CL [(hM, .inr (2, (mO hnow hthen hpast kept htx ty th at_ fa htold tolds hac hal hre hse hpl u.2.2.2.1 u.2.2.2.2.1 u.2.2.2.2.2 hsy))), (hs, .inl (g 0, 253, .inl (aI S))), (hac, .inl (g 0, 4, .inl (aI dx))), (hal, .inl (g 0, 4, .inl (aI dy))), (hre, .inl (g 0, 192, .inl (aI u.1))), (hse, .inl (g 1, 192, .inl (aP u.2.1))), (hpl, .inl (g 0, 192, .inl (aI u.2.2.1)))] t.heap) A) ([.ref hM, .ref hs, .int (iI 1)] : List Value).toArray s 0 0 A) (F0 m 5 ls []) := by
    intro n
    refine Nat.strongRecOn n ?_
    intro n ih5 k rA eA lA mA cA_ bA hk hmu5 H locs hP hD hS ls hl
    refine lv_iload hx hb dX3_pairs_5 (lv_at hl 4 rfl) ?_
    refine lv_bipush (v := iI 36) hx hb dX3_pairs_7 rfl ?_
    refine g_icmp_ge (tgt := 126) hx hb dX3_pairs_9 (by decide) ⟨⟨by omega, by omega⟩, ⟨by decide, by decide⟩⟩ (fun c1 => ?_) (fun c1 => ?_)
    · obtain rfl : k = 36 := by omega
      refine lv_iload_n hx hb dX3_pairs_126 rfl (lv_at hl 3 rfl) ?_
      exact W.iret (v := (iI (sumN (prT S 1) 36))) hx hb hr (fun t ht hW => ⟨⟨_, (rA, eA, lA, mA, cA_, bA), rfl, rfl, by rw [← ht] at hP; exact hP⟩, hS.F ht⟩) hS.2.2 dX3_pairs_127 hlk
    · refine lv_iload hx hb dX3_pairs_12 (lv_at hl 4 rfl) ?_
      refine lv_bipush (v := iI 6) hx hb dX3_pairs_14 rfl ?_
      refine g_idiv hx hb dX3_pairs_16 ⟨⟨by omega, by omega⟩, ⟨by decide, by decide⟩⟩ ?_
      refine lv_iload hx hb dX3_pairs_17 (lv_at hl 4 rfl) ?_
      refine lv_bipush (v := iI 6) hx hb dX3_pairs_19 rfl ?_
      refine g_irem hx hb dX3_pairs_21 ⟨⟨by omega, by omega⟩, ⟨by decide, by decide⟩⟩ ?_
      refine g_icmp_ge (tgt := 120) hx hb dX3_pairs_22 (by decide) ⟨⟨by omega, by omega⟩, ⟨by omega, by omega⟩⟩ (fun c2 => ?_) (fun c2 => ?_)
      · refine g_iinc (lv' := [(4, .int (iI ((k : Int) + 1))), (0, .ref hM), (1, .ref hs), (2, .int (iI 1)), (3, .int (iI (sumN (prT S 1) k)))]) hx hb dX3_pairs_120 hl (k := 4) rfl (by decide) rfl (fun ls hl => ?_)
        refine lv_goto (tgt := 5) hx hb dX3_pairs_123 (by decide) ?_
        exact ih5 _ (by omega) (k + 1) rA eA lA mA cA_ bA (by omega) rfl _ _ hP (va_Dadr hD rfl) hS ls (by rw [show sumN (prT S 1) (k + 1) = sumN (prT S 1) k from (congrArg (fun z => sumN (prT S 1) k + z) (show prT S 1 (k : Int) = 0 from by first | exact zi_f (fun z => absurd z.1 (by assumption)) | exact zi_f (fun z => absurd z.2 (by assumption)))).trans (Int.add_zero _)]; exact lv_sub hl [1, 2, 3, 4, 0] rfl)
      · refine lv_aload_n hx hb dX3_pairs_25 rfl (lv_at hl 1 rfl) ?_
        refine lv_iload hx hb dX3_pairs_26 (lv_at hl 4 rfl) ?_
        refine lv_bipush (v := iI 6) hx hb dX3_pairs_28 rfl ?_
        refine g_idiv hx hb dX3_pairs_30 ⟨⟨by omega, by omega⟩, ⟨by decide, by decide⟩⟩ ?_
        refine lv_iload hx hb dX3_pairs_31 (lv_at hl 4 rfl) ?_
        refine lv_bipush (v := iI 6) hx hb dX3_pairs_33 rfl ?_
        refine g_irem hx hb dX3_pairs_35 ⟨⟨by omega, by omega⟩, ⟨by decide, by decide⟩⟩ ?_
        refine g_callS (As := [.ref hs, .int (iI ((k : Int) / 6)), .int (iI ((k : Int) % 6))]) (rest := []) (m_X3_walks l G g hs ((k : Int) / 6) ((k : Int) % 6) S (⟨by omega, by omega⟩) (⟨by omega, by omega⟩) kS (by omega) (by omega)) hx hb hml hown hts Stab.tt hK hP hS hEs [1] rfl q1564 q1565 q102 q1566 hd_X3_walks rfl rfl ⟨Nat.le_of_ble_eq_true rfl, Nat.le_of_ble_eq_true rfl⟩ rfl hl rfl (Nat.le_of_ble_eq_true rfl) ⟨Nat.le_refl _, Nat.le_refl _⟩ dX3_pairs_36 ?_
        have w3 := kS (216 + 6 * ((k : Int) / 6) + ((k : Int) % 6)) (by omega) (by omega)
        refine g_if_le (tgt := 120) hx hb dX3_pairs_39 (by decide) ⟨by omega, by omega⟩ (fun c4 => ?_) (fun c4 => ?_)
        · refine g_iinc (lv' := [(4, .int (iI ((k : Int) + 1))), (0, .ref hM), (1, .ref hs), (2, .int (iI 1)), (3, .int (iI (sumN (prT S 1) k)))]) hx hb dX3_pairs_120 hl (k := 4) rfl (by decide) rfl (fun ls hl => ?_)
          refine lv_goto (tgt := 5) hx hb dX3_pairs_123 (by decide) ?_
          exact ih5 _ (by omega) (k + 1) rA eA lA mA cA_ bA (by omega) rfl _ _ hP (va_Dadr hD rfl) hS ls (by rw [show sumN (prT S 1) (k + 1) = sumN (prT S 1) k from (congrArg (fun z => sumN (prT S 1) k + z) (show prT S 1 (k : Int) = 0 from by first | exact zi_f (fun z => absurd z.1 (by assumption)) | exact zi_f (fun z => absurd z.2 (by assumption)))).trans (Int.add_zero _)]; exact lv_sub hl [1, 2, 3, 4, 0] rfl)
        · refine lv_iload_n hx hb dX3_pairs_42 rfl (lv_at hl 2 rfl) ?_
          refine g_if_le (tgt := 68) hx hb dX3_pairs_43 (by decide) ⟨by decide, by decide⟩ (fun c5 => ?_) (fun c5 => ?_)
          · exact False.elim (by omega)
          · refine lv_aload_n hx hb dX3_pairs_46 rfl (lv_at hl 0 rfl) ?_
            refine lv_aload_n hx hb dX3_pairs_47 rfl (lv_at hl 1 rfl) ?_
            refine lv_iload hx hb dX3_pairs_48 (lv_at hl 4 rfl) ?_
            refine lv_bipush (v := iI 6) hx hb dX3_pairs_50 rfl ?_
            refine g_idiv hx hb dX3_pairs_52 ⟨⟨by omega, by omega⟩, ⟨by decide, by decide⟩⟩ ?_
            refine lv_iload hx hb dX3_pairs_53 (lv_at hl 4 rfl) ?_
            refine lv_bipush (v := iI 6) hx hb dX3_pairs_55 rfl ?_
            refine g_irem hx hb dX3_pairs_57 ⟨⟨by omega, by omega⟩, ⟨by decide, by decide⟩⟩ ?_
            refine g_callVwi (As := [.ref hs, .int (iI ((k : Int) / 6)), .int (iI ((k : Int) % 6))]) (rest := []) (m_X3_isWay l G g H.size hM hs ((k : Int) / 6) ((k : Int) % 6) hnow hthen hpast kept htx ty th at_ fa htold tolds hac hal hre hse hpl mA cA_ bA hsy S rA eA lA (⟨by omega, by omega⟩) (⟨by omega, by omega⟩) kS kW (by omega) (by omega)) hx hb hml hown hts Stab.tt hA hK hP hD hS hEs [0, 1, 2, 3, 4, 5, 6] rfl rfl (fun _ => rfl) (q0 := 0) rfl rfl q1578 q1580 qs60 q102 q1581 hd_X3_isWay rfl rfl ⟨Nat.le_of_ble_eq_true rfl, Nat.le_of_ble_eq_true rfl⟩ rfl hl rfl (Nat.le_of_ble_eq_true rfl) ⟨Nat.le_refl _, Nat.le_refl _⟩ dX3_pairs_58 (fun rr u H locs hp hP hS => ?_)
            obtain ⟨RB, EB, PB⟩ := u
            obtain ⟨hrr, wpl, dsx⟩ : rr = (iI (qz (¬ wB S (brW S ((k : Int) / 6) ((k : Int) % 6)) ((k : Int) / 6) ((k : Int) % 6) = -1))) ∧ (∀ j9 : Nat, (j9 : Int) < wL S (brW S ((k : Int) / 6) ((k : Int) % 6)) ((k : Int) / 6) ((k : Int) % 6) → PB (j9 : Int) = wP S (brW S ((k : Int) / 6) ((k : Int) % 6)) ((k : Int) / 6) ((k : Int) % 6) j9) ∧ (isDist S (brW S ((k : Int) / 6) ((k : Int) % 6)) ((k : Int) % 6) (dsF S (brW S ((k : Int) / 6) ((k : Int) % 6)) ((k : Int) % 6))) := hp
            subst hrr
            have hP : va_P G CL [(hM, .inr (2, (mO hnow hthen hpast kept htx ty th at_ fa htold tolds hac hal hre hse hpl (wL S (brW S ((k : Int) / 6) ((k : Int) % 6)) ((k : Int) / 6) ((k : Int) % 6)) (wC S (brW S ((k : Int) / 6) ((k : Int) % 6)) ((k : Int) / 6) ((k : Int) % 6)) (brW S ((k : Int) / 6) ((k : Int) % 6)) hsy))), (hs, .inl (g 0, 253, .inl (aI S))), (hac, .inl (g 0, 4, .inl (aI dx))), (hal, .inl (g 0, 4, .inl (aI dy))), (hre, .inl (g 0, 192, .inl (aI RB))), (hse, .inl (g 1, 192, .inl (aP EB))), (hpl, .inl (g 0, 192, .inl (aI PB)))] H := hP
            have hD : va_D A [(hM, .inr (2, (mO hnow hthen hpast kept htx ty th at_ fa htold tolds hac hal hre hse hpl (wL S (brW S ((k : Int) / 6) ((k : Int) % 6)) ((k : Int) / 6) ((k : Int) % 6)) (wC S (brW S ((k : Int) / 6) ((k : Int) % 6)) ((k : Int) / 6) ((k : Int) % 6)) (brW S ((k : Int) / 6) ((k : Int) % 6)) hsy))), (hs, .inl (g 0, 253, .inl (aI S))), (hac, .inl (g 0, 4, .inl (aI dx))), (hal, .inl (g 0, 4, .inl (aI dy))), (hre, .inl (g 0, 192, .inl (aI RB))), (hse, .inl (g 1, 192, .inl (aP EB))), (hpl, .inl (g 0, 192, .inl (aI PB)))] := va_Dadr hD rfl
            refine W.widen (k := 0) (n := 0) (Nat.le_refl _) (Nat.le_refl _) ?_
            have hcr := wC_rng (S := S) (one := (k : Int) / 6) (brW_rng kW (by omega) (by omega)) dsx
            have hJ6 : ∀ ls : Array Slot, lv_has ls 6 [(0, .ref hM), (1, .ref hs), (2, .int (iI 1)), (3, .int (iI (sumN (prT S 1) k))), (4, .int (iI (k : Int)))] → W p l e ({ frames := 7, cells := 0, slots := 0, locals := 167 }) s m ([.ref hM, .ref hs, .int (iI 1)] : List Value).toArray below meth c H locs 0 0 (MQ below (va_Qi (fun (r : Int32) (u : (Int → Int) × (Int → Prop) × (Int → Int) × Int × Int × Int) => r = (iI (prs S 1))) (fun (u : (Int → Int) × (Int → Prop) × (Int → Int) × Int × Int × Int) t => va_P G CL [(hM, .inr (2, (mO hnow hthen hpast kept htx ty th at_ fa htold tolds hac hal hre hse hpl u.2.2.2.1 u.2.2.2.2.1 u.2.2.2.2.2 hsy))), (hs, .inl (g 0, 253, .inl (aI S))), (hac, .inl (g 0, 4, .inl (aI dx))), (hal, .inl (g 0, 4, .inl (aI dy))), (hre, .inl (g 0, 192, .inl (aI u.1))), (hse, .inl (g 1, 192, .inl (aP u.2.1))), (hpl, .inl (g 0, 192, .inl (aI u.2.2.1)))] t.heap) A) ([.ref hM, .ref hs, .int (iI 1)] : List Value).toArray s 0 0 A) (F0 m 69 ls [.int (iI (qz (¬ wB S (brW S ((k : Int) / 6) ((k : Int) % 6)) ((k : Int) / 6) ((k : Int) % 6) = -1)))]) := by
              intro ls hl
              refine lv_istore (lv' := [(5, .int (iI (qz (¬ wB S (brW S ((k : Int) / 6) ((k : Int) % 6)) ((k : Int) / 6) ((k : Int) % 6) = -1)))), (0, .ref hM), (1, .ref hs), (2, .int (iI 1)), (3, .int (iI (sumN (prT S 1) k))), (4, .int (iI (k : Int)))]) hx hb dX3_pairs_69 hl (by decide) rfl (fun ls hl => ?_)
              refine lv_iload_n hx hb dX3_pairs_71 rfl (lv_at hl 4 rfl) ?_
              refine lv_iload_n hx hb dX3_pairs_72 rfl (lv_at hl 3 rfl) ?_
              refine g_if_ne (tgt := 80) hx hb dX3_pairs_73 (by decide) ⟨by decide, by decide⟩ (fun c7 => ?_) (fun c7 => ?_)
              · refine lv_iload_n hx hb dX3_pairs_80 rfl (lv_at hl 3 rfl) ?_
                refine lv_iconst (v := iI 1) hx hb dX3_pairs_81 rfl ?_
                refine g_icmp_ne (tgt := 105) hx hb dX3_pairs_82 (by decide) ⟨⟨by decide, by decide⟩, ⟨by decide, by decide⟩⟩ (fun c8 => ?_) (fun c8 => ?_)
                · exact False.elim (by omega)
                · refine lv_iload hx hb dX3_pairs_85 (lv_at hl 0 rfl) ?_
                  have hJ9 : ∀ ls : Array Slot, lv_has ls 6 [(0, .ref hM), (1, .ref hs), (2, .int (iI 1)), (3, .int (iI (sumN (prT S 1) k))), (4, .int (iI (k : Int))), (5, .int (iI (qz (¬ wB S (brW S ((k : Int) / 6) ((k : Int) % 6)) ((k : Int) / 6) ((k : Int) % 6) = -1))))] → W p l e ({ frames := 7, cells := 0, slots := 0, locals := 167 }) s m ([.ref hM, .ref hs, .int (iI 1)] : List Value).toArray below meth c H locs 0 0 (MQ below (va_Qi (fun (r : Int32) (u : (Int → Int) × (Int → Prop) × (Int → Int) × Int × Int × Int) => r = (iI (prs S 1))) (fun (u : (Int → Int) × (Int → Prop) × (Int → Int) × Int × Int × Int) t => va_P G CL [(hM, .inr (2, (mO hnow hthen hpast kept htx ty th at_ fa htold tolds hac hal hre hse hpl u.2.2.2.1 u.2.2.2.2.1 u.2.2.2.2.2 hsy))), (hs, .inl (g 0, 253, .inl (aI S))), (hac, .inl (g 0, 4, .inl (aI dx))), (hal, .inl (g 0, 4, .inl (aI dy))), (hre, .inl (g 0, 192, .inl (aI u.1))), (hse, .inl (g 1, 192, .inl (aP u.2.1))), (hpl, .inl (g 0, 192, .inl (aI u.2.2.1)))] t.heap) A) ([.ref hM, .ref hs, .int (iI 1)] : List Value).toArray s 0 0 A) (F0 m 118 ls [.int (iI (qz (¬ (¬ wB S (brW S ((k : Int) / 6) ((k : Int) % 6)) ((k : Int) / 6) ((k : Int) % 6) = -1) ∨ (¬ ((wC S (brW S ((k : Int) / 6) ((k : Int) % 6)) ((k : Int) / 6) ((k : Int) % 6)) = 0))))), .int (iI (sumN (prT S 1) k))]) := by
                    intro ls hl
                    refine g_iadd hx hb dX3_pairs_118 ?_
                    refine lv_istore_n (lv' := [(3, .int (iI ((sumN (prT S 1) k) + (qz (¬ (¬ wB S (brW S ((k : Int) / 6) ((k : Int) % 6)) ((k : Int) / 6) ((k : Int) % 6) = -1) ∨ (¬ ((wC S (brW S ((k : Int) / 6) ((k : Int) % 6)) ((k : Int) / 6) ((k : Int) % 6)) = 0))))))), (0, .ref hM), (1, .ref hs), (2, .int (iI 1)), (4, .int (iI (k : Int))), (5, .int (iI (qz (¬ wB S (brW S ((k : Int) / 6) ((k : Int) % 6)) ((k : Int) / 6) ((k : Int) % 6) = -1))))]) hx hb dX3_pairs_119 rfl hl (by decide) rfl (fun ls hl => ?_)
                    refine g_iinc (lv' := [(4, .int (iI ((k : Int) + 1))), (3, .int (iI ((sumN (prT S 1) k) + (qz (¬ (¬ wB S (brW S ((k : Int) / 6) ((k : Int) % 6)) ((k : Int) / 6) ((k : Int) % 6) = -1) ∨ (¬ ((wC S (brW S ((k : Int) / 6) ((k : Int) % 6)) ((k : Int) / 6) ((k : Int) % 6)) = 0))))))), (0, .ref hM), (1, .ref hs), (2, .int (iI 1)), (5, .int (iI (qz (¬ wB S (brW S ((k : Int) / 6) ((k : Int) % 6)) ((k : Int) / 6) ((k : Int) % 6) = -1))))]) hx hb dX3_pairs_120 hl (k := 4) rfl (by decide) rfl (fun ls hl => ?_)
                    refine lv_goto (tgt := 5) hx hb dX3_pairs_123 (by decide) ?_
                    exact ih5 _ (by omega) (k + 1) RB EB PB (wL S (brW S ((k : Int) / 6) ((k : Int) % 6)) ((k : Int) / 6) ((k : Int) % 6)) (wC S (brW S ((k : Int) / 6) ((k : Int) % 6)) ((k : Int) / 6) ((k : Int) % 6)) (brW S ((k : Int) / 6) ((k : Int) % 6)) (by omega) rfl _ _ hP (va_Dadr hD rfl) hS ls (by rw [show sumN (prT S 1) (k + 1) = (sumN (prT S 1) k) + (qz (¬ (¬ wB S (brW S ((k : Int) / 6) ((k : Int) % 6)) ((k : Int) / 6) ((k : Int) % 6) = -1) ∨ (¬ ((wC S (brW S ((k : Int) / 6) ((k : Int) % 6)) ((k : Int) / 6) ((k : Int) % 6)) = 0)))) from congrArg (fun z => sumN (prT S 1) k + z) (show prT S 1 (k : Int) = (qz (¬ (¬ wB S (brW S ((k : Int) / 6) ((k : Int) % 6)) ((k : Int) / 6) ((k : Int) % 6) = -1) ∨ (¬ ((wC S (brW S ((k : Int) / 6) ((k : Int) % 6)) ((k : Int) / 6) ((k : Int) % 6)) = 0)))) from (((zi_t ⟨by assumption, by assumption⟩).trans (zi_f (by decide))).trans (zi_t rfl)).trans qz_nand)]; exact lv_sub hl [2, 3, 4, 1, 0] rfl)
                  refine g_ifq_eq (tgt := 101) hx hb dX3_pairs_87 (by decide) (fun c10 => ?_) (fun c10 => ?_)
                  · refine lv_iconst (v := iI 1) hx hb dX3_pairs_101 rfl ?_
                    refine lv_goto (tgt := 118) hx hb dX3_pairs_102 (by decide) ?_
                    refine g_eq (b := qz (¬ (¬ wB S (brW S ((k : Int) / 6) ((k : Int) % 6)) ((k : Int) / 6) ((k : Int) % 6) = -1) ∨ (¬ ((wC S (brW S ((k : Int) / 6) ((k : Int) % 6)) ((k : Int) / 6) ((k : Int) % 6)) = 0)))) (qz_t (Or.inl c10)).symm ?_
                    exact hJ9 ls (lv_sub hl [1, 2, 3, 4, 5, 0] rfl)
                  · refine lv_aload_n hx hb dX3_pairs_90 rfl (lv_at hl 1 rfl) ?_
                    refine va_get (D := G) (ci := 2) (v := .int (iI (wC S (brW S ((k : Int) / 6) ((k : Int) % 6)) ((k : Int) / 6) ((k : Int) % 6)))) (C := RX3) (T := TX3) (N := 20) hx hb hts in_X3 hown hK hP 0 rfl rfl 17 (by decide) (hts _ q1455) (fun _ h9 => h9) rfl dX3_pairs_91 ?_
                    refine g_if_ne (tgt := 101) hx hb dX3_pairs_94 (by decide) ⟨by omega, by omega⟩ (fun c11 => ?_) (fun c11 => ?_)
                    · refine lv_iconst (v := iI 1) hx hb dX3_pairs_101 rfl ?_
                      refine lv_goto (tgt := 118) hx hb dX3_pairs_102 (by decide) ?_
                      refine g_eq (b := qz (¬ (¬ wB S (brW S ((k : Int) / 6) ((k : Int) % 6)) ((k : Int) / 6) ((k : Int) % 6) = -1) ∨ (¬ ((wC S (brW S ((k : Int) / 6) ((k : Int) % 6)) ((k : Int) / 6) ((k : Int) % 6)) = 0)))) (qz_t (Or.inr c11)).symm ?_
                      exact hJ9 ls (lv_sub hl [1, 2, 3, 4, 5, 0] rfl)
                    · refine lv_iconst (v := iI 0) hx hb dX3_pairs_97 rfl ?_
                      refine lv_goto (tgt := 118) hx hb dX3_pairs_98 (by decide) ?_
                      refine g_eq (b := qz (¬ (¬ wB S (brW S ((k : Int) / 6) ((k : Int) % 6)) ((k : Int) / 6) ((k : Int) % 6) = -1) ∨ (¬ ((wC S (brW S ((k : Int) / 6) ((k : Int) % 6)) ((k : Int) / 6) ((k : Int) % 6)) = 0)))) (qz_f (fun xx => ((xx.resolve_left (fun nn => nn c10)) c11))).symm ?_
                      exact hJ9 ls (lv_sub hl [1, 2, 3, 4, 5, 0] rfl)
              · exact False.elim (by omega)
            have hcr := wC_rng (S := S) (one := (k : Int) / 6) (brW_rng kW (by omega) (by omega)) dsx
            refine g_ifq_eq (tgt := 68) hx hb dX3_pairs_61 (by decide) (fun c12 => ?_) (fun c12 => ?_)
            · refine lv_iconst (v := iI 0) hx hb dX3_pairs_68 rfl ?_
              refine g_eq (b := qz (¬ wB S (brW S ((k : Int) / 6) ((k : Int) % 6)) ((k : Int) / 6) ((k : Int) % 6) = -1)) (qz_f (fun xx => (c12 xx))).symm ?_
              exact hJ6 ls (lv_sub hl [0, 1, 2, 3, 4] rfl)
            · refine lv_iconst (v := iI 1) hx hb dX3_pairs_64 rfl ?_
              refine lv_goto (tgt := 69) hx hb dX3_pairs_65 (by decide) ?_
              refine g_eq (b := qz (¬ wB S (brW S ((k : Int) / 6) ((k : Int) % 6)) ((k : Int) / 6) ((k : Int) % 6) = -1)) (qz_t c12).symm ?_
              exact hJ6 ls (lv_sub hl [0, 1, 2, 3, 4] rfl)
  exact lp5 _ 0 RE SE PL many cost br (by omega) rfl s.heap [] hP (va_Dadr hD rfl) hS ls (lv_sub hl [2, 3, 4, 1, 0] rfl)
set_option maxHeartbeats 1000000 in
set_option maxRecDepth 100000 in
theorem m_X3_pairs_2 (l : Launch) (G : va_G) (g : Nat → ClassId) (sz : Nat) (hM : Nat) (hs : Nat) (hnow : Nat) (hthen : Nat) (hpast : Nat) (kept : Int) (htx : Nat) (ty : Int) (th : Int) (at_ : Int) (fa : Prop) (htold : Nat) (tolds : Int) (hac : Nat) (hal : Nat) (hre : Nat) (hse : Nat) (hpl : Nat) (many : Int) (cost : Int) (br : Int) (hsy : Nat) (S : Int → Int) (RE : Int → Int) (SE : Int → Prop) (PL : Int → Int) (kS : rgS S) (kW : rgW S) : Met l yX3_pairs (ws_ yX3_pairs cX3_pairs 6 (Option.some Jvm.ClassFile.FieldType.int)) ({ frames := 7, cells := 0, slots := 0, locals := 167 }) (va_Pc [.ref hM, .ref hs, .int (iI 2)] (wrB G CL (TY g) (fun _ => True) [(hM, .inr (2, (mO hnow hthen hpast kept htx ty th at_ fa htold tolds hac hal hre hse hpl many cost br hsy))), (hs, .inl (g 0, 253, .inl (aI S))), (hac, .inl (g 0, 4, .inl (aI dx))), (hal, .inl (g 0, 4, .inl (aI dy))), (hre, .inl (g 0, 192, .inl (aI RE))), (hse, .inl (g 1, 192, .inl (aP SE))), (hpl, .inl (g 0, 192, .inl (aI PL)))] sz)) (va_Qi (fun (r : Int32) (u : (Int → Int) × (Int → Prop) × (Int → Int) × Int × Int × Int) => r = (iI (prs S 2))) (fun (u : (Int → Int) × (Int → Prop) × (Int → Int) × Int × Int × Int) t => va_P G CL [(hM, .inr (2, (mO hnow hthen hpast kept htx ty th at_ fa htold tolds hac hal hre hse hpl u.2.2.2.1 u.2.2.2.2.1 u.2.2.2.2.2 hsy))), (hs, .inl (g 0, 253, .inl (aI S))), (hac, .inl (g 0, 4, .inl (aI dx))), (hal, .inl (g 0, 4, .inl (aI dy))), (hre, .inl (g 0, 192, .inl (aI u.1))), (hse, .inl (g 1, 192, .inl (aP u.2.1))), (hpl, .inl (g 0, 192, .inl (aI u.2.2.1)))] t.heap) (va_A [(hM, .inr (2, (mO hnow hthen hpast kept htx ty th at_ fa htold tolds hac hal hre hse hpl many cost br hsy))), (hs, .inl (g 0, 253, .inl (aI S))), (hac, .inl (g 0, 4, .inl (aI dx))), (hal, .inl (g 0, 4, .inl (aI dy))), (hre, .inl (g 0, 192, .inl (aI RE))), (hse, .inl (g 1, 192, .inl (aP SE))), (hpl, .inl (g 0, 192, .inl (aI PL)))] sz)) 0 0 (va_A [(hM, .inr (2, (mO hnow hthen hpast kept htx ty th at_ fa htold tolds hac hal hre hse hpl many cost br hsy))), (hs, .inl (g 0, 253, .inl (aI S))), (hac, .inl (g 0, 4, .inl (aI dx))), (hal, .inl (g 0, 4, .inl (aI dy))), (hre, .inl (g 0, 192, .inl (aI RE))), (hse, .inl (g 1, 192, .inl (aP SE))), (hpl, .inl (g 0, 192, .inl (aI PL)))] sz) := by
  refine Met.at (by decide) (Nat.le_of_ble_eq_true rfl) ?_
  intro p e s m below meth c hx hb hr hlk hml hown hnm hts hB ls hl
  have hown : s.vm.findClass RX3 = some m.cls := hown
  obtain ⟨hsz, hP, hK, hD0, hEs⟩ := hB
  subst hsz
  have hD := hD0.self (sz := s.heap.size)
  generalize hAe : va_A [(hM, .inr (2, (mO hnow hthen hpast kept htx ty th at_ fa htold tolds hac hal hre hse hpl many cost br hsy))), (hs, .inl (g 0, 253, .inl (aI S))), (hac, .inl (g 0, 4, .inl (aI dx))), (hal, .inl (g 0, 4, .inl (aI dy))), (hre, .inl (g 0, 192, .inl (aI RE))), (hse, .inl (g 1, 192, .inl (aP SE))), (hpl, .inl (g 0, 192, .inl (aI PL)))] s.heap.size = A at hD ⊢
  have hA : ∀ q : Nat, s.heap.size ≤ q → A q := fun q h => by rw [← hAe]; exact Or.inr h
  have hS : va_S A s.heap s.heap [] := va_S.rf
  have hl : lv_has ls 6 [(0, .ref hM), (1, .ref hs), (2, .int (iI 2))] := hl
  refine lv_iconst (v := iI 0) hx hb dX3_pairs_0 rfl ?_
  refine lv_istore_n (lv' := [(3, .int (iI 0)), (0, .ref hM), (1, .ref hs), (2, .int (iI 2))]) hx hb dX3_pairs_1 rfl hl (by decide) rfl (fun ls hl => ?_)
  refine lv_iconst (v := iI 0) hx hb dX3_pairs_2 rfl ?_
  refine lv_istore (lv' := [(4, .int (iI 0)), (3, .int (iI 0)), (0, .ref hM), (1, .ref hs), (2, .int (iI 2))]) hx hb dX3_pairs_3 hl (by decide) rfl (fun ls hl => ?_)
  have lp5 : ∀ (n : Nat) (k : Nat) (rA : Int → Int) (eA : Int → Prop) (lA : Int → Int) (mA : Int) (cA_ : Int) (bA : Int), ((k : Int) ≤ 36) → 36 - k = n → ∀ (H : Heap) (locs : List Loc), va_P G CL [(hM, .inr (2, (mO hnow hthen hpast kept htx ty th at_ fa htold tolds hac hal hre hse hpl mA cA_ bA hsy))), (hs, .inl (g 0, 253, .inl (aI S))), (hac, .inl (g 0, 4, .inl (aI dx))), (hal, .inl (g 0, 4, .inl (aI dy))), (hre, .inl (g 0, 192, .inl (aI rA))), (hse, .inl (g 1, 192, .inl (aP eA))), (hpl, .inl (g 0, 192, .inl (aI lA)))] H → va_D A [(hM, .inr (2, (mO hnow hthen hpast kept htx ty th at_ fa htold tolds hac hal hre hse hpl mA cA_ bA hsy))), (hs, .inl (g 0, 253, .inl (aI S))), (hac, .inl (g 0, 4, .inl (aI dx))), (hal, .inl (g 0, 4, .inl (aI dy))), (hre, .inl (g 0, 192, .inl (aI rA))), (hse, .inl (g 1, 192, .inl (aP eA))), (hpl, .inl (g 0, 192, .inl (aI lA)))] → va_S A s.heap H locs → ∀ ls : Array Slot, lv_has ls 6 [(0, .ref hM), (1, .ref hs), (2, .int (iI 2)), (3, .int (iI (sumN (prT S 2) k))), (4, .int (iI (k : Int)))] → W p l e ({ frames := 7, cells := 0, slots := 0, locals := 167 }) s m ([.ref hM, .ref hs, .int (iI 2)] : List Value).toArray below meth c H locs 0 0 (MQ below (va_Qi (fun (r : Int32) (u : (Int → Int) × (Int → Prop) × (Int → Int) × Int × Int × Int) => r = (iI (prs S 2))) (fun (u : (Int → Int) × (Int → Prop) × (Int → Int) × Int × Int × Int) t => va_P G CL [(hM, .inr (2, (mO hnow hthen hpast kept htx ty th at_ fa htold tolds hac hal hre hse hpl u.2.2.2.1 u.2.2.2.2.1 u.2.2.2.2.2 hsy))), (hs, .inl (g 0, 253, .inl (aI S))), (hac, .inl (g 0, 4, .inl (aI dx))), (hal, .inl (g 0, 4, .inl (aI dy))), (hre, .inl (g 0, 192, .inl (aI u.1))), (hse, .inl (g 1, 192, .inl (aP u.2.1))), (hpl, .inl (g 0, 192, .inl (aI u.2.2.1)))] t.heap) A) ([.ref hM, .ref hs, .int (iI 2)] : List Value).toArray s 0 0 A) (F0 m 5 ls []) := by
    intro n
    refine Nat.strongRecOn n ?_
    intro n ih5 k rA eA lA mA cA_ bA hk hmu5 H locs hP hD hS ls hl
    refine lv_iload hx hb dX3_pairs_5 (lv_at hl 4 rfl) ?_
    refine lv_bipush (v := iI 36) hx hb dX3_pairs_7 rfl ?_
    refine g_icmp_ge (tgt := 126) hx hb dX3_pairs_9 (by decide) ⟨⟨by omega, by omega⟩, ⟨by decide, by decide⟩⟩ (fun c1 => ?_) (fun c1 => ?_)
    · obtain rfl : k = 36 := by omega
      refine lv_iload_n hx hb dX3_pairs_126 rfl (lv_at hl 3 rfl) ?_
      exact W.iret (v := (iI (sumN (prT S 2) 36))) hx hb hr (fun t ht hW => ⟨⟨_, (rA, eA, lA, mA, cA_, bA), rfl, rfl, by rw [← ht] at hP; exact hP⟩, hS.F ht⟩) hS.2.2 dX3_pairs_127 hlk
    · refine lv_iload hx hb dX3_pairs_12 (lv_at hl 4 rfl) ?_
      refine lv_bipush (v := iI 6) hx hb dX3_pairs_14 rfl ?_
      refine g_idiv hx hb dX3_pairs_16 ⟨⟨by omega, by omega⟩, ⟨by decide, by decide⟩⟩ ?_
      refine lv_iload hx hb dX3_pairs_17 (lv_at hl 4 rfl) ?_
      refine lv_bipush (v := iI 6) hx hb dX3_pairs_19 rfl ?_
      refine g_irem hx hb dX3_pairs_21 ⟨⟨by omega, by omega⟩, ⟨by decide, by decide⟩⟩ ?_
      refine g_icmp_ge (tgt := 120) hx hb dX3_pairs_22 (by decide) ⟨⟨by omega, by omega⟩, ⟨by omega, by omega⟩⟩ (fun c2 => ?_) (fun c2 => ?_)
      · refine g_iinc (lv' := [(4, .int (iI ((k : Int) + 1))), (0, .ref hM), (1, .ref hs), (2, .int (iI 2)), (3, .int (iI (sumN (prT S 2) k)))]) hx hb dX3_pairs_120 hl (k := 4) rfl (by decide) rfl (fun ls hl => ?_)
        refine lv_goto (tgt := 5) hx hb dX3_pairs_123 (by decide) ?_
        exact ih5 _ (by omega) (k + 1) rA eA lA mA cA_ bA (by omega) rfl _ _ hP (va_Dadr hD rfl) hS ls (by rw [show sumN (prT S 2) (k + 1) = sumN (prT S 2) k from (congrArg (fun z => sumN (prT S 2) k + z) (show prT S 2 (k : Int) = 0 from by first | exact zi_f (fun z => absurd z.1 (by assumption)) | exact zi_f (fun z => absurd z.2 (by assumption)))).trans (Int.add_zero _)]; exact lv_sub hl [1, 2, 3, 4, 0] rfl)
      · refine lv_aload_n hx hb dX3_pairs_25 rfl (lv_at hl 1 rfl) ?_
        refine lv_iload hx hb dX3_pairs_26 (lv_at hl 4 rfl) ?_
        refine lv_bipush (v := iI 6) hx hb dX3_pairs_28 rfl ?_
        refine g_idiv hx hb dX3_pairs_30 ⟨⟨by omega, by omega⟩, ⟨by decide, by decide⟩⟩ ?_
        refine lv_iload hx hb dX3_pairs_31 (lv_at hl 4 rfl) ?_
        refine lv_bipush (v := iI 6) hx hb dX3_pairs_33 rfl ?_
        refine g_irem hx hb dX3_pairs_35 ⟨⟨by omega, by omega⟩, ⟨by decide, by decide⟩⟩ ?_
        refine g_callS (As := [.ref hs, .int (iI ((k : Int) / 6)), .int (iI ((k : Int) % 6))]) (rest := []) (m_X3_walks l G g hs ((k : Int) / 6) ((k : Int) % 6) S (⟨by omega, by omega⟩) (⟨by omega, by omega⟩) kS (by omega) (by omega)) hx hb hml hown hts Stab.tt hK hP hS hEs [1] rfl q1564 q1565 q102 q1566 hd_X3_walks rfl rfl ⟨Nat.le_of_ble_eq_true rfl, Nat.le_of_ble_eq_true rfl⟩ rfl hl rfl (Nat.le_of_ble_eq_true rfl) ⟨Nat.le_refl _, Nat.le_refl _⟩ dX3_pairs_36 ?_
        have w3 := kS (216 + 6 * ((k : Int) / 6) + ((k : Int) % 6)) (by omega) (by omega)
        refine g_if_le (tgt := 120) hx hb dX3_pairs_39 (by decide) ⟨by omega, by omega⟩ (fun c4 => ?_) (fun c4 => ?_)
        · refine g_iinc (lv' := [(4, .int (iI ((k : Int) + 1))), (0, .ref hM), (1, .ref hs), (2, .int (iI 2)), (3, .int (iI (sumN (prT S 2) k)))]) hx hb dX3_pairs_120 hl (k := 4) rfl (by decide) rfl (fun ls hl => ?_)
          refine lv_goto (tgt := 5) hx hb dX3_pairs_123 (by decide) ?_
          exact ih5 _ (by omega) (k + 1) rA eA lA mA cA_ bA (by omega) rfl _ _ hP (va_Dadr hD rfl) hS ls (by rw [show sumN (prT S 2) (k + 1) = sumN (prT S 2) k from (congrArg (fun z => sumN (prT S 2) k + z) (show prT S 2 (k : Int) = 0 from by first | exact zi_f (fun z => absurd z.1 (by assumption)) | exact zi_f (fun z => absurd z.2 (by assumption)))).trans (Int.add_zero _)]; exact lv_sub hl [1, 2, 3, 4, 0] rfl)
        · refine lv_iload_n hx hb dX3_pairs_42 rfl (lv_at hl 2 rfl) ?_
          refine g_if_le (tgt := 68) hx hb dX3_pairs_43 (by decide) ⟨by decide, by decide⟩ (fun c5 => ?_) (fun c5 => ?_)
          · exact False.elim (by omega)
          · refine lv_aload_n hx hb dX3_pairs_46 rfl (lv_at hl 0 rfl) ?_
            refine lv_aload_n hx hb dX3_pairs_47 rfl (lv_at hl 1 rfl) ?_
            refine lv_iload hx hb dX3_pairs_48 (lv_at hl 4 rfl) ?_
            refine lv_bipush (v := iI 6) hx hb dX3_pairs_50 rfl ?_
            refine g_idiv hx hb dX3_pairs_52 ⟨⟨by omega, by omega⟩, ⟨by decide, by decide⟩⟩ ?_
            refine lv_iload hx hb dX3_pairs_53 (lv_at hl 4 rfl) ?_
            refine lv_bipush (v := iI 6) hx hb dX3_pairs_55 rfl ?_
            refine g_irem hx hb dX3_pairs_57 ⟨⟨by omega, by omega⟩, ⟨by decide, by decide⟩⟩ ?_
            refine g_callVwi (As := [.ref hs, .int (iI ((k : Int) / 6)), .int (iI ((k : Int) % 6))]) (rest := []) (m_X3_isWay l G g H.size hM hs ((k : Int) / 6) ((k : Int) % 6) hnow hthen hpast kept htx ty th at_ fa htold tolds hac hal hre hse hpl mA cA_ bA hsy S rA eA lA (⟨by omega, by omega⟩) (⟨by omega, by omega⟩) kS kW (by omega) (by omega)) hx hb hml hown hts Stab.tt hA hK hP hD hS hEs [0, 1, 2, 3, 4, 5, 6] rfl rfl (fun _ => rfl) (q0 := 0) rfl rfl q1578 q1580 qs60 q102 q1581 hd_X3_isWay rfl rfl ⟨Nat.le_of_ble_eq_true rfl, Nat.le_of_ble_eq_true rfl⟩ rfl hl rfl (Nat.le_of_ble_eq_true rfl) ⟨Nat.le_refl _, Nat.le_refl _⟩ dX3_pairs_58 (fun rr u H locs hp hP hS => ?_)
            obtain ⟨RB, EB, PB⟩ := u
            obtain ⟨hrr, wpl, dsx⟩ : rr = (iI (qz (¬ wB S (brW S ((k : Int) / 6) ((k : Int) % 6)) ((k : Int) / 6) ((k : Int) % 6) = -1))) ∧ (∀ j9 : Nat, (j9 : Int) < wL S (brW S ((k : Int) / 6) ((k : Int) % 6)) ((k : Int) / 6) ((k : Int) % 6) → PB (j9 : Int) = wP S (brW S ((k : Int) / 6) ((k : Int) % 6)) ((k : Int) / 6) ((k : Int) % 6) j9) ∧ (isDist S (brW S ((k : Int) / 6) ((k : Int) % 6)) ((k : Int) % 6) (dsF S (brW S ((k : Int) / 6) ((k : Int) % 6)) ((k : Int) % 6))) := hp
            subst hrr
            have hP : va_P G CL [(hM, .inr (2, (mO hnow hthen hpast kept htx ty th at_ fa htold tolds hac hal hre hse hpl (wL S (brW S ((k : Int) / 6) ((k : Int) % 6)) ((k : Int) / 6) ((k : Int) % 6)) (wC S (brW S ((k : Int) / 6) ((k : Int) % 6)) ((k : Int) / 6) ((k : Int) % 6)) (brW S ((k : Int) / 6) ((k : Int) % 6)) hsy))), (hs, .inl (g 0, 253, .inl (aI S))), (hac, .inl (g 0, 4, .inl (aI dx))), (hal, .inl (g 0, 4, .inl (aI dy))), (hre, .inl (g 0, 192, .inl (aI RB))), (hse, .inl (g 1, 192, .inl (aP EB))), (hpl, .inl (g 0, 192, .inl (aI PB)))] H := hP
            have hD : va_D A [(hM, .inr (2, (mO hnow hthen hpast kept htx ty th at_ fa htold tolds hac hal hre hse hpl (wL S (brW S ((k : Int) / 6) ((k : Int) % 6)) ((k : Int) / 6) ((k : Int) % 6)) (wC S (brW S ((k : Int) / 6) ((k : Int) % 6)) ((k : Int) / 6) ((k : Int) % 6)) (brW S ((k : Int) / 6) ((k : Int) % 6)) hsy))), (hs, .inl (g 0, 253, .inl (aI S))), (hac, .inl (g 0, 4, .inl (aI dx))), (hal, .inl (g 0, 4, .inl (aI dy))), (hre, .inl (g 0, 192, .inl (aI RB))), (hse, .inl (g 1, 192, .inl (aP EB))), (hpl, .inl (g 0, 192, .inl (aI PB)))] := va_Dadr hD rfl
            refine W.widen (k := 0) (n := 0) (Nat.le_refl _) (Nat.le_refl _) ?_
            have hcr := wC_rng (S := S) (one := (k : Int) / 6) (brW_rng kW (by omega) (by omega)) dsx
            have hJ6 : ∀ ls : Array Slot, lv_has ls 6 [(0, .ref hM), (1, .ref hs), (2, .int (iI 2)), (3, .int (iI (sumN (prT S 2) k))), (4, .int (iI (k : Int)))] → W p l e ({ frames := 7, cells := 0, slots := 0, locals := 167 }) s m ([.ref hM, .ref hs, .int (iI 2)] : List Value).toArray below meth c H locs 0 0 (MQ below (va_Qi (fun (r : Int32) (u : (Int → Int) × (Int → Prop) × (Int → Int) × Int × Int × Int) => r = (iI (prs S 2))) (fun (u : (Int → Int) × (Int → Prop) × (Int → Int) × Int × Int × Int) t => va_P G CL [(hM, .inr (2, (mO hnow hthen hpast kept htx ty th at_ fa htold tolds hac hal hre hse hpl u.2.2.2.1 u.2.2.2.2.1 u.2.2.2.2.2 hsy))), (hs, .inl (g 0, 253, .inl (aI S))), (hac, .inl (g 0, 4, .inl (aI dx))), (hal, .inl (g 0, 4, .inl (aI dy))), (hre, .inl (g 0, 192, .inl (aI u.1))), (hse, .inl (g 1, 192, .inl (aP u.2.1))), (hpl, .inl (g 0, 192, .inl (aI u.2.2.1)))] t.heap) A) ([.ref hM, .ref hs, .int (iI 2)] : List Value).toArray s 0 0 A) (F0 m 69 ls [.int (iI (qz (¬ wB S (brW S ((k : Int) / 6) ((k : Int) % 6)) ((k : Int) / 6) ((k : Int) % 6) = -1)))]) := by
              intro ls hl
              refine lv_istore (lv' := [(5, .int (iI (qz (¬ wB S (brW S ((k : Int) / 6) ((k : Int) % 6)) ((k : Int) / 6) ((k : Int) % 6) = -1)))), (0, .ref hM), (1, .ref hs), (2, .int (iI 2)), (3, .int (iI (sumN (prT S 2) k))), (4, .int (iI (k : Int)))]) hx hb dX3_pairs_69 hl (by decide) rfl (fun ls hl => ?_)
              refine lv_iload_n hx hb dX3_pairs_71 rfl (lv_at hl 4 rfl) ?_
              refine lv_iload_n hx hb dX3_pairs_72 rfl (lv_at hl 3 rfl) ?_
              refine g_if_ne (tgt := 80) hx hb dX3_pairs_73 (by decide) ⟨by decide, by decide⟩ (fun c7 => ?_) (fun c7 => ?_)
              · refine lv_iload_n hx hb dX3_pairs_80 rfl (lv_at hl 3 rfl) ?_
                refine lv_iconst (v := iI 1) hx hb dX3_pairs_81 rfl ?_
                refine g_icmp_ne (tgt := 105) hx hb dX3_pairs_82 (by decide) ⟨⟨by decide, by decide⟩, ⟨by decide, by decide⟩⟩ (fun c8 => ?_) (fun c8 => ?_)
                · refine lv_iload hx hb dX3_pairs_105 (lv_at hl 0 rfl) ?_
                  have hJ9 : ∀ ls : Array Slot, lv_has ls 6 [(0, .ref hM), (1, .ref hs), (2, .int (iI 2)), (3, .int (iI (sumN (prT S 2) k))), (4, .int (iI (k : Int))), (5, .int (iI (qz (¬ wB S (brW S ((k : Int) / 6) ((k : Int) % 6)) ((k : Int) / 6) ((k : Int) % 6) = -1))))] → W p l e ({ frames := 7, cells := 0, slots := 0, locals := 167 }) s m ([.ref hM, .ref hs, .int (iI 2)] : List Value).toArray below meth c H locs 0 0 (MQ below (va_Qi (fun (r : Int32) (u : (Int → Int) × (Int → Prop) × (Int → Int) × Int × Int × Int) => r = (iI (prs S 2))) (fun (u : (Int → Int) × (Int → Prop) × (Int → Int) × Int × Int × Int) t => va_P G CL [(hM, .inr (2, (mO hnow hthen hpast kept htx ty th at_ fa htold tolds hac hal hre hse hpl u.2.2.2.1 u.2.2.2.2.1 u.2.2.2.2.2 hsy))), (hs, .inl (g 0, 253, .inl (aI S))), (hac, .inl (g 0, 4, .inl (aI dx))), (hal, .inl (g 0, 4, .inl (aI dy))), (hre, .inl (g 0, 192, .inl (aI u.1))), (hse, .inl (g 1, 192, .inl (aP u.2.1))), (hpl, .inl (g 0, 192, .inl (aI u.2.2.1)))] t.heap) A) ([.ref hM, .ref hs, .int (iI 2)] : List Value).toArray s 0 0 A) (F0 m 118 ls [.int (iI (zi (¬ wB S (brW S ((k : Int) / 6) ((k : Int) % 6)) ((k : Int) / 6) ((k : Int) % 6) = -1) (wC S (brW S ((k : Int) / 6) ((k : Int) % 6)) ((k : Int) / 6) ((k : Int) % 6)) 0)), .int (iI (sumN (prT S 2) k))]) := by
                    intro ls hl
                    have o11 := zi_or (¬ wB S (brW S ((k : Int) / 6) ((k : Int) % 6)) ((k : Int) / 6) ((k : Int) % 6) = -1) (wC S (brW S ((k : Int) / 6) ((k : Int) % 6)) ((k : Int) / 6) ((k : Int) % 6)) 0
                    obtain ⟨v10, e_v10⟩ : ∃ z : Int, z = zi (¬ wB S (brW S ((k : Int) / 6) ((k : Int) % 6)) ((k : Int) / 6) ((k : Int) % 6) = -1) (wC S (brW S ((k : Int) / 6) ((k : Int) % 6)) ((k : Int) / 6) ((k : Int) % 6)) 0 := ⟨_, rfl⟩
                    refine g_eq e_v10.symm ?_
                    refine g_iadd hx hb dX3_pairs_118 ?_
                    refine lv_istore_n (lv' := [(3, .int (iI ((sumN (prT S 2) k) + v10))), (0, .ref hM), (1, .ref hs), (2, .int (iI 2)), (4, .int (iI (k : Int))), (5, .int (iI (qz (¬ wB S (brW S ((k : Int) / 6) ((k : Int) % 6)) ((k : Int) / 6) ((k : Int) % 6) = -1))))]) hx hb dX3_pairs_119 rfl hl (by decide) rfl (fun ls hl => ?_)
                    refine g_iinc (lv' := [(4, .int (iI ((k : Int) + 1))), (3, .int (iI ((sumN (prT S 2) k) + v10))), (0, .ref hM), (1, .ref hs), (2, .int (iI 2)), (5, .int (iI (qz (¬ wB S (brW S ((k : Int) / 6) ((k : Int) % 6)) ((k : Int) / 6) ((k : Int) % 6) = -1))))]) hx hb dX3_pairs_120 hl (k := 4) rfl (by decide) rfl (fun ls hl => ?_)
                    refine lv_goto (tgt := 5) hx hb dX3_pairs_123 (by decide) ?_
                    exact ih5 _ (by omega) (k + 1) RB EB PB (wL S (brW S ((k : Int) / 6) ((k : Int) % 6)) ((k : Int) / 6) ((k : Int) % 6)) (wC S (brW S ((k : Int) / 6) ((k : Int) % 6)) ((k : Int) / 6) ((k : Int) % 6)) (brW S ((k : Int) / 6) ((k : Int) % 6)) (by omega) rfl _ _ hP (va_Dadr hD rfl) hS ls (by rw [show sumN (prT S 2) (k + 1) = (sumN (prT S 2) k) + v10 from congrArg (fun z => sumN (prT S 2) k + z) (show prT S 2 (k : Int) = v10 from (((zi_t ⟨by assumption, by assumption⟩).trans (zi_f (by decide))).trans (zi_f (by decide))).trans e_v10.symm)]; exact lv_sub hl [2, 3, 4, 1, 0] rfl)
                  refine g_ifq_eq (tgt := 117) hx hb dX3_pairs_107 (by decide) (fun c12 => ?_) (fun c12 => ?_)
                  · refine lv_iconst (v := iI 0) hx hb dX3_pairs_117 rfl ?_
                    refine g_eq (b := zi (¬ wB S (brW S ((k : Int) / 6) ((k : Int) % 6)) ((k : Int) / 6) ((k : Int) % 6) = -1) (wC S (brW S ((k : Int) / 6) ((k : Int) % 6)) ((k : Int) / 6) ((k : Int) % 6)) 0) ((zi_f c12)).symm ?_
                    exact hJ9 ls (lv_sub hl [1, 2, 3, 4, 5, 0] rfl)
                  · refine lv_aload_n hx hb dX3_pairs_110 rfl (lv_at hl 1 rfl) ?_
                    refine va_get (D := G) (ci := 2) (v := .int (iI (wC S (brW S ((k : Int) / 6) ((k : Int) % 6)) ((k : Int) / 6) ((k : Int) % 6)))) (C := RX3) (T := TX3) (N := 20) hx hb hts in_X3 hown hK hP 0 rfl rfl 17 (by decide) (hts _ q1455) (fun _ h9 => h9) rfl dX3_pairs_111 ?_
                    refine lv_goto (tgt := 118) hx hb dX3_pairs_114 (by decide) ?_
                    refine g_eq (b := zi (¬ wB S (brW S ((k : Int) / 6) ((k : Int) % 6)) ((k : Int) / 6) ((k : Int) % 6) = -1) (wC S (brW S ((k : Int) / 6) ((k : Int) % 6)) ((k : Int) / 6) ((k : Int) % 6)) 0) ((zi_t c12)).symm ?_
                    exact hJ9 ls (lv_sub hl [1, 2, 3, 4, 5, 0] rfl)
                · exact False.elim (by omega)
              · exact False.elim (by omega)
            have hcr := wC_rng (S := S) (one := (k : Int) / 6) (brW_rng kW (by omega) (by omega)) dsx
            refine g_ifq_eq (tgt := 68) hx hb dX3_pairs_61 (by decide) (fun c13 => ?_) (fun c13 => ?_)
            · refine lv_iconst (v := iI 0) hx hb dX3_pairs_68 rfl ?_
              refine g_eq (b := qz (¬ wB S (brW S ((k : Int) / 6) ((k : Int) % 6)) ((k : Int) / 6) ((k : Int) % 6) = -1)) (qz_f (fun xx => (c13 xx))).symm ?_
              exact hJ6 ls (lv_sub hl [0, 1, 2, 3, 4] rfl)
            · refine lv_iconst (v := iI 1) hx hb dX3_pairs_64 rfl ?_
              refine lv_goto (tgt := 69) hx hb dX3_pairs_65 (by decide) ?_
              refine g_eq (b := qz (¬ wB S (brW S ((k : Int) / 6) ((k : Int) % 6)) ((k : Int) / 6) ((k : Int) % 6) = -1)) (qz_t c13).symm ?_
              exact hJ6 ls (lv_sub hl [0, 1, 2, 3, 4] rfl)
  exact lp5 _ 0 RE SE PL many cost br (by omega) rfl s.heap [] hP (va_Dadr hD rfl) hS ls (lv_sub hl [2, 3, 4, 1, 0] rfl)
set_option maxHeartbeats 1000000 in
set_option maxRecDepth 100000 in
theorem m_X3_pairs_0 (l : Launch) (G : va_G) (g : Nat → ClassId) (sz : Nat) (hM : Nat) (hs : Nat) (hnow : Nat) (hthen : Nat) (hpast : Nat) (kept : Int) (htx : Nat) (ty : Int) (th : Int) (at_ : Int) (fa : Prop) (htold : Nat) (tolds : Int) (hac : Nat) (hal : Nat) (hre : Nat) (hse : Nat) (hpl : Nat) (many : Int) (cost : Int) (br : Int) (hsy : Nat) (S : Int → Int) (RE : Int → Int) (SE : Int → Prop) (PL : Int → Int) (kS : rgS S) (kW : rgW S) : Met l yX3_pairs (ws_ yX3_pairs cX3_pairs 6 (Option.some Jvm.ClassFile.FieldType.int)) ({ frames := 7, cells := 0, slots := 0, locals := 167 }) (va_Pc [.ref hM, .ref hs, .int (iI 0)] (wrB G CL (TY g) (fun _ => True) [(hM, .inr (2, (mO hnow hthen hpast kept htx ty th at_ fa htold tolds hac hal hre hse hpl many cost br hsy))), (hs, .inl (g 0, 253, .inl (aI S))), (hac, .inl (g 0, 4, .inl (aI dx))), (hal, .inl (g 0, 4, .inl (aI dy))), (hre, .inl (g 0, 192, .inl (aI RE))), (hse, .inl (g 1, 192, .inl (aP SE))), (hpl, .inl (g 0, 192, .inl (aI PL)))] sz)) (va_Qi (fun (r : Int32) (u : (Int → Int) × (Int → Prop) × (Int → Int) × Int × Int × Int) => r = (iI (prs S 0))) (fun (u : (Int → Int) × (Int → Prop) × (Int → Int) × Int × Int × Int) t => va_P G CL [(hM, .inr (2, (mO hnow hthen hpast kept htx ty th at_ fa htold tolds hac hal hre hse hpl u.2.2.2.1 u.2.2.2.2.1 u.2.2.2.2.2 hsy))), (hs, .inl (g 0, 253, .inl (aI S))), (hac, .inl (g 0, 4, .inl (aI dx))), (hal, .inl (g 0, 4, .inl (aI dy))), (hre, .inl (g 0, 192, .inl (aI u.1))), (hse, .inl (g 1, 192, .inl (aP u.2.1))), (hpl, .inl (g 0, 192, .inl (aI u.2.2.1)))] t.heap) (va_A [(hM, .inr (2, (mO hnow hthen hpast kept htx ty th at_ fa htold tolds hac hal hre hse hpl many cost br hsy))), (hs, .inl (g 0, 253, .inl (aI S))), (hac, .inl (g 0, 4, .inl (aI dx))), (hal, .inl (g 0, 4, .inl (aI dy))), (hre, .inl (g 0, 192, .inl (aI RE))), (hse, .inl (g 1, 192, .inl (aP SE))), (hpl, .inl (g 0, 192, .inl (aI PL)))] sz)) 0 0 (va_A [(hM, .inr (2, (mO hnow hthen hpast kept htx ty th at_ fa htold tolds hac hal hre hse hpl many cost br hsy))), (hs, .inl (g 0, 253, .inl (aI S))), (hac, .inl (g 0, 4, .inl (aI dx))), (hal, .inl (g 0, 4, .inl (aI dy))), (hre, .inl (g 0, 192, .inl (aI RE))), (hse, .inl (g 1, 192, .inl (aP SE))), (hpl, .inl (g 0, 192, .inl (aI PL)))] sz) := by
  refine Met.at (by decide) (Nat.le_of_ble_eq_true rfl) ?_
  intro p e s m below meth c hx hb hr hlk hml hown hnm hts hB ls hl
  have hown : s.vm.findClass RX3 = some m.cls := hown
  obtain ⟨hsz, hP, hK, hD0, hEs⟩ := hB
  subst hsz
  have hD := hD0.self (sz := s.heap.size)
  generalize hAe : va_A [(hM, .inr (2, (mO hnow hthen hpast kept htx ty th at_ fa htold tolds hac hal hre hse hpl many cost br hsy))), (hs, .inl (g 0, 253, .inl (aI S))), (hac, .inl (g 0, 4, .inl (aI dx))), (hal, .inl (g 0, 4, .inl (aI dy))), (hre, .inl (g 0, 192, .inl (aI RE))), (hse, .inl (g 1, 192, .inl (aP SE))), (hpl, .inl (g 0, 192, .inl (aI PL)))] s.heap.size = A at hD ⊢
  have hA : ∀ q : Nat, s.heap.size ≤ q → A q := fun q h => by rw [← hAe]; exact Or.inr h
  have hS : va_S A s.heap s.heap [] := va_S.rf
  have hl : lv_has ls 6 [(0, .ref hM), (1, .ref hs), (2, .int (iI 0))] := hl
  refine lv_iconst (v := iI 0) hx hb dX3_pairs_0 rfl ?_
  refine lv_istore_n (lv' := [(3, .int (iI 0)), (0, .ref hM), (1, .ref hs), (2, .int (iI 0))]) hx hb dX3_pairs_1 rfl hl (by decide) rfl (fun ls hl => ?_)
  refine lv_iconst (v := iI 0) hx hb dX3_pairs_2 rfl ?_
  refine lv_istore (lv' := [(4, .int (iI 0)), (3, .int (iI 0)), (0, .ref hM), (1, .ref hs), (2, .int (iI 0))]) hx hb dX3_pairs_3 hl (by decide) rfl (fun ls hl => ?_)
  have lp5 : ∀ (n : Nat) (k : Nat) (rA : Int → Int) (eA : Int → Prop) (lA : Int → Int) (mA : Int) (cA_ : Int) (bA : Int), ((k : Int) ≤ 36) → 36 - k = n → ∀ (H : Heap) (locs : List Loc), va_P G CL [(hM, .inr (2, (mO hnow hthen hpast kept htx ty th at_ fa htold tolds hac hal hre hse hpl mA cA_ bA hsy))), (hs, .inl (g 0, 253, .inl (aI S))), (hac, .inl (g 0, 4, .inl (aI dx))), (hal, .inl (g 0, 4, .inl (aI dy))), (hre, .inl (g 0, 192, .inl (aI rA))), (hse, .inl (g 1, 192, .inl (aP eA))), (hpl, .inl (g 0, 192, .inl (aI lA)))] H → va_D A [(hM, .inr (2, (mO hnow hthen hpast kept htx ty th at_ fa htold tolds hac hal hre hse hpl mA cA_ bA hsy))), (hs, .inl (g 0, 253, .inl (aI S))), (hac, .inl (g 0, 4, .inl (aI dx))), (hal, .inl (g 0, 4, .inl (aI dy))), (hre, .inl (g 0, 192, .inl (aI rA))), (hse, .inl (g 1, 192, .inl (aP eA))), (hpl, .inl (g 0, 192, .inl (aI lA)))] → va_S A s.heap H locs → ∀ ls : Array Slot, lv_has ls 6 [(0, .ref hM), (1, .ref hs), (2, .int (iI 0)), (3, .int (iI (sumN (prT S 0) k))), (4, .int (iI (k : Int)))] → W p l e ({ frames := 7, cells := 0, slots := 0, locals := 167 }) s m ([.ref hM, .ref hs, .int (iI 0)] : List Value).toArray below meth c H locs 0 0 (MQ below (va_Qi (fun (r : Int32) (u : (Int → Int) × (Int → Prop) × (Int → Int) × Int × Int × Int) => r = (iI (prs S 0))) (fun (u : (Int → Int) × (Int → Prop) × (Int → Int) × Int × Int × Int) t => va_P G CL [(hM, .inr (2, (mO hnow hthen hpast kept htx ty th at_ fa htold tolds hac hal hre hse hpl u.2.2.2.1 u.2.2.2.2.1 u.2.2.2.2.2 hsy))), (hs, .inl (g 0, 253, .inl (aI S))), (hac, .inl (g 0, 4, .inl (aI dx))), (hal, .inl (g 0, 4, .inl (aI dy))), (hre, .inl (g 0, 192, .inl (aI u.1))), (hse, .inl (g 1, 192, .inl (aP u.2.1))), (hpl, .inl (g 0, 192, .inl (aI u.2.2.1)))] t.heap) A) ([.ref hM, .ref hs, .int (iI 0)] : List Value).toArray s 0 0 A) (F0 m 5 ls []) := by
    intro n
    refine Nat.strongRecOn n ?_
    intro n ih5 k rA eA lA mA cA_ bA hk hmu5 H locs hP hD hS ls hl
    refine lv_iload hx hb dX3_pairs_5 (lv_at hl 4 rfl) ?_
    refine lv_bipush (v := iI 36) hx hb dX3_pairs_7 rfl ?_
    refine g_icmp_ge (tgt := 126) hx hb dX3_pairs_9 (by decide) ⟨⟨by omega, by omega⟩, ⟨by decide, by decide⟩⟩ (fun c1 => ?_) (fun c1 => ?_)
    · obtain rfl : k = 36 := by omega
      refine lv_iload_n hx hb dX3_pairs_126 rfl (lv_at hl 3 rfl) ?_
      exact W.iret (v := (iI (sumN (prT S 0) 36))) hx hb hr (fun t ht hW => ⟨⟨_, (rA, eA, lA, mA, cA_, bA), rfl, rfl, by rw [← ht] at hP; exact hP⟩, hS.F ht⟩) hS.2.2 dX3_pairs_127 hlk
    · refine lv_iload hx hb dX3_pairs_12 (lv_at hl 4 rfl) ?_
      refine lv_bipush (v := iI 6) hx hb dX3_pairs_14 rfl ?_
      refine g_idiv hx hb dX3_pairs_16 ⟨⟨by omega, by omega⟩, ⟨by decide, by decide⟩⟩ ?_
      refine lv_iload hx hb dX3_pairs_17 (lv_at hl 4 rfl) ?_
      refine lv_bipush (v := iI 6) hx hb dX3_pairs_19 rfl ?_
      refine g_irem hx hb dX3_pairs_21 ⟨⟨by omega, by omega⟩, ⟨by decide, by decide⟩⟩ ?_
      have hJ2 : ∀ ls : Array Slot, lv_has ls 6 [(0, .ref hM), (1, .ref hs), (2, .int (iI 0)), (3, .int (iI (zi (((k : Int) / 6) < ((k : Int) % 6)) (zi (0 < (S (216 + 6 * ((k : Int) / 6) + ((k : Int) % 6)))) ((sumN (prT S 0) k) + 1) (sumN (prT S 0) k)) (sumN (prT S 0) k)))), (4, .int (iI (k : Int)))] → W p l e ({ frames := 7, cells := 0, slots := 0, locals := 167 }) s m ([.ref hM, .ref hs, .int (iI 0)] : List Value).toArray below meth c H locs 0 0 (MQ below (va_Qi (fun (r : Int32) (u : (Int → Int) × (Int → Prop) × (Int → Int) × Int × Int × Int) => r = (iI (prs S 0))) (fun (u : (Int → Int) × (Int → Prop) × (Int → Int) × Int × Int × Int) t => va_P G CL [(hM, .inr (2, (mO hnow hthen hpast kept htx ty th at_ fa htold tolds hac hal hre hse hpl u.2.2.2.1 u.2.2.2.2.1 u.2.2.2.2.2 hsy))), (hs, .inl (g 0, 253, .inl (aI S))), (hac, .inl (g 0, 4, .inl (aI dx))), (hal, .inl (g 0, 4, .inl (aI dy))), (hre, .inl (g 0, 192, .inl (aI u.1))), (hse, .inl (g 1, 192, .inl (aP u.2.1))), (hpl, .inl (g 0, 192, .inl (aI u.2.2.1)))] t.heap) A) ([.ref hM, .ref hs, .int (iI 0)] : List Value).toArray s 0 0 A) (F0 m 120 ls []) := by
        intro ls hl
        refine g_iinc (lv' := [(4, .int (iI ((k : Int) + 1))), (0, .ref hM), (1, .ref hs), (2, .int (iI 0)), (3, .int (iI (zi (((k : Int) / 6) < ((k : Int) % 6)) (zi (0 < (S (216 + 6 * ((k : Int) / 6) + ((k : Int) % 6)))) ((sumN (prT S 0) k) + 1) (sumN (prT S 0) k)) (sumN (prT S 0) k))))]) hx hb dX3_pairs_120 hl (k := 4) rfl (by decide) rfl (fun ls hl => ?_)
        refine lv_goto (tgt := 5) hx hb dX3_pairs_123 (by decide) ?_
        exact ih5 _ (by omega) (k + 1) rA eA lA mA cA_ bA (by omega) rfl _ _ hP (va_Dadr hD rfl) hS ls (by rw [show sumN (prT S 0) (k + 1) = zi (((k : Int) / 6) < ((k : Int) % 6)) (zi (0 < (S (216 + 6 * ((k : Int) / 6) + ((k : Int) % 6)))) ((sumN (prT S 0) k) + 1) (sumN (prT S 0) k)) (sumN (prT S 0) k) from (congrArg (fun z => sumN (prT S 0) k + z) (prT_0 S (k : Int))).trans (zi_add.symm.trans zi_and.symm)]; exact lv_sub hl [1, 2, 3, 4, 0] rfl)
      refine g_icmp_ge (tgt := 120) hx hb dX3_pairs_22 (by decide) ⟨⟨by omega, by omega⟩, ⟨by omega, by omega⟩⟩ (fun c3 => ?_) (fun c3 => ?_)
      · exact hJ2 ls (by rw [show zi (((k : Int) / 6) < ((k : Int) % 6)) (zi (0 < (S (216 + 6 * ((k : Int) / 6) + ((k : Int) % 6)))) ((sumN (prT S 0) k) + 1) (sumN (prT S 0) k)) (sumN (prT S 0) k) = sumN (prT S 0) k from (zi_f c3)]; exact lv_sub hl [0, 1, 2, 3, 4] rfl)
      · refine lv_aload_n hx hb dX3_pairs_25 rfl (lv_at hl 1 rfl) ?_
        refine lv_iload hx hb dX3_pairs_26 (lv_at hl 4 rfl) ?_
        refine lv_bipush (v := iI 6) hx hb dX3_pairs_28 rfl ?_
        refine g_idiv hx hb dX3_pairs_30 ⟨⟨by omega, by omega⟩, ⟨by decide, by decide⟩⟩ ?_
        refine lv_iload hx hb dX3_pairs_31 (lv_at hl 4 rfl) ?_
        refine lv_bipush (v := iI 6) hx hb dX3_pairs_33 rfl ?_
        refine g_irem hx hb dX3_pairs_35 ⟨⟨by omega, by omega⟩, ⟨by decide, by decide⟩⟩ ?_
        refine g_callS (As := [.ref hs, .int (iI ((k : Int) / 6)), .int (iI ((k : Int) % 6))]) (rest := []) (m_X3_walks l G g hs ((k : Int) / 6) ((k : Int) % 6) S (⟨by omega, by omega⟩) (⟨by omega, by omega⟩) kS (by omega) (by omega)) hx hb hml hown hts Stab.tt hK hP hS hEs [1] rfl q1564 q1565 q102 q1566 hd_X3_walks rfl rfl ⟨Nat.le_of_ble_eq_true rfl, Nat.le_of_ble_eq_true rfl⟩ rfl hl rfl (Nat.le_of_ble_eq_true rfl) ⟨Nat.le_refl _, Nat.le_refl _⟩ dX3_pairs_36 ?_
        have w4 := kS (216 + 6 * ((k : Int) / 6) + ((k : Int) % 6)) (by omega) (by omega)
        refine g_if_le (tgt := 120) hx hb dX3_pairs_39 (by decide) ⟨by omega, by omega⟩ (fun c5 => ?_) (fun c5 => ?_)
        · exact hJ2 ls (by rw [show zi (((k : Int) / 6) < ((k : Int) % 6)) (zi (0 < (S (216 + 6 * ((k : Int) / 6) + ((k : Int) % 6)))) ((sumN (prT S 0) k) + 1) (sumN (prT S 0) k)) (sumN (prT S 0) k) = sumN (prT S 0) k from ((zi_t c3).trans (zi_f c5))]; exact lv_sub hl [0, 1, 2, 3, 4] rfl)
        · refine lv_iload_n hx hb dX3_pairs_42 rfl (lv_at hl 2 rfl) ?_
          refine g_if_le (tgt := 68) hx hb dX3_pairs_43 (by decide) ⟨by decide, by decide⟩ (fun c6 => ?_) (fun c6 => ?_)
          · refine lv_iconst (v := iI 0) hx hb dX3_pairs_68 rfl ?_
            refine lv_istore (lv' := [(5, .int (iI 0)), (0, .ref hM), (1, .ref hs), (2, .int (iI 0)), (3, .int (iI (sumN (prT S 0) k))), (4, .int (iI (k : Int)))]) hx hb dX3_pairs_69 hl (by decide) rfl (fun ls hl => ?_)
            refine lv_iload_n hx hb dX3_pairs_71 rfl (lv_at hl 4 rfl) ?_
            refine lv_iload_n hx hb dX3_pairs_72 rfl (lv_at hl 3 rfl) ?_
            refine g_if_ne (tgt := 80) hx hb dX3_pairs_73 (by decide) ⟨by decide, by decide⟩ (fun c7 => ?_) (fun c7 => ?_)
            · exact False.elim (by omega)
            · refine lv_iconst (v := iI 1) hx hb dX3_pairs_76 rfl ?_
              refine lv_goto (tgt := 118) hx hb dX3_pairs_77 (by decide) ?_
              refine g_iadd hx hb dX3_pairs_118 ?_
              refine lv_istore_n (lv' := [(3, .int (iI ((sumN (prT S 0) k) + 1))), (5, .int (iI 0)), (0, .ref hM), (1, .ref hs), (2, .int (iI 0)), (4, .int (iI (k : Int)))]) hx hb dX3_pairs_119 rfl hl (by decide) rfl (fun ls hl => ?_)
              exact hJ2 ls (by rw [show zi (((k : Int) / 6) < ((k : Int) % 6)) (zi (0 < (S (216 + 6 * ((k : Int) / 6) + ((k : Int) % 6)))) ((sumN (prT S 0) k) + 1) (sumN (prT S 0) k)) (sumN (prT S 0) k) = (sumN (prT S 0) k) + 1 from ((zi_t c3).trans (zi_t c5))]; exact lv_sub hl [2, 3, 4, 0, 5] rfl)
          · exact False.elim (by omega)
  exact lp5 _ 0 RE SE PL many cost br (by omega) rfl s.heap [] hP (va_Dadr hD rfl) hS ls (lv_sub hl [2, 3, 4, 1, 0] rfl)
set_option maxHeartbeats 400000 in
set_option maxRecDepth 100000 in
theorem m_X3_pairs (l : Launch) (G : va_G) (g : Nat → ClassId) (sz : Nat) (hM : Nat) (hs : Nat) (w_ : Int) (hnow : Nat) (hthen : Nat) (hpast : Nat) (kept : Int) (htx : Nat) (ty : Int) (th : Int) (at_ : Int) (fa : Prop) (htold : Nat) (tolds : Int) (hac : Nat) (hal : Nat) (hre : Nat) (hse : Nat) (hpl : Nat) (many : Int) (cost : Int) (br : Int) (hsy : Nat) (S : Int → Int) (RE : Int → Int) (SE : Int → Prop) (PL : Int → Int) (hw : 0 ≤ w_ ∧ w_ ≤ 2) (kS : rgS S) (kW : rgW S) : Met l yX3_pairs (ws_ yX3_pairs cX3_pairs 6 (Option.some Jvm.ClassFile.FieldType.int)) ({ frames := 7, cells := 0, slots := 0, locals := 167 }) (va_Pc [.ref hM, .ref hs, .int (iI w_)] (wrB G CL (TY g) (fun _ => True) [(hM, .inr (2, (mO hnow hthen hpast kept htx ty th at_ fa htold tolds hac hal hre hse hpl many cost br hsy))), (hs, .inl (g 0, 253, .inl (aI S))), (hac, .inl (g 0, 4, .inl (aI dx))), (hal, .inl (g 0, 4, .inl (aI dy))), (hre, .inl (g 0, 192, .inl (aI RE))), (hse, .inl (g 1, 192, .inl (aP SE))), (hpl, .inl (g 0, 192, .inl (aI PL)))] sz)) (va_Qi (fun (r : Int32) (u : (Int → Int) × (Int → Prop) × (Int → Int) × Int × Int × Int) => r = (iI (prs S w_))) (fun (u : (Int → Int) × (Int → Prop) × (Int → Int) × Int × Int × Int) t => va_P G CL [(hM, .inr (2, (mO hnow hthen hpast kept htx ty th at_ fa htold tolds hac hal hre hse hpl u.2.2.2.1 u.2.2.2.2.1 u.2.2.2.2.2 hsy))), (hs, .inl (g 0, 253, .inl (aI S))), (hac, .inl (g 0, 4, .inl (aI dx))), (hal, .inl (g 0, 4, .inl (aI dy))), (hre, .inl (g 0, 192, .inl (aI u.1))), (hse, .inl (g 1, 192, .inl (aP u.2.1))), (hpl, .inl (g 0, 192, .inl (aI u.2.2.1)))] t.heap) (va_A [(hM, .inr (2, (mO hnow hthen hpast kept htx ty th at_ fa htold tolds hac hal hre hse hpl many cost br hsy))), (hs, .inl (g 0, 253, .inl (aI S))), (hac, .inl (g 0, 4, .inl (aI dx))), (hal, .inl (g 0, 4, .inl (aI dy))), (hre, .inl (g 0, 192, .inl (aI RE))), (hse, .inl (g 1, 192, .inl (aP SE))), (hpl, .inl (g 0, 192, .inl (aI PL)))] sz)) 0 0 (va_A [(hM, .inr (2, (mO hnow hthen hpast kept htx ty th at_ fa htold tolds hac hal hre hse hpl many cost br hsy))), (hs, .inl (g 0, 253, .inl (aI S))), (hac, .inl (g 0, 4, .inl (aI dx))), (hal, .inl (g 0, 4, .inl (aI dy))), (hre, .inl (g 0, 192, .inl (aI RE))), (hse, .inl (g 1, 192, .inl (aP SE))), (hpl, .inl (g 0, 192, .inl (aI PL)))] sz) := by
  have hc : w_ = 0 ∨ w_ = 1 ∨ w_ = 2 := by omega
  rcases hc with rfl | rfl | rfl
  · exact m_X3_pairs_0 l G g sz hM hs hnow hthen hpast kept htx ty th at_ fa htold tolds hac hal hre hse hpl many cost br hsy S RE SE PL kS kW
  · exact m_X3_pairs_1 l G g sz hM hs hnow hthen hpast kept htx ty th at_ fa htold tolds hac hal hre hse hpl many cost br hsy S RE SE PL kS kW
  · exact m_X3_pairs_2 l G g sz hM hs hnow hthen hpast kept htx ty th at_ fa htold tolds hac hal hre hse hpl many cost br hsy S RE SE PL kS kW

theorem hd_X3_walked : yX3_walked.cls = RX3 ∧ yX3_walked.cls ≠ "java/lang/invoke/MethodHandle" ∧ yX3_walked.cls ≠ "java/lang/invoke/VarHandle" ∧ (parseMethodDescriptor yX3_walked.desc).map (fun d => d.parameters.length) = some 2 := by decide +kernel
set_option maxHeartbeats 1000000 in
set_option maxRecDepth 100000 in
theorem m_X3_walked (l : Launch) (G : va_G) (g : Nat → ClassId) (sz : Nat) (hM : Nat) (room : Int) (F : Prop) (hnow : Nat) (hthen : Nat) (hpast : Nat) (kept : Int) (htx : Nat) (ty : Int) (th : Int) (at_ : Int) (fa : Prop) (htold : Nat) (tolds : Int) (hac : Nat) (hal : Nat) (hre : Nat) (hse : Nat) (hpl : Nat) (many : Int) (cost : Int) (br : Int) (hsy : Nat) (S : Int → Int) (RE : Int → Int) (SE : Int → Prop) (PL : Int → Int) (r_room : r32 room) (kS : rgS S) (kW : rgW S) (hrm : 0 ≤ room ∧ room ≤ 5) : Met l yX3_walked (ws_ yX3_walked cX3_walked 5 (Option.some Jvm.ClassFile.FieldType.int)) ({ frames := 8, cells := 0, slots := 0, locals := 190 }) (va_Pc [.ref hM, .int (iI room), .int (iI (qz F))] (wrB G CL (TY g) (fun _ => True) [(hM, .inr (2, (mO hnow hthen hpast kept htx ty th at_ fa htold tolds hac hal hre hse hpl many cost br hsy))), (hnow, .inl (g 0, 253, .inl (aI S))), (hac, .inl (g 0, 4, .inl (aI dx))), (hal, .inl (g 0, 4, .inl (aI dy))), (hre, .inl (g 0, 192, .inl (aI RE))), (hse, .inl (g 1, 192, .inl (aP SE))), (hpl, .inl (g 0, 192, .inl (aI PL)))] sz)) (va_Qi (fun (r : Int32) (u : (Int → Int) × (Int → Prop) × (Int → Int) × Int × Int × Int) => r = (iI (wkd S room F))) (fun (u : (Int → Int) × (Int → Prop) × (Int → Int) × Int × Int × Int) t => va_P G CL [(hM, .inr (2, (mO hnow hthen hpast kept htx ty th at_ fa htold tolds hac hal hre hse hpl u.2.2.2.1 u.2.2.2.2.1 u.2.2.2.2.2 hsy))), (hnow, .inl (g 0, 253, .inl (aI S))), (hac, .inl (g 0, 4, .inl (aI dx))), (hal, .inl (g 0, 4, .inl (aI dy))), (hre, .inl (g 0, 192, .inl (aI u.1))), (hse, .inl (g 1, 192, .inl (aP u.2.1))), (hpl, .inl (g 0, 192, .inl (aI u.2.2.1)))] t.heap) (va_A [(hM, .inr (2, (mO hnow hthen hpast kept htx ty th at_ fa htold tolds hac hal hre hse hpl many cost br hsy))), (hnow, .inl (g 0, 253, .inl (aI S))), (hac, .inl (g 0, 4, .inl (aI dx))), (hal, .inl (g 0, 4, .inl (aI dy))), (hre, .inl (g 0, 192, .inl (aI RE))), (hse, .inl (g 1, 192, .inl (aP SE))), (hpl, .inl (g 0, 192, .inl (aI PL)))] sz)) 0 0 (va_A [(hM, .inr (2, (mO hnow hthen hpast kept htx ty th at_ fa htold tolds hac hal hre hse hpl many cost br hsy))), (hnow, .inl (g 0, 253, .inl (aI S))), (hac, .inl (g 0, 4, .inl (aI dx))), (hal, .inl (g 0, 4, .inl (aI dy))), (hre, .inl (g 0, 192, .inl (aI RE))), (hse, .inl (g 1, 192, .inl (aP SE))), (hpl, .inl (g 0, 192, .inl (aI PL)))] sz) := by
  refine Met.at (by decide) (Nat.le_of_ble_eq_true rfl) ?_
  intro p e s m below meth c hx hb hr hlk hml hown hnm hts hB ls hl
  have hown : s.vm.findClass RX3 = some m.cls := hown
  obtain ⟨hsz, hP, hK, hD0, hEs⟩ := hB
  subst hsz
  have hD := hD0.self (sz := s.heap.size)
  generalize hAe : va_A [(hM, .inr (2, (mO hnow hthen hpast kept htx ty th at_ fa htold tolds hac hal hre hse hpl many cost br hsy))), (hnow, .inl (g 0, 253, .inl (aI S))), (hac, .inl (g 0, 4, .inl (aI dx))), (hal, .inl (g 0, 4, .inl (aI dy))), (hre, .inl (g 0, 192, .inl (aI RE))), (hse, .inl (g 1, 192, .inl (aP SE))), (hpl, .inl (g 0, 192, .inl (aI PL)))] s.heap.size = A at hD ⊢
  have hA : ∀ q : Nat, s.heap.size ≤ q → A q := fun q h => by rw [← hAe]; exact Or.inr h
  have hS : va_S A s.heap s.heap [] := va_S.rf
  have hl : lv_has ls 5 [(0, .ref hM), (1, .int (iI room)), (2, .int (iI (qz F)))] := hl
  refine lv_iconst (v := iI 0) hx hb dX3_walked_0 rfl ?_
  refine lv_istore_n (lv' := [(3, .int (iI 0)), (0, .ref hM), (1, .int (iI room)), (2, .int (iI (qz F)))]) hx hb dX3_walked_1 rfl hl (by decide) rfl (fun ls hl => ?_)
  refine lv_iconst (v := iI 0) hx hb dX3_walked_2 rfl ?_
  refine lv_istore (lv' := [(4, .int (iI 0)), (3, .int (iI 0)), (0, .ref hM), (1, .int (iI room)), (2, .int (iI (qz F)))]) hx hb dX3_walked_3 hl (by decide) rfl (fun ls hl => ?_)
  have lp5 : ∀ (n : Nat) (k : Nat) (rA : Int → Int) (eA : Int → Prop) (lA : Int → Int) (mA : Int) (cA_ : Int) (bA : Int), ((k : Int) ≤ 6) → 6 - k = n → ∀ (H : Heap) (locs : List Loc), va_P G CL [(hM, .inr (2, (mO hnow hthen hpast kept htx ty th at_ fa htold tolds hac hal hre hse hpl mA cA_ bA hsy))), (hnow, .inl (g 0, 253, .inl (aI S))), (hac, .inl (g 0, 4, .inl (aI dx))), (hal, .inl (g 0, 4, .inl (aI dy))), (hre, .inl (g 0, 192, .inl (aI rA))), (hse, .inl (g 1, 192, .inl (aP eA))), (hpl, .inl (g 0, 192, .inl (aI lA)))] H → va_D A [(hM, .inr (2, (mO hnow hthen hpast kept htx ty th at_ fa htold tolds hac hal hre hse hpl mA cA_ bA hsy))), (hnow, .inl (g 0, 253, .inl (aI S))), (hac, .inl (g 0, 4, .inl (aI dx))), (hal, .inl (g 0, 4, .inl (aI dy))), (hre, .inl (g 0, 192, .inl (aI rA))), (hse, .inl (g 1, 192, .inl (aP eA))), (hpl, .inl (g 0, 192, .inl (aI lA)))] → va_S A s.heap H locs → ∀ ls : Array Slot, lv_has ls 5 [(0, .ref hM), (1, .int (iI room)), (2, .int (iI (qz F))), (3, .int (iI (sumN (wkT S room F) k))), (4, .int (iI (k : Int)))] → W p l e ({ frames := 8, cells := 0, slots := 0, locals := 190 }) s m ([.ref hM, .int (iI room), .int (iI (qz F))] : List Value).toArray below meth c H locs 0 0 (MQ below (va_Qi (fun (r : Int32) (u : (Int → Int) × (Int → Prop) × (Int → Int) × Int × Int × Int) => r = (iI (wkd S room F))) (fun (u : (Int → Int) × (Int → Prop) × (Int → Int) × Int × Int × Int) t => va_P G CL [(hM, .inr (2, (mO hnow hthen hpast kept htx ty th at_ fa htold tolds hac hal hre hse hpl u.2.2.2.1 u.2.2.2.2.1 u.2.2.2.2.2 hsy))), (hnow, .inl (g 0, 253, .inl (aI S))), (hac, .inl (g 0, 4, .inl (aI dx))), (hal, .inl (g 0, 4, .inl (aI dy))), (hre, .inl (g 0, 192, .inl (aI u.1))), (hse, .inl (g 1, 192, .inl (aP u.2.1))), (hpl, .inl (g 0, 192, .inl (aI u.2.2.1)))] t.heap) A) ([.ref hM, .int (iI room), .int (iI (qz F))] : List Value).toArray s 0 0 A) (F0 m 5 ls []) := by
    intro n
    refine Nat.strongRecOn n ?_
    intro n ih5 k rA eA lA mA cA_ bA hk hmu5 H locs hP hD hS ls hl
    refine lv_iload hx hb dX3_walked_5 (lv_at hl 4 rfl) ?_
    refine lv_bipush (v := iI 6) hx hb dX3_walked_7 rfl ?_
    refine g_icmp_ge (tgt := 63) hx hb dX3_walked_9 (by decide) ⟨⟨by omega, by omega⟩, ⟨by decide, by decide⟩⟩ (fun c1 => ?_) (fun c1 => ?_)
    · obtain rfl : k = 6 := by omega
      refine lv_iload_n hx hb dX3_walked_63 rfl (lv_at hl 3 rfl) ?_
      exact W.iret (v := (iI (sumN (wkT S room F) 6))) hx hb hr (fun t ht hW => ⟨⟨_, (rA, eA, lA, mA, cA_, bA), rfl, rfl, by rw [← ht] at hP; exact hP⟩, hS.F ht⟩) hS.2.2 dX3_walked_64 hlk
    · refine lv_iload_n hx hb dX3_walked_12 rfl (lv_at hl 3 rfl) ?_
      refine lv_iload hx hb dX3_walked_13 (lv_at hl 4 rfl) ?_
      refine lv_iload_n hx hb dX3_walked_15 rfl (lv_at hl 1 rfl) ?_
      refine g_icmp_eq (tgt := 54) hx hb dX3_walked_16 (by decide) ⟨⟨by omega, by omega⟩, r_room⟩ (fun c2 => ?_) (fun c2 => ?_)
      · refine lv_iconst (v := iI 0) hx hb dX3_walked_54 rfl ?_
        refine g_iadd hx hb dX3_walked_55 ?_
        refine lv_istore_n (lv' := [(3, .int (iI ((sumN (wkT S room F) k) + 0))), (0, .ref hM), (1, .int (iI room)), (2, .int (iI (qz F))), (4, .int (iI (k : Int)))]) hx hb dX3_walked_56 rfl hl (by decide) rfl (fun ls hl => ?_)
        refine g_iinc (lv' := [(4, .int (iI ((k : Int) + 1))), (3, .int (iI ((sumN (wkT S room F) k) + 0))), (0, .ref hM), (1, .int (iI room)), (2, .int (iI (qz F)))]) hx hb dX3_walked_57 hl (k := 4) rfl (by decide) rfl (fun ls hl => ?_)
        refine lv_goto (tgt := 5) hx hb dX3_walked_60 (by decide) ?_
        exact ih5 _ (by omega) (k + 1) rA eA lA mA cA_ bA (by omega) rfl _ _ hP (va_Dadr hD rfl) hS ls (by rw [show sumN (wkT S room F) (k + 1) = (sumN (wkT S room F) k) + 0 from congrArg (fun z => sumN (wkT S room F) k + z) (show wkT S room F (k : Int) = 0 from by first | exact qz_f (fun z => absurd (by assumption) z.1) | exact qz_f (fun z => absurd z.2.1 (by assumption)))]; exact lv_sub hl [2, 3, 4, 1, 0] rfl)
      · refine lv_aload_n hx hb dX3_walked_19 rfl (lv_at hl 0 rfl) ?_
        refine va_get (D := G) (ci := 2) (v := .ref hnow) (C := RX3) (T := TX3) (N := 20) hx hb hts in_X3 hown hK hP 0 rfl rfl 0 (by decide) (hts _ q1438) (fun _ h9 => h9) rfl dX3_walked_20 ?_
        refine lv_iload_n hx hb dX3_walked_23 rfl (lv_at hl 1 rfl) ?_
        refine lv_iload hx hb dX3_walked_24 (lv_at hl 4 rfl) ?_
        refine g_callS (As := [.ref hnow, .int (iI room), .int (iI (k : Int))]) (rest := [.int (iI (sumN (wkT S room F) k))]) (m_X3_walks l G g hnow room (k : Int) S r_room (⟨by omega, by omega⟩) kS hrm (by omega)) hx hb hml hown hts Stab.tt hK hP hS hEs [1] rfl q1564 q1565 q102 q1566 hd_X3_walks rfl rfl ⟨Nat.le_of_ble_eq_true rfl, Nat.le_of_ble_eq_true rfl⟩ rfl hl rfl (Nat.le_of_ble_eq_true rfl) ⟨Nat.le_refl _, Nat.le_refl _⟩ dX3_walked_26 ?_
        have w3 := kS (216 + 6 * room + (k : Int)) (by omega) (by omega)
        refine g_if_le (tgt := 54) hx hb dX3_walked_29 (by decide) ⟨by omega, by omega⟩ (fun c4 => ?_) (fun c4 => ?_)
        · refine lv_iconst (v := iI 0) hx hb dX3_walked_54 rfl ?_
          refine g_iadd hx hb dX3_walked_55 ?_
          refine lv_istore_n (lv' := [(3, .int (iI ((sumN (wkT S room F) k) + 0))), (0, .ref hM), (1, .int (iI room)), (2, .int (iI (qz F))), (4, .int (iI (k : Int)))]) hx hb dX3_walked_56 rfl hl (by decide) rfl (fun ls hl => ?_)
          refine g_iinc (lv' := [(4, .int (iI ((k : Int) + 1))), (3, .int (iI ((sumN (wkT S room F) k) + 0))), (0, .ref hM), (1, .int (iI room)), (2, .int (iI (qz F)))]) hx hb dX3_walked_57 hl (k := 4) rfl (by decide) rfl (fun ls hl => ?_)
          refine lv_goto (tgt := 5) hx hb dX3_walked_60 (by decide) ?_
          exact ih5 _ (by omega) (k + 1) rA eA lA mA cA_ bA (by omega) rfl _ _ hP (va_Dadr hD rfl) hS ls (by rw [show sumN (wkT S room F) (k + 1) = (sumN (wkT S room F) k) + 0 from congrArg (fun z => sumN (wkT S room F) k + z) (show wkT S room F (k : Int) = 0 from by first | exact qz_f (fun z => absurd (by assumption) z.1) | exact qz_f (fun z => absurd z.2.1 (by assumption)))]; exact lv_sub hl [2, 3, 4, 1, 0] rfl)
        · refine lv_iload_n hx hb dX3_walked_32 rfl (lv_at hl 2 rfl) ?_
          refine g_ifq_eq (tgt := 50) hx hb dX3_walked_33 (by decide) (fun c5 => ?_) (fun c5 => ?_)
          · refine lv_iconst (v := iI 1) hx hb dX3_walked_50 rfl ?_
            refine lv_goto (tgt := 55) hx hb dX3_walked_51 (by decide) ?_
            refine g_iadd hx hb dX3_walked_55 ?_
            refine lv_istore_n (lv' := [(3, .int (iI ((sumN (wkT S room F) k) + 1))), (0, .ref hM), (1, .int (iI room)), (2, .int (iI (qz F))), (4, .int (iI (k : Int)))]) hx hb dX3_walked_56 rfl hl (by decide) rfl (fun ls hl => ?_)
            refine g_iinc (lv' := [(4, .int (iI ((k : Int) + 1))), (3, .int (iI ((sumN (wkT S room F) k) + 1))), (0, .ref hM), (1, .int (iI room)), (2, .int (iI (qz F)))]) hx hb dX3_walked_57 hl (k := 4) rfl (by decide) rfl (fun ls hl => ?_)
            refine lv_goto (tgt := 5) hx hb dX3_walked_60 (by decide) ?_
            exact ih5 _ (by omega) (k + 1) rA eA lA mA cA_ bA (by omega) rfl _ _ hP (va_Dadr hD rfl) hS ls (by rw [show sumN (wkT S room F) (k + 1) = (sumN (wkT S room F) k) + 1 from congrArg (fun z => sumN (wkT S room F) k + z) (show wkT S room F (k : Int) = 1 from qz_t ⟨by assumption, by assumption, Or.inl (by assumption)⟩)]; exact lv_sub hl [2, 3, 4, 1, 0] rfl)
          · refine lv_aload_n hx hb dX3_walked_36 rfl (lv_at hl 0 rfl) ?_
            refine lv_aload_n hx hb dX3_walked_37 rfl (lv_at hl 0 rfl) ?_
            refine va_get (D := G) (ci := 2) (v := .ref hnow) (C := RX3) (T := TX3) (N := 20) hx hb hts in_X3 hown hK hP 0 rfl rfl 0 (by decide) (hts _ q1438) (fun _ h9 => h9) rfl dX3_walked_38 ?_
            refine lv_iload_n hx hb dX3_walked_41 rfl (lv_at hl 1 rfl) ?_
            refine lv_iload hx hb dX3_walked_42 (lv_at hl 4 rfl) ?_
            refine g_callVwi (As := [.ref hnow, .int (iI room), .int (iI (k : Int))]) (rest := [.int (iI (sumN (wkT S room F) k))]) (m_X3_isOpen l G g H.size hM hnow room (k : Int) hnow hthen hpast kept htx ty th at_ fa htold tolds hac hal hre hse hpl mA cA_ bA hsy S rA eA lA r_room (⟨by omega, by omega⟩) kS kW hrm (by omega)) hx hb hml hown hts Stab.tt hA hK hP hD hS hEs [0, 1, 2, 3, 4, 5, 6] rfl rfl (fun _ => rfl) (q0 := 0) rfl rfl q1630 q1632 qs70 q102 q1633 hd_X3_isOpen rfl rfl ⟨Nat.le_of_ble_eq_true rfl, Nat.le_of_ble_eq_true rfl⟩ rfl hl rfl (Nat.le_of_ble_eq_true rfl) ⟨Nat.le_refl _, Nat.le_refl _⟩ dX3_walked_44 (fun rr u H locs hp hP hS => ?_)
            obtain ⟨RE1_6, SE1_7, PL1_8⟩ := u
            obtain ⟨hrr, wpl_9, dsx_10⟩ : rr = (iI (qz (wYes S room (k : Int) ∧ wCo S room (k : Int) = 0))) ∧ (∀ j9 : Nat, (j9 : Int) < wL S (brW S room (k : Int)) room (k : Int) → PL1_8 (j9 : Int) = wP S (brW S room (k : Int)) room (k : Int) j9) ∧ (isDist S (brW S room (k : Int)) (k : Int) (dsF S (brW S room (k : Int)) (k : Int))) := hp
            subst hrr
            have hP : va_P G CL [(hM, .inr (2, (mO hnow hthen hpast kept htx ty th at_ fa htold tolds hac hal hre hse hpl (wL S (brW S room (k : Int)) room (k : Int)) (wC S (brW S room (k : Int)) room (k : Int)) (brW S room (k : Int)) hsy))), (hnow, .inl (g 0, 253, .inl (aI S))), (hac, .inl (g 0, 4, .inl (aI dx))), (hal, .inl (g 0, 4, .inl (aI dy))), (hre, .inl (g 0, 192, .inl (aI RE1_6))), (hse, .inl (g 1, 192, .inl (aP SE1_7))), (hpl, .inl (g 0, 192, .inl (aI PL1_8)))] H := hP
            have hD : va_D A [(hM, .inr (2, (mO hnow hthen hpast kept htx ty th at_ fa htold tolds hac hal hre hse hpl (wL S (brW S room (k : Int)) room (k : Int)) (wC S (brW S room (k : Int)) room (k : Int)) (brW S room (k : Int)) hsy))), (hnow, .inl (g 0, 253, .inl (aI S))), (hac, .inl (g 0, 4, .inl (aI dx))), (hal, .inl (g 0, 4, .inl (aI dy))), (hre, .inl (g 0, 192, .inl (aI RE1_6))), (hse, .inl (g 1, 192, .inl (aP SE1_7))), (hpl, .inl (g 0, 192, .inl (aI PL1_8)))] := va_Dadr hD rfl
            refine W.widen (k := 0) (n := 0) (Nat.le_refl _) (Nat.le_refl _) ?_
            have hJ11 : ∀ ls : Array Slot, lv_has ls 5 [(0, .ref hM), (1, .int (iI room)), (2, .int (iI (qz F))), (3, .int (iI (sumN (wkT S room F) k))), (4, .int (iI (k : Int)))] → W p l e ({ frames := 8, cells := 0, slots := 0, locals := 190 }) s m ([.ref hM, .int (iI room), .int (iI (qz F))] : List Value).toArray below meth c H locs 0 0 (MQ below (va_Qi (fun (r : Int32) (u : (Int → Int) × (Int → Prop) × (Int → Int) × Int × Int × Int) => r = (iI (wkd S room F))) (fun (u : (Int → Int) × (Int → Prop) × (Int → Int) × Int × Int × Int) t => va_P G CL [(hM, .inr (2, (mO hnow hthen hpast kept htx ty th at_ fa htold tolds hac hal hre hse hpl u.2.2.2.1 u.2.2.2.2.1 u.2.2.2.2.2 hsy))), (hnow, .inl (g 0, 253, .inl (aI S))), (hac, .inl (g 0, 4, .inl (aI dx))), (hal, .inl (g 0, 4, .inl (aI dy))), (hre, .inl (g 0, 192, .inl (aI u.1))), (hse, .inl (g 1, 192, .inl (aP u.2.1))), (hpl, .inl (g 0, 192, .inl (aI u.2.2.1)))] t.heap) A) ([.ref hM, .int (iI room), .int (iI (qz F))] : List Value).toArray s 0 0 A) (F0 m 55 ls [.int (iI (qz (¬ (wYes S room (k : Int) ∧ wCo S room (k : Int) = 0)))), .int (iI (sumN (wkT S room F) k))]) := by
              intro ls hl
              refine g_iadd hx hb dX3_walked_55 ?_
              refine lv_istore_n (lv' := [(3, .int (iI ((sumN (wkT S room F) k) + (qz (¬ (wYes S room (k : Int) ∧ wCo S room (k : Int) = 0)))))), (0, .ref hM), (1, .int (iI room)), (2, .int (iI (qz F))), (4, .int (iI (k : Int)))]) hx hb dX3_walked_56 rfl hl (by decide) rfl (fun ls hl => ?_)
              refine g_iinc (lv' := [(4, .int (iI ((k : Int) + 1))), (3, .int (iI ((sumN (wkT S room F) k) + (qz (¬ (wYes S room (k : Int) ∧ wCo S room (k : Int) = 0)))))), (0, .ref hM), (1, .int (iI room)), (2, .int (iI (qz F)))]) hx hb dX3_walked_57 hl (k := 4) rfl (by decide) rfl (fun ls hl => ?_)
              refine lv_goto (tgt := 5) hx hb dX3_walked_60 (by decide) ?_
              exact ih5 _ (by omega) (k + 1) RE1_6 SE1_7 PL1_8 (wL S (brW S room (k : Int)) room (k : Int)) (wC S (brW S room (k : Int)) room (k : Int)) (brW S room (k : Int)) (by omega) rfl _ _ hP (va_Dadr hD rfl) hS ls (by rw [show sumN (wkT S room F) (k + 1) = (sumN (wkT S room F) k) + (qz (¬ (wYes S room (k : Int) ∧ wCo S room (k : Int) = 0))) from congrArg (fun z => sumN (wkT S room F) k + z) (show wkT S room F (k : Int) = (qz (¬ (wYes S room (k : Int) ∧ wCo S room (k : Int) = 0))) from qz_congr ⟨fun z => z.2.2.resolve_left (fun nn => nn (by assumption)), fun z => ⟨by assumption, by assumption, Or.inr z⟩⟩)]; exact lv_sub hl [2, 3, 4, 1, 0] rfl)
            refine g_ifq_ne (tgt := 54) hx hb dX3_walked_47 (by decide) (fun c12 => ?_) (fun c12 => ?_)
            · refine lv_iconst (v := iI 0) hx hb dX3_walked_54 rfl ?_
              refine g_eq (b := qz (¬ (wYes S room (k : Int) ∧ wCo S room (k : Int) = 0))) (qz_f (fun xx => (xx c12))).symm ?_
              exact hJ11 ls (lv_sub hl [0, 1, 2, 3, 4] rfl)
            · refine lv_iconst (v := iI 1) hx hb dX3_walked_50 rfl ?_
              refine lv_goto (tgt := 55) hx hb dX3_walked_51 (by decide) ?_
              refine g_eq (b := qz (¬ (wYes S room (k : Int) ∧ wCo S room (k : Int) = 0))) (qz_t c12).symm ?_
              exact hJ11 ls (lv_sub hl [0, 1, 2, 3, 4] rfl)
  exact lp5 _ 0 RE SE PL many cost br (by omega) rfl s.heap [] hP (va_Dadr hD rfl) hS ls (lv_sub hl [2, 3, 4, 1, 0] rfl)
theorem hd_X3_ofRoom : yX3_ofRoom.cls = RX3 ∧ yX3_ofRoom.cls ≠ "java/lang/invoke/MethodHandle" ∧ yX3_ofRoom.cls ≠ "java/lang/invoke/VarHandle" ∧ (parseMethodDescriptor yX3_ofRoom.desc).map (fun d => d.parameters.length) = some 2 := by decide +kernel
set_option maxHeartbeats 1000000 in
set_option maxRecDepth 100000 in
theorem m_X3_ofRoom (l : Launch) (G : va_G) (g : Nat → ClassId) (sz : Nat) (hM : Nat) (room : Int) (what : Int) (hnow : Nat) (hthen : Nat) (hpast : Nat) (kept : Int) (htx : Nat) (ty : Int) (th : Int) (at_ : Int) (fa : Prop) (htold : Nat) (tolds : Int) (hac : Nat) (hal : Nat) (hre : Nat) (hse : Nat) (hpl : Nat) (many : Int) (cost : Int) (br : Int) (hsy : Nat) (S : Int → Int) (RE : Int → Int) (SE : Int → Prop) (PL : Int → Int) (r_room : r32 room) (r_what : r32 what) (kS : rgS S) (kW : rgW S) (kT : 0 ≤ S 252) (hrm : 0 ≤ room ∧ room ≤ 5) (hw8 : 0 ≤ what ∧ what ≤ 7) : Met l yX3_ofRoom (ws_ yX3_ofRoom cX3_ofRoom 3 (Option.some Jvm.ClassFile.FieldType.int)) ({ frames := 9, cells := 0, slots := 0, locals := 214 }) (va_Pc [.ref hM, .int (iI room), .int (iI what)] (wrB G CL (TY g) (fun _ => True) [(hM, .inr (2, (mO hnow hthen hpast kept htx ty th at_ fa htold tolds hac hal hre hse hpl many cost br hsy))), (hnow, .inl (g 0, 253, .inl (aI S))), (hac, .inl (g 0, 4, .inl (aI dx))), (hal, .inl (g 0, 4, .inl (aI dy))), (hre, .inl (g 0, 192, .inl (aI RE))), (hse, .inl (g 1, 192, .inl (aP SE))), (hpl, .inl (g 0, 192, .inl (aI PL)))] sz)) (va_Qi (fun (r : Int32) (u : (Int → Int) × (Int → Prop) × (Int → Int) × Int × Int × Int) => r = (iI (orV S room what))) (fun (u : (Int → Int) × (Int → Prop) × (Int → Int) × Int × Int × Int) t => va_P G CL [(hM, .inr (2, (mO hnow hthen hpast kept htx ty th at_ fa htold tolds hac hal hre hse hpl u.2.2.2.1 u.2.2.2.2.1 u.2.2.2.2.2 hsy))), (hnow, .inl (g 0, 253, .inl (aI S))), (hac, .inl (g 0, 4, .inl (aI dx))), (hal, .inl (g 0, 4, .inl (aI dy))), (hre, .inl (g 0, 192, .inl (aI u.1))), (hse, .inl (g 1, 192, .inl (aP u.2.1))), (hpl, .inl (g 0, 192, .inl (aI u.2.2.1)))] t.heap) (va_A [(hM, .inr (2, (mO hnow hthen hpast kept htx ty th at_ fa htold tolds hac hal hre hse hpl many cost br hsy))), (hnow, .inl (g 0, 253, .inl (aI S))), (hac, .inl (g 0, 4, .inl (aI dx))), (hal, .inl (g 0, 4, .inl (aI dy))), (hre, .inl (g 0, 192, .inl (aI RE))), (hse, .inl (g 1, 192, .inl (aP SE))), (hpl, .inl (g 0, 192, .inl (aI PL)))] sz)) 0 0 (va_A [(hM, .inr (2, (mO hnow hthen hpast kept htx ty th at_ fa htold tolds hac hal hre hse hpl many cost br hsy))), (hnow, .inl (g 0, 253, .inl (aI S))), (hac, .inl (g 0, 4, .inl (aI dx))), (hal, .inl (g 0, 4, .inl (aI dy))), (hre, .inl (g 0, 192, .inl (aI RE))), (hse, .inl (g 1, 192, .inl (aP SE))), (hpl, .inl (g 0, 192, .inl (aI PL)))] sz) := by
  refine Met.at (by decide) (Nat.le_of_ble_eq_true rfl) ?_
  intro p e s m below meth c hx hb hr hlk hml hown hnm hts hB ls hl
  have hown : s.vm.findClass RX3 = some m.cls := hown
  obtain ⟨hsz, hP, hK, hD0, hEs⟩ := hB
  subst hsz
  have hD := hD0.self (sz := s.heap.size)
  generalize hAe : va_A [(hM, .inr (2, (mO hnow hthen hpast kept htx ty th at_ fa htold tolds hac hal hre hse hpl many cost br hsy))), (hnow, .inl (g 0, 253, .inl (aI S))), (hac, .inl (g 0, 4, .inl (aI dx))), (hal, .inl (g 0, 4, .inl (aI dy))), (hre, .inl (g 0, 192, .inl (aI RE))), (hse, .inl (g 1, 192, .inl (aP SE))), (hpl, .inl (g 0, 192, .inl (aI PL)))] s.heap.size = A at hD ⊢
  have hA : ∀ q : Nat, s.heap.size ≤ q → A q := fun q h => by rw [← hAe]; exact Or.inr h
  have hS : va_S A s.heap s.heap [] := va_S.rf
  have hl : lv_has ls 3 [(0, .ref hM), (1, .int (iI room)), (2, .int (iI what))] := hl
  refine lv_iload_n hx hb dX3_ofRoom_0 rfl (lv_at hl 2 rfl) ?_
  refine lv_iconst (v := iI 4) hx hb dX3_ofRoom_1 rfl ?_
  refine g_icmp_ge (tgt := 17) hx hb dX3_ofRoom_2 (by decide) ⟨r_what, ⟨by decide, by decide⟩⟩ (fun c1 => ?_) (fun c1 => ?_)
  · refine lv_iload_n hx hb dX3_ofRoom_17 rfl (lv_at hl 2 rfl) ?_
    refine lv_bipush (v := iI 6) hx hb dX3_ofRoom_18 rfl ?_
    refine g_icmp_ge (tgt := 45) hx hb dX3_ofRoom_20 (by decide) ⟨r_what, ⟨by decide, by decide⟩⟩ (fun c2 => ?_) (fun c2 => ?_)
    · refine lv_aload_n hx hb dX3_ofRoom_45 rfl (lv_at hl 0 rfl) ?_
      refine lv_iload_n hx hb dX3_ofRoom_46 rfl (lv_at hl 1 rfl) ?_
      refine lv_iload_n hx hb dX3_ofRoom_47 rfl (lv_at hl 2 rfl) ?_
      refine lv_bipush (v := iI 7) hx hb dX3_ofRoom_48 rfl ?_
      have hJ3 : ∀ ls : Array Slot, lv_has ls 3 [(0, .ref hM), (1, .int (iI room)), (2, .int (iI what))] → W p l e ({ frames := 9, cells := 0, slots := 0, locals := 214 }) s m ([.ref hM, .int (iI room), .int (iI what)] : List Value).toArray below meth c s.heap [] 0 0 (MQ below (va_Qi (fun (r : Int32) (u : (Int → Int) × (Int → Prop) × (Int → Int) × Int × Int × Int) => r = (iI (orV S room what))) (fun (u : (Int → Int) × (Int → Prop) × (Int → Int) × Int × Int × Int) t => va_P G CL [(hM, .inr (2, (mO hnow hthen hpast kept htx ty th at_ fa htold tolds hac hal hre hse hpl u.2.2.2.1 u.2.2.2.2.1 u.2.2.2.2.2 hsy))), (hnow, .inl (g 0, 253, .inl (aI S))), (hac, .inl (g 0, 4, .inl (aI dx))), (hal, .inl (g 0, 4, .inl (aI dy))), (hre, .inl (g 0, 192, .inl (aI u.1))), (hse, .inl (g 1, 192, .inl (aP u.2.1))), (hpl, .inl (g 0, 192, .inl (aI u.2.2.1)))] t.heap) A) ([.ref hM, .int (iI room), .int (iI what)] : List Value).toArray s 0 0 A) (F0 m 58 ls [.int (iI (qz (what = 7))), .int (iI room), .ref hM]) := by
        intro ls hl
        refine g_callVwi (As := [.int (iI room), .int (iI (qz (what = 7)))]) (rest := []) (m_X3_walked l G g s.heap.size hM room (what = 7) hnow hthen hpast kept htx ty th at_ fa htold tolds hac hal hre hse hpl many cost br hsy S RE SE PL r_room kS kW hrm) hx hb hml hown hts Stab.tt hA hK hP hD hS hEs [0, 1, 2, 3, 4, 5, 6] rfl rfl (fun _ => rfl) (q0 := 0) rfl rfl q1709 q1711 qs82 q102 q1712 hd_X3_walked rfl rfl ⟨Nat.le_of_ble_eq_true rfl, Nat.le_of_ble_eq_true rfl⟩ rfl hl rfl (Nat.le_of_ble_eq_true rfl) ⟨Nat.le_refl _, Nat.le_refl _⟩ dX3_ofRoom_58 (fun rr u H locs hp hP hS => ?_)
        obtain ⟨RE1_4, SE1_5, PL1_6, m1_7, c1_8, b1_9⟩ := u
        have hrr : rr = (iI (wkd S room (what = 7))) := hp
        subst hrr
        have hP : va_P G CL [(hM, .inr (2, (mO hnow hthen hpast kept htx ty th at_ fa htold tolds hac hal hre hse hpl m1_7 c1_8 b1_9 hsy))), (hnow, .inl (g 0, 253, .inl (aI S))), (hac, .inl (g 0, 4, .inl (aI dx))), (hal, .inl (g 0, 4, .inl (aI dy))), (hre, .inl (g 0, 192, .inl (aI RE1_4))), (hse, .inl (g 1, 192, .inl (aP SE1_5))), (hpl, .inl (g 0, 192, .inl (aI PL1_6)))] H := hP
        have hD : va_D A [(hM, .inr (2, (mO hnow hthen hpast kept htx ty th at_ fa htold tolds hac hal hre hse hpl m1_7 c1_8 b1_9 hsy))), (hnow, .inl (g 0, 253, .inl (aI S))), (hac, .inl (g 0, 4, .inl (aI dx))), (hal, .inl (g 0, 4, .inl (aI dy))), (hre, .inl (g 0, 192, .inl (aI RE1_4))), (hse, .inl (g 1, 192, .inl (aP SE1_5))), (hpl, .inl (g 0, 192, .inl (aI PL1_6)))] := va_Dadr hD rfl
        refine W.widen (k := 0) (n := 0) (Nat.le_refl _) (Nat.le_refl _) ?_
        exact W.iret (v := (iI (wkd S room (what = 7)))) hx hb hr (fun t ht hW => ⟨⟨_, (RE1_4, SE1_5, PL1_6, m1_7, c1_8, b1_9), rfl, congrArg iI (((zi_f (by assumption)).trans (zi_f (by assumption)))).symm, by rw [← ht] at hP; exact hP⟩, hS.F ht⟩) hS.2.2 dX3_ofRoom_61 hlk
      refine g_icmp_ne (tgt := 57) hx hb dX3_ofRoom_50 (by decide) ⟨r_what, ⟨by decide, by decide⟩⟩ (fun c10 => ?_) (fun c10 => ?_)
      · refine lv_iconst (v := iI 0) hx hb dX3_ofRoom_57 rfl ?_
        refine g_eq (b := qz (what = 7)) (qz_f (fun xx => (c10 xx))).symm ?_
        exact hJ3 ls (lv_sub hl [0, 1, 2] rfl)
      · refine lv_iconst (v := iI 1) hx hb dX3_ofRoom_53 rfl ?_
        refine lv_goto (tgt := 58) hx hb dX3_ofRoom_54 (by decide) ?_
        refine g_eq (b := qz (what = 7)) (qz_t c10).symm ?_
        exact hJ3 ls (lv_sub hl [0, 1, 2] rfl)
    · refine lv_aload_n hx hb dX3_ofRoom_23 rfl (lv_at hl 0 rfl) ?_
      refine lv_aload_n hx hb dX3_ofRoom_24 rfl (lv_at hl 0 rfl) ?_
      refine va_get (D := G) (ci := 2) (v := .ref hnow) (C := RX3) (T := TX3) (N := 20) hx hb hts in_X3 hown hK hP 0 rfl rfl 0 (by decide) (hts _ q1438) (fun _ h9 => h9) rfl dX3_ofRoom_25 ?_
      refine lv_iload_n hx hb dX3_ofRoom_28 rfl (lv_at hl 1 rfl) ?_
      refine lv_iload_n hx hb dX3_ofRoom_29 rfl (lv_at hl 2 rfl) ?_
      refine lv_iconst (v := iI 5) hx hb dX3_ofRoom_30 rfl ?_
      have hJ11 : ∀ ls : Array Slot, lv_has ls 3 [(0, .ref hM), (1, .int (iI room)), (2, .int (iI what))] → W p l e ({ frames := 9, cells := 0, slots := 0, locals := 214 }) s m ([.ref hM, .int (iI room), .int (iI what)] : List Value).toArray below meth c s.heap [] 0 0 (MQ below (va_Qi (fun (r : Int32) (u : (Int → Int) × (Int → Prop) × (Int → Int) × Int × Int × Int) => r = (iI (orV S room what))) (fun (u : (Int → Int) × (Int → Prop) × (Int → Int) × Int × Int × Int) t => va_P G CL [(hM, .inr (2, (mO hnow hthen hpast kept htx ty th at_ fa htold tolds hac hal hre hse hpl u.2.2.2.1 u.2.2.2.2.1 u.2.2.2.2.2 hsy))), (hnow, .inl (g 0, 253, .inl (aI S))), (hac, .inl (g 0, 4, .inl (aI dx))), (hal, .inl (g 0, 4, .inl (aI dy))), (hre, .inl (g 0, 192, .inl (aI u.1))), (hse, .inl (g 1, 192, .inl (aP u.2.1))), (hpl, .inl (g 0, 192, .inl (aI u.2.2.1)))] t.heap) A) ([.ref hM, .int (iI room), .int (iI what)] : List Value).toArray s 0 0 A) (F0 m 39 ls [.int (iI (qz (what = 5))), .int (iI room), .ref hnow, .ref hM]) := by
        intro ls hl
        refine g_callV (As := [.ref hnow, .int (iI room), .int (iI (qz (what = 5)))]) (rest := []) (m_X3_doors l G g hM hnow room (what = 5) (mO hnow hthen hpast kept htx ty th at_ fa htold tolds hac hal hre hse hpl many cost br hsy) hac hal S rfl rfl r_room kS kT) hx hb hml hown hts Stab.tt hK hP hS hEs [0, 1, 2, 3] rfl (q0 := 0) rfl rfl q1701 q1703 qs80 q102 q1704 hd_X3_doors rfl rfl ⟨Nat.le_of_ble_eq_true rfl, Nat.le_of_ble_eq_true rfl⟩ rfl hl rfl (Nat.le_of_ble_eq_true rfl) ⟨Nat.le_refl _, Nat.le_refl _⟩ dX3_ofRoom_39 ?_
        have w12 := drs_rng S room (what = 5) 192
        refine lv_goto (tgt := 61) hx hb dX3_ofRoom_42 (by decide) ?_
        exact W.iret (v := (iI (drs S room (what = 5)))) hx hb hr (fun t ht hW => ⟨⟨_, (RE, SE, PL, many, cost, br), rfl, congrArg iI (((zi_f (by assumption)).trans (zi_t (by assumption)))).symm, by rw [← ht] at hP; exact hP⟩, hS.F ht⟩) hS.2.2 dX3_ofRoom_61 hlk
      refine g_icmp_ne (tgt := 38) hx hb dX3_ofRoom_31 (by decide) ⟨r_what, ⟨by decide, by decide⟩⟩ (fun c13 => ?_) (fun c13 => ?_)
      · refine lv_iconst (v := iI 0) hx hb dX3_ofRoom_38 rfl ?_
        refine g_eq (b := qz (what = 5)) (qz_f (fun xx => (c13 xx))).symm ?_
        exact hJ11 ls (lv_sub hl [0, 1, 2] rfl)
      · refine lv_iconst (v := iI 1) hx hb dX3_ofRoom_34 rfl ?_
        refine lv_goto (tgt := 39) hx hb dX3_ofRoom_35 (by decide) ?_
        refine g_eq (b := qz (what = 5)) (qz_t c13).symm ?_
        exact hJ11 ls (lv_sub hl [0, 1, 2] rfl)
  · refine lv_aload_n hx hb dX3_ofRoom_5 rfl (lv_at hl 0 rfl) ?_
    refine va_get (D := G) (ci := 2) (v := .ref hnow) (C := RX3) (T := TX3) (N := 20) hx hb hts in_X3 hown hK hP 0 rfl rfl 0 (by decide) (hts _ q1438) (fun _ h9 => h9) rfl dX3_ofRoom_6 ?_
    refine lv_iload_n hx hb dX3_ofRoom_9 rfl (lv_at hl 1 rfl) ?_
    refine lv_iload_n hx hb dX3_ofRoom_10 rfl (lv_at hl 2 rfl) ?_
    refine g_callS (As := [.ref hnow, .int (iI room), .int (iI what)]) (rest := []) (m_X3_of l G g hnow room what S r_room r_what kS hrm (by omega)) hx hb hml hown hts Stab.tt hK hP hS hEs [1] rfl q1528 q1529 q102 q1530 hd_X3_of rfl rfl ⟨Nat.le_of_ble_eq_true rfl, Nat.le_of_ble_eq_true rfl⟩ rfl hl rfl (Nat.le_of_ble_eq_true rfl) ⟨Nat.le_refl _, Nat.le_refl _⟩ dX3_ofRoom_11 ?_
    have w14 := kS (192 + 4 * room + what) (by omega) (by omega)
    refine lv_goto (tgt := 61) hx hb dX3_ofRoom_14 (by decide) ?_
    exact W.iret (v := (iI (S (192 + 4 * room + what)))) hx hb hr (fun t ht hW => ⟨⟨_, (RE, SE, PL, many, cost, br), rfl, congrArg iI (zi_t (by assumption)).symm, by rw [← ht] at hP; exact hP⟩, hS.F ht⟩) hS.2.2 dX3_ofRoom_61 hlk
theorem hd_X3_ofWay : yX3_ofWay.cls = RX3 ∧ yX3_ofWay.cls ≠ "java/lang/invoke/MethodHandle" ∧ yX3_ofWay.cls ≠ "java/lang/invoke/VarHandle" ∧ (parseMethodDescriptor yX3_ofWay.desc).map (fun d => d.parameters.length) = some 3 := by decide +kernel
set_option maxHeartbeats 1000000 in
set_option maxRecDepth 100000 in
theorem m_X3_ofWay (l : Launch) (G : va_G) (g : Nat → ClassId) (sz : Nat) (hM : Nat) (one : Int) (other : Int) (what : Int) (hnow : Nat) (hthen : Nat) (hpast : Nat) (kept : Int) (htx : Nat) (ty : Int) (th : Int) (at_ : Int) (fa : Prop) (htold : Nat) (tolds : Int) (hac : Nat) (hal : Nat) (hre : Nat) (hse : Nat) (hpl : Nat) (many : Int) (cost : Int) (br : Int) (hsy : Nat) (S : Int → Int) (RE : Int → Int) (SE : Int → Prop) (PL : Int → Int) (r_one : r32 one) (r_other : r32 other) (r_what : r32 what) (kS : rgS S) (kW : rgW S) (h1 : 0 ≤ one ∧ one ≤ 5) (h2 : 0 ≤ other ∧ other ≤ 5) (hw5 : 0 ≤ what ∧ what ≤ 4) : Met l yX3_ofWay (ws_ yX3_ofWay cX3_ofWay 4 (Option.some Jvm.ClassFile.FieldType.int)) ({ frames := 7, cells := 0, slots := 0, locals := 167 }) (va_Pc [.ref hM, .int (iI one), .int (iI other), .int (iI what)] (wrB G CL (TY g) (fun _ => True) [(hM, .inr (2, (mO hnow hthen hpast kept htx ty th at_ fa htold tolds hac hal hre hse hpl many cost br hsy))), (hnow, .inl (g 0, 253, .inl (aI S))), (hac, .inl (g 0, 4, .inl (aI dx))), (hal, .inl (g 0, 4, .inl (aI dy))), (hre, .inl (g 0, 192, .inl (aI RE))), (hse, .inl (g 1, 192, .inl (aP SE))), (hpl, .inl (g 0, 192, .inl (aI PL)))] sz)) (va_Qi (fun (r : Int32) (u : (Int → Int) × (Int → Prop) × (Int → Int) × Int × Int × Int) => r = (iI (wyV S one other what))) (fun (u : (Int → Int) × (Int → Prop) × (Int → Int) × Int × Int × Int) t => va_P G CL [(hM, .inr (2, (mO hnow hthen hpast kept htx ty th at_ fa htold tolds hac hal hre hse hpl u.2.2.2.1 u.2.2.2.2.1 u.2.2.2.2.2 hsy))), (hnow, .inl (g 0, 253, .inl (aI S))), (hac, .inl (g 0, 4, .inl (aI dx))), (hal, .inl (g 0, 4, .inl (aI dy))), (hre, .inl (g 0, 192, .inl (aI u.1))), (hse, .inl (g 1, 192, .inl (aP u.2.1))), (hpl, .inl (g 0, 192, .inl (aI u.2.2.1)))] t.heap) (va_A [(hM, .inr (2, (mO hnow hthen hpast kept htx ty th at_ fa htold tolds hac hal hre hse hpl many cost br hsy))), (hnow, .inl (g 0, 253, .inl (aI S))), (hac, .inl (g 0, 4, .inl (aI dx))), (hal, .inl (g 0, 4, .inl (aI dy))), (hre, .inl (g 0, 192, .inl (aI RE))), (hse, .inl (g 1, 192, .inl (aP SE))), (hpl, .inl (g 0, 192, .inl (aI PL)))] sz)) 0 0 (va_A [(hM, .inr (2, (mO hnow hthen hpast kept htx ty th at_ fa htold tolds hac hal hre hse hpl many cost br hsy))), (hnow, .inl (g 0, 253, .inl (aI S))), (hac, .inl (g 0, 4, .inl (aI dx))), (hal, .inl (g 0, 4, .inl (aI dy))), (hre, .inl (g 0, 192, .inl (aI RE))), (hse, .inl (g 1, 192, .inl (aP SE))), (hpl, .inl (g 0, 192, .inl (aI PL)))] sz) := by
  refine Met.at (by decide) (Nat.le_of_ble_eq_true rfl) ?_
  intro p e s m below meth c hx hb hr hlk hml hown hnm hts hB ls hl
  have hown : s.vm.findClass RX3 = some m.cls := hown
  obtain ⟨hsz, hP, hK, hD0, hEs⟩ := hB
  subst hsz
  have hD := hD0.self (sz := s.heap.size)
  generalize hAe : va_A [(hM, .inr (2, (mO hnow hthen hpast kept htx ty th at_ fa htold tolds hac hal hre hse hpl many cost br hsy))), (hnow, .inl (g 0, 253, .inl (aI S))), (hac, .inl (g 0, 4, .inl (aI dx))), (hal, .inl (g 0, 4, .inl (aI dy))), (hre, .inl (g 0, 192, .inl (aI RE))), (hse, .inl (g 1, 192, .inl (aP SE))), (hpl, .inl (g 0, 192, .inl (aI PL)))] s.heap.size = A at hD ⊢
  have hA : ∀ q : Nat, s.heap.size ≤ q → A q := fun q h => by rw [← hAe]; exact Or.inr h
  have hS : va_S A s.heap s.heap [] := va_S.rf
  have hl : lv_has ls 4 [(0, .ref hM), (1, .int (iI one)), (2, .int (iI other)), (3, .int (iI what))] := hl
  have hbw := brW_rng kW h1 h2
  refine lv_iload_n hx hb dX3_ofWay_0 rfl (lv_at hl 3 rfl) ?_
  refine lv_iconst (v := iI 4) hx hb dX3_ofWay_1 rfl ?_
  refine g_icmp_ne (tgt := 15) hx hb dX3_ofWay_2 (by decide) ⟨r_what, ⟨by decide, by decide⟩⟩ (fun c1 => ?_) (fun c1 => ?_)
  · refine lv_aload_n hx hb dX3_ofWay_15 rfl (lv_at hl 0 rfl) ?_
    refine lv_aload_n hx hb dX3_ofWay_16 rfl (lv_at hl 0 rfl) ?_
    refine va_get (D := G) (ci := 2) (v := .ref hnow) (C := RX3) (T := TX3) (N := 20) hx hb hts in_X3 hown hK hP 0 rfl rfl 0 (by decide) (hts _ q1438) (fun _ h9 => h9) rfl dX3_ofWay_17 ?_
    refine lv_iload_n hx hb dX3_ofWay_20 rfl (lv_at hl 1 rfl) ?_
    refine lv_iload_n hx hb dX3_ofWay_21 rfl (lv_at hl 2 rfl) ?_
    refine g_callVwi (As := [.ref hnow, .int (iI one), .int (iI other)]) (rest := []) (m_X3_isWay l G g s.heap.size hM hnow one other hnow hthen hpast kept htx ty th at_ fa htold tolds hac hal hre hse hpl many cost br hsy S RE SE PL r_one r_other kS kW h1 h2) hx hb hml hown hts Stab.tt hA hK hP hD hS hEs [0, 1, 2, 3, 4, 5, 6] rfl rfl (fun _ => rfl) (q0 := 0) rfl rfl q1578 q1580 qs60 q102 q1581 hd_X3_isWay rfl rfl ⟨Nat.le_of_ble_eq_true rfl, Nat.le_of_ble_eq_true rfl⟩ rfl hl rfl (Nat.le_of_ble_eq_true rfl) ⟨Nat.le_refl _, Nat.le_refl _⟩ dX3_ofWay_22 (fun rr u H locs hp hP hS => ?_)
    obtain ⟨RA, EA, PA⟩ := u
    obtain ⟨hrr, wpl, dsx⟩ : rr = (iI (qz (¬ wB S (brW S one other) one other = -1))) ∧ (∀ j9 : Nat, (j9 : Int) < wL S (brW S one other) one other → PA (j9 : Int) = wP S (brW S one other) one other j9) ∧ (isDist S (brW S one other) other (dsF S (brW S one other) other)) := hp
    subst hrr
    have hP : va_P G CL [(hM, .inr (2, (mO hnow hthen hpast kept htx ty th at_ fa htold tolds hac hal hre hse hpl (wL S (brW S one other) one other) (wC S (brW S one other) one other) (brW S one other) hsy))), (hnow, .inl (g 0, 253, .inl (aI S))), (hac, .inl (g 0, 4, .inl (aI dx))), (hal, .inl (g 0, 4, .inl (aI dy))), (hre, .inl (g 0, 192, .inl (aI RA))), (hse, .inl (g 1, 192, .inl (aP EA))), (hpl, .inl (g 0, 192, .inl (aI PA)))] H := hP
    have hD : va_D A [(hM, .inr (2, (mO hnow hthen hpast kept htx ty th at_ fa htold tolds hac hal hre hse hpl (wL S (brW S one other) one other) (wC S (brW S one other) one other) (brW S one other) hsy))), (hnow, .inl (g 0, 253, .inl (aI S))), (hac, .inl (g 0, 4, .inl (aI dx))), (hal, .inl (g 0, 4, .inl (aI dy))), (hre, .inl (g 0, 192, .inl (aI RA))), (hse, .inl (g 1, 192, .inl (aP EA))), (hpl, .inl (g 0, 192, .inl (aI PA)))] := va_Dadr hD rfl
    refine W.widen (k := 0) (n := 0) (Nat.le_refl _) (Nat.le_refl _) ?_
    refine g_ifq_ne (tgt := 30) hx hb dX3_ofWay_25 (by decide) (fun c2 => ?_) (fun c2 => ?_)
    · have wp1 := wL_pos hbw dsx (by assumption)
      have wlr := wL_rng S (brW S one other) one other
      have wcr := wC_rng (S := S) (one := one) hbw dsx
      have zo := zi_or (what = 2) 0 (wL S (brW S one other) one other - 1)
      have ePA : PA (zi (what = 2) 0 (wL S (brW S one other) one other - 1)) = wPz S (brW S one other) one other (zi (what = 2) 0 (wL S (brW S one other) one other - 1)) := (by have q := wpl (zi (what = 2) 0 (wL S (brW S one other) one other - 1)).toNat (by omega); rw [Int.toNat_of_nonneg (by omega)] at q; exact q)
      refine lv_iload_n hx hb dX3_ofWay_30 rfl (lv_at hl 3 rfl) ?_
      have hJ3 : ∀ ls : Array Slot, lv_has ls 4 [(0, .ref hM), (1, .int (iI one)), (2, .int (iI other)), (3, .int (iI what))] → W p l e ({ frames := 7, cells := 0, slots := 0, locals := 167 }) s m ([.ref hM, .int (iI one), .int (iI other), .int (iI what)] : List Value).toArray below meth c H locs 0 0 (MQ below (va_Qi (fun (r : Int32) (u : (Int → Int) × (Int → Prop) × (Int → Int) × Int × Int × Int) => r = (iI (wyV S one other what))) (fun (u : (Int → Int) × (Int → Prop) × (Int → Int) × Int × Int × Int) t => va_P G CL [(hM, .inr (2, (mO hnow hthen hpast kept htx ty th at_ fa htold tolds hac hal hre hse hpl u.2.2.2.1 u.2.2.2.2.1 u.2.2.2.2.2 hsy))), (hnow, .inl (g 0, 253, .inl (aI S))), (hac, .inl (g 0, 4, .inl (aI dx))), (hal, .inl (g 0, 4, .inl (aI dy))), (hre, .inl (g 0, 192, .inl (aI u.1))), (hse, .inl (g 1, 192, .inl (aP u.2.1))), (hpl, .inl (g 0, 192, .inl (aI u.2.2.1)))] t.heap) A) ([.ref hM, .int (iI one), .int (iI other), .int (iI what)] : List Value).toArray s 0 0 A) (F0 m 73 ls [.int (iI (zi (what = 0) (wC S (brW S one other) one other) (zi (what = 1) (wL S (brW S one other) one other) (PA (zi (what = 2) 0 ((wL S (brW S one other) one other) - 1))))))]) := by
        intro ls hl
        exact W.iret (v := (iI (zi (what = 0) (wC S (brW S one other) one other) (zi (what = 1) (wL S (brW S one other) one other) (PA (zi (what = 2) 0 ((wL S (brW S one other) one other) - 1))))))) hx hb hr (fun t ht hW => ⟨⟨_, (RA, EA, PA, wL S (brW S one other) one other, wC S (brW S one other) one other, brW S one other), rfl, by rw [ePA]; exact congrArg iI ((zi_f (by assumption)).trans (zi_t (by assumption))).symm, by rw [← ht] at hP; exact hP⟩, hS.F ht⟩) hS.2.2 dX3_ofWay_73 hlk
      refine g_if_ne (tgt := 41) hx hb dX3_ofWay_31 (by decide) r_what (fun c4 => ?_) (fun c4 => ?_)
      · refine lv_iload_n hx hb dX3_ofWay_41 rfl (lv_at hl 3 rfl) ?_
        refine lv_iconst (v := iI 1) hx hb dX3_ofWay_42 rfl ?_
        refine g_icmp_ne (tgt := 53) hx hb dX3_ofWay_43 (by decide) ⟨r_what, ⟨by decide, by decide⟩⟩ (fun c5 => ?_) (fun c5 => ?_)
        · refine lv_aload_n hx hb dX3_ofWay_53 rfl (lv_at hl 0 rfl) ?_
          refine va_get (D := G) (ci := 2) (v := .ref hpl) (C := RX3) (T := TX3) (N := 20) hx hb hts in_X3 hown hK hP 0 rfl rfl 15 (by decide) (hts _ q1453) (fun _ h9 => h9) rfl dX3_ofWay_54 ?_
          refine lv_iload_n hx hb dX3_ofWay_57 rfl (lv_at hl 3 rfl) ?_
          refine lv_iconst (v := iI 2) hx hb dX3_ofWay_58 rfl ?_
          have hJ6 : ∀ ls : Array Slot, lv_has ls 4 [(0, .ref hM), (1, .int (iI one)), (2, .int (iI other)), (3, .int (iI what))] → W p l e ({ frames := 7, cells := 0, slots := 0, locals := 167 }) s m ([.ref hM, .int (iI one), .int (iI other), .int (iI what)] : List Value).toArray below meth c H locs 0 0 (MQ below (va_Qi (fun (r : Int32) (u : (Int → Int) × (Int → Prop) × (Int → Int) × Int × Int × Int) => r = (iI (wyV S one other what))) (fun (u : (Int → Int) × (Int → Prop) × (Int → Int) × Int × Int × Int) t => va_P G CL [(hM, .inr (2, (mO hnow hthen hpast kept htx ty th at_ fa htold tolds hac hal hre hse hpl u.2.2.2.1 u.2.2.2.2.1 u.2.2.2.2.2 hsy))), (hnow, .inl (g 0, 253, .inl (aI S))), (hac, .inl (g 0, 4, .inl (aI dx))), (hal, .inl (g 0, 4, .inl (aI dy))), (hre, .inl (g 0, 192, .inl (aI u.1))), (hse, .inl (g 1, 192, .inl (aP u.2.1))), (hpl, .inl (g 0, 192, .inl (aI u.2.2.1)))] t.heap) A) ([.ref hM, .int (iI one), .int (iI other), .int (iI what)] : List Value).toArray s 0 0 A) (F0 m 72 ls [.int (iI (zi (what = 2) 0 ((wL S (brW S one other) one other) - 1))), .ref hpl]) := by
            intro ls hl
            refine g_iald hx hb hK hP 6 0 rfl rfl (i := zi (what = 2) 0 ((wL S (brW S one other) one other) - 1)) (⟨by omega, by omega⟩) (by decide) dX3_ofWay_72 ?_
            refine g_eq (b := zi (what = 0) (wC S (brW S one other) one other) (zi (what = 1) (wL S (brW S one other) one other) (PA (zi (what = 2) 0 ((wL S (brW S one other) one other) - 1))))) (((zi_f c4).trans (zi_f c5))).symm ?_
            exact hJ3 ls (lv_sub hl [0, 1, 2, 3] rfl)
          refine g_icmp_ne (tgt := 66) hx hb dX3_ofWay_59 (by decide) ⟨r_what, ⟨by decide, by decide⟩⟩ (fun c7 => ?_) (fun c7 => ?_)
          · refine lv_aload_n hx hb dX3_ofWay_66 rfl (lv_at hl 0 rfl) ?_
            refine va_get (D := G) (ci := 2) (v := .int (iI (wL S (brW S one other) one other))) (C := RX3) (T := TX3) (N := 20) hx hb hts in_X3 hown hK hP 0 rfl rfl 16 (by decide) (hts _ q1454) (fun _ h9 => h9) rfl dX3_ofWay_67 ?_
            refine lv_iconst (v := iI 1) hx hb dX3_ofWay_70 rfl ?_
            refine g_isub hx hb dX3_ofWay_71 ?_
            refine g_eq (b := zi (what = 2) 0 ((wL S (brW S one other) one other) - 1)) ((zi_f c7)).symm ?_
            exact hJ6 ls (lv_sub hl [0, 1, 2, 3] rfl)
          · refine lv_iconst (v := iI 0) hx hb dX3_ofWay_62 rfl ?_
            refine lv_goto (tgt := 72) hx hb dX3_ofWay_63 (by decide) ?_
            refine g_eq (b := zi (what = 2) 0 ((wL S (brW S one other) one other) - 1)) ((zi_t c7)).symm ?_
            exact hJ6 ls (lv_sub hl [0, 1, 2, 3] rfl)
        · refine lv_aload_n hx hb dX3_ofWay_46 rfl (lv_at hl 0 rfl) ?_
          refine va_get (D := G) (ci := 2) (v := .int (iI (wL S (brW S one other) one other))) (C := RX3) (T := TX3) (N := 20) hx hb hts in_X3 hown hK hP 0 rfl rfl 16 (by decide) (hts _ q1454) (fun _ h9 => h9) rfl dX3_ofWay_47 ?_
          refine lv_goto (tgt := 73) hx hb dX3_ofWay_50 (by decide) ?_
          refine g_eq (b := zi (what = 0) (wC S (brW S one other) one other) (zi (what = 1) (wL S (brW S one other) one other) (PA (zi (what = 2) 0 ((wL S (brW S one other) one other) - 1))))) (((zi_f c4).trans (zi_t c5))).symm ?_
          exact hJ3 ls (lv_sub hl [0, 1, 2, 3] rfl)
      · refine lv_aload_n hx hb dX3_ofWay_34 rfl (lv_at hl 0 rfl) ?_
        refine va_get (D := G) (ci := 2) (v := .int (iI (wC S (brW S one other) one other))) (C := RX3) (T := TX3) (N := 20) hx hb hts in_X3 hown hK hP 0 rfl rfl 17 (by decide) (hts _ q1455) (fun _ h9 => h9) rfl dX3_ofWay_35 ?_
        refine lv_goto (tgt := 73) hx hb dX3_ofWay_38 (by decide) ?_
        refine g_eq (b := zi (what = 0) (wC S (brW S one other) one other) (zi (what = 1) (wL S (brW S one other) one other) (PA (zi (what = 2) 0 ((wL S (brW S one other) one other) - 1))))) ((zi_t c4)).symm ?_
        exact hJ3 ls (lv_sub hl [0, 1, 2, 3] rfl)
    · refine lv_iconst (v := iI (-1)) hx hb dX3_ofWay_28 rfl ?_
      exact W.iret (v := (iI (-1))) hx hb hr (fun t ht hW => ⟨⟨_, (RA, EA, PA, wL S (brW S one other) one other, wC S (brW S one other) one other, brW S one other), rfl, congrArg iI ((zi_f (by assumption)).trans (zi_f (by assumption))).symm, by rw [← ht] at hP; exact hP⟩, hS.F ht⟩) hS.2.2 dX3_ofWay_29 hlk
  · refine lv_aload_n hx hb dX3_ofWay_5 rfl (lv_at hl 0 rfl) ?_
    refine va_get (D := G) (ci := 2) (v := .ref hnow) (C := RX3) (T := TX3) (N := 20) hx hb hts in_X3 hown hK hP 0 rfl rfl 0 (by decide) (hts _ q1438) (fun _ h9 => h9) rfl dX3_ofWay_6 ?_
    refine lv_iload_n hx hb dX3_ofWay_9 rfl (lv_at hl 1 rfl) ?_
    refine lv_iload_n hx hb dX3_ofWay_10 rfl (lv_at hl 2 rfl) ?_
    refine g_callS (As := [.ref hnow, .int (iI one), .int (iI other)]) (rest := []) (m_X3_walks l G g hnow one other S r_one r_other kS h1 h2) hx hb hml hown hts Stab.tt hK hP hS hEs [1] rfl q1564 q1565 q102 q1566 hd_X3_walks rfl rfl ⟨Nat.le_of_ble_eq_true rfl, Nat.le_of_ble_eq_true rfl⟩ rfl hl rfl (Nat.le_of_ble_eq_true rfl) ⟨Nat.le_refl _, Nat.le_refl _⟩ dX3_ofWay_11 ?_
    have w8 := kS (216 + 6 * one + other) (by omega) (by omega)
    exact W.iret (v := (iI (S (216 + 6 * one + other)))) hx hb hr (fun t ht hW => ⟨⟨_, (RE, SE, PL, many, cost, br), rfl, congrArg iI (zi_t (by assumption)).symm, by rw [← ht] at hP; exact hP⟩, hS.F ht⟩) hS.2.2 dX3_ofWay_14 hlk
theorem hd_X3_counted : yX3_counted.cls = RX3 ∧ yX3_counted.cls ≠ "java/lang/invoke/MethodHandle" ∧ yX3_counted.cls ≠ "java/lang/invoke/VarHandle" ∧ (parseMethodDescriptor yX3_counted.desc).map (fun d => d.parameters.length) = some 1 := by decide +kernel
set_option maxHeartbeats 1000000 in
set_option maxRecDepth 100000 in
theorem m_X3_counted (l : Launch) (G : va_G) (g : Nat → ClassId) (sz : Nat) (hM : Nat) (what : Int) (hnow : Nat) (hthen : Nat) (hpast : Nat) (kept : Int) (htx : Nat) (ty : Int) (th : Int) (at_ : Int) (fa : Prop) (htold : Nat) (tolds : Int) (hac : Nat) (hal : Nat) (hre : Nat) (hse : Nat) (hpl : Nat) (many : Int) (cost : Int) (br : Int) (hsy : Nat) (S : Int → Int) (RE : Int → Int) (SE : Int → Prop) (PL : Int → Int) (r_what : r32 what) (kS : rgS S) (kW : rgW S) (kT : 0 ≤ S 252) (hw9 : 0 ≤ what ∧ what ≤ 8) : Met l yX3_counted (ws_ yX3_counted cX3_counted 2 (Option.some Jvm.ClassFile.FieldType.int)) ({ frames := 8, cells := 0, slots := 0, locals := 192 }) (va_Pc [.ref hM, .int (iI what)] (wrB G CL (TY g) (fun _ => True) [(hM, .inr (2, (mO hnow hthen hpast kept htx ty th at_ fa htold tolds hac hal hre hse hpl many cost br hsy))), (hnow, .inl (g 0, 253, .inl (aI S))), (hac, .inl (g 0, 4, .inl (aI dx))), (hal, .inl (g 0, 4, .inl (aI dy))), (hre, .inl (g 0, 192, .inl (aI RE))), (hse, .inl (g 1, 192, .inl (aP SE))), (hpl, .inl (g 0, 192, .inl (aI PL)))] sz)) (va_Qi (fun (r : Int32) (u : (Int → Int) × (Int → Prop) × (Int → Int) × Int × Int × Int) => r = (iI (cntV S kept what))) (fun (u : (Int → Int) × (Int → Prop) × (Int → Int) × Int × Int × Int) t => va_P G CL [(hM, .inr (2, (mO hnow hthen hpast kept htx ty th at_ fa htold tolds hac hal hre hse hpl u.2.2.2.1 u.2.2.2.2.1 u.2.2.2.2.2 hsy))), (hnow, .inl (g 0, 253, .inl (aI S))), (hac, .inl (g 0, 4, .inl (aI dx))), (hal, .inl (g 0, 4, .inl (aI dy))), (hre, .inl (g 0, 192, .inl (aI u.1))), (hse, .inl (g 1, 192, .inl (aP u.2.1))), (hpl, .inl (g 0, 192, .inl (aI u.2.2.1)))] t.heap) (va_A [(hM, .inr (2, (mO hnow hthen hpast kept htx ty th at_ fa htold tolds hac hal hre hse hpl many cost br hsy))), (hnow, .inl (g 0, 253, .inl (aI S))), (hac, .inl (g 0, 4, .inl (aI dx))), (hal, .inl (g 0, 4, .inl (aI dy))), (hre, .inl (g 0, 192, .inl (aI RE))), (hse, .inl (g 1, 192, .inl (aP SE))), (hpl, .inl (g 0, 192, .inl (aI PL)))] sz)) 0 0 (va_A [(hM, .inr (2, (mO hnow hthen hpast kept htx ty th at_ fa htold tolds hac hal hre hse hpl many cost br hsy))), (hnow, .inl (g 0, 253, .inl (aI S))), (hac, .inl (g 0, 4, .inl (aI dx))), (hal, .inl (g 0, 4, .inl (aI dy))), (hre, .inl (g 0, 192, .inl (aI RE))), (hse, .inl (g 1, 192, .inl (aP SE))), (hpl, .inl (g 0, 192, .inl (aI PL)))] sz) := by
  refine Met.at (by decide) (Nat.le_of_ble_eq_true rfl) ?_
  intro p e s m below meth c hx hb hr hlk hml hown hnm hts hB ls hl
  have hown : s.vm.findClass RX3 = some m.cls := hown
  obtain ⟨hsz, hP, hK, hD0, hEs⟩ := hB
  subst hsz
  have hD := hD0.self (sz := s.heap.size)
  generalize hAe : va_A [(hM, .inr (2, (mO hnow hthen hpast kept htx ty th at_ fa htold tolds hac hal hre hse hpl many cost br hsy))), (hnow, .inl (g 0, 253, .inl (aI S))), (hac, .inl (g 0, 4, .inl (aI dx))), (hal, .inl (g 0, 4, .inl (aI dy))), (hre, .inl (g 0, 192, .inl (aI RE))), (hse, .inl (g 1, 192, .inl (aP SE))), (hpl, .inl (g 0, 192, .inl (aI PL)))] s.heap.size = A at hD ⊢
  have hA : ∀ q : Nat, s.heap.size ≤ q → A q := fun q h => by rw [← hAe]; exact Or.inr h
  have hS : va_S A s.heap s.heap [] := va_S.rf
  have hl : lv_has ls 2 [(0, .ref hM), (1, .int (iI what))] := hl
  have zo := zi_or (what = 1) (-1) (-2)
  refine lv_iload_n hx hb dX3_counted_0 rfl (lv_at hl 1 rfl) ?_
  refine lv_iconst (v := iI 3) hx hb dX3_counted_1 rfl ?_
  refine g_icmp_ge (tgt := 35) hx hb dX3_counted_2 (by decide) ⟨r_what, ⟨by decide, by decide⟩⟩ (fun c1 => ?_) (fun c1 => ?_)
  · refine lv_iload_n hx hb dX3_counted_35 rfl (lv_at hl 1 rfl) ?_
    refine lv_iconst (v := iI 5) hx hb dX3_counted_36 rfl ?_
    refine g_icmp_eq (tgt := 46) hx hb dX3_counted_37 (by decide) ⟨r_what, ⟨by decide, by decide⟩⟩ (fun c2 => ?_) (fun c2 => ?_)
    · refine lv_aload_n hx hb dX3_counted_46 rfl (lv_at hl 0 rfl) ?_
      refine lv_aload_n hx hb dX3_counted_47 rfl (lv_at hl 0 rfl) ?_
      refine va_get (D := G) (ci := 2) (v := .ref hnow) (C := RX3) (T := TX3) (N := 20) hx hb hts in_X3 hown hK hP 0 rfl rfl 0 (by decide) (hts _ q1438) (fun _ h9 => h9) rfl dX3_counted_48 ?_
      refine lv_iload_n hx hb dX3_counted_51 rfl (lv_at hl 1 rfl) ?_
      refine lv_bipush (v := iI 6) hx hb dX3_counted_52 rfl ?_
      have hJ3 : ∀ ls : Array Slot, lv_has ls 2 [(0, .ref hM), (1, .int (iI what))] → W p l e ({ frames := 8, cells := 0, slots := 0, locals := 192 }) s m ([.ref hM, .int (iI what)] : List Value).toArray below meth c s.heap [] 0 0 (MQ below (va_Qi (fun (r : Int32) (u : (Int → Int) × (Int → Prop) × (Int → Int) × Int × Int × Int) => r = (iI (cntV S kept what))) (fun (u : (Int → Int) × (Int → Prop) × (Int → Int) × Int × Int × Int) t => va_P G CL [(hM, .inr (2, (mO hnow hthen hpast kept htx ty th at_ fa htold tolds hac hal hre hse hpl u.2.2.2.1 u.2.2.2.2.1 u.2.2.2.2.2 hsy))), (hnow, .inl (g 0, 253, .inl (aI S))), (hac, .inl (g 0, 4, .inl (aI dx))), (hal, .inl (g 0, 4, .inl (aI dy))), (hre, .inl (g 0, 192, .inl (aI u.1))), (hse, .inl (g 1, 192, .inl (aP u.2.1))), (hpl, .inl (g 0, 192, .inl (aI u.2.2.1)))] t.heap) A) ([.ref hM, .int (iI what)] : List Value).toArray s 0 0 A) (F0 m 62 ls [.int (iI (qz (what = 6))), .ref hnow, .ref hM]) := by
        intro ls hl
        refine g_callV (As := [.ref hnow, .int (iI (qz (what = 6)))]) (rest := []) (m_X3_allDoors l G g hM hnow (what = 6) (mO hnow hthen hpast kept htx ty th at_ fa htold tolds hac hal hre hse hpl many cost br hsy) hac hal S rfl rfl kS kT) hx hb hml hown hts Stab.tt hK hP hS hEs [0, 1, 2, 3] rfl (q0 := 0) rfl rfl q1736 q1738 qs86 q102 q1739 hd_X3_allDoors rfl rfl ⟨Nat.le_of_ble_eq_true rfl, Nat.le_of_ble_eq_true rfl⟩ rfl hl rfl (Nat.le_of_ble_eq_true rfl) ⟨Nat.le_refl _, Nat.le_refl _⟩ dX3_counted_62 ?_
        exact W.iret (v := (iI (ads S (what = 6)))) hx hb hr (fun t ht hW => ⟨⟨_, (RE, SE, PL, many, cost, br), rfl, congrArg iI ((zi_f (by assumption)).trans (zi_t (Or.inl (by assumption)))).symm, by rw [← ht] at hP; exact hP⟩, hS.F ht⟩) hS.2.2 dX3_counted_65 hlk
      refine g_icmp_ne (tgt := 61) hx hb dX3_counted_54 (by decide) ⟨r_what, ⟨by decide, by decide⟩⟩ (fun c4 => ?_) (fun c4 => ?_)
      · refine lv_iconst (v := iI 0) hx hb dX3_counted_61 rfl ?_
        refine g_eq (b := qz (what = 6)) (qz_f (fun xx => (c4 xx))).symm ?_
        exact hJ3 ls (lv_sub hl [0, 1] rfl)
      · refine lv_iconst (v := iI 1) hx hb dX3_counted_57 rfl ?_
        refine lv_goto (tgt := 62) hx hb dX3_counted_58 (by decide) ?_
        refine g_eq (b := qz (what = 6)) (qz_t c4).symm ?_
        exact hJ3 ls (lv_sub hl [0, 1] rfl)
    · refine lv_iload_n hx hb dX3_counted_40 rfl (lv_at hl 1 rfl) ?_
      refine lv_bipush (v := iI 6) hx hb dX3_counted_41 rfl ?_
      refine g_icmp_ne (tgt := 66) hx hb dX3_counted_43 (by decide) ⟨r_what, ⟨by decide, by decide⟩⟩ (fun c5 => ?_) (fun c5 => ?_)
      · refine lv_iload_n hx hb dX3_counted_66 rfl (lv_at hl 1 rfl) ?_
        refine lv_bipush (v := iI 8) hx hb dX3_counted_67 rfl ?_
        refine g_icmp_ne (tgt := 79) hx hb dX3_counted_69 (by decide) ⟨r_what, ⟨by decide, by decide⟩⟩ (fun c6 => ?_) (fun c6 => ?_)
        · refine lv_aload_n hx hb dX3_counted_79 rfl (lv_at hl 0 rfl) ?_
          refine lv_aload_n hx hb dX3_counted_80 rfl (lv_at hl 0 rfl) ?_
          refine va_get (D := G) (ci := 2) (v := .ref hnow) (C := RX3) (T := TX3) (N := 20) hx hb hts in_X3 hown hK hP 0 rfl rfl 0 (by decide) (hts _ q1438) (fun _ h9 => h9) rfl dX3_counted_81 ?_
          refine lv_iload_n hx hb dX3_counted_84 rfl (lv_at hl 1 rfl) ?_
          refine lv_bipush (v := iI 7) hx hb dX3_counted_85 rfl ?_
          have hJ7 : ∀ ls : Array Slot, lv_has ls 2 [(0, .ref hM), (1, .int (iI what))] → W p l e ({ frames := 8, cells := 0, slots := 0, locals := 192 }) s m ([.ref hM, .int (iI what)] : List Value).toArray below meth c s.heap [] 0 0 (MQ below (va_Qi (fun (r : Int32) (u : (Int → Int) × (Int → Prop) × (Int → Int) × Int × Int × Int) => r = (iI (cntV S kept what))) (fun (u : (Int → Int) × (Int → Prop) × (Int → Int) × Int × Int × Int) t => va_P G CL [(hM, .inr (2, (mO hnow hthen hpast kept htx ty th at_ fa htold tolds hac hal hre hse hpl u.2.2.2.1 u.2.2.2.2.1 u.2.2.2.2.2 hsy))), (hnow, .inl (g 0, 253, .inl (aI S))), (hac, .inl (g 0, 4, .inl (aI dx))), (hal, .inl (g 0, 4, .inl (aI dy))), (hre, .inl (g 0, 192, .inl (aI u.1))), (hse, .inl (g 1, 192, .inl (aP u.2.1))), (hpl, .inl (g 0, 192, .inl (aI u.2.2.1)))] t.heap) A) ([.ref hM, .int (iI what)] : List Value).toArray s 0 0 A) (F0 m 97 ls [.int (iI (zi (what = 7) 2 (what - 3))), .ref hnow, .ref hM]) := by
            intro ls hl
            have o9 := zi_or (what = 7) 2 (what - 3)
            obtain ⟨v8, e_v8⟩ : ∃ z : Int, z = zi (what = 7) 2 (what - 3) := ⟨_, rfl⟩
            refine g_eq e_v8.symm ?_
            refine g_callVwi (As := [.ref hnow, .int (iI v8)]) (rest := []) (m_X3_pairs l G g s.heap.size hM hnow v8 hnow hthen hpast kept htx ty th at_ fa htold tolds hac hal hre hse hpl many cost br hsy S RE SE PL (by omega) kS kW) hx hb hml hown hts Stab.tt hA hK hP hD hS hEs [0, 1, 2, 3, 4, 5, 6] rfl rfl (fun _ => rfl) (q0 := 0) rfl rfl q1740 q1742 qs87 q102 q1743 hd_X3_pairs rfl rfl ⟨Nat.le_of_ble_eq_true rfl, Nat.le_of_ble_eq_true rfl⟩ rfl hl rfl (Nat.le_of_ble_eq_true rfl) ⟨Nat.le_refl _, Nat.le_refl _⟩ dX3_counted_97 (fun rr u H locs hp hP hS => ?_)
            obtain ⟨RE1_10, SE1_11, PL1_12, m1_13, c1_14, b1_15⟩ := u
            have hrr : rr = (iI (prs S v8)) := hp
            subst hrr
            have hP : va_P G CL [(hM, .inr (2, (mO hnow hthen hpast kept htx ty th at_ fa htold tolds hac hal hre hse hpl m1_13 c1_14 b1_15 hsy))), (hnow, .inl (g 0, 253, .inl (aI S))), (hac, .inl (g 0, 4, .inl (aI dx))), (hal, .inl (g 0, 4, .inl (aI dy))), (hre, .inl (g 0, 192, .inl (aI RE1_10))), (hse, .inl (g 1, 192, .inl (aP SE1_11))), (hpl, .inl (g 0, 192, .inl (aI PL1_12)))] H := hP
            have hD : va_D A [(hM, .inr (2, (mO hnow hthen hpast kept htx ty th at_ fa htold tolds hac hal hre hse hpl m1_13 c1_14 b1_15 hsy))), (hnow, .inl (g 0, 253, .inl (aI S))), (hac, .inl (g 0, 4, .inl (aI dx))), (hal, .inl (g 0, 4, .inl (aI dy))), (hre, .inl (g 0, 192, .inl (aI RE1_10))), (hse, .inl (g 1, 192, .inl (aP SE1_11))), (hpl, .inl (g 0, 192, .inl (aI PL1_12)))] := va_Dadr hD rfl
            refine W.widen (k := 0) (n := 0) (Nat.le_refl _) (Nat.le_refl _) ?_
            exact W.iret (v := (iI (prs S v8))) hx hb hr (fun t ht hW => ⟨⟨_, (RE1_10, SE1_11, PL1_12, m1_13, c1_14, b1_15), rfl, by show iI (prs S v8) = iI (cntV S kept what); rw [e_v8]; exact congrArg iI ((zi_f (by assumption)).trans ((zi_f (fun z => z.elim (by assumption) (by assumption))).trans (zi_f (by assumption)))).symm, by rw [← ht] at hP; exact hP⟩, hS.F ht⟩) hS.2.2 dX3_counted_100 hlk
          refine g_icmp_ne (tgt := 94) hx hb dX3_counted_87 (by decide) ⟨r_what, ⟨by decide, by decide⟩⟩ (fun c16 => ?_) (fun c16 => ?_)
          · refine lv_iload_n hx hb dX3_counted_94 rfl (lv_at hl 1 rfl) ?_
            refine lv_iconst (v := iI 3) hx hb dX3_counted_95 rfl ?_
            refine g_isub hx hb dX3_counted_96 ?_
            refine g_eq (b := zi (what = 7) 2 (what - 3)) ((zi_f c16)).symm ?_
            exact hJ7 ls (lv_sub hl [0, 1] rfl)
          · refine lv_iconst (v := iI 2) hx hb dX3_counted_90 rfl ?_
            refine lv_goto (tgt := 97) hx hb dX3_counted_91 (by decide) ?_
            refine g_eq (b := zi (what = 7) 2 (what - 3)) ((zi_t c16)).symm ?_
            exact hJ7 ls (lv_sub hl [0, 1] rfl)
        · refine lv_aload_n hx hb dX3_counted_72 rfl (lv_at hl 0 rfl) ?_
          refine va_get (D := G) (ci := 2) (v := .int (iI kept)) (C := RX3) (T := TX3) (N := 20) hx hb hts in_X3 hown hK hP 0 rfl rfl 3 (by decide) (hts _ q1441) (fun _ h9 => h9) rfl dX3_counted_73 ?_
          refine lv_goto (tgt := 100) hx hb dX3_counted_76 (by decide) ?_
          exact W.iret (v := (iI kept)) hx hb hr (fun t ht hW => ⟨⟨_, (RE, SE, PL, many, cost, br), rfl, congrArg iI ((zi_f (by assumption)).trans ((zi_f (fun z => z.elim (by assumption) (by assumption))).trans (zi_t (by assumption)))).symm, by rw [← ht] at hP; exact hP⟩, hS.F ht⟩) hS.2.2 dX3_counted_100 hlk
      · refine lv_aload_n hx hb dX3_counted_46 rfl (lv_at hl 0 rfl) ?_
        refine lv_aload_n hx hb dX3_counted_47 rfl (lv_at hl 0 rfl) ?_
        refine va_get (D := G) (ci := 2) (v := .ref hnow) (C := RX3) (T := TX3) (N := 20) hx hb hts in_X3 hown hK hP 0 rfl rfl 0 (by decide) (hts _ q1438) (fun _ h9 => h9) rfl dX3_counted_48 ?_
        refine lv_iload_n hx hb dX3_counted_51 rfl (lv_at hl 1 rfl) ?_
        refine lv_bipush (v := iI 6) hx hb dX3_counted_52 rfl ?_
        have hJ17 : ∀ ls : Array Slot, lv_has ls 2 [(0, .ref hM), (1, .int (iI what))] → W p l e ({ frames := 8, cells := 0, slots := 0, locals := 192 }) s m ([.ref hM, .int (iI what)] : List Value).toArray below meth c s.heap [] 0 0 (MQ below (va_Qi (fun (r : Int32) (u : (Int → Int) × (Int → Prop) × (Int → Int) × Int × Int × Int) => r = (iI (cntV S kept what))) (fun (u : (Int → Int) × (Int → Prop) × (Int → Int) × Int × Int × Int) t => va_P G CL [(hM, .inr (2, (mO hnow hthen hpast kept htx ty th at_ fa htold tolds hac hal hre hse hpl u.2.2.2.1 u.2.2.2.2.1 u.2.2.2.2.2 hsy))), (hnow, .inl (g 0, 253, .inl (aI S))), (hac, .inl (g 0, 4, .inl (aI dx))), (hal, .inl (g 0, 4, .inl (aI dy))), (hre, .inl (g 0, 192, .inl (aI u.1))), (hse, .inl (g 1, 192, .inl (aP u.2.1))), (hpl, .inl (g 0, 192, .inl (aI u.2.2.1)))] t.heap) A) ([.ref hM, .int (iI what)] : List Value).toArray s 0 0 A) (F0 m 62 ls [.int (iI (qz (what = 6))), .ref hnow, .ref hM]) := by
          intro ls hl
          refine g_callV (As := [.ref hnow, .int (iI (qz (what = 6)))]) (rest := []) (m_X3_allDoors l G g hM hnow (what = 6) (mO hnow hthen hpast kept htx ty th at_ fa htold tolds hac hal hre hse hpl many cost br hsy) hac hal S rfl rfl kS kT) hx hb hml hown hts Stab.tt hK hP hS hEs [0, 1, 2, 3] rfl (q0 := 0) rfl rfl q1736 q1738 qs86 q102 q1739 hd_X3_allDoors rfl rfl ⟨Nat.le_of_ble_eq_true rfl, Nat.le_of_ble_eq_true rfl⟩ rfl hl rfl (Nat.le_of_ble_eq_true rfl) ⟨Nat.le_refl _, Nat.le_refl _⟩ dX3_counted_62 ?_
          exact W.iret (v := (iI (ads S (what = 6)))) hx hb hr (fun t ht hW => ⟨⟨_, (RE, SE, PL, many, cost, br), rfl, congrArg iI ((zi_f (by assumption)).trans (zi_t (Or.inr (by assumption)))).symm, by rw [← ht] at hP; exact hP⟩, hS.F ht⟩) hS.2.2 dX3_counted_65 hlk
        refine g_icmp_ne (tgt := 61) hx hb dX3_counted_54 (by decide) ⟨r_what, ⟨by decide, by decide⟩⟩ (fun c18 => ?_) (fun c18 => ?_)
        · refine lv_iconst (v := iI 0) hx hb dX3_counted_61 rfl ?_
          refine g_eq (b := qz (what = 6)) (qz_f (fun xx => (c18 xx))).symm ?_
          exact hJ17 ls (lv_sub hl [0, 1] rfl)
        · refine lv_iconst (v := iI 1) hx hb dX3_counted_57 rfl ?_
          refine lv_goto (tgt := 62) hx hb dX3_counted_58 (by decide) ?_
          refine g_eq (b := qz (what = 6)) (qz_t c18).symm ?_
          exact hJ17 ls (lv_sub hl [0, 1] rfl)
  · refine lv_iload_n hx hb dX3_counted_5 rfl (lv_at hl 1 rfl) ?_
    have hJ19 : ∀ ls : Array Slot, lv_has ls 2 [(0, .ref hM), (1, .int (iI what))] → W p l e ({ frames := 8, cells := 0, slots := 0, locals := 192 }) s m ([.ref hM, .int (iI what)] : List Value).toArray below meth c s.heap [] 0 0 (MQ below (va_Qi (fun (r : Int32) (u : (Int → Int) × (Int → Prop) × (Int → Int) × Int × Int × Int) => r = (iI (cntV S kept what))) (fun (u : (Int → Int) × (Int → Prop) × (Int → Int) × Int × Int × Int) t => va_P G CL [(hM, .inr (2, (mO hnow hthen hpast kept htx ty th at_ fa htold tolds hac hal hre hse hpl u.2.2.2.1 u.2.2.2.2.1 u.2.2.2.2.2 hsy))), (hnow, .inl (g 0, 253, .inl (aI S))), (hac, .inl (g 0, 4, .inl (aI dx))), (hal, .inl (g 0, 4, .inl (aI dy))), (hre, .inl (g 0, 192, .inl (aI u.1))), (hse, .inl (g 1, 192, .inl (aP u.2.1))), (hpl, .inl (g 0, 192, .inl (aI u.2.2.1)))] t.heap) A) ([.ref hM, .int (iI what)] : List Value).toArray s 0 0 A) (F0 m 34 ls [.int (iI (zi (what = 0) (rmC S) (sqC S (zi (what = 1) (-1) (-2)))))]) := by
      intro ls hl
      exact W.iret (v := (iI (zi (what = 0) (rmC S) (sqC S (zi (what = 1) (-1) (-2)))))) hx hb hr (fun t ht hW => ⟨⟨_, (RE, SE, PL, many, cost, br), rfl, congrArg iI (zi_t (by assumption)).symm, by rw [← ht] at hP; exact hP⟩, hS.F ht⟩) hS.2.2 dX3_counted_34 hlk
    refine g_if_ne (tgt := 16) hx hb dX3_counted_6 (by decide) r_what (fun c20 => ?_) (fun c20 => ?_)
    · refine lv_aload_n hx hb dX3_counted_16 rfl (lv_at hl 0 rfl) ?_
      refine va_get (D := G) (ci := 2) (v := .ref hnow) (C := RX3) (T := TX3) (N := 20) hx hb hts in_X3 hown hK hP 0 rfl rfl 0 (by decide) (hts _ q1438) (fun _ h9 => h9) rfl dX3_counted_17 ?_
      refine lv_iload_n hx hb dX3_counted_20 rfl (lv_at hl 1 rfl) ?_
      refine lv_iconst (v := iI 1) hx hb dX3_counted_21 rfl ?_
      have hJ21 : ∀ ls : Array Slot, lv_has ls 2 [(0, .ref hM), (1, .int (iI what))] → W p l e ({ frames := 8, cells := 0, slots := 0, locals := 192 }) s m ([.ref hM, .int (iI what)] : List Value).toArray below meth c s.heap [] 0 0 (MQ below (va_Qi (fun (r : Int32) (u : (Int → Int) × (Int → Prop) × (Int → Int) × Int × Int × Int) => r = (iI (cntV S kept what))) (fun (u : (Int → Int) × (Int → Prop) × (Int → Int) × Int × Int × Int) t => va_P G CL [(hM, .inr (2, (mO hnow hthen hpast kept htx ty th at_ fa htold tolds hac hal hre hse hpl u.2.2.2.1 u.2.2.2.2.1 u.2.2.2.2.2 hsy))), (hnow, .inl (g 0, 253, .inl (aI S))), (hac, .inl (g 0, 4, .inl (aI dx))), (hal, .inl (g 0, 4, .inl (aI dy))), (hre, .inl (g 0, 192, .inl (aI u.1))), (hse, .inl (g 1, 192, .inl (aP u.2.1))), (hpl, .inl (g 0, 192, .inl (aI u.2.2.1)))] t.heap) A) ([.ref hM, .int (iI what)] : List Value).toArray s 0 0 A) (F0 m 31 ls [.int (iI (zi (what = 1) (-1) (-2))), .ref hnow]) := by
        intro ls hl
        refine g_callS (As := [.ref hnow, .int (iI (zi (what = 1) (-1) (-2)))]) (rest := []) (m_X3_squares l G g hnow (zi (what = 1) (-1) (-2)) S (⟨by omega, by omega⟩) kS) hx hb hml hown hts Stab.tt hK hP hS hEs [1] rfl q1733 q1734 q102 q1735 hd_X3_squares rfl rfl ⟨Nat.le_of_ble_eq_true rfl, Nat.le_of_ble_eq_true rfl⟩ rfl hl rfl (Nat.le_of_ble_eq_true rfl) ⟨Nat.le_refl _, Nat.le_refl _⟩ dX3_counted_31 ?_
        refine g_eq (b := zi (what = 0) (rmC S) (sqC S (zi (what = 1) (-1) (-2)))) ((zi_f c20)).symm ?_
        exact hJ19 ls (lv_sub hl [0, 1] rfl)
      refine g_icmp_ne (tgt := 29) hx hb dX3_counted_22 (by decide) ⟨r_what, ⟨by decide, by decide⟩⟩ (fun c22 => ?_) (fun c22 => ?_)
      · refine lv_bipush (v := iI (-2)) hx hb dX3_counted_29 rfl ?_
        refine g_eq (b := zi (what = 1) (-1) (-2)) ((zi_f c22)).symm ?_
        exact hJ21 ls (lv_sub hl [0, 1] rfl)
      · refine lv_iconst (v := iI (-1)) hx hb dX3_counted_25 rfl ?_
        refine lv_goto (tgt := 31) hx hb dX3_counted_26 (by decide) ?_
        refine g_eq (b := zi (what = 1) (-1) (-2)) ((zi_t c22)).symm ?_
        exact hJ21 ls (lv_sub hl [0, 1] rfl)
    · refine lv_aload_n hx hb dX3_counted_9 rfl (lv_at hl 0 rfl) ?_
      refine g_callV (As := []) (rest := []) (m_X3_rooms l G g hM (mO hnow hthen hpast kept htx ty th at_ fa htold tolds hac hal hre hse hpl many cost br hsy) hnow S rfl kS) hx hb hml hown hts Stab.tt hK hP hS hEs [0, 1] rfl (q0 := 0) rfl rfl q1729 q1731 qs85 q102 q1732 hd_X3_rooms rfl rfl ⟨Nat.le_of_ble_eq_true rfl, Nat.le_of_ble_eq_true rfl⟩ rfl hl rfl (Nat.le_of_ble_eq_true rfl) ⟨Nat.le_refl _, Nat.le_refl _⟩ dX3_counted_10 ?_
      refine lv_goto (tgt := 34) hx hb dX3_counted_13 (by decide) ?_
      refine g_eq (b := zi (what = 0) (rmC S) (sqC S (zi (what = 1) (-1) (-2)))) ((zi_t c20)).symm ?_
      exact hJ19 ls (lv_sub hl [0, 1] rfl)
