/-! saved states -/
theorem cpZ_in {F T : Int → Int} {fa ta n j : Int} (h : ta ≤ j ∧ j < ta + n) : cpZ F T fa ta n j = F (j - ta + fa) := if_pos h
theorem cpZ_out {F T : Int → Int} {fa ta n j : Int} (h : ¬ (ta ≤ j ∧ j < ta + n)) : cpZ F T fa ta n j = T j := if_neg h
theorem cpZ_id {F T : Int → Int} {n : Int} (k : Int) (a : 0 ≤ k) (c : k < n) : cpZ F T 0 0 n k = F k := by
  rw [cpZ_in (by omega), show k - 0 + 0 = k from by omega]
def shf (P : Int → Int) (k : Int) : Int → Int := fun j => if 0 ≤ j ∧ j < k then P (j + 253) else P j
theorem shf_0 {P : Int → Int} : shf P 0 = P := by
  funext j
  unfold shf
  rw [if_neg (by omega)]
theorem shf_s {P : Int → Int} {k : Int} (hk : 0 ≤ k) : uZ (shf P k) k (shf P k (k + 253)) = shf P (k + 1) := by
  funext j
  by_cases e : j = k
  · subst e
    rw [uZ_s]
    unfold shf
    rw [if_neg (show ¬ (0 ≤ j + 253 ∧ j + 253 < j) from by omega), if_pos (show 0 ≤ j ∧ j < j + 1 from by omega)]
  · rw [uZ_n e]
    unfold shf
    by_cases e2 : 0 ≤ j ∧ j < k
    · rw [if_pos e2, if_pos (show 0 ≤ j ∧ j < k + 1 from by omega)]
    · rw [if_neg e2, if_neg (show ¬ (0 ≤ j ∧ j < k + 1) from by omega)]
noncomputable def svP (S P : Int → Int) (kept : Int) : Int → Int := zf (kept = 6) (cpZ S (shf P 1265) 0 (253 * (kept - 1)) 253) (cpZ S P 0 (253 * kept) 253)
noncomputable def svK (kept : Int) : Int := zi (kept = 6) 6 (kept + 1)
def wkS (S : Int → Int) (a o w : Int) : Int → Int := uZ (uZ S (216 + 6 * a + o) w) (216 + 6 * o + a) w

theorem hd_X3_fails : yX3_fails.cls = RX3 ∧ yX3_fails.cls ≠ "java/lang/invoke/MethodHandle" ∧ yX3_fails.cls ≠ "java/lang/invoke/VarHandle" ∧ (parseMethodDescriptor yX3_fails.desc).map (fun d => d.parameters.length) = some 1 := by decide +kernel
set_option maxHeartbeats 1000000 in
set_option maxRecDepth 100000 in
theorem m_X3_fails (l : Launch) (G : va_G) (g : Nat → ClassId) (sz : Nat) (hM : Nat) (sort : Int) (hnow : Nat) (hthen : Nat) (hpast : Nat) (kept : Int) (htx : Nat) (ty : Int) (th : Int) (at_ : Int) (fa : Prop) (htold : Nat) (tolds : Int) (hac : Nat) (hal : Nat) (hre : Nat) (hse : Nat) (hpl : Nat) (many : Int) (cost : Int) (br : Int) (hsy : Nat) (r_sort : r32 sort) : Met l yX3_fails (ws_ yX3_fails cX3_fails 2 (Option.some Jvm.ClassFile.FieldType.int)) ({ frames := 0, cells := 0, slots := 0, locals := 0 }) (va_Pc [.ref hM, .int (iI sort)] (wrB G CL (TY g) (fun _ => True) [(hM, .inr (2, (mO hnow hthen hpast kept htx ty th at_ fa htold tolds hac hal hre hse hpl many cost br hsy)))] sz)) (va_Qi (fun (r : Int32) (u : Unit) => r = (iI 0)) (fun (u : Unit) t => va_P G CL [(hM, .inr (2, (mO hnow hthen hpast kept htx ty sort at_ fa htold tolds hac hal hre hse hpl many cost br hsy)))] t.heap) (va_A [(hM, .inr (2, (mO hnow hthen hpast kept htx ty th at_ fa htold tolds hac hal hre hse hpl many cost br hsy)))] sz)) 0 0 (va_A [(hM, .inr (2, (mO hnow hthen hpast kept htx ty th at_ fa htold tolds hac hal hre hse hpl many cost br hsy)))] sz) := by
  refine Met.at (by decide) (Nat.le_of_ble_eq_true rfl) ?_
  intro p e s m below meth c hx hb hr hlk hml hown hnm hts hB ls hl
  have hown : s.vm.findClass RX3 = some m.cls := hown
  obtain ⟨hsz, hP, hK, hD0, hEs⟩ := hB
  subst hsz
  have hD := hD0.self (sz := s.heap.size)
  generalize hAe : va_A [(hM, .inr (2, (mO hnow hthen hpast kept htx ty th at_ fa htold tolds hac hal hre hse hpl many cost br hsy)))] s.heap.size = A at hD ⊢
  have hA : ∀ q : Nat, s.heap.size ≤ q → A q := fun q h => by rw [← hAe]; exact Or.inr h
  have hS : va_S A s.heap s.heap [] := va_S.rf
  have hl : lv_has ls 2 [(0, .ref hM), (1, .int (iI sort))] := hl
  refine lv_aload_n hx hb dX3_fails_0 rfl (lv_at hl 0 rfl) ?_
  refine lv_iload_n hx hb dX3_fails_1 rfl (lv_at hl 1 rfl) ?_
  refine g_put (D := G) (ci := 2) (v := .int (iI sort)) (ty := .int) (C := RX3) (T := TX3) (N := 20) (ws1 := [(hM, .inr (2, (mO hnow hthen hpast kept htx ty sort at_ fa htold tolds hac hal hre hse hpl many cost br hsy)))]) hx hb hts in_X3 tyX3 tyX3_ok nmX3 hown hK hP hD hS 0 rfl rfl 6 (by decide) (hts _ q1444) (fun _ h9 => h9) rfl (by decide +kernel) (rfl) (rfl) (Nat.le_of_ble_eq_true rfl) dX3_fails_2 rfl (fun H locs hP hS => ?_)
  have hD : va_D A [(hM, .inr (2, (mO hnow hthen hpast kept htx ty sort at_ fa htold tolds hac hal hre hse hpl many cost br hsy)))] := va_Dadr hD rfl
  refine lv_iconst (v := iI 0) hx hb dX3_fails_5 rfl ?_
  exact W.iret (v := (iI 0)) hx hb hr (fun t ht hW => ⟨⟨_, (), rfl, rfl, by rw [← ht] at hP; exact hP⟩, hS.F ht⟩) hS.2.2 dX3_fails_6 hlk
theorem hd_X3_copies : yX3_copies.cls ≠ "java/lang/invoke/MethodHandle" ∧ yX3_copies.cls ≠ "java/lang/invoke/VarHandle" ∧ (parseMethodDescriptor yX3_copies.desc).map (fun d => d.parameters.length) = some 4 := by decide +kernel
set_option maxHeartbeats 1000000 in
set_option maxRecDepth 100000 in
theorem m_X3_copies (l : Launch) (G : va_G) (g : Nat → ClassId) (sz : Nat) (hf_ : Nat) (fa_ : Int) (ht_ : Nat) (ta_ : Int) (n1_ : Nat) (F_ : Int → Int) (n2_ : Nat) (T_ : Int → Int) (r_fa_ : r32 fa_) (r_ta_ : r32 ta_) (hf1 : 0 ≤ fa_ ∧ fa_ + 253 ≤ n1_) (ht1 : 0 ≤ ta_ ∧ ta_ + 253 ≤ n2_) (hn1 : n1_ ≤ 2000) (hn2 : n2_ ≤ 2000) : Met l yX3_copies (ws_ yX3_copies cX3_copies 5 (Option.none : Option Jvm.ClassFile.FieldType)) ({ frames := 0, cells := 0, slots := 0, locals := 0 }) (va_Pc [.ref hf_, .int (iI fa_), .ref ht_, .int (iI ta_)] (wrB G CL (TY g) (fun _ => True) [(hf_, .inl (g 0, n1_, .inl (aI F_))), (ht_, .inl (g 0, n2_, .inl (aI T_)))] sz)) (va_Qv (fun (u : Unit) => True) (fun (u : Unit) t => va_P G CL [(hf_, .inl (g 0, n1_, .inl (aI F_))), (ht_, .inl (g 0, n2_, .inl (aI (cpZ F_ T_ fa_ ta_ 253))))] t.heap) (va_A [(hf_, .inl (g 0, n1_, .inl (aI F_))), (ht_, .inl (g 0, n2_, .inl (aI T_)))] sz)) 0 0 (va_A [(hf_, .inl (g 0, n1_, .inl (aI F_))), (ht_, .inl (g 0, n2_, .inl (aI T_)))] sz) := by
  refine Met.at (by decide) (Nat.le_of_ble_eq_true rfl) ?_
  intro p e s m below meth c hx hb hr hlk hml hown hnm hts hB ls hl
  have hown : s.vm.findClass RX3 = some m.cls := hown
  obtain ⟨hsz, hP, hK, hD0, hEs⟩ := hB
  subst hsz
  have hD := hD0.self (sz := s.heap.size)
  generalize hAe : va_A [(hf_, .inl (g 0, n1_, .inl (aI F_))), (ht_, .inl (g 0, n2_, .inl (aI T_)))] s.heap.size = A at hD ⊢
  have hA : ∀ q : Nat, s.heap.size ≤ q → A q := fun q h => by rw [← hAe]; exact Or.inr h
  have hS : va_S A s.heap s.heap [] := va_S.rf
  have hl : lv_has ls 5 [(0, .ref hf_), (1, .int (iI fa_)), (2, .ref ht_), (3, .int (iI ta_))] := hl
  refine lv_iconst (v := iI 0) hx hb dX3_copies_0 rfl ?_
  refine lv_istore (lv' := [(4, .int (iI 0)), (0, .ref hf_), (1, .int (iI fa_)), (2, .ref ht_), (3, .int (iI ta_))]) hx hb dX3_copies_1 hl (by decide) rfl (fun ls hl => ?_)
  have lp3 : ∀ (n : Nat) (k : Nat), ((k : Int) ≤ 253) → 253 - k = n → ∀ (H : Heap) (locs : List Loc), va_P G CL [(hf_, .inl (g 0, n1_, .inl (aI F_))), (ht_, .inl (g 0, n2_, .inl (aI (cpZ F_ T_ fa_ ta_ (k : Int)))))] H → va_D A [(hf_, .inl (g 0, n1_, .inl (aI F_))), (ht_, .inl (g 0, n2_, .inl (aI (cpZ F_ T_ fa_ ta_ (k : Int)))))] → va_S A s.heap H locs → ∀ ls : Array Slot, lv_has ls 5 [(0, .ref hf_), (1, .int (iI fa_)), (2, .ref ht_), (3, .int (iI ta_)), (4, .int (iI (k : Int)))] → W p l e ({ frames := 0, cells := 0, slots := 0, locals := 0 }) s m ([.ref hf_, .int (iI fa_), .ref ht_, .int (iI ta_)] : List Value).toArray below meth c H locs 0 0 (MQ below (va_Qv (fun (u : Unit) => True) (fun (u : Unit) t => va_P G CL [(hf_, .inl (g 0, n1_, .inl (aI F_))), (ht_, .inl (g 0, n2_, .inl (aI (cpZ F_ T_ fa_ ta_ 253))))] t.heap) A) ([.ref hf_, .int (iI fa_), .ref ht_, .int (iI ta_)] : List Value).toArray s 0 0 A) (F0 m 3 ls []) := by
    intro n
    refine Nat.strongRecOn n ?_
    intro n ih3 k hk hmu3 H locs hP hD hS ls hl
    refine lv_iload hx hb dX3_copies_3 (lv_at hl 4 rfl) ?_
    refine lv_sipush (v := iI 253) hx hb dX3_copies_5 rfl ?_
    refine g_icmp_ge (tgt := 29) hx hb dX3_copies_8 (by decide) ⟨⟨by omega, by omega⟩, ⟨by decide, by decide⟩⟩ (fun c1 => ?_) (fun c1 => ?_)
    · obtain rfl : k = 253 := by omega
      exact W.vret hx hb hr (fun t ht hW => ⟨⟨(), rfl, trivial, by rw [← ht] at hP; exact hP⟩, hS.F ht⟩) hS.2.2 dX3_copies_29 hlk
    · refine lv_aload_n hx hb dX3_copies_11 rfl (lv_at hl 2 rfl) ?_
      refine lv_iload_n hx hb dX3_copies_12 rfl (lv_at hl 3 rfl) ?_
      refine lv_iload hx hb dX3_copies_13 (lv_at hl 4 rfl) ?_
      refine g_iadd hx hb dX3_copies_15 ?_
      refine lv_aload_n hx hb dX3_copies_16 rfl (lv_at hl 0 rfl) ?_
      refine lv_iload_n hx hb dX3_copies_17 rfl (lv_at hl 1 rfl) ?_
      refine lv_iload hx hb dX3_copies_18 (lv_at hl 4 rfl) ?_
      refine g_iadd hx hb dX3_copies_20 ?_
      refine g_iald hx hb hK hP 0 0 rfl rfl (i := fa_ + (k : Int)) (⟨by omega, by omega⟩) (by omega) dX3_copies_21 ?_
      refine g_iast (ws1 := [(hf_, .inl (g 0, n1_, .inl (aI F_))), (ht_, .inl (g 0, n2_, .inl (aI (uZ (cpZ F_ T_ fa_ ta_ (k : Int)) (ta_ + (k : Int)) (F_ (fa_ + (k : Int)))))))]) hx hb hK hP hD hS 1 0 rfl rfl (i := ta_ + (k : Int)) (⟨by omega, by omega⟩) (by omega) dX3_copies_22 rfl (fun H locs hP hS => ?_)
      have hD : va_D A [(hf_, .inl (g 0, n1_, .inl (aI F_))), (ht_, .inl (g 0, n2_, .inl (aI (uZ (cpZ F_ T_ fa_ ta_ (k : Int)) (ta_ + (k : Int)) (F_ (fa_ + (k : Int)))))))] := va_Dadr hD rfl
      refine g_iinc (lv' := [(4, .int (iI ((k : Int) + 1))), (0, .ref hf_), (1, .int (iI fa_)), (2, .ref ht_), (3, .int (iI ta_))]) hx hb dX3_copies_23 hl (k := 4) rfl (by decide) rfl (fun ls hl => ?_)
      refine lv_goto (tgt := 3) hx hb dX3_copies_26 (by decide) ?_
      exact ih3 _ (by omega) (k + 1) (by omega) rfl _ _ (by rw [cpZ_s (F := F_) (T := T_) (fa := fa_) (ta := ta_) (k := (k : Int)) (by omega)] at hP; exact hP) (va_Dadr hD rfl) hS ls (lv_sub hl [1, 2, 3, 4, 0] rfl)
  exact lp3 _ 0 (by omega) rfl s.heap [] (by rw [show cpZ F_ T_ fa_ ta_ ((0 : Nat) : Int) = T_ from cpZ_0]; exact hP) (va_Dadr hD rfl) hS ls (lv_sub hl [1, 2, 3, 4, 0] rfl)
theorem hd_X3_tries : yX3_tries.cls = RX3 ∧ yX3_tries.cls ≠ "java/lang/invoke/MethodHandle" ∧ yX3_tries.cls ≠ "java/lang/invoke/VarHandle" ∧ (parseMethodDescriptor yX3_tries.desc).map (fun d => d.parameters.length) = some 0 := by decide +kernel
set_option maxHeartbeats 1000000 in
set_option maxRecDepth 100000 in
theorem m_X3_tries (l : Launch) (G : va_G) (g : Nat → ClassId) (sz : Nat) (hM : Nat) (hnow : Nat) (hthen : Nat) (hpast : Nat) (kept : Int) (htx : Nat) (ty : Int) (th : Int) (at_ : Int) (fa : Prop) (htold : Nat) (tolds : Int) (hac : Nat) (hal : Nat) (hre : Nat) (hse : Nat) (hpl : Nat) (many : Int) (cost : Int) (br : Int) (hsy : Nat) (S : Int → Int) (S2 : Int → Int)  : Met l yX3_tries (ws_ yX3_tries cX3_tries 1 (Option.none : Option Jvm.ClassFile.FieldType)) ({ frames := 1, cells := 0, slots := 0, locals := 24 }) (va_Pc [.ref hM] (wrB G CL (TY g) (fun _ => True) [(hM, .inr (2, (mO hnow hthen hpast kept htx ty th at_ fa htold tolds hac hal hre hse hpl many cost br hsy))), (hnow, .inl (g 0, 253, .inl (aI S))), (hthen, .inl (g 0, 253, .inl (aI S2)))] sz)) (va_Qv (fun (u : Unit) => True) (fun (u : Unit) t => va_P G CL [(hM, .inr (2, (mO hnow hthen hpast kept htx ty th at_ fa htold tolds hac hal hre hse hpl many cost br hsy))), (hnow, .inl (g 0, 253, .inl (aI S))), (hthen, .inl (g 0, 253, .inl (aI S)))] t.heap) (va_A [(hM, .inr (2, (mO hnow hthen hpast kept htx ty th at_ fa htold tolds hac hal hre hse hpl many cost br hsy))), (hnow, .inl (g 0, 253, .inl (aI S))), (hthen, .inl (g 0, 253, .inl (aI S2)))] sz)) 0 0 (va_A [(hM, .inr (2, (mO hnow hthen hpast kept htx ty th at_ fa htold tolds hac hal hre hse hpl many cost br hsy))), (hnow, .inl (g 0, 253, .inl (aI S))), (hthen, .inl (g 0, 253, .inl (aI S2)))] sz) := by
  refine Met.at (by decide) (Nat.le_of_ble_eq_true rfl) ?_
  intro p e s m below meth c hx hb hr hlk hml hown hnm hts hB ls hl
  have hown : s.vm.findClass RX3 = some m.cls := hown
  obtain ⟨hsz, hP, hK, hD0, hEs⟩ := hB
  subst hsz
  have hD := hD0.self (sz := s.heap.size)
  generalize hAe : va_A [(hM, .inr (2, (mO hnow hthen hpast kept htx ty th at_ fa htold tolds hac hal hre hse hpl many cost br hsy))), (hnow, .inl (g 0, 253, .inl (aI S))), (hthen, .inl (g 0, 253, .inl (aI S2)))] s.heap.size = A at hD ⊢
  have hA : ∀ q : Nat, s.heap.size ≤ q → A q := fun q h => by rw [← hAe]; exact Or.inr h
  have hS : va_S A s.heap s.heap [] := va_S.rf
  have hl : lv_has ls 1 [(0, .ref hM)] := hl
  refine lv_aload_n hx hb dX3_tries_0 rfl (lv_at hl 0 rfl) ?_
  refine va_get (D := G) (ci := 2) (v := .ref hnow) (C := RX3) (T := TX3) (N := 20) hx hb hts in_X3 hown hK hP 0 rfl rfl 0 (by decide) (hts _ q1438) (fun _ h9 => h9) rfl dX3_tries_1 ?_
  refine lv_iconst (v := iI 0) hx hb dX3_tries_4 rfl ?_
  refine lv_aload_n hx hb dX3_tries_5 rfl (lv_at hl 0 rfl) ?_
  refine va_get (D := G) (ci := 2) (v := .ref hthen) (C := RX3) (T := TX3) (N := 20) hx hb hts in_X3 hown hK hP 0 rfl rfl 1 (by decide) (hts _ q1439) (fun _ h9 => h9) rfl dX3_tries_6 ?_
  refine lv_iconst (v := iI 0) hx hb dX3_tries_9 rfl ?_
  refine g_callSwv (As := [.ref hnow, .int (iI 0), .ref hthen, .int (iI 0)]) (rest := []) (m_X3_copies l G g s.heap.size hnow 0 hthen 0 253 S 253 S2 ⟨by decide, by decide⟩ ⟨by decide, by decide⟩ (by omega) (by omega) (by omega) (by omega)) hx hb hml hown hts Stab.tt hA hK hP hD hS hEs [1, 2] rfl rfl (fun _ => rfl) q1511 q1512 q102 q1513 hd_X3_copies rfl rfl ⟨Nat.le_of_ble_eq_true rfl, Nat.le_of_ble_eq_true rfl⟩ rfl hl rfl (Nat.le_of_ble_eq_true rfl) ⟨Nat.le_refl _, Nat.le_refl _⟩ dX3_tries_10 (fun u H locs hp hP hS => ?_)
  have hP : va_P G CL [(hM, .inr (2, (mO hnow hthen hpast kept htx ty th at_ fa htold tolds hac hal hre hse hpl many cost br hsy))), (hnow, .inl (g 0, 253, .inl (aI S))), (hthen, .inl (g 0, 253, .inl (aI (cpZ S S2 0 0 253))))] H := hP
  have hD : va_D A [(hM, .inr (2, (mO hnow hthen hpast kept htx ty th at_ fa htold tolds hac hal hre hse hpl many cost br hsy))), (hnow, .inl (g 0, 253, .inl (aI S))), (hthen, .inl (g 0, 253, .inl (aI (cpZ S S2 0 0 253))))] := va_Dadr hD rfl
  refine W.widen (k := 0) (n := 0) (Nat.le_refl _) (Nat.le_refl _) ?_
  exact W.vret hx hb hr (fun t ht hW => ⟨⟨(), rfl, trivial, by rw [← ht] at hP; exact (g_re hP 2 rfl (fun k a c => cpZ_id k a c) rfl)⟩, hS.F ht⟩) hS.2.2 dX3_tries_13 hlk
theorem hd_X3_saves : yX3_saves.cls = RX3 ∧ yX3_saves.cls ≠ "java/lang/invoke/MethodHandle" ∧ yX3_saves.cls ≠ "java/lang/invoke/VarHandle" ∧ (parseMethodDescriptor yX3_saves.desc).map (fun d => d.parameters.length) = some 0 := by decide +kernel
set_option maxHeartbeats 1000000 in
set_option maxRecDepth 100000 in
theorem m_X3_saves (l : Launch) (G : va_G) (g : Nat → ClassId) (sz : Nat) (hM : Nat) (hnow : Nat) (hthen : Nat) (hpast : Nat) (kept : Int) (htx : Nat) (ty : Int) (th : Int) (at_ : Int) (fa : Prop) (htold : Nat) (tolds : Int) (hac : Nat) (hal : Nat) (hre : Nat) (hse : Nat) (hpl : Nat) (many : Int) (cost : Int) (br : Int) (hsy : Nat) (S : Int → Int) (PA : Int → Int) (hkp : 0 ≤ kept ∧ kept ≤ 6) : Met l yX3_saves (ws_ yX3_saves cX3_saves 2 (Option.none : Option Jvm.ClassFile.FieldType)) ({ frames := 1, cells := 0, slots := 0, locals := 24 }) (va_Pc [.ref hM] (wrB G CL (TY g) (fun _ => True) [(hM, .inr (2, (mO hnow hthen hpast kept htx ty th at_ fa htold tolds hac hal hre hse hpl many cost br hsy))), (hnow, .inl (g 0, 253, .inl (aI S))), (hpast, .inl (g 0, 1518, .inl (aI PA)))] sz)) (va_Qv (fun (u : Unit) => True) (fun (u : Unit) t => va_P G CL [(hM, .inr (2, (mO hnow hthen hpast (svK kept) htx ty th at_ fa htold tolds hac hal hre hse hpl many cost br hsy))), (hnow, .inl (g 0, 253, .inl (aI S))), (hpast, .inl (g 0, 1518, .inl (aI (svP S PA kept))))] t.heap) (va_A [(hM, .inr (2, (mO hnow hthen hpast kept htx ty th at_ fa htold tolds hac hal hre hse hpl many cost br hsy))), (hnow, .inl (g 0, 253, .inl (aI S))), (hpast, .inl (g 0, 1518, .inl (aI PA)))] sz)) 0 0 (va_A [(hM, .inr (2, (mO hnow hthen hpast kept htx ty th at_ fa htold tolds hac hal hre hse hpl many cost br hsy))), (hnow, .inl (g 0, 253, .inl (aI S))), (hpast, .inl (g 0, 1518, .inl (aI PA)))] sz) := by
  refine Met.at (by decide) (Nat.le_of_ble_eq_true rfl) ?_
  intro p e s m below meth c hx hb hr hlk hml hown hnm hts hB ls hl
  have hown : s.vm.findClass RX3 = some m.cls := hown
  obtain ⟨hsz, hP, hK, hD0, hEs⟩ := hB
  subst hsz
  have hD := hD0.self (sz := s.heap.size)
  generalize hAe : va_A [(hM, .inr (2, (mO hnow hthen hpast kept htx ty th at_ fa htold tolds hac hal hre hse hpl many cost br hsy))), (hnow, .inl (g 0, 253, .inl (aI S))), (hpast, .inl (g 0, 1518, .inl (aI PA)))] s.heap.size = A at hD ⊢
  have hA : ∀ q : Nat, s.heap.size ≤ q → A q := fun q h => by rw [← hAe]; exact Or.inr h
  have hS : va_S A s.heap s.heap [] := va_S.rf
  have hl : lv_has ls 2 [(0, .ref hM)] := hl
  refine lv_aload_n hx hb dX3_saves_0 rfl (lv_at hl 0 rfl) ?_
  refine va_get (D := G) (ci := 2) (v := .int (iI kept)) (C := RX3) (T := TX3) (N := 20) hx hb hts in_X3 hown hK hP 0 rfl rfl 3 (by decide) (hts _ q1441) (fun _ h9 => h9) rfl dX3_saves_1 ?_
  refine lv_bipush (v := iI 6) hx hb dX3_saves_4 rfl ?_
  refine g_icmp_ne (tgt := 50) hx hb dX3_saves_6 (by decide) ⟨⟨by omega, by omega⟩, ⟨by decide, by decide⟩⟩ (fun c1 => ?_) (fun c1 => ?_)
  · refine lv_aload_n hx hb dX3_saves_50 rfl (lv_at hl 0 rfl) ?_
    refine va_get (D := G) (ci := 2) (v := .ref hnow) (C := RX3) (T := TX3) (N := 20) hx hb hts in_X3 hown hK hP 0 rfl rfl 0 (by decide) (hts _ q1438) (fun _ h9 => h9) rfl dX3_saves_51 ?_
    refine lv_iconst (v := iI 0) hx hb dX3_saves_54 rfl ?_
    refine lv_aload_n hx hb dX3_saves_55 rfl (lv_at hl 0 rfl) ?_
    refine va_get (D := G) (ci := 2) (v := .ref hpast) (C := RX3) (T := TX3) (N := 20) hx hb hts in_X3 hown hK hP 0 rfl rfl 2 (by decide) (hts _ q1440) (fun _ h9 => h9) rfl dX3_saves_56 ?_
    refine lv_sipush (v := iI 253) hx hb dX3_saves_59 rfl ?_
    refine lv_aload_n hx hb dX3_saves_62 rfl (lv_at hl 0 rfl) ?_
    refine va_get (D := G) (ci := 2) (v := .int (iI kept)) (C := RX3) (T := TX3) (N := 20) hx hb hts in_X3 hown hK hP 0 rfl rfl 3 (by decide) (hts _ q1441) (fun _ h9 => h9) rfl dX3_saves_63 ?_
    refine g_imul hx hb dX3_saves_66 ?_
    refine g_callSwv (As := [.ref hnow, .int (iI 0), .ref hpast, .int (iI (253 * kept))]) (rest := []) (m_X3_copies l G g s.heap.size hnow 0 hpast (253 * kept) 253 S 1518 PA ⟨by decide, by decide⟩ (⟨by omega, by omega⟩) (by omega) (by omega) (by omega) (by omega)) hx hb hml hown hts Stab.tt hA hK hP hD hS hEs [1, 2] rfl rfl (fun _ => rfl) q1511 q1512 q102 q1513 hd_X3_copies rfl rfl ⟨Nat.le_of_ble_eq_true rfl, Nat.le_of_ble_eq_true rfl⟩ rfl hl rfl (Nat.le_of_ble_eq_true rfl) ⟨Nat.le_refl _, Nat.le_refl _⟩ dX3_saves_67 (fun u H locs hp hP hS => ?_)
    have hP : va_P G CL [(hM, .inr (2, (mO hnow hthen hpast kept htx ty th at_ fa htold tolds hac hal hre hse hpl many cost br hsy))), (hnow, .inl (g 0, 253, .inl (aI S))), (hpast, .inl (g 0, 1518, .inl (aI (cpZ S PA 0 (253 * kept) 253))))] H := hP
    have hD : va_D A [(hM, .inr (2, (mO hnow hthen hpast kept htx ty th at_ fa htold tolds hac hal hre hse hpl many cost br hsy))), (hnow, .inl (g 0, 253, .inl (aI S))), (hpast, .inl (g 0, 1518, .inl (aI (cpZ S PA 0 (253 * kept) 253))))] := va_Dadr hD rfl
    refine W.widen (k := 0) (n := 0) (Nat.le_refl _) (Nat.le_refl _) ?_
    refine lv_aload_n hx hb dX3_saves_70 rfl (lv_at hl 0 rfl) ?_
    refine lv_dup hx hb dX3_saves_71 rfl ?_
    refine va_get (D := G) (ci := 2) (v := .int (iI kept)) (C := RX3) (T := TX3) (N := 20) hx hb hts in_X3 hown hK hP 0 rfl rfl 3 (by decide) (hts _ q1441) (fun _ h9 => h9) rfl dX3_saves_72 ?_
    refine lv_iconst (v := iI 1) hx hb dX3_saves_75 rfl ?_
    refine g_iadd hx hb dX3_saves_76 ?_
    refine g_put (D := G) (ci := 2) (v := .int (iI (kept + 1))) (ty := .int) (C := RX3) (T := TX3) (N := 20) (ws1 := [(hM, .inr (2, (mO hnow hthen hpast (kept + 1) htx ty th at_ fa htold tolds hac hal hre hse hpl many cost br hsy))), (hnow, .inl (g 0, 253, .inl (aI S))), (hpast, .inl (g 0, 1518, .inl (aI (cpZ S PA 0 (253 * kept) 253))))]) hx hb hts in_X3 tyX3 tyX3_ok nmX3 hown hK hP hD hS 0 rfl rfl 3 (by decide) (hts _ q1441) (fun _ h9 => h9) rfl (by decide +kernel) (rfl) (rfl) (Nat.le_of_ble_eq_true rfl) dX3_saves_77 rfl (fun H locs hP hS => ?_)
    have hD : va_D A [(hM, .inr (2, (mO hnow hthen hpast (kept + 1) htx ty th at_ fa htold tolds hac hal hre hse hpl many cost br hsy))), (hnow, .inl (g 0, 253, .inl (aI S))), (hpast, .inl (g 0, 1518, .inl (aI (cpZ S PA 0 (253 * kept) 253))))] := va_Dadr hD rfl
    exact W.vret hx hb hr (fun t ht hW => ⟨⟨(), rfl, trivial, by rw [← ht] at hP; exact (by rw [show svK kept = kept + 1 from zi_f (by assumption), show svP S PA kept = cpZ S PA 0 (253 * kept) 253 from zf_f (by assumption)]; exact hP)⟩, hS.F ht⟩) hS.2.2 dX3_saves_80 hlk
  · refine lv_iconst (v := iI 0) hx hb dX3_saves_9 rfl ?_
    refine lv_istore_n (lv' := [(1, .int (iI 0)), (0, .ref hM)]) hx hb dX3_saves_10 rfl hl (by decide) rfl (fun ls hl => ?_)
    have lp11 : ∀ (n : Nat) (k : Nat), ((k : Int) ≤ 1265) → 1265 - k = n → ∀ (H : Heap) (locs : List Loc), va_P G CL [(hM, .inr (2, (mO hnow hthen hpast kept htx ty th at_ fa htold tolds hac hal hre hse hpl many cost br hsy))), (hnow, .inl (g 0, 253, .inl (aI S))), (hpast, .inl (g 0, 1518, .inl (aI (shf PA (k : Int)))))] H → va_D A [(hM, .inr (2, (mO hnow hthen hpast kept htx ty th at_ fa htold tolds hac hal hre hse hpl many cost br hsy))), (hnow, .inl (g 0, 253, .inl (aI S))), (hpast, .inl (g 0, 1518, .inl (aI (shf PA (k : Int)))))] → va_S A s.heap H locs → ∀ ls : Array Slot, lv_has ls 2 [(0, .ref hM), (1, .int (iI (k : Int)))] → W p l e ({ frames := 1, cells := 0, slots := 0, locals := 24 }) s m ([.ref hM] : List Value).toArray below meth c H locs 0 0 (MQ below (va_Qv (fun (u : Unit) => True) (fun (u : Unit) t => va_P G CL [(hM, .inr (2, (mO hnow hthen hpast (svK kept) htx ty th at_ fa htold tolds hac hal hre hse hpl many cost br hsy))), (hnow, .inl (g 0, 253, .inl (aI S))), (hpast, .inl (g 0, 1518, .inl (aI (svP S PA kept))))] t.heap) A) ([.ref hM] : List Value).toArray s 0 0 A) (F0 m 11 ls []) := by
      intro n
      refine Nat.strongRecOn n ?_
      intro n ih11 k hk hmu11 H locs hP hD hS ls hl
      refine lv_iload_n hx hb dX3_saves_11 rfl (lv_at hl 1 rfl) ?_
      refine lv_sipush (v := iI 1265) hx hb dX3_saves_12 rfl ?_
      refine g_icmp_ge (tgt := 40) hx hb dX3_saves_15 (by decide) ⟨⟨by omega, by omega⟩, ⟨by decide, by decide⟩⟩ (fun c2 => ?_) (fun c2 => ?_)
      · obtain rfl : k = 1265 := by omega
        refine lv_aload_n hx hb dX3_saves_40 rfl (lv_at hl 0 rfl) ?_
        refine lv_dup hx hb dX3_saves_41 rfl ?_
        refine va_get (D := G) (ci := 2) (v := .int (iI kept)) (C := RX3) (T := TX3) (N := 20) hx hb hts in_X3 hown hK hP 0 rfl rfl 3 (by decide) (hts _ q1441) (fun _ h9 => h9) rfl dX3_saves_42 ?_
        refine lv_iconst (v := iI 1) hx hb dX3_saves_45 rfl ?_
        refine g_isub hx hb dX3_saves_46 ?_
        refine g_put (D := G) (ci := 2) (v := .int (iI (kept - 1))) (ty := .int) (C := RX3) (T := TX3) (N := 20) (ws1 := [(hM, .inr (2, (mO hnow hthen hpast (kept - 1) htx ty th at_ fa htold tolds hac hal hre hse hpl many cost br hsy))), (hnow, .inl (g 0, 253, .inl (aI S))), (hpast, .inl (g 0, 1518, .inl (aI (shf PA (1265 : Int)))))]) hx hb hts in_X3 tyX3 tyX3_ok nmX3 hown hK hP hD hS 0 rfl rfl 3 (by decide) (hts _ q1441) (fun _ h9 => h9) rfl (by decide +kernel) (rfl) (rfl) (Nat.le_of_ble_eq_true rfl) dX3_saves_47 rfl (fun H locs hP hS => ?_)
        have hD : va_D A [(hM, .inr (2, (mO hnow hthen hpast (kept - 1) htx ty th at_ fa htold tolds hac hal hre hse hpl many cost br hsy))), (hnow, .inl (g 0, 253, .inl (aI S))), (hpast, .inl (g 0, 1518, .inl (aI (shf PA (1265 : Int)))))] := va_Dadr hD rfl
        refine lv_aload_n hx hb dX3_saves_50 rfl (lv_at hl 0 rfl) ?_
        refine va_get (D := G) (ci := 2) (v := .ref hnow) (C := RX3) (T := TX3) (N := 20) hx hb hts in_X3 hown hK hP 0 rfl rfl 0 (by decide) (hts _ q1438) (fun _ h9 => h9) rfl dX3_saves_51 ?_
        refine lv_iconst (v := iI 0) hx hb dX3_saves_54 rfl ?_
        refine lv_aload_n hx hb dX3_saves_55 rfl (lv_at hl 0 rfl) ?_
        refine va_get (D := G) (ci := 2) (v := .ref hpast) (C := RX3) (T := TX3) (N := 20) hx hb hts in_X3 hown hK hP 0 rfl rfl 2 (by decide) (hts _ q1440) (fun _ h9 => h9) rfl dX3_saves_56 ?_
        refine lv_sipush (v := iI 253) hx hb dX3_saves_59 rfl ?_
        refine lv_aload_n hx hb dX3_saves_62 rfl (lv_at hl 0 rfl) ?_
        refine va_get (D := G) (ci := 2) (v := .int (iI (kept - 1))) (C := RX3) (T := TX3) (N := 20) hx hb hts in_X3 hown hK hP 0 rfl rfl 3 (by decide) (hts _ q1441) (fun _ h9 => h9) rfl dX3_saves_63 ?_
        refine g_imul hx hb dX3_saves_66 ?_
        refine g_callSwv (As := [.ref hnow, .int (iI 0), .ref hpast, .int (iI (253 * (kept - 1)))]) (rest := []) (m_X3_copies l G g H.size hnow 0 hpast (253 * (kept - 1)) 253 S 1518 (shf PA (1265 : Int)) ⟨by decide, by decide⟩ (⟨by omega, by omega⟩) (by omega) (by omega) (by omega) (by omega)) hx hb hml hown hts Stab.tt hA hK hP hD hS hEs [1, 2] rfl rfl (fun _ => rfl) q1511 q1512 q102 q1513 hd_X3_copies rfl rfl ⟨Nat.le_of_ble_eq_true rfl, Nat.le_of_ble_eq_true rfl⟩ rfl hl rfl (Nat.le_of_ble_eq_true rfl) ⟨Nat.le_refl _, Nat.le_refl _⟩ dX3_saves_67 (fun u H locs hp hP hS => ?_)
        have hP : va_P G CL [(hM, .inr (2, (mO hnow hthen hpast (kept - 1) htx ty th at_ fa htold tolds hac hal hre hse hpl many cost br hsy))), (hnow, .inl (g 0, 253, .inl (aI S))), (hpast, .inl (g 0, 1518, .inl (aI (cpZ S (shf PA (1265 : Int)) 0 (253 * (kept - 1)) 253))))] H := hP
        have hD : va_D A [(hM, .inr (2, (mO hnow hthen hpast (kept - 1) htx ty th at_ fa htold tolds hac hal hre hse hpl many cost br hsy))), (hnow, .inl (g 0, 253, .inl (aI S))), (hpast, .inl (g 0, 1518, .inl (aI (cpZ S (shf PA (1265 : Int)) 0 (253 * (kept - 1)) 253))))] := va_Dadr hD rfl
        refine W.widen (k := 0) (n := 0) (Nat.le_refl _) (Nat.le_refl _) ?_
        refine lv_aload_n hx hb dX3_saves_70 rfl (lv_at hl 0 rfl) ?_
        refine lv_dup hx hb dX3_saves_71 rfl ?_
        refine va_get (D := G) (ci := 2) (v := .int (iI (kept - 1))) (C := RX3) (T := TX3) (N := 20) hx hb hts in_X3 hown hK hP 0 rfl rfl 3 (by decide) (hts _ q1441) (fun _ h9 => h9) rfl dX3_saves_72 ?_
        refine lv_iconst (v := iI 1) hx hb dX3_saves_75 rfl ?_
        refine g_iadd hx hb dX3_saves_76 ?_
        refine g_put (D := G) (ci := 2) (v := .int (iI ((kept - 1) + 1))) (ty := .int) (C := RX3) (T := TX3) (N := 20) (ws1 := [(hM, .inr (2, (mO hnow hthen hpast ((kept - 1) + 1) htx ty th at_ fa htold tolds hac hal hre hse hpl many cost br hsy))), (hnow, .inl (g 0, 253, .inl (aI S))), (hpast, .inl (g 0, 1518, .inl (aI (cpZ S (shf PA (1265 : Int)) 0 (253 * (kept - 1)) 253))))]) hx hb hts in_X3 tyX3 tyX3_ok nmX3 hown hK hP hD hS 0 rfl rfl 3 (by decide) (hts _ q1441) (fun _ h9 => h9) rfl (by decide +kernel) (rfl) (rfl) (Nat.le_of_ble_eq_true rfl) dX3_saves_77 rfl (fun H locs hP hS => ?_)
        have hD : va_D A [(hM, .inr (2, (mO hnow hthen hpast ((kept - 1) + 1) htx ty th at_ fa htold tolds hac hal hre hse hpl many cost br hsy))), (hnow, .inl (g 0, 253, .inl (aI S))), (hpast, .inl (g 0, 1518, .inl (aI (cpZ S (shf PA (1265 : Int)) 0 (253 * (kept - 1)) 253))))] := va_Dadr hD rfl
        exact W.vret hx hb hr (fun t ht hW => ⟨⟨(), rfl, trivial, by rw [← ht] at hP; exact (by rw [show svK kept = kept - 1 + 1 from (zi_t (by assumption)).trans (by omega), show svP S PA kept = cpZ S (shf PA 1265) 0 (253 * (kept - 1)) 253 from zf_t (by assumption)]; exact hP)⟩, hS.F ht⟩) hS.2.2 dX3_saves_80 hlk
      · refine lv_aload_n hx hb dX3_saves_18 rfl (lv_at hl 0 rfl) ?_
        refine va_get (D := G) (ci := 2) (v := .ref hpast) (C := RX3) (T := TX3) (N := 20) hx hb hts in_X3 hown hK hP 0 rfl rfl 2 (by decide) (hts _ q1440) (fun _ h9 => h9) rfl dX3_saves_19 ?_
        refine lv_iload_n hx hb dX3_saves_22 rfl (lv_at hl 1 rfl) ?_
        refine lv_aload_n hx hb dX3_saves_23 rfl (lv_at hl 0 rfl) ?_
        refine va_get (D := G) (ci := 2) (v := .ref hpast) (C := RX3) (T := TX3) (N := 20) hx hb hts in_X3 hown hK hP 0 rfl rfl 2 (by decide) (hts _ q1440) (fun _ h9 => h9) rfl dX3_saves_24 ?_
        refine lv_iload_n hx hb dX3_saves_27 rfl (lv_at hl 1 rfl) ?_
        refine lv_sipush (v := iI 253) hx hb dX3_saves_28 rfl ?_
        refine g_iadd hx hb dX3_saves_31 ?_
        refine g_iald hx hb hK hP 2 0 rfl rfl (i := (k : Int) + 253) (⟨by omega, by omega⟩) (by decide) dX3_saves_32 ?_
        refine g_iast (ws1 := [(hM, .inr (2, (mO hnow hthen hpast kept htx ty th at_ fa htold tolds hac hal hre hse hpl many cost br hsy))), (hnow, .inl (g 0, 253, .inl (aI S))), (hpast, .inl (g 0, 1518, .inl (aI (uZ (shf PA (k : Int)) (k : Int) ((shf PA (k : Int)) ((k : Int) + 253))))))]) hx hb hK hP hD hS 2 0 rfl rfl (i := (k : Int)) (⟨by omega, by omega⟩) (by decide) dX3_saves_33 rfl (fun H locs hP hS => ?_)
        have hD : va_D A [(hM, .inr (2, (mO hnow hthen hpast kept htx ty th at_ fa htold tolds hac hal hre hse hpl many cost br hsy))), (hnow, .inl (g 0, 253, .inl (aI S))), (hpast, .inl (g 0, 1518, .inl (aI (uZ (shf PA (k : Int)) (k : Int) ((shf PA (k : Int)) ((k : Int) + 253))))))] := va_Dadr hD rfl
        refine g_iinc (lv' := [(1, .int (iI ((k : Int) + 1))), (0, .ref hM)]) hx hb dX3_saves_34 hl (k := 1) rfl (by decide) rfl (fun ls hl => ?_)
        refine lv_goto (tgt := 11) hx hb dX3_saves_37 (by decide) ?_
        exact ih11 _ (by omega) (k + 1) (by omega) rfl _ _ (by rw [shf_s (P := PA) (k := (k : Int)) (by omega)] at hP; exact hP) (va_Dadr hD rfl) hS ls (lv_sub hl [1, 0] rfl)
    exact lp11 _ 0 (by omega) rfl s.heap [] (by rw [show shf PA ((0 : Nat) : Int) = PA from shf_0]; exact hP) (va_Dadr hD rfl) hS ls (lv_sub hl [1, 0] rfl)
theorem hd_X3_toggles : yX3_toggles.cls ≠ "java/lang/invoke/MethodHandle" ∧ yX3_toggles.cls ≠ "java/lang/invoke/VarHandle" ∧ (parseMethodDescriptor yX3_toggles.desc).map (fun d => d.parameters.length) = some 2 := by decide +kernel
set_option maxHeartbeats 1000000 in
set_option maxRecDepth 100000 in
theorem m_X3_toggles (l : Launch) (G : va_G) (g : Nat → ClassId) (sz : Nat) (hs : Nat) (q_ : Int) (S : Int → Int) (r_q_ : r32 q_) (kS : rgS S) (hq : 0 ≤ q_ ∧ q_ ≤ 191) : Met l yX3_toggles (ws_ yX3_toggles cX3_toggles 2 (Option.none : Option Jvm.ClassFile.FieldType)) ({ frames := 0, cells := 0, slots := 0, locals := 0 }) (va_Pc [.ref hs, .int (iI q_)] (wrB G CL (TY g) (fun _ => True) [(hs, .inl (g 0, 253, .inl (aI S)))] sz)) (va_Qv (fun (u : Unit) => True) (fun (u : Unit) t => va_P G CL [(hs, .inl (g 0, 253, .inl (aI (tgl S q_))))] t.heap) (va_A [(hs, .inl (g 0, 253, .inl (aI S)))] sz)) 0 0 (va_A [(hs, .inl (g 0, 253, .inl (aI S)))] sz) := by
  refine Met.at (by decide) (Nat.le_of_ble_eq_true rfl) ?_
  intro p e s m below meth c hx hb hr hlk hml hown hnm hts hB ls hl
  have hown : s.vm.findClass RX3 = some m.cls := hown
  obtain ⟨hsz, hP, hK, hD0, hEs⟩ := hB
  subst hsz
  have hD := hD0.self (sz := s.heap.size)
  generalize hAe : va_A [(hs, .inl (g 0, 253, .inl (aI S)))] s.heap.size = A at hD ⊢
  have hA : ∀ q : Nat, s.heap.size ≤ q → A q := fun q h => by rw [← hAe]; exact Or.inr h
  have hS : va_S A s.heap s.heap [] := va_S.rf
  have hl : lv_has ls 2 [(0, .ref hs), (1, .int (iI q_))] := hl
  refine lv_aload_n hx hb dX3_toggles_0 rfl (lv_at hl 0 rfl) ?_
  refine lv_iload_n hx hb dX3_toggles_1 rfl (lv_at hl 1 rfl) ?_
  refine lv_aload_n hx hb dX3_toggles_2 rfl (lv_at hl 0 rfl) ?_
  refine lv_iload_n hx hb dX3_toggles_3 rfl (lv_at hl 1 rfl) ?_
  refine g_iald hx hb hK hP 0 0 rfl rfl (i := q_) (⟨by omega, by omega⟩) (by decide) dX3_toggles_4 ?_
  have w1 := kS q_ (by omega) (by omega)
  refine lv_iconst (v := iI (-1)) hx hb dX3_toggles_5 rfl ?_
  have hJ2 : ∀ ls : Array Slot, lv_has ls 2 [(0, .ref hs), (1, .int (iI q_))] → W p l e ({ frames := 0, cells := 0, slots := 0, locals := 0 }) s m ([.ref hs, .int (iI q_)] : List Value).toArray below meth c s.heap [] 0 0 (MQ below (va_Qv (fun (u : Unit) => True) (fun (u : Unit) t => va_P G CL [(hs, .inl (g 0, 253, .inl (aI (tgl S q_))))] t.heap) A) ([.ref hs, .int (iI q_)] : List Value).toArray s 0 0 A) (F0 m 15 ls [.int (iI (zi (S q_ = (-1)) (-2) (-1))), .int (iI q_), .ref hs]) := by
    intro ls hl
    refine g_iast (ws1 := [(hs, .inl (g 0, 253, .inl (aI (uZ S q_ (zi (S q_ = (-1)) (-2) (-1))))))]) hx hb hK hP hD hS 0 0 rfl rfl (i := q_) (⟨by omega, by omega⟩) (by decide) dX3_toggles_15 rfl (fun H locs hP hS => ?_)
    have hD : va_D A [(hs, .inl (g 0, 253, .inl (aI (uZ S q_ (zi (S q_ = (-1)) (-2) (-1))))))] := va_Dadr hD rfl
    exact W.vret hx hb hr (fun t ht hW => ⟨⟨(), rfl, trivial, by rw [← ht] at hP; exact hP⟩, hS.F ht⟩) hS.2.2 dX3_toggles_16 hlk
  refine g_icmp_ne (tgt := 14) hx hb dX3_toggles_6 (by decide) ⟨⟨by omega, by omega⟩, ⟨by decide, by decide⟩⟩ (fun c3 => ?_) (fun c3 => ?_)
  · refine lv_iconst (v := iI (-1)) hx hb dX3_toggles_14 rfl ?_
    refine g_eq (b := zi (S q_ = (-1)) (-2) (-1)) ((zi_f c3)).symm ?_
    exact hJ2 ls (lv_sub hl [0, 1] rfl)
  · refine lv_bipush (v := iI (-2)) hx hb dX3_toggles_9 rfl ?_
    refine lv_goto (tgt := 15) hx hb dX3_toggles_11 (by decide) ?_
    refine g_eq (b := zi (S q_ = (-1)) (-2) (-1)) ((zi_t c3)).symm ?_
    exact hJ2 ls (lv_sub hl [0, 1] rfl)
theorem hd_X3_gives : yX3_gives.cls ≠ "java/lang/invoke/MethodHandle" ∧ yX3_gives.cls ≠ "java/lang/invoke/VarHandle" ∧ (parseMethodDescriptor yX3_gives.desc).map (fun d => d.parameters.length) = some 2 := by decide +kernel
set_option maxHeartbeats 1000000 in
set_option maxRecDepth 100000 in
theorem m_X3_gives (l : Launch) (G : va_G) (g : Nat → ClassId) (sz : Nat) (hs : Nat) (room : Int) (S : Int → Int) (r_room : r32 room) (kS : rgS S) (hrm : 0 ≤ room ∧ room ≤ 5) : Met l yX3_gives (ws_ yX3_gives cX3_gives 4 (Option.some Jvm.ClassFile.FieldType.int)) ({ frames := 0, cells := 0, slots := 0, locals := 0 }) (va_Pc [.ref hs, .int (iI room)] (wrB G CL (TY g) (fun _ => True) [(hs, .inl (g 0, 253, .inl (aI S)))] sz)) (va_Qi (fun (r : Int32) (u : Unit) => r = (iI (gvN S room 192))) (fun (u : Unit) t => va_P G CL [(hs, .inl (g 0, 253, .inl (aI (gvS S room))))] t.heap) (va_A [(hs, .inl (g 0, 253, .inl (aI S)))] sz)) 0 0 (va_A [(hs, .inl (g 0, 253, .inl (aI S)))] sz) := by
  refine Met.at (by decide) (Nat.le_of_ble_eq_true rfl) ?_
  intro p e s m below meth c hx hb hr hlk hml hown hnm hts hB ls hl
  have hown : s.vm.findClass RX3 = some m.cls := hown
  obtain ⟨hsz, hP, hK, hD0, hEs⟩ := hB
  subst hsz
  have hD := hD0.self (sz := s.heap.size)
  generalize hAe : va_A [(hs, .inl (g 0, 253, .inl (aI S)))] s.heap.size = A at hD ⊢
  have hA : ∀ q : Nat, s.heap.size ≤ q → A q := fun q h => by rw [← hAe]; exact Or.inr h
  have hS : va_S A s.heap s.heap [] := va_S.rf
  have hl : lv_has ls 4 [(0, .ref hs), (1, .int (iI room))] := hl
  refine lv_iconst (v := iI 0) hx hb dX3_gives_0 rfl ?_
  refine lv_istore_n (lv' := [(2, .int (iI 0)), (0, .ref hs), (1, .int (iI room))]) hx hb dX3_gives_1 rfl hl (by decide) rfl (fun ls hl => ?_)
  refine lv_iconst (v := iI 0) hx hb dX3_gives_2 rfl ?_
  refine lv_istore_n (lv' := [(3, .int (iI 0)), (2, .int (iI 0)), (0, .ref hs), (1, .int (iI room))]) hx hb dX3_gives_3 rfl hl (by decide) rfl (fun ls hl => ?_)
  have lp4 : ∀ (n : Nat) (k : Nat), ((k : Int) ≤ 192) → 192 - k = n → ∀ (H : Heap) (locs : List Loc), va_P G CL [(hs, .inl (g 0, 253, .inl (aI (gv1 S room k))))] H → va_D A [(hs, .inl (g 0, 253, .inl (aI (gv1 S room k))))] → va_S A s.heap H locs → ∀ ls : Array Slot, lv_has ls 4 [(0, .ref hs), (1, .int (iI room)), (2, .int (iI (gvN S room k))), (3, .int (iI (k : Int)))] → W p l e ({ frames := 0, cells := 0, slots := 0, locals := 0 }) s m ([.ref hs, .int (iI room)] : List Value).toArray below meth c H locs 0 0 (MQ below (va_Qi (fun (r : Int32) (u : Unit) => r = (iI (gvN S room 192))) (fun (u : Unit) t => va_P G CL [(hs, .inl (g 0, 253, .inl (aI (gvS S room))))] t.heap) A) ([.ref hs, .int (iI room)] : List Value).toArray s 0 0 A) (F0 m 4 ls []) := by
    intro n
    refine Nat.strongRecOn n ?_
    intro n ih4 k hk hmu4 H locs hP hD hS ls hl
    refine lv_iload_n hx hb dX3_gives_4 rfl (lv_at hl 3 rfl) ?_
    refine lv_sipush (v := iI 192) hx hb dX3_gives_5 rfl ?_
    refine g_icmp_ge (tgt := 49) hx hb dX3_gives_8 (by decide) ⟨⟨by omega, by omega⟩, ⟨by decide, by decide⟩⟩ (fun c1 => ?_) (fun c1 => ?_)
    · obtain rfl : k = 192 := by omega
      refine lv_aload_n hx hb dX3_gives_49 rfl (lv_at hl 0 rfl) ?_
      refine lv_sipush (v := iI 192) hx hb dX3_gives_50 rfl ?_
      refine lv_iconst (v := iI 4) hx hb dX3_gives_53 rfl ?_
      refine lv_iload_n hx hb dX3_gives_54 rfl (lv_at hl 1 rfl) ?_
      refine g_imul hx hb dX3_gives_55 ?_
      refine g_iadd hx hb dX3_gives_56 ?_
      refine lv_iconst (v := iI 2) hx hb dX3_gives_57 rfl ?_
      refine g_iadd hx hb dX3_gives_58 ?_
      refine lv_iconst (v := iI 0) hx hb dX3_gives_59 rfl ?_
      refine g_iast (ws1 := [(hs, .inl (g 0, 253, .inl (aI (uZ (gv1 S room 192) ((192 + (4 * room)) + 2) 0))))]) hx hb hK hP hD hS 0 0 rfl rfl (i := (192 + (4 * room)) + 2) (⟨by omega, by omega⟩) (by decide) dX3_gives_60 rfl (fun H locs hP hS => ?_)
      have hD : va_D A [(hs, .inl (g 0, 253, .inl (aI (uZ (gv1 S room 192) ((192 + (4 * room)) + 2) 0))))] := va_Dadr hD rfl
      refine lv_iconst (v := iI 0) hx hb dX3_gives_61 rfl ?_
      refine lv_istore_n (lv' := [(3, .int (iI 0)), (0, .ref hs), (1, .int (iI room)), (2, .int (iI (gvN S room 192)))]) hx hb dX3_gives_62 rfl hl (by decide) rfl (fun ls hl => ?_)
      have lp63 : ∀ (n : Nat) (k2 : Nat), ((k2 : Int) ≤ 6) → 6 - k2 = n → ∀ (H : Heap) (locs : List Loc), va_P G CL [(hs, .inl (g 0, 253, .inl (aI (gv2 (uZ (gv1 S room 192) (192 + 4 * room + 2) 0) room k2))))] H → va_D A [(hs, .inl (g 0, 253, .inl (aI (gv2 (uZ (gv1 S room 192) (192 + 4 * room + 2) 0) room k2))))] → va_S A s.heap H locs → ∀ ls : Array Slot, lv_has ls 4 [(0, .ref hs), (1, .int (iI room)), (2, .int (iI (gvN S room 192))), (3, .int (iI (k2 : Int)))] → W p l e ({ frames := 0, cells := 0, slots := 0, locals := 0 }) s m ([.ref hs, .int (iI room)] : List Value).toArray below meth c H locs 0 0 (MQ below (va_Qi (fun (r : Int32) (u : Unit) => r = (iI (gvN S room 192))) (fun (u : Unit) t => va_P G CL [(hs, .inl (g 0, 253, .inl (aI (gvS S room))))] t.heap) A) ([.ref hs, .int (iI room)] : List Value).toArray s 0 0 A) (F0 m 63 ls []) := by
        intro n
        refine Nat.strongRecOn n ?_
        intro n ih63 k2 hk2 hmu63 H locs hP hD hS ls hl
        refine lv_iload_n hx hb dX3_gives_63 rfl (lv_at hl 3 rfl) ?_
        refine lv_bipush (v := iI 6) hx hb dX3_gives_64 rfl ?_
        refine g_icmp_ge (tgt := 101) hx hb dX3_gives_66 (by decide) ⟨⟨by omega, by omega⟩, ⟨by decide, by decide⟩⟩ (fun c2 => ?_) (fun c2 => ?_)
        · obtain rfl : k2 = 6 := by omega
          refine lv_iload_n hx hb dX3_gives_101 rfl (lv_at hl 2 rfl) ?_
          exact W.iret (v := (iI (gvN S room 192))) hx hb hr (fun t ht hW => ⟨⟨_, (), rfl, rfl, by rw [← ht] at hP; exact hP⟩, hS.F ht⟩) hS.2.2 dX3_gives_102 hlk
        · refine lv_aload_n hx hb dX3_gives_69 rfl (lv_at hl 0 rfl) ?_
          refine lv_sipush (v := iI 216) hx hb dX3_gives_70 rfl ?_
          refine lv_bipush (v := iI 6) hx hb dX3_gives_73 rfl ?_
          refine lv_iload_n hx hb dX3_gives_75 rfl (lv_at hl 1 rfl) ?_
          refine g_imul hx hb dX3_gives_76 ?_
          refine g_iadd hx hb dX3_gives_77 ?_
          refine lv_iload_n hx hb dX3_gives_78 rfl (lv_at hl 3 rfl) ?_
          refine g_iadd hx hb dX3_gives_79 ?_
          refine lv_iconst (v := iI 0) hx hb dX3_gives_80 rfl ?_
          refine g_iast (ws1 := [(hs, .inl (g 0, 253, .inl (aI (uZ (gv2 (uZ (gv1 S room 192) (192 + 4 * room + 2) 0) room k2) ((216 + (6 * room)) + (k2 : Int)) 0))))]) hx hb hK hP hD hS 0 0 rfl rfl (i := (216 + (6 * room)) + (k2 : Int)) (⟨by omega, by omega⟩) (by decide) dX3_gives_81 rfl (fun H locs hP hS => ?_)
          have hD : va_D A [(hs, .inl (g 0, 253, .inl (aI (uZ (gv2 (uZ (gv1 S room 192) (192 + 4 * room + 2) 0) room k2) ((216 + (6 * room)) + (k2 : Int)) 0))))] := va_Dadr hD rfl
          refine lv_aload_n hx hb dX3_gives_82 rfl (lv_at hl 0 rfl) ?_
          refine lv_sipush (v := iI 216) hx hb dX3_gives_83 rfl ?_
          refine lv_bipush (v := iI 6) hx hb dX3_gives_86 rfl ?_
          refine lv_iload_n hx hb dX3_gives_88 rfl (lv_at hl 3 rfl) ?_
          refine g_imul hx hb dX3_gives_89 ?_
          refine g_iadd hx hb dX3_gives_90 ?_
          refine lv_iload_n hx hb dX3_gives_91 rfl (lv_at hl 1 rfl) ?_
          refine g_iadd hx hb dX3_gives_92 ?_
          refine lv_iconst (v := iI 0) hx hb dX3_gives_93 rfl ?_
          refine g_iast (ws1 := [(hs, .inl (g 0, 253, .inl (aI (uZ (uZ (gv2 (uZ (gv1 S room 192) (192 + 4 * room + 2) 0) room k2) ((216 + (6 * room)) + (k2 : Int)) 0) ((216 + (6 * (k2 : Int))) + room) 0))))]) hx hb hK hP hD hS 0 0 rfl rfl (i := (216 + (6 * (k2 : Int))) + room) (⟨by omega, by omega⟩) (by decide) dX3_gives_94 rfl (fun H locs hP hS => ?_)
          have hD : va_D A [(hs, .inl (g 0, 253, .inl (aI (uZ (uZ (gv2 (uZ (gv1 S room 192) (192 + 4 * room + 2) 0) room k2) ((216 + (6 * room)) + (k2 : Int)) 0) ((216 + (6 * (k2 : Int))) + room) 0))))] := va_Dadr hD rfl
          refine g_iinc (lv' := [(3, .int (iI ((k2 : Int) + 1))), (0, .ref hs), (1, .int (iI room)), (2, .int (iI (gvN S room 192)))]) hx hb dX3_gives_95 hl (k := 3) rfl (by decide) rfl (fun ls hl => ?_)
          refine lv_goto (tgt := 63) hx hb dX3_gives_98 (by decide) ?_
          exact ih63 _ (by omega) (k2 + 1) (by omega) rfl _ _ hP (va_Dadr hD rfl) hS ls (lv_sub hl [1, 2, 3, 0] rfl)
      exact lp63 _ 0 (by omega) rfl H locs hP (va_Dadr hD rfl) hS ls (lv_sub hl [1, 2, 3, 0] rfl)
    · refine lv_iload_n hx hb dX3_gives_11 rfl (lv_at hl 2 rfl) ?_
      refine lv_aload_n hx hb dX3_gives_12 rfl (lv_at hl 0 rfl) ?_
      refine lv_iload_n hx hb dX3_gives_13 rfl (lv_at hl 3 rfl) ?_
      refine g_iald hx hb hK hP 0 0 rfl rfl (i := (k : Int)) (⟨by omega, by omega⟩) (by decide) dX3_gives_14 ?_
      have w3 := (rgS_gv1 (r := room) kS k (by omega)) (k : Int) (by omega) (by omega)
      refine lv_iload_n hx hb dX3_gives_15 rfl (lv_at hl 1 rfl) ?_
      have hJ4 : ∀ ls : Array Slot, lv_has ls 4 [(0, .ref hs), (1, .int (iI room)), (2, .int (iI (gvN S room k))), (3, .int (iI (k : Int)))] → W p l e ({ frames := 0, cells := 0, slots := 0, locals := 0 }) s m ([.ref hs, .int (iI room)] : List Value).toArray below meth c H locs 0 0 (MQ below (va_Qi (fun (r : Int32) (u : Unit) => r = (iI (gvN S room 192))) (fun (u : Unit) t => va_P G CL [(hs, .inl (g 0, 253, .inl (aI (gvS S room))))] t.heap) A) ([.ref hs, .int (iI room)] : List Value).toArray s 0 0 A) (F0 m 24 ls [.int (iI (qz (((gv1 S room k) (k : Int)) = room))), .int (iI (gvN S room k))]) := by
        intro ls hl
        refine g_iadd hx hb dX3_gives_24 ?_
        refine lv_istore_n (lv' := [(2, .int (iI ((gvN S room k) + (qz (((gv1 S room k) (k : Int)) = room))))), (0, .ref hs), (1, .int (iI room)), (3, .int (iI (k : Int)))]) hx hb dX3_gives_25 rfl hl (by decide) rfl (fun ls hl => ?_)
        refine lv_aload_n hx hb dX3_gives_26 rfl (lv_at hl 1 rfl) ?_
        refine lv_iload_n hx hb dX3_gives_27 rfl (lv_at hl 3 rfl) ?_
        refine lv_aload_n hx hb dX3_gives_28 rfl (lv_at hl 1 rfl) ?_
        refine lv_iload_n hx hb dX3_gives_29 rfl (lv_at hl 3 rfl) ?_
        refine g_iald hx hb hK hP 0 0 rfl rfl (i := (k : Int)) (⟨by omega, by omega⟩) (by decide) dX3_gives_30 ?_
        have w5 := (rgS_gv1 (r := room) kS k (by omega)) (k : Int) (by omega) (by omega)
        refine lv_iload_n hx hb dX3_gives_31 rfl (lv_at hl 2 rfl) ?_
        have hJ6 : ∀ ls : Array Slot, lv_has ls 4 [(0, .ref hs), (1, .int (iI room)), (2, .int (iI ((gvN S room k) + (qz (((gv1 S room k) (k : Int)) = room))))), (3, .int (iI (k : Int)))] → W p l e ({ frames := 0, cells := 0, slots := 0, locals := 0 }) s m ([.ref hs, .int (iI room)] : List Value).toArray below meth c H locs 0 0 (MQ below (va_Qi (fun (r : Int32) (u : Unit) => r = (iI (gvN S room 192))) (fun (u : Unit) t => va_P G CL [(hs, .inl (g 0, 253, .inl (aI (gvS S room))))] t.heap) A) ([.ref hs, .int (iI room)] : List Value).toArray s 0 0 A) (F0 m 42 ls [.int (iI (zi (gv1 S room k (k : Int) = room) (-1) (gv1 S room k (k : Int)))), .int (iI (k : Int)), .ref hs]) := by
          intro ls hl
          refine g_iast (ws1 := [(hs, .inl (g 0, 253, .inl (aI (uZ (gv1 S room k) (k : Int) (zi (gv1 S room k (k : Int) = room) (-1) (gv1 S room k (k : Int)))))))]) hx hb hK hP hD hS 0 0 rfl rfl (i := (k : Int)) (⟨by omega, by omega⟩) (by decide) dX3_gives_42 rfl (fun H locs hP hS => ?_)
          have hD : va_D A [(hs, .inl (g 0, 253, .inl (aI (uZ (gv1 S room k) (k : Int) (zi (gv1 S room k (k : Int) = room) (-1) (gv1 S room k (k : Int)))))))] := va_Dadr hD rfl
          refine g_iinc (lv' := [(3, .int (iI ((k : Int) + 1))), (0, .ref hs), (1, .int (iI room)), (2, .int (iI ((gvN S room k) + (qz (((gv1 S room k) (k : Int)) = room)))))]) hx hb dX3_gives_43 hl (k := 3) rfl (by decide) rfl (fun ls hl => ?_)
          refine lv_goto (tgt := 4) hx hb dX3_gives_46 (by decide) ?_
          exact ih4 _ (by omega) (k + 1) (by omega) rfl _ _ hP (va_Dadr hD rfl) hS ls (lv_sub hl [1, 2, 3, 0] rfl)
        refine g_icmp_ne (tgt := 39) hx hb dX3_gives_32 (by decide) ⟨⟨by omega, by omega⟩, r_room⟩ (fun c7 => ?_) (fun c7 => ?_)
        · refine lv_aload_n hx hb dX3_gives_39 rfl (lv_at hl 1 rfl) ?_
          refine lv_iload_n hx hb dX3_gives_40 rfl (lv_at hl 3 rfl) ?_
          refine g_iald hx hb hK hP 0 0 rfl rfl (i := (k : Int)) (⟨by omega, by omega⟩) (by decide) dX3_gives_41 ?_
          have w8 := (rgS_gv1 (r := room) kS k (by omega)) (k : Int) (by omega) (by omega)
          refine g_eq (b := zi (gv1 S room k (k : Int) = room) (-1) (gv1 S room k (k : Int))) ((zi_f c7)).symm ?_
          exact hJ6 ls (lv_sub hl [1, 2, 0, 3] rfl)
        · refine lv_iconst (v := iI (-1)) hx hb dX3_gives_35 rfl ?_
          refine lv_goto (tgt := 42) hx hb dX3_gives_36 (by decide) ?_
          refine g_eq (b := zi (gv1 S room k (k : Int) = room) (-1) (gv1 S room k (k : Int))) ((zi_t c7)).symm ?_
          exact hJ6 ls (lv_sub hl [1, 2, 0, 3] rfl)
      refine g_icmp_ne (tgt := 23) hx hb dX3_gives_16 (by decide) ⟨⟨by omega, by omega⟩, r_room⟩ (fun c9 => ?_) (fun c9 => ?_)
      · refine lv_iconst (v := iI 0) hx hb dX3_gives_23 rfl ?_
        refine g_eq (b := qz (((gv1 S room k) (k : Int)) = room)) (qz_f (fun xx => (c9 xx))).symm ?_
        exact hJ4 ls (lv_sub hl [0, 1, 2, 3] rfl)
      · refine lv_iconst (v := iI 1) hx hb dX3_gives_19 rfl ?_
        refine lv_goto (tgt := 24) hx hb dX3_gives_20 (by decide) ?_
        refine g_eq (b := qz (((gv1 S room k) (k : Int)) = room)) (qz_t c9).symm ?_
        exact hJ4 ls (lv_sub hl [0, 1, 2, 3] rfl)
  exact lp4 _ 0 (by omega) rfl s.heap [] hP (va_Dadr hD rfl) hS ls (lv_sub hl [2, 3, 1, 0] rfl)
theorem hd_X3_walking : yX3_walking.cls = RX3 ∧ yX3_walking.cls ≠ "java/lang/invoke/MethodHandle" ∧ yX3_walking.cls ≠ "java/lang/invoke/VarHandle" ∧ (parseMethodDescriptor yX3_walking.desc).map (fun d => d.parameters.length) = some 3 := by decide +kernel
set_option maxHeartbeats 1000000 in
set_option maxRecDepth 100000 in
theorem m_X3_walking (l : Launch) (G : va_G) (g : Nat → ClassId) (sz : Nat) (hM : Nat) (one : Int) (other : Int) (w_ : Int) (hnow : Nat) (hthen : Nat) (hpast : Nat) (kept : Int) (htx : Nat) (ty : Int) (th : Int) (at_ : Int) (fa : Prop) (htold : Nat) (tolds : Int) (hac : Nat) (hal : Nat) (hre : Nat) (hse : Nat) (hpl : Nat) (many : Int) (cost : Int) (br : Int) (hsy : Nat) (S : Int → Int) (r_one : r32 one) (r_other : r32 other) (r_w_ : r32 w_) (kS : rgS S) (h1 : 0 ≤ one ∧ one ≤ 5) (h2 : 0 ≤ other ∧ other ≤ 5) : Met l yX3_walking (ws_ yX3_walking cX3_walking 5 (Option.some Jvm.ClassFile.FieldType.int)) ({ frames := 1, cells := 0, slots := 0, locals := 22 }) (va_Pc [.ref hM, .int (iI one), .int (iI other), .int (iI w_)] (wrB G CL (TY g) (fun _ => True) [(hM, .inr (2, (mO hnow hthen hpast kept htx ty th at_ fa htold tolds hac hal hre hse hpl many cost br hsy))), (hnow, .inl (g 0, 253, .inl (aI S)))] sz)) (va_Qi (fun (r : Int32) (u : Unit) => r = (iI (S (216 + 6 * one + other)))) (fun (u : Unit) t => va_P G CL [(hM, .inr (2, (mO hnow hthen hpast kept htx ty th at_ fa htold tolds hac hal hre hse hpl many cost br hsy))), (hnow, .inl (g 0, 253, .inl (aI (wkS S one other w_))))] t.heap) (va_A [(hM, .inr (2, (mO hnow hthen hpast kept htx ty th at_ fa htold tolds hac hal hre hse hpl many cost br hsy))), (hnow, .inl (g 0, 253, .inl (aI S)))] sz)) 0 0 (va_A [(hM, .inr (2, (mO hnow hthen hpast kept htx ty th at_ fa htold tolds hac hal hre hse hpl many cost br hsy))), (hnow, .inl (g 0, 253, .inl (aI S)))] sz) := by
  refine Met.at (by decide) (Nat.le_of_ble_eq_true rfl) ?_
  intro p e s m below meth c hx hb hr hlk hml hown hnm hts hB ls hl
  have hown : s.vm.findClass RX3 = some m.cls := hown
  obtain ⟨hsz, hP, hK, hD0, hEs⟩ := hB
  subst hsz
  have hD := hD0.self (sz := s.heap.size)
  generalize hAe : va_A [(hM, .inr (2, (mO hnow hthen hpast kept htx ty th at_ fa htold tolds hac hal hre hse hpl many cost br hsy))), (hnow, .inl (g 0, 253, .inl (aI S)))] s.heap.size = A at hD ⊢
  have hA : ∀ q : Nat, s.heap.size ≤ q → A q := fun q h => by rw [← hAe]; exact Or.inr h
  have hS : va_S A s.heap s.heap [] := va_S.rf
  have hl : lv_has ls 5 [(0, .ref hM), (1, .int (iI one)), (2, .int (iI other)), (3, .int (iI w_))] := hl
  refine lv_aload_n hx hb dX3_walking_0 rfl (lv_at hl 0 rfl) ?_
  refine va_get (D := G) (ci := 2) (v := .ref hnow) (C := RX3) (T := TX3) (N := 20) hx hb hts in_X3 hown hK hP 0 rfl rfl 0 (by decide) (hts _ q1438) (fun _ h9 => h9) rfl dX3_walking_1 ?_
  refine lv_iload_n hx hb dX3_walking_4 rfl (lv_at hl 1 rfl) ?_
  refine lv_iload_n hx hb dX3_walking_5 rfl (lv_at hl 2 rfl) ?_
  refine g_callS (As := [.ref hnow, .int (iI one), .int (iI other)]) (rest := []) (m_X3_walks l G g hnow one other S r_one r_other kS h1 h2) hx hb hml hown hts Stab.tt hK hP hS hEs [1] rfl q1564 q1565 q102 q1566 hd_X3_walks rfl rfl ⟨Nat.le_of_ble_eq_true rfl, Nat.le_of_ble_eq_true rfl⟩ rfl hl rfl (Nat.le_of_ble_eq_true rfl) ⟨Nat.le_refl _, Nat.le_refl _⟩ dX3_walking_6 ?_
  have w1 := kS (216 + 6 * one + other) (by omega) (by omega)
  refine lv_istore (lv' := [(4, .int (iI (S (216 + 6 * one + other)))), (0, .ref hM), (1, .int (iI one)), (2, .int (iI other)), (3, .int (iI w_))]) hx hb dX3_walking_9 hl (by decide) rfl (fun ls hl => ?_)
  refine lv_aload_n hx hb dX3_walking_11 rfl (lv_at hl 1 rfl) ?_
  refine va_get (D := G) (ci := 2) (v := .ref hnow) (C := RX3) (T := TX3) (N := 20) hx hb hts in_X3 hown hK hP 0 rfl rfl 0 (by decide) (hts _ q1438) (fun _ h9 => h9) rfl dX3_walking_12 ?_
  refine lv_sipush (v := iI 216) hx hb dX3_walking_15 rfl ?_
  refine lv_bipush (v := iI 6) hx hb dX3_walking_18 rfl ?_
  refine lv_iload_n hx hb dX3_walking_20 rfl (lv_at hl 2 rfl) ?_
  refine g_imul hx hb dX3_walking_21 ?_
  refine g_iadd hx hb dX3_walking_22 ?_
  refine lv_iload_n hx hb dX3_walking_23 rfl (lv_at hl 3 rfl) ?_
  refine g_iadd hx hb dX3_walking_24 ?_
  refine lv_iload_n hx hb dX3_walking_25 rfl (lv_at hl 4 rfl) ?_
  refine g_iast (ws1 := [(hM, .inr (2, (mO hnow hthen hpast kept htx ty th at_ fa htold tolds hac hal hre hse hpl many cost br hsy))), (hnow, .inl (g 0, 253, .inl (aI (uZ S ((216 + (6 * one)) + other) w_))))]) hx hb hK hP hD hS 1 0 rfl rfl (i := (216 + (6 * one)) + other) (⟨by omega, by omega⟩) (by decide) dX3_walking_26 rfl (fun H locs hP hS => ?_)
  have hD : va_D A [(hM, .inr (2, (mO hnow hthen hpast kept htx ty th at_ fa htold tolds hac hal hre hse hpl many cost br hsy))), (hnow, .inl (g 0, 253, .inl (aI (uZ S ((216 + (6 * one)) + other) w_))))] := va_Dadr hD rfl
  refine lv_aload_n hx hb dX3_walking_27 rfl (lv_at hl 1 rfl) ?_
  refine va_get (D := G) (ci := 2) (v := .ref hnow) (C := RX3) (T := TX3) (N := 20) hx hb hts in_X3 hown hK hP 0 rfl rfl 0 (by decide) (hts _ q1438) (fun _ h9 => h9) rfl dX3_walking_28 ?_
  refine lv_sipush (v := iI 216) hx hb dX3_walking_31 rfl ?_
  refine lv_bipush (v := iI 6) hx hb dX3_walking_34 rfl ?_
  refine lv_iload_n hx hb dX3_walking_36 rfl (lv_at hl 3 rfl) ?_
  refine g_imul hx hb dX3_walking_37 ?_
  refine g_iadd hx hb dX3_walking_38 ?_
  refine lv_iload_n hx hb dX3_walking_39 rfl (lv_at hl 2 rfl) ?_
  refine g_iadd hx hb dX3_walking_40 ?_
  refine lv_iload_n hx hb dX3_walking_41 rfl (lv_at hl 4 rfl) ?_
  refine g_iast (ws1 := [(hM, .inr (2, (mO hnow hthen hpast kept htx ty th at_ fa htold tolds hac hal hre hse hpl many cost br hsy))), (hnow, .inl (g 0, 253, .inl (aI (uZ (uZ S ((216 + (6 * one)) + other) w_) ((216 + (6 * other)) + one) w_))))]) hx hb hK hP hD hS 1 0 rfl rfl (i := (216 + (6 * other)) + one) (⟨by omega, by omega⟩) (by decide) dX3_walking_42 rfl (fun H locs hP hS => ?_)
  have hD : va_D A [(hM, .inr (2, (mO hnow hthen hpast kept htx ty th at_ fa htold tolds hac hal hre hse hpl many cost br hsy))), (hnow, .inl (g 0, 253, .inl (aI (uZ (uZ S ((216 + (6 * one)) + other) w_) ((216 + (6 * other)) + one) w_))))] := va_Dadr hD rfl
  refine lv_iload hx hb dX3_walking_43 (lv_at hl 0 rfl) ?_
  exact W.iret (v := (iI (S (216 + 6 * one + other)))) hx hb hr (fun t ht hW => ⟨⟨_, (), rfl, rfl, by rw [← ht] at hP; exact hP⟩, hS.F ht⟩) hS.2.2 dX3_walking_45 hlk
