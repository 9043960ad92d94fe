/-! rock, by the made classes -/
def okL (kR kD kO : ClassId) (E : State → Prop) : Prop := ∀ U : State, E U → lmB U ∧ lmM "lambda$new$0" kR U ∧ lmM "lambda$new$1" kD U ∧ lmM "lambda$new$2" kO U
noncomputable def roT (S : Int → Int) (b p k : Int) : Int := qz (S (p + 16 * (k / b) + k % b) = -2)
theorem roN_rng (S : Int → Int) (b p : Int) (n : Nat) : 0 ≤ sumN (roT S b p) n ∧ sumN (roT S b p) n ≤ n := by
  have h1 := sumN_nn (f := roT S b p) n (fun k _ _ => (qz_01 _).1)
  have h2 := sumN_le (f := roT S b p) (b := 1) n (fun k _ _ => (qz_01 _).2)
  omega
theorem sumN_ext {f h : Int → Int} : ∀ n : Nat, (∀ k : Int, 0 ≤ k → k < n → f k = h k) → sumN f n = sumN h n
  | 0, _ => rfl
  | n + 1, hle => by
    show sumN f n + f (n : Int) = sumN h n + h (n : Int)
    rw [sumN_ext n (fun k x y => hle k x (by omega)), hle n (by omega) (by omega)]
theorem ro_rk {S : Int → Int} {b p : Int} (hb : 1 ≤ b ∧ b ≤ 3) (hp : inPl b p) : sumN (roT S b p) (b * b).toNat = rk S b p (-1) := by
  have bb := bb_rng hb
  refine sumN_ext _ (fun k h0 h1 => ?_)
  have h1 : k < b * b := by omega
  unfold roT rkT
  rw [wh_at hb hp h0 h1]
  exact qz_congr ⟨fun h => ⟨fun z => z.1 rfl, h⟩, fun h => h.2⟩
noncomputable def nrT (S : Int → Int) (b p d k : Int) : Int := qz (S (p + 16 * (zi (dy d = 0) k (zi (dy d < 0) 0 (b - 1))) + zi (dx d = 0) k (zi (dx d < 0) 0 (b - 1))) = -2)
noncomputable def nrk (S : Int → Int) (b p d : Int) : Int := sumN (nrT S b p d) b.toNat
theorem nrN_rng (S : Int → Int) (b p d : Int) (n : Nat) : 0 ≤ sumN (nrT S b p d) n ∧ sumN (nrT S b p d) n ≤ n := by
  have h1 := sumN_nn (f := nrT S b p d) n (fun k _ _ => (qz_01 _).1)
  have h2 := sumN_le (f := nrT S b p d) (b := 1) n (fun k _ _ => (qz_01 _).2)
  omega
theorem nrk_rng (S : Int → Int) {b : Int} (p d : Int) (hb : 1 ≤ b ∧ b ≤ 3) : 0 ≤ nrk S b p d ∧ nrk S b p d ≤ 3 := by
  have := nrN_rng S b p d b.toNat
  unfold nrk
  omega

theorem hd_X1_lambda_new_0 : yX1_lambda_new_0.cls = RX1 ∧ yX1_lambda_new_0.cls ≠ "java/lang/invoke/MethodHandle" ∧ yX1_lambda_new_0.cls ≠ "java/lang/invoke/VarHandle" ∧ (parseMethodDescriptor yX1_lambda_new_0.desc).map (fun d => d.parameters.length) = some 1 := by decide +kernel
set_option maxHeartbeats 1000000 in
set_option maxRecDepth 100000 in
theorem m_X1_lambda_new_0 (l : Launch) (G : va_G) (g : Nat → ClassId) (hX : Nat) (q_ : Int) (xs : List Value) (hst : Nat) (ss : List Value) (hsq : Nat) (S : Int → Int) (b0 : Nat) (ta : Nat) (td : Nat) (E : State → Prop) (hF_xs_0 : xs[0]? = some (.ref hst)) (hF_ss_0 : ss[0]? = some (.ref hsq)) (hEE : okE b0 ta td E) (r_q_ : r32 q_) (kS : rgS S) (hq_ : 0 ≤ q_ ∧ q_ ≤ 191) : Met l yX1_lambda_new_0 (ws_ yX1_lambda_new_0 cX1_lambda_new_0 2 (Option.some Jvm.ClassFile.FieldType.int)) ({ frames := 1, cells := 0, slots := 0, locals := 20 }) (va_Pc [.ref hX, .int (iI q_)] (rdB G CL (TY g) (E) [(hX, .inr (0, xs)), (hst, .inr (1, ss)), (hsq, .inl (g 0, 192, .inl (aI S)))])) (QcRead ((iI (qz (S q_ = -2))))) 0 0 (fun _ => False) := by
  refine Met.at (by decide) (Nat.le_of_ble_eq_true rfl) ?_
  intro p e s m below meth c hx hb hr hlk hml hown hnm hts hB ls hl
  have hown : s.vm.findClass RX1 = some m.cls := hown
  obtain ⟨hP, hK, hEs⟩ := hB
  have hSt : Stab (fun _ => False) E := hEE.no
  have hS : va_S (fun _ => False) s.heap s.heap [] := va_S.rf
  have nw : nW s := (hEE.cs s hEs).2.2.2.2
  have hl : lv_has ls 2 [(0, .ref hX), (1, .int (iI q_))] := hl
  refine lv_aload_n hx hb dX1_lambda_new_0_0 rfl (lv_at hl 0 rfl) ?_
  refine va_get (D := G) (ci := 0) (v := .ref hst) (C := RX1) (T := TX1) (N := 13) hx hb hts in_X1 hown hK hP 0 rfl rfl 0 (by decide) (hts _ q248) (fun _ h9 => h9) hF_xs_0 dX1_lambda_new_0_1 ?_
  refine va_getN (D := G) (ci := 1) (v := .ref hsq) (C := RX2) (T := TX2) (N := 4) hx hb hts in_X2 hown hK hP 1 rfl rfl 0 (by decide) (va_Nw.use rfl (nw _ q144 rfl)) (fun _ h9 => h9) hF_ss_0 dX1_lambda_new_0_4 ?_
  refine lv_iload_n hx hb dX1_lambda_new_0_7 rfl (lv_at hl 1 rfl) ?_
  refine g_iald hx hb hK hP 2 0 rfl rfl (i := q_) (⟨by omega, by omega⟩) (by decide) dX1_lambda_new_0_8 ?_
  have w1 := kS q_ (by omega) (by omega)
  refine lv_bipush (v := iI (-2)) hx hb dX1_lambda_new_0_9 rfl ?_
  have hJ2 : ∀ ls : Array Slot, lv_has ls 2 [(0, .ref hX), (1, .int (iI q_))] → W p l e ({ frames := 1, cells := 0, slots := 0, locals := 20 }) s m ([.ref hX, .int (iI q_)] : List Value).toArray below meth c s.heap [] 0 0 (MQ below (QcRead ((iI (qz (S q_ = -2))))) ([.ref hX, .int (iI q_)] : List Value).toArray s 0 0 (fun _ => False)) (F0 m 19 ls [.int (iI (qz ((S q_) = (-2))))]) := by
    intro ls hl
    refine g_callS (A := fun _ => False) (As := [.int (iI (qz ((S q_) = (-2))))]) (rest := []) (m_X1_flag l G g ((S q_) = (-2))) hx hb hml hown hts Stab.tt hK hP va_S.rf trivial [] rfl q187 q188 q94 q189 hd_X1_flag rfl rfl ⟨Nat.le_of_ble_eq_true rfl, Nat.le_of_ble_eq_true rfl⟩ rfl hl rfl (Nat.le_of_ble_eq_true rfl) ⟨Nat.le_refl _, Nat.le_refl _⟩ dX1_lambda_new_0_19 ?_
    exact g_iret hx hb hr hlk (rfl) dX1_lambda_new_0_22
  refine g_icmp_ne (tgt := 18) hx hb dX1_lambda_new_0_11 (by decide) ⟨⟨by omega, by omega⟩, ⟨by decide, by decide⟩⟩ (fun c3 => ?_) (fun c3 => ?_)
  · refine lv_iconst (v := iI 0) hx hb dX1_lambda_new_0_18 rfl ?_
    refine g_eq (b := qz ((S q_) = (-2))) (qz_f (fun xx => (c3 xx))).symm ?_
    exact hJ2 ls (lv_sub hl [0, 1] rfl)
  · refine lv_iconst (v := iI 1) hx hb dX1_lambda_new_0_14 rfl ?_
    refine lv_goto (tgt := 19) hx hb dX1_lambda_new_0_15 (by decide) ?_
    refine g_eq (b := qz ((S q_) = (-2))) (qz_t c3).symm ?_
    exact hJ2 ls (lv_sub hl [0, 1] rfl)
theorem hd_X1_lambda_new_1 : yX1_lambda_new_1.cls = RX1 ∧ yX1_lambda_new_1.cls ≠ "java/lang/invoke/MethodHandle" ∧ yX1_lambda_new_1.cls ≠ "java/lang/invoke/VarHandle" ∧ (parseMethodDescriptor yX1_lambda_new_1.desc).map (fun d => d.parameters.length) = some 1 := by decide +kernel
set_option maxHeartbeats 1000000 in
set_option maxRecDepth 100000 in
theorem m_X1_lambda_new_1 (l : Launch) (G : va_G) (g : Nat → ClassId) (hX : Nat) (q_ : Int) (xs : List Value) (hst : Nat) (ss : List Value) (hsq : Nat) (S : Int → Int) (b0 : Nat) (ta : Nat) (td : Nat) (E : State → Prop) (hF_xs_0 : xs[0]? = some (.ref hst)) (hF_ss_0 : ss[0]? = some (.ref hsq)) (hEE : okE b0 ta td E) (r_q_ : r32 q_) (kS : rgS S) (hq_ : 0 ≤ q_ ∧ q_ ≤ 191) : Met l yX1_lambda_new_1 (ws_ yX1_lambda_new_1 cX1_lambda_new_1 2 (Option.some Jvm.ClassFile.FieldType.int)) ({ frames := 1, cells := 0, slots := 0, locals := 20 }) (va_Pc [.ref hX, .int (iI q_)] (rdB G CL (TY g) (E) [(hX, .inr (0, xs)), (hst, .inr (1, ss)), (hsq, .inl (g 0, 192, .inl (aI S)))])) (QcRead ((iI (qz (S q_ = -1))))) 0 0 (fun _ => False) := by
  refine Met.at (by decide) (Nat.le_of_ble_eq_true rfl) ?_
  intro p e s m below meth c hx hb hr hlk hml hown hnm hts hB ls hl
  have hown : s.vm.findClass RX1 = some m.cls := hown
  obtain ⟨hP, hK, hEs⟩ := hB
  have hSt : Stab (fun _ => False) E := hEE.no
  have hS : va_S (fun _ => False) s.heap s.heap [] := va_S.rf
  have nw : nW s := (hEE.cs s hEs).2.2.2.2
  have hl : lv_has ls 2 [(0, .ref hX), (1, .int (iI q_))] := hl
  refine lv_aload_n hx hb dX1_lambda_new_1_0 rfl (lv_at hl 0 rfl) ?_
  refine va_get (D := G) (ci := 0) (v := .ref hst) (C := RX1) (T := TX1) (N := 13) hx hb hts in_X1 hown hK hP 0 rfl rfl 0 (by decide) (hts _ q248) (fun _ h9 => h9) hF_xs_0 dX1_lambda_new_1_1 ?_
  refine va_getN (D := G) (ci := 1) (v := .ref hsq) (C := RX2) (T := TX2) (N := 4) hx hb hts in_X2 hown hK hP 1 rfl rfl 0 (by decide) (va_Nw.use rfl (nw _ q144 rfl)) (fun _ h9 => h9) hF_ss_0 dX1_lambda_new_1_4 ?_
  refine lv_iload_n hx hb dX1_lambda_new_1_7 rfl (lv_at hl 1 rfl) ?_
  refine g_iald hx hb hK hP 2 0 rfl rfl (i := q_) (⟨by omega, by omega⟩) (by decide) dX1_lambda_new_1_8 ?_
  have w1 := kS q_ (by omega) (by omega)
  refine lv_iconst (v := iI (-1)) hx hb dX1_lambda_new_1_9 rfl ?_
  have hJ2 : ∀ ls : Array Slot, lv_has ls 2 [(0, .ref hX), (1, .int (iI q_))] → W p l e ({ frames := 1, cells := 0, slots := 0, locals := 20 }) s m ([.ref hX, .int (iI q_)] : List Value).toArray below meth c s.heap [] 0 0 (MQ below (QcRead ((iI (qz (S q_ = -1))))) ([.ref hX, .int (iI q_)] : List Value).toArray s 0 0 (fun _ => False)) (F0 m 18 ls [.int (iI (qz ((S q_) = (-1))))]) := by
    intro ls hl
    refine g_callS (A := fun _ => False) (As := [.int (iI (qz ((S q_) = (-1))))]) (rest := []) (m_X1_flag l G g ((S q_) = (-1))) hx hb hml hown hts Stab.tt hK hP va_S.rf trivial [] rfl q187 q188 q94 q189 hd_X1_flag rfl rfl ⟨Nat.le_of_ble_eq_true rfl, Nat.le_of_ble_eq_true rfl⟩ rfl hl rfl (Nat.le_of_ble_eq_true rfl) ⟨Nat.le_refl _, Nat.le_refl _⟩ dX1_lambda_new_1_18 ?_
    exact g_iret hx hb hr hlk (rfl) dX1_lambda_new_1_21
  refine g_icmp_ne (tgt := 17) hx hb dX1_lambda_new_1_10 (by decide) ⟨⟨by omega, by omega⟩, ⟨by decide, by decide⟩⟩ (fun c3 => ?_) (fun c3 => ?_)
  · refine lv_iconst (v := iI 0) hx hb dX1_lambda_new_1_17 rfl ?_
    refine g_eq (b := qz ((S q_) = (-1))) (qz_f (fun xx => (c3 xx))).symm ?_
    exact hJ2 ls (lv_sub hl [0, 1] rfl)
  · refine lv_iconst (v := iI 1) hx hb dX1_lambda_new_1_13 rfl ?_
    refine lv_goto (tgt := 18) hx hb dX1_lambda_new_1_14 (by decide) ?_
    refine g_eq (b := qz ((S q_) = (-1))) (qz_t c3).symm ?_
    exact hJ2 ls (lv_sub hl [0, 1] rfl)
theorem hd_X1_lambda_new_2 : yX1_lambda_new_2.cls = RX1 ∧ yX1_lambda_new_2.cls ≠ "java/lang/invoke/MethodHandle" ∧ yX1_lambda_new_2.cls ≠ "java/lang/invoke/VarHandle" ∧ (parseMethodDescriptor yX1_lambda_new_2.desc).map (fun d => d.parameters.length) = some 1 := by decide +kernel
set_option maxHeartbeats 1000000 in
set_option maxRecDepth 100000 in
theorem m_X1_lambda_new_2 (l : Launch) (G : va_G) (g : Nat → ClassId) (hX : Nat) (q_ : Int) (xs : List Value) (hst : Nat) (ss : List Value) (hsq : Nat) (S : Int → Int) (b0 : Nat) (ta : Nat) (td : Nat) (E : State → Prop) (hF_xs_0 : xs[0]? = some (.ref hst)) (hF_ss_0 : ss[0]? = some (.ref hsq)) (hEE : okE b0 ta td E) (r_q_ : r32 q_) (kS : rgS S) (kQ : rgQ S) (hq_ : 0 ≤ q_ ∧ q_ ≤ 191) : Met l yX1_lambda_new_2 (ws_ yX1_lambda_new_2 cX1_lambda_new_2 2 (Option.some Jvm.ClassFile.FieldType.int)) ({ frames := 4, cells := 0, slots := 0, locals := 91 }) (va_Pc [.ref hX, .int (iI q_)] (rdB G CL (TY g) (E) [(hX, .inr (0, xs)), (hst, .inr (1, ss)), (hsq, .inl (g 0, 192, .inl (aI S)))])) (QcRead ((iI (sdM S (q_ % 16) (q_ / 16))))) 0 0 (fun _ => False) := by
  refine Met.at (by decide) (Nat.le_of_ble_eq_true rfl) ?_
  intro p e s m below meth c hx hb hr hlk hml hown hnm hts hB ls hl
  have hown : s.vm.findClass RX1 = some m.cls := hown
  obtain ⟨hP, hK, hEs⟩ := hB
  have hSt : Stab (fun _ => False) E := hEE.no
  have hS : va_S (fun _ => False) s.heap s.heap [] := va_S.rf
  have nw : nW s := (hEE.cs s hEs).2.2.2.2
  have hl : lv_has ls 2 [(0, .ref hX), (1, .int (iI q_))] := hl
  refine lv_aload_n hx hb dX1_lambda_new_2_0 rfl (lv_at hl 0 rfl) ?_
  refine lv_iload_n hx hb dX1_lambda_new_2_1 rfl (lv_at hl 1 rfl) ?_
  refine g_callV (A := fun _ => False) (As := [.int (iI q_)]) (rest := []) (m_X1_doorSides l G g hX q_ xs hst ss hsq S b0 ta td E hF_xs_0 hF_ss_0 hEE r_q_ kS kQ hq_) hx hb hml hown hts hSt hK hP va_S.rf hEs [0, 1, 2] rfl (q0 := 0) rfl rfl q196 q198 qs3 q94 q199 hd_X1_doorSides rfl rfl ⟨Nat.le_of_ble_eq_true rfl, Nat.le_of_ble_eq_true rfl⟩ rfl hl rfl (Nat.le_of_ble_eq_true rfl) ⟨Nat.le_refl _, Nat.le_refl _⟩ dX1_lambda_new_2_2 ?_
  exact g_iret hx hb hr hlk (rfl) dX1_lambda_new_2_5
theorem hd_X1_rockOn : yX1_rockOn.cls = RX1 ∧ yX1_rockOn.cls ≠ "java/lang/invoke/MethodHandle" ∧ yX1_rockOn.cls ≠ "java/lang/invoke/VarHandle" ∧ (parseMethodDescriptor yX1_rockOn.desc).map (fun d => d.parameters.length) = some 1 := by decide +kernel
set_option maxHeartbeats 1000000 in
set_option maxRecDepth 100000 in
theorem m_X1_rockOn (l : Launch) (G : va_G) (g : Nat → ClassId) (hX : Nat) (place : Int) (xs : List Value) (hst : Nat) (hro : Nat) (br : Int) (ss : List Value) (hsq : Nat) (S : Int → Int) (b0 : Nat) (ta : Nat) (td : Nat) (E : State → Prop) (kR : ClassId) (kD : ClassId) (kO : ClassId) (hF_xs_0 : xs[0]? = some (.ref hst)) (hF_xs_2 : xs[2]? = some (.ref hro)) (hF_xs_10 : xs[10]? = some (.int (iI br))) (hF_ss_0 : ss[0]? = some (.ref hsq)) (hEE : okE b0 ta td E) (hEL : okL kR kD kO E) (r_place : r32 place) (kS : rgS S) (hbr : 1 ≤ br ∧ br ≤ 3) (hp : inPl br place) : Met l yX1_rockOn (ws_ yX1_rockOn cX1_rockOn 4 (Option.some Jvm.ClassFile.FieldType.int)) ({ frames := 3, cells := 0, slots := 0, locals := 62 }) (va_Pc [.ref hX, .int (iI place)] (rdB G CL (TY g) (E) [(hX, .inr (0, xs)), (hst, .inr (1, ss)), (hsq, .inl (g 0, 192, .inl (aI S))), (hro, .inl (kR, 1, .inr (.inr (.inr (.inr (fun _ => some hX))))))])) (QcRead ((iI (rk S br place (-1))))) 0 0 (fun _ => False) := by
  refine Met.at (by decide) (Nat.le_of_ble_eq_true rfl) ?_
  intro p e s m below meth c hx hb hr hlk hml hown hnm hts hB ls hl
  have hown : s.vm.findClass RX1 = some m.cls := hown
  obtain ⟨hP, hK, hEs⟩ := hB
  have hSt : Stab (fun _ => False) E := hEE.no
  have hS : va_S (fun _ => False) s.heap s.heap [] := va_S.rf
  have nw : nW s := (hEE.cs s hEs).2.2.2.2
  have hl : lv_has ls 4 [(0, .ref hX), (1, .int (iI place))] := hl
  have bb := bb_rng hbr
  refine lv_iconst (v := iI 0) hx hb dX1_rockOn_0 rfl ?_
  refine lv_istore_n (lv' := [(2, .int (iI 0)), (0, .ref hX), (1, .int (iI place))]) hx hb dX1_rockOn_1 rfl hl (by decide) rfl (fun ls hl => ?_)
  refine lv_iconst (v := iI 0) hx hb dX1_rockOn_2 rfl ?_
  refine lv_istore_n (lv' := [(3, .int (iI 0)), (2, .int (iI 0)), (0, .ref hX), (1, .int (iI place))]) hx hb dX1_rockOn_3 rfl hl (by decide) rfl (fun ls hl => ?_)
  have lp4 : ∀ (n : Nat) (k : Nat), ((k : Int) ≤ br * br) → (br * br).toNat - k = n → ∀ ls : Array Slot, lv_has ls 4 [(0, .ref hX), (1, .int (iI place)), (2, .int (iI (sumN (roT S br place) k))), (3, .int (iI (k : Int)))] → W p l e ({ frames := 3, cells := 0, slots := 0, locals := 62 }) s m ([.ref hX, .int (iI place)] : List Value).toArray below meth c s.heap [] 0 0 (MQ below (QcRead ((iI (rk S br place (-1))))) ([.ref hX, .int (iI place)] : List Value).toArray s 0 0 (fun _ => False)) (F0 m 4 ls []) := by
    intro n
    refine Nat.strongRecOn n ?_
    intro n ih4 k hk hmu4 ls hl
    have fr := roN_rng S br place k
    refine lv_iload_n hx hb dX1_rockOn_4 rfl (lv_at hl 3 rfl) ?_
    refine lv_aload_n hx hb dX1_rockOn_5 rfl (lv_at hl 0 rfl) ?_
    refine va_get (D := G) (ci := 0) (v := .int (iI br)) (C := RX1) (T := TX1) (N := 13) hx hb hts in_X1 hown hK hP 0 rfl rfl 10 (by decide) (hts _ q258) (fun _ h9 => h9) hF_xs_10 dX1_rockOn_6 ?_
    refine lv_aload_n hx hb dX1_rockOn_9 rfl (lv_at hl 0 rfl) ?_
    refine va_get (D := G) (ci := 0) (v := .int (iI br)) (C := RX1) (T := TX1) (N := 13) hx hb hts in_X1 hown hK hP 0 rfl rfl 10 (by decide) (hts _ q258) (fun _ h9 => h9) hF_xs_10 dX1_rockOn_10 ?_
    refine g_imul hx hb dX1_rockOn_13 ?_
    refine g_icmp_ge (tgt := 53) hx hb dX1_rockOn_14 (by decide) ⟨⟨by omega, by omega⟩, ⟨by omega, by omega⟩⟩ (fun c1 => ?_) (fun c1 => ?_)
    · refine lv_iload_n hx hb dX1_rockOn_53 rfl (lv_at hl 2 rfl) ?_
      exact g_iret hx hb hr hlk (by rw [show k = (br * br).toNat from by omega]; exact ro_rk hbr hp) dX1_rockOn_54
    · have dk := dm (k := (k : Int)) (b := br) (by omega) hbr.1 (by assumption)
      refine lv_iload_n hx hb dX1_rockOn_17 rfl (lv_at hl 2 rfl) ?_
      refine lv_aload_n hx hb dX1_rockOn_18 rfl (lv_at hl 0 rfl) ?_
      refine va_get (D := G) (ci := 0) (v := .ref hro) (C := RX1) (T := TX1) (N := 13) hx hb hts in_X1 hown hK hP 0 rfl rfl 2 (by decide) (hts _ q250) (fun _ h9 => h9) hF_xs_2 dX1_rockOn_19 ?_
      refine lv_iload_n hx hb dX1_rockOn_22 rfl (lv_at hl 1 rfl) ?_
      refine lv_bipush (v := iI 16) hx hb dX1_rockOn_23 rfl ?_
      refine lv_iload_n hx hb dX1_rockOn_25 rfl (lv_at hl 3 rfl) ?_
      refine lv_aload_n hx hb dX1_rockOn_26 rfl (lv_at hl 0 rfl) ?_
      refine va_get (D := G) (ci := 0) (v := .int (iI br)) (C := RX1) (T := TX1) (N := 13) hx hb hts in_X1 hown hK hP 0 rfl rfl 10 (by decide) (hts _ q258) (fun _ h9 => h9) hF_xs_10 dX1_rockOn_27 ?_
      refine g_idiv hx hb dX1_rockOn_30 ⟨⟨by omega, by omega⟩, ⟨by omega, by omega⟩⟩ ?_
      refine g_imul hx hb dX1_rockOn_31 ?_
      refine g_iadd hx hb dX1_rockOn_32 ?_
      refine lv_iload_n hx hb dX1_rockOn_33 rfl (lv_at hl 3 rfl) ?_
      refine lv_aload_n hx hb dX1_rockOn_34 rfl (lv_at hl 0 rfl) ?_
      refine va_get (D := G) (ci := 0) (v := .int (iI br)) (C := RX1) (T := TX1) (N := 13) hx hb hts in_X1 hown hK hP 0 rfl rfl 10 (by decide) (hts _ q258) (fun _ h9 => h9) hF_xs_10 dX1_rockOn_35 ?_
      refine g_irem hx hb dX1_rockOn_38 ⟨⟨by omega, by omega⟩, ⟨by omega, by omega⟩⟩ ?_
      refine g_iadd hx hb dX1_rockOn_39 ?_
      refine g_lam (A := fun _ => False) (rest := [.int (iI (sumN (roT S br place) k))]) lam0 rfl (hEL s hEs).1 (hEL s hEs).2.1 (m_X1_lambda_new_0 l G g hX ((place + (16 * ((k : Int) / br))) + ((k : Int) % br)) xs hst ss hsq S b0 ta td E hF_xs_0 hF_ss_0 hEE (⟨by omega, by omega⟩) kS (by omega)) hx hb hml hown hts hSt hK hP va_S.rf hEs [0, 1, 2] rfl (q0 := 3) (q9 := 0) rfl rfl rfl q521 q185 qs0 q94 q186 rfl rfl ⟨Nat.le_of_ble_eq_true rfl, Nat.le_of_ble_eq_true rfl⟩ hl rfl (Nat.le_of_ble_eq_true rfl) ⟨Nat.le_refl _, Nat.le_refl _⟩ dX1_rockOn_40 ?_
      refine g_iadd hx hb dX1_rockOn_45 ?_
      refine lv_istore_n (lv' := [(2, .int (iI ((sumN (roT S br place) k) + (qz (S ((place + (16 * ((k : Int) / br))) + ((k : Int) % br)) = -2))))), (0, .ref hX), (1, .int (iI place)), (3, .int (iI (k : Int)))]) hx hb dX1_rockOn_46 rfl hl (by decide) rfl (fun ls hl => ?_)
      refine g_iinc (lv' := [(3, .int (iI ((k : Int) + 1))), (2, .int (iI ((sumN (roT S br place) k) + (qz (S ((place + (16 * ((k : Int) / br))) + ((k : Int) % br)) = -2))))), (0, .ref hX), (1, .int (iI place))]) hx hb dX1_rockOn_47 hl (k := 3) rfl (by decide) rfl (fun ls hl => ?_)
      refine lv_goto (tgt := 4) hx hb dX1_rockOn_50 (by decide) ?_
      exact ih4 _ (by omega) (k + 1) (by omega) rfl ls (lv_sub hl [2, 3, 1, 0] rfl)
  exact lp4 _ 0 (by omega) rfl ls (lv_sub hl [2, 3, 1, 0] rfl)
theorem hd_X1_newRock : yX1_newRock.cls = RX1 ∧ yX1_newRock.cls ≠ "java/lang/invoke/MethodHandle" ∧ yX1_newRock.cls ≠ "java/lang/invoke/VarHandle" ∧ (parseMethodDescriptor yX1_newRock.desc).map (fun d => d.parameters.length) = some 2 := by decide +kernel
set_option maxHeartbeats 1000000 in
set_option maxRecDepth 100000 in
theorem m_X1_newRock (l : Launch) (G : va_G) (g : Nat → ClassId) (hX : Nat) (place : Int) (d : Int) (xs : List Value) (hst : Nat) (hro : Nat) (br : Int) (ss : List Value) (hsq : Nat) (S : Int → Int) (b0 : Nat) (ta : Nat) (td : Nat) (E : State → Prop) (kR : ClassId) (kD : ClassId) (kO : ClassId) (hF_xs_0 : xs[0]? = some (.ref hst)) (hF_xs_2 : xs[2]? = some (.ref hro)) (hF_xs_10 : xs[10]? = some (.int (iI br))) (hF_ss_0 : ss[0]? = some (.ref hsq)) (hEE : okE b0 ta td E) (hEL : okL kR kD kO E) (r_place : r32 place) (r_d : r32 d) (kS : rgS S) (hbr : 1 ≤ br ∧ br ≤ 3) (hp : inPl br place) (hd4 : 0 ≤ d ∧ d ≤ 3) : Met l yX1_newRock (ws_ yX1_newRock cX1_newRock 7 (Option.some Jvm.ClassFile.FieldType.int)) ({ frames := 3, cells := 0, slots := 0, locals := 62 }) (va_Pc [.ref hX, .int (iI place), .int (iI d)] (rdB G CL (TY g) (E) [(hX, .inr (0, xs)), (hst, .inr (1, ss)), (hsq, .inl (g 0, 192, .inl (aI S))), (hro, .inl (kR, 1, .inr (.inr (.inr (.inr (fun _ => some hX))))))])) (QcRead ((iI (nrk S br place d)))) 0 0 (fun _ => False) := by
  refine Met.at (by decide) (Nat.le_of_ble_eq_true rfl) ?_
  intro p e s m below meth c hx hb hr hlk hml hown hnm hts hB ls hl
  have hown : s.vm.findClass RX1 = some m.cls := hown
  obtain ⟨hP, hK, hEs⟩ := hB
  have hSt : Stab (fun _ => False) E := hEE.no
  have hS : va_S (fun _ => False) s.heap s.heap [] := va_S.rf
  have nw : nW s := (hEE.cs s hEs).2.2.2.2
  have zta := (hEE.cs s hEs).1.narrow (B := (fun _ => False)) (fun _ z => z.elim)
  have tta := (hEE.cs s hEs).2.1.narrow (B := (fun _ => False)) (fun _ z => z.elim)
  have ztd := (hEE.cs s hEs).2.2.1.narrow (B := (fun _ => False)) (fun _ z => z.elim)
  have ttd := (hEE.cs s hEs).2.2.2.1.narrow (B := (fun _ => False)) (fun _ z => z.elim)
  have hl : lv_has ls 7 [(0, .ref hX), (1, .int (iI place)), (2, .int (iI d))] := hl
  have bb := bb_rng hbr
  refine lv_iconst (v := iI 0) hx hb dX1_newRock_0 rfl ?_
  refine lv_istore_n (lv' := [(3, .int (iI 0)), (0, .ref hX), (1, .int (iI place)), (2, .int (iI d))]) hx hb dX1_newRock_1 rfl hl (by decide) rfl (fun ls hl => ?_)
  refine lv_iconst (v := iI 0) hx hb dX1_newRock_2 rfl ?_
  refine lv_istore (lv' := [(4, .int (iI 0)), (3, .int (iI 0)), (0, .ref hX), (1, .int (iI place)), (2, .int (iI d))]) hx hb dX1_newRock_3 hl (by decide) rfl (fun ls hl => ?_)
  have lp5 : ∀ (n : Nat) (k : Nat), ((k : Int) ≤ br) → br.toNat - k = n → ∀ ls : Array Slot, lv_has ls 7 [(0, .ref hX), (1, .int (iI place)), (2, .int (iI d)), (3, .int (iI (sumN (nrT S br place d) k))), (4, .int (iI (k : Int)))] → W p l e ({ frames := 3, cells := 0, slots := 0, locals := 62 }) s m ([.ref hX, .int (iI place), .int (iI d)] : List Value).toArray below meth c s.heap [] 0 0 (MQ below (QcRead ((iI (nrk S br place d)))) ([.ref hX, .int (iI place), .int (iI d)] : List Value).toArray s 0 0 (fun _ => False)) (F0 m 5 ls []) := by
    intro n
    refine Nat.strongRecOn n ?_
    intro n ih5 k hk hmu5 ls hl
    have fr := nrN_rng S br place d k
    refine lv_iload hx hb dX1_newRock_5 (lv_at hl 4 rfl) ?_
    refine lv_aload_n hx hb dX1_newRock_7 rfl (lv_at hl 0 rfl) ?_
    refine va_get (D := G) (ci := 0) (v := .int (iI br)) (C := RX1) (T := TX1) (N := 13) hx hb hts in_X1 hown hK hP 0 rfl rfl 10 (by decide) (hts _ q258) (fun _ h9 => h9) hF_xs_10 dX1_newRock_8 ?_
    refine g_icmp_ge (tgt := 108) hx hb dX1_newRock_11 (by decide) ⟨⟨by omega, by omega⟩, ⟨by omega, by omega⟩⟩ (fun c1 => ?_) (fun c1 => ?_)
    · refine lv_iload_n hx hb dX1_newRock_108 rfl (lv_at hl 3 rfl) ?_
      exact g_iret hx hb hr hlk (by rw [show k = br.toNat from by omega]; rfl) dX1_newRock_109
    · refine va_gets hx hb zta hS hown (hts _ q506) (fun _ h9 => h9) dX1_newRock_14 ?_
      refine lv_iload_n hx hb dX1_newRock_17 rfl (lv_at hl 2 rfl) ?_
      refine g_ti (f := dx) hx hb tta hS (i := d) (⟨by omega, by omega⟩) dX1_newRock_18 ?_
      have w2 := dx_rng d
      have hJ3 : ∀ ls : Array Slot, lv_has ls 7 [(0, .ref hX), (1, .int (iI place)), (2, .int (iI d)), (3, .int (iI (sumN (nrT S br place d) k))), (4, .int (iI (k : Int)))] → W p l e ({ frames := 3, cells := 0, slots := 0, locals := 62 }) s m ([.ref hX, .int (iI place), .int (iI d)] : List Value).toArray below meth c s.heap [] 0 0 (MQ below (QcRead ((iI (nrk S br place d)))) ([.ref hX, .int (iI place), .int (iI d)] : List Value).toArray s 0 0 (fun _ => False)) (F0 m 45 ls [.int (iI (zi ((dx d) = 0) (k : Int) (zi ((dx d) < 0) 0 (br - 1))))]) := by
        intro ls hl
        have o5 := zi_or ((dx d) = 0) (k : Int) (zi ((dx d) < 0) 0 (br - 1))
        have o6 := zi_or ((dx d) < 0) 0 (br - 1)
        obtain ⟨v4, e_v4⟩ : ∃ z : Int, z = zi ((dx d) = 0) (k : Int) (zi ((dx d) < 0) 0 (br - 1)) := ⟨_, rfl⟩
        refine g_eq e_v4.symm ?_
        refine lv_istore (lv' := [(5, .int (iI v4)), (0, .ref hX), (1, .int (iI place)), (2, .int (iI d)), (3, .int (iI (sumN (nrT S br place d) k))), (4, .int (iI (k : Int)))]) hx hb dX1_newRock_45 hl (by decide) rfl (fun ls hl => ?_)
        refine va_gets hx hb ztd hS hown (hts _ q507) (fun _ h9 => h9) dX1_newRock_47 ?_
        refine lv_iload_n hx hb dX1_newRock_50 rfl (lv_at hl 3 rfl) ?_
        refine g_ti (f := dy) hx hb ttd hS (i := d) (⟨by omega, by omega⟩) dX1_newRock_51 ?_
        have w7 := dy_rng d
        have hJ8 : ∀ ls : Array Slot, lv_has ls 7 [(0, .ref hX), (1, .int (iI place)), (2, .int (iI d)), (3, .int (iI (sumN (nrT S br place d) k))), (4, .int (iI (k : Int))), (5, .int (iI v4))] → W p l e ({ frames := 3, cells := 0, slots := 0, locals := 62 }) s m ([.ref hX, .int (iI place), .int (iI d)] : List Value).toArray below meth c s.heap [] 0 0 (MQ below (QcRead ((iI (nrk S br place d)))) ([.ref hX, .int (iI place), .int (iI d)] : List Value).toArray s 0 0 (fun _ => False)) (F0 m 78 ls [.int (iI (zi ((dy d) = 0) (k : Int) (zi ((dy d) < 0) 0 (br - 1))))]) := by
          intro ls hl
          have o10 := zi_or ((dy d) = 0) (k : Int) (zi ((dy d) < 0) 0 (br - 1))
          have o11 := zi_or ((dy d) < 0) 0 (br - 1)
          obtain ⟨v9, e_v9⟩ : ∃ z : Int, z = zi ((dy d) = 0) (k : Int) (zi ((dy d) < 0) 0 (br - 1)) := ⟨_, rfl⟩
          refine g_eq e_v9.symm ?_
          refine lv_istore (lv' := [(6, .int (iI v9)), (0, .ref hX), (1, .int (iI place)), (2, .int (iI d)), (3, .int (iI (sumN (nrT S br place d) k))), (4, .int (iI (k : Int))), (5, .int (iI v4))]) hx hb dX1_newRock_78 hl (by decide) rfl (fun ls hl => ?_)
          refine lv_iload_n hx hb dX1_newRock_80 rfl (lv_at hl 4 rfl) ?_
          refine lv_aload_n hx hb dX1_newRock_81 rfl (lv_at hl 1 rfl) ?_
          refine va_get (D := G) (ci := 0) (v := .ref hro) (C := RX1) (T := TX1) (N := 13) hx hb hts in_X1 hown hK hP 0 rfl rfl 2 (by decide) (hts _ q250) (fun _ h9 => h9) hF_xs_2 dX1_newRock_82 ?_
          refine lv_iload_n hx hb dX1_newRock_85 rfl (lv_at hl 2 rfl) ?_
          refine lv_bipush (v := iI 16) hx hb dX1_newRock_86 rfl ?_
          refine lv_iload hx hb dX1_newRock_88 (lv_at hl 0 rfl) ?_
          refine g_imul hx hb dX1_newRock_90 ?_
          refine g_iadd hx hb dX1_newRock_91 ?_
          refine lv_iload hx hb dX1_newRock_92 (lv_at hl 6 rfl) ?_
          refine g_iadd hx hb dX1_newRock_94 ?_
          refine g_lam (A := fun _ => False) (rest := [.int (iI (sumN (nrT S br place d) k))]) lam0 rfl (hEL s hEs).1 (hEL s hEs).2.1 (m_X1_lambda_new_0 l G g hX ((place + (16 * v9)) + v4) xs hst ss hsq S b0 ta td E hF_xs_0 hF_ss_0 hEE (⟨by omega, by omega⟩) kS (by omega)) hx hb hml hown hts hSt hK hP va_S.rf hEs [0, 1, 2] rfl (q0 := 3) (q9 := 0) rfl rfl rfl q521 q185 qs0 q94 q186 rfl rfl ⟨Nat.le_of_ble_eq_true rfl, Nat.le_of_ble_eq_true rfl⟩ hl rfl (Nat.le_of_ble_eq_true rfl) ⟨Nat.le_refl _, Nat.le_refl _⟩ dX1_newRock_95 ?_
          refine g_iadd hx hb dX1_newRock_100 ?_
          refine lv_istore_n (lv' := [(3, .int (iI ((sumN (nrT S br place d) k) + (qz (S ((place + (16 * v9)) + v4) = -2))))), (6, .int (iI v9)), (0, .ref hX), (1, .int (iI place)), (2, .int (iI d)), (4, .int (iI (k : Int))), (5, .int (iI v4))]) hx hb dX1_newRock_101 rfl hl (by decide) rfl (fun ls hl => ?_)
          refine g_iinc (lv' := [(4, .int (iI ((k : Int) + 1))), (3, .int (iI ((sumN (nrT S br place d) k) + (qz (S ((place + (16 * v9)) + v4) = -2))))), (6, .int (iI v9)), (0, .ref hX), (1, .int (iI place)), (2, .int (iI d)), (5, .int (iI v4))]) hx hb dX1_newRock_102 hl (k := 5) rfl (by decide) rfl (fun ls hl => ?_)
          refine lv_goto (tgt := 5) hx hb dX1_newRock_105 (by decide) ?_
          exact ih5 _ (by omega) (k + 1) (by omega) rfl ls (by rw [show sumN (nrT S br place d) (k + 1) = (sumN (nrT S br place d) k) + (qz (S ((place + (16 * v9)) + v4) = -2)) from by rw [e_v9, e_v4]; rfl]; exact lv_sub hl [3, 4, 5, 1, 0] rfl)
        refine g_if_ne (tgt := 60) hx hb dX1_newRock_52 (by decide) ⟨by omega, by omega⟩ (fun c12 => ?_) (fun c12 => ?_)
        · refine va_gets hx hb ztd hS hown (hts _ q507) (fun _ h9 => h9) dX1_newRock_60 ?_
          refine lv_iload_n hx hb dX1_newRock_63 rfl (lv_at hl 3 rfl) ?_
          refine g_ti (f := dy) hx hb ttd hS (i := d) (⟨by omega, by omega⟩) dX1_newRock_64 ?_
          have w13 := dy_rng d
          refine g_if_ge (tgt := 72) hx hb dX1_newRock_65 (by decide) ⟨by omega, by omega⟩ (fun c14 => ?_) (fun c14 => ?_)
          · refine lv_aload_n hx hb dX1_newRock_72 rfl (lv_at hl 1 rfl) ?_
            refine va_get (D := G) (ci := 0) (v := .int (iI br)) (C := RX1) (T := TX1) (N := 13) hx hb hts in_X1 hown hK hP 0 rfl rfl 10 (by decide) (hts _ q258) (fun _ h9 => h9) hF_xs_10 dX1_newRock_73 ?_
            refine lv_iconst (v := iI 1) hx hb dX1_newRock_76 rfl ?_
            refine g_isub hx hb dX1_newRock_77 ?_
            refine g_eq (b := zi ((dy d) = 0) (k : Int) (zi ((dy d) < 0) 0 (br - 1))) (((zi_f c12).trans (zi_f c14))).symm ?_
            exact hJ8 ls (lv_sub hl [1, 2, 3, 4, 5, 0] rfl)
          · refine lv_iconst (v := iI 0) hx hb dX1_newRock_68 rfl ?_
            refine lv_goto (tgt := 78) hx hb dX1_newRock_69 (by decide) ?_
            refine g_eq (b := zi ((dy d) = 0) (k : Int) (zi ((dy d) < 0) 0 (br - 1))) (((zi_f c12).trans (zi_t c14))).symm ?_
            exact hJ8 ls (lv_sub hl [1, 2, 3, 4, 5, 0] rfl)
        · refine lv_iload hx hb dX1_newRock_55 (lv_at hl 5 rfl) ?_
          refine lv_goto (tgt := 78) hx hb dX1_newRock_57 (by decide) ?_
          refine g_eq (b := zi ((dy d) = 0) (k : Int) (zi ((dy d) < 0) 0 (br - 1))) ((zi_t c12)).symm ?_
          exact hJ8 ls (lv_sub hl [1, 2, 3, 4, 5, 0] rfl)
      refine g_if_ne (tgt := 27) hx hb dX1_newRock_19 (by decide) ⟨by omega, by omega⟩ (fun c15 => ?_) (fun c15 => ?_)
      · refine va_gets hx hb zta hS hown (hts _ q506) (fun _ h9 => h9) dX1_newRock_27 ?_
        refine lv_iload_n hx hb dX1_newRock_30 rfl (lv_at hl 2 rfl) ?_
        refine g_ti (f := dx) hx hb tta hS (i := d) (⟨by omega, by omega⟩) dX1_newRock_31 ?_
        have w16 := dx_rng d
        refine g_if_ge (tgt := 39) hx hb dX1_newRock_32 (by decide) ⟨by omega, by omega⟩ (fun c17 => ?_) (fun c17 => ?_)
        · refine lv_aload_n hx hb dX1_newRock_39 rfl (lv_at hl 0 rfl) ?_
          refine va_get (D := G) (ci := 0) (v := .int (iI br)) (C := RX1) (T := TX1) (N := 13) hx hb hts in_X1 hown hK hP 0 rfl rfl 10 (by decide) (hts _ q258) (fun _ h9 => h9) hF_xs_10 dX1_newRock_40 ?_
          refine lv_iconst (v := iI 1) hx hb dX1_newRock_43 rfl ?_
          refine g_isub hx hb dX1_newRock_44 ?_
          refine g_eq (b := zi ((dx d) = 0) (k : Int) (zi ((dx d) < 0) 0 (br - 1))) (((zi_f c15).trans (zi_f c17))).symm ?_
          exact hJ3 ls (lv_sub hl [0, 1, 2, 3, 4] rfl)
        · refine lv_iconst (v := iI 0) hx hb dX1_newRock_35 rfl ?_
          refine lv_goto (tgt := 45) hx hb dX1_newRock_36 (by decide) ?_
          refine g_eq (b := zi ((dx d) = 0) (k : Int) (zi ((dx d) < 0) 0 (br - 1))) (((zi_f c15).trans (zi_t c17))).symm ?_
          exact hJ3 ls (lv_sub hl [0, 1, 2, 3, 4] rfl)
      · refine lv_iload hx hb dX1_newRock_22 (lv_at hl 4 rfl) ?_
        refine lv_goto (tgt := 45) hx hb dX1_newRock_24 (by decide) ?_
        refine g_eq (b := zi ((dx d) = 0) (k : Int) (zi ((dx d) < 0) 0 (br - 1))) ((zi_t c15)).symm ?_
        exact hJ3 ls (lv_sub hl [0, 1, 2, 3, 4] rfl)
  exact lp5 _ 0 (by omega) rfl ls (lv_sub hl [2, 3, 4, 1, 0] rfl)
