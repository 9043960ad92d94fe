/-! what the reference reads: pure words over a state's array S (squares 0..191, chambers 192.., widths 216.., setting 252) -/
def rgS (S : Int → Int) : Prop := ∀ i : Int, 0 ≤ i → i < 253 → -2 ≤ S i ∧ S i ≤ 15
abbrev isSq (x y : Int) : Prop := (0 ≤ x ∧ x ≤ 15) ∧ (0 ≤ y ∧ y ≤ 11)
noncomputable def wh (S : Int → Int) (x y : Int) : Int := zi (isSq x y) (S (16 * y + x)) 99
theorem wh_rng {S : Int → Int} (k : rgS S) (x y : Int) : -2 ≤ wh S x y ∧ wh S x y ≤ 99 := by
  unfold wh
  rcases zi_or (isSq x y) (S (16 * y + x)) 99 with ⟨h, e⟩ | ⟨-, e⟩
  · have := k (16 * y + x) (by omega) (by omega)
    omega
  · omega
abbrev isTh (S : Int → Int) (r : Int) : Prop := (0 ≤ r ∧ r ≤ 5) ∧ 0 < S (192 + 4 * r + 2)
def plc (S : Int → Int) (b x y : Int) : Prop := (0 ≤ x ∧ 0 ≤ y ∧ x + b ≤ 16 ∧ y + b ≤ 12) ∧ ∀ k : Int, 0 ≤ k → k < b * b → wh S (x + k % b) (y + k / b) < 0
abbrev bsd (S : Int → Int) (x y r : Int) : Prop := wh S (x - 1) y = r ∨ wh S (x + 1) y = r ∨ wh S x (y - 1) = r ∨ wh S x (y + 1) = r
def atN (S : Int → Int) (b p r : Int) : Nat → Prop
  | 0 => False
  | k + 1 => atN S b p r k ∨ bsd S (p % 16 + (k : Int) % b) (p / 16 + (k : Int) / b) r
def atR (S : Int → Int) (b p r : Int) : Prop := atN S b p r (b * b).toNat
abbrev hadP (b p q k : Int) : Prop := ¬ q = -1 ∧ ((0 ≤ (p % 16 + k % b) - q % 16 ∧ (p % 16 + k % b) - q % 16 ≤ b - 1) ∧ (0 ≤ (p / 16 + k / b) - q / 16 ∧ (p / 16 + k / b) - q / 16 ≤ b - 1))
noncomputable def rkT (S : Int → Int) (b p q k : Int) : Int := qz (¬ hadP b p q k ∧ wh S (p % 16 + k % b) (p / 16 + k / b) = -2)
noncomputable def rk (S : Int → Int) (b p q : Int) : Int := sumN (rkT S b p q) (b * b).toNat
theorem rkN_rng (S : Int → Int) (b p q : Int) (n : Nat) : 0 ≤ sumN (rkT S b p q) n ∧ sumN (rkT S b p q) n ≤ n := by
  have h1 := sumN_nn (f := rkT S b p q) n (fun k _ _ => (qz_01 _).1)
  have h2 := sumN_le (f := rkT S b p q) (b := 1) n (fun k _ _ => (qz_01 _).2)
  omega
theorem rk_rng (S : Int → Int) {b : Int} (p q : Int) (h : 1 ≤ b ∧ b ≤ 3) : 0 ≤ rk S b p q ∧ rk S b p q ≤ 9 := by
  have h1 := rkN_rng S b p q (b * b).toNat
  have h2 := bb_rng h
  unfold rk
  omega
def dx (d : Int) : Int := if d = 0 then -1 else if d = 1 then 1 else 0
def dy (d : Int) : Int := if d = 2 then -1 else if d = 3 then 1 else 0
theorem dx_rng (d : Int) : -1 ≤ dx d ∧ dx d ≤ 1 := by unfold dx; split <;> (try split) <;> omega
theorem dy_rng (d : Int) : -1 ≤ dy d ∧ dy d ≤ 1 := by unfold dy; split <;> (try split) <;> omega
theorem dx_r (i : Int) (_ : 0 ≤ i) (_ : i < 4) : -1 ≤ dx i ∧ dx i ≤ 1 := dx_rng i
theorem dy_r (i : Int) (_ : 0 ≤ i) (_ : i < 4) : -1 ≤ dy i ∧ dy i ≤ 1 := dy_rng i
noncomputable def nxM (S : Int → Int) (b p d : Int) : Int := zi (plc S b (p % 16 + dx d) (p / 16 + dy d)) (16 * (p / 16 + dy d) + (p % 16 + dx d)) (-1)
theorem nxM_rng (S : Int → Int) {b : Int} (p d : Int) (h : 1 ≤ b) : -1 ≤ nxM S b p d ∧ nxM S b p d ≤ 191 := by
  unfold nxM
  rcases zi_or (plc S b (p % 16 + dx d) (p / 16 + dy d)) (16 * (p / 16 + dy d) + (p % 16 + dx d)) (-1) with ⟨⟨h1, -⟩, e⟩ | ⟨-, e⟩ <;> omega

theorem hd_X3_in : yX3_in.cls ≠ "java/lang/invoke/MethodHandle" ∧ yX3_in.cls ≠ "java/lang/invoke/VarHandle" ∧ (parseMethodDescriptor yX3_in.desc).map (fun d => d.parameters.length) = some 3 := by decide +kernel
set_option maxHeartbeats 4000000 in
set_option maxRecDepth 100000 in
theorem m_X3_in (l : Launch) (G : va_G) (g : Nat → ClassId) (v : Int) (lo : Int) (hi : Int) (r_v : r32 v) (r_lo : r32 lo) (r_hi : r32 hi) : Met l yX3_in (ws_ yX3_in cX3_in 3 (Option.some Jvm.ClassFile.FieldType.boolean)) ({ frames := 0, cells := 0, slots := 0, locals := 0 }) (va_Pc [.int (iI v), .int (iI lo), .int (iI hi)] (rdB G CL (TY g) (fun _ => True) [])) (QcRead ((iI (qz (lo ≤ v ∧ v ≤ hi))))) 0 0 (fun _ => False) := by
  refine Met.at (by decide) (Nat.le_of_ble_eq_true rfl) ?_
  intro p e s m below meth c hx hb hr hlk hml hown hnm hts hB ls hl
  have hown : s.vm.findClass RX3 = some m.cls := hown
  obtain ⟨hP, hK, hEs⟩ := hB
  have hl : lv_has ls 3 [(0, .int (iI v)), (1, .int (iI lo)), (2, .int (iI hi))] := hl
  refine lv_iload_n hx hb dX3_in_0 rfl (lv_at hl 0 rfl) ?_
  refine lv_iload_n hx hb dX3_in_1 rfl (lv_at hl 1 rfl) ?_
  have hJ1 : ∀ ls : Array Slot, lv_has ls 3 [(0, .int (iI v)), (1, .int (iI lo)), (2, .int (iI hi))] → W p l e ({ frames := 0, cells := 0, slots := 0, locals := 0 }) s m ([.int (iI v), .int (iI lo), .int (iI hi)] : List Value).toArray below meth c s.heap [] 0 0 (MQ below (QcRead ((iI (qz (lo ≤ v ∧ v ≤ hi))))) ([.int (iI v), .int (iI lo), .int (iI hi)] : List Value).toArray s 0 0 (fun _ => False)) (F0 m 15 ls [.int (iI (qz (¬ (v < lo) ∧ (¬ (hi < v)))))]) := by
    intro ls hl
    exact g_zret hx hb hr hlk (by first | exact Iff.rfl | (constructor <;> intro _ <;> omega)) dX3_in_15
  refine g_icmp_lt (tgt := 14) hx hb dX3_in_2 (by decide) ⟨r_v, r_lo⟩ (fun c2 => ?_) (fun c2 => ?_)
  · refine lv_iconst (v := iI 0) hx hb dX3_in_14 rfl ?_
    refine g_eq (b := qz (¬ (v < lo) ∧ (¬ (hi < v)))) (qz_f (fun xx => (xx.1 c2))).symm ?_
    exact hJ1 ls (lv_sub hl [0, 1, 2] rfl)
  · refine lv_iload_n hx hb dX3_in_5 rfl (lv_at hl 0 rfl) ?_
    refine lv_iload_n hx hb dX3_in_6 rfl (lv_at hl 2 rfl) ?_
    refine g_icmp_gt (tgt := 14) hx hb dX3_in_7 (by decide) ⟨r_v, r_hi⟩ (fun c3 => ?_) (fun c3 => ?_)
    · refine lv_iconst (v := iI 0) hx hb dX3_in_14 rfl ?_
      refine g_eq (b := qz (¬ (v < lo) ∧ (¬ (hi < v)))) (qz_f (fun xx => (xx.2 c3))).symm ?_
      exact hJ1 ls (lv_sub hl [0, 1, 2] rfl)
    · refine lv_iconst (v := iI 1) hx hb dX3_in_10 rfl ?_
      refine lv_goto (tgt := 15) hx hb dX3_in_11 (by decide) ?_
      refine g_eq (b := qz (¬ (v < lo) ∧ (¬ (hi < v)))) (qz_t ⟨c2, c3⟩).symm ?_
      exact hJ1 ls (lv_sub hl [0, 1, 2] rfl)
theorem hd_X3_isSquare : yX3_isSquare.cls ≠ "java/lang/invoke/MethodHandle" ∧ yX3_isSquare.cls ≠ "java/lang/invoke/VarHandle" ∧ (parseMethodDescriptor yX3_isSquare.desc).map (fun d => d.parameters.length) = some 2 := by decide +kernel
set_option maxHeartbeats 4000000 in
set_option maxRecDepth 100000 in
theorem m_X3_isSquare (l : Launch) (G : va_G) (g : Nat → ClassId) (x : Int) (y : Int) (r_x : r32 x) (r_y : r32 y) : Met l yX3_isSquare (ws_ yX3_isSquare cX3_isSquare 2 (Option.some Jvm.ClassFile.FieldType.boolean)) ({ frames := 1, cells := 0, slots := 0, locals := 22 }) (va_Pc [.int (iI x), .int (iI y)] (rdB G CL (TY g) (fun _ => True) [])) (QcRead ((iI (qz (isSq x y))))) 0 0 (fun _ => False) := by
  refine Met.at (by decide) (Nat.le_of_ble_eq_true rfl) ?_
  intro p e s m below meth c hx hb hr hlk hml hown hnm hts hB ls hl
  have hown : s.vm.findClass RX3 = some m.cls := hown
  obtain ⟨hP, hK, hEs⟩ := hB
  have hl : lv_has ls 2 [(0, .int (iI x)), (1, .int (iI y))] := hl
  refine lv_iload_n hx hb dX3_isSquare_0 rfl (lv_at hl 0 rfl) ?_
  refine lv_iconst (v := iI 0) hx hb dX3_isSquare_1 rfl ?_
  refine lv_bipush (v := iI 15) hx hb dX3_isSquare_2 rfl ?_
  refine g_callS (A := fun _ => False) (As := [.int (iI x), .int (iI 0), .int (iI 15)]) (rest := []) (m_X3_in l G g x 0 15 r_x ⟨by decide, by decide⟩ ⟨by decide, by decide⟩) hx hb hml hown hts Stab.tt hK hP va_S.rf hEs [] rfl q1518 q1519 q102 q1520 hd_X3_in rfl rfl ⟨Nat.le_of_ble_eq_true rfl, Nat.le_of_ble_eq_true rfl⟩ rfl hl rfl (Nat.le_of_ble_eq_true rfl) ⟨Nat.le_refl _, Nat.le_refl _⟩ dX3_isSquare_4 ?_
  have hJ1 : ∀ ls : Array Slot, lv_has ls 2 [(0, .int (iI x)), (1, .int (iI y))] → W p l e ({ frames := 1, cells := 0, slots := 0, locals := 22 }) s m ([.int (iI x), .int (iI y)] : List Value).toArray below meth c s.heap [] 0 0 (MQ below (QcRead ((iI (qz (isSq x y))))) ([.int (iI x), .int (iI y)] : List Value).toArray s 0 0 (fun _ => False)) (F0 m 25 ls [.int (iI (qz ((0 ≤ x ∧ x ≤ 15) ∧ (0 ≤ y ∧ y ≤ 11))))]) := by
    intro ls hl
    exact g_zret hx hb hr hlk (by first | exact Iff.rfl | (constructor <;> intro _ <;> omega)) dX3_isSquare_25
  refine g_ifq_eq (tgt := 24) hx hb dX3_isSquare_7 (by decide) (fun c2 => ?_) (fun c2 => ?_)
  · refine lv_iconst (v := iI 0) hx hb dX3_isSquare_24 rfl ?_
    refine g_eq (b := qz ((0 ≤ x ∧ x ≤ 15) ∧ (0 ≤ y ∧ y ≤ 11))) (qz_f (fun xx => (c2 xx.1))).symm ?_
    exact hJ1 ls (lv_sub hl [0, 1] rfl)
  · refine lv_iload_n hx hb dX3_isSquare_10 rfl (lv_at hl 1 rfl) ?_
    refine lv_iconst (v := iI 0) hx hb dX3_isSquare_11 rfl ?_
    refine lv_bipush (v := iI 11) hx hb dX3_isSquare_12 rfl ?_
    refine g_callS (A := fun _ => False) (As := [.int (iI y), .int (iI 0), .int (iI 11)]) (rest := []) (m_X3_in l G g y 0 11 r_y ⟨by decide, by decide⟩ ⟨by decide, by decide⟩) hx hb hml hown hts Stab.tt hK hP va_S.rf hEs [] rfl q1518 q1519 q102 q1520 hd_X3_in rfl rfl ⟨Nat.le_of_ble_eq_true rfl, Nat.le_of_ble_eq_true rfl⟩ rfl hl rfl (Nat.le_of_ble_eq_true rfl) ⟨Nat.le_refl _, Nat.le_refl _⟩ dX3_isSquare_14 ?_
    refine g_ifq_eq (tgt := 24) hx hb dX3_isSquare_17 (by decide) (fun c3 => ?_) (fun c3 => ?_)
    · refine lv_iconst (v := iI 0) hx hb dX3_isSquare_24 rfl ?_
      refine g_eq (b := qz ((0 ≤ x ∧ x ≤ 15) ∧ (0 ≤ y ∧ y ≤ 11))) (qz_f (fun xx => (c3 xx.2))).symm ?_
      exact hJ1 ls (lv_sub hl [0, 1] rfl)
    · refine lv_iconst (v := iI 1) hx hb dX3_isSquare_20 rfl ?_
      refine lv_goto (tgt := 25) hx hb dX3_isSquare_21 (by decide) ?_
      refine g_eq (b := qz ((0 ≤ x ∧ x ≤ 15) ∧ (0 ≤ y ∧ y ≤ 11))) (qz_t ⟨c2, c3⟩).symm ?_
      exact hJ1 ls (lv_sub hl [0, 1] rfl)
theorem hd_X3_of : yX3_of.cls ≠ "java/lang/invoke/MethodHandle" ∧ yX3_of.cls ≠ "java/lang/invoke/VarHandle" ∧ (parseMethodDescriptor yX3_of.desc).map (fun d => d.parameters.length) = some 3 := by decide +kernel
set_option maxHeartbeats 4000000 in
set_option maxRecDepth 100000 in
theorem m_X3_of (l : Launch) (G : va_G) (g : Nat → ClassId) (hs : Nat) (room : Int) (what : Int) (S : Int → Int) (r_room : r32 room) (r_what : r32 what) (kS : rgS S) (h1 : 0 ≤ room ∧ room ≤ 5) (h2 : 0 ≤ what ∧ what ≤ 3) : Met l yX3_of (ws_ yX3_of cX3_of 3 (Option.some Jvm.ClassFile.FieldType.int)) ({ frames := 0, cells := 0, slots := 0, locals := 0 }) (va_Pc [.ref hs, .int (iI room), .int (iI what)] (rdB G CL (TY g) (fun _ => True) [(hs, .inl (g 0, 253, .inl (aI S)))])) (QcRead ((iI (S (192 + 4 * room + what))))) 0 0 (fun _ => False) := by
  refine Met.at (by decide) (Nat.le_of_ble_eq_true rfl) ?_
  intro p e s m below meth c hx hb hr hlk hml hown hnm hts hB ls hl
  have hown : s.vm.findClass RX3 = some m.cls := hown
  obtain ⟨hP, hK, hEs⟩ := hB
  have hl : lv_has ls 3 [(0, .ref hs), (1, .int (iI room)), (2, .int (iI what))] := hl
  refine lv_aload_n hx hb dX3_of_0 rfl (lv_at hl 0 rfl) ?_
  refine lv_sipush (v := iI 192) hx hb dX3_of_1 rfl ?_
  refine lv_iconst (v := iI 4) hx hb dX3_of_4 rfl ?_
  refine lv_iload_n hx hb dX3_of_5 rfl (lv_at hl 1 rfl) ?_
  refine g_imul hx hb dX3_of_6 ?_
  refine g_iadd hx hb dX3_of_7 ?_
  refine lv_iload_n hx hb dX3_of_8 rfl (lv_at hl 2 rfl) ?_
  refine g_iadd hx hb dX3_of_9 ?_
  refine g_iald hx hb hK hP 0 0 rfl rfl (i := (192 + (4 * room)) + what) (⟨by omega, by omega⟩) (by decide) dX3_of_10 ?_
  have w1 := kS ((192 + (4 * room)) + what) (by omega) (by omega)
  exact g_iret hx hb hr hlk (rfl) dX3_of_11
theorem hd_X3_isThere : yX3_isThere.cls ≠ "java/lang/invoke/MethodHandle" ∧ yX3_isThere.cls ≠ "java/lang/invoke/VarHandle" ∧ (parseMethodDescriptor yX3_isThere.desc).map (fun d => d.parameters.length) = some 2 := by decide +kernel
set_option maxHeartbeats 4000000 in
set_option maxRecDepth 100000 in
theorem m_X3_isThere (l : Launch) (G : va_G) (g : Nat → ClassId) (hs : Nat) (room : Int) (S : Int → Int) (r_room : r32 room) (kS : rgS S) : Met l yX3_isThere (ws_ yX3_isThere cX3_isThere 2 (Option.some Jvm.ClassFile.FieldType.boolean)) ({ frames := 1, cells := 0, slots := 0, locals := 22 }) (va_Pc [.ref hs, .int (iI room)] (rdB G CL (TY g) (fun _ => True) [(hs, .inl (g 0, 253, .inl (aI S)))])) (QcRead ((iI (qz (isTh S room))))) 0 0 (fun _ => False) := by
  refine Met.at (by decide) (Nat.le_of_ble_eq_true rfl) ?_
  intro p e s m below meth c hx hb hr hlk hml hown hnm hts hB ls hl
  have hown : s.vm.findClass RX3 = some m.cls := hown
  obtain ⟨hP, hK, hEs⟩ := hB
  have hl : lv_has ls 2 [(0, .ref hs), (1, .int (iI room))] := hl
  refine lv_iload_n hx hb dX3_isThere_0 rfl (lv_at hl 1 rfl) ?_
  refine lv_iconst (v := iI 0) hx hb dX3_isThere_1 rfl ?_
  refine lv_iconst (v := iI 5) hx hb dX3_isThere_2 rfl ?_
  refine g_callS (A := fun _ => False) (As := [.int (iI room), .int (iI 0), .int (iI 5)]) (rest := []) (m_X3_in l G g room 0 5 r_room ⟨by decide, by decide⟩ ⟨by decide, by decide⟩) hx hb hml hown hts Stab.tt hK hP va_S.rf hEs [] rfl q1518 q1519 q102 q1520 hd_X3_in rfl rfl ⟨Nat.le_of_ble_eq_true rfl, Nat.le_of_ble_eq_true rfl⟩ rfl hl rfl (Nat.le_of_ble_eq_true rfl) ⟨Nat.le_refl _, Nat.le_refl _⟩ dX3_isThere_3 ?_
  have hJ1 : ∀ ls : Array Slot, lv_has ls 2 [(0, .ref hs), (1, .int (iI room))] → W p l e ({ frames := 1, cells := 0, slots := 0, locals := 22 }) s m ([.ref hs, .int (iI room)] : List Value).toArray below meth c s.heap [] 0 0 (MQ below (QcRead ((iI (qz (isTh S room))))) ([.ref hs, .int (iI room)] : List Value).toArray s 0 0 (fun _ => False)) (F0 m 23 ls [.int (iI (qz ((0 ≤ room ∧ room ≤ 5) ∧ (0 < (S (192 + 4 * room + 2))))))]) := by
    intro ls hl
    exact g_zret hx hb hr hlk (by first | exact Iff.rfl | (constructor <;> intro _ <;> omega)) dX3_isThere_23
  refine g_ifq_eq (tgt := 22) hx hb dX3_isThere_6 (by decide) (fun c2 => ?_) (fun c2 => ?_)
  · refine lv_iconst (v := iI 0) hx hb dX3_isThere_22 rfl ?_
    refine g_eq (b := qz ((0 ≤ room ∧ room ≤ 5) ∧ (0 < (S (192 + 4 * room + 2))))) (qz_f (fun xx => (c2 xx.1))).symm ?_
    exact hJ1 ls (lv_sub hl [0, 1] rfl)
  · refine lv_aload_n hx hb dX3_isThere_9 rfl (lv_at hl 0 rfl) ?_
    refine lv_iload_n hx hb dX3_isThere_10 rfl (lv_at hl 1 rfl) ?_
    refine lv_iconst (v := iI 2) hx hb dX3_isThere_11 rfl ?_
    refine g_callS (A := fun _ => False) (As := [.ref hs, .int (iI room), .int (iI 2)]) (rest := []) (m_X3_of l G g hs room 2 S r_room ⟨by decide, by decide⟩ kS (by omega) (by omega)) hx hb hml hown hts Stab.tt hK hP va_S.rf hEs [0] rfl q1528 q1529 q102 q1530 hd_X3_of rfl rfl ⟨Nat.le_of_ble_eq_true rfl, Nat.le_of_ble_eq_true rfl⟩ rfl hl rfl (Nat.le_of_ble_eq_true rfl) ⟨Nat.le_refl _, Nat.le_refl _⟩ dX3_isThere_12 ?_
    have w3 := kS (192 + 4 * room + 2) (by omega) (by omega)
    refine g_if_le (tgt := 22) hx hb dX3_isThere_15 (by decide) ⟨by omega, by omega⟩ (fun c4 => ?_) (fun c4 => ?_)
    · refine lv_iconst (v := iI 0) hx hb dX3_isThere_22 rfl ?_
      refine g_eq (b := qz ((0 ≤ room ∧ room ≤ 5) ∧ (0 < (S (192 + 4 * room + 2))))) (qz_f (fun xx => (c4 xx.2))).symm ?_
      exact hJ1 ls (lv_sub hl [0, 1] rfl)
    · refine lv_iconst (v := iI 1) hx hb dX3_isThere_18 rfl ?_
      refine lv_goto (tgt := 23) hx hb dX3_isThere_19 (by decide) ?_
      refine g_eq (b := qz ((0 ≤ room ∧ room ≤ 5) ∧ (0 < (S (192 + 4 * room + 2))))) (qz_t ⟨c2, c4⟩).symm ?_
      exact hJ1 ls (lv_sub hl [0, 1] rfl)
theorem hd_X3_walks : yX3_walks.cls ≠ "java/lang/invoke/MethodHandle" ∧ yX3_walks.cls ≠ "java/lang/invoke/VarHandle" ∧ (parseMethodDescriptor yX3_walks.desc).map (fun d => d.parameters.length) = some 3 := by decide +kernel
set_option maxHeartbeats 4000000 in
set_option maxRecDepth 100000 in
theorem m_X3_walks (l : Launch) (G : va_G) (g : Nat → ClassId) (hs : Nat) (one : Int) (other : Int) (S : Int → Int) (r_one : r32 one) (r_other : r32 other) (kS : rgS S) (h1 : 0 ≤ one ∧ one ≤ 5) (h2 : 0 ≤ other ∧ other ≤ 5) : Met l yX3_walks (ws_ yX3_walks cX3_walks 3 (Option.some Jvm.ClassFile.FieldType.int)) ({ frames := 0, cells := 0, slots := 0, locals := 0 }) (va_Pc [.ref hs, .int (iI one), .int (iI other)] (rdB G CL (TY g) (fun _ => True) [(hs, .inl (g 0, 253, .inl (aI S)))])) (QcRead ((iI (S (216 + 6 * one + other))))) 0 0 (fun _ => False) := by
  refine Met.at (by decide) (Nat.le_of_ble_eq_true rfl) ?_
  intro p e s m below meth c hx hb hr hlk hml hown hnm hts hB ls hl
  have hown : s.vm.findClass RX3 = some m.cls := hown
  obtain ⟨hP, hK, hEs⟩ := hB
  have hl : lv_has ls 3 [(0, .ref hs), (1, .int (iI one)), (2, .int (iI other))] := hl
  refine lv_aload_n hx hb dX3_walks_0 rfl (lv_at hl 0 rfl) ?_
  refine lv_sipush (v := iI 216) hx hb dX3_walks_1 rfl ?_
  refine lv_bipush (v := iI 6) hx hb dX3_walks_4 rfl ?_
  refine lv_iload_n hx hb dX3_walks_6 rfl (lv_at hl 1 rfl) ?_
  refine g_imul hx hb dX3_walks_7 ?_
  refine g_iadd hx hb dX3_walks_8 ?_
  refine lv_iload_n hx hb dX3_walks_9 rfl (lv_at hl 2 rfl) ?_
  refine g_iadd hx hb dX3_walks_10 ?_
  refine g_iald hx hb hK hP 0 0 rfl rfl (i := (216 + (6 * one)) + other) (⟨by omega, by omega⟩) (by decide) dX3_walks_11 ?_
  have w1 := kS ((216 + (6 * one)) + other) (by omega) (by omega)
  exact g_iret hx hb hr hlk (rfl) dX3_walks_12
theorem hd_X3_what : yX3_what.cls ≠ "java/lang/invoke/MethodHandle" ∧ yX3_what.cls ≠ "java/lang/invoke/VarHandle" ∧ (parseMethodDescriptor yX3_what.desc).map (fun d => d.parameters.length) = some 3 := by decide +kernel
set_option maxHeartbeats 4000000 in
set_option maxRecDepth 100000 in
theorem m_X3_what (l : Launch) (G : va_G) (g : Nat → ClassId) (hs : Nat) (x : Int) (y : Int) (S : Int → Int) (r_x : r32 x) (r_y : r32 y) (kS : rgS S) : Met l yX3_what (ws_ yX3_what cX3_what 3 (Option.some Jvm.ClassFile.FieldType.int)) ({ frames := 2, cells := 0, slots := 0, locals := 43 }) (va_Pc [.ref hs, .int (iI x), .int (iI y)] (rdB G CL (TY g) (fun _ => True) [(hs, .inl (g 0, 253, .inl (aI S)))])) (QcRead ((iI (wh S x y)))) 0 0 (fun _ => False) := by
  refine Met.at (by decide) (Nat.le_of_ble_eq_true rfl) ?_
  intro p e s m below meth c hx hb hr hlk hml hown hnm hts hB ls hl
  have hown : s.vm.findClass RX3 = some m.cls := hown
  obtain ⟨hP, hK, hEs⟩ := hB
  have hl : lv_has ls 3 [(0, .ref hs), (1, .int (iI x)), (2, .int (iI y))] := hl
  refine lv_iload_n hx hb dX3_what_0 rfl (lv_at hl 1 rfl) ?_
  refine lv_iload_n hx hb dX3_what_1 rfl (lv_at hl 2 rfl) ?_
  refine g_callS (A := fun _ => False) (As := [.int (iI x), .int (iI y)]) (rest := []) (m_X3_isSquare l G g x y r_x r_y) hx hb hml hown hts Stab.tt hK hP va_S.rf hEs [] rfl q1538 q1539 q102 q1540 hd_X3_isSquare rfl rfl ⟨Nat.le_of_ble_eq_true rfl, Nat.le_of_ble_eq_true rfl⟩ rfl hl rfl (Nat.le_of_ble_eq_true rfl) ⟨Nat.le_refl _, Nat.le_refl _⟩ dX3_what_2 ?_
  have hJ1 : ∀ ls : Array Slot, lv_has ls 3 [(0, .ref hs), (1, .int (iI x)), (2, .int (iI y))] → W p l e ({ frames := 2, cells := 0, slots := 0, locals := 43 }) s m ([.ref hs, .int (iI x), .int (iI y)] : List Value).toArray below meth c s.heap [] 0 0 (MQ below (QcRead ((iI (wh S x y)))) ([.ref hs, .int (iI x), .int (iI y)] : List Value).toArray s 0 0 (fun _ => False)) (F0 m 21 ls [.int (iI (zi (isSq x y) (S ((16 * y) + x)) 99))]) := by
    intro ls hl
    exact g_iret hx hb hr hlk (rfl) dX3_what_21
  refine g_ifq_eq (tgt := 19) hx hb dX3_what_5 (by decide) (fun c2 => ?_) (fun c2 => ?_)
  · refine lv_bipush (v := iI 99) hx hb dX3_what_19 rfl ?_
    refine g_eq (b := zi (isSq x y) (S ((16 * y) + x)) 99) ((zi_f c2)).symm ?_
    exact hJ1 ls (lv_sub hl [0, 1, 2] rfl)
  · refine lv_aload_n hx hb dX3_what_8 rfl (lv_at hl 0 rfl) ?_
    refine lv_bipush (v := iI 16) hx hb dX3_what_9 rfl ?_
    refine lv_iload_n hx hb dX3_what_11 rfl (lv_at hl 2 rfl) ?_
    refine g_imul hx hb dX3_what_12 ?_
    refine lv_iload_n hx hb dX3_what_13 rfl (lv_at hl 1 rfl) ?_
    refine g_iadd hx hb dX3_what_14 ?_
    refine g_iald hx hb hK hP 0 0 rfl rfl (i := (16 * y) + x) (⟨by omega, by omega⟩) (by decide) dX3_what_15 ?_
    have w3 := kS ((16 * y) + x) (by omega) (by omega)
    refine lv_goto (tgt := 21) hx hb dX3_what_16 (by decide) ?_
    refine g_eq (b := zi (isSq x y) (S ((16 * y) + x)) 99) ((zi_t c2)).symm ?_
    exact hJ1 ls (lv_sub hl [0, 1, 2] rfl)
theorem hd_X3_isPlace : yX3_isPlace.cls = RX3 ∧ yX3_isPlace.cls ≠ "java/lang/invoke/MethodHandle" ∧ yX3_isPlace.cls ≠ "java/lang/invoke/VarHandle" ∧ (parseMethodDescriptor yX3_isPlace.desc).map (fun d => d.parameters.length) = some 3 := by decide +kernel
set_option maxHeartbeats 4000000 in
set_option maxRecDepth 100000 in
theorem m_X3_isPlace (l : Launch) (G : va_G) (g : Nat → ClassId) (hM : Nat) (hs : Nat) (x : Int) (y : Int) (fs : List Value) (br : Int) (S : Int → Int) (hF_fs_18 : fs[18]? = some (.int (iI br))) (r_x : r32 x) (r_y : r32 y) (kS : rgS S) (hbr : 1 ≤ br ∧ br ≤ 3) (hx1 : -1 ≤ x ∧ x ≤ 16) (hy1 : -1 ≤ y ∧ y ≤ 12) : Met l yX3_isPlace (ws_ yX3_isPlace cX3_isPlace 5 (Option.some Jvm.ClassFile.FieldType.boolean)) ({ frames := 3, cells := 0, slots := 0, locals := 65 }) (va_Pc [.ref hM, .ref hs, .int (iI x), .int (iI y)] (rdB G CL (TY g) (fun _ => True) [(hM, .inr (2, fs)), (hs, .inl (g 0, 253, .inl (aI S)))])) (QcRead ((iI (qz (plc S br x y))))) 0 0 (fun _ => False) := by
  refine Met.at (by decide) (Nat.le_of_ble_eq_true rfl) ?_
  intro p e s m below meth c hx hb hr hlk hml hown hnm hts hB ls hl
  have hown : s.vm.findClass RX3 = some m.cls := hown
  obtain ⟨hP, hK, hEs⟩ := hB
  have hl : lv_has ls 5 [(0, .ref hM), (1, .ref hs), (2, .int (iI x)), (3, .int (iI y))] := hl
  have bb := bb_rng hbr
  refine lv_iload_n hx hb dX3_isPlace_0 rfl (lv_at hl 2 rfl) ?_
  refine g_if_lt (tgt := 30) hx hb dX3_isPlace_1 (by decide) r_x (fun c1 => ?_) (fun c1 => ?_)
  · refine lv_iconst (v := iI 0) hx hb dX3_isPlace_30 rfl ?_
    exact g_zret0 hx hb hr hlk (fun h => by have := h.1; omega) dX3_isPlace_31
  · refine lv_iload_n hx hb dX3_isPlace_4 rfl (lv_at hl 3 rfl) ?_
    refine g_if_lt (tgt := 30) hx hb dX3_isPlace_5 (by decide) r_y (fun c2 => ?_) (fun c2 => ?_)
    · refine lv_iconst (v := iI 0) hx hb dX3_isPlace_30 rfl ?_
      exact g_zret0 hx hb hr hlk (fun h => by have := h.1; omega) dX3_isPlace_31
    · refine lv_iload_n hx hb dX3_isPlace_8 rfl (lv_at hl 2 rfl) ?_
      refine lv_aload_n hx hb dX3_isPlace_9 rfl (lv_at hl 0 rfl) ?_
      refine va_get (D := G) (ci := 2) (v := .int (iI br)) (C := RX3) (T := TX3) (N := 20) hx hb hts in_X3 hown hK hP 0 rfl rfl 18 (by decide) (hts _ q1456) (fun _ h9 => h9) hF_fs_18 dX3_isPlace_10 ?_
      refine g_iadd hx hb dX3_isPlace_13 ?_
      refine lv_bipush (v := iI 16) hx hb dX3_isPlace_14 rfl ?_
      refine g_icmp_gt (tgt := 30) hx hb dX3_isPlace_16 (by decide) ⟨⟨by omega, by omega⟩, ⟨by decide, by decide⟩⟩ (fun c3 => ?_) (fun c3 => ?_)
      · refine lv_iconst (v := iI 0) hx hb dX3_isPlace_30 rfl ?_
        exact g_zret0 hx hb hr hlk (fun h => by have := h.1; omega) dX3_isPlace_31
      · refine lv_iload_n hx hb dX3_isPlace_19 rfl (lv_at hl 3 rfl) ?_
        refine lv_aload_n hx hb dX3_isPlace_20 rfl (lv_at hl 0 rfl) ?_
        refine va_get (D := G) (ci := 2) (v := .int (iI br)) (C := RX3) (T := TX3) (N := 20) hx hb hts in_X3 hown hK hP 0 rfl rfl 18 (by decide) (hts _ q1456) (fun _ h9 => h9) hF_fs_18 dX3_isPlace_21 ?_
        refine g_iadd hx hb dX3_isPlace_24 ?_
        refine lv_bipush (v := iI 12) hx hb dX3_isPlace_25 rfl ?_
        refine g_icmp_le (tgt := 32) hx hb dX3_isPlace_27 (by decide) ⟨⟨by omega, by omega⟩, ⟨by decide, by decide⟩⟩ (fun c4 => ?_) (fun c4 => ?_)
        · refine lv_iconst (v := iI 0) hx hb dX3_isPlace_32 rfl ?_
          refine lv_istore (lv' := [(4, .int (iI 0)), (0, .ref hM), (1, .ref hs), (2, .int (iI x)), (3, .int (iI y))]) hx hb dX3_isPlace_33 hl (by decide) rfl (fun ls hl => ?_)
          have lp35 : ∀ (n : Nat) (k : Nat), ((k : Int) ≤ br * br) → (∀ j : Int, 0 ≤ j → j < (k : Int) → wh S (x + j % br) (y + j / br) < 0) → (br * br).toNat - k = n → ∀ ls : Array Slot, lv_has ls 5 [(0, .ref hM), (1, .ref hs), (2, .int (iI x)), (3, .int (iI y)), (4, .int (iI (k : Int)))] → W p l e ({ frames := 3, cells := 0, slots := 0, locals := 65 }) s m ([.ref hM, .ref hs, .int (iI x), .int (iI y)] : List Value).toArray below meth c s.heap [] 0 0 (MQ below (QcRead ((iI (qz (plc S br x y))))) ([.ref hM, .ref hs, .int (iI x), .int (iI y)] : List Value).toArray s 0 0 (fun _ => False)) (F0 m 35 ls []) := by
            intro n
            refine Nat.strongRecOn n ?_
            intro n ih35 k hk ha hmu35 ls hl
            refine lv_iload hx hb dX3_isPlace_35 (lv_at hl 4 rfl) ?_
            refine lv_aload_n hx hb dX3_isPlace_37 rfl (lv_at hl 0 rfl) ?_
            refine va_get (D := G) (ci := 2) (v := .int (iI br)) (C := RX3) (T := TX3) (N := 20) hx hb hts in_X3 hown hK hP 0 rfl rfl 18 (by decide) (hts _ q1456) (fun _ h9 => h9) hF_fs_18 dX3_isPlace_38 ?_
            refine lv_aload_n hx hb dX3_isPlace_41 rfl (lv_at hl 0 rfl) ?_
            refine va_get (D := G) (ci := 2) (v := .int (iI br)) (C := RX3) (T := TX3) (N := 20) hx hb hts in_X3 hown hK hP 0 rfl rfl 18 (by decide) (hts _ q1456) (fun _ h9 => h9) hF_fs_18 dX3_isPlace_42 ?_
            refine g_imul hx hb dX3_isPlace_45 ?_
            refine g_icmp_ge (tgt := 82) hx hb dX3_isPlace_46 (by decide) ⟨⟨by omega, by omega⟩, ⟨by omega, by omega⟩⟩ (fun c5 => ?_) (fun c5 => ?_)
            · refine lv_iconst (v := iI 1) hx hb dX3_isPlace_82 rfl ?_
              exact g_zret1 hx hb hr hlk (⟨by omega, fun j h1 h2 => ha j h1 (by omega)⟩) dX3_isPlace_83
            · have dk := dm (k := (k : Int)) (b := br) (by omega) hbr.1 (by assumption)
              refine lv_aload_n hx hb dX3_isPlace_49 rfl (lv_at hl 1 rfl) ?_
              refine lv_iload_n hx hb dX3_isPlace_50 rfl (lv_at hl 2 rfl) ?_
              refine lv_iload hx hb dX3_isPlace_51 (lv_at hl 4 rfl) ?_
              refine lv_aload_n hx hb dX3_isPlace_53 rfl (lv_at hl 0 rfl) ?_
              refine va_get (D := G) (ci := 2) (v := .int (iI br)) (C := RX3) (T := TX3) (N := 20) hx hb hts in_X3 hown hK hP 0 rfl rfl 18 (by decide) (hts _ q1456) (fun _ h9 => h9) hF_fs_18 dX3_isPlace_54 ?_
              refine g_irem hx hb dX3_isPlace_57 ⟨⟨by omega, by omega⟩, ⟨by omega, by omega⟩⟩ ?_
              refine g_iadd hx hb dX3_isPlace_58 ?_
              refine lv_iload_n hx hb dX3_isPlace_59 rfl (lv_at hl 3 rfl) ?_
              refine lv_iload hx hb dX3_isPlace_60 (lv_at hl 4 rfl) ?_
              refine lv_aload_n hx hb dX3_isPlace_62 rfl (lv_at hl 0 rfl) ?_
              refine va_get (D := G) (ci := 2) (v := .int (iI br)) (C := RX3) (T := TX3) (N := 20) hx hb hts in_X3 hown hK hP 0 rfl rfl 18 (by decide) (hts _ q1456) (fun _ h9 => h9) hF_fs_18 dX3_isPlace_63 ?_
              refine g_idiv hx hb dX3_isPlace_66 ⟨⟨by omega, by omega⟩, ⟨by omega, by omega⟩⟩ ?_
              refine g_iadd hx hb dX3_isPlace_67 ?_
              refine g_callS (A := fun _ => False) (As := [.ref hs, .int (iI (x + ((k : Int) % br))), .int (iI (y + ((k : Int) / br)))]) (rest := []) (m_X3_what l G g hs (x + ((k : Int) % br)) (y + ((k : Int) / br)) S (⟨by omega, by omega⟩) (⟨by omega, by omega⟩) kS) hx hb hml hown hts Stab.tt hK hP va_S.rf hEs [1] rfl q1535 q1536 q102 q1537 hd_X3_what rfl rfl ⟨Nat.le_of_ble_eq_true rfl, Nat.le_of_ble_eq_true rfl⟩ rfl hl rfl (Nat.le_of_ble_eq_true rfl) ⟨Nat.le_refl _, Nat.le_refl _⟩ dX3_isPlace_68 ?_
              have w6 := wh_rng kS (x + ((k : Int) % br)) (y + ((k : Int) / br))
              refine g_if_lt (tgt := 76) hx hb dX3_isPlace_71 (by decide) ⟨by omega, by omega⟩ (fun c7 => ?_) (fun c7 => ?_)
              · refine g_iinc (lv' := [(4, .int (iI ((k : Int) + 1))), (0, .ref hM), (1, .ref hs), (2, .int (iI x)), (3, .int (iI y))]) hx hb dX3_isPlace_76 hl (k := 4) rfl (by decide) rfl (fun ls hl => ?_)
                refine lv_goto (tgt := 35) hx hb dX3_isPlace_79 (by decide) ?_
                exact ih35 _ (by omega) (k + 1) (by omega) (fun j h1 h2 => by
      by_cases hj : j = (k : Int)
      · rw [hj]; assumption
      · exact ha j h1 (by omega)) rfl ls (lv_sub hl [1, 2, 3, 4, 0] rfl)
              · refine lv_iconst (v := iI 0) hx hb dX3_isPlace_74 rfl ?_
                exact g_zret0 hx hb hr hlk (fun h => by have := h.2 (k : Int) (by omega) (by assumption); omega) dX3_isPlace_75
          exact lp35 _ 0 (by omega) (fun j h1 h2 => by omega) rfl ls (lv_sub hl [1, 2, 3, 4, 0] rfl)
        · refine lv_iconst (v := iI 0) hx hb dX3_isPlace_30 rfl ?_
          exact g_zret0 hx hb hr hlk (fun h => by have := h.1; omega) dX3_isPlace_31
theorem hd_X3_isBeside : yX3_isBeside.cls ≠ "java/lang/invoke/MethodHandle" ∧ yX3_isBeside.cls ≠ "java/lang/invoke/VarHandle" ∧ (parseMethodDescriptor yX3_isBeside.desc).map (fun d => d.parameters.length) = some 4 := by decide +kernel
set_option maxHeartbeats 4000000 in
set_option maxRecDepth 100000 in
theorem m_X3_isBeside (l : Launch) (G : va_G) (g : Nat → ClassId) (hs : Nat) (x : Int) (y : Int) (room : Int) (S : Int → Int) (r_x : r32 x) (r_y : r32 y) (r_room : r32 room) (kS : rgS S) (hx1 : -1 ≤ x ∧ x ≤ 17) (hy1 : -1 ≤ y ∧ y ≤ 17) : Met l yX3_isBeside (ws_ yX3_isBeside cX3_isBeside 4 (Option.some Jvm.ClassFile.FieldType.boolean)) ({ frames := 3, cells := 0, slots := 0, locals := 65 }) (va_Pc [.ref hs, .int (iI x), .int (iI y), .int (iI room)] (rdB G CL (TY g) (fun _ => True) [(hs, .inl (g 0, 253, .inl (aI S)))])) (QcRead ((iI (qz (bsd S x y room))))) 0 0 (fun _ => False) := by
  refine Met.at (by decide) (Nat.le_of_ble_eq_true rfl) ?_
  intro p e s m below meth c hx hb hr hlk hml hown hnm hts hB ls hl
  have hown : s.vm.findClass RX3 = some m.cls := hown
  obtain ⟨hP, hK, hEs⟩ := hB
  have hl : lv_has ls 4 [(0, .ref hs), (1, .int (iI x)), (2, .int (iI y)), (3, .int (iI room))] := hl
  refine lv_aload_n hx hb dX3_isBeside_0 rfl (lv_at hl 0 rfl) ?_
  refine lv_iload_n hx hb dX3_isBeside_1 rfl (lv_at hl 1 rfl) ?_
  refine lv_iconst (v := iI 1) hx hb dX3_isBeside_2 rfl ?_
  refine g_isub hx hb dX3_isBeside_3 ?_
  refine lv_iload_n hx hb dX3_isBeside_4 rfl (lv_at hl 2 rfl) ?_
  refine g_callS (A := fun _ => False) (As := [.ref hs, .int (iI (x - 1)), .int (iI y)]) (rest := []) (m_X3_what l G g hs (x - 1) y S (⟨by omega, by omega⟩) r_y kS) hx hb hml hown hts Stab.tt hK hP va_S.rf hEs [0] rfl q1535 q1536 q102 q1537 hd_X3_what rfl rfl ⟨Nat.le_of_ble_eq_true rfl, Nat.le_of_ble_eq_true rfl⟩ rfl hl rfl (Nat.le_of_ble_eq_true rfl) ⟨Nat.le_refl _, Nat.le_refl _⟩ dX3_isBeside_5 ?_
  have w1 := wh_rng kS (x - 1) y
  refine lv_iload_n hx hb dX3_isBeside_8 rfl (lv_at hl 3 rfl) ?_
  have hJ2 : ∀ ls : Array Slot, lv_has ls 4 [(0, .ref hs), (1, .int (iI x)), (2, .int (iI y)), (3, .int (iI room))] → W p l e ({ frames := 3, cells := 0, slots := 0, locals := 65 }) s m ([.ref hs, .int (iI x), .int (iI y), .int (iI room)] : List Value).toArray below meth c s.heap [] 0 0 (MQ below (QcRead ((iI (qz (bsd S x y room))))) ([.ref hs, .int (iI x), .int (iI y), .int (iI room)] : List Value).toArray s 0 0 (fun _ => False)) (F0 m 53 ls [.int (iI (qz (((wh S (x - 1) y) = room) ∨ (((wh S (x + 1) y) = room) ∨ (((wh S x (y - 1)) = room) ∨ ((wh S x (y + 1)) = room))))))]) := by
    intro ls hl
    exact g_zret hx hb hr hlk (by first | exact Iff.rfl | (constructor <;> intro _ <;> omega)) dX3_isBeside_53
  refine g_icmp_eq (tgt := 48) hx hb dX3_isBeside_9 (by decide) ⟨⟨by omega, by omega⟩, r_room⟩ (fun c3 => ?_) (fun c3 => ?_)
  · refine lv_iconst (v := iI 1) hx hb dX3_isBeside_48 rfl ?_
    refine lv_goto (tgt := 53) hx hb dX3_isBeside_49 (by decide) ?_
    refine g_eq (b := qz (((wh S (x - 1) y) = room) ∨ (((wh S (x + 1) y) = room) ∨ (((wh S x (y - 1)) = room) ∨ ((wh S x (y + 1)) = room))))) (qz_t (Or.inl c3)).symm ?_
    exact hJ2 ls (lv_sub hl [0, 1, 2, 3] rfl)
  · refine lv_aload_n hx hb dX3_isBeside_12 rfl (lv_at hl 0 rfl) ?_
    refine lv_iload_n hx hb dX3_isBeside_13 rfl (lv_at hl 1 rfl) ?_
    refine lv_iconst (v := iI 1) hx hb dX3_isBeside_14 rfl ?_
    refine g_iadd hx hb dX3_isBeside_15 ?_
    refine lv_iload_n hx hb dX3_isBeside_16 rfl (lv_at hl 2 rfl) ?_
    refine g_callS (A := fun _ => False) (As := [.ref hs, .int (iI (x + 1)), .int (iI y)]) (rest := []) (m_X3_what l G g hs (x + 1) y S (⟨by omega, by omega⟩) r_y kS) hx hb hml hown hts Stab.tt hK hP va_S.rf hEs [0] rfl q1535 q1536 q102 q1537 hd_X3_what rfl rfl ⟨Nat.le_of_ble_eq_true rfl, Nat.le_of_ble_eq_true rfl⟩ rfl hl rfl (Nat.le_of_ble_eq_true rfl) ⟨Nat.le_refl _, Nat.le_refl _⟩ dX3_isBeside_17 ?_
    have w4 := wh_rng kS (x + 1) y
    refine lv_iload_n hx hb dX3_isBeside_20 rfl (lv_at hl 3 rfl) ?_
    refine g_icmp_eq (tgt := 48) hx hb dX3_isBeside_21 (by decide) ⟨⟨by omega, by omega⟩, r_room⟩ (fun c5 => ?_) (fun c5 => ?_)
    · refine lv_iconst (v := iI 1) hx hb dX3_isBeside_48 rfl ?_
      refine lv_goto (tgt := 53) hx hb dX3_isBeside_49 (by decide) ?_
      refine g_eq (b := qz (((wh S (x - 1) y) = room) ∨ (((wh S (x + 1) y) = room) ∨ (((wh S x (y - 1)) = room) ∨ ((wh S x (y + 1)) = room))))) (qz_t (Or.inr (Or.inl c5))).symm ?_
      exact hJ2 ls (lv_sub hl [0, 1, 2, 3] rfl)
    · refine lv_aload_n hx hb dX3_isBeside_24 rfl (lv_at hl 0 rfl) ?_
      refine lv_iload_n hx hb dX3_isBeside_25 rfl (lv_at hl 1 rfl) ?_
      refine lv_iload_n hx hb dX3_isBeside_26 rfl (lv_at hl 2 rfl) ?_
      refine lv_iconst (v := iI 1) hx hb dX3_isBeside_27 rfl ?_
      refine g_isub hx hb dX3_isBeside_28 ?_
      refine g_callS (A := fun _ => False) (As := [.ref hs, .int (iI x), .int (iI (y - 1))]) (rest := []) (m_X3_what l G g hs x (y - 1) S r_x (⟨by omega, by omega⟩) kS) hx hb hml hown hts Stab.tt hK hP va_S.rf hEs [0] rfl q1535 q1536 q102 q1537 hd_X3_what rfl rfl ⟨Nat.le_of_ble_eq_true rfl, Nat.le_of_ble_eq_true rfl⟩ rfl hl rfl (Nat.le_of_ble_eq_true rfl) ⟨Nat.le_refl _, Nat.le_refl _⟩ dX3_isBeside_29 ?_
      have w6 := wh_rng kS x (y - 1)
      refine lv_iload_n hx hb dX3_isBeside_32 rfl (lv_at hl 3 rfl) ?_
      refine g_icmp_eq (tgt := 48) hx hb dX3_isBeside_33 (by decide) ⟨⟨by omega, by omega⟩, r_room⟩ (fun c7 => ?_) (fun c7 => ?_)
      · refine lv_iconst (v := iI 1) hx hb dX3_isBeside_48 rfl ?_
        refine lv_goto (tgt := 53) hx hb dX3_isBeside_49 (by decide) ?_
        refine g_eq (b := qz (((wh S (x - 1) y) = room) ∨ (((wh S (x + 1) y) = room) ∨ (((wh S x (y - 1)) = room) ∨ ((wh S x (y + 1)) = room))))) (qz_t (Or.inr (Or.inr (Or.inl c7)))).symm ?_
        exact hJ2 ls (lv_sub hl [0, 1, 2, 3] rfl)
      · refine lv_aload_n hx hb dX3_isBeside_36 rfl (lv_at hl 0 rfl) ?_
        refine lv_iload_n hx hb dX3_isBeside_37 rfl (lv_at hl 1 rfl) ?_
        refine lv_iload_n hx hb dX3_isBeside_38 rfl (lv_at hl 2 rfl) ?_
        refine lv_iconst (v := iI 1) hx hb dX3_isBeside_39 rfl ?_
        refine g_iadd hx hb dX3_isBeside_40 ?_
        refine g_callS (A := fun _ => False) (As := [.ref hs, .int (iI x), .int (iI (y + 1))]) (rest := []) (m_X3_what l G g hs x (y + 1) S r_x (⟨by omega, by omega⟩) kS) hx hb hml hown hts Stab.tt hK hP va_S.rf hEs [0] rfl q1535 q1536 q102 q1537 hd_X3_what rfl rfl ⟨Nat.le_of_ble_eq_true rfl, Nat.le_of_ble_eq_true rfl⟩ rfl hl rfl (Nat.le_of_ble_eq_true rfl) ⟨Nat.le_refl _, Nat.le_refl _⟩ dX3_isBeside_41 ?_
        have w8 := wh_rng kS x (y + 1)
        refine lv_iload_n hx hb dX3_isBeside_44 rfl (lv_at hl 3 rfl) ?_
        refine g_icmp_ne (tgt := 52) hx hb dX3_isBeside_45 (by decide) ⟨⟨by omega, by omega⟩, r_room⟩ (fun c9 => ?_) (fun c9 => ?_)
        · refine lv_iconst (v := iI 0) hx hb dX3_isBeside_52 rfl ?_
          refine g_eq (b := qz (((wh S (x - 1) y) = room) ∨ (((wh S (x + 1) y) = room) ∨ (((wh S x (y - 1)) = room) ∨ ((wh S x (y + 1)) = room))))) (qz_f (fun xx => (c9 (((xx.resolve_left c3).resolve_left c5).resolve_left c7)))).symm ?_
          exact hJ2 ls (lv_sub hl [0, 1, 2, 3] rfl)
        · refine lv_iconst (v := iI 1) hx hb dX3_isBeside_48 rfl ?_
          refine lv_goto (tgt := 53) hx hb dX3_isBeside_49 (by decide) ?_
          refine g_eq (b := qz (((wh S (x - 1) y) = room) ∨ (((wh S (x + 1) y) = room) ∨ (((wh S x (y - 1)) = room) ∨ ((wh S x (y + 1)) = room))))) (qz_t (Or.inr (Or.inr (Or.inr c9)))).symm ?_
          exact hJ2 ls (lv_sub hl [0, 1, 2, 3] rfl)
theorem hd_X3_isAtRoom : yX3_isAtRoom.cls = RX3 ∧ yX3_isAtRoom.cls ≠ "java/lang/invoke/MethodHandle" ∧ yX3_isAtRoom.cls ≠ "java/lang/invoke/VarHandle" ∧ (parseMethodDescriptor yX3_isAtRoom.desc).map (fun d => d.parameters.length) = some 3 := by decide +kernel
set_option maxHeartbeats 4000000 in
set_option maxRecDepth 100000 in
theorem m_X3_isAtRoom (l : Launch) (G : va_G) (g : Nat → ClassId) (hM : Nat) (hs : Nat) (place : Int) (room : Int) (fs : List Value) (br : Int) (S : Int → Int) (hF_fs_18 : fs[18]? = some (.int (iI br))) (r_place : r32 place) (r_room : r32 room) (kS : rgS S) (hbr : 1 ≤ br ∧ br ≤ 3) (hp : 0 ≤ place ∧ place ≤ 191) : Met l yX3_isAtRoom (ws_ yX3_isAtRoom cX3_isAtRoom 6 (Option.some Jvm.ClassFile.FieldType.boolean)) ({ frames := 4, cells := 0, slots := 0, locals := 88 }) (va_Pc [.ref hM, .ref hs, .int (iI place), .int (iI room)] (rdB G CL (TY g) (fun _ => True) [(hM, .inr (2, fs)), (hs, .inl (g 0, 253, .inl (aI S)))])) (QcRead ((iI (qz (atR S br place room))))) 0 0 (fun _ => False) := by
  refine Met.at (by decide) (Nat.le_of_ble_eq_true rfl) ?_
  intro p e s m below meth c hx hb hr hlk hml hown hnm hts hB ls hl
  have hown : s.vm.findClass RX3 = some m.cls := hown
  obtain ⟨hP, hK, hEs⟩ := hB
  have hl : lv_has ls 6 [(0, .ref hM), (1, .ref hs), (2, .int (iI place)), (3, .int (iI room))] := hl
  have bb := bb_rng hbr
  refine lv_iconst (v := iI 0) hx hb dX3_isAtRoom_0 rfl ?_
  refine lv_istore (lv' := [(4, .int (iI 0)), (0, .ref hM), (1, .ref hs), (2, .int (iI place)), (3, .int (iI room))]) hx hb dX3_isAtRoom_1 hl (by decide) rfl (fun ls hl => ?_)
  refine lv_iconst (v := iI 0) hx hb dX3_isAtRoom_3 rfl ?_
  refine lv_istore (lv' := [(5, .int (iI 0)), (4, .int (iI 0)), (0, .ref hM), (1, .ref hs), (2, .int (iI place)), (3, .int (iI room))]) hx hb dX3_isAtRoom_4 hl (by decide) rfl (fun ls hl => ?_)
  have lp6 : ∀ (n : Nat) (k : Nat), ((k : Int) ≤ br * br) → (br * br).toNat - k = n → ∀ ls : Array Slot, lv_has ls 6 [(0, .ref hM), (1, .ref hs), (2, .int (iI place)), (3, .int (iI room)), (4, .int (iI (qz (atN S br place room k)))), (5, .int (iI (k : Int)))] → W p l e ({ frames := 4, cells := 0, slots := 0, locals := 88 }) s m ([.ref hM, .ref hs, .int (iI place), .int (iI room)] : List Value).toArray below meth c s.heap [] 0 0 (MQ below (QcRead ((iI (qz (atR S br place room))))) ([.ref hM, .ref hs, .int (iI place), .int (iI room)] : List Value).toArray s 0 0 (fun _ => False)) (F0 m 6 ls []) := by
    intro n
    refine Nat.strongRecOn n ?_
    intro n ih6 k hk hmu6 ls hl
    refine lv_iload hx hb dX3_isAtRoom_6 (lv_at hl 5 rfl) ?_
    refine lv_aload_n hx hb dX3_isAtRoom_8 rfl (lv_at hl 0 rfl) ?_
    refine va_get (D := G) (ci := 2) (v := .int (iI br)) (C := RX3) (T := TX3) (N := 20) hx hb hts in_X3 hown hK hP 0 rfl rfl 18 (by decide) (hts _ q1456) (fun _ h9 => h9) hF_fs_18 dX3_isAtRoom_9 ?_
    refine lv_aload_n hx hb dX3_isAtRoom_12 rfl (lv_at hl 0 rfl) ?_
    refine va_get (D := G) (ci := 2) (v := .int (iI br)) (C := RX3) (T := TX3) (N := 20) hx hb hts in_X3 hown hK hP 0 rfl rfl 18 (by decide) (hts _ q1456) (fun _ h9 => h9) hF_fs_18 dX3_isAtRoom_13 ?_
    refine g_imul hx hb dX3_isAtRoom_16 ?_
    refine g_icmp_ge (tgt := 70) hx hb dX3_isAtRoom_17 (by decide) ⟨⟨by omega, by omega⟩, ⟨by omega, by omega⟩⟩ (fun c1 => ?_) (fun c1 => ?_)
    · refine lv_iload hx hb dX3_isAtRoom_70 (lv_at hl 4 rfl) ?_
      exact g_zret hx hb hr hlk (by rw [show k = (br * br).toNat from by omega]; exact Iff.rfl) dX3_isAtRoom_72
    · have dk := dm (k := (k : Int)) (b := br) (by omega) hbr.1 (by assumption)
      refine lv_iload hx hb dX3_isAtRoom_20 (lv_at hl 4 rfl) ?_
      have hJ2 : ∀ ls : Array Slot, lv_has ls 6 [(0, .ref hM), (1, .ref hs), (2, .int (iI place)), (3, .int (iI room)), (4, .int (iI (qz (atN S br place room k)))), (5, .int (iI (k : Int)))] → W p l e ({ frames := 4, cells := 0, slots := 0, locals := 88 }) s m ([.ref hM, .ref hs, .int (iI place), .int (iI room)] : List Value).toArray below meth c s.heap [] 0 0 (MQ below (QcRead ((iI (qz (atR S br place room))))) ([.ref hM, .ref hs, .int (iI place), .int (iI room)] : List Value).toArray s 0 0 (fun _ => False)) (F0 m 62 ls [.int (iI (qz ((atN S br place room k) ∨ (bsd S ((place % 16) + ((k : Int) % br)) ((place / 16) + ((k : Int) / br)) room))))]) := by
        intro ls hl
        refine lv_istore (lv' := [(4, .int (iI (qz ((atN S br place room k) ∨ (bsd S ((place % 16) + ((k : Int) % br)) ((place / 16) + ((k : Int) / br)) room))))), (0, .ref hM), (1, .ref hs), (2, .int (iI place)), (3, .int (iI room)), (5, .int (iI (k : Int)))]) hx hb dX3_isAtRoom_62 hl (by decide) rfl (fun ls hl => ?_)
        refine g_iinc (lv' := [(5, .int (iI ((k : Int) + 1))), (4, .int (iI (qz ((atN S br place room k) ∨ (bsd S ((place % 16) + ((k : Int) % br)) ((place / 16) + ((k : Int) / br)) room))))), (0, .ref hM), (1, .ref hs), (2, .int (iI place)), (3, .int (iI room))]) hx hb dX3_isAtRoom_64 hl (k := 5) rfl (by decide) rfl (fun ls hl => ?_)
        refine lv_goto (tgt := 6) hx hb dX3_isAtRoom_67 (by decide) ?_
        exact ih6 _ (by omega) (k + 1) (by omega) rfl ls (lv_sub hl [2, 3, 4, 5, 1, 0] rfl)
      refine g_ifq_ne (tgt := 57) hx hb dX3_isAtRoom_22 (by decide) (fun c3 => ?_) (fun c3 => ?_)
      · refine lv_iconst (v := iI 1) hx hb dX3_isAtRoom_57 rfl ?_
        refine lv_goto (tgt := 62) hx hb dX3_isAtRoom_58 (by decide) ?_
        refine g_eq (b := qz ((atN S br place room k) ∨ (bsd S ((place % 16) + ((k : Int) % br)) ((place / 16) + ((k : Int) / br)) room))) (qz_t (Or.inl c3)).symm ?_
        exact hJ2 ls (lv_sub hl [0, 1, 2, 3, 4, 5] rfl)
      · refine lv_aload_n hx hb dX3_isAtRoom_25 rfl (lv_at hl 1 rfl) ?_
        refine lv_iload_n hx hb dX3_isAtRoom_26 rfl (lv_at hl 2 rfl) ?_
        refine lv_bipush (v := iI 16) hx hb dX3_isAtRoom_27 rfl ?_
        refine g_irem hx hb dX3_isAtRoom_29 ⟨⟨by omega, by omega⟩, ⟨by decide, by decide⟩⟩ ?_
        refine lv_iload hx hb dX3_isAtRoom_30 (lv_at hl 5 rfl) ?_
        refine lv_aload_n hx hb dX3_isAtRoom_32 rfl (lv_at hl 0 rfl) ?_
        refine va_get (D := G) (ci := 2) (v := .int (iI br)) (C := RX3) (T := TX3) (N := 20) hx hb hts in_X3 hown hK hP 0 rfl rfl 18 (by decide) (hts _ q1456) (fun _ h9 => h9) hF_fs_18 dX3_isAtRoom_33 ?_
        refine g_irem hx hb dX3_isAtRoom_36 ⟨⟨by omega, by omega⟩, ⟨by omega, by omega⟩⟩ ?_
        refine g_iadd hx hb dX3_isAtRoom_37 ?_
        refine lv_iload_n hx hb dX3_isAtRoom_38 rfl (lv_at hl 2 rfl) ?_
        refine lv_bipush (v := iI 16) hx hb dX3_isAtRoom_39 rfl ?_
        refine g_idiv hx hb dX3_isAtRoom_41 ⟨⟨by omega, by omega⟩, ⟨by decide, by decide⟩⟩ ?_
        refine lv_iload hx hb dX3_isAtRoom_42 (lv_at hl 5 rfl) ?_
        refine lv_aload_n hx hb dX3_isAtRoom_44 rfl (lv_at hl 0 rfl) ?_
        refine va_get (D := G) (ci := 2) (v := .int (iI br)) (C := RX3) (T := TX3) (N := 20) hx hb hts in_X3 hown hK hP 0 rfl rfl 18 (by decide) (hts _ q1456) (fun _ h9 => h9) hF_fs_18 dX3_isAtRoom_45 ?_
        refine g_idiv hx hb dX3_isAtRoom_48 ⟨⟨by omega, by omega⟩, ⟨by omega, by omega⟩⟩ ?_
        refine g_iadd hx hb dX3_isAtRoom_49 ?_
        refine lv_iload_n hx hb dX3_isAtRoom_50 rfl (lv_at hl 3 rfl) ?_
        refine g_callS (A := fun _ => False) (As := [.ref hs, .int (iI ((place % 16) + ((k : Int) % br))), .int (iI ((place / 16) + ((k : Int) / br))), .int (iI room)]) (rest := []) (m_X3_isBeside l G g hs ((place % 16) + ((k : Int) % br)) ((place / 16) + ((k : Int) / br)) room S (⟨by omega, by omega⟩) (⟨by omega, by omega⟩) r_room kS (by omega) (by omega)) hx hb hml hown hts Stab.tt hK hP va_S.rf hEs [1] rfl q1594 q1595 q102 q1596 hd_X3_isBeside rfl rfl ⟨Nat.le_of_ble_eq_true rfl, Nat.le_of_ble_eq_true rfl⟩ rfl hl rfl (Nat.le_of_ble_eq_true rfl) ⟨Nat.le_refl _, Nat.le_refl _⟩ dX3_isAtRoom_51 ?_
        refine g_ifq_eq (tgt := 61) hx hb dX3_isAtRoom_54 (by decide) (fun c4 => ?_) (fun c4 => ?_)
        · refine lv_iconst (v := iI 0) hx hb dX3_isAtRoom_61 rfl ?_
          refine g_eq (b := qz ((atN S br place room k) ∨ (bsd S ((place % 16) + ((k : Int) % br)) ((place / 16) + ((k : Int) / br)) room))) (qz_f (fun xx => (c4 (xx.resolve_left c3)))).symm ?_
          exact hJ2 ls (lv_sub hl [0, 1, 2, 3, 4, 5] rfl)
        · refine lv_iconst (v := iI 1) hx hb dX3_isAtRoom_57 rfl ?_
          refine lv_goto (tgt := 62) hx hb dX3_isAtRoom_58 (by decide) ?_
          refine g_eq (b := qz ((atN S br place room k) ∨ (bsd S ((place % 16) + ((k : Int) % br)) ((place / 16) + ((k : Int) / br)) room))) (qz_t (Or.inr c4)).symm ?_
          exact hJ2 ls (lv_sub hl [0, 1, 2, 3, 4, 5] rfl)
  exact lp6 _ 0 (by omega) rfl ls (by rw [show qz (atN S br place room 0) = 0 from qz_f (fun h => h)]; exact lv_sub hl [2, 3, 4, 5, 1, 0] rfl)
theorem hd_X3_rock : yX3_rock.cls = RX3 ∧ yX3_rock.cls ≠ "java/lang/invoke/MethodHandle" ∧ yX3_rock.cls ≠ "java/lang/invoke/VarHandle" ∧ (parseMethodDescriptor yX3_rock.desc).map (fun d => d.parameters.length) = some 3 := by decide +kernel
set_option maxHeartbeats 4000000 in
set_option maxRecDepth 100000 in
theorem m_X3_rock (l : Launch) (G : va_G) (g : Nat → ClassId) (hM : Nat) (hs : Nat) (place : Int) (ahead : Int) (fs : List Value) (br : Int) (S : Int → Int) (hF_fs_18 : fs[18]? = some (.int (iI br))) (r_place : r32 place) (r_ahead : r32 ahead) (kS : rgS S) (hbr : 1 ≤ br ∧ br ≤ 3) (hp : 0 ≤ place ∧ place ≤ 191) (hq : -1 ≤ ahead ∧ ahead ≤ 191) : Met l yX3_rock (ws_ yX3_rock cX3_rock 9 (Option.some Jvm.ClassFile.FieldType.int)) ({ frames := 3, cells := 0, slots := 0, locals := 65 }) (va_Pc [.ref hM, .ref hs, .int (iI place), .int (iI ahead)] (rdB G CL (TY g) (fun _ => True) [(hM, .inr (2, fs)), (hs, .inl (g 0, 253, .inl (aI S)))])) (QcRead ((iI (rk S br place ahead)))) 0 0 (fun _ => False) := by
  refine Met.at (by decide) (Nat.le_of_ble_eq_true rfl) ?_
  intro p e s m below meth c hx hb hr hlk hml hown hnm hts hB ls hl
  have hown : s.vm.findClass RX3 = some m.cls := hown
  obtain ⟨hP, hK, hEs⟩ := hB
  have hl : lv_has ls 9 [(0, .ref hM), (1, .ref hs), (2, .int (iI place)), (3, .int (iI ahead))] := hl
  have bb := bb_rng hbr
  refine lv_iconst (v := iI 0) hx hb dX3_rock_0 rfl ?_
  refine lv_istore (lv' := [(4, .int (iI 0)), (0, .ref hM), (1, .ref hs), (2, .int (iI place)), (3, .int (iI ahead))]) hx hb dX3_rock_1 hl (by decide) rfl (fun ls hl => ?_)
  refine lv_iconst (v := iI 0) hx hb dX3_rock_3 rfl ?_
  refine lv_istore (lv' := [(5, .int (iI 0)), (4, .int (iI 0)), (0, .ref hM), (1, .ref hs), (2, .int (iI place)), (3, .int (iI ahead))]) hx hb dX3_rock_4 hl (by decide) rfl (fun ls hl => ?_)
  have lp6 : ∀ (n : Nat) (k : Nat), ((k : Int) ≤ br * br) → (br * br).toNat - k = n → ∀ ls : Array Slot, lv_has ls 9 [(0, .ref hM), (1, .ref hs), (2, .int (iI place)), (3, .int (iI ahead)), (4, .int (iI (sumN (rkT S br place ahead) k))), (5, .int (iI (k : Int)))] → W p l e ({ frames := 3, cells := 0, slots := 0, locals := 65 }) s m ([.ref hM, .ref hs, .int (iI place), .int (iI ahead)] : List Value).toArray below meth c s.heap [] 0 0 (MQ below (QcRead ((iI (rk S br place ahead)))) ([.ref hM, .ref hs, .int (iI place), .int (iI ahead)] : List Value).toArray s 0 0 (fun _ => False)) (F0 m 6 ls []) := by
    intro n
    refine Nat.strongRecOn n ?_
    intro n ih6 k hk hmu6 ls hl
    refine lv_iload hx hb dX3_rock_6 (lv_at hl 5 rfl) ?_
    refine lv_aload_n hx hb dX3_rock_8 rfl (lv_at hl 0 rfl) ?_
    refine va_get (D := G) (ci := 2) (v := .int (iI br)) (C := RX3) (T := TX3) (N := 20) hx hb hts in_X3 hown hK hP 0 rfl rfl 18 (by decide) (hts _ q1456) (fun _ h9 => h9) hF_fs_18 dX3_rock_9 ?_
    refine lv_aload_n hx hb dX3_rock_12 rfl (lv_at hl 0 rfl) ?_
    refine va_get (D := G) (ci := 2) (v := .int (iI br)) (C := RX3) (T := TX3) (N := 20) hx hb hts in_X3 hown hK hP 0 rfl rfl 18 (by decide) (hts _ q1456) (fun _ h9 => h9) hF_fs_18 dX3_rock_13 ?_
    refine g_imul hx hb dX3_rock_16 ?_
    refine g_icmp_ge (tgt := 134) hx hb dX3_rock_17 (by decide) ⟨⟨by omega, by omega⟩, ⟨by omega, by omega⟩⟩ (fun c1 => ?_) (fun c1 => ?_)
    · refine lv_iload hx hb dX3_rock_134 (lv_at hl 4 rfl) ?_
      exact g_iret hx hb hr hlk (by rw [show k = (br * br).toNat from by omega]; rfl) dX3_rock_136
    · have dk := dm (k := (k : Int)) (b := br) (by omega) hbr.1 (by assumption)
      refine lv_iload_n hx hb dX3_rock_20 rfl (lv_at hl 2 rfl) ?_
      refine lv_bipush (v := iI 16) hx hb dX3_rock_21 rfl ?_
      refine g_irem hx hb dX3_rock_23 ⟨⟨by omega, by omega⟩, ⟨by decide, by decide⟩⟩ ?_
      refine lv_iload hx hb dX3_rock_24 (lv_at hl 5 rfl) ?_
      refine lv_aload_n hx hb dX3_rock_26 rfl (lv_at hl 0 rfl) ?_
      refine va_get (D := G) (ci := 2) (v := .int (iI br)) (C := RX3) (T := TX3) (N := 20) hx hb hts in_X3 hown hK hP 0 rfl rfl 18 (by decide) (hts _ q1456) (fun _ h9 => h9) hF_fs_18 dX3_rock_27 ?_
      refine g_irem hx hb dX3_rock_30 ⟨⟨by omega, by omega⟩, ⟨by omega, by omega⟩⟩ ?_
      refine g_iadd hx hb dX3_rock_31 ?_
      refine lv_istore (lv' := [(6, .int (iI ((place % 16) + ((k : Int) % br)))), (0, .ref hM), (1, .ref hs), (2, .int (iI place)), (3, .int (iI ahead)), (4, .int (iI (sumN (rkT S br place ahead) k))), (5, .int (iI (k : Int)))]) hx hb dX3_rock_32 hl (by decide) rfl (fun ls hl => ?_)
      refine lv_iload_n hx hb dX3_rock_34 rfl (lv_at hl 3 rfl) ?_
      refine lv_bipush (v := iI 16) hx hb dX3_rock_35 rfl ?_
      refine g_idiv hx hb dX3_rock_37 ⟨⟨by omega, by omega⟩, ⟨by decide, by decide⟩⟩ ?_
      refine lv_iload hx hb dX3_rock_38 (lv_at hl 6 rfl) ?_
      refine lv_aload_n hx hb dX3_rock_40 rfl (lv_at hl 1 rfl) ?_
      refine va_get (D := G) (ci := 2) (v := .int (iI br)) (C := RX3) (T := TX3) (N := 20) hx hb hts in_X3 hown hK hP 0 rfl rfl 18 (by decide) (hts _ q1456) (fun _ h9 => h9) hF_fs_18 dX3_rock_41 ?_
      refine g_idiv hx hb dX3_rock_44 ⟨⟨by omega, by omega⟩, ⟨by omega, by omega⟩⟩ ?_
      refine g_iadd hx hb dX3_rock_45 ?_
      refine lv_istore (lv' := [(7, .int (iI ((place / 16) + ((k : Int) / br)))), (6, .int (iI ((place % 16) + ((k : Int) % br)))), (0, .ref hM), (1, .ref hs), (2, .int (iI place)), (3, .int (iI ahead)), (4, .int (iI (sumN (rkT S br place ahead) k))), (5, .int (iI (k : Int)))]) hx hb dX3_rock_46 hl (by decide) rfl (fun ls hl => ?_)
      refine lv_iload_n hx hb dX3_rock_48 rfl (lv_at hl 5 rfl) ?_
      refine lv_iconst (v := iI (-1)) hx hb dX3_rock_49 rfl ?_
      have hJ2 : ∀ ls : Array Slot, lv_has ls 9 [(0, .ref hM), (1, .ref hs), (2, .int (iI place)), (3, .int (iI ahead)), (4, .int (iI (sumN (rkT S br place ahead) k))), (5, .int (iI (k : Int))), (6, .int (iI ((place % 16) + ((k : Int) % br)))), (7, .int (iI ((place / 16) + ((k : Int) / br))))] → W p l e ({ frames := 3, cells := 0, slots := 0, locals := 65 }) s m ([.ref hM, .ref hs, .int (iI place), .int (iI ahead)] : List Value).toArray below meth c s.heap [] 0 0 (MQ below (QcRead ((iI (rk S br place ahead)))) ([.ref hM, .ref hs, .int (iI place), .int (iI ahead)] : List Value).toArray s 0 0 (fun _ => False)) (F0 m 98 ls [.int (iI (qz (¬ (ahead = (-1)) ∧ ((0 ≤ (((place % 16) + ((k : Int) % br)) - (ahead % 16)) ∧ (((place % 16) + ((k : Int) % br)) - (ahead % 16)) ≤ (br - 1)) ∧ (0 ≤ (((place / 16) + ((k : Int) / br)) - (ahead / 16)) ∧ (((place / 16) + ((k : Int) / br)) - (ahead / 16)) ≤ (br - 1))))))]) := by
        intro ls hl
        refine lv_istore (lv' := [(8, .int (iI (qz (¬ (ahead = (-1)) ∧ ((0 ≤ (((place % 16) + ((k : Int) % br)) - (ahead % 16)) ∧ (((place % 16) + ((k : Int) % br)) - (ahead % 16)) ≤ (br - 1)) ∧ (0 ≤ (((place / 16) + ((k : Int) / br)) - (ahead / 16)) ∧ (((place / 16) + ((k : Int) / br)) - (ahead / 16)) ≤ (br - 1))))))), (0, .ref hM), (1, .ref hs), (2, .int (iI place)), (3, .int (iI ahead)), (4, .int (iI (sumN (rkT S br place ahead) k))), (5, .int (iI (k : Int))), (6, .int (iI ((place % 16) + ((k : Int) % br)))), (7, .int (iI ((place / 16) + ((k : Int) / br))))]) hx hb dX3_rock_98 hl (by decide) rfl (fun ls hl => ?_)
        refine lv_iload hx hb dX3_rock_100 (lv_at hl 5 rfl) ?_
        refine lv_iload hx hb dX3_rock_102 (lv_at hl 0 rfl) ?_
        have hJ3 : ∀ ls : Array Slot, lv_has ls 9 [(0, .ref hM), (1, .ref hs), (2, .int (iI place)), (3, .int (iI ahead)), (4, .int (iI (sumN (rkT S br place ahead) k))), (5, .int (iI (k : Int))), (6, .int (iI ((place % 16) + ((k : Int) % br)))), (7, .int (iI ((place / 16) + ((k : Int) / br)))), (8, .int (iI (qz (¬ (ahead = (-1)) ∧ ((0 ≤ (((place % 16) + ((k : Int) % br)) - (ahead % 16)) ∧ (((place % 16) + ((k : Int) % br)) - (ahead % 16)) ≤ (br - 1)) ∧ (0 ≤ (((place / 16) + ((k : Int) / br)) - (ahead / 16)) ∧ (((place / 16) + ((k : Int) / br)) - (ahead / 16)) ≤ (br - 1)))))))] → W p l e ({ frames := 3, cells := 0, slots := 0, locals := 65 }) s m ([.ref hM, .ref hs, .int (iI place), .int (iI ahead)] : List Value).toArray below meth c s.heap [] 0 0 (MQ below (QcRead ((iI (rk S br place ahead)))) ([.ref hM, .ref hs, .int (iI place), .int (iI ahead)] : List Value).toArray s 0 0 (fun _ => False)) (F0 m 125 ls [.int (iI (qz (¬ (¬ (ahead = (-1)) ∧ ((0 ≤ (((place % 16) + ((k : Int) % br)) - (ahead % 16)) ∧ (((place % 16) + ((k : Int) % br)) - (ahead % 16)) ≤ (br - 1)) ∧ (0 ≤ (((place / 16) + ((k : Int) / br)) - (ahead / 16)) ∧ (((place / 16) + ((k : Int) / br)) - (ahead / 16)) ≤ (br - 1)))) ∧ ((wh S ((place % 16) + ((k : Int) % br)) ((place / 16) + ((k : Int) / br))) = (-2))))), .int (iI (sumN (rkT S br place ahead) k))]) := by
          intro ls hl
          refine g_iadd hx hb dX3_rock_125 ?_
          refine lv_istore (lv' := [(4, .int (iI ((sumN (rkT S br place ahead) k) + (qz (¬ (¬ (ahead = (-1)) ∧ ((0 ≤ (((place % 16) + ((k : Int) % br)) - (ahead % 16)) ∧ (((place % 16) + ((k : Int) % br)) - (ahead % 16)) ≤ (br - 1)) ∧ (0 ≤ (((place / 16) + ((k : Int) / br)) - (ahead / 16)) ∧ (((place / 16) + ((k : Int) / br)) - (ahead / 16)) ≤ (br - 1)))) ∧ ((wh S ((place % 16) + ((k : Int) % br)) ((place / 16) + ((k : Int) / br))) = (-2))))))), (0, .ref hM), (1, .ref hs), (2, .int (iI place)), (3, .int (iI ahead)), (5, .int (iI (k : Int))), (6, .int (iI ((place % 16) + ((k : Int) % br)))), (7, .int (iI ((place / 16) + ((k : Int) / br)))), (8, .int (iI (qz (¬ (ahead = (-1)) ∧ ((0 ≤ (((place % 16) + ((k : Int) % br)) - (ahead % 16)) ∧ (((place % 16) + ((k : Int) % br)) - (ahead % 16)) ≤ (br - 1)) ∧ (0 ≤ (((place / 16) + ((k : Int) / br)) - (ahead / 16)) ∧ (((place / 16) + ((k : Int) / br)) - (ahead / 16)) ≤ (br - 1)))))))]) hx hb dX3_rock_126 hl (by decide) rfl (fun ls hl => ?_)
          refine g_iinc (lv' := [(5, .int (iI ((k : Int) + 1))), (4, .int (iI ((sumN (rkT S br place ahead) k) + (qz (¬ (¬ (ahead = (-1)) ∧ ((0 ≤ (((place % 16) + ((k : Int) % br)) - (ahead % 16)) ∧ (((place % 16) + ((k : Int) % br)) - (ahead % 16)) ≤ (br - 1)) ∧ (0 ≤ (((place / 16) + ((k : Int) / br)) - (ahead / 16)) ∧ (((place / 16) + ((k : Int) / br)) - (ahead / 16)) ≤ (br - 1)))) ∧ ((wh S ((place % 16) + ((k : Int) % br)) ((place / 16) + ((k : Int) / br))) = (-2))))))), (0, .ref hM), (1, .ref hs), (2, .int (iI place)), (3, .int (iI ahead)), (6, .int (iI ((place % 16) + ((k : Int) % br)))), (7, .int (iI ((place / 16) + ((k : Int) / br)))), (8, .int (iI (qz (¬ (ahead = (-1)) ∧ ((0 ≤ (((place % 16) + ((k : Int) % br)) - (ahead % 16)) ∧ (((place % 16) + ((k : Int) % br)) - (ahead % 16)) ≤ (br - 1)) ∧ (0 ≤ (((place / 16) + ((k : Int) / br)) - (ahead / 16)) ∧ (((place / 16) + ((k : Int) / br)) - (ahead / 16)) ≤ (br - 1)))))))]) hx hb dX3_rock_128 hl (k := 5) rfl (by decide) rfl (fun ls hl => ?_)
          refine lv_goto (tgt := 6) hx hb dX3_rock_131 (by decide) ?_
          exact ih6 _ (by omega) (k + 1) (by omega) rfl ls (lv_sub hl [2, 3, 4, 5, 1, 0] rfl)
        refine g_ifq_ne (tgt := 124) hx hb dX3_rock_104 (by decide) (fun c4 => ?_) (fun c4 => ?_)
        · refine lv_iconst (v := iI 0) hx hb dX3_rock_124 rfl ?_
          refine g_eq (b := qz (¬ (¬ (ahead = (-1)) ∧ ((0 ≤ (((place % 16) + ((k : Int) % br)) - (ahead % 16)) ∧ (((place % 16) + ((k : Int) % br)) - (ahead % 16)) ≤ (br - 1)) ∧ (0 ≤ (((place / 16) + ((k : Int) / br)) - (ahead / 16)) ∧ (((place / 16) + ((k : Int) / br)) - (ahead / 16)) ≤ (br - 1)))) ∧ ((wh S ((place % 16) + ((k : Int) % br)) ((place / 16) + ((k : Int) / br))) = (-2)))) (qz_f (fun xx => (xx.1 c4))).symm ?_
          exact hJ3 ls (lv_sub hl [1, 2, 3, 4, 5, 6, 7, 8, 0] rfl)
        · refine lv_aload_n hx hb dX3_rock_107 rfl (lv_at hl 2 rfl) ?_
          refine lv_iload hx hb dX3_rock_108 (lv_at hl 7 rfl) ?_
          refine lv_iload hx hb dX3_rock_110 (lv_at hl 8 rfl) ?_
          refine g_callS (A := fun _ => False) (As := [.ref hs, .int (iI ((place % 16) + ((k : Int) % br))), .int (iI ((place / 16) + ((k : Int) / br)))]) (rest := [.int (iI (sumN (rkT S br place ahead) k))]) (m_X3_what l G g hs ((place % 16) + ((k : Int) % br)) ((place / 16) + ((k : Int) / br)) S (⟨by omega, by omega⟩) (⟨by omega, by omega⟩) kS) hx hb hml hown hts Stab.tt hK hP va_S.rf hEs [1] rfl q1535 q1536 q102 q1537 hd_X3_what rfl rfl ⟨Nat.le_of_ble_eq_true rfl, Nat.le_of_ble_eq_true rfl⟩ rfl hl rfl (Nat.le_of_ble_eq_true rfl) ⟨Nat.le_refl _, Nat.le_refl _⟩ dX3_rock_112 ?_
          have w5 := wh_rng kS ((place % 16) + ((k : Int) % br)) ((place / 16) + ((k : Int) / br))
          refine lv_bipush (v := iI (-2)) hx hb dX3_rock_115 rfl ?_
          refine g_icmp_ne (tgt := 124) hx hb dX3_rock_117 (by decide) ⟨⟨by omega, by omega⟩, ⟨by decide, by decide⟩⟩ (fun c6 => ?_) (fun c6 => ?_)
          · refine lv_iconst (v := iI 0) hx hb dX3_rock_124 rfl ?_
            refine g_eq (b := qz (¬ (¬ (ahead = (-1)) ∧ ((0 ≤ (((place % 16) + ((k : Int) % br)) - (ahead % 16)) ∧ (((place % 16) + ((k : Int) % br)) - (ahead % 16)) ≤ (br - 1)) ∧ (0 ≤ (((place / 16) + ((k : Int) / br)) - (ahead / 16)) ∧ (((place / 16) + ((k : Int) / br)) - (ahead / 16)) ≤ (br - 1)))) ∧ ((wh S ((place % 16) + ((k : Int) % br)) ((place / 16) + ((k : Int) / br))) = (-2)))) (qz_f (fun xx => (c6 xx.2))).symm ?_
            exact hJ3 ls (lv_sub hl [1, 2, 3, 4, 5, 6, 7, 8, 0] rfl)
          · refine lv_iconst (v := iI 1) hx hb dX3_rock_120 rfl ?_
            refine lv_goto (tgt := 125) hx hb dX3_rock_121 (by decide) ?_
            refine g_eq (b := qz (¬ (¬ (ahead = (-1)) ∧ ((0 ≤ (((place % 16) + ((k : Int) % br)) - (ahead % 16)) ∧ (((place % 16) + ((k : Int) % br)) - (ahead % 16)) ≤ (br - 1)) ∧ (0 ≤ (((place / 16) + ((k : Int) / br)) - (ahead / 16)) ∧ (((place / 16) + ((k : Int) / br)) - (ahead / 16)) ≤ (br - 1)))) ∧ ((wh S ((place % 16) + ((k : Int) % br)) ((place / 16) + ((k : Int) / br))) = (-2)))) (qz_t ⟨c4, c6⟩).symm ?_
            exact hJ3 ls (lv_sub hl [1, 2, 3, 4, 5, 6, 7, 8, 0] rfl)
      refine g_icmp_eq (tgt := 97) hx hb dX3_rock_50 (by decide) ⟨r_ahead, ⟨by decide, by decide⟩⟩ (fun c7 => ?_) (fun c7 => ?_)
      · refine lv_iconst (v := iI 0) hx hb dX3_rock_97 rfl ?_
        refine g_eq (b := qz (¬ (ahead = (-1)) ∧ ((0 ≤ (((place % 16) + ((k : Int) % br)) - (ahead % 16)) ∧ (((place % 16) + ((k : Int) % br)) - (ahead % 16)) ≤ (br - 1)) ∧ (0 ≤ (((place / 16) + ((k : Int) / br)) - (ahead / 16)) ∧ (((place / 16) + ((k : Int) / br)) - (ahead / 16)) ≤ (br - 1))))) (qz_f (fun xx => (xx.1 c7))).symm ?_
        exact hJ2 ls (lv_sub hl [2, 3, 4, 5, 6, 7, 1, 0] rfl)
      · refine lv_iload hx hb dX3_rock_53 (lv_at hl 1 rfl) ?_
        refine lv_iload_n hx hb dX3_rock_55 rfl (lv_at hl 5 rfl) ?_
        refine lv_bipush (v := iI 16) hx hb dX3_rock_56 rfl ?_
        refine g_irem hx hb dX3_rock_58 ⟨⟨by omega, by omega⟩, ⟨by decide, by decide⟩⟩ ?_
        refine g_isub hx hb dX3_rock_59 ?_
        refine lv_iconst (v := iI 0) hx hb dX3_rock_60 rfl ?_
        refine lv_aload_n hx hb dX3_rock_61 rfl (lv_at hl 2 rfl) ?_
        refine va_get (D := G) (ci := 2) (v := .int (iI br)) (C := RX3) (T := TX3) (N := 20) hx hb hts in_X3 hown hK hP 0 rfl rfl 18 (by decide) (hts _ q1456) (fun _ h9 => h9) hF_fs_18 dX3_rock_62 ?_
        refine lv_iconst (v := iI 1) hx hb dX3_rock_65 rfl ?_
        refine g_isub hx hb dX3_rock_66 ?_
        refine g_callS (A := fun _ => False) (As := [.int (iI (((place % 16) + ((k : Int) % br)) - (ahead % 16))), .int (iI 0), .int (iI (br - 1))]) (rest := []) (m_X3_in l G g (((place % 16) + ((k : Int) % br)) - (ahead % 16)) 0 (br - 1) (⟨by omega, by omega⟩) ⟨by decide, by decide⟩ (⟨by omega, by omega⟩)) hx hb hml hown hts Stab.tt hK hP va_S.rf hEs [] rfl q1518 q1519 q102 q1520 hd_X3_in rfl rfl ⟨Nat.le_of_ble_eq_true rfl, Nat.le_of_ble_eq_true rfl⟩ rfl hl rfl (Nat.le_of_ble_eq_true rfl) ⟨Nat.le_refl _, Nat.le_refl _⟩ dX3_rock_67 ?_
        refine g_ifq_eq (tgt := 97) hx hb dX3_rock_70 (by decide) (fun c8 => ?_) (fun c8 => ?_)
        · refine lv_iconst (v := iI 0) hx hb dX3_rock_97 rfl ?_
          refine g_eq (b := qz (¬ (ahead = (-1)) ∧ ((0 ≤ (((place % 16) + ((k : Int) % br)) - (ahead % 16)) ∧ (((place % 16) + ((k : Int) % br)) - (ahead % 16)) ≤ (br - 1)) ∧ (0 ≤ (((place / 16) + ((k : Int) / br)) - (ahead / 16)) ∧ (((place / 16) + ((k : Int) / br)) - (ahead / 16)) ≤ (br - 1))))) (qz_f (fun xx => (c8 xx.2.1))).symm ?_
          exact hJ2 ls (lv_sub hl [2, 3, 4, 5, 6, 7, 1, 0] rfl)
        · refine lv_iload hx hb dX3_rock_73 (lv_at hl 0 rfl) ?_
          refine lv_iload_n hx hb dX3_rock_75 rfl (lv_at hl 5 rfl) ?_
          refine lv_bipush (v := iI 16) hx hb dX3_rock_76 rfl ?_
          refine g_idiv hx hb dX3_rock_78 ⟨⟨by omega, by omega⟩, ⟨by decide, by decide⟩⟩ ?_
          refine g_isub hx hb dX3_rock_79 ?_
          refine lv_iconst (v := iI 0) hx hb dX3_rock_80 rfl ?_
          refine lv_aload_n hx hb dX3_rock_81 rfl (lv_at hl 2 rfl) ?_
          refine va_get (D := G) (ci := 2) (v := .int (iI br)) (C := RX3) (T := TX3) (N := 20) hx hb hts in_X3 hown hK hP 0 rfl rfl 18 (by decide) (hts _ q1456) (fun _ h9 => h9) hF_fs_18 dX3_rock_82 ?_
          refine lv_iconst (v := iI 1) hx hb dX3_rock_85 rfl ?_
          refine g_isub hx hb dX3_rock_86 ?_
          refine g_callS (A := fun _ => False) (As := [.int (iI (((place / 16) + ((k : Int) / br)) - (ahead / 16))), .int (iI 0), .int (iI (br - 1))]) (rest := []) (m_X3_in l G g (((place / 16) + ((k : Int) / br)) - (ahead / 16)) 0 (br - 1) (⟨by omega, by omega⟩) ⟨by decide, by decide⟩ (⟨by omega, by omega⟩)) hx hb hml hown hts Stab.tt hK hP va_S.rf hEs [] rfl q1518 q1519 q102 q1520 hd_X3_in rfl rfl ⟨Nat.le_of_ble_eq_true rfl, Nat.le_of_ble_eq_true rfl⟩ rfl hl rfl (Nat.le_of_ble_eq_true rfl) ⟨Nat.le_refl _, Nat.le_refl _⟩ dX3_rock_87 ?_
          refine g_ifq_eq (tgt := 97) hx hb dX3_rock_90 (by decide) (fun c9 => ?_) (fun c9 => ?_)
          · refine lv_iconst (v := iI 0) hx hb dX3_rock_97 rfl ?_
            refine g_eq (b := qz (¬ (ahead = (-1)) ∧ ((0 ≤ (((place % 16) + ((k : Int) % br)) - (ahead % 16)) ∧ (((place % 16) + ((k : Int) % br)) - (ahead % 16)) ≤ (br - 1)) ∧ (0 ≤ (((place / 16) + ((k : Int) / br)) - (ahead / 16)) ∧ (((place / 16) + ((k : Int) / br)) - (ahead / 16)) ≤ (br - 1))))) (qz_f (fun xx => (c9 xx.2.2))).symm ?_
            exact hJ2 ls (lv_sub hl [2, 3, 4, 5, 6, 7, 1, 0] rfl)
          · refine lv_iconst (v := iI 1) hx hb dX3_rock_93 rfl ?_
            refine lv_goto (tgt := 98) hx hb dX3_rock_94 (by decide) ?_
            refine g_eq (b := qz (¬ (ahead = (-1)) ∧ ((0 ≤ (((place % 16) + ((k : Int) % br)) - (ahead % 16)) ∧ (((place % 16) + ((k : Int) % br)) - (ahead % 16)) ≤ (br - 1)) ∧ (0 ≤ (((place / 16) + ((k : Int) / br)) - (ahead / 16)) ∧ (((place / 16) + ((k : Int) / br)) - (ahead / 16)) ≤ (br - 1))))) (qz_t ⟨c7, ⟨c8, c9⟩⟩).symm ?_
            exact hJ2 ls (lv_sub hl [2, 3, 4, 5, 6, 7, 1, 0] rfl)
  exact lp6 _ 0 (by omega) rfl ls (lv_sub hl [2, 3, 4, 5, 1, 0] rfl)
theorem hd_X3_next : yX3_next.cls = RX3 ∧ yX3_next.cls ≠ "java/lang/invoke/MethodHandle" ∧ yX3_next.cls ≠ "java/lang/invoke/VarHandle" ∧ (parseMethodDescriptor yX3_next.desc).map (fun d => d.parameters.length) = some 3 := by decide +kernel
set_option maxHeartbeats 4000000 in
set_option maxRecDepth 100000 in
theorem m_X3_next (l : Launch) (G : va_G) (g : Nat → ClassId) (hM : Nat) (hs : Nat) (place : Int) (d : Int) (fs : List Value) (hac : Nat) (hal : Nat) (br : Int) (S : Int → Int) (hF_fs_11 : fs[11]? = some (.ref hac)) (hF_fs_12 : fs[12]? = some (.ref hal)) (hF_fs_18 : fs[18]? = some (.int (iI br))) (r_place : r32 place) (r_d : r32 d) (kS : rgS S) (hbr : 1 ≤ br ∧ br ≤ 3) (hp : 0 ≤ place ∧ place ≤ 191) (hd4 : 0 ≤ d ∧ d ≤ 3) : Met l yX3_next (ws_ yX3_next cX3_next 6 (Option.some Jvm.ClassFile.FieldType.int)) ({ frames := 4, cells := 0, slots := 0, locals := 89 }) (va_Pc [.ref hM, .ref hs, .int (iI place), .int (iI d)] (rdB G CL (TY g) (fun _ => True) [(hM, .inr (2, fs)), (hs, .inl (g 0, 253, .inl (aI S))), (hac, .inl (g 0, 4, .inl (aI dx))), (hal, .inl (g 0, 4, .inl (aI dy)))])) (QcRead ((iI (nxM S br place d)))) 0 0 (fun _ => False) := by
  refine Met.at (by decide) (Nat.le_of_ble_eq_true rfl) ?_
  intro p e s m below meth c hx hb hr hlk hml hown hnm hts hB ls hl
  have hown : s.vm.findClass RX3 = some m.cls := hown
  obtain ⟨hP, hK, hEs⟩ := hB
  have hl : lv_has ls 6 [(0, .ref hM), (1, .ref hs), (2, .int (iI place)), (3, .int (iI d))] := hl
  refine lv_iload_n hx hb dX3_next_0 rfl (lv_at hl 2 rfl) ?_
  refine lv_bipush (v := iI 16) hx hb dX3_next_1 rfl ?_
  refine g_irem hx hb dX3_next_3 ⟨⟨by omega, by omega⟩, ⟨by decide, by decide⟩⟩ ?_
  refine lv_aload_n hx hb dX3_next_4 rfl (lv_at hl 0 rfl) ?_
  refine va_get (D := G) (ci := 2) (v := .ref hac) (C := RX3) (T := TX3) (N := 20) hx hb hts in_X3 hown hK hP 0 rfl rfl 11 (by decide) (hts _ q1449) (fun _ h9 => h9) hF_fs_11 dX3_next_5 ?_
  refine lv_iload_n hx hb dX3_next_8 rfl (lv_at hl 3 rfl) ?_
  refine g_iald hx hb hK hP 2 0 rfl rfl (i := d) (⟨by omega, by omega⟩) (by decide) dX3_next_9 ?_
  have w1 := dx_r d (by omega) (by omega)
  refine g_iadd hx hb dX3_next_10 ?_
  refine lv_istore (lv' := [(4, .int (iI ((place % 16) + (dx d)))), (0, .ref hM), (1, .ref hs), (2, .int (iI place)), (3, .int (iI d))]) hx hb dX3_next_11 hl (by decide) rfl (fun ls hl => ?_)
  refine lv_iload_n hx hb dX3_next_13 rfl (lv_at hl 3 rfl) ?_
  refine lv_bipush (v := iI 16) hx hb dX3_next_14 rfl ?_
  refine g_idiv hx hb dX3_next_16 ⟨⟨by omega, by omega⟩, ⟨by decide, by decide⟩⟩ ?_
  refine lv_aload_n hx hb dX3_next_17 rfl (lv_at hl 1 rfl) ?_
  refine va_get (D := G) (ci := 2) (v := .ref hal) (C := RX3) (T := TX3) (N := 20) hx hb hts in_X3 hown hK hP 0 rfl rfl 12 (by decide) (hts _ q1450) (fun _ h9 => h9) hF_fs_12 dX3_next_18 ?_
  refine lv_iload_n hx hb dX3_next_21 rfl (lv_at hl 4 rfl) ?_
  refine g_iald hx hb hK hP 3 0 rfl rfl (i := d) (⟨by omega, by omega⟩) (by decide) dX3_next_22 ?_
  have w2 := dy_r d (by omega) (by omega)
  refine g_iadd hx hb dX3_next_23 ?_
  refine lv_istore (lv' := [(5, .int (iI ((place / 16) + (dy d)))), (4, .int (iI ((place % 16) + (dx d)))), (0, .ref hM), (1, .ref hs), (2, .int (iI place)), (3, .int (iI d))]) hx hb dX3_next_24 hl (by decide) rfl (fun ls hl => ?_)
  refine lv_aload_n hx hb dX3_next_26 rfl (lv_at hl 2 rfl) ?_
  refine lv_aload_n hx hb dX3_next_27 rfl (lv_at hl 3 rfl) ?_
  refine lv_iload hx hb dX3_next_28 (lv_at hl 1 rfl) ?_
  refine lv_iload hx hb dX3_next_30 (lv_at hl 0 rfl) ?_
  refine g_callV (A := fun _ => False) (As := [.ref hs, .int (iI ((place % 16) + (dx d))), .int (iI ((place / 16) + (dy d)))]) (rest := []) (m_X3_isPlace l G g hM hs ((place % 16) + (dx d)) ((place / 16) + (dy d)) fs br S hF_fs_18 (⟨by omega, by omega⟩) (⟨by omega, by omega⟩) kS hbr (by omega) (by omega)) hx hb hml hown hts Stab.tt hK hP va_S.rf hEs [0, 1] rfl (q0 := 0) rfl rfl q1586 q1588 qs62 q102 q1589 hd_X3_isPlace rfl rfl ⟨Nat.le_of_ble_eq_true rfl, Nat.le_of_ble_eq_true rfl⟩ rfl hl rfl (Nat.le_of_ble_eq_true rfl) ⟨Nat.le_refl _, Nat.le_refl _⟩ dX3_next_32 ?_
  have hJ3 : ∀ ls : Array Slot, lv_has ls 6 [(0, .ref hM), (1, .ref hs), (2, .int (iI place)), (3, .int (iI d)), (4, .int (iI ((place % 16) + (dx d)))), (5, .int (iI ((place / 16) + (dy d))))] → W p l e ({ frames := 4, cells := 0, slots := 0, locals := 89 }) s m ([.ref hM, .ref hs, .int (iI place), .int (iI d)] : List Value).toArray below meth c s.heap [] 0 0 (MQ below (QcRead ((iI (nxM S br place d)))) ([.ref hM, .ref hs, .int (iI place), .int (iI d)] : List Value).toArray s 0 0 (fun _ => False)) (F0 m 50 ls [.int (iI (zi (plc S br ((place % 16) + (dx d)) ((place / 16) + (dy d))) ((16 * ((place / 16) + (dy d))) + ((place % 16) + (dx d))) (-1)))]) := by
    intro ls hl
    exact g_iret hx hb hr hlk (rfl) dX3_next_50
  refine g_ifq_eq (tgt := 49) hx hb dX3_next_35 (by decide) (fun c4 => ?_) (fun c4 => ?_)
  · refine lv_iconst (v := iI (-1)) hx hb dX3_next_49 rfl ?_
    refine g_eq (b := zi (plc S br ((place % 16) + (dx d)) ((place / 16) + (dy d))) ((16 * ((place / 16) + (dy d))) + ((place % 16) + (dx d))) (-1)) ((zi_f c4)).symm ?_
    exact hJ3 ls (lv_sub hl [2, 3, 4, 5, 1, 0] rfl)
  · refine lv_bipush (v := iI 16) hx hb dX3_next_38 rfl ?_
    refine lv_iload hx hb dX3_next_40 (lv_at hl 0 rfl) ?_
    refine g_imul hx hb dX3_next_42 ?_
    refine lv_iload hx hb dX3_next_43 (lv_at hl 1 rfl) ?_
    refine g_iadd hx hb dX3_next_45 ?_
    refine lv_goto (tgt := 50) hx hb dX3_next_46 (by decide) ?_
    refine g_eq (b := zi (plc S br ((place % 16) + (dx d)) ((place / 16) + (dy d))) ((16 * ((place / 16) + (dy d))) + ((place % 16) + (dx d))) (-1)) ((zi_t c4)).symm ?_
    exact hJ3 ls (lv_sub hl [2, 3, 4, 5, 1, 0] rfl)
