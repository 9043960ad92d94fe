/-! BASE: machine ints by whole numbers, truth values, arrays -/
def iI (z : Int) : Int32 := Int32.ofInt z
noncomputable def qz (P : Prop) : Int := @ite Int P (Classical.propDecidable P) 1 0
noncomputable def zi (P : Prop) (a b : Int) : Int := @ite Int P (Classical.propDecidable P) a b
theorem qz_t {P : Prop} (h : P) : qz P = 1 := by unfold qz; exact if_pos h
theorem qz_f {P : Prop} (h : ¬ P) : qz P = 0 := by unfold qz; exact if_neg h
theorem zi_t {P : Prop} {a b : Int} (h : P) : zi P a b = a := by unfold zi; exact if_pos h
theorem zi_f {P : Prop} {a b : Int} (h : ¬ P) : zi P a b = b := by unfold zi; exact if_neg h
theorem qz_or (P : Prop) : (P ∧ qz P = 1) ∨ (¬ P ∧ qz P = 0) := by
  by_cases h : P
  · exact Or.inl ⟨h, qz_t h⟩
  · exact Or.inr ⟨h, qz_f h⟩
theorem zi_or (P : Prop) (a b : Int) : (P ∧ zi P a b = a) ∨ (¬ P ∧ zi P a b = b) := by
  by_cases h : P
  · exact Or.inl ⟨h, zi_t h⟩
  · exact Or.inr ⟨h, zi_f h⟩
theorem qz_congr {P Q : Prop} (h : P ↔ Q) : qz P = qz Q := by rw [propext h]
theorem zi_congr {P Q : Prop} {a b : Int} (h : P ↔ Q) : zi P a b = zi Q a b := by rw [propext h]
theorem qz_01 (P : Prop) : 0 ≤ qz P ∧ qz P ≤ 1 := by rcases qz_or P with ⟨-, h⟩ | ⟨-, h⟩ <;> omega
theorem qz_zi (P : Prop) : zi P 1 0 = qz P := rfl
theorem qz_not (P : Prop) : zi P 0 1 = qz (¬ P) := by
  by_cases h : P
  · rw [zi_t h, qz_f (fun n => n h)]
  · rw [zi_f h, qz_t h]
theorem qz_1 {P : Prop} (h : qz P = 1) : P := by
  rcases qz_or P with ⟨a, -⟩ | ⟨-, b⟩
  · exact a
  · omega
theorem qz_0 {P : Prop} (h : qz P = 0) : ¬ P := by
  rcases qz_or P with ⟨-, b⟩ | ⟨a, -⟩
  · omega
  · exact a
abbrev r32 (a : Int) : Prop := -2147483648 ≤ a ∧ a ≤ 2147483647
theorem iI_toInt {z : Int} (h : r32 z) : (iI z).toInt = z := Int32.toInt_ofInt_of_le (by have := h.1; omega) (by have := h.2; omega)
theorem iI_of (x : Int32) : x = iI x.toInt := (Int32.ofInt_toInt x).symm
theorem iI_rng (x : Int32) : r32 x.toInt := ⟨by have := x.le_toInt; omega, by have := x.toInt_lt; omega⟩
theorem iI_add (a b : Int) : iI a + iI b = iI (a + b) := (Int32.ofInt_add a b).symm
theorem iI_sub (a b : Int) : iI a - iI b = iI (a - b) := (Int32.ofInt_sub a b).symm
theorem iI_mul (a b : Int) : iI a * iI b = iI (a * b) := (Int32.ofInt_mul a b).symm
theorem iI_neg (a : Int) : -iI a = iI (-a) := (Int32.ofInt_neg a).symm
theorem iI_lt {a b : Int} (ha : r32 a) (hb : r32 b) : iI a < iI b ↔ a < b := by rw [Int32.lt_iff_toInt_lt, iI_toInt ha, iI_toInt hb]
theorem iI_le {a b : Int} (ha : r32 a) (hb : r32 b) : iI a ≤ iI b ↔ a ≤ b := by rw [Int32.le_iff_toInt_le, iI_toInt ha, iI_toInt hb]
theorem iI_eq {a b : Int} (ha : r32 a) (hb : r32 b) : iI a = iI b ↔ a = b := by
  constructor
  · intro h
    have h2 := congrArg Int32.toInt h
    rwa [iI_toInt ha, iI_toInt hb] at h2
  · intro h; rw [h]
theorem iI_0 : (0 : Int32) = iI 0 := rfl
theorem r32_0 : r32 0 := ⟨by decide, by decide⟩
theorem iI_nat (n : Nat) : iI (n : Int) = nI n := Int32.ofInt_eq_ofNat
theorem iI_div {a b : Int} (ha : 0 ≤ a) (ha2 : a ≤ 2147483647) (hb : 0 < b) (hb2 : b ≤ 2147483647) : iI a / iI b = iI (a / b) := by
  have hq0 : 0 ≤ a / b := Int.ediv_nonneg ha (Int.le_of_lt hb)
  have hq1 : a / b ≤ a := Int.ediv_le_self b ha
  apply Int32.toInt_inj.mp
  rw [lg_idiv_nonneg (by rw [iI_toInt ⟨by omega, ha2⟩]; exact ha) (by rw [iI_toInt ⟨by omega, hb2⟩]; exact hb), iI_toInt ⟨by omega, ha2⟩, iI_toInt ⟨by omega, hb2⟩, iI_toInt ⟨by omega, by omega⟩]
theorem iI_rem {a b : Int} (ha : 0 ≤ a) (ha2 : a ≤ 2147483647) (hb : 0 < b) (hb2 : b ≤ 2147483647) : iI a - iI a / iI b * iI b = iI (a % b) := by
  rw [iI_div ha ha2 hb hb2, iI_mul, iI_sub, Int.emod_def, Int.mul_comm]
theorem iI_ne0 {b : Int} (hb : 0 < b) (hb2 : b ≤ 2147483647) : ¬ iI b = 0 := by
  rw [iI_0, iI_eq ⟨by omega, hb2⟩ r32_0]; omega
theorem iI_clamp {i : Int} (h0 : 0 ≤ i) (h1 : i ≤ 2147483647) : (iI i).toNatClampNeg = i.toNat := Int32.toNatClampNeg_ofInt_of_le (by omega) (by omega)
theorem iI_in {i : Int} {n : Nat} (h0 : 0 ≤ i) (h1 : i < n) (hn : n ≤ 2147483647) : vp_in (iI i) n := by
  rw [vp_in_iff, iI_toInt ⟨by omega, by omega⟩]; exact ⟨h0, h1⟩
theorem iI_and (P Q : Prop) : iI (qz P) &&& iI (qz Q) = iI (qz (P ∧ Q)) := by
  by_cases h : P <;> by_cases k : Q
  · rw [qz_t h, qz_t k, qz_t ⟨h, k⟩]; rfl
  · rw [qz_t h, qz_f k, qz_f (fun q => k q.2)]; rfl
  · rw [qz_f h, qz_t k, qz_f (fun q => h q.1)]; rfl
  · rw [qz_f h, qz_f k, qz_f (fun q => h q.1)]; rfl
theorem iI_ior (P Q : Prop) : iI (qz P) ||| iI (qz Q) = iI (qz (P ∨ Q)) := by
  by_cases h : P <;> by_cases k : Q
  · rw [qz_t h, qz_t k, qz_t (Or.inl h)]; rfl
  · rw [qz_t h, qz_f k, qz_t (Or.inl h)]; rfl
  · rw [qz_f h, qz_t k, qz_t (Or.inr k)]; rfl
  · rw [qz_f h, qz_f k, qz_f (fun q => q.elim h k)]; rfl
/-- the other side: left and right, up and down -/
def sd1 (d : Int) : Int := if d = 0 then 1 else if d = 1 then 0 else if d = 2 then 3 else 2
theorem iI_xor1 {d : Int} (h0 : 0 ≤ d) (h1 : d ≤ 3) : iI d ^^^ iI 1 = iI (sd1 d) := by
  have h : d = 0 ∨ d = 1 ∨ d = 2 ∨ d = 3 := by omega
  rcases h with rfl | rfl | rfl | rfl <;> rfl
def aI (a : Int → Int) : Nat → Int32 := fun k => iI (a k)
theorem aI_at {a : Int → Int} {i : Int} (h0 : 0 ≤ i) (h1 : i ≤ 2147483647) : aI a (iI i).toNatClampNeg = iI (a i) := by
  rw [iI_clamp h0 h1]
  show iI (a (i.toNat : Int)) = _
  rw [Int.toNat_of_nonneg h0]
def uZ (a : Int → Int) (i v : Int) : Int → Int := fun j => if j = i then v else a j
theorem uZ_s {a : Int → Int} {i v : Int} : uZ a i v i = v := if_pos rfl
theorem uZ_n {a : Int → Int} {i j v : Int} (h : j ≠ i) : uZ a i v j = a j := if_neg h
theorem aI_upd {a : Int → Int} {i v : Int} (h0 : 0 ≤ i) (h1 : i ≤ 2147483647) : upd (aI a) (iI i).toNatClampNeg (iI v) = aI (uZ a i v) := by
  rw [iI_clamp h0 h1]
  funext k
  unfold upd aI uZ
  by_cases h : k = i.toNat
  · have h2 : (k : Int) = i := by omega
    rw [if_pos h, if_pos h2]
  · have h2 : ¬ (k : Int) = i := by omega
    rw [if_neg h, if_neg h2]
noncomputable def aP (q : Int → Prop) : Nat → Int32 := fun k => iI (qz (q k))
theorem aP_at {q : Int → Prop} {i : Int} (h0 : 0 ≤ i) (h1 : i ≤ 2147483647) : aP q (iI i).toNatClampNeg = iI (qz (q i)) := by
  rw [iI_clamp h0 h1]
  show iI (qz (q (i.toNat : Int))) = _
  rw [Int.toNat_of_nonneg h0]
def uP (q : Int → Prop) (i : Int) (v : Prop) : Int → Prop := fun j => (j = i ∧ v) ∨ (j ≠ i ∧ q j)
theorem uP_s {q : Int → Prop} {i : Int} {v : Prop} : uP q i v i ↔ v := ⟨fun h => h.elim (fun z => z.2) (fun z => absurd rfl z.1), fun h => Or.inl ⟨rfl, h⟩⟩
theorem uP_n {q : Int → Prop} {i j : Int} {v : Prop} (h : j ≠ i) : uP q i v j ↔ q j := ⟨fun z => z.elim (fun y => absurd y.1 h) (fun y => y.2), fun z => Or.inr ⟨h, z⟩⟩
theorem aP_upd {q : Int → Prop} {i : Int} {v : Prop} (h0 : 0 ≤ i) (h1 : i ≤ 2147483647) : upd (aP q) (iI i).toNatClampNeg (iI (qz v)) = aP (uP q i v) := by
  rw [iI_clamp h0 h1]
  funext k
  unfold upd aP
  by_cases h : k = i.toNat
  · have h2 : (k : Int) = i := by omega
    rw [if_pos h, h2, qz_congr uP_s]
  · have h2 : (k : Int) ≠ i := by omega
    rw [if_neg h, qz_congr (uP_n h2)]
theorem nar_z (P : Prop) : vp_nar .boolean (iI (qz P)) = iI (qz P) := by
  rcases qz_or P with ⟨-, h⟩ | ⟨-, h⟩ <;> rw [h] <;> rfl
theorem narrow_z (P : Prop) : narrow .boolean (.int (iI (qz P))) = .int (iI (qz P)) := by
  rcases qz_or P with ⟨-, h⟩ | ⟨-, h⟩ <;> rw [h] <;> rfl
theorem fits_z (P : Prop) : fits .boolean (.int (iI (qz P))) = true := by
  rcases qz_or P with ⟨-, h⟩ | ⟨-, h⟩ <;> rw [h] <;> rfl
/-- sums and folds up to a number -/
def sumN (f : Int → Int) : Nat → Int
  | 0 => 0
  | n + 1 => sumN f n + f (n : Int)
def foldN {α : Type} (f : Int → α → α) (a : α) : Nat → α
  | 0 => a
  | n + 1 => f (n : Int) (foldN f a n)
theorem sumN_le {f : Int → Int} {b : Int} : ∀ n : Nat, (∀ k : Int, 0 ≤ k → k < n → f k ≤ b) → sumN f n ≤ b * n
  | 0, _ => by show (0 : Int) ≤ b * 0; omega
  | n + 1, h => by
    have h1 := sumN_le n (fun k a b => h k a (by omega))
    have h2 := h n (by omega) (by omega)
    show sumN f n + f (n : Int) ≤ b * ((n + 1 : Nat) : Int)
    rw [Int.natCast_add, Int.mul_add]
    show sumN f n + f (n : Int) ≤ b * (n : Int) + b * 1
    omega
theorem sumN_nn {f : Int → Int} : ∀ n : Nat, (∀ k : Int, 0 ≤ k → k < n → 0 ≤ f k) → 0 ≤ sumN f n
  | 0, _ => by show (0 : Int) ≤ 0; omega
  | n + 1, h => by
    have h1 := sumN_nn n (fun k a b => h k a (by omega))
    have h2 := h n (by omega) (by omega)
    show 0 ≤ sumN f n + f (n : Int)
    omega
theorem sumN_congr {f g : Int → Int} : ∀ n : Nat, (∀ k : Int, 0 ≤ k → k < n → f k = g k) → sumN f n = sumN g n
  | 0, _ => rfl
  | n + 1, h => by
    show sumN f n + f (n : Int) = sumN g n + g (n : Int)
    rw [sumN_congr n (fun k a b => h k a (by omega)), h n (by omega) (by omega)]

section G1
variable {p : Program} {l : Launch} {e : Env} {R : Room} {s : State} {m : MethodId} {args : Array Value} {below : List Frame} {meth : Method} {c : Code} {H : Heap} {locs : List Loc} {cells slots : Nat} {Q : State → Prop}
variable {cc : ByteArray} {pc : Nat} {ls : Array Slot} {rest : List Value}

theorem g_iadd (hx : p.tables.exec = Jvm.exec) (hb : c.code = cc) {a b : Int} (hdg : decode cc pc = .ok (.iadd, 1)) (k : W p l e R s m args below meth c H locs cells slots Q (F0 m (pc + 1) ls (.int (iI (a + b)) :: rest))) : W p l e R s m args below meth c H locs cells slots Q (F0 m pc ls (.int (iI b) :: .int (iI a) :: rest)) := lv_iadd hx hb hdg (by rw [iI_add]; exact k)
theorem g_isub (hx : p.tables.exec = Jvm.exec) (hb : c.code = cc) {a b : Int} (hdg : decode cc pc = .ok (.isub, 1)) (k : W p l e R s m args below meth c H locs cells slots Q (F0 m (pc + 1) ls (.int (iI (a - b)) :: rest))) : W p l e R s m args below meth c H locs cells slots Q (F0 m pc ls (.int (iI b) :: .int (iI a) :: rest)) := lv_isub hx hb hdg (by rw [iI_sub]; exact k)
theorem g_imul (hx : p.tables.exec = Jvm.exec) (hb : c.code = cc) {a b : Int} (hdg : decode cc pc = .ok (.imul, 1)) (k : W p l e R s m args below meth c H locs cells slots Q (F0 m (pc + 1) ls (.int (iI (a * b)) :: rest))) : W p l e R s m args below meth c H locs cells slots Q (F0 m pc ls (.int (iI b) :: .int (iI a) :: rest)) := lv_imul hx hb hdg (by rw [iI_mul]; exact k)
theorem g_ineg (hx : p.tables.exec = Jvm.exec) (hb : c.code = cc) {a : Int} (hdg : decode cc pc = .ok (.ineg, 1)) (k : W p l e R s m args below meth c H locs cells slots Q (F0 m (pc + 1) ls (.int (iI (-a)) :: rest))) : W p l e R s m args below meth c H locs cells slots Q (F0 m pc ls (.int (iI a) :: rest)) := lv_ineg hx hb hdg (by rw [iI_neg]; exact k)
theorem g_idiv (hx : p.tables.exec = Jvm.exec) (hb : c.code = cc) {a b : Int} (hdg : decode cc pc = .ok (.idiv, 1)) (h : (0 ≤ a ∧ a ≤ 2147483647) ∧ (0 < b ∧ b ≤ 2147483647)) (k : W p l e R s m args below meth c H locs cells slots Q (F0 m (pc + 1) ls (.int (iI (a / b)) :: rest))) : W p l e R s m args below meth c H locs cells slots Q (F0 m pc ls (.int (iI b) :: .int (iI a) :: rest)) := lv_idiv hx hb hdg (iI_ne0 h.2.1 h.2.2) (by rw [iI_div h.1.1 h.1.2 h.2.1 h.2.2]; exact k)
theorem g_irem (hx : p.tables.exec = Jvm.exec) (hb : c.code = cc) {a b : Int} (hdg : decode cc pc = .ok (.irem, 1)) (h : (0 ≤ a ∧ a ≤ 2147483647) ∧ (0 < b ∧ b ≤ 2147483647)) (k : W p l e R s m args below meth c H locs cells slots Q (F0 m (pc + 1) ls (.int (iI (a % b)) :: rest))) : W p l e R s m args below meth c H locs cells slots Q (F0 m pc ls (.int (iI b) :: .int (iI a) :: rest)) := lv_irem hx hb hdg (iI_ne0 h.2.1 h.2.2) (by rw [iI_rem h.1.1 h.1.2 h.2.1 h.2.2]; exact k)
theorem g_iandq (hx : p.tables.exec = Jvm.exec) (hb : c.code = cc) {a b : Prop} (hdg : decode cc pc = .ok (.iand, 1)) (k : W p l e R s m args below meth c H locs cells slots Q (F0 m (pc + 1) ls (.int (iI (qz (a ∧ b))) :: rest))) : W p l e R s m args below meth c H locs cells slots Q (F0 m pc ls (.int (iI (qz b)) :: .int (iI (qz a)) :: rest)) := lv_iand hx hb hdg (by rw [iI_and]; exact k)
theorem g_iorq (hx : p.tables.exec = Jvm.exec) (hb : c.code = cc) {a b : Prop} (hdg : decode cc pc = .ok (.ior, 1)) (k : W p l e R s m args below meth c H locs cells slots Q (F0 m (pc + 1) ls (.int (iI (qz (a ∨ b))) :: rest))) : W p l e R s m args below meth c H locs cells slots Q (F0 m pc ls (.int (iI (qz b)) :: .int (iI (qz a)) :: rest)) := lv_ior hx hb hdg (by rw [iI_ior]; exact k)
theorem g_ixor1 (hx : p.tables.exec = Jvm.exec) (hb : c.code = cc) {a : Int} (hdg : decode cc pc = .ok (.ixor, 1)) (h : 0 ≤ a ∧ a ≤ 3) (k : W p l e R s m args below meth c H locs cells slots Q (F0 m (pc + 1) ls (.int (iI (sd1 a)) :: rest))) : W p l e R s m args below meth c H locs cells slots Q (F0 m pc ls (.int (iI 1) :: .int (iI a) :: rest)) := lv_ixor hx hb hdg (by rw [iI_xor1 h.1 h.2]; exact k)
theorem g_eq {a b : Int} (h : a = b) (k : W p l e R s m args below meth c H locs cells slots Q (F0 m pc ls (.int (iI b) :: rest))) : W p l e R s m args below meth c H locs cells slots Q (F0 m pc ls (.int (iI a) :: rest)) := by rw [h]; exact k
theorem g_top {a : Int} (k : ∀ v : Int, v = a → W p l e R s m args below meth c H locs cells slots Q (F0 m pc ls (.int (iI v) :: rest))) : W p l e R s m args below meth c H locs cells slots Q (F0 m pc ls (.int (iI a) :: rest)) := k a rfl
theorem g_icmp_eq (hx : p.tables.exec = Jvm.exec) (hb : c.code = cc) {a b : Int} {off : Int} {tgt : Nat} (hdg : decode cc pc = .ok (.if_icmp .eq off, 3)) (ht : (pc : Int) + off = (tgt : Int)) (r : r32 a ∧ r32 b) (kt : a = b → W p l e R s m args below meth c H locs cells slots Q (F0 m tgt ls rest)) (kf : ¬ a = b → W p l e R s m args below meth c H locs cells slots Q (F0 m (pc + 3) ls rest)) : W p l e R s m args below meth c H locs cells slots Q (F0 m pc ls (.int (iI b) :: .int (iI a) :: rest)) := lv_icmp_eq hx hb hdg ht (fun h => kt (by rw [iI_eq r.1 r.2] at h; omega)) (fun h => kf (by rw [iI_eq r.1 r.2] at h; omega))
theorem g_if_eq (hx : p.tables.exec = Jvm.exec) (hb : c.code = cc) {a : Int} {off : Int} {tgt : Nat} (hdg : decode cc pc = .ok (.ifCond .eq off, 3)) (ht : (pc : Int) + off = (tgt : Int)) (r : r32 a) (kt : a = 0 → W p l e R s m args below meth c H locs cells slots Q (F0 m tgt ls rest)) (kf : ¬ a = 0 → W p l e R s m args below meth c H locs cells slots Q (F0 m (pc + 3) ls rest)) : W p l e R s m args below meth c H locs cells slots Q (F0 m pc ls (.int (iI a) :: rest)) := lv_if_eq hx hb hdg ht (fun h => kt (by rw [iI_0] at h; rw [iI_eq r r32_0] at h; omega)) (fun h => kf (by rw [iI_0] at h; rw [iI_eq r r32_0] at h; omega))
theorem g_icmp_ne (hx : p.tables.exec = Jvm.exec) (hb : c.code = cc) {a b : Int} {off : Int} {tgt : Nat} (hdg : decode cc pc = .ok (.if_icmp .ne off, 3)) (ht : (pc : Int) + off = (tgt : Int)) (r : r32 a ∧ r32 b) (kt : ¬ a = b → W p l e R s m args below meth c H locs cells slots Q (F0 m tgt ls rest)) (kf : a = b → W p l e R s m args below meth c H locs cells slots Q (F0 m (pc + 3) ls rest)) : W p l e R s m args below meth c H locs cells slots Q (F0 m pc ls (.int (iI b) :: .int (iI a) :: rest)) := lv_icmp_ne hx hb hdg ht (fun h => kt (by rw [iI_eq r.1 r.2] at h; omega)) (fun h => kf (by rw [iI_eq r.1 r.2] at h; omega))
theorem g_if_ne (hx : p.tables.exec = Jvm.exec) (hb : c.code = cc) {a : Int} {off : Int} {tgt : Nat} (hdg : decode cc pc = .ok (.ifCond .ne off, 3)) (ht : (pc : Int) + off = (tgt : Int)) (r : r32 a) (kt : ¬ a = 0 → W p l e R s m args below meth c H locs cells slots Q (F0 m tgt ls rest)) (kf : a = 0 → W p l e R s m args below meth c H locs cells slots Q (F0 m (pc + 3) ls rest)) : W p l e R s m args below meth c H locs cells slots Q (F0 m pc ls (.int (iI a) :: rest)) := lv_if_ne hx hb hdg ht (fun h => kt (by rw [iI_0] at h; rw [iI_eq r r32_0] at h; omega)) (fun h => kf (by rw [iI_0] at h; rw [iI_eq r r32_0] at h; omega))
theorem g_icmp_lt (hx : p.tables.exec = Jvm.exec) (hb : c.code = cc) {a b : Int} {off : Int} {tgt : Nat} (hdg : decode cc pc = .ok (.if_icmp .lt off, 3)) (ht : (pc : Int) + off = (tgt : Int)) (r : r32 a ∧ r32 b) (kt : a < b → W p l e R s m args below meth c H locs cells slots Q (F0 m tgt ls rest)) (kf : ¬ a < b → W p l e R s m args below meth c H locs cells slots Q (F0 m (pc + 3) ls rest)) : W p l e R s m args below meth c H locs cells slots Q (F0 m pc ls (.int (iI b) :: .int (iI a) :: rest)) := lv_icmp_lt hx hb hdg ht (fun h => kt (by rw [iI_lt r.1 r.2] at h; omega)) (fun h => kf (by rw [iI_lt r.1 r.2] at h; omega))
theorem g_if_lt (hx : p.tables.exec = Jvm.exec) (hb : c.code = cc) {a : Int} {off : Int} {tgt : Nat} (hdg : decode cc pc = .ok (.ifCond .lt off, 3)) (ht : (pc : Int) + off = (tgt : Int)) (r : r32 a) (kt : a < 0 → W p l e R s m args below meth c H locs cells slots Q (F0 m tgt ls rest)) (kf : ¬ a < 0 → W p l e R s m args below meth c H locs cells slots Q (F0 m (pc + 3) ls rest)) : W p l e R s m args below meth c H locs cells slots Q (F0 m pc ls (.int (iI a) :: rest)) := lv_if_lt hx hb hdg ht (fun h => kt (by rw [iI_0] at h; rw [iI_lt r r32_0] at h; omega)) (fun h => kf (by rw [iI_0] at h; rw [iI_lt r r32_0] at h; omega))
theorem g_icmp_ge (hx : p.tables.exec = Jvm.exec) (hb : c.code = cc) {a b : Int} {off : Int} {tgt : Nat} (hdg : decode cc pc = .ok (.if_icmp .ge off, 3)) (ht : (pc : Int) + off = (tgt : Int)) (r : r32 a ∧ r32 b) (kt : ¬ a < b → W p l e R s m args below meth c H locs cells slots Q (F0 m tgt ls rest)) (kf : a < b → W p l e R s m args below meth c H locs cells slots Q (F0 m (pc + 3) ls rest)) : W p l e R s m args below meth c H locs cells slots Q (F0 m pc ls (.int (iI b) :: .int (iI a) :: rest)) := lv_icmp_ge hx hb hdg ht (fun h => kt (by rw [iI_le r.2 r.1] at h; omega)) (fun h => kf (by rw [iI_le r.2 r.1] at h; omega))
theorem g_if_ge (hx : p.tables.exec = Jvm.exec) (hb : c.code = cc) {a : Int} {off : Int} {tgt : Nat} (hdg : decode cc pc = .ok (.ifCond .ge off, 3)) (ht : (pc : Int) + off = (tgt : Int)) (r : r32 a) (kt : ¬ a < 0 → W p l e R s m args below meth c H locs cells slots Q (F0 m tgt ls rest)) (kf : a < 0 → W p l e R s m args below meth c H locs cells slots Q (F0 m (pc + 3) ls rest)) : W p l e R s m args below meth c H locs cells slots Q (F0 m pc ls (.int (iI a) :: rest)) := lv_if_ge hx hb hdg ht (fun h => kt (by rw [iI_0] at h; rw [iI_le r32_0 r] at h; omega)) (fun h => kf (by rw [iI_0] at h; rw [iI_le r32_0 r] at h; omega))
theorem g_icmp_gt (hx : p.tables.exec = Jvm.exec) (hb : c.code = cc) {a b : Int} {off : Int} {tgt : Nat} (hdg : decode cc pc = .ok (.if_icmp .gt off, 3)) (ht : (pc : Int) + off = (tgt : Int)) (r : r32 a ∧ r32 b) (kt : b < a → W p l e R s m args below meth c H locs cells slots Q (F0 m tgt ls rest)) (kf : ¬ b < a → W p l e R s m args below meth c H locs cells slots Q (F0 m (pc + 3) ls rest)) : W p l e R s m args below meth c H locs cells slots Q (F0 m pc ls (.int (iI b) :: .int (iI a) :: rest)) := lv_icmp_gt hx hb hdg ht (fun h => kt (by rw [iI_lt r.2 r.1] at h; omega)) (fun h => kf (by rw [iI_lt r.2 r.1] at h; omega))
theorem g_if_gt (hx : p.tables.exec = Jvm.exec) (hb : c.code = cc) {a : Int} {off : Int} {tgt : Nat} (hdg : decode cc pc = .ok (.ifCond .gt off, 3)) (ht : (pc : Int) + off = (tgt : Int)) (r : r32 a) (kt : 0 < a → W p l e R s m args below meth c H locs cells slots Q (F0 m tgt ls rest)) (kf : ¬ 0 < a → W p l e R s m args below meth c H locs cells slots Q (F0 m (pc + 3) ls rest)) : W p l e R s m args below meth c H locs cells slots Q (F0 m pc ls (.int (iI a) :: rest)) := lv_if_gt hx hb hdg ht (fun h => kt (by rw [iI_0] at h; rw [iI_lt r32_0 r] at h; omega)) (fun h => kf (by rw [iI_0] at h; rw [iI_lt r32_0 r] at h; omega))
theorem g_icmp_le (hx : p.tables.exec = Jvm.exec) (hb : c.code = cc) {a b : Int} {off : Int} {tgt : Nat} (hdg : decode cc pc = .ok (.if_icmp .le off, 3)) (ht : (pc : Int) + off = (tgt : Int)) (r : r32 a ∧ r32 b) (kt : ¬ b < a → W p l e R s m args below meth c H locs cells slots Q (F0 m tgt ls rest)) (kf : b < a → W p l e R s m args below meth c H locs cells slots Q (F0 m (pc + 3) ls rest)) : W p l e R s m args below meth c H locs cells slots Q (F0 m pc ls (.int (iI b) :: .int (iI a) :: rest)) := lv_icmp_le hx hb hdg ht (fun h => kt (by rw [iI_le r.1 r.2] at h; omega)) (fun h => kf (by rw [iI_le r.1 r.2] at h; omega))
theorem g_if_le (hx : p.tables.exec = Jvm.exec) (hb : c.code = cc) {a : Int} {off : Int} {tgt : Nat} (hdg : decode cc pc = .ok (.ifCond .le off, 3)) (ht : (pc : Int) + off = (tgt : Int)) (r : r32 a) (kt : ¬ 0 < a → W p l e R s m args below meth c H locs cells slots Q (F0 m tgt ls rest)) (kf : 0 < a → W p l e R s m args below meth c H locs cells slots Q (F0 m (pc + 3) ls rest)) : W p l e R s m args below meth c H locs cells slots Q (F0 m pc ls (.int (iI a) :: rest)) := lv_if_le hx hb hdg ht (fun h => kt (by rw [iI_0] at h; rw [iI_le r r32_0] at h; omega)) (fun h => kf (by rw [iI_0] at h; rw [iI_le r r32_0] at h; omega))
theorem g_ifq_eq (hx : p.tables.exec = Jvm.exec) (hb : c.code = cc) {P : Prop} {off : Int} {tgt : Nat} (hdg : decode cc pc = .ok (.ifCond .eq off, 3)) (ht : (pc : Int) + off = (tgt : Int)) (kt : ¬ P → W p l e R s m args below meth c H locs cells slots Q (F0 m tgt ls rest)) (kf : P → W p l e R s m args below meth c H locs cells slots Q (F0 m (pc + 3) ls rest)) : W p l e R s m args below meth c H locs cells slots Q (F0 m pc ls (.int (iI (qz P)) :: rest)) := by
  by_cases h : P
  · exact lv_if_eq hx hb hdg ht (fun z => by rw [qz_t h] at z; exact absurd z (by decide)) (fun _ => kf h)
  · exact lv_if_eq hx hb hdg ht (fun _ => kt h) (fun z => by rw [qz_f h] at z; exact absurd rfl z)
theorem g_ifq_ne (hx : p.tables.exec = Jvm.exec) (hb : c.code = cc) {P : Prop} {off : Int} {tgt : Nat} (hdg : decode cc pc = .ok (.ifCond .ne off, 3)) (ht : (pc : Int) + off = (tgt : Int)) (kt : P → W p l e R s m args below meth c H locs cells slots Q (F0 m tgt ls rest)) (kf : ¬ P → W p l e R s m args below meth c H locs cells slots Q (F0 m (pc + 3) ls rest)) : W p l e R s m args below meth c H locs cells slots Q (F0 m pc ls (.int (iI (qz P)) :: rest)) := by
  by_cases h : P
  · exact lv_if_ne hx hb hdg ht (fun _ => kt h) (fun z => by rw [qz_t h] at z; exact absurd z (by decide))
  · exact lv_if_ne hx hb hdg ht (fun z => by rw [qz_f h] at z; exact absurd rfl z) (fun _ => kf h)
theorem g_iinc (hx : p.tables.exec = Jvm.exec) (hb : c.code = cc) {i nL k : Nat} {n x : Int} {lv lv' : List (Nat × Value)} (hdg : decode cc pc = .ok (.iinc i n, 3)) (h : lv_has ls nL lv) (hk : lv[k]? = some (i, .int (iI x))) (hn : i < nL) (hl : (i, Value.int (iI (x + n))) :: lv.filter (fun q => !(q.1 == i) && !(q.1 + 1 == i && q.2.category == 2)) = lv') (kk : ∀ ls' : Array Slot, lv_has ls' nL lv' → W p l e R s m args below meth c H locs cells slots Q (F0 m (pc + 3) ls' rest)) : W p l e R s m args below meth c H locs cells slots Q (F0 m pc ls rest) := lv_iinc hx hb hdg h hk (iI_add x n) hn hl kk
variable {D : va_G} {cl : List vw_C} {A : Nat → Prop} {a : Nat} {tys : List (ClassId × FieldType)} {ws : va_W} {H0 : Heap}
theorem g_iald (hx : p.tables.exec = Jvm.exec) (hb : c.code = cc) (hK : va_K D cl tys s) (hP : va_P D cl ws H) (q0 t0 : Nat) {cA : ClassId} {n : Nat} {f : Int → Int} (ha : ws[q0]? = some (a, .inl (cA, n, .inl (aI f)))) (ht : tys[t0]? = some (cA, .int)) {i : Int} (h : 0 ≤ i ∧ i < n) (hn : n ≤ 2147483647) (hdg : decode cc pc = .ok (.iaload, 1)) (kk : W p l e R s m args below meth c H locs cells slots Q (F0 m (pc + 1) ls (.int (iI (f i)) :: rest))) : W p l e R s m args below meth c H locs cells slots Q (F0 m pc ls (.int (iI i) :: .ref a :: rest)) := va_iald hx hb hK hP q0 t0 ha ht (iI_in h.1 h.2 hn) hdg (by rw [aI_at h.1 (by omega)]; exact kk)
theorem g_zald (hx : p.tables.exec = Jvm.exec) (hb : c.code = cc) (hK : va_K D cl tys s) (hP : va_P D cl ws H) (q0 t0 : Nat) {cA : ClassId} {n : Nat} {f : Int → Prop} (ha : ws[q0]? = some (a, .inl (cA, n, .inl (aP f)))) (ht : tys[t0]? = some (cA, .boolean)) {i : Int} (h : 0 ≤ i ∧ i < n) (hn : n ≤ 2147483647) (hdg : decode cc pc = .ok (.baload, 1)) (kk : W p l e R s m args below meth c H locs cells slots Q (F0 m (pc + 1) ls (.int (iI (qz (f i))) :: rest))) : W p l e R s m args below meth c H locs cells slots Q (F0 m pc ls (.int (iI i) :: .ref a :: rest)) := va_zald hx hb hK hP q0 t0 ha ht (iI_in h.1 h.2 hn) hdg (by rw [aP_at h.1 (by omega)]; exact kk)
end G1
/-! CONTRACTS. rdB: what a method may read; a method that only reads gives QcRead -/
def Stab (A : Nat → Prop) (E : State → Prop) : Prop := ∀ u U : State, u.WarmedH U.vm → u.heap.size ≤ U.heap.size → (∀ q : Nat, q < u.heap.size → ¬ A q → U.heap[q]? = u.heap[q]?) → E u → E U
theorem Stab.tt {A : Nat → Prop} : Stab A (fun _ => True) := fun _ _ _ _ _ _ => trivial
def rdB (D : va_G) (cl : List vw_C) (tys : List (ClassId × FieldType)) (E : State → Prop) (ws : va_W) (U : State) : Prop := va_P D cl ws U.heap ∧ va_K D cl tys U ∧ E U
theorem rdB.blind {D : va_G} {cl : List vw_C} {tys : List (ClassId × FieldType)} {A : Nat → Prop} {E : State → Prop} {ws : va_W} {av : List Value} (hE : Stab A E) : FrameBlind (va_Pc av (rdB D cl tys E ws)) := fun a U g mk q =>
  ⟨q.1, q.2.1, va_K.moved (u := U) (U := U.calling g mk a) (Vm.Alike.refl U.vm) q.2.2.1, hE U (U.calling g mk a) (State.WarmedH.refl U) (Nat.le_refl _) (fun _ _ _ => rfl) q.2.2.2⟩
/-- a method's body, its start written out -/
theorem Met.at {l : Launch} {y : MethodName} {cc : ByteArray} {maxL : Nat} {ret : Option FieldType} {rm : Room} {av : List Value} {B : State → Prop} {Qc : Array Value → State → Outcome → State → Prop} {mc ms : Nat} {free : Addr → Prop} (hy : plainName y.cls = true) (hn : (lg_sl av).length ≤ maxL)
    (body : ∀ (p : Program) (e : Env) (s : State) (m : MethodId) (below : List Frame) (meth : Method) (c : Code), p.tables.exec = Jvm.exec → c.code = cc → meth.sig.returnType = ret → meth.locks = false → c.maxLocals = maxL → s.vm.findClass y.cls = some m.cls → meth.name = y.name → (∀ w ∈ lw_all, w.before av.toArray s = true) → B s →
      ∀ ls : Array Slot, lv_has ls maxL (lv_args 0 av) → W p l e rm s m av.toArray below meth c s.heap [] 0 0 (MQ below Qc av.toArray s mc ms free) (F0 m 0 ls [])) : Met l y (ws_ y cc maxL ret) rm (va_Pc av B) Qc mc ms free := by
  refine Met.ofW (cc := cc) (maxL := maxL) (ret := ret) hy rfl ?_
  intro p e s m args below meth c s₁ B1 hml hv
  obtain ⟨rfl, hB⟩ := hv
  have hts := atoms_spec (ws := ws_ y cc maxL ret) B1.pre
  have hts : ∀ w ∈ lw_all, w.before _ s = true := fun w h => hts w (List.mem_cons_of_mem _ h)
  have hl := lv_entry av (n := maxL) hn
  rw [lg_entry_eq]
  exact body p e s m below meth c B1.exec B1.bytes B1.returns B1.notSynchronized hml (findClass_of_methodNamed B1.named) (name_of_methodNamed B1.named B1.method).1 hts hB _ hl
section G2
variable {p : Program} {l : Launch} {e : Env} {R : Room} {s : State} {m : MethodId} {args : Array Value} {below : List Frame} {meth : Method} {c : Code} {H : Heap} {locs : List Loc} {cells slots : Nat} {Q : State → Prop}
variable {cc bytes : ByteArray} {pc : Nat} {ls : Array Slot} {rest st : List Value} {D : va_G} {cl : List vw_C} {A : Nat → Prop} {tys : List (ClassId × FieldType)} {ws wc : va_W} {E : State → Prop}
theorem g_iret {v : Int} {r : Int} (hx : p.tables.exec = Jvm.exec) (hb : c.code = cc) (hr : meth.sig.returnType = some .int) (hlk : meth.locks = false) (hv : v = r) (hdg : decode cc pc = .ok (.ireturn, 1)) : W p l e R s m args below meth c s.heap [] 0 0 (MQ below (QcRead (iI r)) args s 0 0 (fun _ => False)) (F0 m pc ls [.int (iI v)]) := by
  subst hv
  exact W.iret hx hb hr (fun t ht _ => ⟨rfl, ht⟩) (fun q h => by cases h) hdg hlk
theorem g_zret {v r : Prop} (hx : p.tables.exec = Jvm.exec) (hb : c.code = cc) (hr : meth.sig.returnType = some .boolean) (hlk : meth.locks = false) (hv : v ↔ r) (hdg : decode cc pc = .ok (.ireturn, 1)) : W p l e R s m args below meth c s.heap [] 0 0 (MQ below (QcRead (iI (qz r))) args s 0 0 (fun _ => False)) (F0 m pc ls [.int (iI (qz v))]) := by
  rw [qz_congr hv]
  exact W.zret hx hb hr (narrow_z r) (fun t ht _ => ⟨rfl, ht⟩) (fun q h => by cases h) hdg hlk
theorem g_pre (hE : Stab A E) (hK : va_K D cl tys s) (hP : va_P D cl ws H) (hS : va_S A s.heap H locs) (hEs : E s) (is : List Nat) (his : is.filterMap (fun i => ws[i]?) = wc) : ∀ U : State, U.heap = H → s.WarmedH U.vm → rdB D cl tys E wc U := fun U hU hW =>
  ⟨by rw [hU]; exact hP.sub is his, va_K.moved hW.alike hK, hE s U hW (by rw [hU]; exact hS.1) (fun q h1 h2 => by rw [hU]; exact hS.2.1 q h1 h2) hEs⟩
/-- a static call of a method that only reads -/
theorem g_callS {y : MethodName} {own : String} {idx n nL maxL : Nat} {ret : Option FieldType} {rm : Room} {As : List Value} {lv : List (Nat × Value)} {r : Int32} (hM : Met l y (ws_ y bytes maxL ret) rm (va_Pc As (rdB D cl tys E wc)) (QcRead r) 0 0 (fun _ => False))
    (hx : p.tables.exec = Jvm.exec) (hb : c.code = cc) (hml : c.maxLocals = nL) (hown : s.vm.findClass own = some m.cls) (hts : ∀ w ∈ lw_all, w.before args s = true) (hE : Stab A E) (hK : va_K D cl tys s) (hP : va_P D cl ws H) (hS : va_S A s.heap H locs) (hEs : E s) (is : List Nat) (his : is.filterMap (fun i => ws[i]?) = wc)
    (q1 : Cond.methodLink own idx y ∈ lw_all) (q2 : Cond.static y ∈ lw_all) (q3 : Cond.initialized y.cls ∈ lw_all) (q4 : Cond.code y bytes maxL ret ∈ lw_all) (hd : y.cls ≠ "java/lang/invoke/MethodHandle" ∧ y.cls ≠ "java/lang/invoke/VarHandle" ∧ (parseMethodDescriptor y.desc).map (fun d => d.parameters.length) = some n)
    (hrc : rm.cells = 0) (hrs : rm.slots = 0) (hR : rm.frames + 1 ≤ R.frames ∧ 8 + (maxL + 11) + rm.locals ≤ R.locals) (hn : As.length = n) (hl : lv_has ls nL lv) (hst : st = As.reverse ++ rest) (hw : (rest.map fun v => v.category).sum ≤ 8) (hf : cells ≤ R.cells ∧ slots ≤ R.slots) (hdg : decode cc pc = .ok (.invokestatic idx, 3))
    (kk : W p l e R s m args below meth c H locs cells slots Q (F0 m (pc + 3) ls (.int r :: rest))) : W p l e R s m args below meth c H locs cells slots Q (F0 m pc ls st) :=
  W.callR (rest := rest) (W.runS (As := As) (rest := rest) ⟨hx, hb, hml, hown, hts⟩ hM (va_cwS n hts (lw_S q1 q2 q3 q4) rfl hrc hrs hd hR) ⟨rdB.blind hE, fun U hU hW => ⟨rfl, g_pre hE hK hP hS hEs is his U hU hW⟩⟩ rfl hn hl.1 hst (lv_room hw) hdg hf) kk
/-- a call through an object of a method that only reads -/
theorem g_callV {y : MethodName} {own C : String} {idx n nL maxL b q0 ci : Nat} {ret : Option FieldType} {rm : Room} {As fs : List Value} {lv : List (Nat × Value)} {r : Int32} {T : u_T} {N : Nat} (hM : Met l y (ws_ y bytes maxL ret) rm (va_Pc (.ref b :: As) (rdB D cl tys E wc)) (QcRead r) 0 0 (fun _ => False))
    (hx : p.tables.exec = Jvm.exec) (hb : c.code = cc) (hml : c.maxLocals = nL) (hown : s.vm.findClass own = some m.cls) (hts : ∀ w ∈ lw_all, w.before args s = true) (hE : Stab A E) (hK : va_K D cl tys s) (hP : va_P D cl ws H) (hS : va_S A s.heap H locs) (hEs : E s) (is : List Nat) (his : is.filterMap (fun i => ws[i]?) = wc)
    (he : ws[q0]? = some (b, .inr (ci, fs))) (hc : cl[ci]? = some (C, T, N))
    (q1 : Cond.methodLink own idx y ∈ lw_all) (q2 : Cond.instanceMethod y ∈ lw_all) (q3 : Cond.selects C y y ∈ lw_all) (q4 : Cond.initialized C ∈ lw_all) (q5 : Cond.code y bytes maxL ret ∈ lw_all) (hd : y.cls = C ∧ y.cls ≠ "java/lang/invoke/MethodHandle" ∧ y.cls ≠ "java/lang/invoke/VarHandle" ∧ (parseMethodDescriptor y.desc).map (fun d => d.parameters.length) = some n)
    (hrc : rm.cells = 0) (hrs : rm.slots = 0) (hR : rm.frames + 1 ≤ R.frames ∧ 8 + (maxL + 11) + rm.locals ≤ R.locals) (hn : As.length = n) (hl : lv_has ls nL lv) (hst : st = As.reverse ++ .ref b :: rest) (hw : (rest.map fun v => v.category).sum ≤ 8) (hf : cells ≤ R.cells ∧ slots ≤ R.slots) (hdg : decode cc pc = .ok (.invokevirtual idx, 3))
    (kk : W p l e R s m args below meth c H locs cells slots Q (F0 m (pc + 3) ls (.int r :: rest))) : W p l e R s m args below meth c H locs cells slots Q (F0 m pc ls st) :=
  W.callR (rest := rest) (W.runV (As := As) (rest := rest) ⟨hx, hb, hml, hown, hts⟩ hM (cwV n hts (lw_V q1 q2 q3 q4 q5) rfl hrc hrs hd hR) ⟨rdB.blind hE, va_recv hK hP hc he, fun U hU hW => ⟨rfl, g_pre hE hK hP hS hEs is his U hU hW⟩⟩ rfl hn hl.1 hst (lv_room hw) hdg hf) kk
theorem g_zret1 {r : Prop} (hx : p.tables.exec = Jvm.exec) (hb : c.code = cc) (hr : meth.sig.returnType = some .boolean) (hlk : meth.locks = false) (hv : r) (hdg : decode cc pc = .ok (.ireturn, 1)) : W p l e R s m args below meth c s.heap [] 0 0 (MQ below (QcRead (iI (qz r))) args s 0 0 (fun _ => False)) (F0 m pc ls [.int (iI 1)]) := by
  rw [qz_t hv]
  exact W.zret hx hb hr rfl (fun t ht _ => ⟨rfl, ht⟩) (fun q h => by cases h) hdg hlk
theorem g_zret0 {r : Prop} (hx : p.tables.exec = Jvm.exec) (hb : c.code = cc) (hr : meth.sig.returnType = some .boolean) (hlk : meth.locks = false) (hv : ¬ r) (hdg : decode cc pc = .ok (.ireturn, 1)) : W p l e R s m args below meth c s.heap [] 0 0 (MQ below (QcRead (iI (qz r))) args s 0 0 (fun _ => False)) (F0 m pc ls [.int (iI 0)]) := by
  rw [qz_f hv]
  exact W.zret hx hb hr rfl (fun t ht _ => ⟨rfl, ht⟩) (fun q h => by cases h) hdg hlk
end G2

