/-! the classes and the array classes of every world -/
abbrev CL : List vw_C := [(RX1, TX1, 13), (RX2, TX2, 4), (RX3, TX3, 20), (RX4, TX4, 3), (RX6, TX6, 3), (RJ1, TJ1, 3), (RJ3, TJ3, 4), (RJ21, TJ21, 3), (RJ4, TJ4, 4)]
abbrev TY (g : Nat → ClassId) : List (ClassId × FieldType) := [(g 0, .int), (g 1, .boolean), (g 2, .byte), (g 3, .long), (g 4, .object "java/lang/Object")]
theorem qz_T : qz True = 1 := qz_t trivial
theorem qz_F : qz False = 0 := qz_f id
section G5
variable {p : Program} {l : Launch} {e : Env} {R : Room} {s : State} {m : MethodId} {args : Array Value} {below : List Frame} {meth : Method} {c : Code} {H : Heap} {locs : List Loc} {cells slots : Nat} {Q : State → Prop}
variable {cc : ByteArray} {pc : Nat} {ls : Array Slot} {rest : List Value}
theorem g_ldc (hx : p.tables.exec = Jvm.exec) (hb : c.code = cc) {own : String} {index : Nat} {v : Int32} {z : Int} (hown : s.vm.findClass own = some m.cls) (hconst : (Jvm.Cond.constant own index v).before args s = true) (hz : v = iI z) (hdg : decode cc pc = .ok (.ldc index, 2)) (k : W p l e R s m args below meth c H locs cells slots Q (F0 m (pc + 2) ls (.int (iI z) :: rest))) : W p l e R s m args below meth c H locs cells slots Q (F0 m pc ls rest) := lv_ldc hx hb hown hconst hdg (by rw [hz]; exact k)
end G5
theorem dm {k b : Int} (hk : 0 ≤ k) (hb : 1 ≤ b) (h : k < b * b) : 0 ≤ k / b ∧ k / b < b ∧ 0 ≤ k % b ∧ k % b < b := ⟨Int.ediv_nonneg hk (by omega), Int.ediv_lt_of_lt_mul (by omega) h, Int.emod_nonneg k (by omega), Int.emod_lt_of_pos k (by omega)⟩
theorem bb_rng {b : Int} (h : 1 ≤ b ∧ b ≤ 3) : 1 ≤ b * b ∧ b * b ≤ 9 := by
  have : b = 1 ∨ b = 2 ∨ b = 3 := by omega
  rcases this with rfl | rfl | rfl <;> decide
