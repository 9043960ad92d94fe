/-! longs and doubles -/
noncomputable def zl (P : Prop) (a b : Int64) : Int64 := @ite Int64 P (Classical.propDecidable P) a b
theorem zl_t {P : Prop} {a b : Int64} (h : P) : zl P a b = a := by unfold zl; exact if_pos h
theorem zl_f {P : Prop} {a b : Int64} (h : ¬ P) : zl P a b = b := by unfold zl; exact if_neg h
def mx (h t : Int64) : Int64 := 31 * h + t
abbrev mi (h : Int64) (z : Int) : Int64 := mx h (iI z).toInt64
def dcI (x y : UInt64) : Int := (Op.cmpValue (FP.dcmp x y) .l).toInt
theorem dcI_rng (x y : UInt64) : r32 (dcI x y) := iI_rng _
section G7
variable {p : Program} {l : Launch} {e : Env} {R : Room} {s : State} {m : MethodId} {args : Array Value} {below : List Frame} {meth : Method} {c : Code} {H : Heap} {locs : List Loc} {cells slots : Nat} {Q : State → Prop}
variable {cc : ByteArray} {pc : Nat} {ls : Array Slot} {rest : List Value}
theorem g_eqL {a b : Int64} (h : a = b) (k : W p l e R s m args below meth c H locs cells slots Q (F0 m pc ls (.long b :: rest))) : W p l e R s m args below meth c H locs cells slots Q (F0 m pc ls (.long a :: rest)) := by rw [h]; exact k
theorem g_dcmp (hx : p.tables.exec = Jvm.exec) (hb : c.code = cc) {x y : UInt64} (hdg : decode cc pc = .ok (.dcmp .l, 1)) (k : W p l e R s m args below meth c H locs cells slots Q (F0 m (pc + 1) ls (.int (iI (dcI x y)) :: rest))) : W p l e R s m args below meth c H locs cells slots Q (F0 m pc ls (.double y :: .double x :: rest)) := lv_dcmp hx hb hdg (by rw [iI_of (Op.cmpValue (FP.dcmp x y) .l)]; exact k)
end G7
noncomputable def dlb (v : UInt64) : Int64 := zl (¬ dcI v v = 0) 9221120237041090560 v.toInt64
/-! the digest, part by part -/
noncomputable def dA (S : Int → Int) (kept : Int) : Nat → Int64
  | 0 => 2857
  | k + 1 => mi (dA S kept k) (cntV S kept (k : Int))
noncomputable def dB (S : Int → Int) (h : Int64) : Nat → Int64
  | 0 => h
  | k + 1 => zl (S (k : Int) = -1) (mi (mi (dB S h k) (S (k : Int))) (sdM S ((k : Int) % 16) ((k : Int) / 16))) (mi (dB S h k) (S (k : Int)))
noncomputable def lwN (S : Int → Int) : Nat → Int
  | 0 => -1
  | k + 1 => zi (isTh S (5 - (k : Int))) (5 - (k : Int)) (lwN S k)
theorem lwN_ok (S : Int → Int) : ∀ n : Nat, n ≤ 6 → -1 ≤ lwN S n ∧ lwN S n ≤ 5 ∧ (¬ lwN S n = -1 → isTh S (lwN S n))
  | 0, _ => ⟨by show (-1 : Int) ≤ -1; omega, by show (-1 : Int) ≤ 5; omega, fun h => absurd rfl h⟩
  | n + 1, hn => by
    obtain ⟨h1, h2, h3⟩ := lwN_ok S n (by omega)
    unfold lwN
    rcases zi_or (isTh S (5 - (n : Int))) (5 - (n : Int)) (lwN S n) with ⟨a, e⟩ | ⟨-, e⟩
    · rw [e]; exact ⟨by omega, by omega, fun _ => a⟩
    · rw [e]; exact ⟨h1, h2, h3⟩
noncomputable def dC1 (S : Int → Int) (r : Int) (h : Int64) : Nat → Int64
  | 0 => h
  | w + 1 => mi (dC1 S r h w) (orV S r (w : Int))
noncomputable def dC (S : Int → Int) (h : Int64) : Nat → Int64
  | 0 => h
  | k + 1 => zl (isTh S (k : Int)) (dC1 S (k : Int) (mi (dC S h k) (k : Int)) 8) (dC S h k)
noncomputable def dD1 (S : Int → Int) (a o : Int) (h : Int64) : Nat → Int64
  | 0 => h
  | w + 1 => mi (dD1 S a o h w) (wyV S a o (w : Int))
abbrev twoP (S : Int → Int) (k : Int) : Prop := k / 6 < k % 6 ∧ isTh S (k / 6) ∧ isTh S (k % 6)
noncomputable def dD (S : Int → Int) (h : Int64) : Nat → Int64
  | 0 => h
  | k + 1 => zl (twoP S (k : Int)) (dD1 S ((k : Int) / 6) ((k : Int) % 6) (dD S h k) 5) (dD S h k)
noncomputable def dE (S : Int → Int) (h : Int64) : Nat → Int64
  | 0 => h
  | w + 1 => mi (dE S h w) (bdV S 8 6 (w : Int))
noncomputable def dF (S : Int → Int) (h : Int64) : Int64 := zl (lwN S 6 = -1) h (mi h (prs (gvS S (lwN S 6)) 2))
noncomputable def dG (T : Int → Int) (h : Int64) : Nat → Int64
  | 0 => h
  | k + 1 => mi (dG T h k) (T (k : Int))
noncomputable def dgst (S : Int → Int) (kept : Int) (T : Int → Int) (ty : Int) : Int64 := dG T (mi (mx (mi (dF S (dE S (dD S (dC S (dB S (mi (dA S kept 9) (S 252)) 192) 6) 36) 3)) (faV S)) (dlb (shV S))) ty) ty.toNat
section G3
variable {p : Program} {l : Launch} {e : Env} {R : Room} {s : State} {m : MethodId} {args : Array Value} {below : List Frame} {meth : Method} {c : Code} {H : Heap} {locs : List Loc} {cells slots : Nat} {Q : State → Prop}
variable {cc bytes : ByteArray} {pc : Nat} {ls : Array Slot} {rest st : List Value} {D : va_G} {cl : List vw_C} {A : Nat → Prop} {tys : List (ClassId × FieldType)} {ws wc : va_W} {E : State → Prop} {S : Type}
theorem g_callSwl {y : MethodName} {own : String} {idx n nL maxL mc ms : Nat} {ret : Option FieldType} {rm : Room} {As : List Value} {lv : List (Nat × Value)} {post : Int64 → S → Prop} {w1 : S → va_W} (hM : Met l y (ws_ y bytes maxL ret) rm (va_Pc (As) (wrB D cl tys E wc H.size)) (va_Ql post (fun u t => va_P D cl (w1 u) t.heap) (va_A wc H.size)) mc ms (va_A wc H.size)) (hx : p.tables.exec = Jvm.exec) (hb : c.code = cc) (hml : c.maxLocals = nL) (hown : s.vm.findClass own = some m.cls) (hts : ∀ w ∈ lw_all, w.before args s = true) (hE : Stab A E) (hA : ∀ q, s.heap.size ≤ q → A q) (hK : va_K D cl tys s) (hP : va_P D cl ws H) (hD : va_D A ws) (hS : va_S A s.heap H locs) (hEs : E s) (is : List Nat) (hnd : va_nd is = true) (hC : is.map (fun i => ws[i]?) = wc.map some) (hlen : ∀ u, wc.length = (w1 u).length) (q1 : Cond.methodLink own idx y ∈ lw_all) (q2 : Cond.static y ∈ lw_all) (q3 : Cond.initialized y.cls ∈ lw_all) (q4 : Cond.code y bytes maxL ret ∈ lw_all) (hd : y.cls ≠ "java/lang/invoke/MethodHandle" ∧ y.cls ≠ "java/lang/invoke/VarHandle" ∧ (parseMethodDescriptor y.desc).map (fun d => d.parameters.length) = some n) (hrc : rm.cells = mc) (hrs : rm.slots = ms) (hR : rm.frames + 1 ≤ R.frames ∧ 8 + (maxL + 11) + rm.locals ≤ R.locals) (hn : As.length = n) (hl : lv_has ls nL lv) (hst : st = As.reverse ++ rest) (hw : (rest.map fun v => v.category).sum ≤ 8) (hf : cells + mc ≤ R.cells ∧ slots + ms ≤ R.slots) (hdg : decode cc pc = .ok (.invokestatic idx, 3)) (kk : ∀ (r : Int64) (u : S) (H1 : Heap) (locs1 : List Loc), post r u → va_P D cl (pw ws is (w1 u)) H1 → va_S A s.heap H1 locs1 → W p l e R s m args below meth c H1 locs1 (cells + mc) (slots + ms) Q (F0 m (pc + 3) ls (.long r :: rest))) : W p l e R s m args below meth c H locs cells slots Q (F0 m pc ls st) :=
  va_calll (va_runS (As := As) (rest := rest) ⟨hx, hb, hml, hown, hts⟩ hM (va_cwS n hts (lw_S q1 q2 q3 q4) rfl hrc hrs hd hR) ⟨wrB.blind hE, fun U hU hW => ⟨rfl, g_preW hE hK hP hD hS hEs is hnd hC U hU hW⟩⟩ rfl hn hl.1 hst (lv_room hw) hdg hf) hS (fun q _ h => va_free hD hS hA is hC q h) (va_free hD hS hA is hC) (fun r u t H1 locs1 ht _ hp hB _ hk hS1 => kk r u H1 locs1 hp (pw_P hP hD hC (hlen u) hk (by rw [ht] at hB; exact hB)) hS1)
theorem g_callSwd {y : MethodName} {own : String} {idx n nL maxL mc ms : Nat} {ret : Option FieldType} {rm : Room} {As : List Value} {lv : List (Nat × Value)} {post : UInt64 → S → Prop} {w1 : S → va_W} (hM : Met l y (ws_ y bytes maxL ret) rm (va_Pc (As) (wrB D cl tys E wc H.size)) (va_Qd post (fun u t => va_P D cl (w1 u) t.heap) (va_A wc H.size)) mc ms (va_A wc H.size)) (hx : p.tables.exec = Jvm.exec) (hb : c.code = cc) (hml : c.maxLocals = nL) (hown : s.vm.findClass own = some m.cls) (hts : ∀ w ∈ lw_all, w.before args s = true) (hE : Stab A E) (hA : ∀ q, s.heap.size ≤ q → A q) (hK : va_K D cl tys s) (hP : va_P D cl ws H) (hD : va_D A ws) (hS : va_S A s.heap H locs) (hEs : E s) (is : List Nat) (hnd : va_nd is = true) (hC : is.map (fun i => ws[i]?) = wc.map some) (hlen : ∀ u, wc.length = (w1 u).length) (q1 : Cond.methodLink own idx y ∈ lw_all) (q2 : Cond.static y ∈ lw_all) (q3 : Cond.initialized y.cls ∈ lw_all) (q4 : Cond.code y bytes maxL ret ∈ lw_all) (hd : y.cls ≠ "java/lang/invoke/MethodHandle" ∧ y.cls ≠ "java/lang/invoke/VarHandle" ∧ (parseMethodDescriptor y.desc).map (fun d => d.parameters.length) = some n) (hrc : rm.cells = mc) (hrs : rm.slots = ms) (hR : rm.frames + 1 ≤ R.frames ∧ 8 + (maxL + 11) + rm.locals ≤ R.locals) (hn : As.length = n) (hl : lv_has ls nL lv) (hst : st = As.reverse ++ rest) (hw : (rest.map fun v => v.category).sum ≤ 8) (hf : cells + mc ≤ R.cells ∧ slots + ms ≤ R.slots) (hdg : decode cc pc = .ok (.invokestatic idx, 3)) (kk : ∀ (r : UInt64) (u : S) (H1 : Heap) (locs1 : List Loc), post r u → va_P D cl (pw ws is (w1 u)) H1 → va_S A s.heap H1 locs1 → W p l e R s m args below meth c H1 locs1 (cells + mc) (slots + ms) Q (F0 m (pc + 3) ls (.double r :: rest))) : W p l e R s m args below meth c H locs cells slots Q (F0 m pc ls st) :=
  va_calld (va_runS (As := As) (rest := rest) ⟨hx, hb, hml, hown, hts⟩ hM (va_cwS n hts (lw_S q1 q2 q3 q4) rfl hrc hrs hd hR) ⟨wrB.blind hE, fun U hU hW => ⟨rfl, g_preW hE hK hP hD hS hEs is hnd hC U hU hW⟩⟩ rfl hn hl.1 hst (lv_room hw) hdg hf) hS (fun q _ h => va_free hD hS hA is hC q h) (va_free hD hS hA is hC) (fun r u t H1 locs1 ht _ hp hB _ hk hS1 => kk r u H1 locs1 hp (pw_P hP hD hC (hlen u) hk (by rw [ht] at hB; exact hB)) hS1)
end G3
