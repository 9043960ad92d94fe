/-! THE COMPONENT: what every state of a run bears: the two static tables, the nest mates' links -/
def goodN : Cond → Bool
  | .fieldLinkNest .. => true
  | .methodLinkNest .. => true
  | .declares .. => true
  | .castable .. => true
  | _ => false
def nW (U : State) : Prop := ∀ w ∈ lw_tbl, goodN w = true → va_Nw w U
theorem nW.warm {s U : State} (hW : s.WarmedH U.vm) (h : nW s) : nW U := by
  intro w hw g
  have h1 := h w hw g
  cases w <;> first | exact va_Nw.warmF hW h1 | exact va_Nw.warmM hW h1 | exact va_Nw.warmD hW h1 | exact va_Nw.warmC hW h1 | cases g
def cS (b0 ta td : Nat) (U : State) : Prop := va_Z RX1 "ACROSS" "[I" (.ref ta) (fun q => b0 ≤ q) U U.heap ∧ va_T .int ta 4 (fun j => .int (iI (dx (j : Int)))) (fun q => b0 ≤ q) U U.heap ∧ va_Z RX1 "DOWN" "[I" (.ref td) (fun q => b0 ≤ q) U U.heap ∧ va_T .int td 4 (fun j => .int (iI (dy (j : Int)))) (fun q => b0 ≤ q) U U.heap ∧ nW U
theorem cS.stab {b0 ta td : Nat} {A : Nat → Prop} (hA : ∀ q, A q → b0 ≤ q) : Stab A (cS b0 ta td) := fun u U hW _ hk h =>
  have hq : ∀ a : Nat, a < u.heap.size → ¬ (fun q => b0 ≤ q) a → U.heap[a]? = u.heap[a]? := fun a h1 h2 => hk a h1 (fun z => h2 (hA a z))
  ⟨va_Z.moved hW.alike (h.1.kept hq), va_T.moved hW.alike (h.2.1.kept hq), va_Z.moved hW.alike (h.2.2.1.kept hq), va_T.moved hW.alike (h.2.2.2.1.kept hq), nW.warm hW h.2.2.2.2⟩
/-- what a component's contract asks of its E: it stays while cells from b0 on change; it bears the tables and the links -/
def okE (b0 ta td : Nat) (E : State → Prop) : Prop := (∀ A : Nat → Prop, (∀ q, A q → b0 ≤ q) → Stab A E) ∧ ∀ U : State, E U → cS b0 ta td U
theorem okE.st {b0 ta td : Nat} {E : State → Prop} (h : okE b0 ta td E) (A : Nat → Prop) (hA : ∀ q, A q → b0 ≤ q) : Stab A E := h.1 A hA
theorem okE.cs {b0 ta td : Nat} {E : State → Prop} (h : okE b0 ta td E) (U : State) (hU : E U) : cS b0 ta td U := h.2 U hU
theorem okE.no {b0 ta td : Nat} {E : State → Prop} (h : okE b0 ta td E) : Stab (fun _ => False) E := h.st _ (fun _ z => z.elim)
def abv (b0 : Nat) (l : List Nat) : Prop := ∀ q : Nat, q ∈ l → b0 ≤ q
theorem abv.sub {b0 : Nat} {l l1 : List Nat} (is : List Nat) (h : abv b0 l) (e : is.map (fun i => l[i]?) = l1.map some) : abv b0 l1 := by
  intro q hq
  have h1 : some q ∈ l1.map some := List.mem_map.mpr ⟨q, hq, rfl⟩
  rw [← e] at h1
  obtain ⟨i, -, hi⟩ := List.mem_map.mp h1
  exact h q (List.mem_of_getElem? hi)
theorem abv.A {b0 sz : Nat} {ws : va_W} (h : abv b0 (ws.map Prod.fst)) (hz : b0 ≤ sz) : ∀ q, va_A ws sz q → b0 ≤ q := by
  intro q hq
  rcases hq with ⟨j, e, hj⟩ | hq
  · exact h q (List.mem_map.mpr ⟨(q, e), List.mem_of_getElem? hj, rfl⟩)
  · omega
section GC
variable {p : Program} {l : Launch} {e : Env} {R : Room} {s : State} {m : MethodId} {args : Array Value} {below : List Frame} {meth : Method} {c : Code} {H : Heap} {locs : List Loc} {cells slots : Nat} {Q : State → Prop}
variable {cc bytes : ByteArray} {pc : Nat} {ls : Array Slot} {rest st : List Value} {D : va_G} {cl : List vw_C} {A : Nat → Prop} {tys : List (ClassId × FieldType)} {ws wc : va_W} {E : State → Prop}
theorem g_ti (hx : p.tables.exec = Jvm.exec) (hb : c.code = cc) {t : Nat} {f : Int → Int} (hT : va_T .int t 4 (fun j => .int (iI (f (j : Int)))) A s s.heap) (hS : va_S A s.heap H locs) {i : Int} (h : 0 ≤ i ∧ i < 4) (hdg : decode cc pc = .ok (.iaload, 1)) (kk : W p l e R s m args below meth c H locs cells slots Q (F0 m (pc + 1) ls (.int (iI (f i)) :: rest))) : W p l e R s m args below meth c H locs cells slots Q (F0 m pc ls (.int (iI i) :: .ref t :: rest)) :=
  va_ti hx hb hT hS (iI_in h.1 (by omega) (by decide)) (v := .int (iI (f i))) (by rw [iI_clamp h.1 (by omega), Int.toNat_of_nonneg h.1]) hdg kk
theorem run_call {mc ms : Nat} {g : JFrame} {Qa : State → Outcome → State → Prop} {free : Addr → Prop} (h : va_Run p l e R s m args below meth c H locs cells slots mc ms g rest Qa free) : CallRun p l e R s m args below meth c H locs cells slots mc ms g rest Qa free := by
  intro T hT X
  obtain ⟨v, st₀, t, T', L, h0, X', hL, e1, _, hq, hst⟩ := h T hT X
  exact ⟨v, st₀, t, T', L, h0, X', hL, e1, hq, hst⟩
/-- a static call of a nest mate's private method that only reads -/
theorem g_callSN {y : MethodName} {own host : String} {idx n nL maxL : Nat} {ret : Option FieldType} {rm : Room} {As : List Value} {lv : List (Nat × Value)} {r : Int32} (hM : Met l y (ws_ y bytes maxL ret) rm (va_Pc As (rdB D cl tys E wc)) (QcRead r) 0 0 (fun _ => False))
    (hx : p.tables.exec = Jvm.exec) (hb : c.code = cc) (hml : c.maxLocals = nL) (hown : s.vm.findClass own = some m.cls) (hts : ∀ w ∈ lw_all, w.before args s = true) (hE : Stab A E) (hK : va_K D cl tys s) (hP : va_P D cl ws H) (hS : va_S A s.heap H locs) (hEs : E s) (is : List Nat) (his : is.filterMap (fun i => ws[i]?) = wc)
    (q1 : va_Nw (.methodLinkNest own idx y host) s) (q2 : Cond.static y ∈ lw_all) (q3 : Cond.initialized y.cls ∈ lw_all) (q4 : Cond.code y bytes maxL ret ∈ lw_all) (hd : y.cls ≠ "java/lang/invoke/MethodHandle" ∧ y.cls ≠ "java/lang/invoke/VarHandle" ∧ (parseMethodDescriptor y.desc).map (fun d => d.parameters.length) = some n)
    (hrc : rm.cells = 0) (hrs : rm.slots = 0) (hR : rm.frames + 1 ≤ R.frames ∧ 8 + (maxL + 11) + rm.locals ≤ R.locals) (hn : As.length = n) (hl : lv_has ls nL lv) (hst : st = As.reverse ++ rest) (hw : (rest.map fun v => v.category).sum ≤ 8) (hf : cells ≤ R.cells ∧ slots ≤ R.slots) (hdg : decode cc pc = .ok (.invokestatic idx, 3))
    (kk : W p l e R s m args below meth c H locs cells slots Q (F0 m (pc + 3) ls (.int r :: rest))) : W p l e R s m args below meth c H locs cells slots Q (F0 m pc ls st) :=
  W.callR (rest := rest) (run_call (va_runSN (As := As) (rest := rest) ⟨hx, hb, hml, hown, hts⟩ hM ⟨va_cnB n hts (lw_meth q4) rfl hrc hrs q1 (hts _ q3) hd hR, hts _ q2, trivial⟩ ⟨rdB.blind hE, fun U hU hW => ⟨rfl, g_pre hE hK hP hS hEs is his U hU hW⟩⟩ rfl hn hl.1 hst (lv_room hw) hdg hf)) kk
theorem g_putN {H0 : Heap} {a : Nat} (hx : p.tables.exec = Jvm.exec) (hb : c.code = cc) {own ref C host : String} {T : u_T} {N ci index : Nat} {Ts : List Cond} (hts : ∀ w ∈ Ts, w.before args s = true) (hin : ∀ w ∈ u_ws C T N, w ∈ Ts) (ty0 : Nat → FieldType) (hty : ∀ k, k < N → parseFieldDescriptor (T k).2.2.1 = some (ty0 k)) (hnm : ∀ a, a < N → ∀ b, b < N → a ≠ b → (T a).2.1 ≠ (T b).2.1) (hown : s.vm.findClass own = some m.cls) (hK : va_K D cl tys s) (hP : va_P D cl ws H) (hD : va_D A ws) (hS0 : va_S A H0 H locs) (q0 : Nat) {fs : List Value} (he : ws[q0]? = some (a, .inr (ci, fs))) (hc : cl[ci]? = some (C, T, N)) (k : Nat) (hk : k < N) (hlink : va_Nw (Cond.fieldLinkNest own index ref (T k).2.1 (T k).2.2.1 host) s) (hsame : ∀ x, s.fieldFound? (T k).1 (T k).2.1 (T k).2.2.1 = some x → s.fieldFound? ref (T k).2.1 (T k).2.2.1 = some x) (hfin : (T k).2.2.2 = false) {ty : FieldType} {v : Value} (hd : parseFieldDescriptor (T k).2.2.1 = some ty) (hn : narrow ty v = v) (hfit : fits ty v = true) (hl : k < fs.length)
    (hdg : decode cc pc = .ok (.putfield index, 3)) {ws1 : va_W} (hw : ws.set q0 (a, .inr (ci, fs.set k v)) = ws1) (kk : ∀ (H1 : Heap) (locs1 : List Loc), va_P D cl ws1 H1 → va_S A H0 H1 locs1 → W p l e R s m args below meth c H1 locs1 cells slots Q (F0 m (pc + 3) ls rest)) : W p l e R s m args below meth c H locs cells slots Q (F0 m pc ls (v :: .ref a :: rest)) :=
  va_putN hx hb hts hin ty0 hty hnm hown hK hP hD hS0 q0 he hc k hk (va_Nw.use rfl hlink) hsame hfin hd hn hfit hl hdg (by rw [hw]; exact fun H1 locs1 h1 _ h3 => kk H1 locs1 h1 h3)
end GC
