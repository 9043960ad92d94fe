/-! LAMBDAS: the classes that the machine has made for 'square -> ..' (they hold this), and a call of one through the interface -/
def yOf : MethodName := ⟨"CorridorPlan$Measure", "of", "(I)I"⟩
def lamS (nm : String) : Lambda.Shape := { iface := "CorridorPlan$Measure", name := "of", sam := ⟨[.int], some .int⟩, captured := [.object "CorridorPlan"], kind := 5, implClass := "CorridorPlan", implName := nm, implDesc := ⟨[.int], some .int⟩, implItf := false, inst := ⟨[.int], some .int⟩ }
def lamD (nm : String) : ClassFile := ((lamS nm).file "CorridorPlan").getD { minorVersion := 0, majorVersion := 0, constantPool := #[], accessFlags := 0, thisClass := 0, superClass := 0, interfaces := #[], fields := #[], methods := #[], attributes := #[] }
def lamF (nm : String) : Method := ((layoutMethods (lamD nm)).bind (·[1]?)).getD default
def lamL (nm : String) : Array Field × Array FieldType × Array FieldType := (layoutFields (lamD nm) 0).getD (#[], #[], #[])
def fwB : ByteArray := ⟨#[0x2a, 0xb4, 0x00, 0x0f, 0x1b, 0xb6, 0x00, 0x16, 0xac]⟩
theorem fw0 : decode fwB 0 = .ok (.aload_n 0, 1) := by decide +kernel
theorem fw1 : decode fwB 1 = .ok (.getfield 15, 3) := by decide +kernel
theorem fw4 : decode fwB 4 = .ok (.iload_n 1, 1) := by decide +kernel
theorem fw5 : decode fwB 5 = .ok (.invokevirtual 22, 3) := by decide +kernel
theorem fw8 : decode fwB 8 = .ok (.ireturn, 1) := by decide +kernel
def lamOK (nm : String) : Prop := ((lamS nm).file "CorridorPlan").isSome = true ∧ ((layoutMethods (lamD nm)).bind (·[1]?)).isSome = true ∧ (layoutFields (lamD nm) 0).isSome = true ∧
  ((lamF nm).code.map fun c => (c.code.data, c.maxLocals)) = some (fwB.data, 2) ∧ ((lamF nm).accessFlags, (lamF nm).name, (lamF nm).sig.returnType) = (0x0001, "of", some FieldType.int) ∧
  ((lamD nm).constantPool[22]? = some (.methodref 19 21) ∧ (lamD nm).constantPool.className? 19 = some "CorridorPlan" ∧ (lamD nm).constantPool.nameAndType? 21 = some (nm, "(I)I")) ∧
  ((lamD nm).constantPool[19]? = some (.class_ 18) ∧ (lamD nm).constantPool.string? 18 = some "CorridorPlan" ∧ 19 ≠ (lamD nm).thisClass) ∧
  ((lamD nm).constantPool[15]? = some (.fieldref 2 14) ∧ (lamD nm).constantPool.nameAndType? 14 = some ("arg$1", "LCorridorPlan;") ∧ (lamL nm).1.findIdx? (·.name == "arg$1") = some 0 ∧ ((lamL nm).1[0]?).map (fun f => (f.isStatic, f.slot)) = some (false, 0)) ∧ (lamL nm).2.1 = #[.object "CorridorPlan"]
theorem lam0 : lamOK "lambda$new$0" := ⟨by decide +kernel, by decide +kernel, by decide +kernel, by decide +kernel, by decide +kernel, by decide +kernel, by decide +kernel, by decide +kernel, by decide +kernel⟩
theorem lam1 : lamOK "lambda$new$1" := ⟨by decide +kernel, by decide +kernel, by decide +kernel, by decide +kernel, by decide +kernel, by decide +kernel, by decide +kernel, by decide +kernel, by decide +kernel⟩
theorem lam2 : lamOK "lambda$new$2" := ⟨by decide +kernel, by decide +kernel, by decide +kernel, by decide +kernel, by decide +kernel, by decide +kernel, by decide +kernel, by decide +kernel, by decide +kernel⟩
/-- what the tables bear for the interface's call -/
def lmB (U : State) : Prop := ((Cond.declares yOf).before #[] U = true ∧ (Cond.interfaceMethod "CorridorPlan$Measure" "CorridorPlan$Measure" "of" "(I)I").before #[] U = true) ∧ ∀ o ok, U.vm.findClass "java/lang/Object" = some o → U.vm.classes[o]? = some ok → ok.instanceTypes.size = 0
def lmM (nm : String) (cK : ClassId) (U : State) : Prop := ∃ (d : ClassId) (dk : Class) (i : ClassId), U.vm.classes[d]? = some dk ∧ dk.name = "CorridorPlan" ∧ Lambda.isMade { classPath := fun _ => none } U.vm d (lamS nm) cK = true ∧ U.vm.findClass "CorridorPlan$Measure" = some i ∧ U.vm.assignable cK i = true ∧
  ((cK :: U.vm.superclasses cK).any fun k => (declaredIn U.vm "of" (MethodDescriptor.toString ⟨[.int], some .int⟩) k).any fun (_, x) => x.isPrivate || x.isStatic) = false
theorem lmB.warm {s U : State} (hW : s.WarmedH U.vm) (h : lmB s) : lmB U := by
  obtain ⟨⟨h1, h2⟩, h4⟩ := h
  obtain ⟨r, meth, hn, -⟩ := Cond.declares_spec h1
  have tr : ∀ {c : Cond}, c.onTables = true → c.before #[] (s.setVm U.vm) = true → c.before #[] U = true := fun hc h => va_tabs (A := #[]) (A' := #[]) (u := s.setVm U.vm) (U := U) hc rfl h
  refine ⟨⟨tr rfl (by rw [Cond.declares_setVm hW.alike]; exact h1), tr rfl (by rw [Cond.interfaceMethod_setVm hW.alike (r := r) hn (by decide)]; exact h2)⟩, fun o ok ho hok => ?_⟩
  rw [hW.alike.findClass] at ho
  obtain ⟨ok0, hok0⟩ : ∃ ok0, s.vm.classes[o]? = some ok0 := by
    cases hq : s.vm.classes[o]? with
    | none => rw [hW.alike.none hq] at hok; cases hok
    | some x => exact ⟨x, rfl⟩
  obtain ⟨ok', hok', e3⟩ := hW.alike.2.2 _ _ hok0
  cases hok.symm.trans hok'
  rw [e3]
  exact h4 o ok0 ho hok0
theorem lmM.warm {nm : String} {cK : ClassId} {s U : State} (hW : s.WarmedH U.vm) (h : lmM nm cK s) : lmM nm cK U := by
  obtain ⟨d, dk, i, h1, h2, h3, h4, h5, h6⟩ := h
  obtain ⟨dk', h1', e1⟩ := hW.alike.2.2 _ _ h1
  refine ⟨d, dk', i, h1', by rw [e1]; exact h2, Lambda.isMade_warmer hW h3, by rw [hW.alike.findClass]; exact h4, by rw [hW.alike.assignable]; exact h5, ?_⟩
  simp only [hW.alike.superclasses, hW.alike.declaredIn]
  exact h6
theorem lam_look {U : State} {y : MethodName} {t : MethodId} (hn : U.methodNamed? y = some t) (hy : y.cls ≠ "java/lang/invoke/MethodHandle" ∧ y.cls ≠ "java/lang/invoke/VarHandle") {cI : ClassId} {kI : Class} (hf : U.vm.findClass y.cls = some cI) (hk : U.vm.classes[cI]? = some kI) :
    ((methodIn cI y.name y.desc kI.isInterface none).ask { classPath := fun _ => none } U.vm).1 = .ok t := by
  have h1 : U.methodFound? y.cls y.name y.desc = some t := State.methodFound?_of_named hn hy
  simp only [State.methodFound?, hf, hk, Option.bind_eq_bind, Option.bind_some] at h1
  cases hq : ((methodIn cI y.name y.desc kI.isInterface none).ask { classPath := fun _ => none } U.vm).1 with
  | ok v => rw [hq] at h1; exact congrArg Except.ok (Option.some.inj h1)
  | error x => rw [hq] at h1; cases h1
theorem lam_facts {nm : String} (ok9 : lamOK nm) {e : Setting} {vm : Vm} {d c : ClassId} {dk : Class} (hd : vm.classes[d]? = some dk) (hname : dk.name = "CorridorPlan") (h : Lambda.isMade e vm d (lamS nm) c = true)
    (hO : ∀ o ok, vm.findClass "java/lang/Object" = some o → vm.classes[o]? = some ok → ok.instanceTypes.size = 0) :
    ∃ (k tk : Class) (file : ClassFile) (methk : Method) (ck : Code) (toy iface : ClassId) (t found : MethodId) (f0 : Field),
      vm.classes[c]? = some k ∧ k.name = "CorridorPlan$$Lambda" ∧ k.cf = some file ∧ file.constantPool = (lamD nm).constantPool ∧
      vm.method? ⟨c, 1⟩ = some methk ∧ methk.code = some ck ∧ ck.code = fwB ∧ ck.maxLocals = 2 ∧ methk.locks = false ∧ methk.accessFlags = 0x0001 ∧ methk.sig.returnType = some .int ∧
      vm.findClass "CorridorPlan" = some toy ∧ vm.classes[toy]? = some tk ∧ tk.isInterface = false ∧ ((methodIn toy nm (MethodDescriptor.toString ⟨[.int], some .int⟩) tk.isInterface none).ask e vm).1 = .ok t ∧
      vm.methodReady c 22 t ∧ vm.classReady c 19 toy ∧ vm.fieldReady c 15 c f0 ∧ f0.isStatic = false ∧ f0.slot = 0 ∧
      vm.findClass "CorridorPlan$Measure" = some iface ∧ ((methodIn iface "of" (MethodDescriptor.toString ⟨[.int], some .int⟩) true none).ask e vm).1 = .ok found ∧ selectMethod {} vm c found = .method ⟨c, 1⟩ ∧ k.instanceTypes = #[.object "CorridorPlan"] := by
  obtain ⟨o1, o2, o3, fc, ff, eM, eC, eF0, eL⟩ := ok9
  have file_is : (lamS nm).file "CorridorPlan" = some (lamD nm) := by
    obtain ⟨x, hx⟩ := Option.isSome_iff_exists.mp o1
    simp [lamD, hx]
  have laid_is : layoutFields (lamD nm) 0 = some (lamL nm) := by
    obtain ⟨x, hx⟩ := Option.isSome_iff_exists.mp o3
    simp [lamL, hx]
  obtain ⟨dk', k, ok, tk, file, cf, object, iface, toy, lay, methods, target, found, hd', hk, hfile, hcf, hobj, hi, hok, hlay, hms, ht, htk, hg, hfnd, hrec, -, -, -, hitf, hpool, hmeth, hfields, hinst, hres, hsel⟩ := Lambda.isMade_spec h
  cases hd.symm.trans hd'
  rw [hname, file_is] at hcf
  cases hcf
  have hz := hO object ok hobj hok
  rw [hz, laid_is] at hlay
  cases hlay
  have second : methods[1]? = some (lamF nm) := by
    obtain ⟨x, hx⟩ := Option.isSome_iff_exists.mp o2
    have hf : lamF nm = x := by simp [lamF, hx]
    rw [hms] at hx
    rw [hf]
    exact hx
  obtain ⟨b, hb, hsame⟩ := hmeth 1 (lamF nm) second
  simp only [Lambda.sameMethod, Bool.and_eq_true, decide_eq_true_eq] at hsame
  obtain ⟨⟨hn, -, hsig, hfl⟩, hcode⟩ := hsame
  simp only [Prod.mk.injEq] at ff
  obtain ⟨g0, hg0, hp0⟩ := Option.map_eq_some_iff.mp eF0.2.2.2
  simp only [Prod.mk.injEq] at hp0
  have hin : k.instanceTypes = #[.object "CorridorPlan"] := by
    rw [hinst.1, eL, Array.eq_empty_of_size_eq_zero hz]; rfl
  cases hfc : (lamF nm).code with
  | none => rw [hfc] at fc; cases fc
  | some x =>
    cases hbc : b.code with
    | none => simp [hfc, hbc] at hcode
    | some y =>
      simp only [hfc, hbc, Bool.and_eq_true, decide_eq_true_eq] at hcode
      simp only [hfc, Option.map_some, Option.some.injEq, Prod.mk.injEq] at fc
      refine ⟨k, tk, file, b, y, toy, iface, target, found, g0, hk, by rw [hrec.1, hname]; rfl, hfile, hpool.2.1, by simp [Vm.method?, hk, hb], hbc, ?_, by rw [← hcode.1.1.1.1.2.1]; exact fc.2, ?_, by rw [← hfl]; exact ff.1, by rw [← hsig]; exact ff.2.2, ht, htk, hitf, hg,
        ⟨k, hk, hres 22 _ (Lambda.resolvedOf_method eM.1 eM.2.1 ht htk eM.2.2 hg)⟩, ⟨k, hk, hres 19 _ (Lambda.resolvedOf_class eC.1 eC.2.2 eC.2.1 ht)⟩,
        ⟨k, 0, k, hk, hres 15 _ (Lambda.resolvedOf_field eF0.1 eF0.2.1 eF0.2.2.1), hk, hfields 0 _ hg0⟩, hp0.1, hp0.2, hi, hfnd, hsel, hin⟩
      · rw [← hcode.1.1.1.1.2.2]
        exact ByteArray.ext fc.1
      · simp [Method.locks, Method.isSynchronized, ← hfl, ff.1, hasFlag, Acc.synchronized]

section GL
variable {p : Program} {l : Launch} {e : Env} {R : Room} {s : State} {m : MethodId} {args : Array Value} {below : List Frame} {meth : Method} {c : Code} {T : State} {locs : List Loc} {cells slots : Nat}
/-- the made class's one method hands on to a method that only reads -/
theorem lam_call (X : Stand p l e R s m args below meth c T locs cells slots) (hexec : p.tables.exec = Jvm.exec) {g : JFrame} (hg : g.method = m) (hsize : g.locals.size = c.maxLocals) {ig : Instr} {len : Nat} (hdg : decode c.code g.pc = .ok (ig, len))
    {nm : String} (ok9 : lamOK nm) {y : MethodName} (hy : y = ⟨"CorridorPlan", nm, "(I)I"⟩) {cK : ClassId} (hLB : lmB T) (hLM : lmM nm cK T) {a b : Addr} {cellK cellB : Cell} (hcellK : T.heap[a]? = some cellK) (hclsK : cellK.cls = cK) (hvmK : cellK.vm = .none) (hslot : cellK.slots[0]? = some (.ref b))
    (hcellB : T.heap[b]? = some cellB) (hobjB : cellB.vm.isStatics = false) (hclsB : T.vm.findClass "CorridorPlan" = some cellB.cls)
    {bytes : ByteArray} {maxL : Nat} {rm : Room} {Pc : Array Value → State → Prop} {r x : Int32} {ws : List Cond} (hM : Met l y ws rm Pc (QcRead r) 0 0 (fun _ => False)) (hblind : FrameBlind Pc) (hrc : rm.cells = 0) (hrs : rm.slots = 0)
    (hws : ∀ w ∈ ws, ∀ (a' : Array Value) (U : State), T.WarmedH U.vm → w.before a' U = true) (hcw : Cond.code y bytes maxL (some .int) ∈ ws)
    (hinst : (Cond.instanceMethod y).before #[] T = true) (hsel : (Cond.selects "CorridorPlan" y y).before #[] T = true) (hini : ∀ (a' : Array Value) (U : State), T.WarmedH U.vm → (Cond.initialized y.cls).before a' U = true)
    (hPc : ∀ U : State, U.heap = T.heap → U.vm = T.vm → Pc #[.ref b, .int x] U)
    (hframes : rm.frames + 2 ≤ R.frames) (hlocals : 2 * g.monitorRoom + (g.stack.map fun v => v.category).sum + 13 + (8 + (maxL + 11) + rm.locals) ≤ R.locals) (hcells : cells ≤ R.cells) (hslots : slots ≤ R.slots) :
    ∃ T' : State, Stand p l e R s m args below meth c T' locs cells slots ∧ T'.heap = T.heap ∧
      ∀ acts, Steps p.tables e below (doInvoke e (T.setTop g) acts ⟨cK, 1⟩ #[.ref a, .int x]).1 (T'.setTop { g with pc := g.pc + len, stack := .int r :: g.stack }) := by
  obtain ⟨d, dk, i, hd, hdn, hmade, -, -, -⟩ := hLM
  obtain ⟨k, tk, file, methk, ck, toy, iface, t, found, f1, hk, hkn, hfile, hpool, hmk, hck, hbytes, hml, hlk, -, hretk, htoy, htk, hitf, hg0, hready, hclsR, hf1, hf1s, hf1n, -, -, -, -⟩ := lam_facts ok9 hd hdn hmade hLB.2
  have hpk : T.plainMethod ⟨cK, 1⟩ := fun k' hk' => by
    cases hk.symm.trans hk'
    exact plain_of_name (by rw [hkn]; decide)
  have hyn : y.cls ≠ "java/lang/invoke/MethodHandle" ∧ y.cls ≠ "java/lang/invoke/VarHandle" := by subst hy; exact ⟨by show ("CorridorPlan" : String) ≠ _; decide, by show ("CorridorPlan" : String) ≠ _; decide⟩
  obtain ⟨tM, methM, hnamed, hmethM, hst, hab⟩ := Cond.instanceMethod_spec hinst
  obtain ⟨methB, cB', hmB, -, -, -, -, -, -, hsigB⟩ := Cond.code_spec hnamed (hws _ hcw #[] T (State.WarmedH.refl T))
  cases hmethM.symm.trans hmB
  obtain ⟨c2, r2, m2, q1, q2, q3, q4, kP, hkP, hkPi⟩ := Cond.selects_spec hsel
  cases hclsB.symm.trans q1
  cases (State.methodFound?_of_named hnamed hyn).symm.trans q2
  cases hnamed.symm.trans q3
  have htt : t = tM := by
    have h1 := lam_look hnamed hyn (cI := toy) (kI := tk) (by rw [hy]; exact htoy) htk
    have h2 := hg0
    subst hy
    exact Except.ok.inj (h2.symm.trans h1)
  subst htt
  obtain ⟨kT', hkT', hnameT⟩ := className_of_methodNamed hnamed
  have hsp : signaturePolymorphic kT' methM = false := by simp [signaturePolymorphic, hnameT, hyn.1, hyn.2]
  have hpar : methM.sig.parameters.length = 1 := by
    have h1 : parseMethodDescriptor y.desc = some ⟨[.int], some .int⟩ := by subst hy; show parseMethodDescriptor "(I)I" = _; decide +kernel
    rw [← Option.some.inj (h1.symm.trans hsigB)]; rfl
  have hcls2 : toy = cellB.cls := Option.some.inj (htoy.symm.trans hclsB)
  have hnc : namesAClass T cK 22 := ⟨k, file, 19, 21, toy, tk, hk, hfile, by rw [hpool]; exact ok9.2.2.2.2.2.1.1, hclsR, htk, hitf⟩
  obtain ⟨Y₀, hin⟩ := X.into (mk := ⟨cK, 1⟩) hg hsize hdg #[.ref a, .int x] (R' := { frames := rm.frames + 1, cells := 0, slots := 0, locals := 8 + (maxL + 11) + rm.locals }) hmk hck hlk hpk hframes (by rw [hml]; omega) (by omega) (by omega)
  generalize hU : (T.setTop g).pushFrame (.java (entryFrame ⟨cK, 1⟩ #[.ref a, .int x] ck.maxLocals)) = U at Y₀ hin
  have hvm : U.vm = T.vm := by rw [← hU]; rfl
  have hheap : U.heap = T.heap := by rw [← hU]; rfl
  have hB : Back l { frames := rm.frames + 1, cells := 0, slots := 0, locals := 8 + (maxL + 11) + rm.locals } p e (.java g :: below) (T.calling g ⟨cK, 1⟩ #[.ref a, .int x]) #[.ref a, .int x] y 3 8 (PreOf { frames := rm.frames + 1, cells := 0, slots := 0, locals := 8 + (maxL + 11) + rm.locals } 0 0 Pc) (PostOf (QcRead r) 0 0 (fun _ => False)) :=
    back_of (bytes := bytes) (maxL := maxL) (ret := some .int) hM hblind hrc hrs (Nat.le_refl _) (Nat.le_refl _) (fun w hw a' U2 hW => hws w hw a' U2 hW) hcw (fun a' U2 hW => hini a' U2 hW)
  obtain ⟨v, ⟨U1, l1, c1, n1⟩, Y₁, ⟨g', mk', t', L, e1, e2, ⟨hq1, hq2⟩, h1, hL, h2, h3⟩, hsteps⟩ := hB ⟨cK, 1⟩ methk ck ⟨U, [], 0, 0⟩ { method := ⟨cK, 1⟩, pc := 5, locals := #[.val (.ref a), .val (.int x)], stack := [], locked := none } (.invokevirtual 22) t #[.ref b, .int x] Y₀ rfl (by rw [hml]; rfl) (by rw [hbytes]; exact fw5) (by show 2 * 0 + 0 ≤ 8; omega)
    (by show U.methodNamed? y = some t; rw [← hU]; exact hnamed) ⟨Nat.le_refl _, Nat.le_refl _, hPc U hheap hvm⟩
  dsimp only [Pt.U, Pt.locs, Pt.cells, Pt.slots] at Y₁ e1 e2 h1 h2 h3 hq2 hsteps
  obtain rfl : v = some (.int r) := Outcome.returned.inj hq1
  have hL0 : L = [] := by
    cases L with
    | nil => rfl
    | cons z _ => exact (hL z List.mem_cons_self).elim
  subst hL0
  have h1 : l1 = [] := h1
  have h2 : c1 = 0 := h2
  have h3 : n1 = 0 := h3
  subst h1; subst h2; subst h3
  obtain ⟨fs, hleave, -, hended, hWe, hsame⟩ := Y₁.leave (v := some (.int r)) (fun h => by rw [hretk] at h; cases h) hlk
  obtain ⟨T', X', hW', -, ht⟩ := X.outOf hg hdg hended hWe hsame
  refine ⟨T', by simpa using X', ?_, fun acts => ?_⟩
  · have h4 : T'.heap = U1.heap := (congrArg State.heap ht).symm
    rw [h4, e1, hq2, ← hheap]; rfl
  rw [hin acts]
  show Steps p.tables e below _ (T'.setTop { g with pc := g.pc + len, stack := (some (Value.int r)).toList ++ g.stack })
  rw [← ht]
  refine Steps.weaken (mid := [.java g]) ?_
  have hloc : entryFrame ⟨cK, 1⟩ #[.ref a, .int x] ck.maxLocals = { method := ⟨cK, 1⟩, pc := 0, locals := #[.val (.ref a), .val (.int x)], stack := [], locked := none } := by rw [hml]; rfl
  rw [hloc]
  have hs : U.topJava?.isSome := Y₀.here.top
  jvm_step Y₀.here [hexec, hbytes, fw0, Value.isRef]
  jvm_step Y₀.here [hexec, hbytes, fw1, getfield.wp_ready (e := e) (s := U) (c := cK) (field := f1) (a := a) (rest := []) (cell := cellK) (v := .ref b)
    (f := { method := ⟨cK, 1⟩, pc := 1, locals := #[.val (.ref a), .val (.int x)], stack := [.ref a], locked := none }) hs (by rw [hvm]; exact hf1) hf1s rfl (by rw [hheap]; exact hcellK) (by rw [hvmK]; exact fun h => by cases h) (by rw [hf1n]; exact hslot)]
  jvm_step Y₀.here [hexec, hbytes, fw4]
  jvm_step Y₀.here [hexec, hbytes, fw5, invokevirtual.wp_ready (e := e) (s := U) (r := t) (m := t) (k := kT') (mk := kP) (rmeth := methM) (meth := methM) (a := b) (args := [.int x]) (rest := []) (cell := cellB)
    (f := { method := ⟨cK, 1⟩, pc := 5, locals := #[.val (.ref a), .val (.int x)], stack := [.int x, .ref b], locked := none }) hs (by rw [← hU]; exact hnc) (by rw [hvm]; exact hready) (by rw [hvm]; exact hkT') (by rw [hvm]; exact hmethM) hsp hst hpar.symm rfl
    (by rw [hheap]; exact hcellB) (fun z h => by rw [h] at hobjB; cases hobjB) (by rw [hvm, Launch.admits_selectMethod X.admits]; exact q4) (by rw [hvm]; exact hmethM) hab (by rw [hvm]; exact hkP) hkPi]
  intro acts'
  rw [doInvoke_state]
  refine hsteps.trans ?_
  show Steps p.tables e (.java g :: below) (U1.setTop { method := ⟨cK, 1⟩, pc := 8, locals := #[.val (.ref a), .val (.int x)], stack := [.int r], locked := none }) _
  jvm_step Y₁.here [hs, hexec, hbytes, fw8, (show U1.vm.method? ⟨cK, 1⟩ = some methk from Y₁.method'), hretk, narrow]
  intro acts''
  rw [hleave { method := ⟨cK, 1⟩, pc := 8, locals := #[.val (.ref a), .val (.int x)], stack := [], locked := none } acts'' rfl rfl rfl]
  exact Steps.refl _
end GL
