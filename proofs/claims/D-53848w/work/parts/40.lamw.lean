section GM
variable {p : Program} {l : Launch} {e : Env} {R : Room} {s : State} {m : MethodId} {args : Array Value} {below : List Frame} {meth : Method} {c : Code} {H : Heap} {locs : List Loc} {cells slots : Nat} {Q : State → Prop}
variable {cc bytes : ByteArray} {pc : Nat} {ls : Array Slot} {rest st : List Value} {D : va_G} {cl : List vw_C} {A : Nat → Prop} {tys : List (ClassId × FieldType)} {ws wc : va_W} {E : State → Prop}
/-- a call of a made class through the interface; what it hands on to only reads -/
theorem g_lam {nm : String} (ok9 : lamOK nm) {y : MethodName} (hy : y = ⟨"CorridorPlan", nm, "(I)I"⟩) {cK : ClassId} (hLB : lmB s) (hLM : lmM nm cK s) {own : String} {idx count nL maxL a b q0 q9 ci N : Nat} {T0 : u_T} {fs : List Value} {rm : Room} {lv : List (Nat × Value)} {r x : Int32}
    (hM : Met l y (ws_ y bytes maxL (some .int)) rm (va_Pc [.ref b, .int x] (rdB D cl tys E wc)) (QcRead r) 0 0 (fun _ => False))
    (hx : p.tables.exec = Jvm.exec) (hb : c.code = cc) (hml : c.maxLocals = nL) (hown : s.vm.findClass own = some m.cls) (hts : ∀ w ∈ lw_all, w.before args s = true) (hE : Stab A E) (hK : va_K D cl tys s) (hP : va_P D cl ws H) (hS : va_S A s.heap H locs) (hEs : E s) (is : List Nat) (his : is.filterMap (fun i => ws[i]?) = wc)
    (hL : ws[q0]? = some (a, .inl (cK, 1, .inr (.inr (.inr (.inr (fun _ => some b))))))) (he : ws[q9]? = some (b, .inr (ci, fs))) (hc : cl[ci]? = some ("CorridorPlan", T0, N))
    (q1 : Cond.methodLink own idx yOf ∈ lw_all) (q2 : Cond.instanceMethod y ∈ lw_all) (q3 : Cond.selects "CorridorPlan" y y ∈ lw_all) (q4 : Cond.initialized y.cls ∈ lw_all) (q5 : Cond.code y bytes maxL (some .int) ∈ lw_all)
    (hrc : rm.cells = 0) (hrs : rm.slots = 0) (hR : rm.frames + 2 ≤ R.frames ∧ 21 + (8 + (maxL + 11) + rm.locals) ≤ R.locals) (hl : lv_has ls nL lv) (hst : st = .int x :: .ref a :: rest) (hw : (rest.map fun v => v.category).sum ≤ 8) (hf : cells ≤ R.cells ∧ slots ≤ R.slots) (hdg : decode cc pc = .ok (.invokeinterface idx count, 5))
    (kk : W p l e R s m args below meth c H locs cells slots Q (F0 m (pc + 5) ls (.int r :: rest))) : W p l e R s m args below meth c H locs cells slots Q (F0 m pc ls st) := by
  intro T hT X
  obtain ⟨r0, rM, hn, hrm, hstat, hsig⟩ := Cond.declares_spec hLB.1.1
  obtain ⟨cI, kI, m0, hcI, hkI, hii, -, -⟩ := Cond.interfaceMethod_spec hLB.1.2
  have hr0 : cI = r0.cls := Option.some.inj (hcI.symm.trans (findClass_of_methodNamed hn))
  subst hr0
  obtain ⟨d, dk, i, hd, hdn, hmade, hi, hasg, hway⟩ := id hLM
  obtain ⟨k, tk, file, methk, ck, toy, iface, t, found, f1, hk, hkn, hfile, hpool, hmk, hck, hbytes, hml2, hlk, hfl, hretk, htoy, htk, hitf, hg0, hready, hclsR, hf1, hf1s, hf1n, hif, hfnd, hsel, -⟩ := lam_facts ok9 hd hdn hmade hLB.2
  cases hi.symm.trans hcI
  cases hif.symm.trans hcI
  have hlk0 := lam_look (y := yOf) hn (by decide) (cI := r0.cls) (kI := kI) hcI hkI
  rw [hii] at hlk0
  have hf0 : found = r0 := Except.ok.inj (hfnd.symm.trans hlk0)
  subst hf0
  have hP1 := hP q0 _ hL
  obtain ⟨cellK, hcK, hcls, hvm, hslot⟩ : ∃ cellK : Cell, H[a]? = some cellK ∧ cellK.cls = cK ∧ cellK.vm = .none ∧ cellK.slots[0]? = some (.ref b) := ⟨_, hP1, rfl, rfl, by simp [vp_cell, arrV, va_rf]⟩
  obtain ⟨cellB, hcB, hoB, hclB⟩ := va_recv hK hP hc he
  have hnd := name_of_methodNamed hn hrm
  obtain ⟨vm', X', hstep⟩ := X.invokeinterface hx (x := yOf) (index := idx) (count := count) hown (hts _ q1) hn hrm hstat hkI hii (by decide) (a := a) (cell := cellK) (kcell := k) (by rw [hT]; exact hcK) (fun z h => by rw [hvm] at h; cases h) (by rw [hcls]; exact hk) (by rw [hcls]; exact hasg)
    (m' := ⟨cK, 1⟩) (meth' := methk) (by rw [hcls, Launch.admits_selectMethod X.admits]; exact hsel) hmk (by rw [hcls, hnd.1, hnd.2]; exact hway) (by rw [hfl]; decide) (by simp [Method.isAbstract, hfl, hasFlag, Acc.abstract])
    (g := F0 m pc ls st) rfl (argsL := [.int x]) (rest := rest) (by
      have h1 : parseMethodDescriptor yOf.desc = some ⟨[.int], some .int⟩ := by decide +kernel
      rw [← Option.some.inj (h1.symm.trans hsig)]; rfl) hst (by rw [hb]; exact hdg)
  have hPc : ∀ U : State, U.heap = (T.setVm vm').heap → U.vm = (T.setVm vm').vm → va_Pc [.ref b, .int x] (rdB D cl tys E wc) #[.ref b, .int x] U := fun U h1 h2 =>
    ⟨rfl, g_pre hE hK hP hS hEs is his U (h1.trans hT) (by rw [h2]; exact X'.warmed)⟩
  obtain ⟨T', X'', hheap, hsteps⟩ := lam_call X' hx (g := { F0 m pc ls st with stack := rest }) rfl (hl.1.trans hml.symm) (ig := .invokeinterface idx count) (len := 5) (by rw [hb]; exact hdg) ok9 hy (lmB.warm X'.warmed hLB) (lmM.warm X'.warmed hLM) (a := a) (b := b) (cellK := cellK) (cellB := cellB) (by show T.heap[a]? = _; rw [hT]; exact hcK) hcls hvm hslot (by show T.heap[b]? = _; rw [hT]; exact hcB) hoB
    (by rw [X'.warmed.alike.findClass]; exact hclB) (bytes := bytes) (maxL := maxL) hM (rdB.blind hE) hrc hrs (fun w hw a' U hW => pay_in hts (lw_meth q5) w hw a' U (State.WarmedH.trans X'.warmed hW)) List.mem_cons_self (pay_in hts lw_self _ q2 #[] _ X'.warmed) (pay_in hts lw_self _ q3 #[] _ X'.warmed) (fun a' U hW => pay_in hts lw_self _ q4 a' U (State.WarmedH.trans X'.warmed hW)) hPc hR.1 (by show 2 * 0 + (rest.map fun v => v.category).sum + 13 + (8 + (maxL + 11) + rm.locals) ≤ R.locals; omega) hf.1 hf.2
  obtain ⟨t2, a1, b1⟩ := kk T' (by rw [hheap]; exact hT) X''
  exact ⟨t2, hstep t2 (fun acts => (hsteps acts).trans a1), b1⟩
end GM
