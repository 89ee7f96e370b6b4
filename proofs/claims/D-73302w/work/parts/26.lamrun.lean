section LAMRUN
variable {p : Program} {l : Launch} {e : Env} {R R' : Room} {s : State} {m : MethodId} {args : Array Value} {below : List Frame} {meth : Method} {c : Code} {H : Heap} {locs : List Loc} {cells slots : Nat} {Q : State → Prop} {cc : ByteArray} {pc : Nat} {ls : Array Slot} {rest : List Value}
/-- the call out of a made class of its target, a static method -/
theorem lam_runS (hexec : p.tables.exec = Jvm.exec) (hb : c.code = cc) {idx maxL : Nat} {y : MethodName} {by_ : ByteArray} {ret : Option FieldType} {ws : List Cond} {rm : Room} {Pc : Array Value → State → Prop} {Qc : Array Value → State → Outcome → State → Prop} {mc ms : Nat} {free : Addr → Prop} {As : List Value}
    (hM : Met l y ws rm Pc Qc mc ms free) (hbl : FrameBlind Pc) (hrc : rm.cells = mc) (hrs : rm.slots = ms) (hfr : rm.frames + 1 ≤ R.frames) (hlo : 8 + (maxL + 11) + rm.locals ≤ R.locals) (hws : ∀ w ∈ ws, ∀ (a' : Array Value) (U : State), s.WarmedH U.vm → w.before a' U = true) (hcw : Cond.code y by_ maxL ret ∈ ws)
    (hini : (Cond.initialized y.cls).before args s = true) (hstw : (Cond.static y).before args s = true) (hcode : (Cond.code y by_ maxL ret).before args s = true) (hy : y.cls ≠ "java/lang/invoke/MethodHandle" ∧ y.cls ≠ "java/lang/invoke/VarHandle")
    (hready : ∀ vm, s.WarmedH vm → ∀ mk, s.methodNamed? y = some mk → vm.methodReady m.cls idx mk ∧ ∃ kc cf ci n nme dsc, vm.classes[m.cls]? = some kc ∧ kc.cf = some cf ∧ cf.constantPool[idx]? = some (.methodref ci n) ∧ cf.constantPool.nameAndType? n = some (nme, dsc) ∧ vm.classReady m.cls ci mk.cls)
    (hPc : ∀ U : State, U.heap = H → s.WarmedH U.vm → Pc As.toArray U)
    (hlen : ∀ sig, parseMethodDescriptor y.desc = some sig → As.length = sig.parameters.length) (hsize : ls.size = c.maxLocals) (hW : (rest.map fun v => v.category).sum ≤ 8) (hdg : decode cc pc = .ok (.invokestatic idx, 3)) (hf : cells + mc ≤ R.cells ∧ slots + ms ≤ R.slots) :
    va_Run p l e R s m args below meth c H locs cells slots mc ms (F0 m pc ls (As.reverse ++ rest)) rest (Qc As.toArray) free := by
  have hK : Back l R p e below s args y 3 8 (PreOf R mc ms Pc) (PostOf Qc mc ms free) := back_of (bytes := by_) (maxL := maxL) (ret := ret) hM hbl hrc hrs hfr hlo hws hcw (fun a' U hW => word_at hW (Or.inl (by first | rfl | simp [Cond.onTables, Cond.keeps, Cond.steady])) hini)
  intro T hT X
  cases hn : s.methodNamed? y with
  | none => simp [Cond.before, Cond.holds, Cond.value, hn] at hcode
  | some mk =>
    obtain ⟨methM, cM, hmethM, -, -, -, -, -, -, hsigM⟩ := Cond.code_spec hn hcode
    have hstM : methM.isStatic = true := Cond.static_spec hn hmethM hstw
    obtain ⟨kP, hkP, hkPn⟩ := className_of_methodNamed hn
    have hfT : s.vm.findClass y.cls = some mk.cls := findClass_of_methodNamed hn
    have hinitK : kP.init = .initialized := Cond.initialized_spec hfT hkP hini
    obtain ⟨hr, kc, cf, ci, n, nme, dsc, z1, z2, z3, z4, z5⟩ := hready T.vm X.warmed mk hn
    have hA := X.warmed.alike
    have hmethT : T.vm.method? mk = some methM := by rw [hA.method?]; exact hmethM
    obtain ⟨kP', hkP', heP⟩ := hA.2.2 _ _ hkP
    have hnm : kP'.name ≠ "java/lang/invoke/MethodHandle" ∧ kP'.name ≠ "java/lang/invoke/VarHandle" := by
      have : kP'.name = y.cls := by rw [heP]; exact hkPn
      rw [this]; exact hy
    have hsp : ∀ z : Method, signaturePolymorphic kP' z = false := fun z => by simp [signaturePolymorphic, hnm.1, hnm.2]
    obtain ⟨b, hmem⟩ := memberRef_ask' (e := e) (vm := T.vm) (d := m.cls) (index := idx) z1 z2 (Or.inl z3) z4
    have href : plainRef T e m.cls idx := ⟨ci, _, _, b, mk.cls, kP', hmem, z5, hkP', by simp [hsp]⟩
    obtain ⟨v, B, X', ⟨g', mk', t, L, e1, e2, hq, e3, hL, e4, e5⟩, hsteps⟩ := hK m meth c ⟨T, locs, cells, slots⟩ (F0 m pc ls rest) (.invokestatic idx) mk As.toArray X rfl hsize (by rw [hb]; exact hdg) (lv_room hW) (X.named hn) ⟨hf.1, hf.2, hPc T hT X.warmed⟩
    obtain ⟨U', l2, c2, s2⟩ := B
    dsimp only at X' e1 e2 e3 e4 e5 hsteps
    subst e3; subst e4; subst e5
    refine ⟨v, T.calling g' mk' As.toArray, t, U', L, hT, X', hL, e1, e2, hq, fun target h => ?_⟩
    jvm_step X.here [hexec, hb, hdg, invokestatic.wp_ready (e := e) (s := T) (m := mk) (k := kP') (meth := methM) (args := As) (rest := rest) (f := F0 m pc ls (As.reverse ++ rest)) X.here.top href hr hkP' hmethT (hsp _) hstM (by rw [heP]; exact hinitK) (hlen _ hsigM) rfl]
    intro acts
    rw [doInvoke_state]
    exact hsteps.trans h
/-- invokeinterface on a function object: what its one method does -/
theorem lam_run5 (hexec : p.tables.exec = Jvm.exec) (hb : c.code = cc) {own : String} (hown : s.vm.findClass own = some m.cls) {σ : Lambda.Shape} {caller : String} {bytes : ByteArray} {nF : Nat} {rt : Option FieldType} {mi ci nt cn : Nat} (hF : LamF σ caller bytes nF rt mi ci nt cn)
    {dI : ClassId} {dk : Class} (hd : s.vm.classes[dI]? = some dk) (hdn : dk.name = caller) {a : Addr} {cell : Cell} (hmade : Lambda.isMade lamE0 s.vm dI σ cell.cls = true) (hcan : s.lambdaCallable σ cell.cls = true)
    {x : MethodName} (hx : x.cls = σ.iface ∧ x.name = σ.name ∧ x.desc = σ.sam.toString) (hxm : x.cls ≠ "java/lang/invoke/MethodHandle" ∧ x.cls ≠ "java/lang/invoke/VarHandle") {idx count : Nat} (hlink : (Cond.methodLink own idx x).before args s = true) (hface : Face x s) (hpn : plainName (caller ++ "$$Lambda") = true)
    (hcell : H[a]? = some cell) (hvm : cell.vm = .none) {As : List Value} (hlen : ∀ sig, parseMethodDescriptor x.desc = some sig → As.length = sig.parameters.length)
    (hfr : R'.frames + 1 ≤ R.frames) (hlo : 8 + (nF + 11) + R'.locals ≤ R.locals) (hf : cells + R'.cells ≤ R.cells ∧ slots + R'.slots ≤ R.slots)
    {Qc : Array Value → State → Outcome → State → Prop} {free : Addr → Prop}
    (body : ∀ (U : State) (g : JFrame) (methk : Method) (ck : Code), U.heap = H → s.WarmedH U.vm → ck.code = bytes → ck.maxLocals = nF → methk.locks = false → methk.sig.returnType = rt →
      W p l e R' (U.calling g ⟨cell.cls, 1⟩ (Value.ref a :: As).toArray) ⟨cell.cls, 1⟩ (Value.ref a :: As).toArray (.java g :: below) methk ck H [] 0 0 (MQ (.java g :: below) Qc (Value.ref a :: As).toArray (U.calling g ⟨cell.cls, 1⟩ (Value.ref a :: As).toArray) R'.cells R'.slots free) (entryFrame ⟨cell.cls, 1⟩ (Value.ref a :: As).toArray nF))
    (hsize : ls.size = c.maxLocals) (hW : (rest.map fun v => v.category).sum ≤ 8) (hdg : decode cc pc = .ok (.invokeinterface idx count, 5)) :
    va_Run5 p l e R s m args below meth c H locs cells slots R'.cells R'.slots (F0 m pc ls (As.reverse ++ .ref a :: rest)) rest (Qc (Value.ref a :: As).toArray) free := by
  intro T hT X
  obtain ⟨k, tk, file, methk, ck, toy, t0, hk, -, -, -, hmk, -, -, -, -, hfl, -⟩ := lam_facts hF hd hdn hmade
  obtain ⟨r0, r, hn, hrm, hstR, hsigR⟩ := Cond.declares_spec hface.1
  obtain ⟨cL, kL, r1, hcL, hkL, hiL, hfoundL, hn1⟩ := Cond.interfaceMethod_spec hface.2
  cases hn.symm.trans hn1
  have hr0cls : r0.cls = cL := Option.some.inj ((findClass_of_methodNamed hn).symm.trans hcL)
  obtain ⟨hnameR, hdescR⟩ := name_of_methodNamed hn hrm
  obtain ⟨-, -, -, -, -, -, -, iface', -, -, -, -, found, -, -, -, -, -, hi', -, -, -, -, -, -, hfound', -, -, -, -, -, -, -, -, -, -, hsel⟩ := Lambda.isMade_spec hmade
  rw [hx.1] at hcL
  cases hcL.symm.trans hi'
  have hfr0 : found = r0 := by
    have h1 : s.methodFound? x.cls x.name x.desc = some r0 := hfoundL
    rw [hx.1, hx.2.1, hx.2.2] at h1
    simp only [State.methodFound?, hcL, hkL, hiL, Option.bind_eq_bind, Option.bind_some] at h1
    have h2 : ((methodIn cL σ.name σ.sam.toString true none).ask { classPath := fun _ => none } s.vm).1 = .ok found := hfound'
    rw [h2] at h1
    exact Option.some.inj h1
  subst hfr0
  obtain ⟨i2, hi2, hasg, hway⟩ := State.lambdaCallable_spec hcan
  cases hcL.symm.trans hi2
  obtain ⟨vm₁, X₁, hstep₁⟩ := X.invokeinterface hexec hown hlink hn hrm hstR (by rw [hr0cls]; exact hkL) hiL hxm (a := a) (cell := cell) (kcell := k) (by rw [hT]; exact hcell) (fun z h => by rw [hvm] at h; cases h) hk (by rw [hr0cls]; exact hasg)
    (m' := ⟨cell.cls, 1⟩) (meth' := methk) (by rw [Launch.admits_selectMethod X.admits]; exact hsel) hmk (by rw [hnameR, hdescR, hx.2.1, hx.2.2]; exact hway) (by rw [hfl]; decide) (by simp [Method.isAbstract, hfl, hasFlag, Acc.abstract])
    (g := F0 m pc ls (As.reverse ++ .ref a :: rest)) rfl (argsL := As) (rest := rest) (hlen _ hsigR) rfl (by rw [hb]; exact hdg)
  have hW₁ : s.WarmedH vm₁ := X₁.warmed
  obtain ⟨kD₁, hkD₁, heD₁⟩ := hW₁.alike.2.2 _ _ hd
  obtain ⟨k₁, tk₁, file₁, methk₁, ck₁, toy₁, t₁, hk₁, hkn₁, -, -, hmk₁, hck₁, hbytes₁, hml₁, hlk₁, -, hret₁, -⟩ := lam_facts hF hkD₁ (by rw [heD₁]; exact hdn) (Lambda.isMade_warmer hW₁ hmade)
  have hpk : (T.setVm vm₁).plainMethod ⟨cell.cls, 1⟩ := State.plainMethod.of_name (fun k' hk' => by cases hk₁.symm.trans hk'; rw [hkn₁]; exact hpn)
  obtain ⟨Y, hin⟩ := X₁.into (g := F0 m pc ls rest) rfl hsize (by rw [hb]; exact hdg) (Value.ref a :: As).toArray (R' := R') hmk₁ hck₁ hlk₁ hpk hfr (by rw [hml₁]; show 2 * 0 + (rest.map fun v => v.category).sum + (nF + 11) + R'.locals ≤ _; omega) hf.1 hf.2
  obtain ⟨t, hst, o, hrun, hend, hq, L, ⟨⟨v, rfl⟩, hWe, hsame⟩, hL⟩ := body (T.setVm vm₁) (F0 m pc ls rest) methk₁ ck₁ hT hW₁ hbytes₁ hml₁ hlk₁ hret₁ (((T.setVm vm₁).setTop (F0 m pc ls rest)).pushFrame (.java (entryFrame ⟨cell.cls, 1⟩ (Value.ref a :: As).toArray ck₁.maxLocals))) hT Y
  obtain ⟨T', X', hW', -, ht⟩ := X₁.outOf (g := F0 m pc ls rest) rfl (by rw [hb]; exact hdg) hend hWe hsame
  refine ⟨v, (T.setVm vm₁).calling (F0 m pc ls rest) ⟨cell.cls, 1⟩ (Value.ref a :: As).toArray, t, T', L, hT, X', hL, by rw [ht]; rfl, by rw [ht]; rfl, hq, fun target h => hstep₁ _ fun acts => ?_⟩
  rw [hin acts]
  rw [hml₁] at hst ⊢
  refine (Steps.weaken (mid := [.java (F0 m pc ls rest)]) hst).trans ?_
  rw [ht]
  exact h
end LAMRUN
