/-! CALLS OF FUNCTION OBJECTS: the classes that the VM makes for lambdas and method references -/
abbrev lamE0 : Setting := { classPath := fun _ => none }
/-- what the file of a shape holds: the one method's bytes, locals, answer; the entry of its target -/
def LamF (σ : Lambda.Shape) (caller : String) (bytes : ByteArray) (nF : Nat) (rt : Option FieldType) (mi ci nt cn : Nat) : Prop :=
  ∃ (D : ClassFile) (fw : Method), σ.file caller = some D ∧ (∀ ms, layoutMethods D = some ms → ms[1]? = some fw) ∧ (fw.code.map fun c => (c.code.data, c.maxLocals)) = some (bytes.data, nF) ∧ (fw.accessFlags, fw.sig.returnType) = (0x0001, rt) ∧
    (D.constantPool[mi]? = some (.methodref ci nt) ∧ D.constantPool.className? ci = some σ.implClass ∧ D.constantPool.nameAndType? nt = some (σ.implName, σ.implDesc.toString)) ∧
    (D.constantPool[ci]? = some (.class_ cn) ∧ D.constantPool.string? cn = some σ.implClass ∧ ci ≠ D.thisClass)
/-- .. and the one captured value's field -/
def LamG (σ : Lambda.Shape) (caller : String) (fi ff fnt : Nat) : Prop :=
  ∃ (D : ClassFile) (laid : Array Field × Array FieldType × Array FieldType) (desc : String), σ.file caller = some D ∧ layoutFields D 0 = some laid ∧ D.constantPool[fi]? = some (.fieldref ff fnt) ∧ D.constantPool.nameAndType? fnt = some ("arg$1", desc) ∧ laid.1.findIdx? (·.name == "arg$1") = some 0 ∧ (laid.1[0]?).map (fun f => (f.isStatic, f.slot)) = some (false, 0)
def LamD : ClassFile := { minorVersion := 0, majorVersion := 0, constantPool := #[], accessFlags := 0, thisClass := 0, superClass := 0, interfaces := #[], fields := #[], methods := #[], attributes := #[] }
def lamFile (σ : Lambda.Shape) (caller : String) : ClassFile := (σ.file caller).getD LamD
def lamFw (σ : Lambda.Shape) (caller : String) : Method := ((layoutMethods (lamFile σ caller)).bind (·[1]?)).getD default
theorem LamF.mk {σ : Lambda.Shape} {caller : String} {bytes : ByteArray} {nF : Nat} {rt : Option FieldType} {mi ci nt cn : Nat} (h1 : (σ.file caller).isSome = true) (h2 : ((layoutMethods (lamFile σ caller)).bind (·[1]?)).isSome = true) (h3 : ((lamFw σ caller).code.map fun c => (c.code.data, c.maxLocals)) = some (bytes.data, nF)) (h4 : ((lamFw σ caller).accessFlags, (lamFw σ caller).sig.returnType) = (0x0001, rt))
    (h5 : (lamFile σ caller).constantPool[mi]? = some (.methodref ci nt) ∧ (lamFile σ caller).constantPool.className? ci = some σ.implClass ∧ (lamFile σ caller).constantPool.nameAndType? nt = some (σ.implName, σ.implDesc.toString))
    (h6 : (lamFile σ caller).constantPool[ci]? = some (.class_ cn) ∧ (lamFile σ caller).constantPool.string? cn = some σ.implClass ∧ ci ≠ (lamFile σ caller).thisClass) : LamF σ caller bytes nF rt mi ci nt cn := by
  refine ⟨lamFile σ caller, lamFw σ caller, ?_, ?_, h3, h4, h5, h6⟩
  · obtain ⟨x, hx⟩ := Option.isSome_iff_exists.mp h1
    simp [lamFile, hx]
  · intro ms hms
    obtain ⟨x, hx⟩ := Option.isSome_iff_exists.mp h2
    have hf : lamFw σ caller = x := by simp [lamFw, hx]
    rw [hms] at hx
    rw [hf]
    exact hx
def lamLaid (σ : Lambda.Shape) (caller : String) : Array Field × Array FieldType × Array FieldType := (layoutFields (lamFile σ caller) 0).getD (#[], #[], #[])
theorem LamG.mk {σ : Lambda.Shape} {caller : String} {fi ff fnt : Nat} {desc : String} (h1 : (σ.file caller).isSome = true) (h2 : (layoutFields (lamFile σ caller) 0).isSome = true) (h3 : (lamFile σ caller).constantPool[fi]? = some (.fieldref ff fnt)) (h4 : (lamFile σ caller).constantPool.nameAndType? fnt = some ("arg$1", desc)) (h5 : (lamLaid σ caller).1.findIdx? (·.name == "arg$1") = some 0) (h6 : ((lamLaid σ caller).1[0]?).map (fun f => (f.isStatic, f.slot)) = some (false, 0)) : LamG σ caller fi ff fnt := by
  refine ⟨lamFile σ caller, lamLaid σ caller, desc, ?_, ?_, h3, h4, h5, h6⟩
  · obtain ⟨x, hx⟩ := Option.isSome_iff_exists.mp h1
    simp [lamFile, hx]
  · obtain ⟨x, hx⟩ := Option.isSome_iff_exists.mp h2
    simp [lamLaid, hx]
/-- the made class's one method, and its target, under any tables that have it -/
theorem lam_facts {vm : Vm} {d c : ClassId} {dk : Class} {σ : Lambda.Shape} {caller : String} {bytes : ByteArray} {nF : Nat} {rt : Option FieldType} {mi ci nt cn : Nat} (hF : LamF σ caller bytes nF rt mi ci nt cn) (hd : vm.classes[d]? = some dk) (hname : dk.name = caller) (h : Lambda.isMade lamE0 vm d σ c = true) :
    ∃ (k tk : Class) (file : ClassFile) (methk : Method) (ck : Code) (toy : ClassId) (t : MethodId),
      vm.classes[c]? = some k ∧ k.name = caller ++ "$$Lambda" ∧ k.cf = some file ∧ file.constantPool[mi]? = some (.methodref ci nt) ∧
      vm.method? ⟨c, 1⟩ = some methk ∧ methk.code = some ck ∧ ck.code = bytes ∧ ck.maxLocals = nF ∧ methk.locks = false ∧ methk.accessFlags = 0x0001 ∧ methk.sig.returnType = rt ∧
      vm.findClass σ.implClass = some toy ∧ vm.classes[toy]? = some tk ∧ tk.isInterface = σ.implItf ∧ ((methodIn toy σ.implName σ.implDesc.toString tk.isInterface none).ask lamE0 vm).1 = .ok t ∧
      vm.methodReady c mi t ∧ vm.classReady c ci toy ∧ file.constantPool.nameAndType? nt = some (σ.implName, σ.implDesc.toString) := by
  obtain ⟨D, fw, hfile0, hsec, fc, ff, eM, eC⟩ := hF
  obtain ⟨dk', k, ok, tk, file, cf, object, iface, toy, lay, methods, target, found, hd', hk, hfile, hcf, hobj, -, hok, hlay, hms, ht, htk, hg, -, hrec, -, -, -, hitf, hpool, hmeth, hfields, -, hres, -⟩ := Lambda.isMade_spec h
  cases hd.symm.trans hd'
  rw [hname, hfile0] at hcf
  cases hcf
  obtain ⟨b, hb, hsame⟩ := hmeth 1 fw (hsec methods hms)
  simp only [Lambda.sameMethod, Bool.and_eq_true, decide_eq_true_eq] at hsame
  obtain ⟨⟨hn, -, hsig, hfl⟩, hcode⟩ := hsame
  simp only [Prod.mk.injEq] at ff
  cases hfc : fw.code with
  | none => rw [hfc] at fc; cases fc
  | some x =>
    cases hbc : b.code with
    | none => simp [hfc, hbc] at hcode
    | some y =>
      simp only [hfc, hbc, Bool.and_eq_true, decide_eq_true_eq] at hcode
      simp only [hfc, Option.map_some, Option.some.injEq, Prod.mk.injEq] at fc
      refine ⟨k, tk, file, b, y, toy, target, hk, by rw [hrec.1, hname], hfile, by rw [hpool.2.1]; exact eM.1, by simp [Vm.method?, hk, hb], hbc, ?_, by rw [← hcode.1.1.1.1.2.1]; exact fc.2, ?_, by rw [← hfl]; exact ff.1, by rw [← hsig]; exact ff.2, ht, htk, hitf, hg,
        ⟨k, hk, hres mi _ (Lambda.resolvedOf_method eM.1 eM.2.1 ht htk eM.2.2 hg)⟩, ⟨k, hk, hres ci _ (Lambda.resolvedOf_class eC.1 eC.2.2 eC.2.1 ht)⟩, by rw [hpool.2.1]; exact eM.2.2⟩
      · rw [← hcode.1.1.1.1.2.2]
        exact ByteArray.ext fc.1
      · simp [Method.locks, Method.isSynchronized, ← hfl, ff.1, hasFlag, Acc.synchronized]
theorem lam_field {vm : Vm} {d c : ClassId} {dk : Class} {σ : Lambda.Shape} {caller : String} {fi ff fnt : Nat} (hG : LamG σ caller fi ff fnt) (hd : vm.classes[d]? = some dk) (hname : dk.name = caller) (h : Lambda.isMade lamE0 vm d σ c = true) (hO : ∀ o ok, vm.findClass "java/lang/Object" = some o → vm.classes[o]? = some ok → ok.instanceTypes.size = 0) :
    ∃ f : Field, vm.fieldReady c fi c f ∧ f.isStatic = false ∧ f.slot = 0 := by
  obtain ⟨D, laid, desc, hfile0, hl0, e1, e2, e3, e4⟩ := hG
  obtain ⟨dk', k, ok, tk, file, cf, object, iface, toy, lay, methods, target, found, hd', hk, hfile, hcf, hobj, -, hok, hlay, hms, ht, htk, hg, -, hrec, -, -, -, hitf, hpool, hmeth, hfields, -, hres, -⟩ := Lambda.isMade_spec h
  cases hd.symm.trans hd'
  rw [hname, hfile0] at hcf
  cases hcf
  rw [hO object ok hobj hok, hl0] at hlay
  cases hlay
  obtain ⟨g0, hg0, hp0⟩ := Option.map_eq_some_iff.mp e4
  simp only [Prod.mk.injEq] at hp0
  exact ⟨g0, ⟨k, 0, k, hk, hres fi _ (Lambda.resolvedOf_field e1 e2 e3), hk, hfields 0 _ hg0⟩, hp0.1, hp0.2⟩
section LAMW
variable {p : Program} {l : Launch} {e : Env} {R R' : Room} {s : State} {m : MethodId} {args : Array Value} {below : List Frame} {meth : Method} {c : Code} {H : Heap} {locs : List Loc} {cells slots : Nat} {Q : State → Prop} {cc : ByteArray} {pc : Nat} {ls : Array Slot} {rest : List Value}
/-- a made class's own field -/
theorem lam_getf (hexec : p.tables.exec = Jvm.exec) (hb : c.code = cc) {idx : Nat} {a : Addr} {cell : Cell} {v : Value} (hf : ∀ vm, s.WarmedH vm → ∃ f : Field, vm.fieldReady m.cls idx m.cls f ∧ f.isStatic = false ∧ f.slot = 0) (hcell : H[a]? = some cell) (hkn : cell.vm = .none) (hslot : cell.slots[0]? = some v) (hdg : decode cc pc = .ok (.getfield idx, 3)) (k : W p l e R s m args below meth c H locs cells slots Q (F0 m (pc + 3) ls (v :: rest))) : W p l e R s m args below meth c H locs cells slots Q (F0 m pc ls (.ref a :: rest)) := by
  intro T hT X
  obtain ⟨f, h1, h2, h3⟩ := hf T.vm X.warmed
  obtain ⟨t, a1, b1⟩ := k T hT X
  refine ⟨t, ?_, b1⟩
  jvm_step X.here [hexec, hb, hdg, getfield.wp_ready (e := e) (s := T) (c := m.cls) (field := f) (a := a) (rest := rest) (cell := cell) (v := v) (f := F0 m pc ls (.ref a :: rest)) X.here.top h1 h2 rfl (by rw [hT]; exact hcell) (by rw [hkn]; exact fun q => by cases q) (by rw [h3]; exact hslot)]
  exact a1
/-- the call out of a made class of its target, an instance method -/
theorem lam_runV (hexec : p.tables.exec = Jvm.exec) (hb : c.code = cc) {idx maxL : Nat} {y : MethodName} {by_ : ByteArray} {ret : Option FieldType} {ws : List Cond} {rm : Room} {Pc : Array Value → State → Prop} {Qc : Array Value → State → Outcome → State → Prop} {mc ms : Nat} {free : Addr → Prop} {b : Addr} {As : List Value} {Cn : String}
    (hM : Met l y ws rm Pc Qc mc ms free) (hbl : FrameBlind Pc) (hrc : rm.cells = mc) (hrs : rm.slots = ms) (hfr : rm.frames + 1 ≤ R.frames) (hlo : 8 + (maxL + 11) + rm.locals ≤ R.locals) (hws : ∀ w ∈ ws, ∀ (a' : Array Value) (U : State), s.WarmedH U.vm → w.before a' U = true) (hcw : Cond.code y by_ maxL ret ∈ ws)
    (hini : (Cond.initialized y.cls).before args s = true) (hinst : (Cond.instanceMethod y).before args s = true) (hcode : (Cond.code y by_ maxL ret).before args s = true) (hsel : (Cond.selects Cn y y).before args s = true) (hy : y.cls ≠ "java/lang/invoke/MethodHandle" ∧ y.cls ≠ "java/lang/invoke/VarHandle")
    (hready : ∀ vm, s.WarmedH vm → ∀ mk, s.methodNamed? y = some mk → vm.methodReady m.cls idx mk ∧ ∃ kc cf ci n c' k', vm.classes[m.cls]? = some kc ∧ kc.cf = some cf ∧ cf.constantPool[idx]? = some (.methodref ci n) ∧ vm.classReady m.cls ci c' ∧ vm.classes[c']? = some k' ∧ k'.isInterface = false)
    {cellB : Cell} (hcB : H[b]? = some cellB) (hoB : cellB.vm.isStatics = false) (hclB : s.vm.findClass Cn = some cellB.cls) (hPc : ∀ U : State, U.heap = H → s.WarmedH U.vm → Pc (Value.ref b :: As).toArray U)
    (hlen : ∀ sig, parseMethodDescriptor y.desc = some sig → As.length = sig.parameters.length) (hsize : ls.size = c.maxLocals) (hW : (rest.map fun v => v.category).sum ≤ 8) (hdg : decode cc pc = .ok (.invokevirtual idx, 3)) (hf : cells + mc ≤ R.cells ∧ slots + ms ≤ R.slots) :
    va_Run p l e R s m args below meth c H locs cells slots mc ms (F0 m pc ls (As.reverse ++ .ref b :: rest)) rest (Qc (Value.ref b :: As).toArray) free := by
  have hK : Back l R p e below s args y 3 8 (PreOf R mc ms Pc) (PostOf Qc mc ms free) := back_of (bytes := by_) (maxL := maxL) (ret := ret) hM hbl hrc hrs hfr hlo hws hcw (fun a' U hW => word_at hW (Or.inl (by first | rfl | simp [Cond.onTables, Cond.keeps, Cond.steady])) hini)
  intro T hT X
  obtain ⟨mk, methM, hnamed, hmethM, hstM, habM⟩ := Cond.instanceMethod_spec hinst
  obtain ⟨methM', cM, hmethM', -, -, -, -, -, -, hsigM⟩ := Cond.code_spec hnamed hcode
  cases hmethM.symm.trans hmethM'
  obtain ⟨c2, r2, m2, q1, q2, q3, q4, kP, hkP, hkPi⟩ := Cond.selects_spec hsel
  cases hclB.symm.trans q1
  cases (State.methodFound?_of_named hnamed hy).symm.trans q2
  cases hnamed.symm.trans q3
  obtain ⟨hr, hna⟩ := hready T.vm X.warmed mk hnamed
  have hA := X.warmed.alike
  have hmethT : T.vm.method? mk = some methM := by rw [hA.method?]; exact hmethM
  obtain ⟨kP', hkP', heP⟩ := hA.2.2 _ _ hkP
  have hselT : selectMethod e.platform T.vm cellB.cls mk = .method mk := by rw [Launch.admits_selectMethod X.admits, hA.selectMethod]; exact q4
  have hpoly : signaturePolymorphic kP' methM = false := by
    obtain ⟨kn, hkn, hnm⟩ := className_of_methodNamed hnamed
    cases hkP.symm.trans hkn
    have hn' : kP'.name = y.cls := by rw [heP]; exact hnm
    simp [signaturePolymorphic, hn', hy.1, hy.2]
  obtain ⟨v, B, X', ⟨g', mk', t, L, e1, e2, hq, e3, hL, e4, e5⟩, hsteps⟩ := hK m meth c ⟨T, locs, cells, slots⟩ (F0 m pc ls rest) (.invokevirtual idx) mk (Value.ref b :: As).toArray X rfl hsize (by rw [hb]; exact hdg) (lv_room hW) (X.named hnamed) ⟨hf.1, hf.2, hPc T hT X.warmed⟩
  obtain ⟨U', l2, c2, s2⟩ := B
  dsimp only at X' e1 e2 e3 e4 e5 hsteps
  subst e3; subst e4; subst e5
  refine ⟨v, T.calling g' mk' (Value.ref b :: As).toArray, t, U', L, hT, X', hL, e1, e2, hq, fun target h => ?_⟩
  jvm_step X.here [hexec, hb, hdg, invokevirtual.wp_ready (e := e) (s := T) (r := mk) (m := mk) (k := kP') (mk := kP') (rmeth := methM) (meth := methM) (a := b) (args := As) (rest := rest) (cell := cellB) (f := F0 m pc ls (As.reverse ++ .ref b :: rest)) X.here.top hna hr hkP' hmethT hpoly hstM (hlen _ hsigM) rfl (by rw [hT]; exact hcB) (fun z h => by rw [h] at hoB; cases hoB) hselT hmethT habM hkP' (by rw [heP]; exact hkPi)]
  intro acts
  rw [doInvoke_state]
  exact hsteps.trans h
end LAMW
