/-! a static method, named through a class below its own -/
theorem sUp_cold {Q : Unit → Pre} {E : CtlPost} {e : Env} {d : Bool} {acts : List Action} {s s₀ : State} {f : JFrame} {index ci n cn : Nat} {m : MethodId} {dk ck : Class} {cf : ClassFile} {name desc : String} (hs : s.topJava?.isSome) (hp : e.platform.polymorphicOnlyByInvokevirtual = true) (hW : s₀.WarmedH s.vm) (hE : s₀.MethodEntryUp e s.vm f.method.cls index cn m ci) (hd : s₀.vm.classes[f.method.cls]? = some dk) (hcf : dk.cf = some cf) (hcp : cf.constantPool[index]? = some (.methodref ci n)) (hnt : cf.constantPool.nameAndType? n = some (name, desc)) (hck : s₀.vm.classes[cn]? = some ck) (hno : (ck.methods.any fun x => x.name == name && !x.isStatic && signaturePolymorphic ck x) = false) :
    wp (invokestatic.sem index) Q E e d acts (s.setTop f) ↔ wp (invokestatic.sem index) Q E e d acts ((s.setVm (s.vm.calledUp f.method.cls ci index cn m)).setTop f) := by
  obtain ⟨hgc, hrc, hW₁, hgm⟩ := hE.classFirst
  obtain ⟨k₀, hk₀, he₀⟩ := hW.alike.2.2 _ _ hd
  obtain ⟨k₂, hk₂, he₂⟩ := hE.warmed.alike.2.2 _ _ hd
  obtain ⟨c₁, hc₁, hec₁⟩ := hW₁.alike.2.2 _ _ hck
  obtain ⟨c₂, hc₂, hec₂⟩ := hE.warmed.alike.2.2 _ _ hck
  have h3 : cf.constantPool[index]? = some (if false then .interfaceMethodref ci n else .methodref ci n) := hcp
  have hb₀ := memberRef_ask_via (e := e) hk₀ (by rw [he₀]; exact hcf) h3 hnt
  have hb₂ := memberRef_ask_via (e := e) hk₂ (by rw [he₂]; exact hcf) h3 hnt
  have hn₁ : (c₁.methods.any fun x => x.name == name && !x.isStatic && signaturePolymorphic c₁ x) = false := by rw [hec₁]; exact hno
  have hn₂ : (c₂.methods.any fun x => x.name == name && !x.isStatic && signaturePolymorphic c₂ x) = false := by rw [hec₂]; exact hno
  have hs₁ : (s.setVm (s.vm.noted f.method.cls ci (.cls cn))).topJava?.isSome := hs
  have hs₂ : (s.setVm (s.vm.calledUp f.method.cls ci index cn m)).topJava?.isSome := hs
  have hL : ∀ {Q' : ClassId → Pre} {d' : Bool} {acts' : List Action}, wp (Jvm.resolveClassAt ci) Q' E e d' acts' (s.setTop f) ↔ Q' cn d' acts' ((s.setVm (s.vm.noted f.method.cls ci (.cls cn))).setTop f) := W.resolveClassAt_links (t := s.setTop f) (State.method?_setTop f hs) hgc
  have hM : ∀ {Q' : MethodId → Pre} {d' : Bool} {acts' : List Action}, wp (Jvm.resolveMethodAt index) Q' E e d' acts' ((s.setVm (s.vm.noted f.method.cls ci (.cls cn))).setTop f) ↔ Q' m d' acts' ((s.setVm (s.vm.calledUp f.method.cls ci index cn m)).setTop f) := W.resolveMethodAt_links (t := (s.setVm (s.vm.noted f.method.cls ci (.cls cn))).setTop f) (State.method?_setTop f hs₁) hgm
  simp [invokestatic.sem, hp, Seam.memberRefOf, State.method?_setTop f hs, State.method?_setTop f hs₂, hb₀, hb₂, hL, W.resolveClassAt_ready (s := (s.setVm (s.vm.calledUp f.method.cls ci index cn m)).setTop f) (State.method?_setTop f hs₂) hE.classReady, hc₁, hc₂, hn₁, hn₂, hM, W.resolveMethodAt_ready (s := (s.setVm (s.vm.calledUp f.method.cls ci index cn m)).setTop f) (State.method?_setTop f hs₂) hE.ready, -Array.any_eq_true]
theorem sUp_run {p : Program} {l : Launch} {e : Env} {R : Room} {s : State} {m : MethodId} {args : Array Value} {below : List Frame} {meth : Method} {c : Code} {H : Heap} {locs : List Loc} {cells slots : Nat} {cc : ByteArray} {pc : Nat} {ls : Array Slot} {rest : List Value} (hexec : p.tables.exec = Jvm.exec) (hb : c.code = cc) {own owner : String} {index maxL : Nat} {x : MethodName} {by_ : ByteArray} {ret : Option FieldType} {ws : List Cond} {rm : Room} {Pc : Array Value → State → Prop} {Qc : Array Value → State → Outcome → State → Prop} {mc ms : Nat} {free : Addr → Prop} {As : List Value}
    (hown : s.vm.findClass own = some m.cls) (hlink : (Cond.methodLink own index x).before args s = true) (hsame : (Cond.sameMethod x.cls owner x.name x.desc).before args s = true) (howner : owner ≠ "java/lang/invoke/MethodHandle" ∧ owner ≠ "java/lang/invoke/VarHandle") (hstw : (Cond.static ⟨owner, x.name, x.desc⟩).before args s = true) (hini : (Cond.initialized owner).before args s = true) (hcode : (Cond.code ⟨owner, x.name, x.desc⟩ by_ maxL ret).before args s = true)
    (hM : Met l ⟨owner, x.name, x.desc⟩ ws rm Pc Qc mc ms free) (hbl : FrameBlind Pc) (hrc : rm.cells = mc) (hrs : rm.slots = ms) (hfr : rm.frames + 1 ≤ R.frames) (hlo : 8 + (maxL + 11) + rm.locals ≤ R.locals) (hws : ∀ w ∈ ws, ∀ (a' : Array Value) (U : State), s.WarmedH U.vm → w.before a' U = true) (hcw : Cond.code ⟨owner, x.name, x.desc⟩ by_ maxL ret ∈ ws)
    (hPc : ∀ U : State, U.heap = H → s.WarmedH U.vm → Pc As.toArray U) (hlen : ∀ sig, parseMethodDescriptor x.desc = some sig → As.length = sig.parameters.length) (hsize : ls.size = c.maxLocals) (hW : (rest.map fun v => v.category).sum ≤ 8) (hdg : decode cc pc = .ok (.invokestatic index, 3)) (hf : cells + mc ≤ R.cells ∧ slots + ms ≤ R.slots) :
    va_Run p l e R s m args below meth c H locs cells slots mc ms (F0 m pc ls (As.reverse ++ rest)) rest (Qc As.toArray) free := by
  have hK : Back l R p e below s args ⟨owner, x.name, x.desc⟩ 3 8 (PreOf R mc ms Pc) (PostOf Qc mc ms free) := back_of (bytes := by_) (maxL := maxL) (ret := ret) hM hbl hrc hrs hfr hlo hws hcw (fun a' U hW => word_at hW (Or.inl (by first | rfl | simp [Cond.onTables, Cond.keeps, Cond.steady])) hini)
  intro T hT X
  have hpl : e.platform.magicAccessors = ({} : Platform).magicAccessors := by rw [X.admits.platform]
  have hpv : e.platform.polymorphicOnlyByInvokevirtual = true := by rw [X.admits.platform]
  obtain ⟨cn, ck, mk, hcn, hck, hni, hfnd, hn⟩ := Cond.sameMethod_found hsame
  obtain ⟨methM, cM, hmethM, -, -, -, -, -, -, hsigM⟩ := Cond.code_spec hn hcode
  have hstM : methM.isStatic = true := Cond.static_spec hn hmethM hstw
  obtain ⟨kP, hkP, hkPn⟩ := className_of_methodNamed hn
  have hinitK : kP.init = .initialized := Cond.initialized_spec (findClass_of_methodNamed hn) hkP hini
  obtain ⟨ci, hl, hright⟩ := Cond.methodLink_specUp hown hcn hck hni hfnd hlink e.platform hpl (by rw [X.admits.platform])
  have hE : s.MethodEntryUp e T.vm m.cls index cn mk ci := State.methodEntryUp X.warmed hl hright
  obtain ⟨dk, cfile, nt, mname, mdesc, ck', _, _, hd, hcf, hcp, hnt, -, -, hck', -, hnopoly, -⟩ := hl.here
  cases hck.symm.trans hck'
  have alike := hE.warmed.alike
  obtain ⟨dk₂, hdk₂, hed₂⟩ := alike.2.2 _ _ hd
  obtain ⟨k₂, hk₂, he₂⟩ := alike.2.2 _ _ hkP
  obtain ⟨ck₂, hck₂, hec₂⟩ := alike.2.2 _ _ hck
  have hno : (ck.methods.any fun y => y.name == mname && !y.isStatic && signaturePolymorphic ck y) = false := by simp [hnopoly]
  have hno₂ : (ck₂.methods.any fun y => y.name == mname && !y.isStatic && signaturePolymorphic ck₂ y) = false := by rw [hec₂]; exact hno
  have hcp' : cfile.constantPool[index]? = some (if false then .interfaceMethodref ci nt else .methodref ci nt) := hcp
  have X₁ := X.noted hE.warmed
  obtain ⟨v, B, X', ⟨g', mk', t, L, e1, e2, hq, e3, hL, e4, e5⟩, hsteps⟩ := hK m meth c ⟨T.setVm (T.vm.calledUp m.cls ci index cn mk), locs, cells, slots⟩ (F0 m pc ls rest) (.invokestatic index) mk As.toArray X₁ rfl hsize (by rw [hb]; exact hdg) (lv_room hW) (X₁.named hn) ⟨hf.1, hf.2, hPc _ hT X₁.warmed⟩
  obtain ⟨U', l2, c2, s2⟩ := B
  dsimp only at X' e1 e2 e3 e4 e5 hsteps
  subst e3; subst e4; subst e5
  refine ⟨v, (T.setVm (T.vm.calledUp m.cls ci index cn mk)).calling g' mk' As.toArray, t, U', L, hT, X', hL, e1, e2, hq, fun target h => ?_⟩
  jvm_step X.here [hexec, hb, hdg, sUp_cold (e := e) (s := T) (s₀ := s) (f := F0 m pc ls (As.reverse ++ rest)) X.here.top hpv X.warmed hE hd hcf hcp hnt hck hno,
    invokestatic.wp_ready (e := e) (s := T.setVm (T.vm.calledUp m.cls ci index cn mk)) (k := k₂) (meth := methM) (m := mk) (args := As) (rest := rest) (f := F0 m pc ls (As.reverse ++ rest)) X.here.top ⟨ci, mname, mdesc, false, cn, ck₂, memberRef_ask_via (e := e) hdk₂ (by rw [hed₂]; exact hcf) hcp' hnt, hE.classReady, hck₂, hno₂⟩ hE.ready hk₂ (by show (T.vm.calledUp m.cls ci index cn mk).method? mk = some methM; rw [alike.method?]; exact hmethM) (by rw [he₂]; show signaturePolymorphic kP methM = false; simp [signaturePolymorphic, hkPn, howner.1, howner.2]) hstM (by rw [he₂]; exact hinitK) (hlen _ hsigM) rfl]
  intro acts
  rw [doInvoke_state]
  exact hsteps.trans h
section CSTU
variable {g : gC} {X : Cxt} {cc : ByteArray} {nL b lvl mc : Nat} {ret : Option FieldType} {own : String} {Qc : Array Value → State → Outcome → State → Prop} {pc q : Nat} {lv : List (Nat × Value)} {st rest : List Value} {C C' : Mem}
theorem c_callSTi {r : Int32} (O : OkC g X cc nL ret own lvl mc Qc) {idx maxL n lvl' b' mc' : Nat} {x : MethodName} {owner : String} {by_ : ByteArray} {rt : Option FieldType} {As : List Value} (hM : MetC (xl X) g ⟨owner, x.name, x.desc⟩ by_ maxL rt lvl' mc' As C (cQi g r C')) (hl : Cond.methodLink own idx x ∈ lw_all) (hsame : Cond.sameMethod x.cls owner x.name x.desc ∈ lw_all) (hst' : Cond.static ⟨owner, x.name, x.desc⟩ ∈ lw_all) (hini : Cond.initialized owner ∈ lw_all) (hco : Cond.code ⟨owner, x.name, x.desc⟩ by_ maxL rt ∈ lw_all) (hd : owner ≠ "java/lang/invoke/MethodHandle" ∧ owner ≠ "java/lang/invoke/VarHandle" ∧ (parseMethodDescriptor x.desc).map (fun d => d.parameters.length) = some n) (hlv : lvl' + 1 ≤ lvl) (hml : maxL ≤ 40) (hn : As.length = n) (hst : st = As.reverse ++ rest) (hr : (rest.map fun v => v.category).sum ≤ 8) (d : decode cc pc = .ok (.invokestatic idx, 3)) (hq : pc + 3 = q) (hb : b' + mc' = b) (kk : V X nL b' (WdC g C') q lv (.int r :: rest)) : V X nL b (WdC g C) pc lv st := by
  subst hq
  subst hst
  subst hb
  intro H lo ce sl ls h1 h2 h3 h4 h5
  have S2 := O.S h2
  have hts := O.1.ts
  obtain ⟨hfr, hlo⟩ := c_room (maxL := maxL) (mc' := mc') O hlv hml
  refine va_calli (A1 := cA g) (A0 := cA g) (sUp_run O.1.ex O.1.bc O.1.ow (hts _ hl) (hts _ hsame) ⟨hd.1, hd.2.1⟩ (hts _ hst') (hts _ hini) (hts _ hco) hM cPc_blind rfl rfl hfr hlo (pay_in hts (lw_meth hco)) List.mem_cons_self (O.pre h1 h2) (fun sig h => by have h9 := hd.2.2; rw [h] at h9; exact hn.trans (Option.some.inj h9).symm) (h5.1.trans O.1.ml.symm) hr d ⟨by omega, by omega⟩) S2 (fun q _ h => h) (fun q h => h) (fun r1 u t H1 lo1 ht hvm hw hB hz hk hS1 => ?_)
  obtain ⟨rfl, rfl⟩ := hw
  exact kk H1 lo1 _ _ ls (by rw [← ht]; exact hB) (by rw [O.2.2.1]; exact hS1) (by omega) (by omega) h5
end CSTU
/-! RankEntry$Op$1.does(LRankEntry$Core;II)V -/
def fc_Op1_does (ka1 : Nat) (x2 : Int32) (x3 : Int32) (C : Mem) : Option ((Unit ⊕ Int32) × Mem) :=
  bnd (fc_Core_sets ka1 x2 x3 C) fun r1 C1 =>
  some (Sum.inl (), C1)
set_option maxHeartbeats 4000000 in
theorem bc_Op1_does {g : gC} {X : Cxt} {r : (Unit ⊕ Int32)} {C' : Mem} {ka1 : Nat} (hka1 : cC ka1) (OX : OkX g ka1 X cX21_does 4 none RX21 1 0 (xQv g r C') r C') (x2 : Int32) (x3 : Int32) (C : Mem) (h : fc_Op1_does ka1 x2 x3 C = some (r, C')) : V X 4 0 (WdC g C) 0 [(0, .ref (gCo g 0)), (1, .ref (gCa g ka1)), (2, .int x2), (3, .int x3)] [] := by
  have O := OX.1
  unfold fc_Op1_does at h
  refine v_aload_n O.1 dX21_does_0 rfl (q := 1) rfl ?_
  refine v_iload_n O.1 dX21_does_1 rfl (q := 2) rfl ?_
  refine v_iload_n O.1 dX21_does_2 rfl (q := 3) rfl ?_
  obtain ⟨r1, C1, e1, h⟩ := bnd_some h
  refine c_callVv (As := [.int x2, .int x3]) (rest := []) (n := 2) (ci := 2) (p := (RX4, TX4, 55)) O (cC_lt (j := 0) hka1 (by decide)) rfl (fun _ _ => ⟨_, cCell_core hka1⟩) (metc_Core_sets _ g ka1 hka1 x2 x3 C C1 r1 e1) (lw_V q426 q427 q428 q63 q429) (by decide +kernel) (by decide) (by decide) rfl rfl (Nat.le_of_ble_eq_true rfl) dX21_does_3 (q := 6) rfl (b' := 0) rfl ?_
  exact x_vret OX h dX21_does_6
theorem metc_Op1_does (l : Launch) (g : gC) (ka1 : Nat) (hka1 : cC ka1) (x2 : Int32) (x3 : Int32) (C C' : Mem) (r : (Unit ⊕ Int32)) (h : fc_Op1_does ka1 x2 x3 C = some (r, C')) : MetX l g ka1 yX21_does cX21_does 4 none 1 0 [.ref (gCo g 0), .ref (gCa g ka1), .int x2, .int x3] C (xQv g r C') r C' :=
  x_met (by decide) rfl (Nat.le_of_ble_eq_true rfl) (fun X OX => bc_Op1_does hka1 OX x2 x3 C h)
/-! RankEntry$Op$2.does(LRankEntry$Core;II)V -/
def fc_Op2_does (ka1 : Nat) (x2 : Int32) (x3 : Int32) (C : Mem) : Option ((Unit ⊕ Int32) × Mem) :=
  bnd (fc_Core_reg ka1 x2 C) fun r1 C1 =>
  bnd (fc_Core_reg ka1 x3 C1) fun r2 C2 =>
  bnd (fc_Core_comes ka1 x2 (r1 + r2) C2) fun r3 C3 =>
  some (Sum.inl (), C3)
set_option maxHeartbeats 4000000 in
theorem bc_Op2_does {g : gC} {X : Cxt} {r : (Unit ⊕ Int32)} {C' : Mem} {ka1 : Nat} (hka1 : cC ka1) (OX : OkX g ka1 X cX29_does 4 none RX29 2 0 (xQv g r C') r C') (x2 : Int32) (x3 : Int32) (C : Mem) (h : fc_Op2_does ka1 x2 x3 C = some (r, C')) : V X 4 0 (WdC g C) 0 [(0, .ref (gCo g 1)), (1, .ref (gCa g ka1)), (2, .int x2), (3, .int x3)] [] := by
  have O := OX.1
  unfold fc_Op2_does at h
  refine v_aload_n O.1 dX29_does_0 rfl (q := 1) rfl ?_
  refine v_iload_n O.1 dX29_does_1 rfl (q := 2) rfl ?_
  refine v_aload_n O.1 dX29_does_2 rfl (q := 3) rfl ?_
  refine v_iload_n O.1 dX29_does_3 rfl (q := 4) rfl ?_
  obtain ⟨r1, C1, e1, h⟩ := bnd_some h
  refine c_callVi (As := [.int x2]) (rest := [.int x2, .ref (gCa g ka1)]) (n := 1) (ci := 2) (p := (RX4, TX4, 55)) O (cC_lt (j := 0) hka1 (by decide)) rfl (fun _ _ => ⟨_, cCell_core hka1⟩) (metc_Core_reg _ g ka1 hka1 x2 C C1 r1 e1) (lw_V q529 q530 q531 q63 q532) (by decide +kernel) (by decide) (by decide) rfl rfl (Nat.le_of_ble_eq_true rfl) dX29_does_4 (q := 7) rfl (b' := 0) rfl ?_
  refine v_aload_n O.1 dX29_does_7 rfl (q := 8) rfl ?_
  refine v_iload_n O.1 dX29_does_8 rfl (q := 9) rfl ?_
  obtain ⟨r2, C2, e2, h⟩ := bnd_some h
  refine c_callVi (As := [.int x3]) (rest := [.int r1, .int x2, .ref (gCa g ka1)]) (n := 1) (ci := 2) (p := (RX4, TX4, 55)) O (cC_lt (j := 0) hka1 (by decide)) rfl (fun _ _ => ⟨_, cCell_core hka1⟩) (metc_Core_reg _ g ka1 hka1 x3 C1 C2 r2 e2) (lw_V q529 q530 q531 q63 q532) (by decide +kernel) (by decide) (by decide) rfl rfl (Nat.le_of_ble_eq_true rfl) dX29_does_9 (q := 12) rfl (b' := 0) rfl ?_
  refine v_iadd O.1 dX29_does_12 (q := 13) rfl ?_
  obtain ⟨r3, C3, e3, h⟩ := bnd_some h
  refine c_callVv (As := [.int x2, .int (r1 + r2)]) (rest := []) (n := 2) (ci := 2) (p := (RX4, TX4, 55)) O (cC_lt (j := 0) hka1 (by decide)) rfl (fun _ _ => ⟨_, cCell_core hka1⟩) (metc_Core_comes _ g ka1 hka1 x2 (r1 + r2) C2 C3 r3 e3) (lw_V q533 q534 q535 q63 q536) (by decide +kernel) (by decide) (by decide) rfl rfl (Nat.le_of_ble_eq_true rfl) dX29_does_13 (q := 16) rfl (b' := 0) rfl ?_
  exact x_vret OX h dX29_does_16
theorem metc_Op2_does (l : Launch) (g : gC) (ka1 : Nat) (hka1 : cC ka1) (x2 : Int32) (x3 : Int32) (C C' : Mem) (r : (Unit ⊕ Int32)) (h : fc_Op2_does ka1 x2 x3 C = some (r, C')) : MetX l g ka1 yX29_does cX29_does 4 none 2 0 [.ref (gCo g 1), .ref (gCa g ka1), .int x2, .int x3] C (xQv g r C') r C' :=
  x_met (by decide) rfl (Nat.le_of_ble_eq_true rfl) (fun X OX => bc_Op2_does hka1 OX x2 x3 C h)
/-! RankEntry$Op$3.does(LRankEntry$Core;II)V -/
def fc_Op3_does (ka1 : Nat) (x2 : Int32) (x3 : Int32) (C : Mem) : Option ((Unit ⊕ Int32) × Mem) :=
  bnd (fc_Core_reg ka1 x2 C) fun r1 C1 =>
  bnd (fc_Core_reg ka1 x3 C1) fun r2 C2 =>
  bnd (fc_Core_comes ka1 x2 (r1 - r2) C2) fun r3 C3 =>
  some (Sum.inl (), C3)
set_option maxHeartbeats 4000000 in
theorem bc_Op3_does {g : gC} {X : Cxt} {r : (Unit ⊕ Int32)} {C' : Mem} {ka1 : Nat} (hka1 : cC ka1) (OX : OkX g ka1 X cX40_does 4 none RX40 2 0 (xQv g r C') r C') (x2 : Int32) (x3 : Int32) (C : Mem) (h : fc_Op3_does ka1 x2 x3 C = some (r, C')) : V X 4 0 (WdC g C) 0 [(0, .ref (gCo g 2)), (1, .ref (gCa g ka1)), (2, .int x2), (3, .int x3)] [] := by
  have O := OX.1
  unfold fc_Op3_does at h
  refine v_aload_n O.1 dX40_does_0 rfl (q := 1) rfl ?_
  refine v_iload_n O.1 dX40_does_1 rfl (q := 2) rfl ?_
  refine v_aload_n O.1 dX40_does_2 rfl (q := 3) rfl ?_
  refine v_iload_n O.1 dX40_does_3 rfl (q := 4) rfl ?_
  obtain ⟨r1, C1, e1, h⟩ := bnd_some h
  refine c_callVi (As := [.int x2]) (rest := [.int x2, .ref (gCa g ka1)]) (n := 1) (ci := 2) (p := (RX4, TX4, 55)) O (cC_lt (j := 0) hka1 (by decide)) rfl (fun _ _ => ⟨_, cCell_core hka1⟩) (metc_Core_reg _ g ka1 hka1 x2 C C1 r1 e1) (lw_V q596 q530 q531 q63 q532) (by decide +kernel) (by decide) (by decide) rfl rfl (Nat.le_of_ble_eq_true rfl) dX40_does_4 (q := 7) rfl (b' := 0) rfl ?_
  refine v_aload_n O.1 dX40_does_7 rfl (q := 8) rfl ?_
  refine v_iload_n O.1 dX40_does_8 rfl (q := 9) rfl ?_
  obtain ⟨r2, C2, e2, h⟩ := bnd_some h
  refine c_callVi (As := [.int x3]) (rest := [.int r1, .int x2, .ref (gCa g ka1)]) (n := 1) (ci := 2) (p := (RX4, TX4, 55)) O (cC_lt (j := 0) hka1 (by decide)) rfl (fun _ _ => ⟨_, cCell_core hka1⟩) (metc_Core_reg _ g ka1 hka1 x3 C1 C2 r2 e2) (lw_V q596 q530 q531 q63 q532) (by decide +kernel) (by decide) (by decide) rfl rfl (Nat.le_of_ble_eq_true rfl) dX40_does_9 (q := 12) rfl (b' := 0) rfl ?_
  refine v_isub O.1 dX40_does_12 (q := 13) rfl ?_
  obtain ⟨r3, C3, e3, h⟩ := bnd_some h
  refine c_callVv (As := [.int x2, .int (r1 - r2)]) (rest := []) (n := 2) (ci := 2) (p := (RX4, TX4, 55)) O (cC_lt (j := 0) hka1 (by decide)) rfl (fun _ _ => ⟨_, cCell_core hka1⟩) (metc_Core_comes _ g ka1 hka1 x2 (r1 - r2) C2 C3 r3 e3) (lw_V q597 q534 q535 q63 q536) (by decide +kernel) (by decide) (by decide) rfl rfl (Nat.le_of_ble_eq_true rfl) dX40_does_13 (q := 16) rfl (b' := 0) rfl ?_
  exact x_vret OX h dX40_does_16
theorem metc_Op3_does (l : Launch) (g : gC) (ka1 : Nat) (hka1 : cC ka1) (x2 : Int32) (x3 : Int32) (C C' : Mem) (r : (Unit ⊕ Int32)) (h : fc_Op3_does ka1 x2 x3 C = some (r, C')) : MetX l g ka1 yX40_does cX40_does 4 none 2 0 [.ref (gCo g 2), .ref (gCa g ka1), .int x2, .int x3] C (xQv g r C') r C' :=
  x_met (by decide) rfl (Nat.le_of_ble_eq_true rfl) (fun X OX => bc_Op3_does hka1 OX x2 x3 C h)
/-! RankEntry$Op$4.does(LRankEntry$Core;II)V -/
def fc_Op4_does (ka1 : Nat) (x2 : Int32) (x3 : Int32) (C : Mem) : Option ((Unit ⊕ Int32) × Mem) :=
  bnd (fc_Core_reg ka1 x2 C) fun r1 C1 =>
  bnd (fc_Core_reg ka1 x3 C1) fun r2 C2 =>
  bnd (fc_Core_comes ka1 x2 (r1 * r2) C2) fun r3 C3 =>
  some (Sum.inl (), C3)
set_option maxHeartbeats 4000000 in
theorem bc_Op4_does {g : gC} {X : Cxt} {r : (Unit ⊕ Int32)} {C' : Mem} {ka1 : Nat} (hka1 : cC ka1) (OX : OkX g ka1 X cX41_does 4 none RX41 2 0 (xQv g r C') r C') (x2 : Int32) (x3 : Int32) (C : Mem) (h : fc_Op4_does ka1 x2 x3 C = some (r, C')) : V X 4 0 (WdC g C) 0 [(0, .ref (gCo g 3)), (1, .ref (gCa g ka1)), (2, .int x2), (3, .int x3)] [] := by
  have O := OX.1
  unfold fc_Op4_does at h
  refine v_aload_n O.1 dX41_does_0 rfl (q := 1) rfl ?_
  refine v_iload_n O.1 dX41_does_1 rfl (q := 2) rfl ?_
  refine v_aload_n O.1 dX41_does_2 rfl (q := 3) rfl ?_
  refine v_iload_n O.1 dX41_does_3 rfl (q := 4) rfl ?_
  obtain ⟨r1, C1, e1, h⟩ := bnd_some h
  refine c_callVi (As := [.int x2]) (rest := [.int x2, .ref (gCa g ka1)]) (n := 1) (ci := 2) (p := (RX4, TX4, 55)) O (cC_lt (j := 0) hka1 (by decide)) rfl (fun _ _ => ⟨_, cCell_core hka1⟩) (metc_Core_reg _ g ka1 hka1 x2 C C1 r1 e1) (lw_V q601 q530 q531 q63 q532) (by decide +kernel) (by decide) (by decide) rfl rfl (Nat.le_of_ble_eq_true rfl) dX41_does_4 (q := 7) rfl (b' := 0) rfl ?_
  refine v_aload_n O.1 dX41_does_7 rfl (q := 8) rfl ?_
  refine v_iload_n O.1 dX41_does_8 rfl (q := 9) rfl ?_
  obtain ⟨r2, C2, e2, h⟩ := bnd_some h
  refine c_callVi (As := [.int x3]) (rest := [.int r1, .int x2, .ref (gCa g ka1)]) (n := 1) (ci := 2) (p := (RX4, TX4, 55)) O (cC_lt (j := 0) hka1 (by decide)) rfl (fun _ _ => ⟨_, cCell_core hka1⟩) (metc_Core_reg _ g ka1 hka1 x3 C1 C2 r2 e2) (lw_V q601 q530 q531 q63 q532) (by decide +kernel) (by decide) (by decide) rfl rfl (Nat.le_of_ble_eq_true rfl) dX41_does_9 (q := 12) rfl (b' := 0) rfl ?_
  refine v_imul O.1 dX41_does_12 (q := 13) rfl ?_
  obtain ⟨r3, C3, e3, h⟩ := bnd_some h
  refine c_callVv (As := [.int x2, .int (r1 * r2)]) (rest := []) (n := 2) (ci := 2) (p := (RX4, TX4, 55)) O (cC_lt (j := 0) hka1 (by decide)) rfl (fun _ _ => ⟨_, cCell_core hka1⟩) (metc_Core_comes _ g ka1 hka1 x2 (r1 * r2) C2 C3 r3 e3) (lw_V q602 q534 q535 q63 q536) (by decide +kernel) (by decide) (by decide) rfl rfl (Nat.le_of_ble_eq_true rfl) dX41_does_13 (q := 16) rfl (b' := 0) rfl ?_
  exact x_vret OX h dX41_does_16
theorem metc_Op4_does (l : Launch) (g : gC) (ka1 : Nat) (hka1 : cC ka1) (x2 : Int32) (x3 : Int32) (C C' : Mem) (r : (Unit ⊕ Int32)) (h : fc_Op4_does ka1 x2 x3 C = some (r, C')) : MetX l g ka1 yX41_does cX41_does 4 none 2 0 [.ref (gCo g 3), .ref (gCa g ka1), .int x2, .int x3] C (xQv g r C') r C' :=
  x_met (by decide) rfl (Nat.le_of_ble_eq_true rfl) (fun X OX => bc_Op4_does hka1 OX x2 x3 C h)
/-! RankEntry$Op$5.does(LRankEntry$Core;II)V -/
def fc_Op5_does (ka1 : Nat) (x2 : Int32) (x3 : Int32) (C : Mem) : Option ((Unit ⊕ Int32) × Mem) :=
  bnd (fc_Core_reg ka1 x3 C) fun r1 C1 =>
  if r1 = 0 then
    some (Sum.inr 18, C1)
  else
    bnd (fc_Core_reg ka1 x2 C1) fun r3 C3 =>
    bnd (fc_Core_reg ka1 x3 C3) fun r4 C4 =>
    gd (decide (¬ r4 = 0)) <|
    bnd (fc_Core_comes ka1 x2 (r3 / r4) C4) fun r6 C6 =>
    some (Sum.inl (), C6)
set_option maxHeartbeats 4000000 in
theorem bc_Op5_does {g : gC} {X : Cxt} {r : (Unit ⊕ Int32)} {C' : Mem} {ka1 : Nat} (hka1 : cC ka1) (OX : OkX g ka1 X cX42_does 4 none RX42 2 0 (xQv g r C') r C') (x2 : Int32) (x3 : Int32) (C : Mem) (h : fc_Op5_does ka1 x2 x3 C = some (r, C')) : V X 4 0 (WdC g C) 0 [(0, .ref (gCo g 4)), (1, .ref (gCa g ka1)), (2, .int x2), (3, .int x3)] [] := by
  have O := OX.1
  unfold fc_Op5_does at h
  refine v_aload_n O.1 dX42_does_0 rfl (q := 1) rfl ?_
  refine v_iload_n O.1 dX42_does_1 rfl (q := 2) rfl ?_
  obtain ⟨r1, C1, e1, h⟩ := bnd_some h
  refine c_callVi (As := [.int x3]) (rest := []) (n := 1) (ci := 2) (p := (RX4, TX4, 55)) O (cC_lt (j := 0) hka1 (by decide)) rfl (fun _ _ => ⟨_, cCell_core hka1⟩) (metc_Core_reg _ g ka1 hka1 x3 C C1 r1 e1) (lw_V q606 q530 q531 q63 q532) (by decide +kernel) (by decide) (by decide) rfl rfl (Nat.le_of_ble_eq_true rfl) dX42_does_2 (q := 5) rfl (b' := 0) rfl ?_
  refine v_if_ne O.1 dX42_does_5 (t := 13) (by decide) (q := 8) rfl (fun c2 => ?_) (fun c2 => ?_)
  · rw [if_neg c2] at h
    refine v_aload_n O.1 dX42_does_13 rfl (q := 14) rfl ?_
    refine v_iload_n O.1 dX42_does_14 rfl (q := 15) rfl ?_
    refine v_aload_n O.1 dX42_does_15 rfl (q := 16) rfl ?_
    refine v_iload_n O.1 dX42_does_16 rfl (q := 17) rfl ?_
    obtain ⟨r3, C3, e3, h⟩ := bnd_some h
    refine c_callVi (As := [.int x2]) (rest := [.int x2, .ref (gCa g ka1)]) (n := 1) (ci := 2) (p := (RX4, TX4, 55)) O (cC_lt (j := 0) hka1 (by decide)) rfl (fun _ _ => ⟨_, cCell_core hka1⟩) (metc_Core_reg _ g ka1 hka1 x2 C1 C3 r3 e3) (lw_V q606 q530 q531 q63 q532) (by decide +kernel) (by decide) (by decide) rfl rfl (Nat.le_of_ble_eq_true rfl) dX42_does_17 (q := 20) rfl (b' := 0) rfl ?_
    refine v_aload_n O.1 dX42_does_20 rfl (q := 21) rfl ?_
    refine v_iload_n O.1 dX42_does_21 rfl (q := 22) rfl ?_
    obtain ⟨r4, C4, e4, h⟩ := bnd_some h
    refine c_callVi (As := [.int x3]) (rest := [.int r3, .int x2, .ref (gCa g ka1)]) (n := 1) (ci := 2) (p := (RX4, TX4, 55)) O (cC_lt (j := 0) hka1 (by decide)) rfl (fun _ _ => ⟨_, cCell_core hka1⟩) (metc_Core_reg _ g ka1 hka1 x3 C3 C4 r4 e4) (lw_V q606 q530 q531 q63 q532) (by decide +kernel) (by decide) (by decide) rfl rfl (Nat.le_of_ble_eq_true rfl) dX42_does_22 (q := 25) rfl (b' := 0) rfl ?_
    obtain ⟨g5, h⟩ := gd_some h
    refine v_idiv O.1 dX42_does_25 (of_decide_eq_true g5) (q := 26) rfl ?_
    obtain ⟨r6, C6, e6, h⟩ := bnd_some h
    refine c_callVv (As := [.int x2, .int (r3 / r4)]) (rest := []) (n := 2) (ci := 2) (p := (RX4, TX4, 55)) O (cC_lt (j := 0) hka1 (by decide)) rfl (fun _ _ => ⟨_, cCell_core hka1⟩) (metc_Core_comes _ g ka1 hka1 x2 (r3 / r4) C4 C6 r6 e6) (lw_V q607 q534 q535 q63 q536) (by decide +kernel) (by decide) (by decide) rfl rfl (Nat.le_of_ble_eq_true rfl) dX42_does_26 (q := 29) rfl (b' := 0) rfl ?_
    exact x_vret OX h dX42_does_29
  · rw [if_pos c2] at h
    refine v_aload_n O.1 dX42_does_8 rfl (q := 9) rfl ?_
    refine c_getC O hka1 1 (v := .ref (gCa g (ka1 + 20))) (by decide) (O.lkn q829) rfl (fun _ => rfl) dX42_does_9 (q := 12) rfl ?_
    exact x_throw 18 OX hka1 (Or.inl rfl) h rfl dX42_does_12
theorem metc_Op5_does (l : Launch) (g : gC) (ka1 : Nat) (hka1 : cC ka1) (x2 : Int32) (x3 : Int32) (C C' : Mem) (r : (Unit ⊕ Int32)) (h : fc_Op5_does ka1 x2 x3 C = some (r, C')) : MetX l g ka1 yX42_does cX42_does 4 none 2 0 [.ref (gCo g 4), .ref (gCa g ka1), .int x2, .int x3] C (xQv g r C') r C' :=
  x_met (by decide) rfl (Nat.le_of_ble_eq_true rfl) (fun X OX => bc_Op5_does hka1 OX x2 x3 C h)
/-! RankEntry$Op$6.does(LRankEntry$Core;II)V -/
def fc_Op6_does (ka1 : Nat) (x2 : Int32) (x3 : Int32) (C : Mem) : Option ((Unit ⊕ Int32) × Mem) :=
  bnd (fc_Core_reg ka1 x2 C) fun r1 C1 =>
  bnd (fc_Core_reg ka1 x3 C1) fun r2 C2 =>
  bnd (fc_Core_comes ka1 x2 (r1 ^^^ r2) C2) fun r3 C3 =>
  some (Sum.inl (), C3)
set_option maxHeartbeats 4000000 in
theorem bc_Op6_does {g : gC} {X : Cxt} {r : (Unit ⊕ Int32)} {C' : Mem} {ka1 : Nat} (hka1 : cC ka1) (OX : OkX g ka1 X cX43_does 4 none RX43 2 0 (xQv g r C') r C') (x2 : Int32) (x3 : Int32) (C : Mem) (h : fc_Op6_does ka1 x2 x3 C = some (r, C')) : V X 4 0 (WdC g C) 0 [(0, .ref (gCo g 5)), (1, .ref (gCa g ka1)), (2, .int x2), (3, .int x3)] [] := by
  have O := OX.1
  unfold fc_Op6_does at h
  refine v_aload_n O.1 dX43_does_0 rfl (q := 1) rfl ?_
  refine v_iload_n O.1 dX43_does_1 rfl (q := 2) rfl ?_
  refine v_aload_n O.1 dX43_does_2 rfl (q := 3) rfl ?_
  refine v_iload_n O.1 dX43_does_3 rfl (q := 4) rfl ?_
  obtain ⟨r1, C1, e1, h⟩ := bnd_some h
  refine c_callVi (As := [.int x2]) (rest := [.int x2, .ref (gCa g ka1)]) (n := 1) (ci := 2) (p := (RX4, TX4, 55)) O (cC_lt (j := 0) hka1 (by decide)) rfl (fun _ _ => ⟨_, cCell_core hka1⟩) (metc_Core_reg _ g ka1 hka1 x2 C C1 r1 e1) (lw_V q611 q530 q531 q63 q532) (by decide +kernel) (by decide) (by decide) rfl rfl (Nat.le_of_ble_eq_true rfl) dX43_does_4 (q := 7) rfl (b' := 0) rfl ?_
  refine v_aload_n O.1 dX43_does_7 rfl (q := 8) rfl ?_
  refine v_iload_n O.1 dX43_does_8 rfl (q := 9) rfl ?_
  obtain ⟨r2, C2, e2, h⟩ := bnd_some h
  refine c_callVi (As := [.int x3]) (rest := [.int r1, .int x2, .ref (gCa g ka1)]) (n := 1) (ci := 2) (p := (RX4, TX4, 55)) O (cC_lt (j := 0) hka1 (by decide)) rfl (fun _ _ => ⟨_, cCell_core hka1⟩) (metc_Core_reg _ g ka1 hka1 x3 C1 C2 r2 e2) (lw_V q611 q530 q531 q63 q532) (by decide +kernel) (by decide) (by decide) rfl rfl (Nat.le_of_ble_eq_true rfl) dX43_does_9 (q := 12) rfl (b' := 0) rfl ?_
  refine v_ixor O.1 dX43_does_12 (q := 13) rfl ?_
  obtain ⟨r3, C3, e3, h⟩ := bnd_some h
  refine c_callVv (As := [.int x2, .int (r1 ^^^ r2)]) (rest := []) (n := 2) (ci := 2) (p := (RX4, TX4, 55)) O (cC_lt (j := 0) hka1 (by decide)) rfl (fun _ _ => ⟨_, cCell_core hka1⟩) (metc_Core_comes _ g ka1 hka1 x2 (r1 ^^^ r2) C2 C3 r3 e3) (lw_V q612 q534 q535 q63 q536) (by decide +kernel) (by decide) (by decide) rfl rfl (Nat.le_of_ble_eq_true rfl) dX43_does_13 (q := 16) rfl (b' := 0) rfl ?_
  exact x_vret OX h dX43_does_16
theorem metc_Op6_does (l : Launch) (g : gC) (ka1 : Nat) (hka1 : cC ka1) (x2 : Int32) (x3 : Int32) (C C' : Mem) (r : (Unit ⊕ Int32)) (h : fc_Op6_does ka1 x2 x3 C = some (r, C')) : MetX l g ka1 yX43_does cX43_does 4 none 2 0 [.ref (gCo g 5), .ref (gCa g ka1), .int x2, .int x3] C (xQv g r C') r C' :=
  x_met (by decide) rfl (Nat.le_of_ble_eq_true rfl) (fun X OX => bc_Op6_does hka1 OX x2 x3 C h)
/-! RankEntry$Op$7.does(LRankEntry$Core;II)V -/
def fc_Op7_does_37 (ka1 : Nat) (y2 : Int32) (y1 : Int32) (C : Mem) : Option ((Unit ⊕ Int32) × Mem) :=
  bnd (fc_Core_comes ka1 y1 y2 C) fun r1 C1 =>
  some (Sum.inl (), C1)
set_option maxHeartbeats 4000000 in
theorem bc_Op7_does_37 {g : gC} {X : Cxt} {r : (Unit ⊕ Int32)} {C' : Mem} {ka1 : Nat} (hka1 : cC ka1) (OX : OkX g ka1 X cX44_does 5 none RX44 2 0 (xQv g r C') r C') (y2 : Int32) (y1 : Int32) (C : Mem) (h : fc_Op7_does_37 ka1 y2 y1 C = some (r, C')) : V X 5 0 (WdC g C) 37 [] [.int y2, .int y1, .ref (gCa g ka1)] := by
  have O := OX.1
  unfold fc_Op7_does_37 at h
  obtain ⟨r1, C1, e1, h⟩ := bnd_some h
  refine c_callVv (As := [.int y1, .int y2]) (rest := []) (n := 2) (ci := 2) (p := (RX4, TX4, 55)) O (cC_lt (j := 0) hka1 (by decide)) rfl (fun _ _ => ⟨_, cCell_core hka1⟩) (metc_Core_comes _ g ka1 hka1 y1 y2 C C1 r1 e1) (lw_V q617 q534 q535 q63 q536) (by decide +kernel) (by decide) (by decide) rfl rfl (Nat.le_of_ble_eq_true rfl) dX44_does_37 (q := 40) rfl (b' := 0) rfl ?_
  exact x_vret OX h dX44_does_40
def fc_Op7_does (ka1 : Nat) (x2 : Int32) (x3 : Int32) (C : Mem) : Option ((Unit ⊕ Int32) × Mem) :=
  if 32 ≤ (x3 &&& 63) then
    bnd (fc_Core_reg ka1 x2 C) fun r2 C2 =>
    fc_Op7_does_37 ka1 (r2 >>> (((x3 &&& 63) - 32) &&& 31)) x2 C2
  else
    bnd (fc_Core_reg ka1 x2 C) fun r3 C3 =>
    fc_Op7_does_37 ka1 (r3 <<< ((x3 &&& 63) &&& 31)) x2 C3
set_option maxHeartbeats 4000000 in
theorem bc_Op7_does {g : gC} {X : Cxt} {r : (Unit ⊕ Int32)} {C' : Mem} {ka1 : Nat} (hka1 : cC ka1) (OX : OkX g ka1 X cX44_does 5 none RX44 2 0 (xQv g r C') r C') (x2 : Int32) (x3 : Int32) (C : Mem) (h : fc_Op7_does ka1 x2 x3 C = some (r, C')) : V X 5 0 (WdC g C) 0 [(0, .ref (gCo g 6)), (1, .ref (gCa g ka1)), (2, .int x2), (3, .int x3)] [] := by
  have O := OX.1
  unfold fc_Op7_does at h
  refine v_iload_n O.1 dX44_does_0 rfl (q := 1) rfl ?_
  refine v_bipush O.1 dX44_does_1 (v := 63) (by decide) (q := 3) rfl ?_
  refine v_iand O.1 dX44_does_3 (q := 4) rfl ?_
  refine v_istore (lv' := [(4, .int (x3 &&& 63)), (0, .ref (gCo g 6)), (1, .ref (gCa g ka1)), (2, .int x2), (3, .int x3)]) O.1 dX44_does_4 (by decide) rfl (q := 6) rfl ?_
  refine v_aload_n O.1 dX44_does_6 rfl (q := 7) rfl ?_
  refine v_iload_n O.1 dX44_does_7 rfl (q := 8) rfl ?_
  refine v_iload O.1 dX44_does_8 rfl (q := 10) rfl ?_
  refine v_bipush O.1 dX44_does_10 (v := 32) (by decide) (q := 12) rfl ?_
  refine v_icmp_ge O.1 dX44_does_12 (t := 26) (by decide) (q := 15) rfl (fun c1 => ?_) (fun c1 => ?_)
  · rw [if_pos c1] at h
    refine v_aload_n O.1 dX44_does_26 rfl (q := 27) rfl ?_
    refine v_iload_n O.1 dX44_does_27 rfl (q := 28) rfl ?_
    obtain ⟨r2, C2, e2, h⟩ := bnd_some h
    refine c_callVi (As := [.int x2]) (rest := [.int x2, .ref (gCa g ka1)]) (n := 1) (ci := 2) (p := (RX4, TX4, 55)) O (cC_lt (j := 0) hka1 (by decide)) rfl (fun _ _ => ⟨_, cCell_core hka1⟩) (metc_Core_reg _ g ka1 hka1 x2 C C2 r2 e2) (lw_V q616 q530 q531 q63 q532) (by decide +kernel) (by decide) (by decide) rfl rfl (Nat.le_of_ble_eq_true rfl) dX44_does_28 (q := 31) rfl (b' := 0) rfl ?_
    refine v_iload O.1 dX44_does_31 rfl (q := 33) rfl ?_
    refine v_bipush O.1 dX44_does_33 (v := 32) (by decide) (q := 35) rfl ?_
    refine v_isub O.1 dX44_does_35 (q := 36) rfl ?_
    refine v_ishr O.1 dX44_does_36 (q := 37) rfl ?_
    exact v_sub [] rfl (bc_Op7_does_37 hka1 OX (r2 >>> (((x3 &&& 63) - 32) &&& 31)) x2 C2 h)
  · rw [if_neg c1] at h
    refine v_aload_n O.1 dX44_does_15 rfl (q := 16) rfl ?_
    refine v_iload_n O.1 dX44_does_16 rfl (q := 17) rfl ?_
    obtain ⟨r3, C3, e3, h⟩ := bnd_some h
    refine c_callVi (As := [.int x2]) (rest := [.int x2, .ref (gCa g ka1)]) (n := 1) (ci := 2) (p := (RX4, TX4, 55)) O (cC_lt (j := 0) hka1 (by decide)) rfl (fun _ _ => ⟨_, cCell_core hka1⟩) (metc_Core_reg _ g ka1 hka1 x2 C C3 r3 e3) (lw_V q616 q530 q531 q63 q532) (by decide +kernel) (by decide) (by decide) rfl rfl (Nat.le_of_ble_eq_true rfl) dX44_does_17 (q := 20) rfl (b' := 0) rfl ?_
    refine v_iload O.1 dX44_does_20 rfl (q := 22) rfl ?_
    refine v_ishl O.1 dX44_does_22 (q := 23) rfl ?_
    refine v_goto O.1 dX44_does_23 (t := 37) (by decide) ?_
    exact v_sub [] rfl (bc_Op7_does_37 hka1 OX (r3 <<< ((x3 &&& 63) &&& 31)) x2 C3 h)
theorem metc_Op7_does (l : Launch) (g : gC) (ka1 : Nat) (hka1 : cC ka1) (x2 : Int32) (x3 : Int32) (C C' : Mem) (r : (Unit ⊕ Int32)) (h : fc_Op7_does ka1 x2 x3 C = some (r, C')) : MetX l g ka1 yX44_does cX44_does 5 none 2 0 [.ref (gCo g 6), .ref (gCa g ka1), .int x2, .int x3] C (xQv g r C') r C' :=
  x_met (by decide) rfl (Nat.le_of_ble_eq_true rfl) (fun X OX => bc_Op7_does hka1 OX x2 x3 C h)
/-! RankEntry$Op$8.does(LRankEntry$Core;II)V -/
def fc_Op8_does (ka1 : Nat) (x2 : Int32) (x3 : Int32) (C : Mem) : Option ((Unit ⊕ Int32) × Mem) :=
  bnd (fc_Core_reg ka1 x3 C) fun r1 C1 =>
  bnd (fc_Core_sets ka1 x2 r1 C1) fun r2 C2 =>
  some (Sum.inl (), C2)
set_option maxHeartbeats 4000000 in
theorem bc_Op8_does {g : gC} {X : Cxt} {r : (Unit ⊕ Int32)} {C' : Mem} {ka1 : Nat} (hka1 : cC ka1) (OX : OkX g ka1 X cX45_does 4 none RX45 1 0 (xQv g r C') r C') (x2 : Int32) (x3 : Int32) (C : Mem) (h : fc_Op8_does ka1 x2 x3 C = some (r, C')) : V X 4 0 (WdC g C) 0 [(0, .ref (gCo g 7)), (1, .ref (gCa g ka1)), (2, .int x2), (3, .int x3)] [] := by
  have O := OX.1
  unfold fc_Op8_does at h
  refine v_aload_n O.1 dX45_does_0 rfl (q := 1) rfl ?_
  refine v_iload_n O.1 dX45_does_1 rfl (q := 2) rfl ?_
  refine v_aload_n O.1 dX45_does_2 rfl (q := 3) rfl ?_
  refine v_iload_n O.1 dX45_does_3 rfl (q := 4) rfl ?_
  obtain ⟨r1, C1, e1, h⟩ := bnd_some h
  refine c_callVi (As := [.int x3]) (rest := [.int x2, .ref (gCa g ka1)]) (n := 1) (ci := 2) (p := (RX4, TX4, 55)) O (cC_lt (j := 0) hka1 (by decide)) rfl (fun _ _ => ⟨_, cCell_core hka1⟩) (metc_Core_reg _ g ka1 hka1 x3 C C1 r1 e1) (lw_V q621 q530 q531 q63 q532) (by decide +kernel) (by decide) (by decide) rfl rfl (Nat.le_of_ble_eq_true rfl) dX45_does_4 (q := 7) rfl (b' := 0) rfl ?_
  obtain ⟨r2, C2, e2, h⟩ := bnd_some h
  refine c_callVv (As := [.int x2, .int r1]) (rest := []) (n := 2) (ci := 2) (p := (RX4, TX4, 55)) O (cC_lt (j := 0) hka1 (by decide)) rfl (fun _ _ => ⟨_, cCell_core hka1⟩) (metc_Core_sets _ g ka1 hka1 x2 r1 C1 C2 r2 e2) (lw_V q622 q427 q428 q63 q429) (by decide +kernel) (by decide) (by decide) rfl rfl (Nat.le_of_ble_eq_true rfl) dX45_does_7 (q := 10) rfl (b' := 0) rfl ?_
  exact x_vret OX h dX45_does_10
theorem metc_Op8_does (l : Launch) (g : gC) (ka1 : Nat) (hka1 : cC ka1) (x2 : Int32) (x3 : Int32) (C C' : Mem) (r : (Unit ⊕ Int32)) (h : fc_Op8_does ka1 x2 x3 C = some (r, C')) : MetX l g ka1 yX45_does cX45_does 4 none 1 0 [.ref (gCo g 7), .ref (gCa g ka1), .int x2, .int x3] C (xQv g r C') r C' :=
  x_met (by decide) rfl (Nat.le_of_ble_eq_true rfl) (fun X OX => bc_Op8_does hka1 OX x2 x3 C h)
/-! RankEntry$Op$9.does(LRankEntry$Core;II)V -/
def fc_Op9_does (ka1 : Nat) (x2 : Int32) (x3 : Int32) (C : Mem) : Option ((Unit ⊕ Int32) × Mem) :=
  bnd (fc_Core_reg ka1 x2 C) fun r1 C1 =>
  bnd (fc_Core_pushes ka1 r1 C1) fun r2 C2 =>
  if r2 = 0 then
    some (Sum.inr 19, C2)
  else
    some (Sum.inl (), C2)
set_option maxHeartbeats 4000000 in
theorem bc_Op9_does {g : gC} {X : Cxt} {r : (Unit ⊕ Int32)} {C' : Mem} {ka1 : Nat} (hka1 : cC ka1) (OX : OkX g ka1 X cX46_does 4 none RX46 2 0 (xQv g r C') r C') (x2 : Int32) (x3 : Int32) (C : Mem) (h : fc_Op9_does ka1 x2 x3 C = some (r, C')) : V X 4 0 (WdC g C) 0 [(0, .ref (gCo g 8)), (1, .ref (gCa g ka1)), (2, .int x2), (3, .int x3)] [] := by
  have O := OX.1
  unfold fc_Op9_does at h
  refine v_aload_n O.1 dX46_does_0 rfl (q := 1) rfl ?_
  refine v_aload_n O.1 dX46_does_1 rfl (q := 2) rfl ?_
  refine v_iload_n O.1 dX46_does_2 rfl (q := 3) rfl ?_
  obtain ⟨r1, C1, e1, h⟩ := bnd_some h
  refine c_callVi (As := [.int x2]) (rest := [.ref (gCa g ka1)]) (n := 1) (ci := 2) (p := (RX4, TX4, 55)) O (cC_lt (j := 0) hka1 (by decide)) rfl (fun _ _ => ⟨_, cCell_core hka1⟩) (metc_Core_reg _ g ka1 hka1 x2 C C1 r1 e1) (lw_V q626 q530 q531 q63 q532) (by decide +kernel) (by decide) (by decide) rfl rfl (Nat.le_of_ble_eq_true rfl) dX46_does_3 (q := 6) rfl (b' := 0) rfl ?_
  obtain ⟨r2, C2, e2, h⟩ := bnd_some h
  refine c_callVi (As := [.int r1]) (rest := []) (n := 1) (ci := 2) (p := (RX4, TX4, 55)) O (cC_lt (j := 0) hka1 (by decide)) rfl (fun _ _ => ⟨_, cCell_core hka1⟩) (metc_Core_pushes _ g ka1 hka1 r1 C1 C2 r2 e2) (lw_V q627 q308 q309 q63 q310) (by decide +kernel) (by decide) (by decide) rfl rfl (Nat.le_of_ble_eq_true rfl) dX46_does_6 (q := 9) rfl (b' := 0) rfl ?_
  refine v_if_ne O.1 dX46_does_9 (t := 17) (by decide) (q := 12) rfl (fun c3 => ?_) (fun c3 => ?_)
  · rw [if_neg c3] at h
    exact x_vret OX h dX46_does_17
  · rw [if_pos c3] at h
    refine v_aload_n O.1 dX46_does_12 rfl (q := 13) rfl ?_
    refine c_getC O hka1 2 (v := .ref (gCa g (ka1 + 21))) (by decide) (O.lkn q832) rfl (fun _ => rfl) dX46_does_13 (q := 16) rfl ?_
    exact x_throw 19 OX hka1 (Or.inr rfl) h rfl dX46_does_16
theorem metc_Op9_does (l : Launch) (g : gC) (ka1 : Nat) (hka1 : cC ka1) (x2 : Int32) (x3 : Int32) (C C' : Mem) (r : (Unit ⊕ Int32)) (h : fc_Op9_does ka1 x2 x3 C = some (r, C')) : MetX l g ka1 yX46_does cX46_does 4 none 2 0 [.ref (gCo g 8), .ref (gCa g ka1), .int x2, .int x3] C (xQv g r C') r C' :=
  x_met (by decide) rfl (Nat.le_of_ble_eq_true rfl) (fun X OX => bc_Op9_does hka1 OX x2 x3 C h)
/-! RankEntry$Op$10.does(LRankEntry$Core;II)V -/
def fc_Op10_does (ka1 : Nat) (x2 : Int32) (x3 : Int32) (C : Mem) : Option ((Unit ⊕ Int32) × Mem) :=
  bndx (fc_Core_needs ka1 1 C) fun r1 C1 =>
  stp (up2 C1 ka1 32 ((C1 ka1 32) - 1)) fun C2 =>
  gd (inb (C2 ka1 32) 96) <|
  bnd (fc_Core_sets ka1 x2 (C2 (ka1 + 4) (C2 ka1 32).toNatClampNeg) C2) fun r4 C4 =>
  some (Sum.inl (), C4)
set_option maxHeartbeats 4000000 in
theorem bc_Op10_does {g : gC} {X : Cxt} {r : (Unit ⊕ Int32)} {C' : Mem} {ka1 : Nat} (hka1 : cC ka1) (OX : OkX g ka1 X cX22_does 4 none RX22 1 0 (xQv g r C') r C') (x2 : Int32) (x3 : Int32) (C : Mem) (h : fc_Op10_does ka1 x2 x3 C = some (r, C')) : V X 4 0 (WdC g C) 0 [(0, .ref (gCo g 9)), (1, .ref (gCa g ka1)), (2, .int x2), (3, .int x3)] [] := by
  have O := OX.1
  unfold fc_Op10_does at h
  refine v_aload_n O.1 dX22_does_0 rfl (q := 1) rfl ?_
  refine v_iconst O.1 dX22_does_1 (v := 1) rfl (q := 2) rfl ?_
  rcases bndx_some h with ⟨r1, C1, e1, h⟩ | ⟨r1, C1, e1, h⟩
  case inr => exact x_callVtv (As := [.int 1]) (rest := []) (n := 1) (ci := 2) (p := (RX4, TX4, 55)) OX hka1 (cC_lt (j := 0) hka1 (by decide)) rfl (fun _ _ => ⟨_, cCell_core hka1⟩) (metc_Core_needs _ g ka1 hka1 1 C C1 _ e1) (lw_V q433 q434 q435 q63 q436) (by decide +kernel) (by decide) (by decide) rfl rfl (Nat.le_of_ble_eq_true rfl) dX22_does_2 (by decide) h
  refine x_callVv (As := [.int 1]) (rest := []) (n := 1) (ci := 2) (p := (RX4, TX4, 55)) O (cC_lt (j := 0) hka1 (by decide)) rfl (fun _ _ => ⟨_, cCell_core hka1⟩) (metc_Core_needs _ g ka1 hka1 1 C C1 _ e1) (lw_V q433 q434 q435 q63 q436) (by decide +kernel) (by decide) (by decide) rfl rfl (Nat.le_of_ble_eq_true rfl) dX22_does_2 (q := 5) rfl (b' := 0) rfl ?_
  refine v_aload_n O.1 dX22_does_5 rfl (q := 6) rfl ?_
  refine v_dup O.1 dX22_does_6 rfl (q := 7) rfl ?_
  refine c_getC O hka1 32 (v := .int (C1 ka1 32)) (by decide) (O.lkn q891) rfl (fun _ => rfl) dX22_does_7 (q := 10) rfl ?_
  refine v_iconst O.1 dX22_does_10 (v := 1) rfl (q := 11) rfl ?_
  refine v_isub O.1 dX22_does_11 (q := 12) rfl ?_
  obtain ⟨C2, e2, h⟩ := stp_some h
  refine c_putC O hka1 32 (u := ((C1 ka1 32) - 1)) (ty := .int) (by decide) (by decide) (O.lkn q891) rfl rfl rfl rfl rfl (fun _ => rfl) dX22_does_12 (q := 15) rfl e2 ?_
  refine v_aload_n O.1 dX22_does_15 rfl (q := 16) rfl ?_
  refine v_iload_n O.1 dX22_does_16 rfl (q := 17) rfl ?_
  refine v_aload_n O.1 dX22_does_17 rfl (q := 18) rfl ?_
  refine c_getC O hka1 6 (v := .ref (gCa g (ka1 + 4))) (by decide) (O.lkn q846) rfl (fun _ => rfl) dX22_does_18 (q := 21) rfl ?_
  refine v_aload_n O.1 dX22_does_21 rfl (q := 22) rfl ?_
  refine c_getC O hka1 32 (v := .int (C2 ka1 32)) (by decide) (O.lkn q891) rfl (fun _ => rfl) dX22_does_22 (q := 25) rfl ?_
  obtain ⟨g3, h⟩ := gd_some h
  refine c_iald O (cIA_stack hka1) g3 rfl (j := (C2 ka1 32).toNatClampNeg) dX22_does_25 (q := 26) rfl ?_
  obtain ⟨r4, C4, e4, h⟩ := bnd_some h
  refine c_callVv (As := [.int x2, .int (C2 (ka1 + 4) (C2 ka1 32).toNatClampNeg)]) (rest := []) (n := 2) (ci := 2) (p := (RX4, TX4, 55)) O (cC_lt (j := 0) hka1 (by decide)) rfl (fun _ _ => ⟨_, cCell_core hka1⟩) (metc_Core_sets _ g ka1 hka1 x2 (C2 (ka1 + 4) (C2 ka1 32).toNatClampNeg) C2 C4 r4 e4) (lw_V q437 q427 q428 q63 q429) (by decide +kernel) (by decide) (by decide) rfl rfl (Nat.le_of_ble_eq_true rfl) dX22_does_26 (q := 29) rfl (b' := 0) rfl ?_
  exact x_vret OX h dX22_does_29
theorem metc_Op10_does (l : Launch) (g : gC) (ka1 : Nat) (hka1 : cC ka1) (x2 : Int32) (x3 : Int32) (C C' : Mem) (r : (Unit ⊕ Int32)) (h : fc_Op10_does ka1 x2 x3 C = some (r, C')) : MetX l g ka1 yX22_does cX22_does 4 none 1 0 [.ref (gCo g 9), .ref (gCa g ka1), .int x2, .int x3] C (xQv g r C') r C' :=
  x_met (by decide) rfl (Nat.le_of_ble_eq_true rfl) (fun X OX => bc_Op10_does hka1 OX x2 x3 C h)
/-! RankEntry$Op$11.does(LRankEntry$Core;II)V -/
def fc_Op11_does (ka1 : Nat) (x2 : Int32) (x3 : Int32) (C : Mem) : Option ((Unit ⊕ Int32) × Mem) :=
  bnd (fc_Op_target x2 x3 C) fun r1 C1 =>
  stp (up2 C1 ka1 31 r1) fun C2 =>
  some (Sum.inl (), C2)
set_option maxHeartbeats 4000000 in
theorem bc_Op11_does {g : gC} {X : Cxt} {r : (Unit ⊕ Int32)} {C' : Mem} {ka1 : Nat} (hka1 : cC ka1) (OX : OkX g ka1 X cX8_does 4 none RX8 1 0 (xQv g r C') r C') (x2 : Int32) (x3 : Int32) (C : Mem) (h : fc_Op11_does ka1 x2 x3 C = some (r, C')) : V X 4 0 (WdC g C) 0 [(0, .ref (gCo g 10)), (1, .ref (gCa g ka1)), (2, .int x2), (3, .int x3)] [] := by
  have O := OX.1
  unfold fc_Op11_does at h
  refine v_aload_n O.1 dX8_does_0 rfl (q := 1) rfl ?_
  refine v_iload_n O.1 dX8_does_1 rfl (q := 2) rfl ?_
  refine v_iload_n O.1 dX8_does_2 rfl (q := 3) rfl ?_
  obtain ⟨r1, C1, e1, h⟩ := bnd_some h
  refine c_callSTi (x := ⟨"RankEntry$Op$11", "target", "(II)I"⟩) (owner := "RankEntry$Op") (As := [.int x2, .int x3]) (rest := [.ref (gCa g ka1)]) (n := 2) O (metc_Op_target _ g x2 x3 C C1 r1 e1) q441 q442 q443 q62 q444 (by decide +kernel) (by decide) (by decide) rfl rfl (Nat.le_of_ble_eq_true rfl) dX8_does_3 (q := 6) rfl (b' := 0) rfl ?_
  obtain ⟨C2, e2, h⟩ := stp_some h
  refine c_putC O hka1 31 (u := r1) (ty := .int) (by decide) (by decide) (O.lkn q886) rfl rfl rfl rfl rfl (fun _ => rfl) dX8_does_6 (q := 9) rfl e2 ?_
  exact x_vret OX h dX8_does_9
theorem metc_Op11_does (l : Launch) (g : gC) (ka1 : Nat) (hka1 : cC ka1) (x2 : Int32) (x3 : Int32) (C C' : Mem) (r : (Unit ⊕ Int32)) (h : fc_Op11_does ka1 x2 x3 C = some (r, C')) : MetX l g ka1 yX8_does cX8_does 4 none 1 0 [.ref (gCo g 10), .ref (gCa g ka1), .int x2, .int x3] C (xQv g r C') r C' :=
  x_met (by decide) rfl (Nat.le_of_ble_eq_true rfl) (fun X OX => bc_Op11_does hka1 OX x2 x3 C h)
/-! RankEntry$Op$12.does(LRankEntry$Core;II)V -/
def fc_Op12_does_21 (ka1 : Nat) (y1 : Int32) (C : Mem) : Option ((Unit ⊕ Int32) × Mem) :=
  stp (up2 C ka1 31 y1) fun C1 =>
  some (Sum.inl (), C1)
set_option maxHeartbeats 4000000 in
theorem bc_Op12_does_21 {g : gC} {X : Cxt} {r : (Unit ⊕ Int32)} {C' : Mem} {ka1 : Nat} (hka1 : cC ka1) (OX : OkX g ka1 X cX9_does 4 none RX9 1 0 (xQv g r C') r C') (y1 : Int32) (C : Mem) (h : fc_Op12_does_21 ka1 y1 C = some (r, C')) : V X 4 0 (WdC g C) 21 [] [.int y1, .ref (gCa g ka1)] := by
  have O := OX.1
  unfold fc_Op12_does_21 at h
  obtain ⟨C1, e1, h⟩ := stp_some h
  refine c_putC O hka1 31 (u := y1) (ty := .int) (by decide) (by decide) (O.lkn q887) rfl rfl rfl rfl rfl (fun _ => rfl) dX9_does_21 (q := 24) rfl e1 ?_
  exact x_vret OX h dX9_does_24
def fc_Op12_does (ka1 : Nat) (x2 : Int32) (x3 : Int32) (C : Mem) : Option ((Unit ⊕ Int32) × Mem) :=
  if (C ka1 29) = 1 then
    bnd (fc_Op_target x2 x3 C) fun r2 C2 =>
    fc_Op12_does_21 ka1 r2 C2
  else
    fc_Op12_does_21 ka1 (C ka1 31) C
set_option maxHeartbeats 4000000 in
theorem bc_Op12_does {g : gC} {X : Cxt} {r : (Unit ⊕ Int32)} {C' : Mem} {ka1 : Nat} (hka1 : cC ka1) (OX : OkX g ka1 X cX9_does 4 none RX9 1 0 (xQv g r C') r C') (x2 : Int32) (x3 : Int32) (C : Mem) (h : fc_Op12_does ka1 x2 x3 C = some (r, C')) : V X 4 0 (WdC g C) 0 [(0, .ref (gCo g 11)), (1, .ref (gCa g ka1)), (2, .int x2), (3, .int x3)] [] := by
  have O := OX.1
  unfold fc_Op12_does at h
  refine v_aload_n O.1 dX9_does_0 rfl (q := 1) rfl ?_
  refine v_aload_n O.1 dX9_does_1 rfl (q := 2) rfl ?_
  refine c_getC O hka1 29 (v := .int (C ka1 29)) (by decide) (O.lkn q880) rfl (fun _ => rfl) dX9_does_2 (q := 5) rfl ?_
  refine v_iconst O.1 dX9_does_5 (v := 1) rfl (q := 6) rfl ?_
  refine v_icmp_ne O.1 dX9_does_6 (t := 17) (by decide) (q := 9) rfl (fun c1 => ?_) (fun c1 => ?_)
  · rw [if_neg c1] at h
    refine v_aload_n O.1 dX9_does_17 rfl (q := 18) rfl ?_
    refine c_getC O hka1 31 (v := .int (C ka1 31)) (by decide) (O.lkn q887) rfl (fun _ => rfl) dX9_does_18 (q := 21) rfl ?_
    exact v_sub [] rfl (bc_Op12_does_21 hka1 OX (C ka1 31) C h)
  · rw [if_pos c1] at h
    refine v_iload_n O.1 dX9_does_9 rfl (q := 10) rfl ?_
    refine v_iload_n O.1 dX9_does_10 rfl (q := 11) rfl ?_
    obtain ⟨r2, C2, e2, h⟩ := bnd_some h
    refine c_callSTi (x := ⟨"RankEntry$Op$12", "target", "(II)I"⟩) (owner := "RankEntry$Op") (As := [.int x2, .int x3]) (rest := [.ref (gCa g ka1)]) (n := 2) O (metc_Op_target _ g x2 x3 C C2 r2 e2) q448 q449 q443 q62 q444 (by decide +kernel) (by decide) (by decide) rfl rfl (Nat.le_of_ble_eq_true rfl) dX9_does_11 (q := 14) rfl (b' := 0) rfl ?_
    refine v_goto O.1 dX9_does_14 (t := 21) (by decide) ?_
    exact v_sub [] rfl (bc_Op12_does_21 hka1 OX r2 C2 h)
theorem metc_Op12_does (l : Launch) (g : gC) (ka1 : Nat) (hka1 : cC ka1) (x2 : Int32) (x3 : Int32) (C C' : Mem) (r : (Unit ⊕ Int32)) (h : fc_Op12_does ka1 x2 x3 C = some (r, C')) : MetX l g ka1 yX9_does cX9_does 4 none 1 0 [.ref (gCo g 11), .ref (gCa g ka1), .int x2, .int x3] C (xQv g r C') r C' :=
  x_met (by decide) rfl (Nat.le_of_ble_eq_true rfl) (fun X OX => bc_Op12_does hka1 OX x2 x3 C h)
/-! RankEntry$Op$13.does(LRankEntry$Core;II)V -/
def fc_Op13_does_21 (ka1 : Nat) (y1 : Int32) (C : Mem) : Option ((Unit ⊕ Int32) × Mem) :=
  stp (up2 C ka1 31 y1) fun C1 =>
  some (Sum.inl (), C1)
set_option maxHeartbeats 4000000 in
theorem bc_Op13_does_21 {g : gC} {X : Cxt} {r : (Unit ⊕ Int32)} {C' : Mem} {ka1 : Nat} (hka1 : cC ka1) (OX : OkX g ka1 X cX10_does 4 none RX10 1 0 (xQv g r C') r C') (y1 : Int32) (C : Mem) (h : fc_Op13_does_21 ka1 y1 C = some (r, C')) : V X 4 0 (WdC g C) 21 [] [.int y1, .ref (gCa g ka1)] := by
  have O := OX.1
  unfold fc_Op13_does_21 at h
  obtain ⟨C1, e1, h⟩ := stp_some h
  refine c_putC O hka1 31 (u := y1) (ty := .int) (by decide) (by decide) (O.lkn q888) rfl rfl rfl rfl rfl (fun _ => rfl) dX10_does_21 (q := 24) rfl e1 ?_
  exact x_vret OX h dX10_does_24
def fc_Op13_does (ka1 : Nat) (x2 : Int32) (x3 : Int32) (C : Mem) : Option ((Unit ⊕ Int32) × Mem) :=
  if (C ka1 30) = 1 then
    bnd (fc_Op_target x2 x3 C) fun r2 C2 =>
    fc_Op13_does_21 ka1 r2 C2
  else
    fc_Op13_does_21 ka1 (C ka1 31) C
set_option maxHeartbeats 4000000 in
theorem bc_Op13_does {g : gC} {X : Cxt} {r : (Unit ⊕ Int32)} {C' : Mem} {ka1 : Nat} (hka1 : cC ka1) (OX : OkX g ka1 X cX10_does 4 none RX10 1 0 (xQv g r C') r C') (x2 : Int32) (x3 : Int32) (C : Mem) (h : fc_Op13_does ka1 x2 x3 C = some (r, C')) : V X 4 0 (WdC g C) 0 [(0, .ref (gCo g 12)), (1, .ref (gCa g ka1)), (2, .int x2), (3, .int x3)] [] := by
  have O := OX.1
  unfold fc_Op13_does at h
  refine v_aload_n O.1 dX10_does_0 rfl (q := 1) rfl ?_
  refine v_aload_n O.1 dX10_does_1 rfl (q := 2) rfl ?_
  refine c_getC O hka1 30 (v := .int (C ka1 30)) (by decide) (O.lkn q883) rfl (fun _ => rfl) dX10_does_2 (q := 5) rfl ?_
  refine v_iconst O.1 dX10_does_5 (v := 1) rfl (q := 6) rfl ?_
  refine v_icmp_ne O.1 dX10_does_6 (t := 17) (by decide) (q := 9) rfl (fun c1 => ?_) (fun c1 => ?_)
  · rw [if_neg c1] at h
    refine v_aload_n O.1 dX10_does_17 rfl (q := 18) rfl ?_
    refine c_getC O hka1 31 (v := .int (C ka1 31)) (by decide) (O.lkn q888) rfl (fun _ => rfl) dX10_does_18 (q := 21) rfl ?_
    exact v_sub [] rfl (bc_Op13_does_21 hka1 OX (C ka1 31) C h)
  · rw [if_pos c1] at h
    refine v_iload_n O.1 dX10_does_9 rfl (q := 10) rfl ?_
    refine v_iload_n O.1 dX10_does_10 rfl (q := 11) rfl ?_
    obtain ⟨r2, C2, e2, h⟩ := bnd_some h
    refine c_callSTi (x := ⟨"RankEntry$Op$13", "target", "(II)I"⟩) (owner := "RankEntry$Op") (As := [.int x2, .int x3]) (rest := [.ref (gCa g ka1)]) (n := 2) O (metc_Op_target _ g x2 x3 C C2 r2 e2) q453 q454 q443 q62 q444 (by decide +kernel) (by decide) (by decide) rfl rfl (Nat.le_of_ble_eq_true rfl) dX10_does_11 (q := 14) rfl (b' := 0) rfl ?_
    refine v_goto O.1 dX10_does_14 (t := 21) (by decide) ?_
    exact v_sub [] rfl (bc_Op13_does_21 hka1 OX r2 C2 h)
theorem metc_Op13_does (l : Launch) (g : gC) (ka1 : Nat) (hka1 : cC ka1) (x2 : Int32) (x3 : Int32) (C C' : Mem) (r : (Unit ⊕ Int32)) (h : fc_Op13_does ka1 x2 x3 C = some (r, C')) : MetX l g ka1 yX10_does cX10_does 4 none 1 0 [.ref (gCo g 12), .ref (gCa g ka1), .int x2, .int x3] C (xQv g r C') r C' :=
  x_met (by decide) rfl (Nat.le_of_ble_eq_true rfl) (fun X OX => bc_Op13_does hka1 OX x2 x3 C h)
/-! RankEntry$Op$14.does(LRankEntry$Core;II)V -/
def fc_Op14_does (ka1 : Nat) (x2 : Int32) (x3 : Int32) (C : Mem) : Option ((Unit ⊕ Int32) × Mem) :=
  bnd (fc_Core_becomes ka1 (x2 - x2 / 18 * 18) C) fun r1 C1 =>
  some (Sum.inl (), C1)
set_option maxHeartbeats 4000000 in
theorem bc_Op14_does {g : gC} {X : Cxt} {r : (Unit ⊕ Int32)} {C' : Mem} {ka1 : Nat} (hka1 : cC ka1) (OX : OkX g ka1 X cX23_does 4 none RX23 2 0 (xQv g r C') r C') (x2 : Int32) (x3 : Int32) (C : Mem) (h : fc_Op14_does ka1 x2 x3 C = some (r, C')) : V X 4 0 (WdC g C) 0 [(0, .ref (gCo g 13)), (1, .ref (gCa g ka1)), (2, .int x2), (3, .int x3)] [] := by
  have O := OX.1
  unfold fc_Op14_does at h
  refine v_aload_n O.1 dX23_does_0 rfl (q := 1) rfl ?_
  refine v_iload_n O.1 dX23_does_1 rfl (q := 2) rfl ?_
  refine v_bipush O.1 dX23_does_2 (v := 18) (by decide) (q := 4) rfl ?_
  refine v_irem O.1 dX23_does_4 (by decide) (q := 5) rfl ?_
  obtain ⟨r1, C1, e1, h⟩ := bnd_some h
  refine c_callVi (As := [.int (x2 - x2 / 18 * 18)]) (rest := []) (n := 1) (ci := 2) (p := (RX4, TX4, 55)) O (cC_lt (j := 0) hka1 (by decide)) rfl (fun _ _ => ⟨_, cCell_core hka1⟩) (metc_Core_becomes _ g ka1 hka1 (x2 - x2 / 18 * 18) C C1 r1 e1) (lw_V q458 q288 q289 q63 q290) (by decide +kernel) (by decide) (by decide) rfl rfl (Nat.le_of_ble_eq_true rfl) dX23_does_5 (q := 8) rfl (b' := 0) rfl ?_
  refine v_pop O.1 dX23_does_8 rfl (q := 9) rfl ?_
  exact x_vret OX h dX23_does_9
theorem metc_Op14_does (l : Launch) (g : gC) (ka1 : Nat) (hka1 : cC ka1) (x2 : Int32) (x3 : Int32) (C C' : Mem) (r : (Unit ⊕ Int32)) (h : fc_Op14_does ka1 x2 x3 C = some (r, C')) : MetX l g ka1 yX23_does cX23_does 4 none 2 0 [.ref (gCo g 13), .ref (gCa g ka1), .int x2, .int x3] C (xQv g r C') r C' :=
  x_met (by decide) rfl (Nat.le_of_ble_eq_true rfl) (fun X OX => bc_Op14_does hka1 OX x2 x3 C h)
/-! RankEntry$Op$15.does(LRankEntry$Core;II)V -/
def fc_Op15_does (ka1 : Nat) (x2 : Int32) (x3 : Int32) (C : Mem) : Option ((Unit ⊕ Int32) × Mem) :=
  gd (inb (x2 - x2 / 18 * 18) 21) <|
  bnd (fv_drops (ka1 + 22 + (x2 - x2 / 18 * 18).toNatClampNeg) C) fun r2 C2 =>
  some (Sum.inl (), C2)
set_option maxHeartbeats 4000000 in
theorem bc_Op15_does {g : gC} {X : Cxt} {r : (Unit ⊕ Int32)} {C' : Mem} {ka1 : Nat} (hka1 : cC ka1) (OX : OkX g ka1 X cX24_does 4 none RX24 2 0 (xQv g r C') r C') (x2 : Int32) (x3 : Int32) (C : Mem) (h : fc_Op15_does ka1 x2 x3 C = some (r, C')) : V X 4 0 (WdC g C) 0 [(0, .ref (gCo g 14)), (1, .ref (gCa g ka1)), (2, .int x2), (3, .int x3)] [] := by
  have O := OX.1
  unfold fc_Op15_does at h
  refine v_aload_n O.1 dX24_does_0 rfl (q := 1) rfl ?_
  refine c_getC O hka1 7 (v := .ref (gCa g (ka1 + 5))) (by decide) (O.lkn q849) rfl (fun _ => rfl) dX24_does_1 (q := 4) rfl ?_
  refine v_iload_n O.1 dX24_does_4 rfl (q := 5) rfl ?_
  refine v_bipush O.1 dX24_does_5 (v := 18) (by decide) (q := 7) rfl ?_
  refine v_irem O.1 dX24_does_7 (by decide) (q := 8) rfl ?_
  obtain ⟨g1, h⟩ := gd_some h
  refine c_all O hka1 g1 rfl (j := (x2 - x2 / 18 * 18).toNatClampNeg) dX24_does_8 (q := 9) rfl ?_
  obtain ⟨r2, C2, e2, h⟩ := bnd_some h
  refine c_v_drops (rest := []) O (cS_of hka1 (inb_lt g1)) e2 q462 (by decide) rfl (Nat.le_of_ble_eq_true rfl) dX24_does_9 (q := 12) rfl ?_
  refine v_pop O.1 dX24_does_12 rfl (q := 13) rfl ?_
  exact x_vret OX h dX24_does_13
theorem metc_Op15_does (l : Launch) (g : gC) (ka1 : Nat) (hka1 : cC ka1) (x2 : Int32) (x3 : Int32) (C C' : Mem) (r : (Unit ⊕ Int32)) (h : fc_Op15_does ka1 x2 x3 C = some (r, C')) : MetX l g ka1 yX24_does cX24_does 4 none 2 0 [.ref (gCo g 14), .ref (gCa g ka1), .int x2, .int x3] C (xQv g r C') r C' :=
  x_met (by decide) rfl (Nat.le_of_ble_eq_true rfl) (fun X OX => bc_Op15_does hka1 OX x2 x3 C h)
/-! RankEntry$Op$16.does(LRankEntry$Core;II)V -/
def fc_Op16_does (ka1 : Nat) (x2 : Int32) (x3 : Int32) (C : Mem) : Option ((Unit ⊕ Int32) × Mem) :=
  stp (up2 C ka1 36 (x2 &&& 1)) fun C1 =>
  some (Sum.inl (), C1)
set_option maxHeartbeats 4000000 in
theorem bc_Op16_does {g : gC} {X : Cxt} {r : (Unit ⊕ Int32)} {C' : Mem} {ka1 : Nat} (hka1 : cC ka1) (OX : OkX g ka1 X cX25_does 4 none RX25 0 0 (xQv g r C') r C') (x2 : Int32) (x3 : Int32) (C : Mem) (h : fc_Op16_does ka1 x2 x3 C = some (r, C')) : V X 4 0 (WdC g C) 0 [(0, .ref (gCo g 15)), (1, .ref (gCa g ka1)), (2, .int x2), (3, .int x3)] [] := by
  have O := OX.1
  unfold fc_Op16_does at h
  refine v_aload_n O.1 dX25_does_0 rfl (q := 1) rfl ?_
  refine v_iload_n O.1 dX25_does_1 rfl (q := 2) rfl ?_
  refine v_iconst O.1 dX25_does_2 (v := 1) rfl (q := 3) rfl ?_
  refine v_iand O.1 dX25_does_3 (q := 4) rfl ?_
  obtain ⟨C1, e1, h⟩ := stp_some h
  refine c_putC O hka1 36 (u := (x2 &&& 1)) (ty := .int) (by decide) (by decide) (O.lkn q902) rfl rfl rfl rfl rfl (fun _ => rfl) dX25_does_4 (q := 7) rfl e1 ?_
  exact x_vret OX h dX25_does_7
theorem metc_Op16_does (l : Launch) (g : gC) (ka1 : Nat) (hka1 : cC ka1) (x2 : Int32) (x3 : Int32) (C C' : Mem) (r : (Unit ⊕ Int32)) (h : fc_Op16_does ka1 x2 x3 C = some (r, C')) : MetX l g ka1 yX25_does cX25_does 4 none 0 0 [.ref (gCo g 15), .ref (gCa g ka1), .int x2, .int x3] C (xQv g r C') r C' :=
  x_met (by decide) rfl (Nat.le_of_ble_eq_true rfl) (fun X OX => bc_Op16_does hka1 OX x2 x3 C h)
/-! RankEntry$Op$17.does(LRankEntry$Core;II)V -/
def fc_Op17_does (ka1 : Nat) (x2 : Int32) (x3 : Int32) (C : Mem) : Option ((Unit ⊕ Int32) × Mem) :=
  stp (up2 C ka1 35 x2) fun C1 =>
  some (Sum.inl (), C1)
set_option maxHeartbeats 4000000 in
theorem bc_Op17_does {g : gC} {X : Cxt} {r : (Unit ⊕ Int32)} {C' : Mem} {ka1 : Nat} (hka1 : cC ka1) (OX : OkX g ka1 X cX26_does 4 none RX26 0 0 (xQv g r C') r C') (x2 : Int32) (x3 : Int32) (C : Mem) (h : fc_Op17_does ka1 x2 x3 C = some (r, C')) : V X 4 0 (WdC g C) 0 [(0, .ref (gCo g 16)), (1, .ref (gCa g ka1)), (2, .int x2), (3, .int x3)] [] := by
  have O := OX.1
  unfold fc_Op17_does at h
  refine v_aload_n O.1 dX26_does_0 rfl (q := 1) rfl ?_
  refine v_iload_n O.1 dX26_does_1 rfl (q := 2) rfl ?_
  obtain ⟨C1, e1, h⟩ := stp_some h
  refine c_putC O hka1 35 (u := x2) (ty := .int) (by decide) (by decide) (O.lkn q899) rfl rfl rfl rfl rfl (fun _ => rfl) dX26_does_2 (q := 5) rfl e1 ?_
  exact x_vret OX h dX26_does_5
theorem metc_Op17_does (l : Launch) (g : gC) (ka1 : Nat) (hka1 : cC ka1) (x2 : Int32) (x3 : Int32) (C C' : Mem) (r : (Unit ⊕ Int32)) (h : fc_Op17_does ka1 x2 x3 C = some (r, C')) : MetX l g ka1 yX26_does cX26_does 4 none 0 0 [.ref (gCo g 16), .ref (gCa g ka1), .int x2, .int x3] C (xQv g r C') r C' :=
  x_met (by decide) rfl (Nat.le_of_ble_eq_true rfl) (fun X OX => bc_Op17_does hka1 OX x2 x3 C h)
/-! RankEntry$Op$18.does(LRankEntry$Core;II)V -/
def fc_Op18_does (ka1 : Nat) (x2 : Int32) (x3 : Int32) (C : Mem) : Option ((Unit ⊕ Int32) × Mem) :=
  bndx (fc_Core_ends ka1 C) fun r1 C1 =>
  some (Sum.inl (), C1)
set_option maxHeartbeats 4000000 in
theorem bc_Op18_does {g : gC} {X : Cxt} {r : (Unit ⊕ Int32)} {C' : Mem} {ka1 : Nat} (hka1 : cC ka1) (OX : OkX g ka1 X cX27_does 4 none RX27 7 1 (xQv g r C') r C') (x2 : Int32) (x3 : Int32) (C : Mem) (h : fc_Op18_does ka1 x2 x3 C = some (r, C')) : V X 4 1 (WdC g C) 0 [(0, .ref (gCo g 17)), (1, .ref (gCa g ka1)), (2, .int x2), (3, .int x3)] [] := by
  have O := OX.1
  unfold fc_Op18_does at h
  refine v_aload_n O.1 dX27_does_0 rfl (q := 1) rfl ?_
  rcases bndx_some h with ⟨r1, C1, e1, h⟩ | ⟨r1, C1, e1, h⟩
  case inr => exact x_callVtv (As := []) (rest := []) (n := 0) (ci := 2) (p := (RX4, TX4, 55)) OX hka1 (cC_lt (j := 0) hka1 (by decide)) rfl (fun _ _ => ⟨_, cCell_core hka1⟩) (metc_Core_ends _ g ka1 hka1 C C1 _ e1) (lw_V q486 q487 q488 q63 q489) (by decide +kernel) (by decide) (by decide) rfl rfl (Nat.le_of_ble_eq_true rfl) dX27_does_1 (by decide) h
  refine x_callVv (As := []) (rest := []) (n := 0) (ci := 2) (p := (RX4, TX4, 55)) O (cC_lt (j := 0) hka1 (by decide)) rfl (fun _ _ => ⟨_, cCell_core hka1⟩) (metc_Core_ends _ g ka1 hka1 C C1 _ e1) (lw_V q486 q487 q488 q63 q489) (by decide +kernel) (by decide) (by decide) rfl rfl (Nat.le_of_ble_eq_true rfl) dX27_does_1 (q := 4) rfl (b' := 0) rfl ?_
  exact x_vret OX h dX27_does_4
theorem metc_Op18_does (l : Launch) (g : gC) (ka1 : Nat) (hka1 : cC ka1) (x2 : Int32) (x3 : Int32) (C C' : Mem) (r : (Unit ⊕ Int32)) (h : fc_Op18_does ka1 x2 x3 C = some (r, C')) : MetX l g ka1 yX27_does cX27_does 4 none 7 1 [.ref (gCo g 17), .ref (gCa g ka1), .int x2, .int x3] C (xQv g r C') r C' :=
  x_met (by decide) rfl (Nat.le_of_ble_eq_true rfl) (fun X OX => bc_Op18_does hka1 OX x2 x3 C h)
/-! RankEntry$Op$19.does(LRankEntry$Core;II)V -/
def fc_Op19_does (ka1 : Nat) (x2 : Int32) (x3 : Int32) (C : Mem) : Option ((Unit ⊕ Int32) × Mem) :=
  stp (up2 C ka1 44 1) fun C1 =>
  some (Sum.inl (), C1)
set_option maxHeartbeats 4000000 in
theorem bc_Op19_does {g : gC} {X : Cxt} {r : (Unit ⊕ Int32)} {C' : Mem} {ka1 : Nat} (hka1 : cC ka1) (OX : OkX g ka1 X cX28_does 4 none RX28 0 0 (xQv g r C') r C') (x2 : Int32) (x3 : Int32) (C : Mem) (h : fc_Op19_does ka1 x2 x3 C = some (r, C')) : V X 4 0 (WdC g C) 0 [(0, .ref (gCo g 18)), (1, .ref (gCa g ka1)), (2, .int x2), (3, .int x3)] [] := by
  have O := OX.1
  unfold fc_Op19_does at h
  refine v_aload_n O.1 dX28_does_0 rfl (q := 1) rfl ?_
  refine v_iconst O.1 dX28_does_1 (v := 1) rfl (q := 2) rfl ?_
  obtain ⟨C1, e1, h⟩ := stp_some h
  refine c_putC O hka1 44 (u := 1) (ty := .boolean) (by decide) (by decide) (O.lkn q919) rfl rfl rfl rfl rfl (fun _ => rfl) dX28_does_2 (q := 5) rfl e1 ?_
  exact x_vret OX h dX28_does_5
theorem metc_Op19_does (l : Launch) (g : gC) (ka1 : Nat) (hka1 : cC ka1) (x2 : Int32) (x3 : Int32) (C C' : Mem) (r : (Unit ⊕ Int32)) (h : fc_Op19_does ka1 x2 x3 C = some (r, C')) : MetX l g ka1 yX28_does cX28_does 4 none 0 0 [.ref (gCo g 18), .ref (gCa g ka1), .int x2, .int x3] C (xQv g r C') r C' :=
  x_met (by decide) rfl (Nat.le_of_ble_eq_true rfl) (fun X OX => bc_Op19_does hka1 OX x2 x3 C h)
/-! RankEntry$Op$20.does(LRankEntry$Core;II)V -/
def fc_Op20_does (ka1 : Nat) (x2 : Int32) (x3 : Int32) (C : Mem) : Option ((Unit ⊕ Int32) × Mem) :=
  gd (n32 (FP.fdiv (FP.i2f x3) (1098907648 : UInt32))) <|
  bnd (fc_Core_setsFloat ka1 x2 (FP.fdiv (FP.i2f x3) (1098907648 : UInt32)) C) fun r2 C2 =>
  some (Sum.inl (), C2)
set_option maxHeartbeats 4000000 in
theorem bc_Op20_does {g : gC} {X : Cxt} {r : (Unit ⊕ Int32)} {C' : Mem} {ka1 : Nat} (hka1 : cC ka1) (OX : OkX g ka1 X cX30_does 4 none RX30 1 0 (xQv g r C') r C') (x2 : Int32) (x3 : Int32) (C : Mem) (h : fc_Op20_does ka1 x2 x3 C = some (r, C')) : V X 4 0 (WdC g C) 0 [(0, .ref (gCo g 19)), (1, .ref (gCa g ka1)), (2, .int x2), (3, .int x3)] [] := by
  have O := OX.1
  unfold fc_Op20_does at h
  refine v_aload_n O.1 dX30_does_0 rfl (q := 1) rfl ?_
  refine v_iload_n O.1 dX30_does_1 rfl (q := 2) rfl ?_
  refine v_iload_n O.1 dX30_does_2 rfl (q := 3) rfl ?_
  refine v_i2f O.1 dX30_does_3 (q := 4) rfl ?_
  refine v_ldcf O.1 dX30_does_4 q541 (q := 6) rfl ?_
  obtain ⟨g1, h⟩ := gd_some h
  refine v_fdiv O.1 dX30_does_6 (n32_n g1) (q := 7) rfl ?_
  obtain ⟨r2, C2, e2, h⟩ := bnd_some h
  refine c_callVv (As := [.int x2, .float (FP.fdiv (FP.i2f x3) (1098907648 : UInt32))]) (rest := []) (n := 2) (ci := 2) (p := (RX4, TX4, 55)) O (cC_lt (j := 0) hka1 (by decide)) rfl (fun _ _ => ⟨_, cCell_core hka1⟩) (metc_Core_setsFloat _ g ka1 hka1 x2 (FP.fdiv (FP.i2f x3) (1098907648 : UInt32)) C C2 r2 e2) (lw_V q542 q543 q544 q63 q545) (by decide +kernel) (by decide) (by decide) rfl rfl (Nat.le_of_ble_eq_true rfl) dX30_does_7 (q := 10) rfl (b' := 0) rfl ?_
  exact x_vret OX h dX30_does_10
theorem metc_Op20_does (l : Launch) (g : gC) (ka1 : Nat) (hka1 : cC ka1) (x2 : Int32) (x3 : Int32) (C C' : Mem) (r : (Unit ⊕ Int32)) (h : fc_Op20_does ka1 x2 x3 C = some (r, C')) : MetX l g ka1 yX30_does cX30_does 4 none 1 0 [.ref (gCo g 19), .ref (gCa g ka1), .int x2, .int x3] C (xQv g r C') r C' :=
  x_met (by decide) rfl (Nat.le_of_ble_eq_true rfl) (fun X OX => bc_Op20_does hka1 OX x2 x3 C h)
/-! RankEntry$Op$21.does(LRankEntry$Core;II)V -/
def fc_Op21_does (ka1 : Nat) (x2 : Int32) (x3 : Int32) (C : Mem) : Option ((Unit ⊕ Int32) × Mem) :=
  gd (inb (x2 &&& 3) 4) <|
  gd (inb (x3 &&& 3) 4) <|
  gd (n32 (FP.fadd ((C (ka1 + 2) (x2 &&& 3).toNatClampNeg).toUInt32) ((C (ka1 + 2) (x3 &&& 3).toNatClampNeg).toUInt32))) <|
  bndx (fc_Core_comesFloat ka1 x2 (FP.fadd ((C (ka1 + 2) (x2 &&& 3).toNatClampNeg).toUInt32) ((C (ka1 + 2) (x3 &&& 3).toNatClampNeg).toUInt32)) C) fun r4 C4 =>
  some (Sum.inl (), C4)
set_option maxHeartbeats 4000000 in
theorem bc_Op21_does {g : gC} {X : Cxt} {r : (Unit ⊕ Int32)} {C' : Mem} {ka1 : Nat} (hka1 : cC ka1) (OX : OkX g ka1 X cX31_does 4 none RX31 2 0 (xQv g r C') r C') (x2 : Int32) (x3 : Int32) (C : Mem) (h : fc_Op21_does ka1 x2 x3 C = some (r, C')) : V X 4 0 (WdC g C) 0 [(0, .ref (gCo g 20)), (1, .ref (gCa g ka1)), (2, .int x2), (3, .int x3)] [] := by
  have O := OX.1
  unfold fc_Op21_does at h
  refine v_aload_n O.1 dX31_does_0 rfl (q := 1) rfl ?_
  refine v_iload_n O.1 dX31_does_1 rfl (q := 2) rfl ?_
  refine v_aload_n O.1 dX31_does_2 rfl (q := 3) rfl ?_
  refine c_getC O hka1 4 (v := .ref (gCa g (ka1 + 2))) (by decide) (O.lkn q836) rfl (fun _ => rfl) dX31_does_3 (q := 6) rfl ?_
  refine v_iload_n O.1 dX31_does_6 rfl (q := 7) rfl ?_
  refine v_iconst O.1 dX31_does_7 (v := 3) rfl (q := 8) rfl ?_
  refine v_iand O.1 dX31_does_8 (q := 9) rfl ?_
  obtain ⟨g1, h⟩ := gd_some h
  refine c_fald O hka1 g1 rfl (j := (x2 &&& 3).toNatClampNeg) dX31_does_9 (q := 10) rfl ?_
  refine v_aload_n O.1 dX31_does_10 rfl (q := 11) rfl ?_
  refine c_getC O hka1 4 (v := .ref (gCa g (ka1 + 2))) (by decide) (O.lkn q836) rfl (fun _ => rfl) dX31_does_11 (q := 14) rfl ?_
  refine v_iload_n O.1 dX31_does_14 rfl (q := 15) rfl ?_
  refine v_iconst O.1 dX31_does_15 (v := 3) rfl (q := 16) rfl ?_
  refine v_iand O.1 dX31_does_16 (q := 17) rfl ?_
  obtain ⟨g2, h⟩ := gd_some h
  refine c_fald O hka1 g2 rfl (j := (x3 &&& 3).toNatClampNeg) dX31_does_17 (q := 18) rfl ?_
  obtain ⟨g3, h⟩ := gd_some h
  refine v_fadd O.1 dX31_does_18 (n32_n g3) (q := 19) rfl ?_
  rcases bndx_some h with ⟨r4, C4, e4, h⟩ | ⟨r4, C4, e4, h⟩
  case inr => exact x_callVtv (As := [.int x2, .float (FP.fadd ((C (ka1 + 2) (x2 &&& 3).toNatClampNeg).toUInt32) ((C (ka1 + 2) (x3 &&& 3).toNatClampNeg).toUInt32))]) (rest := []) (n := 2) (ci := 2) (p := (RX4, TX4, 55)) OX hka1 (cC_lt (j := 0) hka1 (by decide)) rfl (fun _ _ => ⟨_, cCell_core hka1⟩) (metc_Core_comesFloat _ g ka1 hka1 x2 (FP.fadd ((C (ka1 + 2) (x2 &&& 3).toNatClampNeg).toUInt32) ((C (ka1 + 2) (x3 &&& 3).toNatClampNeg).toUInt32)) C C4 _ e4) (lw_V q549 q550 q551 q63 q552) (by decide +kernel) (by decide) (by decide) rfl rfl (Nat.le_of_ble_eq_true rfl) dX31_does_19 (by decide) h
  refine x_callVv (As := [.int x2, .float (FP.fadd ((C (ka1 + 2) (x2 &&& 3).toNatClampNeg).toUInt32) ((C (ka1 + 2) (x3 &&& 3).toNatClampNeg).toUInt32))]) (rest := []) (n := 2) (ci := 2) (p := (RX4, TX4, 55)) O (cC_lt (j := 0) hka1 (by decide)) rfl (fun _ _ => ⟨_, cCell_core hka1⟩) (metc_Core_comesFloat _ g ka1 hka1 x2 (FP.fadd ((C (ka1 + 2) (x2 &&& 3).toNatClampNeg).toUInt32) ((C (ka1 + 2) (x3 &&& 3).toNatClampNeg).toUInt32)) C C4 _ e4) (lw_V q549 q550 q551 q63 q552) (by decide +kernel) (by decide) (by decide) rfl rfl (Nat.le_of_ble_eq_true rfl) dX31_does_19 (q := 22) rfl (b' := 0) rfl ?_
  exact x_vret OX h dX31_does_22
theorem metc_Op21_does (l : Launch) (g : gC) (ka1 : Nat) (hka1 : cC ka1) (x2 : Int32) (x3 : Int32) (C C' : Mem) (r : (Unit ⊕ Int32)) (h : fc_Op21_does ka1 x2 x3 C = some (r, C')) : MetX l g ka1 yX31_does cX31_does 4 none 2 0 [.ref (gCo g 20), .ref (gCa g ka1), .int x2, .int x3] C (xQv g r C') r C' :=
  x_met (by decide) rfl (Nat.le_of_ble_eq_true rfl) (fun X OX => bc_Op21_does hka1 OX x2 x3 C h)
/-! RankEntry$Op$22.does(LRankEntry$Core;II)V -/
def fc_Op22_does (ka1 : Nat) (x2 : Int32) (x3 : Int32) (C : Mem) : Option ((Unit ⊕ Int32) × Mem) :=
  gd (inb (x2 &&& 3) 4) <|
  gd (inb (x3 &&& 3) 4) <|
  gd (n32 (FP.fmul ((C (ka1 + 2) (x2 &&& 3).toNatClampNeg).toUInt32) ((C (ka1 + 2) (x3 &&& 3).toNatClampNeg).toUInt32))) <|
  bndx (fc_Core_comesFloat ka1 x2 (FP.fmul ((C (ka1 + 2) (x2 &&& 3).toNatClampNeg).toUInt32) ((C (ka1 + 2) (x3 &&& 3).toNatClampNeg).toUInt32)) C) fun r4 C4 =>
  some (Sum.inl (), C4)
set_option maxHeartbeats 4000000 in
theorem bc_Op22_does {g : gC} {X : Cxt} {r : (Unit ⊕ Int32)} {C' : Mem} {ka1 : Nat} (hka1 : cC ka1) (OX : OkX g ka1 X cX32_does 4 none RX32 2 0 (xQv g r C') r C') (x2 : Int32) (x3 : Int32) (C : Mem) (h : fc_Op22_does ka1 x2 x3 C = some (r, C')) : V X 4 0 (WdC g C) 0 [(0, .ref (gCo g 21)), (1, .ref (gCa g ka1)), (2, .int x2), (3, .int x3)] [] := by
  have O := OX.1
  unfold fc_Op22_does at h
  refine v_aload_n O.1 dX32_does_0 rfl (q := 1) rfl ?_
  refine v_iload_n O.1 dX32_does_1 rfl (q := 2) rfl ?_
  refine v_aload_n O.1 dX32_does_2 rfl (q := 3) rfl ?_
  refine c_getC O hka1 4 (v := .ref (gCa g (ka1 + 2))) (by decide) (O.lkn q837) rfl (fun _ => rfl) dX32_does_3 (q := 6) rfl ?_
  refine v_iload_n O.1 dX32_does_6 rfl (q := 7) rfl ?_
  refine v_iconst O.1 dX32_does_7 (v := 3) rfl (q := 8) rfl ?_
  refine v_iand O.1 dX32_does_8 (q := 9) rfl ?_
  obtain ⟨g1, h⟩ := gd_some h
  refine c_fald O hka1 g1 rfl (j := (x2 &&& 3).toNatClampNeg) dX32_does_9 (q := 10) rfl ?_
  refine v_aload_n O.1 dX32_does_10 rfl (q := 11) rfl ?_
  refine c_getC O hka1 4 (v := .ref (gCa g (ka1 + 2))) (by decide) (O.lkn q837) rfl (fun _ => rfl) dX32_does_11 (q := 14) rfl ?_
  refine v_iload_n O.1 dX32_does_14 rfl (q := 15) rfl ?_
  refine v_iconst O.1 dX32_does_15 (v := 3) rfl (q := 16) rfl ?_
  refine v_iand O.1 dX32_does_16 (q := 17) rfl ?_
  obtain ⟨g2, h⟩ := gd_some h
  refine c_fald O hka1 g2 rfl (j := (x3 &&& 3).toNatClampNeg) dX32_does_17 (q := 18) rfl ?_
  obtain ⟨g3, h⟩ := gd_some h
  refine v_fmul O.1 dX32_does_18 (n32_n g3) (q := 19) rfl ?_
  rcases bndx_some h with ⟨r4, C4, e4, h⟩ | ⟨r4, C4, e4, h⟩
  case inr => exact x_callVtv (As := [.int x2, .float (FP.fmul ((C (ka1 + 2) (x2 &&& 3).toNatClampNeg).toUInt32) ((C (ka1 + 2) (x3 &&& 3).toNatClampNeg).toUInt32))]) (rest := []) (n := 2) (ci := 2) (p := (RX4, TX4, 55)) OX hka1 (cC_lt (j := 0) hka1 (by decide)) rfl (fun _ _ => ⟨_, cCell_core hka1⟩) (metc_Core_comesFloat _ g ka1 hka1 x2 (FP.fmul ((C (ka1 + 2) (x2 &&& 3).toNatClampNeg).toUInt32) ((C (ka1 + 2) (x3 &&& 3).toNatClampNeg).toUInt32)) C C4 _ e4) (lw_V q559 q550 q551 q63 q552) (by decide +kernel) (by decide) (by decide) rfl rfl (Nat.le_of_ble_eq_true rfl) dX32_does_19 (by decide) h
  refine x_callVv (As := [.int x2, .float (FP.fmul ((C (ka1 + 2) (x2 &&& 3).toNatClampNeg).toUInt32) ((C (ka1 + 2) (x3 &&& 3).toNatClampNeg).toUInt32))]) (rest := []) (n := 2) (ci := 2) (p := (RX4, TX4, 55)) O (cC_lt (j := 0) hka1 (by decide)) rfl (fun _ _ => ⟨_, cCell_core hka1⟩) (metc_Core_comesFloat _ g ka1 hka1 x2 (FP.fmul ((C (ka1 + 2) (x2 &&& 3).toNatClampNeg).toUInt32) ((C (ka1 + 2) (x3 &&& 3).toNatClampNeg).toUInt32)) C C4 _ e4) (lw_V q559 q550 q551 q63 q552) (by decide +kernel) (by decide) (by decide) rfl rfl (Nat.le_of_ble_eq_true rfl) dX32_does_19 (q := 22) rfl (b' := 0) rfl ?_
  exact x_vret OX h dX32_does_22
theorem metc_Op22_does (l : Launch) (g : gC) (ka1 : Nat) (hka1 : cC ka1) (x2 : Int32) (x3 : Int32) (C C' : Mem) (r : (Unit ⊕ Int32)) (h : fc_Op22_does ka1 x2 x3 C = some (r, C')) : MetX l g ka1 yX32_does cX32_does 4 none 2 0 [.ref (gCo g 21), .ref (gCa g ka1), .int x2, .int x3] C (xQv g r C') r C' :=
  x_met (by decide) rfl (Nat.le_of_ble_eq_true rfl) (fun X OX => bc_Op22_does hka1 OX x2 x3 C h)
/-! RankEntry$Op$23.does(LRankEntry$Core;II)V -/
def fc_Op23_does (ka1 : Nat) (x2 : Int32) (x3 : Int32) (C : Mem) : Option ((Unit ⊕ Int32) × Mem) :=
  gd (inb (x3 &&& 3) 4) <|
  bnd (fc_Core_sets ka1 x2 (FP.f2i ((C (ka1 + 2) (x3 &&& 3).toNatClampNeg).toUInt32)) C) fun r2 C2 =>
  some (Sum.inl (), C2)
set_option maxHeartbeats 4000000 in
theorem bc_Op23_does {g : gC} {X : Cxt} {r : (Unit ⊕ Int32)} {C' : Mem} {ka1 : Nat} (hka1 : cC ka1) (OX : OkX g ka1 X cX33_does 4 none RX33 1 0 (xQv g r C') r C') (x2 : Int32) (x3 : Int32) (C : Mem) (h : fc_Op23_does ka1 x2 x3 C = some (r, C')) : V X 4 0 (WdC g C) 0 [(0, .ref (gCo g 22)), (1, .ref (gCa g ka1)), (2, .int x2), (3, .int x3)] [] := by
  have O := OX.1
  unfold fc_Op23_does at h
  refine v_aload_n O.1 dX33_does_0 rfl (q := 1) rfl ?_
  refine v_iload_n O.1 dX33_does_1 rfl (q := 2) rfl ?_
  refine v_aload_n O.1 dX33_does_2 rfl (q := 3) rfl ?_
  refine c_getC O hka1 4 (v := .ref (gCa g (ka1 + 2))) (by decide) (O.lkn q838) rfl (fun _ => rfl) dX33_does_3 (q := 6) rfl ?_
  refine v_iload_n O.1 dX33_does_6 rfl (q := 7) rfl ?_
  refine v_iconst O.1 dX33_does_7 (v := 3) rfl (q := 8) rfl ?_
  refine v_iand O.1 dX33_does_8 (q := 9) rfl ?_
  obtain ⟨g1, h⟩ := gd_some h
  refine c_fald O hka1 g1 rfl (j := (x3 &&& 3).toNatClampNeg) dX33_does_9 (q := 10) rfl ?_
  refine v_f2i O.1 dX33_does_10 (q := 11) rfl ?_
  obtain ⟨r2, C2, e2, h⟩ := bnd_some h
  refine c_callVv (As := [.int x2, .int (FP.f2i ((C (ka1 + 2) (x3 &&& 3).toNatClampNeg).toUInt32))]) (rest := []) (n := 2) (ci := 2) (p := (RX4, TX4, 55)) O (cC_lt (j := 0) hka1 (by decide)) rfl (fun _ _ => ⟨_, cCell_core hka1⟩) (metc_Core_sets _ g ka1 hka1 x2 (FP.f2i ((C (ka1 + 2) (x3 &&& 3).toNatClampNeg).toUInt32)) C C2 r2 e2) (lw_V q563 q427 q428 q63 q429) (by decide +kernel) (by decide) (by decide) rfl rfl (Nat.le_of_ble_eq_true rfl) dX33_does_11 (q := 14) rfl (b' := 0) rfl ?_
  exact x_vret OX h dX33_does_14
theorem metc_Op23_does (l : Launch) (g : gC) (ka1 : Nat) (hka1 : cC ka1) (x2 : Int32) (x3 : Int32) (C C' : Mem) (r : (Unit ⊕ Int32)) (h : fc_Op23_does ka1 x2 x3 C = some (r, C')) : MetX l g ka1 yX33_does cX33_does 4 none 1 0 [.ref (gCo g 22), .ref (gCa g ka1), .int x2, .int x3] C (xQv g r C') r C' :=
  x_met (by decide) rfl (Nat.le_of_ble_eq_true rfl) (fun X OX => bc_Op23_does hka1 OX x2 x3 C h)
/-! RankEntry$Op$24.does(LRankEntry$Core;II)V -/
def fc_Op24_does (ka1 : Nat) (x2 : Int32) (x3 : Int32) (C : Mem) : Option ((Unit ⊕ Int32) × Mem) :=
  bnd (fc_Core_reg ka1 x3 C) fun r1 C1 =>
  bnd (fc_Core_setsFloat ka1 x2 (FP.i2f r1) C1) fun r2 C2 =>
  some (Sum.inl (), C2)
set_option maxHeartbeats 4000000 in
theorem bc_Op24_does {g : gC} {X : Cxt} {r : (Unit ⊕ Int32)} {C' : Mem} {ka1 : Nat} (hka1 : cC ka1) (OX : OkX g ka1 X cX34_does 4 none RX34 1 0 (xQv g r C') r C') (x2 : Int32) (x3 : Int32) (C : Mem) (h : fc_Op24_does ka1 x2 x3 C = some (r, C')) : V X 4 0 (WdC g C) 0 [(0, .ref (gCo g 23)), (1, .ref (gCa g ka1)), (2, .int x2), (3, .int x3)] [] := by
  have O := OX.1
  unfold fc_Op24_does at h
  refine v_aload_n O.1 dX34_does_0 rfl (q := 1) rfl ?_
  refine v_iload_n O.1 dX34_does_1 rfl (q := 2) rfl ?_
  refine v_aload_n O.1 dX34_does_2 rfl (q := 3) rfl ?_
  refine v_iload_n O.1 dX34_does_3 rfl (q := 4) rfl ?_
  obtain ⟨r1, C1, e1, h⟩ := bnd_some h
  refine c_callVi (As := [.int x3]) (rest := [.int x2, .ref (gCa g ka1)]) (n := 1) (ci := 2) (p := (RX4, TX4, 55)) O (cC_lt (j := 0) hka1 (by decide)) rfl (fun _ _ => ⟨_, cCell_core hka1⟩) (metc_Core_reg _ g ka1 hka1 x3 C C1 r1 e1) (lw_V q567 q530 q531 q63 q532) (by decide +kernel) (by decide) (by decide) rfl rfl (Nat.le_of_ble_eq_true rfl) dX34_does_4 (q := 7) rfl (b' := 0) rfl ?_
  refine v_i2f O.1 dX34_does_7 (q := 8) rfl ?_
  obtain ⟨r2, C2, e2, h⟩ := bnd_some h
  refine c_callVv (As := [.int x2, .float (FP.i2f r1)]) (rest := []) (n := 2) (ci := 2) (p := (RX4, TX4, 55)) O (cC_lt (j := 0) hka1 (by decide)) rfl (fun _ _ => ⟨_, cCell_core hka1⟩) (metc_Core_setsFloat _ g ka1 hka1 x2 (FP.i2f r1) C1 C2 r2 e2) (lw_V q568 q543 q544 q63 q545) (by decide +kernel) (by decide) (by decide) rfl rfl (Nat.le_of_ble_eq_true rfl) dX34_does_8 (q := 11) rfl (b' := 0) rfl ?_
  exact x_vret OX h dX34_does_11
theorem metc_Op24_does (l : Launch) (g : gC) (ka1 : Nat) (hka1 : cC ka1) (x2 : Int32) (x3 : Int32) (C C' : Mem) (r : (Unit ⊕ Int32)) (h : fc_Op24_does ka1 x2 x3 C = some (r, C')) : MetX l g ka1 yX34_does cX34_does 4 none 1 0 [.ref (gCo g 23), .ref (gCa g ka1), .int x2, .int x3] C (xQv g r C') r C' :=
  x_met (by decide) rfl (Nat.le_of_ble_eq_true rfl) (fun X OX => bc_Op24_does hka1 OX x2 x3 C h)
/-! RankEntry$Op$25.does(LRankEntry$Core;II)V -/
def fc_Op25_does (ka1 : Nat) (x2 : Int32) (x3 : Int32) (C : Mem) : Option ((Unit ⊕ Int32) × Mem) :=
  gd (inb (x2 - x2 / 20 * 20) 21) <|
  if (C (ka1 + 22 + (x2 - x2 / 20 * 20).toNatClampNeg) 5) = 0 then
    bnd (fc_Core_reg ka1 x3 C) fun r3 C3 =>
    stp (up2 C3 (ka1 + 22 + (x2 - x2 / 20 * 20).toNatClampNeg) 1 (r3 &&& 255)) fun C4 =>
    some (Sum.inl (), C4)
  else
    some (Sum.inr 18, C)
set_option maxHeartbeats 4000000 in
theorem bc_Op25_does {g : gC} {X : Cxt} {r : (Unit ⊕ Int32)} {C' : Mem} {ka1 : Nat} (hka1 : cC ka1) (OX : OkX g ka1 X cX35_does 5 none RX35 1 0 (xQv g r C') r C') (x2 : Int32) (x3 : Int32) (C : Mem) (h : fc_Op25_does ka1 x2 x3 C = some (r, C')) : V X 5 0 (WdC g C) 0 [(0, .ref (gCo g 24)), (1, .ref (gCa g ka1)), (2, .int x2), (3, .int x3)] [] := by
  have O := OX.1
  unfold fc_Op25_does at h
  refine v_aload_n O.1 dX35_does_0 rfl (q := 1) rfl ?_
  refine c_getC O hka1 7 (v := .ref (gCa g (ka1 + 5))) (by decide) (O.lkn q850) rfl (fun _ => rfl) dX35_does_1 (q := 4) rfl ?_
  refine v_iload_n O.1 dX35_does_4 rfl (q := 5) rfl ?_
  refine v_bipush O.1 dX35_does_5 (v := 20) (by decide) (q := 7) rfl ?_
  refine v_irem O.1 dX35_does_7 (by decide) (q := 8) rfl ?_
  obtain ⟨g1, h⟩ := gd_some h
  refine c_all O hka1 g1 rfl (j := (x2 - x2 / 20 * 20).toNatClampNeg) dX35_does_8 (q := 9) rfl ?_
  refine v_astore (lv' := [(4, .ref (gCa g (ka1 + 22 + (x2 - x2 / 20 * 20).toNatClampNeg))), (0, .ref (gCo g 24)), (1, .ref (gCa g ka1)), (2, .int x2), (3, .int x3)]) O.1 dX35_does_9 (by decide) rfl (q := 11) rfl ?_
  refine v_aload O.1 dX35_does_11 rfl (q := 13) rfl ?_
  refine c_getS O (cS_of hka1 (inb_lt g1)) 5 (by decide) (O.lk q749) rfl rfl rfl rfl (v := .int (C (ka1 + 22 + (x2 - x2 / 20 * 20).toNatClampNeg) 5)) rfl dX35_does_13 (q := 16) rfl ?_
  refine v_if_eq O.1 dX35_does_16 (t := 24) (by decide) (q := 19) rfl (fun c2 => ?_) (fun c2 => ?_)
  · rw [if_pos c2] at h
    refine v_aload O.1 dX35_does_24 rfl (q := 26) rfl ?_
    refine v_aload_n O.1 dX35_does_26 rfl (q := 27) rfl ?_
    refine v_iload_n O.1 dX35_does_27 rfl (q := 28) rfl ?_
    obtain ⟨r3, C3, e3, h⟩ := bnd_some h
    refine c_callVi (As := [.int x3]) (rest := [.ref (gCa g (ka1 + 22 + (x2 - x2 / 20 * 20).toNatClampNeg))]) (n := 1) (ci := 2) (p := (RX4, TX4, 55)) O (cC_lt (j := 0) hka1 (by decide)) rfl (fun _ _ => ⟨_, cCell_core hka1⟩) (metc_Core_reg _ g ka1 hka1 x3 C C3 r3 e3) (lw_V q572 q530 q531 q63 q532) (by decide +kernel) (by decide) (by decide) rfl rfl (Nat.le_of_ble_eq_true rfl) dX35_does_28 (q := 31) rfl (b' := 0) rfl ?_
    refine v_sipush O.1 dX35_does_31 (v := 255) (by decide) (q := 34) rfl ?_
    refine v_iand O.1 dX35_does_34 (q := 35) rfl ?_
    obtain ⟨C4, e4, h⟩ := stp_some h
    refine c_putS O (cS_of hka1 (inb_lt g1)) 1 (ty := .int) (by decide) (by decide) (O.lk q736) rfl rfl rfl rfl rfl rfl rfl rfl dX35_does_35 (q := 38) rfl e4 ?_
    exact x_vret OX h dX35_does_38
  · rw [if_neg c2] at h
    refine v_aload_n O.1 dX35_does_19 rfl (q := 20) rfl ?_
    refine c_getC O hka1 1 (v := .ref (gCa g (ka1 + 20))) (by decide) (O.lkn q830) rfl (fun _ => rfl) dX35_does_20 (q := 23) rfl ?_
    exact x_throw 18 OX hka1 (Or.inl rfl) h rfl dX35_does_23
theorem metc_Op25_does (l : Launch) (g : gC) (ka1 : Nat) (hka1 : cC ka1) (x2 : Int32) (x3 : Int32) (C C' : Mem) (r : (Unit ⊕ Int32)) (h : fc_Op25_does ka1 x2 x3 C = some (r, C')) : MetX l g ka1 yX35_does cX35_does 5 none 1 0 [.ref (gCo g 24), .ref (gCa g ka1), .int x2, .int x3] C (xQv g r C') r C' :=
  x_met (by decide) rfl (Nat.le_of_ble_eq_true rfl) (fun X OX => bc_Op25_does hka1 OX x2 x3 C h)
/-! RankEntry$Op$26.does(LRankEntry$Core;II)V -/
def fc_Op26_does (ka1 : Nat) (x2 : Int32) (x3 : Int32) (C : Mem) : Option ((Unit ⊕ Int32) × Mem) :=
  bndx (fc_Core_needs ka1 2 C) fun r1 C1 =>
  gd (inb ((C1 ka1 32) - 2) 96) <|
  gd (inb ((C1 ka1 32) - 2) 96) <|
  stp (up2 C1 (ka1 + 4) ((C1 ka1 32) - 2).toNatClampNeg (((C1 (ka1 + 4) ((C1 ka1 32) - 2).toNatClampNeg) + x2) &&& 511)) fun C4 =>
  some (Sum.inl (), C4)
set_option maxHeartbeats 4000000 in
theorem bc_Op26_does {g : gC} {X : Cxt} {r : (Unit ⊕ Int32)} {C' : Mem} {ka1 : Nat} (hka1 : cC ka1) (OX : OkX g ka1 X cX36_does 4 none RX36 1 0 (xQv g r C') r C') (x2 : Int32) (x3 : Int32) (C : Mem) (h : fc_Op26_does ka1 x2 x3 C = some (r, C')) : V X 4 0 (WdC g C) 0 [(0, .ref (gCo g 25)), (1, .ref (gCa g ka1)), (2, .int x2), (3, .int x3)] [] := by
  have O := OX.1
  unfold fc_Op26_does at h
  refine v_aload_n O.1 dX36_does_0 rfl (q := 1) rfl ?_
  refine v_iconst O.1 dX36_does_1 (v := 2) rfl (q := 2) rfl ?_
  rcases bndx_some h with ⟨r1, C1, e1, h⟩ | ⟨r1, C1, e1, h⟩
  case inr => exact x_callVtv (As := [.int 2]) (rest := []) (n := 1) (ci := 2) (p := (RX4, TX4, 55)) OX hka1 (cC_lt (j := 0) hka1 (by decide)) rfl (fun _ _ => ⟨_, cCell_core hka1⟩) (metc_Core_needs _ g ka1 hka1 2 C C1 _ e1) (lw_V q576 q434 q435 q63 q436) (by decide +kernel) (by decide) (by decide) rfl rfl (Nat.le_of_ble_eq_true rfl) dX36_does_2 (by decide) h
  refine x_callVv (As := [.int 2]) (rest := []) (n := 1) (ci := 2) (p := (RX4, TX4, 55)) O (cC_lt (j := 0) hka1 (by decide)) rfl (fun _ _ => ⟨_, cCell_core hka1⟩) (metc_Core_needs _ g ka1 hka1 2 C C1 _ e1) (lw_V q576 q434 q435 q63 q436) (by decide +kernel) (by decide) (by decide) rfl rfl (Nat.le_of_ble_eq_true rfl) dX36_does_2 (q := 5) rfl (b' := 0) rfl ?_
  refine v_aload_n O.1 dX36_does_5 rfl (q := 6) rfl ?_
  refine c_getC O hka1 6 (v := .ref (gCa g (ka1 + 4))) (by decide) (O.lkn q845) rfl (fun _ => rfl) dX36_does_6 (q := 9) rfl ?_
  refine v_aload_n O.1 dX36_does_9 rfl (q := 10) rfl ?_
  refine c_getC O hka1 32 (v := .int (C1 ka1 32)) (by decide) (O.lkn q892) rfl (fun _ => rfl) dX36_does_10 (q := 13) rfl ?_
  refine v_iconst O.1 dX36_does_13 (v := 2) rfl (q := 14) rfl ?_
  refine v_isub O.1 dX36_does_14 (q := 15) rfl ?_
  refine v_aload_n O.1 dX36_does_15 rfl (q := 16) rfl ?_
  refine c_getC O hka1 6 (v := .ref (gCa g (ka1 + 4))) (by decide) (O.lkn q845) rfl (fun _ => rfl) dX36_does_16 (q := 19) rfl ?_
  refine v_aload_n O.1 dX36_does_19 rfl (q := 20) rfl ?_
  refine c_getC O hka1 32 (v := .int (C1 ka1 32)) (by decide) (O.lkn q892) rfl (fun _ => rfl) dX36_does_20 (q := 23) rfl ?_
  refine v_iconst O.1 dX36_does_23 (v := 2) rfl (q := 24) rfl ?_
  refine v_isub O.1 dX36_does_24 (q := 25) rfl ?_
  obtain ⟨g2, h⟩ := gd_some h
  refine c_iald O (cIA_stack hka1) g2 rfl (j := ((C1 ka1 32) - 2).toNatClampNeg) dX36_does_25 (q := 26) rfl ?_
  refine v_iload_n O.1 dX36_does_26 rfl (q := 27) rfl ?_
  refine v_iadd O.1 dX36_does_27 (q := 28) rfl ?_
  refine v_sipush O.1 dX36_does_28 (v := 511) (by decide) (q := 31) rfl ?_
  refine v_iand O.1 dX36_does_31 (q := 32) rfl ?_
  obtain ⟨g3, h⟩ := gd_some h
  obtain ⟨C4, e4, h⟩ := stp_some h
  refine c_iast O (cIA_stack hka1) g3 rfl (j := ((C1 ka1 32) - 2).toNatClampNeg) dX36_does_32 (q := 33) rfl e4 ?_
  exact x_vret OX h dX36_does_33
theorem metc_Op26_does (l : Launch) (g : gC) (ka1 : Nat) (hka1 : cC ka1) (x2 : Int32) (x3 : Int32) (C C' : Mem) (r : (Unit ⊕ Int32)) (h : fc_Op26_does ka1 x2 x3 C = some (r, C')) : MetX l g ka1 yX36_does cX36_does 4 none 1 0 [.ref (gCo g 25), .ref (gCa g ka1), .int x2, .int x3] C (xQv g r C') r C' :=
  x_met (by decide) rfl (Nat.le_of_ble_eq_true rfl) (fun X OX => bc_Op26_does hka1 OX x2 x3 C h)
/-! RankEntry$Op$27.does(LRankEntry$Core;II)V -/
def fc_Op27_does (ka1 : Nat) (x2 : Int32) (x3 : Int32) (C : Mem) : Option ((Unit ⊕ Int32) × Mem) :=
  bnd (fc_Core_reg ka1 x2 C) fun r1 C1 =>
  bnd (fc_Core_tells ka1 r1 C1) fun r2 C2 =>
  some (Sum.inl (), C2)
set_option maxHeartbeats 4000000 in
theorem bc_Op27_does {g : gC} {X : Cxt} {r : (Unit ⊕ Int32)} {C' : Mem} {ka1 : Nat} (hka1 : cC ka1) (OX : OkX g ka1 X cX37_does 4 none RX37 1 0 (xQv g r C') r C') (x2 : Int32) (x3 : Int32) (C : Mem) (h : fc_Op27_does ka1 x2 x3 C = some (r, C')) : V X 4 0 (WdC g C) 0 [(0, .ref (gCo g 26)), (1, .ref (gCa g ka1)), (2, .int x2), (3, .int x3)] [] := by
  have O := OX.1
  unfold fc_Op27_does at h
  refine v_aload_n O.1 dX37_does_0 rfl (q := 1) rfl ?_
  refine v_aload_n O.1 dX37_does_1 rfl (q := 2) rfl ?_
  refine v_iload_n O.1 dX37_does_2 rfl (q := 3) rfl ?_
  obtain ⟨r1, C1, e1, h⟩ := bnd_some h
  refine c_callVi (As := [.int x2]) (rest := [.ref (gCa g ka1)]) (n := 1) (ci := 2) (p := (RX4, TX4, 55)) O (cC_lt (j := 0) hka1 (by decide)) rfl (fun _ _ => ⟨_, cCell_core hka1⟩) (metc_Core_reg _ g ka1 hka1 x2 C C1 r1 e1) (lw_V q580 q530 q531 q63 q532) (by decide +kernel) (by decide) (by decide) rfl rfl (Nat.le_of_ble_eq_true rfl) dX37_does_3 (q := 6) rfl (b' := 0) rfl ?_
  obtain ⟨r2, C2, e2, h⟩ := bnd_some h
  refine c_callVv (As := [.int r1]) (rest := []) (n := 1) (ci := 2) (p := (RX4, TX4, 55)) O (cC_lt (j := 0) hka1 (by decide)) rfl (fun _ _ => ⟨_, cCell_core hka1⟩) (metc_Core_tells _ g ka1 hka1 r1 C1 C2 r2 e2) (lw_V q581 q582 q583 q63 q584) (by decide +kernel) (by decide) (by decide) rfl rfl (Nat.le_of_ble_eq_true rfl) dX37_does_6 (q := 9) rfl (b' := 0) rfl ?_
  exact x_vret OX h dX37_does_9
theorem metc_Op27_does (l : Launch) (g : gC) (ka1 : Nat) (hka1 : cC ka1) (x2 : Int32) (x3 : Int32) (C C' : Mem) (r : (Unit ⊕ Int32)) (h : fc_Op27_does ka1 x2 x3 C = some (r, C')) : MetX l g ka1 yX37_does cX37_does 4 none 1 0 [.ref (gCo g 26), .ref (gCa g ka1), .int x2, .int x3] C (xQv g r C') r C' :=
  x_met (by decide) rfl (Nat.le_of_ble_eq_true rfl) (fun X OX => bc_Op27_does hka1 OX x2 x3 C h)
/-! RankEntry$Op$28.does(LRankEntry$Core;II)V -/
def fc_Op28_does (ka1 : Nat) (x2 : Int32) (x3 : Int32) (C : Mem) : Option ((Unit ⊕ Int32) × Mem) :=
  gd (inb (x3 &&& 15) 16) <|
  bnd (fc_Core_sets ka1 x2 (C (ka1 + 3) (x3 &&& 15).toNatClampNeg) C) fun r2 C2 =>
  some (Sum.inl (), C2)
set_option maxHeartbeats 4000000 in
theorem bc_Op28_does {g : gC} {X : Cxt} {r : (Unit ⊕ Int32)} {C' : Mem} {ka1 : Nat} (hka1 : cC ka1) (OX : OkX g ka1 X cX38_does 4 none RX38 1 0 (xQv g r C') r C') (x2 : Int32) (x3 : Int32) (C : Mem) (h : fc_Op28_does ka1 x2 x3 C = some (r, C')) : V X 4 0 (WdC g C) 0 [(0, .ref (gCo g 27)), (1, .ref (gCa g ka1)), (2, .int x2), (3, .int x3)] [] := by
  have O := OX.1
  unfold fc_Op28_does at h
  refine v_aload_n O.1 dX38_does_0 rfl (q := 1) rfl ?_
  refine v_iload_n O.1 dX38_does_1 rfl (q := 2) rfl ?_
  refine v_aload_n O.1 dX38_does_2 rfl (q := 3) rfl ?_
  refine c_getC O hka1 5 (v := .ref (gCa g (ka1 + 3))) (by decide) (O.lkn q842) rfl (fun _ => rfl) dX38_does_3 (q := 6) rfl ?_
  refine v_iload_n O.1 dX38_does_6 rfl (q := 7) rfl ?_
  refine v_bipush O.1 dX38_does_7 (v := 15) (by decide) (q := 9) rfl ?_
  refine v_iand O.1 dX38_does_9 (q := 10) rfl ?_
  obtain ⟨g1, h⟩ := gd_some h
  refine c_iald O (cIA_data hka1) g1 rfl (j := (x3 &&& 15).toNatClampNeg) dX38_does_10 (q := 11) rfl ?_
  obtain ⟨r2, C2, e2, h⟩ := bnd_some h
  refine c_callVv (As := [.int x2, .int (C (ka1 + 3) (x3 &&& 15).toNatClampNeg)]) (rest := []) (n := 2) (ci := 2) (p := (RX4, TX4, 55)) O (cC_lt (j := 0) hka1 (by decide)) rfl (fun _ _ => ⟨_, cCell_core hka1⟩) (metc_Core_sets _ g ka1 hka1 x2 (C (ka1 + 3) (x3 &&& 15).toNatClampNeg) C C2 r2 e2) (lw_V q588 q427 q428 q63 q429) (by decide +kernel) (by decide) (by decide) rfl rfl (Nat.le_of_ble_eq_true rfl) dX38_does_11 (q := 14) rfl (b' := 0) rfl ?_
  exact x_vret OX h dX38_does_14
theorem metc_Op28_does (l : Launch) (g : gC) (ka1 : Nat) (hka1 : cC ka1) (x2 : Int32) (x3 : Int32) (C C' : Mem) (r : (Unit ⊕ Int32)) (h : fc_Op28_does ka1 x2 x3 C = some (r, C')) : MetX l g ka1 yX38_does cX38_does 4 none 1 0 [.ref (gCo g 27), .ref (gCa g ka1), .int x2, .int x3] C (xQv g r C') r C' :=
  x_met (by decide) rfl (Nat.le_of_ble_eq_true rfl) (fun X OX => bc_Op28_does hka1 OX x2 x3 C h)
/-! RankEntry$Op$29.does(LRankEntry$Core;II)V -/
def fc_Op29_does (ka1 : Nat) (x2 : Int32) (x3 : Int32) (C : Mem) : Option ((Unit ⊕ Int32) × Mem) :=
  bnd (fc_Core_reg ka1 x2 C) fun r1 C1 =>
  gd (inb (x3 &&& 15) 16) <|
  stp (up2 C1 (ka1 + 3) (x3 &&& 15).toNatClampNeg r1) fun C3 =>
  some (Sum.inl (), C3)
set_option maxHeartbeats 4000000 in
theorem bc_Op29_does {g : gC} {X : Cxt} {r : (Unit ⊕ Int32)} {C' : Mem} {ka1 : Nat} (hka1 : cC ka1) (OX : OkX g ka1 X cX39_does 4 none RX39 1 0 (xQv g r C') r C') (x2 : Int32) (x3 : Int32) (C : Mem) (h : fc_Op29_does ka1 x2 x3 C = some (r, C')) : V X 4 0 (WdC g C) 0 [(0, .ref (gCo g 28)), (1, .ref (gCa g ka1)), (2, .int x2), (3, .int x3)] [] := by
  have O := OX.1
  unfold fc_Op29_does at h
  refine v_aload_n O.1 dX39_does_0 rfl (q := 1) rfl ?_
  refine c_getC O hka1 5 (v := .ref (gCa g (ka1 + 3))) (by decide) (O.lkn q841) rfl (fun _ => rfl) dX39_does_1 (q := 4) rfl ?_
  refine v_iload_n O.1 dX39_does_4 rfl (q := 5) rfl ?_
  refine v_bipush O.1 dX39_does_5 (v := 15) (by decide) (q := 7) rfl ?_
  refine v_iand O.1 dX39_does_7 (q := 8) rfl ?_
  refine v_aload_n O.1 dX39_does_8 rfl (q := 9) rfl ?_
  refine v_iload_n O.1 dX39_does_9 rfl (q := 10) rfl ?_
  obtain ⟨r1, C1, e1, h⟩ := bnd_some h
  refine c_callVi (As := [.int x2]) (rest := [.int (x3 &&& 15), .ref (gCa g (ka1 + 3))]) (n := 1) (ci := 2) (p := (RX4, TX4, 55)) O (cC_lt (j := 0) hka1 (by decide)) rfl (fun _ _ => ⟨_, cCell_core hka1⟩) (metc_Core_reg _ g ka1 hka1 x2 C C1 r1 e1) (lw_V q592 q530 q531 q63 q532) (by decide +kernel) (by decide) (by decide) rfl rfl (Nat.le_of_ble_eq_true rfl) dX39_does_10 (q := 13) rfl (b' := 0) rfl ?_
  obtain ⟨g2, h⟩ := gd_some h
  obtain ⟨C3, e3, h⟩ := stp_some h
  refine c_iast O (cIA_data hka1) g2 rfl (j := (x3 &&& 15).toNatClampNeg) dX39_does_13 (q := 14) rfl e3 ?_
  exact x_vret OX h dX39_does_14
theorem metc_Op29_does (l : Launch) (g : gC) (ka1 : Nat) (hka1 : cC ka1) (x2 : Int32) (x3 : Int32) (C C' : Mem) (r : (Unit ⊕ Int32)) (h : fc_Op29_does ka1 x2 x3 C = some (r, C')) : MetX l g ka1 yX39_does cX39_does 4 none 1 0 [.ref (gCo g 28), .ref (gCa g ka1), .int x2, .int x3] C (xQv g r C') r C' :=
  x_met (by decide) rfl (Nat.le_of_ble_eq_true rfl) (fun X OX => bc_Op29_does hka1 OX x2 x3 C h)
