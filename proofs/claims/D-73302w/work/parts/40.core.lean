/-- a call of a method with a table of its own, walked there and then -/
theorem t_run {p : Program} {l : Launch} {e : Env} {R R' : Room} {s : State} {m : MethodId} {args : Array Value} {below : List Frame} {meth : Method} {c : Code} {H : Heap} {locs : List Loc} {cells slots : Nat} {cc : ByteArray} {pc : Nat} {ls : Array Slot} {rest : List Value} (hexec : p.tables.exec = Jvm.exec) (hb : c.code = cc) {own Cn : String} {index maxL : Nat} {y : MethodName} {bytes : ByteArray} {ret : Option FieldType} {hh : List (Nat × Nat × Nat × Nat)}
    (hown : s.vm.findClass own = some m.cls) (hlink : (Cond.methodLink own index y).before args s = true) (hy : y.cls ≠ "java/lang/invoke/MethodHandle" ∧ y.cls ≠ "java/lang/invoke/VarHandle") (hsel : (Cond.selects Cn y y).before args s = true) (hinst : (Cond.instanceMethod y).before args s = true) (hcode : (Cond.codeWith y bytes maxL ret hh).before args s = true) (hpn : plainName y.cls = true)
    {b : Addr} {cellB : Cell} (hcell : H[b]? = some cellB) (hobj : cellB.vm.isStatics = false) (hcls : s.vm.findClass Cn = some cellB.cls) {As : List Value} (hlen : ∀ sig, parseMethodDescriptor y.desc = some sig → As.length = sig.parameters.length)
    (hfr : R'.frames + 1 ≤ R.frames) (hlo : 8 + (maxL + 11) + R'.locals ≤ R.locals) (hf : cells + R'.cells ≤ R.cells ∧ slots + R'.slots ≤ R.slots) {Qc : Array Value → State → Outcome → State → Prop} {free : Addr → Prop}
    (body : ∀ (U : State) (f : JFrame) (mk : MethodId) (methk : Method) (ck : Code), U.heap = H → s.WarmedH U.vm → U.vm.findClass y.cls = some mk.cls → ck.code = bytes → ck.maxLocals = maxL → methk.locks = false → methk.sig.returnType = ret → ck.exceptionTable.toList = tableOf hh →
      W p l e R' (U.calling f mk (Value.ref b :: As).toArray) mk (Value.ref b :: As).toArray (.java f :: below) methk ck H [] 0 0 (MQ (.java f :: below) Qc (Value.ref b :: As).toArray (U.calling f mk (Value.ref b :: As).toArray) R'.cells R'.slots free) (entryFrame mk (Value.ref b :: As).toArray maxL))
    (hsize : ls.size = c.maxLocals) (hW : (rest.map fun v => v.category).sum ≤ 8) (hdg : decode cc pc = .ok (.invokevirtual index, 3)) :
    va_Run p l e R s m args below meth c H locs cells slots R'.cells R'.slots (F0 m pc ls (As.reverse ++ .ref b :: rest)) rest (Qc (Value.ref b :: As).toArray) free := by
  intro T hT X
  obtain ⟨mk, methM, hnamed, hmethM, hstM, habM⟩ := Cond.instanceMethod_spec hinst
  obtain ⟨mk', methM', cM, hnamed', hmethM', hcM, hbM, hlM, htM, hrM, hkM, hsigM⟩ := Cond.codeWith_spec hcode
  cases hnamed.symm.trans hnamed'
  cases hmethM.symm.trans hmethM'
  obtain ⟨c2, r2, m2, q1, q2, q3, q4, kP, hkP, hkPi⟩ := Cond.selects_spec hsel
  cases hcls.symm.trans q1
  cases (State.methodFound?_of_named hnamed hy).symm.trans q2
  cases hnamed.symm.trans q3
  have hselP : selectMethod e.platform s.vm cellB.cls mk = .method mk := by rw [Launch.admits_selectMethod X.admits]; exact q4
  obtain ⟨vm₁, X₁, hstep₁⟩ := X.invokevirtual hexec hown hlink hnamed hmethM hstM hkP hkPi hy (a := b) (cell := cellB) (by rw [hT]; exact hcell)
    (fun z h => by rw [h] at hobj; cases hobj) hselP hmethM habM hkP hkPi (g := F0 m pc ls (As.reverse ++ .ref b :: rest)) rfl (argsL := As) (rest := rest) (hlen _ hsigM) rfl (by rw [hb]; exact hdg)
  have hW₁ : s.WarmedH vm₁ := X₁.warmed
  have hmk₁ : (T.setVm vm₁).vm.method? mk = some methM := by
    show vm₁.method? mk = _
    rw [hW₁.alike.method?]
    exact hmethM
  obtain ⟨kn, hkn, hknn⟩ := className_of_methodNamed hnamed
  have hpk : (T.setVm vm₁).plainMethod mk := State.plainMethod.of_name (fun k' hk' => by
    obtain ⟨k9, hk9, he9⟩ := hW₁.alike.2.2 _ _ hkn
    cases hk9.symm.trans hk'
    have : k'.name = y.cls := by rw [he9]; exact hknn
    rw [this]
    exact hpn)
  obtain ⟨Y, hin⟩ := X₁.into (g := F0 m pc ls rest) rfl hsize (by rw [hb]; exact hdg) (Value.ref b :: As).toArray (R' := R') hmk₁ hcM hkM hpk hfr (by rw [hlM]; show 2 * 0 + (rest.map fun v => v.category).sum + (maxL + 11) + R'.locals ≤ _; omega) hf.1 hf.2
  obtain ⟨t, hst, o, hrun, hend, hq, L, ⟨⟨v, rfl⟩, hWe, hsame⟩, hL⟩ := body (T.setVm vm₁) (F0 m pc ls rest) mk methM cM hT hW₁ (by show vm₁.findClass _ = _; rw [hW₁.alike.findClass]; exact findClass_of_methodNamed hnamed) hbM hlM hkM hrM (by rw [← htM]; exact (table_eq _).symm) (((T.setVm vm₁).setTop (F0 m pc ls rest)).pushFrame (.java (entryFrame mk (Value.ref b :: As).toArray cM.maxLocals))) hT Y
  obtain ⟨T', X', hW', -, ht⟩ := X₁.outOf (g := F0 m pc ls rest) rfl (by rw [hb]; exact hdg) hend hWe hsame
  refine ⟨v, (T.setVm vm₁).calling (F0 m pc ls rest) mk (Value.ref b :: As).toArray, t, T', L, hT, X', hL, by rw [ht]; rfl, by rw [ht]; rfl, hq, fun target h => hstep₁ _ fun acts => ?_⟩
  rw [hin acts]
  rw [hlM] at hst ⊢
  refine (Steps.weaken (mid := [.java (F0 m pc ls rest)]) hst).trans ?_
  rw [ht]
  exact h
section CCATCH
variable {g : gC} {X : Cxt} {cc : ByteArray} {nL b lvl mc : Nat} {ret : Option FieldType} {own : String} {Qc : Array Value → State → Outcome → State → Prop} {pc q : Nat} {lv : List (Nat × Value)} {st rest : List Value} {C C' C1 : Mem} {c : Nat}
theorem c_callTv {r : Unit} (O : OkC g X cc nL ret own lvl mc Qc) {idx maxL n lvl' b' mc' : Nat} {y : MethodName} {by_ : ByteArray} {hh : List (Nat × Nat × Nat × Nat)} {As : List Value} (hc : cC c) (hB : ∀ X', OkC g X' by_ maxL none y.cls lvl' mc' (cQv g r C') → (xc X').exceptionTable.toList = tableOf hh → V X' maxL mc' (WdC g C) 0 (lv_args 0 (.ref (gCa g c) :: As)) []) (hlenA : (lg_sl (.ref (gCa g c) :: As)).length ≤ maxL) (hl : Cond.methodLink own idx y ∈ lw_all) (hin : Cond.instanceMethod y ∈ lw_all) (hse : Cond.selects "RankEntry$Core" y y ∈ lw_all) (hco : Cond.codeWith y by_ maxL none hh ∈ lw_all) (hd : y.cls ≠ "java/lang/invoke/MethodHandle" ∧ y.cls ≠ "java/lang/invoke/VarHandle" ∧ (parseMethodDescriptor y.desc).map (fun d => d.parameters.length) = some n) (hpn : plainName y.cls = true) (hlv : lvl' + 1 ≤ lvl) (hml : maxL ≤ 40) (hn : As.length = n) (hst : st = As.reverse ++ .ref (gCa g c) :: rest) (hr : (rest.map fun v => v.category).sum ≤ 8) (d : decode cc pc = .ok (.invokevirtual idx, 3)) (hq : pc + 3 = q) (hb : b' + mc' = b) (kk : V X nL b' (WdC g C') q lv rest) : V X nL b (WdC g C) pc lv st := by
  subst hq
  subst hst
  subst hb
  intro H lo ce sl ls h1 h2 h3 h4 h5
  have S2 := O.S h2
  have hts := O.1.ts
  obtain ⟨cellB, hcB, hoB, hclB⟩ := c_recv O h1 (o := c) (ci := 2) (p := (RX4, TX4, 55)) (cC_lt (j := 0) hc (by decide)) rfl (fun _ _ => ⟨_, cCell_core hc⟩)
  obtain ⟨hfr, hlo⟩ := c_room (maxL := maxL) (mc' := mc') O hlv hml
  have hrun := t_run (p := xp X) (l := xl X) (e := xe X) (R := xR X) (R' := rmz lvl' mc') (s := xs X) (m := xm X) (args := xa X) (below := xb X) (meth := xh X) (c := xc X) (H := H) (locs := lo) (cells := ce) (slots := sl) (pc := pc) (ls := ls) (rest := rest) (Qc := cQv g r C') (free := cA g) O.1.ex O.1.bc O.1.ow (hts _ hl) ⟨hd.1, hd.2.1⟩ (hts _ hse) (hts _ hin) (hts _ hco) hpn hcB hoB hclB (As := As) (fun sig h => by have h9 := hd.2.2; rw [h] at h9; exact hn.trans (Option.some.inj h9).symm) hfr hlo ⟨by show ce + mc' ≤ _; omega, by show sl + 8 * mc' ≤ _; omega⟩
    (fun U f mk methk ck hU hW hfc hbc hml1 hlk hrt htab => by
      rw [lg_entry_eq]
      exact hB (xp X, xl X, xe X, rmz lvl' mc', U.calling f mk (Value.ref (gCa g c) :: As).toArray, mk, (Value.ref (gCa g c) :: As).toArray, .java f :: xb X, methk, ck, MQ (.java f :: xb X) (cQv g r C') (Value.ref (gCa g c) :: As).toArray (U.calling f mk (Value.ref (gCa g c) :: As).toArray) mc' (8 * mc') (cA g), cA g) ⟨⟨O.1.ex, hbc, hml1, hfc, O.tsAt hW, hrt, hlk, rfl⟩, (O.2.1.moved S2 hU hW).calling, rfl, fun _ h => h⟩ htab H [] 0 0 _ h1 (by rw [← hU]; exact va_S.rf) (by rw [Nat.zero_add]; exact Nat.le_refl _) (by rw [Nat.zero_add]; exact Nat.le_refl _) (lv_entry _ hlenA)) (h5.1.trans O.1.ml.symm) hr d
  refine va_callv (A1 := cA g) (A0 := cA g) hrun S2 (fun q _ h => h) (fun q h => h) (fun u t H1 lo1 ht hvm hw hB1 hz hk hS1 => ?_)
  subst hw
  exact kk H1 lo1 _ _ ls (by rw [← ht]; exact hB1) (by rw [O.2.2.1]; exact hS1) (by show ce + mc' + b' ≤ _; omega) (by show sl + 8 * mc' + 8 * b' ≤ _; omega) h5
/-- a call that throws, caught here -/
theorem x_callVci {f : Int32} (O : OkC g X cc nL ret own lvl mc Qc) (hc : cC c) {idx maxL n lvl' b' mc' o ci : Nat} {y : MethodName} {by_ : ByteArray} {rt : Option FieldType} {As : List Value} {p : vw_C} {x : ExceptionTableEntry} (htab : (xc X).exceptionTable.toList = [x]) (hcov : covers x pc = true) (hcat : x.catchType ≠ 0) (hcl : Cond.classLink own x.catchType "RankEntry$Trap" ∈ lw_all) (ho : o < 95) (hci : cCl[ci]? = some p) (hv : ∀ ah ev, ∃ fs, cCell g C ah ev o = .inr (ci, fs)) (hM : MetX (xl X) g c y by_ maxL rt lvl' mc' (.ref (gCa g o) :: As) C (xQi g (.inr f) C1) (Sum.inr f : Int32 ⊕ Int32) C1) (hG : GoodIn lw_all (wsV own idx p.1 y (ws_ y by_ maxL rt))) (hd : y.cls = p.1 ∧ y.cls ≠ "java/lang/invoke/MethodHandle" ∧ y.cls ≠ "java/lang/invoke/VarHandle" ∧ (parseMethodDescriptor y.desc).map (fun d => d.parameters.length) = some n) (hlv : lvl' + 1 ≤ lvl) (hml : maxL ≤ 40) (hn : As.length = n) (hst : st = As.reverse ++ .ref (gCa g o) :: rest) (hr : (rest.map fun v => v.category).sum ≤ 8) (d : decode cc pc = .ok (.invokevirtual idx, 3)) (hb : b' + mc' = b) (kk : isT f → V X nL b' (WdC g C1) x.handlerPc lv [.ref (gCa g (c + 2 + f.toNatClampNeg))]) : V X nL b (WdC g C) pc lv st := by
  subst hst
  subst hb
  intro H lo ce sl ls h1 h2 h3 h4 h5
  have S2 := O.S h2
  refine vx_calli (A1 := cA g) (A0 := cA g) (AX := cA g) (vx_runV (As := As) (rest := rest) ⟨O.1.ex, O.1.bc, O.1.ml, O.1.ow, O.1.ts⟩ hM (cwV n O.1.ts hG rfl rfl rfl hd (c_room O hlv hml)) ⟨cPc_blind, c_recv O h1 ho hci hv, O.pre h1 h2⟩ rfl hn h5.1 rfl (lv_room hr) d ⟨by omega, by omega⟩) S2 (fun q _ h => h) (fun q h => h) (fun q _ h => h) (fun E ce' q9 u t H1 lo1 ht hA hp hB z1 z2 hS1 z3 z4 z5 => ?_) (fun r1 u t H1 lo1 ht hvm hw hB hz hk hS1 => by obtain ⟨e1, -⟩ := hw; cases e1)
  obtain ⟨f', hf, hT, hE, hq9, hW⟩ := hB
  cases hf
  subst hp
  subst hq9
  subst hE
  exact vx_catch O.1.ow [] x [] htab (fun z hz => nomatch hz) hcov hcat (O.1.ts _ hcl) (va_Nw.use rfl (O.2.1.nest _ (List.mem_filter.mpr ⟨q135, rfl⟩))) z3 z4 z5 (kk hT H1 lo1 _ _ ls (by rw [← ht]; exact hW) (by rw [O.2.2.1]; exact hS1) (by omega) (by omega) h5)
end CCATCH
/-! RankEntry$Core.does -/
def fc_Core_does (c : Nat) (C : Mem) : Option (Unit × Mem) :=
  bndc (fc_Core_executes c C) (fun r C1 => if r = 0 then some ((), C1) else stp (up2 C1 (c + 9) 10 (C1 (c + 9) 10 + 1)) fun C2 => some ((), C2))
    (fun f C1 => stp (up2 C1 c 31 (C c 31)) fun C2 => stp (up2 C2 c 43 0) fun C3 => bnd (fc_Core_raises c f C3) fun _ C4 => some ((), C4))
theorem bc_Core_does {g : gC} {X : Cxt} {r : Unit} {C' : Mem} {c : Nat} (hc : cC c) (O : OkC g X cX4_does 3 none RX4 9 2 (cQv g r C')) (htab : (xc X).exceptionTable.toList = tableOf [(5, 23, 26, 9)]) (C : Mem) (h : fc_Core_does c C = some (r, C')) : V X 3 2 (WdC g C) 0 [(0, .ref (gCa g c))] [] := by
  unfold fc_Core_does at h
  refine v_aload_n O.1 dX4_does_0 rfl (q := 1) rfl ?_
  refine c_getC O hc 31 (v := .int (C c 31)) (by decide) (O.lk q889) rfl (fun _ => rfl) dX4_does_1 (q := 4) rfl ?_
  refine v_istore_n (lv' := [(1, .int (C c 31)), (0, .ref (gCa g c))]) O.1 dX4_does_4 (by decide) rfl (q := 5) rfl ?_
  refine v_aload_n O.1 dX4_does_5 rfl (q := 6) rfl ?_
  rcases bndc_some h with ⟨r1, C1, e1, h⟩ | ⟨f, C1, e1, h⟩
  case inr =>
    refine x_callVci (As := []) (rest := []) (n := 0) (ci := 2) (p := (RX4, TX4, 55)) (b' := 1) (x := ⟨5, 23, 26, 9⟩) O hc htab (by decide) (by decide) q133 (cC_lt (j := 0) hc (by decide)) rfl (fun _ _ => ⟨_, cCell_core hc⟩) (metc_Core_executes _ g c hc C C1 _ e1) (lw_V q350 q352 qs9 q63 q353) (by decide +kernel) (by decide) (by decide) rfl rfl (by decide) dX4_does_6 rfl (fun hT => ?_)
    obtain ⟨C2, e2, h⟩ := stp_some h
    obtain ⟨C3, e3, h⟩ := stp_some h
    obtain ⟨r4, C4, e4, h⟩ := bnd_some h
    refine v_astore_n (lv' := [(2, .ref (gCa g (c + 2 + f.toNatClampNeg))), (1, .int (C c 31)), (0, .ref (gCa g c))]) O.1 dX4_does_26 (by decide) rfl (q := 27) rfl ?_
    refine v_aload_n O.1 dX4_does_27 rfl (q := 28) rfl ?_
    refine v_iload_n O.1 dX4_does_28 rfl (q := 29) rfl ?_
    refine c_putC O hc 31 (u := (C c 31)) (ty := .int) (by decide) (by decide) (O.lk q889) rfl rfl rfl rfl rfl (fun _ => rfl) dX4_does_29 (q := 32) rfl e2 ?_
    refine v_aload_n O.1 dX4_does_32 rfl (q := 33) rfl ?_
    refine v_iconst O.1 dX4_does_33 (v := 0) rfl (q := 34) rfl ?_
    refine c_putC O hc 43 (u := 0) (ty := .int) (by decide) (by decide) (O.lk q917) rfl rfl rfl rfl rfl (fun _ => rfl) dX4_does_34 (q := 37) rfl e3 ?_
    refine v_aload_n O.1 dX4_does_37 rfl (q := 38) rfl ?_
    refine v_aload_n O.1 dX4_does_38 rfl (q := 39) rfl ?_
    refine c_getT O hc hT (O.lk q181) dX4_does_39 (q := 42) rfl ?_
    refine c_callVv (As := [.int f]) (rest := []) (n := 1) (ci := 2) (p := (RX4, TX4, 55)) O (cC_lt (j := 0) hc (by decide)) rfl (fun _ _ => ⟨_, cCell_core hc⟩) (metc_Core_raises _ g c hc f C3 C4 r4 e4) (lw_V q254 q255 q256 q63 q257) (by decide +kernel) (by decide) (by decide) rfl rfl (Nat.le_of_ble_eq_true rfl) dX4_does_42 (q := 45) rfl (b' := 0) rfl ?_
    exact c_vret O h dX4_does_45
  refine x_callVi (As := []) (rest := []) (n := 0) (ci := 2) (p := (RX4, TX4, 55)) O (cC_lt (j := 0) hc (by decide)) rfl (fun _ _ => ⟨_, cCell_core hc⟩) (metc_Core_executes _ g c hc C C1 _ e1) (lw_V q350 q352 qs9 q63 q353) (by decide +kernel) (by decide) (by decide) rfl rfl (Nat.le_of_ble_eq_true rfl) dX4_does_6 (q := 9) rfl (b' := 1) rfl ?_
  refine v_if_eq O.1 dX4_does_9 (t := 23) (by decide) (q := 12) rfl (fun c1 => ?_) (fun c1 => ?_)
  · rw [if_pos c1] at h
    refine v_goto O.1 dX4_does_23 (t := 45) (by decide) ?_
    exact c_vret O h dX4_does_45
  · rw [if_neg c1] at h
    obtain ⟨C2, e2, h⟩ := stp_some h
    refine v_aload_n O.1 dX4_does_12 rfl (q := 13) rfl ?_
    refine c_getC O hc 11 (v := .ref (gCa g (c + 9))) (by decide) (O.lk q858) rfl (fun _ => rfl) dX4_does_13 (q := 16) rfl ?_
    refine v_bipush O.1 dX4_does_16 (v := 10) (by decide) (q := 18) rfl ?_
    refine v_dup2 O.1 dX4_does_18 rfl rfl (q := 19) rfl ?_
    refine c_iald O (cIA_counts hc) (by decide) (by decide) (j := 10) dX4_does_19 (q := 20) rfl ?_
    refine v_iconst O.1 dX4_does_20 (v := 1) rfl (q := 21) rfl ?_
    refine v_iadd O.1 dX4_does_21 (q := 22) rfl ?_
    refine c_iast O (cIA_counts hc) (by decide) (by decide) (j := 10) dX4_does_22 (q := 23) rfl e2 ?_
    refine v_goto O.1 dX4_does_23 (t := 45) (by decide) ?_
    exact c_vret O h dX4_does_45
/-! RankEntry$Core.running()V -/
def fc_Core_running_76 (c : Nat)  (C : Mem) : Option (Unit × Mem) :=
  stp (up2 C c 44 0) fun C1 =>
  bnd (fc_Core_does c C1) fun r2 C2 =>
  some ((), C2)
set_option maxHeartbeats 4000000 in
theorem bc_Core_running_76 {g : gC} {X : Cxt} {r : Unit} {C' : Mem} {c : Nat} (hc : cC c) (O : OkC g X cX4_running 2 none RX4 10 3 (cQv g r C'))  (C : Mem) (h : fc_Core_running_76 c  C = some (r, C')) : V X 2 2 (WdC g C) 76 [(0, .ref (gCa g c))] [] := by
  unfold fc_Core_running_76 at h
  refine v_aload_n O.1 dX4_running_76 rfl (q := 77) rfl ?_
  refine v_iconst O.1 dX4_running_77 (v := 0) rfl (q := 78) rfl ?_
  obtain ⟨C1, e1, h⟩ := stp_some h
  refine c_putC O hc 44 (u := 0) (ty := .boolean) (by decide) (by decide) (O.lk q920) rfl rfl rfl rfl rfl (fun _ => rfl) dX4_running_78 (q := 81) rfl e1 ?_
  refine v_aload_n O.1 dX4_running_81 rfl (q := 82) rfl ?_
  obtain ⟨r2, C2, e2, h⟩ := bnd_some h
  refine c_callTv (As := []) (rest := []) (n := 0) (lvl' := 9) (b' := 0) (mc' := 2) O hc (fun X' O' htab => bc_Core_does hc O' htab C1 e2) (Nat.le_of_ble_eq_true rfl) q346 q348 qs8 q349 (by decide +kernel) (by decide) (by decide) (by decide) rfl rfl (Nat.le_of_ble_eq_true rfl) dX4_running_82 (q := 85) rfl rfl ?_
  exact c_vret O h dX4_running_85
def fc_Core_running (c : Nat)  (C : Mem) : Option (Unit × Mem) :=
  if (C c 43) ≤ 0 then
    bnd (fc_Core_next c C) fun r2 C2 =>
    if r2 < 0 then
      if (C2 c 44) = 0 then
        fc_Core_running_76 c C2
      else
        bnd (fc_Core_openLimit c C2) fun r5 C5 =>
        bnd (fc_Core_nextBelow c r5 C5) fun r6 C6 =>
        if 0 ≤ r6 then
          fc_Core_running_76 c C6
        else
          some ((), C6)
    else
      stp (up2 C2 c 47 r2) fun C8 =>
      stp (up2 C8 c 44 0) fun C9 =>
      stp (up2 C9 c 48 0) fun C10 =>
      stp (up2 C10 c 49 0) fun C11 =>
      bnd (fc_Core_turns c 1 C11) fun r12 C12 =>
      bnd (fc_Core_stacking c C12) fun r13 C13 =>
      some ((), C13)
  else
    stp (up2 C c 43 ((C c 43) - 1)) fun C14 =>
    some ((), C14)
set_option maxHeartbeats 4000000 in
theorem bc_Core_running {g : gC} {X : Cxt} {r : Unit} {C' : Mem} {c : Nat} (hc : cC c) (O : OkC g X cX4_running 2 none RX4 10 3 (cQv g r C'))  (C : Mem) (h : fc_Core_running c  C = some (r, C')) : V X 2 3 (WdC g C) 0 [(0, .ref (gCa g c))] [] := by
  unfold fc_Core_running at h
  refine v_aload_n O.1 dX4_running_0 rfl (q := 1) rfl ?_
  refine c_getC O hc 43 (v := .int (C c 43)) (by decide) (O.lk q917) rfl (fun _ => rfl) dX4_running_1 (q := 4) rfl ?_
  refine v_if_le O.1 dX4_running_4 (t := 18) (by decide) (q := 7) rfl (fun c1 => ?_) (fun c1 => ?_)
  · rw [if_pos c1] at h
    refine v_aload_n O.1 dX4_running_18 rfl (q := 19) rfl ?_
    obtain ⟨r2, C2, e2, h⟩ := bnd_some h
    refine c_callVi (As := []) (rest := []) (n := 0) (ci := 2) (p := (RX4, TX4, 55)) O (cC_lt (j := 0) hc (by decide)) rfl (fun _ _ => ⟨_, cCell_core hc⟩) (metc_Core_next _ g c hc C C2 r2 e2) (lw_V q204 q205 q206 q63 q207) (by decide +kernel) (by decide) (by decide) rfl rfl (Nat.le_of_ble_eq_true rfl) dX4_running_19 (q := 22) rfl (b' := 3) rfl ?_
    refine v_istore_n (lv' := [(1, .int r2), (0, .ref (gCa g c))]) O.1 dX4_running_22 (by decide) rfl (q := 23) rfl ?_
    refine v_iload_n O.1 dX4_running_23 rfl (q := 24) rfl ?_
    refine v_if_lt O.1 dX4_running_24 (t := 57) (by decide) (q := 27) rfl (fun c3 => ?_) (fun c3 => ?_)
    · rw [if_pos c3] at h
      refine v_aload_n O.1 dX4_running_57 rfl (q := 58) rfl ?_
      refine c_getC O hc 44 (v := .int (C2 c 44)) (by decide) (O.lk q920) rfl (fun _ => rfl) dX4_running_58 (q := 61) rfl ?_
      refine v_if_eq O.1 dX4_running_61 (t := 76) (by decide) (q := 64) rfl (fun c4 => ?_) (fun c4 => ?_)
      · rw [if_pos c4] at h
        exact v_less (b' := 2) (by decide) (v_sub [1] rfl (bc_Core_running_76 hc O C2 h))
      · rw [if_neg c4] at h
        refine v_aload_n O.1 dX4_running_64 rfl (q := 65) rfl ?_
        refine v_aload_n O.1 dX4_running_65 rfl (q := 66) rfl ?_
        obtain ⟨r5, C5, e5, h⟩ := bnd_some h
        refine c_callVi (As := []) (rest := [.ref (gCa g c)]) (n := 0) (ci := 2) (p := (RX4, TX4, 55)) O (cC_lt (j := 0) hc (by decide)) rfl (fun _ _ => ⟨_, cCell_core hc⟩) (metc_Core_openLimit _ g c hc C2 C5 r5 e5) (lw_V q212 q213 q214 q63 q215) (by decide +kernel) (by decide) (by decide) rfl rfl (Nat.le_of_ble_eq_true rfl) dX4_running_66 (q := 69) rfl (b' := 3) rfl ?_
        obtain ⟨r6, C6, e6, h⟩ := bnd_some h
        refine c_callVi (As := [.int r5]) (rest := []) (n := 1) (ci := 2) (p := (RX4, TX4, 55)) O (cC_lt (j := 0) hc (by decide)) rfl (fun _ _ => ⟨_, cCell_core hc⟩) (metc_Core_nextBelow _ g c hc r5 C5 C6 r6 e6) (lw_V q226 q227 q228 q63 q229) (by decide +kernel) (by decide) (by decide) rfl rfl (Nat.le_of_ble_eq_true rfl) dX4_running_69 (q := 72) rfl (b' := 3) rfl ?_
        refine v_if_ge O.1 dX4_running_72 (t := 76) (by decide) (q := 75) rfl (fun c7 => ?_) (fun c7 => ?_)
        · rw [if_pos c7] at h
          exact v_less (b' := 2) (by decide) (v_sub [1] rfl (bc_Core_running_76 hc O C6 h))
        · rw [if_neg c7] at h
          exact c_vret O h dX4_running_75
    · rw [if_neg c3] at h
      refine v_aload_n O.1 dX4_running_27 rfl (q := 28) rfl ?_
      refine v_iload_n O.1 dX4_running_28 rfl (q := 29) rfl ?_
      obtain ⟨C8, e8, h⟩ := stp_some h
      refine c_putC O hc 47 (u := r2) (ty := .int) (by decide) (by decide) (O.lk q926) rfl rfl rfl rfl rfl (fun _ => rfl) dX4_running_29 (q := 32) rfl e8 ?_
      refine v_aload_n O.1 dX4_running_32 rfl (q := 33) rfl ?_
      refine v_iconst O.1 dX4_running_33 (v := 0) rfl (q := 34) rfl ?_
      obtain ⟨C9, e9, h⟩ := stp_some h
      refine c_putC O hc 44 (u := 0) (ty := .boolean) (by decide) (by decide) (O.lk q920) rfl rfl rfl rfl rfl (fun _ => rfl) dX4_running_34 (q := 37) rfl e9 ?_
      refine v_aload_n O.1 dX4_running_37 rfl (q := 38) rfl ?_
      refine v_iconst O.1 dX4_running_38 (v := 0) rfl (q := 39) rfl ?_
      obtain ⟨C10, e10, h⟩ := stp_some h
      refine c_putC O hc 48 (u := 0) (ty := .boolean) (by decide) (by decide) (O.lk q927) rfl rfl rfl rfl rfl (fun _ => rfl) dX4_running_39 (q := 42) rfl e10 ?_
      refine v_aload_n O.1 dX4_running_42 rfl (q := 43) rfl ?_
      refine v_iconst O.1 dX4_running_43 (v := 0) rfl (q := 44) rfl ?_
      obtain ⟨C11, e11, h⟩ := stp_some h
      refine c_putC O hc 49 (u := 0) (ty := .boolean) (by decide) (by decide) (O.lk q928) rfl rfl rfl rfl rfl (fun _ => rfl) dX4_running_44 (q := 47) rfl e11 ?_
      refine v_aload_n O.1 dX4_running_47 rfl (q := 48) rfl ?_
      refine v_iconst O.1 dX4_running_48 (v := 1) rfl (q := 49) rfl ?_
      obtain ⟨r12, C12, e12, h⟩ := bnd_some h
      refine c_callVv (As := [.int 1]) (rest := []) (n := 1) (ci := 2) (p := (RX4, TX4, 55)) O (cC_lt (j := 0) hc (by decide)) rfl (fun _ _ => ⟨_, cCell_core hc⟩) (metc_Core_turns _ g c hc 1 C11 C12 r12 e12) (lw_V q238 q239 q240 q63 q241) (by decide +kernel) (by decide) (by decide) rfl rfl (Nat.le_of_ble_eq_true rfl) dX4_running_49 (q := 52) rfl (b' := 3) rfl ?_
      refine v_aload_n O.1 dX4_running_52 rfl (q := 53) rfl ?_
      obtain ⟨r13, C13, e13, h⟩ := bnd_some h
      refine c_callVv (As := []) (rest := []) (n := 0) (ci := 2) (p := (RX4, TX4, 55)) O (cC_lt (j := 0) hc (by decide)) rfl (fun _ _ => ⟨_, cCell_core hc⟩) (metc_Core_stacking _ g c hc C12 C13 r13 e13) (lw_V q242 q244 qs3 q63 q245) (by decide +kernel) (by decide) (by decide) rfl rfl (Nat.le_of_ble_eq_true rfl) dX4_running_53 (q := 56) rfl (b' := 0) rfl ?_
      exact c_vret O h dX4_running_56
  · rw [if_neg c1] at h
    refine v_aload_n O.1 dX4_running_7 rfl (q := 8) rfl ?_
    refine v_dup O.1 dX4_running_8 rfl (q := 9) rfl ?_
    refine c_getC O hc 43 (v := .int (C c 43)) (by decide) (O.lk q917) rfl (fun _ => rfl) dX4_running_9 (q := 12) rfl ?_
    refine v_iconst O.1 dX4_running_12 (v := 1) rfl (q := 13) rfl ?_
    refine v_isub O.1 dX4_running_13 (q := 14) rfl ?_
    obtain ⟨C14, e14, h⟩ := stp_some h
    refine c_putC O hc 43 (u := ((C c 43) - 1)) (ty := .int) (by decide) (by decide) (O.lk q917) rfl rfl rfl rfl rfl (fun _ => rfl) dX4_running_14 (q := 17) rfl e14 ?_
    exact c_vret O h dX4_running_17
theorem metc_Core_running (l : Launch) (g : gC) (c : Nat) (hc : cC c) (C C' : Mem) (r : Unit) (h : fc_Core_running c C = some (r, C')) : MetC l g yX4_running cX4_running 2 none 10 3 [.ref (gCa g c)] C (cQv g r C') :=
  c_met (by decide) rfl (Nat.le_of_ble_eq_true rfl) (fun X O => bc_Core_running hc O C h)
