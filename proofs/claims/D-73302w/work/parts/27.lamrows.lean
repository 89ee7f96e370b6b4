/-- a site, at a state that knows it -/
theorem KC.site {g : gC} {U : State} (hK : KC g U) {x : MethodName} {pc idx k : Nat} {σ : Lambda.Shape} {one : Option Nat} (hq : (x, pc, idx, σ, k, one) ∈ lamSites) : ∃ (d : ClassId) (dk : Class), U.vm.classes[d]? = some dk ∧ dk.name = x.cls ∧ Lambda.isMade lamE0 U.vm d σ (gCk g k) = true ∧ U.lambdaCallable σ (gCk g k) = true ∧ (∀ j, one = some j → ∃ cell, U.heap[gCo g j]? = some cell ∧ cell.cls = gCk g k ∧ cell.vm = .none) := by
  have h := hK.lam.1 _ hq
  obtain ⟨m, dk, cf, i0, p0, l, hm, hk, hcf, hsh, hin, hfind, hmade, hcall, hl⟩ := State.lambdaAt?_spec h
  obtain ⟨dk', hk', hn⟩ := className_of_methodNamed hm
  cases hk.symm.trans hk'
  refine ⟨m.cls, dk, hk, hn, hmade, hcall, fun j hj => ?_⟩
  subst hj
  rcases hl with ⟨a, cell, -, h1, -, hcell, hc, hv, -⟩ | ⟨-, h1, -⟩
  · cases h1
    exact ⟨cell, hcell, hc, hv⟩
  · cases h1
theorem lam_ready {s : State} {vm : Vm} (hW : s.WarmedH vm) {d c : ClassId} {dk : Class} {σ : Lambda.Shape} {caller : String} {bytes : ByteArray} {nF : Nat} {rt : Option FieldType} {mi ci nt cn : Nat} (hF : LamF σ caller bytes nF rt mi ci nt cn) (hd : s.vm.classes[d]? = some dk) (hdn : dk.name = caller) (hmade : Lambda.isMade lamE0 s.vm d σ c = true) {y : MethodName} (hy : y.cls = σ.implClass ∧ y.name = σ.implName ∧ y.desc = σ.implDesc.toString) (hym : y.cls ≠ "java/lang/invoke/MethodHandle" ∧ y.cls ≠ "java/lang/invoke/VarHandle") {mk : MethodId} (hn : s.methodNamed? y = some mk) :
    vm.methodReady c mi mk ∧ ∃ kc cf k', vm.classes[c]? = some kc ∧ kc.cf = some cf ∧ cf.constantPool[mi]? = some (.methodref ci nt) ∧ cf.constantPool.nameAndType? nt = some (σ.implName, σ.implDesc.toString) ∧ vm.classReady c ci mk.cls ∧ vm.classes[mk.cls]? = some k' ∧ k'.isInterface = σ.implItf := by
  obtain ⟨kD₁, hkD₁, heD₁⟩ := hW.alike.2.2 _ _ hd
  obtain ⟨k, tk, file, methk, ck, toy, t0, hk, -, hfile, hpool, -, -, -, -, -, -, -, htoy, htk, hitf, hlook, hready, hcr, hnt⟩ := lam_facts hF hkD₁ (by rw [heD₁]; exact hdn) (Lambda.isMade_warmer hW hmade)
  have hfT : vm.findClass σ.implClass = some mk.cls := by rw [hW.alike.findClass, ← hy.1]; exact findClass_of_methodNamed hn
  cases htoy.symm.trans hfT
  have ht : t0 = mk := by
    have h1 : (s.setVm vm).methodFound? y.cls y.name y.desc = some mk := by rw [State.methodFound?_setVm hW.alike]; exact State.methodFound?_of_named hn hym
    rw [hy.1, hy.2.1, hy.2.2] at h1
    simp only [State.methodFound?, State.vm_setVm, hfT, htk, Option.bind_eq_bind, Option.bind_some] at h1
    rw [hlook] at h1
    exact Option.some.inj h1
  subst ht
  exact ⟨hready, k, file, tk, hk, hfile, hpool, hnt, hcr, htk, hitf⟩
/-- what a made class's one method does -/
def Fwd (g : gC) (X : Cxt) (cls : ClassId) (bytes : ByteArray) (nF : Nat) (rt : Option FieldType) (a : Addr) (As : List Value) (C : Mem) (lvl mc : Nat) (Qc : Array Value → State → Outcome → State → Prop) : Prop := ∀ (U : State) (f : JFrame) (methk : Method) (ck : Code), WdC g C U.heap → (xs X).WarmedH U.vm → KC g U → ck.code = bytes → ck.maxLocals = nF → methk.locks = false → methk.sig.returnType = rt →
  W (xp X) (xl X) (xe X) (rmz lvl mc) (U.calling f ⟨cls, 1⟩ (Value.ref a :: As).toArray) ⟨cls, 1⟩ (Value.ref a :: As).toArray (.java f :: xb X) methk ck U.heap [] 0 0 (MQ (.java f :: xb X) Qc (Value.ref a :: As).toArray (U.calling f ⟨cls, 1⟩ (Value.ref a :: As).toArray) mc (8 * mc) (cA g)) (entryFrame ⟨cls, 1⟩ (Value.ref a :: As).toArray nF)
section CLAM
variable {g : gC} {X : Cxt} {cc : ByteArray} {nL b lvl mc : Nat} {ret : Option FieldType} {own : String} {Qc : Array Value → State → Outcome → State → Prop} {pc q : Nat} {lv : List (Nat × Value)} {st rest : List Value} {C C' : Mem}
theorem c_lami {r : Int32} (O : OkC g X cc nL ret own lvl mc Qc) {x y : MethodName} {pc0 ix k idx count nF mi ci nt cn lvl' b' mc' : Nat} {σ : Lambda.Shape} {one : Option Nat} {bytes : ByteArray} {rt : Option FieldType} {a : Addr} {As : List Value} (hq : (x, pc0, ix, σ, k, one) ∈ lamSites) (hF : LamF σ x.cls bytes nF rt mi ci nt cn) (hy : y ∈ lamFaces) (hx : y.cls = σ.iface ∧ y.name = σ.name ∧ y.desc = σ.sam.toString) (hl : Cond.methodLink own idx y ∈ lw_all) (hpn : plainName (x.cls ++ "$$Lambda") = true) (hobj : ∀ H lo, WdC g C H → va_S (xA X) (xs X).heap H lo → ∃ cell, H[a]? = some cell ∧ cell.cls = gCk g k ∧ cell.vm = .none) (hn : (parseMethodDescriptor y.desc).map (fun d => d.parameters.length) = some As.length) (hlv : lvl' + 1 ≤ lvl) (hnF : nF ≤ 40) (hB : Fwd g X (gCk g k) bytes nF rt a As C lvl' mc' (cQi g r C')) (hst : st = As.reverse ++ .ref a :: rest) (hr : (rest.map fun v => v.category).sum ≤ 8) (d : decode cc pc = .ok (.invokeinterface idx count, 5)) (hq' : pc + 5 = q) (hb : b' + mc' = b) (kk : V X nL b' (WdC g C') q lv (.int r :: rest)) : V X nL b (WdC g C) pc lv st := by
  subst hq'
  subst hst
  subst hb
  intro H lo ce sl ls h1 h2 h3 h4 h5
  have S2 := O.S h2
  obtain ⟨cell, hcell, hcls, hvm⟩ := hobj H lo h1 h2
  obtain ⟨d0, dk, hd, hdn, hmade, hcan, -⟩ := O.2.1.site hq
  rw [← hcls] at hmade hcan hB
  obtain ⟨hfr, hlo⟩ := c_room (maxL := nF) (mc' := mc') O hlv hnF
  have hrun := lam_run5 (p := xp X) (l := xl X) (e := xe X) (R := xR X) (R' := rmz lvl' mc') (s := xs X) (m := xm X) (args := xa X) (below := xb X) (meth := xh X) (c := xc X) (H := H) (locs := lo) (cells := ce) (slots := sl) (pc := pc) (ls := ls) (rest := rest) O.1.ex O.1.bc O.1.ow hF hd hdn hmade hcan hx (lamFaces_ok y hy) (idx := idx) (count := count) (O.1.ts _ hl) (O.2.1.lam.2.2 y hy) hpn hcell hvm (As := As) (fun sig h => by rw [h] at hn; exact (Option.some.inj hn).symm) hfr hlo ⟨by show ce + mc' ≤ _; omega, by show sl + 8 * mc' ≤ _; omega⟩ (Qc := cQi g r C') (free := cA g)
    (fun U f methk ck hU hWU e1 e2 e3 e4 => by subst hU; exact hB U f methk ck h1 hWU (O.2.1.moved S2 rfl hWU) e1 e2 e3 e4) (h5.1.trans O.1.ml.symm) hr d
  refine va_callFi (A1 := cA g) (A0 := cA g) hrun S2 (fun q _ h => h) (fun q h => h) (fun r1 u t H1 lo1 ht hvm hw hB1 hz hk hS1 => ?_)
  obtain ⟨rfl, rfl⟩ := hw
  exact kk H1 lo1 _ _ ls (by rw [← ht]; exact hB1) (by rw [O.2.2.1]; exact hS1) (by show ce + mc' + b' ≤ _; omega) (by show sl + 8 * mc' + 8 * b' ≤ _; omega) h5
theorem c_lamv {r : Unit} (O : OkC g X cc nL ret own lvl mc Qc) {x y : MethodName} {pc0 ix k idx count nF mi ci nt cn lvl' b' mc' : Nat} {σ : Lambda.Shape} {one : Option Nat} {bytes : ByteArray} {rt : Option FieldType} {a : Addr} {As : List Value} (hq : (x, pc0, ix, σ, k, one) ∈ lamSites) (hF : LamF σ x.cls bytes nF rt mi ci nt cn) (hy : y ∈ lamFaces) (hx : y.cls = σ.iface ∧ y.name = σ.name ∧ y.desc = σ.sam.toString) (hl : Cond.methodLink own idx y ∈ lw_all) (hpn : plainName (x.cls ++ "$$Lambda") = true) (hobj : ∀ H lo, WdC g C H → va_S (xA X) (xs X).heap H lo → ∃ cell, H[a]? = some cell ∧ cell.cls = gCk g k ∧ cell.vm = .none) (hn : (parseMethodDescriptor y.desc).map (fun d => d.parameters.length) = some As.length) (hlv : lvl' + 1 ≤ lvl) (hnF : nF ≤ 40) (hB : Fwd g X (gCk g k) bytes nF rt a As C lvl' mc' (cQv g r C')) (hst : st = As.reverse ++ .ref a :: rest) (hr : (rest.map fun v => v.category).sum ≤ 8) (d : decode cc pc = .ok (.invokeinterface idx count, 5)) (hq' : pc + 5 = q) (hb : b' + mc' = b) (kk : V X nL b' (WdC g C') q lv (rest)) : V X nL b (WdC g C) pc lv st := by
  subst hq'
  subst hst
  subst hb
  intro H lo ce sl ls h1 h2 h3 h4 h5
  have S2 := O.S h2
  obtain ⟨cell, hcell, hcls, hvm⟩ := hobj H lo h1 h2
  obtain ⟨d0, dk, hd, hdn, hmade, hcan, -⟩ := O.2.1.site hq
  rw [← hcls] at hmade hcan hB
  obtain ⟨hfr, hlo⟩ := c_room (maxL := nF) (mc' := mc') O hlv hnF
  have hrun := lam_run5 (p := xp X) (l := xl X) (e := xe X) (R := xR X) (R' := rmz lvl' mc') (s := xs X) (m := xm X) (args := xa X) (below := xb X) (meth := xh X) (c := xc X) (H := H) (locs := lo) (cells := ce) (slots := sl) (pc := pc) (ls := ls) (rest := rest) O.1.ex O.1.bc O.1.ow hF hd hdn hmade hcan hx (lamFaces_ok y hy) (idx := idx) (count := count) (O.1.ts _ hl) (O.2.1.lam.2.2 y hy) hpn hcell hvm (As := As) (fun sig h => by rw [h] at hn; exact (Option.some.inj hn).symm) hfr hlo ⟨by show ce + mc' ≤ _; omega, by show sl + 8 * mc' ≤ _; omega⟩ (Qc := cQv g r C') (free := cA g)
    (fun U f methk ck hU hWU e1 e2 e3 e4 => by subst hU; exact hB U f methk ck h1 hWU (O.2.1.moved S2 rfl hWU) e1 e2 e3 e4) (h5.1.trans O.1.ml.symm) hr d
  refine va_callFv (A1 := cA g) (A0 := cA g) hrun S2 (fun q _ h => h) (fun q h => h) (fun u t H1 lo1 ht hvm hw hB1 hz hk hS1 => ?_)
  subst hw
  exact kk H1 lo1 _ _ ls (by rw [← ht]; exact hB1) (by rw [O.2.2.1]; exact hS1) (by show ce + mc' + b' ≤ _; omega) (by show sl + 8 * mc' + 8 * b' ≤ _; omega) h5
end CLAM
def bP : ByteArray := ⟨#[0x2a, 0xb4, 0x00, 0x0f, 0xb6, 0x00, 0x15, 0xb1]⟩
def bE : ByteArray := ⟨#[0x2a, 0xb4, 0x00, 0x0f, 0x1b, 0x1c, 0xb6, 0x00, 0x16, 0xac]⟩
def bL : ByteArray := ⟨#[0x1b, 0x1c, 0xb8, 0x00, 0x11, 0xac]⟩
def bC : ByteArray := ⟨#[0x1b, 0xb8, 0x00, 0x11, 0xac]⟩
def bA : ByteArray := ⟨#[0x2a, 0xb4, 0x00, 0x0f, 0x2b, 0x2c, 0xb8, 0x00, 0x17, 0xac]⟩
theorem dbP_0 : decode bP 0 = .ok (.aload_n 0, 1) := by decide +kernel
theorem dbP_1 : decode bP 1 = .ok (.getfield 15, 3) := by decide +kernel
theorem dbP_4 : decode bP 4 = .ok (.invokevirtual 21, 3) := by decide +kernel
theorem dbP_7 : decode bP 7 = .ok (.return_, 1) := by decide +kernel
theorem dbE_0 : decode bE 0 = .ok (.aload_n 0, 1) := by decide +kernel
theorem dbE_1 : decode bE 1 = .ok (.getfield 15, 3) := by decide +kernel
theorem dbE_4 : decode bE 4 = .ok (.iload_n 1, 1) := by decide +kernel
theorem dbE_5 : decode bE 5 = .ok (.iload_n 2, 1) := by decide +kernel
theorem dbE_6 : decode bE 6 = .ok (.invokevirtual 22, 3) := by decide +kernel
theorem dbE_9 : decode bE 9 = .ok (.ireturn, 1) := by decide +kernel
theorem dbL_0 : decode bL 0 = .ok (.iload_n 1, 1) := by decide +kernel
theorem dbL_1 : decode bL 1 = .ok (.iload_n 2, 1) := by decide +kernel
theorem dbL_2 : decode bL 2 = .ok (.invokestatic 17, 3) := by decide +kernel
theorem dbL_5 : decode bL 5 = .ok (.ireturn, 1) := by decide +kernel
theorem dbC_0 : decode bC 0 = .ok (.iload_n 1, 1) := by decide +kernel
theorem dbC_1 : decode bC 1 = .ok (.invokestatic 17, 3) := by decide +kernel
theorem dbC_4 : decode bC 4 = .ok (.ireturn, 1) := by decide +kernel
theorem dbA_0 : decode bA 0 = .ok (.aload_n 0, 1) := by decide +kernel
theorem dbA_1 : decode bA 1 = .ok (.getfield 15, 3) := by decide +kernel
theorem dbA_4 : decode bA 4 = .ok (.aload_n 1, 1) := by decide +kernel
theorem dbA_5 : decode bA 5 = .ok (.aload_n 2, 1) := by decide +kernel
theorem dbA_6 : decode bA 6 = .ok (.invokestatic 23, 3) := by decide +kernel
theorem dbA_9 : decode bA 9 = .ok (.ireturn, 1) := by decide +kernel
theorem lf_running : LamF (lshP "running") "RankEntry$Core" bP 1 none 21 18 20 17 := LamF.mk (by decide +kernel) (by decide +kernel) (by decide +kernel) (by decide +kernel) (by decide +kernel) (by decide +kernel)
theorem lg_running : LamG (lshP "running") "RankEntry$Core" 15 2 14 := LamG.mk (desc := "LRankEntry$Core;") (by decide +kernel) (by decide +kernel) (by decide +kernel) (by decide +kernel) (by decide +kernel) (by decide +kernel)
theorem lf_stacking : LamF (lshP "stacking") "RankEntry$Core" bP 1 none 21 18 20 17 := LamF.mk (by decide +kernel) (by decide +kernel) (by decide +kernel) (by decide +kernel) (by decide +kernel) (by decide +kernel)
theorem lg_stacking : LamG (lshP "stacking") "RankEntry$Core" 15 2 14 := LamG.mk (desc := "LRankEntry$Core;") (by decide +kernel) (by decide +kernel) (by decide +kernel) (by decide +kernel) (by decide +kernel) (by decide +kernel)
theorem lf_chaining : LamF (lshP "chaining") "RankEntry$Core" bP 1 none 21 18 20 17 := LamF.mk (by decide +kernel) (by decide +kernel) (by decide +kernel) (by decide +kernel) (by decide +kernel) (by decide +kernel)
theorem lg_chaining : LamG (lshP "chaining") "RankEntry$Core" 15 2 14 := LamG.mk (desc := "LRankEntry$Core;") (by decide +kernel) (by decide +kernel) (by decide +kernel) (by decide +kernel) (by decide +kernel) (by decide +kernel)
theorem lf_unstacking : LamF (lshP "unstacking") "RankEntry$Core" bP 1 none 21 18 20 17 := LamF.mk (by decide +kernel) (by decide +kernel) (by decide +kernel) (by decide +kernel) (by decide +kernel) (by decide +kernel)
theorem lg_unstacking : LamG (lshP "unstacking") "RankEntry$Core" 15 2 14 := LamG.mk (desc := "LRankEntry$Core;") (by decide +kernel) (by decide +kernel) (by decide +kernel) (by decide +kernel) (by decide +kernel) (by decide +kernel)
theorem lf_saving : LamF (lshP "saving") "RankEntry$Core" bP 1 none 21 18 20 17 := LamF.mk (by decide +kernel) (by decide +kernel) (by decide +kernel) (by decide +kernel) (by decide +kernel) (by decide +kernel)
theorem lg_saving : LamG (lshP "saving") "RankEntry$Core" 15 2 14 := LamG.mk (desc := "LRankEntry$Core;") (by decide +kernel) (by decide +kernel) (by decide +kernel) (by decide +kernel) (by decide +kernel) (by decide +kernel)
theorem lf_locked : LamF (lshP "locked") "RankEntry$Core" bP 1 none 21 18 20 17 := LamF.mk (by decide +kernel) (by decide +kernel) (by decide +kernel) (by decide +kernel) (by decide +kernel) (by decide +kernel)
theorem lg_locked : LamG (lshP "locked") "RankEntry$Core" 15 2 14 := LamG.mk (desc := "LRankEntry$Core;") (by decide +kernel) (by decide +kernel) (by decide +kernel) (by decide +kernel) (by decide +kernel) (by decide +kernel)
theorem lf_E : LamF lshE "RankEntry$Core" bE 3 (some .int) 22 19 21 18 := LamF.mk (by decide +kernel) (by decide +kernel) (by decide +kernel) (by decide +kernel) (by decide +kernel) (by decide +kernel)
theorem lg_E : LamG lshE "RankEntry$Core" 15 2 14 := LamG.mk (desc := "LRankEntry$Core;") (by decide +kernel) (by decide +kernel) (by decide +kernel) (by decide +kernel) (by decide +kernel) (by decide +kernel)
theorem lf_L : LamF lshL "RankEntry$Core" bL 3 (some .int) 17 14 16 13 := LamF.mk (by decide +kernel) (by decide +kernel) (by decide +kernel) (by decide +kernel) (by decide +kernel) (by decide +kernel)
theorem lf_C2 : LamF (lshC "lambda$new$2") "RankEntry$Core" bC 2 (some .boolean) 17 14 16 13 := LamF.mk (by decide +kernel) (by decide +kernel) (by decide +kernel) (by decide +kernel) (by decide +kernel) (by decide +kernel)
theorem lf_C3 : LamF (lshC "lambda$new$3") "RankEntry$Core" bC 2 (some .boolean) 17 14 16 13 := LamF.mk (by decide +kernel) (by decide +kernel) (by decide +kernel) (by decide +kernel) (by decide +kernel) (by decide +kernel)
theorem lf_A : LamF lshA "RankEntry" bA 3 (some .boolean) 23 19 22 18 := LamF.mk (by decide +kernel) (by decide +kernel) (by decide +kernel) (by decide +kernel) (by decide +kernel) (by decide +kernel)
theorem lg_A : LamG lshA "RankEntry" 15 2 14 := LamG.mk (desc := "I") (by decide +kernel) (by decide +kernel) (by decide +kernel) (by decide +kernel) (by decide +kernel) (by decide +kernel)
