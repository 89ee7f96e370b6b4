theorem inO_k {t : Int32} (h : inO t = true) : ∃ k, k < 29 ∧ t = nI (k + 1) := by
  have hl := inO_lt h
  simp only [inO, Bool.and_eq_true, decide_eq_true_eq] at h
  have h1 := Int32.le_iff_toInt_le.mp h.1
  have h2 := Int32.le_iff_toInt_le.mp h.2
  have h0 : ¬ t < 0 := by
    rw [Int32.lt_iff_toInt_lt]
    have : (1 : Int32).toInt = 1 := rfl
    have : (0 : Int32).toInt = 0 := rfl
    omega
  have e1 := toNatClampNeg_of_not_neg32 t h0
  have : (29 : Int32).toInt = 29 := rfl
  have : (1 : Int32).toInt = 1 := rfl
  refine ⟨t.toNatClampNeg - 1, hl, ?_⟩
  have e2 : t.toNatClampNeg - 1 + 1 = t.toNatClampNeg := by omega
  rw [e2]
  have h9 : t.toNatClampNeg < 2 ^ 31 := by omega
  have e3 := nI_clamp h9
  have h8 : ¬ nI t.toNatClampNeg < 0 := fun z => nI_in (N := t.toNatClampNeg + 1) (by omega) (by omega) (Or.inl z)
  have e4 := toNatClampNeg_of_not_neg32 (nI t.toNatClampNeg) h8
  rw [e3] at e4
  exact Int32.toInt_inj.mp (e1.symm.trans e4)
section COPC
variable {g : gC} {X : Cxt} {cc : ByteArray} {nL b lvl mc : Nat} {ret : Option FieldType} {own : String} {Qc : Array Value → State → Outcome → State → Prop} {pc q : Nat} {lv : List (Nat × Value)} {st rest : List Value} {C C' C1 : Mem} {c : Nat}
theorem c_recvO (O : OkC g X cc nL ret own lvl mc Qc) {H : Heap} {lo : List Loc} {k : Nat} (hk : k < 29) {Cn : String} (hCn : opN.getD k "" = Cn) (h2 : va_S (xA X) (xs X).heap H lo) : ∃ cell : Cell, H[gCo g k]? = some cell ∧ cell.vm.isStatics = false ∧ (xs X).vm.findClass Cn = some cell.cls := by
  obtain ⟨cell, z1, z2, z3, -⟩ := (O.2.1.ops k hk).1.kept (O.S h2).2.1
  subst hCn
  exact ⟨cell, z1, z2, z3⟩
/-- a call by the receiver's class, the callee walked there and then (its class need not be known as initialized) -/
theorem o_run {p : Program} {l : Launch} {e : Env} {R R' : Room} {s : State} {m : MethodId} {args : Array Value} {below : List Frame} {meth : Method} {c : Code} {H : Heap} {locs : List Loc} {cells slots : Nat} {cc : ByteArray} {pc : Nat} {ls : Array Slot} {rest : List Value} (hexec : p.tables.exec = Jvm.exec) (hb : c.code = cc) {own Cn owner : String} {index maxL : Nat} {x y : MethodName} {bytes : ByteArray} {ret : Option FieldType}
    (hown : s.vm.findClass own = some m.cls) (hlink : (Cond.methodLink own index x).before args s = true) (hsame : (Cond.sameMethod x.cls owner x.name x.desc).before args s = true) (hd0 : va_Decl s ⟨owner, x.name, x.desc⟩) (howner : owner ≠ "java/lang/invoke/MethodHandle" ∧ owner ≠ "java/lang/invoke/VarHandle")
    (hsel : (Cond.selects Cn x y).before args s = true) (hinst : (Cond.instanceMethod y).before args s = true) (hcode : (Cond.code y bytes maxL ret).before args s = true) (hpn : plainName y.cls = true)
    {b : Addr} {cellB : Cell} (hcell : H[b]? = some cellB) (hobj : cellB.vm.isStatics = false) (hcls : s.vm.findClass Cn = some cellB.cls) {As : List Value} (hlen : ∀ sig, parseMethodDescriptor x.desc = some sig → As.length = sig.parameters.length)
    (hfr : R'.frames + 1 ≤ R.frames) (hlo : 8 + (maxL + 11) + R'.locals ≤ R.locals) (hf : cells + R'.cells ≤ R.cells ∧ slots + R'.slots ≤ R.slots) {Qc : Array Value → State → Outcome → State → Prop} {XC : String → Nat → State → State → Prop} {free : Addr → Prop} (hret : ∀ a st o t, Qc a st o t → ∃ v, o = .returned v)
    (body : ∀ (U : State) (f : JFrame) (mk : MethodId) (methk : Method) (ck : Code), U.heap = H → s.WarmedH U.vm → U.vm.findClass y.cls = some mk.cls → ck.code = bytes → ck.maxLocals = maxL → methk.locks = false → methk.sig.returnType = ret → (∀ z ∈ ck.exceptionTable.toList, False) →
      W p l e R' (U.calling f mk (Value.ref b :: As).toArray) mk (Value.ref b :: As).toArray (.java f :: below) methk ck H [] 0 0 (vx_MQ (.java f :: below) Qc XC (Value.ref b :: As).toArray (U.calling f mk (Value.ref b :: As).toArray) R'.cells R'.slots free) (entryFrame mk (Value.ref b :: As).toArray maxL))
    (hsize : ls.size = c.maxLocals) (hW : (rest.map fun v => v.category).sum ≤ 8) (hdg : decode cc pc = .ok (.invokevirtual index, 3)) :
    vx_Run p l e R s m args below meth c H locs cells slots R'.cells R'.slots (F0 m pc ls (As.reverse ++ .ref b :: rest)) rest (Qc (Value.ref b :: As).toArray) XC free := by
  intro T hT X
  obtain ⟨r0, r, hn, hrm, hstR, hsigR⟩ := hd0
  obtain ⟨cn, ck0, r1, hcn, hck0, hni, hf0, hn1⟩ := Cond.sameMethod_found hsame
  cases hn.symm.trans hn1
  obtain ⟨mk, methM, hnamed, hmethM, -, habM⟩ := Cond.instanceMethod_spec hinst
  obtain ⟨methM', cM, hmethM', hcM, hbM, hlM, hrM, hkM, htM, -⟩ := Cond.code_spec hnamed hcode
  cases hmethM.symm.trans hmethM'
  obtain ⟨c2, r2, m2, q1, q2, q3, q4, kP, hkP, hkPi⟩ := Cond.selects_spec hsel
  cases hcls.symm.trans q1
  cases hf0.symm.trans q2
  cases hnamed.symm.trans q3
  have hselP : selectMethod e.platform s.vm cellB.cls r0 = .method mk := by rw [Launch.admits_selectMethod X.admits]; exact q4
  obtain ⟨vm₁, X₁, hstep₁⟩ := X.invokevirtualUp hexec hown hlink hsame howner hn hrm hstR (a := b) (cell := cellB) (by rw [hT]; exact hcell)
    (fun z h => by rw [h] at hobj; cases hobj) hselP hmethM habM hkP hkPi (g := F0 m pc ls (As.reverse ++ .ref b :: rest)) rfl (argsL := As) (rest := rest) (hlen _ hsigR) rfl (by rw [hb]; exact hdg)
  have hW₁ : s.WarmedH vm₁ := X₁.warmed
  have hmk₁ : (T.setVm vm₁).vm.method? mk = some methM := by
    show vm₁.method? mk = _
    rw [hW₁.alike.method?]
    exact hmethM
  obtain ⟨kn, hkn, hknn⟩ := className_of_methodNamed hnamed
  have hpk : (T.setVm vm₁).plainMethod mk := State.plainMethod.of_name (fun k' hk' => by
    obtain ⟨k9, hk9, he9⟩ := hW₁.alike.2.2 _ _ hkn
    cases hk9.symm.trans hk'
    have : k'.name = y.cls := by rw [he9]; exact hknn
    rw [this]
    exact hpn)
  obtain ⟨Y, hin⟩ := X₁.into (g := F0 m pc ls rest) rfl hsize (by rw [hb]; exact hdg) (Value.ref b :: As).toArray (R' := R') hmk₁ hcM hkM hpk hfr (by rw [hlM]; show 2 * 0 + (rest.map fun v => v.category).sum + (maxL + 11) + R'.locals ≤ _; omega) hf.1 hf.2
  obtain ⟨t, hst, o, hrun, hend, hq⟩ := body (T.setVm vm₁) (F0 m pc ls rest) mk methM cM hT hW₁ (by show vm₁.findClass _ = _; rw [hW₁.alike.findClass]; exact findClass_of_methodNamed hnamed) hbM hlM hkM hrM (fun z hz => by rw [Array.isEmpty_iff.mp htM] at hz; cases hz) (((T.setVm vm₁).setTop (F0 m pc ls rest)).pushFrame (.java (entryFrame mk (Value.ref b :: As).toArray cM.maxLocals))) hT Y
  have hgo : ∀ target, Steps p.tables e below t target → Steps p.tables e below (T.setTop (F0 m pc ls (As.reverse ++ .ref b :: rest))) target := fun target h => hstep₁ _ fun acts => by
    rw [hin acts]
    rw [hlM] at hst ⊢
    exact (Steps.weaken (mid := [.java (F0 m pc ls rest)]) hst).trans h
  rcases hq with ⟨hq, L, hE, hL⟩ | ⟨q, rfl, E, ce, L, hx, hce, hcv, hcl, hWe, hsame', hL⟩
  · obtain ⟨⟨v, rfl⟩, hWe, hsame'⟩ := hE
    obtain ⟨T', X', hW', -, ht⟩ := X₁.outOf (g := F0 m pc ls rest) rfl (by rw [hb]; exact hdg) hend hWe hsame'
    refine Or.inl ⟨v, (T.setVm vm₁).calling (F0 m pc ls rest) mk (Value.ref b :: As).toArray, t, T', L, hT, X', hL, by rw [ht]; rfl, by rw [ht]; rfl, hq, fun target h => hgo target ?_⟩
    rw [ht]
    exact h
  · obtain ⟨T', X', hW', -, ht⟩ := X₁.outOfThrown (g := F0 m pc ls rest) rfl hend hWe hsame'
    refine Or.inr ⟨q, (T.setVm vm₁).calling (F0 m pc ls rest) mk (Value.ref b :: As).toArray, t, T', L, E, ce, hT, X', hL, by rw [ht]; rfl, by rw [ht]; rfl, hx, hce, hcv, ?_, ?_⟩
    · have h9 : vm₁.findClass E = some ce.cls := hcl
      rw [hW₁.alike.findClass] at h9
      exact h9
    · rw [← ht]
      exact hgo _ (Steps.refl _)
/-- what such a call asks of the words -/
def oW (own Cn owner : String) (idx : Nat) (x y : MethodName) (by_ : ByteArray) (maxL : Nat) (rt : Option FieldType) (s : State) (n : Nat) : Prop := Cond.methodLink own idx x ∈ lw_all ∧ Cond.sameMethod x.cls owner x.name x.desc ∈ lw_all ∧ va_Decl s ⟨owner, x.name, x.desc⟩ ∧ (owner ≠ "java/lang/invoke/MethodHandle" ∧ owner ≠ "java/lang/invoke/VarHandle") ∧ Cond.selects Cn x y ∈ lw_all ∧ Cond.instanceMethod y ∈ lw_all ∧ Cond.code y by_ maxL rt ∈ lw_all ∧ plainName y.cls = true ∧ (parseMethodDescriptor x.desc).map (fun d => d.parameters.length) = some n
theorem o_okc (O : OkC g X cc nL ret own lvl mc Qc) {H : Heap} {lo : List Loc} (h2 : va_S (xA X) (xs X).heap H lo) {y : MethodName} {by_ : ByteArray} {maxL lvl' mc' : Nat} {rt : Option FieldType} {Qd : Array Value → State → Outcome → State → Prop} {XC : String → Nat → State → State → Prop} {as : List Value} {U : State} {f : JFrame} {mk : MethodId} {methk : Method} {ck : Code} (hU : U.heap = H) (hW : (xs X).WarmedH U.vm) (hfc : U.vm.findClass y.cls = some mk.cls) (hbc : ck.code = by_) (hml : ck.maxLocals = maxL) (hlk : methk.locks = false) (hrt : methk.sig.returnType = rt) :
    OkC g (xp X, xl X, xe X, rmz lvl' mc', U.calling f mk as.toArray, mk, as.toArray, .java f :: xb X, methk, ck, vx_MQ (.java f :: xb X) Qd XC as.toArray (U.calling f mk as.toArray) mc' (8 * mc') (cA g), cA g) by_ maxL rt y.cls lvl' mc' Qd :=
  ⟨⟨O.1.ex, hbc, hml, hfc, O.tsAt hW, hrt, hlk, rfl⟩, (O.2.1.moved (O.S h2) hU hW).calling, rfl, fun t h => by
    obtain ⟨o, b1, b2, b3, b4⟩ := h
    exact ⟨o, b1, b2, Or.inl ⟨b3, b4⟩⟩⟩
theorem c_callOi {r : Int32} (O : OkC g X cc nL ret own lvl mc Qc) {idx maxL n lvl' b' mc' k : Nat} {x y : MethodName} {owner Cn : String} {by_ : ByteArray} {rt : Option FieldType} {As : List Value} (hk : k < 29) (hCn : opN.getD k "" = Cn) (hB : ∀ X', OkC g X' by_ maxL rt y.cls lvl' mc' (cQi g r C') → V X' maxL mc' (WdC g C) 0 (lv_args 0 (.ref (gCo g k) :: As)) []) (hlenA : (lg_sl (.ref (gCo g k) :: As)).length ≤ maxL) (hG : oW own Cn owner idx x y by_ maxL rt (xs X) n) (hlv : lvl' + 1 ≤ lvl) (hml : maxL ≤ 40) (hn : As.length = n) (hst : st = As.reverse ++ .ref (gCo g k) :: rest) (hr : (rest.map fun v => v.category).sum ≤ 8) (d : decode cc pc = .ok (.invokevirtual idx, 3)) (hq : pc + 3 = q) (hb : b' + mc' = b) (kk : V X nL b' (WdC g C') q lv (.int r :: rest)) : V X nL b (WdC g C) pc lv st := by
  subst hq
  subst hst
  subst hb
  intro H lo ce sl ls h1 h2 h3 h4 h5
  have S2 := O.S h2
  have hts := O.1.ts
  obtain ⟨w1, w2, w3, w4, w5, w6, w7, w8, w9⟩ := hG
  obtain ⟨cellB, hcB, hoB, hclB⟩ := c_recvO O hk hCn h2
  obtain ⟨hfr, hlo⟩ := c_room (maxL := maxL) (mc' := mc') O hlv hml
  have hrun := o_run (p := xp X) (l := xl X) (e := xe X) (R := xR X) (R' := rmz lvl' mc') (s := xs X) (m := xm X) (args := xa X) (below := xb X) (meth := xh X) (c := xc X) (H := H) (locs := lo) (cells := ce) (slots := sl) (pc := pc) (ls := ls) (rest := rest) (Qc := cQi g r C') (XC := xX g 0 (Sum.inl r : Int32 ⊕ Int32) C') (free := cA g) O.1.ex O.1.bc O.1.ow (hts _ w1) (hts _ w2) w3 w4 (hts _ w5) (hts _ w6) (hts _ w7) w8 hcB hoB hclB (As := As) (fun sig h => by rw [h] at w9; exact hn.trans (Option.some.inj w9).symm) hfr hlo ⟨by show ce + mc' ≤ _; omega, by show sl + 8 * mc' ≤ _; omega⟩ (fun a st o t hh => by obtain ⟨⟨r', u, h', -⟩, -⟩ := hh; exact ⟨_, h'⟩)
    (fun U f mk methk ck hU hW hfc hbc hml1 hlk hrt htab => by
      rw [lg_entry_eq]
      exact hB _ (o_okc O h2 hU hW hfc hbc hml1 hlk hrt) H [] 0 0 _ h1 (by rw [← hU]; exact va_S.rf) (by rw [Nat.zero_add]; exact Nat.le_refl _) (by rw [Nat.zero_add]; exact Nat.le_refl _) (lv_entry _ hlenA)) (h5.1.trans O.1.ml.symm) hr d
  refine vx_calli (A1 := cA g) (A0 := cA g) (AX := cA g) hrun S2 (fun q _ h => h) (fun q h => h) (fun q _ h => h) (fun E ce' q9 u t H1 lo1 ht hA hp hB => by obtain ⟨f, hf, -⟩ := hB; cases hf) (fun r1 u t H1 lo1 ht hvm hw hB1 hz hk hS1 => ?_)
  obtain ⟨rfl, rfl⟩ := hw
  exact kk H1 lo1 _ _ ls (by rw [← ht]; exact hB1) (by rw [O.2.2.1]; exact hS1) (by show ce + mc' + b' ≤ _; omega) (by show sl + 8 * mc' + 8 * b' ≤ _; omega) h5
theorem x_runO (O : OkC g X cc nL ret own lvl mc Qc) {rr : Unit ⊕ Int32} {H : Heap} {lo : List Loc} {ce sl : Nat} {ls : Array Slot} {idx maxL n lvl' mc' k c0 : Nat} {x y : MethodName} {owner Cn : String} {by_ : ByteArray} {As : List Value} (hk : k < 29) (hCn : opN.getD k "" = Cn) (hB : ∀ X', OkX g c0 X' by_ maxL none y.cls lvl' mc' (xQv g rr C1) rr C1 → V X' maxL mc' (WdC g C) 0 (lv_args 0 (.ref (gCo g k) :: As)) []) (hlenA : (lg_sl (.ref (gCo g k) :: As)).length ≤ maxL) (hG : oW own Cn owner idx x y by_ maxL none (xs X) n) (hlv : lvl' + 1 ≤ lvl) (hml : maxL ≤ 40) (hn : As.length = n) (hr : (rest.map fun v => v.category).sum ≤ 8) (d : decode cc pc = .ok (.invokevirtual idx, 3)) (h1 : WdC g C H) (h2 : va_S (xA X) (xs X).heap H lo) (hf : ce + mc' ≤ (xR X).cells ∧ sl + 8 * mc' ≤ (xR X).slots) (h5 : ls.size = (xc X).maxLocals) : vx_Run (xp X) (xl X) (xe X) (xR X) (xs X) (xm X) (xa X) (xb X) (xh X) (xc X) H lo ce sl mc' (8 * mc') (F0 (xm X) pc ls (As.reverse ++ .ref (gCo g k) :: rest)) rest (xQv g rr C1 (Value.ref (gCo g k) :: As).toArray) (xX g c0 rr C1) (cA g) := by
  have hts := O.1.ts
  obtain ⟨w1, w2, w3, w4, w5, w6, w7, w8, w9⟩ := hG
  obtain ⟨cellB, hcB, hoB, hclB⟩ := c_recvO O hk hCn h2
  obtain ⟨hfr, hlo⟩ := c_room (maxL := maxL) (mc' := mc') O hlv hml
  exact o_run (p := xp X) (l := xl X) (e := xe X) (R := xR X) (R' := rmz lvl' mc') (s := xs X) (m := xm X) (args := xa X) (below := xb X) (meth := xh X) (c := xc X) (H := H) (locs := lo) (cells := ce) (slots := sl) (pc := pc) (ls := ls) (rest := rest) (Qc := xQv g rr C1) (XC := xX g c0 rr C1) (free := cA g) O.1.ex O.1.bc O.1.ow (hts _ w1) (hts _ w2) w3 w4 (hts _ w5) (hts _ w6) (hts _ w7) w8 hcB hoB hclB (As := As) (fun sig h => by rw [h] at w9; exact hn.trans (Option.some.inj w9).symm) hfr hlo hf (fun a st o t hh => by obtain ⟨⟨u, h', -⟩, -⟩ := hh; exact ⟨_, h'⟩)
    (fun U f mk methk ck hU hW hfc hbc hml1 hlk hrt htab => by
      rw [lg_entry_eq]
      exact hB _ ⟨o_okc O h2 hU hW hfc hbc hml1 hlk hrt, fun _ h => h, htab⟩ H [] 0 0 _ h1 (by rw [← hU]; exact va_S.rf) (by rw [Nat.zero_add]; exact Nat.le_refl _) (by rw [Nat.zero_add]; exact Nat.le_refl _) (lv_entry _ hlenA)) h5 hr d
theorem x_callOv {r : Unit} (O : OkC g X cc nL ret own lvl mc Qc) {idx maxL n lvl' b' mc' k c0 : Nat} {x y : MethodName} {owner Cn : String} {by_ : ByteArray} {As : List Value} (hk : k < 29) (hCn : opN.getD k "" = Cn) (hB : ∀ X', OkX g c0 X' by_ maxL none y.cls lvl' mc' (xQv g (.inl r) C') (Sum.inl r : Unit ⊕ Int32) C' → V X' maxL mc' (WdC g C) 0 (lv_args 0 (.ref (gCo g k) :: As)) []) (hlenA : (lg_sl (.ref (gCo g k) :: As)).length ≤ maxL) (hG : oW own Cn owner idx x y by_ maxL none (xs X) n) (hlv : lvl' + 1 ≤ lvl) (hml : maxL ≤ 40) (hn : As.length = n) (hst : st = As.reverse ++ .ref (gCo g k) :: rest) (hr : (rest.map fun v => v.category).sum ≤ 8) (d : decode cc pc = .ok (.invokevirtual idx, 3)) (hq : pc + 3 = q) (hb : b' + mc' = b) (kk : V X nL b' (WdC g C') q lv rest) : V X nL b (WdC g C) pc lv st := by
  subst hq
  subst hst
  subst hb
  intro H lo ce sl ls h1 h2 h3 h4 h5
  have S2 := O.S h2
  refine vx_callv (A1 := cA g) (A0 := cA g) (AX := cA g) (x_runO O hk hCn hB hlenA hG hlv hml hn hr d h1 h2 ⟨by omega, by omega⟩ (h5.1.trans O.1.ml.symm)) S2 (fun q _ h => h) (fun q h => h) (fun q _ h => h) (fun E ce' q9 u t H1 lo1 ht hA hp hB => by obtain ⟨f, hf, -⟩ := hB; cases hf) (fun u t H1 lo1 ht hvm hw hB1 hz1 hk1 hS1 => ?_)
  obtain ⟨e1, rfl⟩ := hw
  exact kk H1 lo1 _ _ ls (by rw [← ht]; exact hB1) (by rw [O.2.2.1]; exact hS1) (by omega) (by omega) h5
theorem x_callOtv {α : Type} {f : Int32} {r : α ⊕ Int32} (OX : OkX g c X cc nL ret own lvl mc Qc r C') (hc : cC c) {idx maxL n lvl' mc' k : Nat} {x y : MethodName} {owner Cn : String} {by_ : ByteArray} {As : List Value} (hk : k < 29) (hCn : opN.getD k "" = Cn) (hB : ∀ X', OkX g c X' by_ maxL none y.cls lvl' mc' (xQv g (.inr f) C1) (Sum.inr f : Unit ⊕ Int32) C1 → V X' maxL mc' (WdC g C) 0 (lv_args 0 (.ref (gCo g k) :: As)) []) (hlenA : (lg_sl (.ref (gCo g k) :: As)).length ≤ maxL) (hG : oW own Cn owner idx x y by_ maxL none (xs X) n) (hlv : lvl' + 1 ≤ lvl) (hml : maxL ≤ 40) (hn : As.length = n) (hst : st = As.reverse ++ .ref (gCo g k) :: rest) (hr : (rest.map fun v => v.category).sum ≤ 8) (d : decode cc pc = .ok (.invokevirtual idx, 3)) (hb : mc' ≤ b) (h : (r, C') = ((Sum.inr f : α ⊕ Int32), C1)) : V X nL b (WdC g C) pc lv st := by
  have O := OX.1
  subst hst
  intro H lo ce sl ls h1 h2 h3 h4 h5
  have S2 := O.S h2
  have h3' := h3
  have h4' := h4
  rw [O.1.rm] at h3' h4'
  have hf' : ce + mc' ≤ mc ∧ sl + 8 * mc' ≤ 8 * mc := ⟨Nat.le_trans (Nat.add_le_add_left hb _) h3', Nat.le_trans (Nat.add_le_add_left (Nat.mul_le_mul_left 8 hb) _) h4'⟩
  refine vx_callv (A1 := cA g) (A0 := cA g) (AX := cA g) (x_runO O hk hCn hB hlenA hG hlv hml hn hr d h1 h2 ⟨by omega, by omega⟩ (h5.1.trans O.1.ml.symm)) S2 (fun q _ h => h) (fun q h => h) (fun q _ h => h) (fun E ce' q9 u t H1 lo1 ht hA hp hB z1 z2 hS1 z3 z4 z5 => ?_) (fun u t H1 lo1 ht hvm hw hB hz hk hS1 => by obtain ⟨e1, -⟩ := hw; cases e1)
  obtain ⟨f', hf, hT, -, hq9, hW⟩ := hB
  cases hf
  subst hp
  subst hq9
  exact x_out OX hc hT ⟨congrArg Prod.fst h, congrArg Prod.snd h⟩ (by rw [← ht]; exact hW) (by rw [O.2.2.1]; exact hS1) hf'.1 hf'.2
end COPC
/-! RankEntry$Op.isFloat()Z -/
def fc_Op_isFloat (t0 : Int32)  (C : Mem) : Option (Int32 × Mem) :=
  some (0, C)
set_option maxHeartbeats 4000000 in
theorem bc_Op_isFloat {g : gC} {X : Cxt} {r : Int32} {C' : Mem} {t0 : Int32} (ht0 : inO t0 = true) (O : OkC g X cX3_isFloat 1 (some .boolean) RX3 0 0 (cQi g r C'))  (C : Mem) (h : fc_Op_isFloat t0  C = some (r, C')) : V X 1 0 (WdC g C) 0 [(0, .ref (gCo g (t0.toNatClampNeg - 1)))] [] := by
  unfold fc_Op_isFloat at h
  refine v_iconst O.1 dX3_isFloat_0 (v := 0) rfl (q := 1) rfl ?_
  exact c_zret O (by decide) h dX3_isFloat_1
theorem metc_Op_isFloat (l : Launch) (g : gC) (t0 : Int32) (ht0 : inO t0 = true) (C C' : Mem) (r : Int32) (h : fc_Op_isFloat t0 C = some (r, C')) : MetC l g yX3_isFloat cX3_isFloat 1 (some .boolean) 0 0 [.ref (gCo g (t0.toNatClampNeg - 1))] C (cQi g r C') :=
  c_met (by decide) rfl (Nat.le_of_ble_eq_true rfl) (fun X O => bc_Op_isFloat ht0 O C h)
/-! RankEntry$Op.goesOn()Z -/
def fc_Op_goesOn (t0 : Int32)  (C : Mem) : Option (Int32 × Mem) :=
  some (1, C)
set_option maxHeartbeats 4000000 in
theorem bc_Op_goesOn {g : gC} {X : Cxt} {r : Int32} {C' : Mem} {t0 : Int32} (ht0 : inO t0 = true) (O : OkC g X cX3_goesOn 1 (some .boolean) RX3 0 0 (cQi g r C'))  (C : Mem) (h : fc_Op_goesOn t0  C = some (r, C')) : V X 1 0 (WdC g C) 0 [(0, .ref (gCo g (t0.toNatClampNeg - 1)))] [] := by
  unfold fc_Op_goesOn at h
  refine v_iconst O.1 dX3_goesOn_0 (v := 1) rfl (q := 1) rfl ?_
  exact c_zret O (by decide) h dX3_goesOn_1
theorem metc_Op_goesOn (l : Launch) (g : gC) (t0 : Int32) (ht0 : inO t0 = true) (C C' : Mem) (r : Int32) (h : fc_Op_goesOn t0 C = some (r, C')) : MetC l g yX3_goesOn cX3_goesOn 1 (some .boolean) 0 0 [.ref (gCo g (t0.toNatClampNeg - 1))] C (cQi g r C') :=
  c_met (by decide) rfl (Nat.le_of_ble_eq_true rfl) (fun X O => bc_Op_goesOn ht0 O C h)
/-! RankEntry$Op.jumps()Z -/
def fc_Op_jumps (t0 : Int32)  (C : Mem) : Option (Int32 × Mem) :=
  some (0, C)
set_option maxHeartbeats 4000000 in
theorem bc_Op_jumps {g : gC} {X : Cxt} {r : Int32} {C' : Mem} {t0 : Int32} (ht0 : inO t0 = true) (O : OkC g X cX3_jumps 1 (some .boolean) RX3 0 0 (cQi g r C'))  (C : Mem) (h : fc_Op_jumps t0  C = some (r, C')) : V X 1 0 (WdC g C) 0 [(0, .ref (gCo g (t0.toNatClampNeg - 1)))] [] := by
  unfold fc_Op_jumps at h
  refine v_iconst O.1 dX3_jumps_0 (v := 0) rfl (q := 1) rfl ?_
  exact c_zret O (by decide) h dX3_jumps_1
theorem metc_Op_jumps (l : Launch) (g : gC) (t0 : Int32) (ht0 : inO t0 = true) (C C' : Mem) (r : Int32) (h : fc_Op_jumps t0 C = some (r, C')) : MetC l g yX3_jumps cX3_jumps 1 (some .boolean) 0 0 [.ref (gCo g (t0.toNatClampNeg - 1))] C (cQi g r C') :=
  c_met (by decide) rfl (Nat.le_of_ble_eq_true rfl) (fun X O => bc_Op_jumps ht0 O C h)
/-! RankEntry$Op.stops()Z -/
def fc_Op_stops (t0 : Int32)  (C : Mem) : Option (Int32 × Mem) :=
  some (0, C)
set_option maxHeartbeats 4000000 in
theorem bc_Op_stops {g : gC} {X : Cxt} {r : Int32} {C' : Mem} {t0 : Int32} (ht0 : inO t0 = true) (O : OkC g X cX3_stops 1 (some .boolean) RX3 0 0 (cQi g r C'))  (C : Mem) (h : fc_Op_stops t0  C = some (r, C')) : V X 1 0 (WdC g C) 0 [(0, .ref (gCo g (t0.toNatClampNeg - 1)))] [] := by
  unfold fc_Op_stops at h
  refine v_iconst O.1 dX3_stops_0 (v := 0) rfl (q := 1) rfl ?_
  exact c_zret O (by decide) h dX3_stops_1
theorem metc_Op_stops (l : Launch) (g : gC) (t0 : Int32) (ht0 : inO t0 = true) (C C' : Mem) (r : Int32) (h : fc_Op_stops t0 C = some (r, C')) : MetC l g yX3_stops cX3_stops 1 (some .boolean) 0 0 [.ref (gCo g (t0.toNatClampNeg - 1))] C (cQi g r C') :=
  c_met (by decide) rfl (Nat.le_of_ble_eq_true rfl) (fun X O => bc_Op_stops ht0 O C h)
/-! RankEntry$Op.pushes()I -/
def fc_Op_pushes (t0 : Int32)  (C : Mem) : Option (Int32 × Mem) :=
  some (0, C)
set_option maxHeartbeats 4000000 in
theorem bc_Op_pushes {g : gC} {X : Cxt} {r : Int32} {C' : Mem} {t0 : Int32} (ht0 : inO t0 = true) (O : OkC g X cX3_pushes 1 (some .int) RX3 0 0 (cQi g r C'))  (C : Mem) (h : fc_Op_pushes t0  C = some (r, C')) : V X 1 0 (WdC g C) 0 [(0, .ref (gCo g (t0.toNatClampNeg - 1)))] [] := by
  unfold fc_Op_pushes at h
  refine v_iconst O.1 dX3_pushes_0 (v := 0) rfl (q := 1) rfl ?_
  exact c_iret O h dX3_pushes_1
theorem metc_Op_pushes (l : Launch) (g : gC) (t0 : Int32) (ht0 : inO t0 = true) (C C' : Mem) (r : Int32) (h : fc_Op_pushes t0 C = some (r, C')) : MetC l g yX3_pushes cX3_pushes 1 (some .int) 0 0 [.ref (gCo g (t0.toNatClampNeg - 1))] C (cQi g r C') :=
  c_met (by decide) rfl (Nat.le_of_ble_eq_true rfl) (fun X O => bc_Op_pushes ht0 O C h)
/-! RankEntry$Op$20.isFloat()Z -/
def fc_Op20_isFloat  (C : Mem) : Option (Int32 × Mem) :=
  some (1, C)
set_option maxHeartbeats 4000000 in
theorem bc_Op20_isFloat {g : gC} {X : Cxt} {r : Int32} {C' : Mem} (O : OkC g X cX30_isFloat 1 (some .boolean) RX30 0 0 (cQi g r C'))  (C : Mem) (h : fc_Op20_isFloat  C = some (r, C')) : V X 1 0 (WdC g C) 0 [(0, .ref (gCo g 19))] [] := by
  unfold fc_Op20_isFloat at h
  refine v_iconst O.1 dX30_isFloat_0 (v := 1) rfl (q := 1) rfl ?_
  exact c_zret O (by decide) h dX30_isFloat_1
theorem metc_Op20_isFloat (l : Launch) (g : gC)  (C C' : Mem) (r : Int32) (h : fc_Op20_isFloat C = some (r, C')) : MetC l g yX30_isFloat cX30_isFloat 1 (some .boolean) 0 0 [.ref (gCo g 19)] C (cQi g r C') :=
  c_met (by decide) rfl (Nat.le_of_ble_eq_true rfl) (fun X O => bc_Op20_isFloat O C h)
/-! RankEntry$Op$21.isFloat()Z -/
def fc_Op21_isFloat  (C : Mem) : Option (Int32 × Mem) :=
  some (1, C)
set_option maxHeartbeats 4000000 in
theorem bc_Op21_isFloat {g : gC} {X : Cxt} {r : Int32} {C' : Mem} (O : OkC g X cX31_isFloat 1 (some .boolean) RX31 0 0 (cQi g r C'))  (C : Mem) (h : fc_Op21_isFloat  C = some (r, C')) : V X 1 0 (WdC g C) 0 [(0, .ref (gCo g 20))] [] := by
  unfold fc_Op21_isFloat at h
  refine v_iconst O.1 dX31_isFloat_0 (v := 1) rfl (q := 1) rfl ?_
  exact c_zret O (by decide) h dX31_isFloat_1
theorem metc_Op21_isFloat (l : Launch) (g : gC)  (C C' : Mem) (r : Int32) (h : fc_Op21_isFloat C = some (r, C')) : MetC l g yX31_isFloat cX31_isFloat 1 (some .boolean) 0 0 [.ref (gCo g 20)] C (cQi g r C') :=
  c_met (by decide) rfl (Nat.le_of_ble_eq_true rfl) (fun X O => bc_Op21_isFloat O C h)
/-! RankEntry$Op$22.isFloat()Z -/
def fc_Op22_isFloat  (C : Mem) : Option (Int32 × Mem) :=
  some (1, C)
set_option maxHeartbeats 4000000 in
theorem bc_Op22_isFloat {g : gC} {X : Cxt} {r : Int32} {C' : Mem} (O : OkC g X cX32_isFloat 1 (some .boolean) RX32 0 0 (cQi g r C'))  (C : Mem) (h : fc_Op22_isFloat  C = some (r, C')) : V X 1 0 (WdC g C) 0 [(0, .ref (gCo g 21))] [] := by
  unfold fc_Op22_isFloat at h
  refine v_iconst O.1 dX32_isFloat_0 (v := 1) rfl (q := 1) rfl ?_
  exact c_zret O (by decide) h dX32_isFloat_1
theorem metc_Op22_isFloat (l : Launch) (g : gC)  (C C' : Mem) (r : Int32) (h : fc_Op22_isFloat C = some (r, C')) : MetC l g yX32_isFloat cX32_isFloat 1 (some .boolean) 0 0 [.ref (gCo g 21)] C (cQi g r C') :=
  c_met (by decide) rfl (Nat.le_of_ble_eq_true rfl) (fun X O => bc_Op22_isFloat O C h)
/-! RankEntry$Op$23.isFloat()Z -/
def fc_Op23_isFloat  (C : Mem) : Option (Int32 × Mem) :=
  some (1, C)
set_option maxHeartbeats 4000000 in
theorem bc_Op23_isFloat {g : gC} {X : Cxt} {r : Int32} {C' : Mem} (O : OkC g X cX33_isFloat 1 (some .boolean) RX33 0 0 (cQi g r C'))  (C : Mem) (h : fc_Op23_isFloat  C = some (r, C')) : V X 1 0 (WdC g C) 0 [(0, .ref (gCo g 22))] [] := by
  unfold fc_Op23_isFloat at h
  refine v_iconst O.1 dX33_isFloat_0 (v := 1) rfl (q := 1) rfl ?_
  exact c_zret O (by decide) h dX33_isFloat_1
theorem metc_Op23_isFloat (l : Launch) (g : gC)  (C C' : Mem) (r : Int32) (h : fc_Op23_isFloat C = some (r, C')) : MetC l g yX33_isFloat cX33_isFloat 1 (some .boolean) 0 0 [.ref (gCo g 22)] C (cQi g r C') :=
  c_met (by decide) rfl (Nat.le_of_ble_eq_true rfl) (fun X O => bc_Op23_isFloat O C h)
/-! RankEntry$Op$24.isFloat()Z -/
def fc_Op24_isFloat  (C : Mem) : Option (Int32 × Mem) :=
  some (1, C)
set_option maxHeartbeats 4000000 in
theorem bc_Op24_isFloat {g : gC} {X : Cxt} {r : Int32} {C' : Mem} (O : OkC g X cX34_isFloat 1 (some .boolean) RX34 0 0 (cQi g r C'))  (C : Mem) (h : fc_Op24_isFloat  C = some (r, C')) : V X 1 0 (WdC g C) 0 [(0, .ref (gCo g 23))] [] := by
  unfold fc_Op24_isFloat at h
  refine v_iconst O.1 dX34_isFloat_0 (v := 1) rfl (q := 1) rfl ?_
  exact c_zret O (by decide) h dX34_isFloat_1
theorem metc_Op24_isFloat (l : Launch) (g : gC)  (C C' : Mem) (r : Int32) (h : fc_Op24_isFloat C = some (r, C')) : MetC l g yX34_isFloat cX34_isFloat 1 (some .boolean) 0 0 [.ref (gCo g 23)] C (cQi g r C') :=
  c_met (by decide) rfl (Nat.le_of_ble_eq_true rfl) (fun X O => bc_Op24_isFloat O C h)
/-! RankEntry$Op$11.goesOn()Z -/
def fc_Op11_goesOn  (C : Mem) : Option (Int32 × Mem) :=
  some (0, C)
set_option maxHeartbeats 4000000 in
theorem bc_Op11_goesOn {g : gC} {X : Cxt} {r : Int32} {C' : Mem} (O : OkC g X cX8_goesOn 1 (some .boolean) RX8 0 0 (cQi g r C'))  (C : Mem) (h : fc_Op11_goesOn  C = some (r, C')) : V X 1 0 (WdC g C) 0 [(0, .ref (gCo g 10))] [] := by
  unfold fc_Op11_goesOn at h
  refine v_iconst O.1 dX8_goesOn_0 (v := 0) rfl (q := 1) rfl ?_
  exact c_zret O (by decide) h dX8_goesOn_1
theorem metc_Op11_goesOn (l : Launch) (g : gC)  (C C' : Mem) (r : Int32) (h : fc_Op11_goesOn C = some (r, C')) : MetC l g yX8_goesOn cX8_goesOn 1 (some .boolean) 0 0 [.ref (gCo g 10)] C (cQi g r C') :=
  c_met (by decide) rfl (Nat.le_of_ble_eq_true rfl) (fun X O => bc_Op11_goesOn O C h)
/-! RankEntry$Op$18.goesOn()Z -/
def fc_Op18_goesOn  (C : Mem) : Option (Int32 × Mem) :=
  some (0, C)
set_option maxHeartbeats 4000000 in
theorem bc_Op18_goesOn {g : gC} {X : Cxt} {r : Int32} {C' : Mem} (O : OkC g X cX27_goesOn 1 (some .boolean) RX27 0 0 (cQi g r C'))  (C : Mem) (h : fc_Op18_goesOn  C = some (r, C')) : V X 1 0 (WdC g C) 0 [(0, .ref (gCo g 17))] [] := by
  unfold fc_Op18_goesOn at h
  refine v_iconst O.1 dX27_goesOn_0 (v := 0) rfl (q := 1) rfl ?_
  exact c_zret O (by decide) h dX27_goesOn_1
theorem metc_Op18_goesOn (l : Launch) (g : gC)  (C C' : Mem) (r : Int32) (h : fc_Op18_goesOn C = some (r, C')) : MetC l g yX27_goesOn cX27_goesOn 1 (some .boolean) 0 0 [.ref (gCo g 17)] C (cQi g r C') :=
  c_met (by decide) rfl (Nat.le_of_ble_eq_true rfl) (fun X O => bc_Op18_goesOn O C h)
/-! RankEntry$Op$11.jumps()Z -/
def fc_Op11_jumps  (C : Mem) : Option (Int32 × Mem) :=
  some (1, C)
set_option maxHeartbeats 4000000 in
theorem bc_Op11_jumps {g : gC} {X : Cxt} {r : Int32} {C' : Mem} (O : OkC g X cX8_jumps 1 (some .boolean) RX8 0 0 (cQi g r C'))  (C : Mem) (h : fc_Op11_jumps  C = some (r, C')) : V X 1 0 (WdC g C) 0 [(0, .ref (gCo g 10))] [] := by
  unfold fc_Op11_jumps at h
  refine v_iconst O.1 dX8_jumps_0 (v := 1) rfl (q := 1) rfl ?_
  exact c_zret O (by decide) h dX8_jumps_1
theorem metc_Op11_jumps (l : Launch) (g : gC)  (C C' : Mem) (r : Int32) (h : fc_Op11_jumps C = some (r, C')) : MetC l g yX8_jumps cX8_jumps 1 (some .boolean) 0 0 [.ref (gCo g 10)] C (cQi g r C') :=
  c_met (by decide) rfl (Nat.le_of_ble_eq_true rfl) (fun X O => bc_Op11_jumps O C h)
/-! RankEntry$Op$12.jumps()Z -/
def fc_Op12_jumps  (C : Mem) : Option (Int32 × Mem) :=
  some (1, C)
set_option maxHeartbeats 4000000 in
theorem bc_Op12_jumps {g : gC} {X : Cxt} {r : Int32} {C' : Mem} (O : OkC g X cX9_jumps 1 (some .boolean) RX9 0 0 (cQi g r C'))  (C : Mem) (h : fc_Op12_jumps  C = some (r, C')) : V X 1 0 (WdC g C) 0 [(0, .ref (gCo g 11))] [] := by
  unfold fc_Op12_jumps at h
  refine v_iconst O.1 dX9_jumps_0 (v := 1) rfl (q := 1) rfl ?_
  exact c_zret O (by decide) h dX9_jumps_1
theorem metc_Op12_jumps (l : Launch) (g : gC)  (C C' : Mem) (r : Int32) (h : fc_Op12_jumps C = some (r, C')) : MetC l g yX9_jumps cX9_jumps 1 (some .boolean) 0 0 [.ref (gCo g 11)] C (cQi g r C') :=
  c_met (by decide) rfl (Nat.le_of_ble_eq_true rfl) (fun X O => bc_Op12_jumps O C h)
/-! RankEntry$Op$13.jumps()Z -/
def fc_Op13_jumps  (C : Mem) : Option (Int32 × Mem) :=
  some (1, C)
set_option maxHeartbeats 4000000 in
theorem bc_Op13_jumps {g : gC} {X : Cxt} {r : Int32} {C' : Mem} (O : OkC g X cX10_jumps 1 (some .boolean) RX10 0 0 (cQi g r C'))  (C : Mem) (h : fc_Op13_jumps  C = some (r, C')) : V X 1 0 (WdC g C) 0 [(0, .ref (gCo g 12))] [] := by
  unfold fc_Op13_jumps at h
  refine v_iconst O.1 dX10_jumps_0 (v := 1) rfl (q := 1) rfl ?_
  exact c_zret O (by decide) h dX10_jumps_1
theorem metc_Op13_jumps (l : Launch) (g : gC)  (C C' : Mem) (r : Int32) (h : fc_Op13_jumps C = some (r, C')) : MetC l g yX10_jumps cX10_jumps 1 (some .boolean) 0 0 [.ref (gCo g 12)] C (cQi g r C') :=
  c_met (by decide) rfl (Nat.le_of_ble_eq_true rfl) (fun X O => bc_Op13_jumps O C h)
/-! RankEntry$Op$19.stops()Z -/
def fc_Op19_stops  (C : Mem) : Option (Int32 × Mem) :=
  some (1, C)
set_option maxHeartbeats 4000000 in
theorem bc_Op19_stops {g : gC} {X : Cxt} {r : Int32} {C' : Mem} (O : OkC g X cX28_stops 1 (some .boolean) RX28 0 0 (cQi g r C'))  (C : Mem) (h : fc_Op19_stops  C = some (r, C')) : V X 1 0 (WdC g C) 0 [(0, .ref (gCo g 18))] [] := by
  unfold fc_Op19_stops at h
  refine v_iconst O.1 dX28_stops_0 (v := 1) rfl (q := 1) rfl ?_
  exact c_zret O (by decide) h dX28_stops_1
theorem metc_Op19_stops (l : Launch) (g : gC)  (C C' : Mem) (r : Int32) (h : fc_Op19_stops C = some (r, C')) : MetC l g yX28_stops cX28_stops 1 (some .boolean) 0 0 [.ref (gCo g 18)] C (cQi g r C') :=
  c_met (by decide) rfl (Nat.le_of_ble_eq_true rfl) (fun X O => bc_Op19_stops O C h)
/-! RankEntry$Op$9.pushes()I -/
def fc_Op9_pushes  (C : Mem) : Option (Int32 × Mem) :=
  some (1, C)
set_option maxHeartbeats 4000000 in
theorem bc_Op9_pushes {g : gC} {X : Cxt} {r : Int32} {C' : Mem} (O : OkC g X cX46_pushes 1 (some .int) RX46 0 0 (cQi g r C'))  (C : Mem) (h : fc_Op9_pushes  C = some (r, C')) : V X 1 0 (WdC g C) 0 [(0, .ref (gCo g 8))] [] := by
  unfold fc_Op9_pushes at h
  refine v_iconst O.1 dX46_pushes_0 (v := 1) rfl (q := 1) rfl ?_
  exact c_iret O h dX46_pushes_1
theorem metc_Op9_pushes (l : Launch) (g : gC)  (C C' : Mem) (r : Int32) (h : fc_Op9_pushes C = some (r, C')) : MetC l g yX46_pushes cX46_pushes 1 (some .int) 0 0 [.ref (gCo g 8)] C (cQi g r C') :=
  c_met (by decide) rfl (Nat.le_of_ble_eq_true rfl) (fun X O => bc_Op9_pushes O C h)
/-! RankEntry$Op$10.pushes()I -/
def fc_Op10_pushes  (C : Mem) : Option (Int32 × Mem) :=
  some ((-1), C)
set_option maxHeartbeats 4000000 in
theorem bc_Op10_pushes {g : gC} {X : Cxt} {r : Int32} {C' : Mem} (O : OkC g X cX22_pushes 1 (some .int) RX22 0 0 (cQi g r C'))  (C : Mem) (h : fc_Op10_pushes  C = some (r, C')) : V X 1 0 (WdC g C) 0 [(0, .ref (gCo g 9))] [] := by
  unfold fc_Op10_pushes at h
  refine v_iconst O.1 dX22_pushes_0 (v := (-1)) rfl (q := 1) rfl ?_
  exact c_iret O h dX22_pushes_1
theorem metc_Op10_pushes (l : Launch) (g : gC)  (C C' : Mem) (r : Int32) (h : fc_Op10_pushes C = some (r, C')) : MetC l g yX22_pushes cX22_pushes 1 (some .int) 0 0 [.ref (gCo g 9)] C (cQi g r C') :=
  c_met (by decide) rfl (Nat.le_of_ble_eq_true rfl) (fun X O => bc_Op10_pushes O C h)
section COPD
variable {g : gC} {X : Cxt} {cc : ByteArray} {nL b lvl mc : Nat} {ret : Option FieldType} {own : String} {Qc : Array Value → State → Outcome → State → Prop} {pc q : Nat} {lv : List (Nat × Value)} {st rest : List Value} {C C' C1 : Mem} {c : Nat}
def fv_o_isFloat (t : Int32) (C : Mem) : Option (Int32 × Mem) :=
  if t = 20 then fc_Op20_isFloat C else
  if t = 21 then fc_Op21_isFloat C else
  if t = 22 then fc_Op22_isFloat C else
  if t = 23 then fc_Op23_isFloat C else
  if t = 24 then fc_Op24_isFloat C else
  fc_Op_isFloat t C
set_option maxHeartbeats 4000000 in
theorem c_o_isFloat {r : Int32} (O : OkC g X cc nL ret own lvl mc Qc) {idx : Nat} {t : Int32} (ht : inO t = true) (h : fv_o_isFloat t C = some (r, C')) (hl : Cond.methodLink own idx ⟨"RankEntry$Op", "isFloat", "()Z"⟩ ∈ lw_all) (hlv : 1 ≤ lvl) (hst : st = .ref (gCo g (t.toNatClampNeg - 1)) :: rest) (hr : (rest.map fun v => v.category).sum ≤ 8) (d : decode cc pc = .ok (.invokevirtual idx, 3)) (hq : pc + 3 = q) (kk : V X nL b (WdC g C') q lv (.int r :: rest)) : V X nL b (WdC g C) pc lv st := by
  obtain ⟨k, hk, rfl⟩ := inO_k ht
  unfold fv_o_isFloat at h
  match k, hk with
  | 0, hk =>
    rw [if_neg (by decide), if_neg (by decide), if_neg (by decide), if_neg (by decide), if_neg (by decide)] at h
    exact c_callOi (k := 0) (As := []) (n := 0) (b' := b) (mc' := 0) (lvl' := 0) (x := ⟨"RankEntry$Op", "isFloat", "()Z"⟩) (y := ⟨"RankEntry$Op", "isFloat", "()Z"⟩) (owner := "RankEntry$Op") (Cn := "RankEntry$Op$1") O (by decide) rfl (fun X' O' => bc_Op_isFloat (t0 := nI 1) ht O' C h) (Nat.le_of_ble_eq_true rfl) ⟨hl, q364, va_Decl.of (O.1.ts _ q363) (O.1.ts _ q404), by decide, q365, q363, q404, by decide, by decide +kernel⟩ (by omega) (by decide) rfl hst hr d hq rfl kk
  | 1, hk =>
    rw [if_neg (by decide), if_neg (by decide), if_neg (by decide), if_neg (by decide), if_neg (by decide)] at h
    exact c_callOi (k := 1) (As := []) (n := 0) (b' := b) (mc' := 0) (lvl' := 0) (x := ⟨"RankEntry$Op", "isFloat", "()Z"⟩) (y := ⟨"RankEntry$Op", "isFloat", "()Z"⟩) (owner := "RankEntry$Op") (Cn := "RankEntry$Op$2") O (by decide) rfl (fun X' O' => bc_Op_isFloat (t0 := nI 2) ht O' C h) (Nat.le_of_ble_eq_true rfl) ⟨hl, q364, va_Decl.of (O.1.ts _ q363) (O.1.ts _ q404), by decide, q376, q363, q404, by decide, by decide +kernel⟩ (by omega) (by decide) rfl hst hr d hq rfl kk
  | 2, hk =>
    rw [if_neg (by decide), if_neg (by decide), if_neg (by decide), if_neg (by decide), if_neg (by decide)] at h
    exact c_callOi (k := 2) (As := []) (n := 0) (b' := b) (mc' := 0) (lvl' := 0) (x := ⟨"RankEntry$Op", "isFloat", "()Z"⟩) (y := ⟨"RankEntry$Op", "isFloat", "()Z"⟩) (owner := "RankEntry$Op") (Cn := "RankEntry$Op$3") O (by decide) rfl (fun X' O' => bc_Op_isFloat (t0 := nI 3) ht O' C h) (Nat.le_of_ble_eq_true rfl) ⟨hl, q364, va_Decl.of (O.1.ts _ q363) (O.1.ts _ q404), by decide, q397, q363, q404, by decide, by decide +kernel⟩ (by omega) (by decide) rfl hst hr d hq rfl kk
  | 3, hk =>
    rw [if_neg (by decide), if_neg (by decide), if_neg (by decide), if_neg (by decide), if_neg (by decide)] at h
    exact c_callOi (k := 3) (As := []) (n := 0) (b' := b) (mc' := 0) (lvl' := 0) (x := ⟨"RankEntry$Op", "isFloat", "()Z"⟩) (y := ⟨"RankEntry$Op", "isFloat", "()Z"⟩) (owner := "RankEntry$Op") (Cn := "RankEntry$Op$4") O (by decide) rfl (fun X' O' => bc_Op_isFloat (t0 := nI 4) ht O' C h) (Nat.le_of_ble_eq_true rfl) ⟨hl, q364, va_Decl.of (O.1.ts _ q363) (O.1.ts _ q404), by decide, q398, q363, q404, by decide, by decide +kernel⟩ (by omega) (by decide) rfl hst hr d hq rfl kk
  | 4, hk =>
    rw [if_neg (by decide), if_neg (by decide), if_neg (by decide), if_neg (by decide), if_neg (by decide)] at h
    exact c_callOi (k := 4) (As := []) (n := 0) (b' := b) (mc' := 0) (lvl' := 0) (x := ⟨"RankEntry$Op", "isFloat", "()Z"⟩) (y := ⟨"RankEntry$Op", "isFloat", "()Z"⟩) (owner := "RankEntry$Op") (Cn := "RankEntry$Op$5") O (by decide) rfl (fun X' O' => bc_Op_isFloat (t0 := nI 5) ht O' C h) (Nat.le_of_ble_eq_true rfl) ⟨hl, q364, va_Decl.of (O.1.ts _ q363) (O.1.ts _ q404), by decide, q399, q363, q404, by decide, by decide +kernel⟩ (by omega) (by decide) rfl hst hr d hq rfl kk
  | 5, hk =>
    rw [if_neg (by decide), if_neg (by decide), if_neg (by decide), if_neg (by decide), if_neg (by decide)] at h
    exact c_callOi (k := 5) (As := []) (n := 0) (b' := b) (mc' := 0) (lvl' := 0) (x := ⟨"RankEntry$Op", "isFloat", "()Z"⟩) (y := ⟨"RankEntry$Op", "isFloat", "()Z"⟩) (owner := "RankEntry$Op") (Cn := "RankEntry$Op$6") O (by decide) rfl (fun X' O' => bc_Op_isFloat (t0 := nI 6) ht O' C h) (Nat.le_of_ble_eq_true rfl) ⟨hl, q364, va_Decl.of (O.1.ts _ q363) (O.1.ts _ q404), by decide, q400, q363, q404, by decide, by decide +kernel⟩ (by omega) (by decide) rfl hst hr d hq rfl kk
  | 6, hk =>
    rw [if_neg (by decide), if_neg (by decide), if_neg (by decide), if_neg (by decide), if_neg (by decide)] at h
    exact c_callOi (k := 6) (As := []) (n := 0) (b' := b) (mc' := 0) (lvl' := 0) (x := ⟨"RankEntry$Op", "isFloat", "()Z"⟩) (y := ⟨"RankEntry$Op", "isFloat", "()Z"⟩) (owner := "RankEntry$Op") (Cn := "RankEntry$Op$7") O (by decide) rfl (fun X' O' => bc_Op_isFloat (t0 := nI 7) ht O' C h) (Nat.le_of_ble_eq_true rfl) ⟨hl, q364, va_Decl.of (O.1.ts _ q363) (O.1.ts _ q404), by decide, q401, q363, q404, by decide, by decide +kernel⟩ (by omega) (by decide) rfl hst hr d hq rfl kk
  | 7, hk =>
    rw [if_neg (by decide), if_neg (by decide), if_neg (by decide), if_neg (by decide), if_neg (by decide)] at h
    exact c_callOi (k := 7) (As := []) (n := 0) (b' := b) (mc' := 0) (lvl' := 0) (x := ⟨"RankEntry$Op", "isFloat", "()Z"⟩) (y := ⟨"RankEntry$Op", "isFloat", "()Z"⟩) (owner := "RankEntry$Op") (Cn := "RankEntry$Op$8") O (by decide) rfl (fun X' O' => bc_Op_isFloat (t0 := nI 8) ht O' C h) (Nat.le_of_ble_eq_true rfl) ⟨hl, q364, va_Decl.of (O.1.ts _ q363) (O.1.ts _ q404), by decide, q402, q363, q404, by decide, by decide +kernel⟩ (by omega) (by decide) rfl hst hr d hq rfl kk
  | 8, hk =>
    rw [if_neg (by decide), if_neg (by decide), if_neg (by decide), if_neg (by decide), if_neg (by decide)] at h
    exact c_callOi (k := 8) (As := []) (n := 0) (b' := b) (mc' := 0) (lvl' := 0) (x := ⟨"RankEntry$Op", "isFloat", "()Z"⟩) (y := ⟨"RankEntry$Op", "isFloat", "()Z"⟩) (owner := "RankEntry$Op") (Cn := "RankEntry$Op$9") O (by decide) rfl (fun X' O' => bc_Op_isFloat (t0 := nI 9) ht O' C h) (Nat.le_of_ble_eq_true rfl) ⟨hl, q364, va_Decl.of (O.1.ts _ q363) (O.1.ts _ q404), by decide, q403, q363, q404, by decide, by decide +kernel⟩ (by omega) (by decide) rfl hst hr d hq rfl kk
  | 9, hk =>
    rw [if_neg (by decide), if_neg (by decide), if_neg (by decide), if_neg (by decide), if_neg (by decide)] at h
    exact c_callOi (k := 9) (As := []) (n := 0) (b' := b) (mc' := 0) (lvl' := 0) (x := ⟨"RankEntry$Op", "isFloat", "()Z"⟩) (y := ⟨"RankEntry$Op", "isFloat", "()Z"⟩) (owner := "RankEntry$Op") (Cn := "RankEntry$Op$10") O (by decide) rfl (fun X' O' => bc_Op_isFloat (t0 := nI 10) ht O' C h) (Nat.le_of_ble_eq_true rfl) ⟨hl, q364, va_Decl.of (O.1.ts _ q363) (O.1.ts _ q404), by decide, q366, q363, q404, by decide, by decide +kernel⟩ (by omega) (by decide) rfl hst hr d hq rfl kk
  | 10, hk =>
    rw [if_neg (by decide), if_neg (by decide), if_neg (by decide), if_neg (by decide), if_neg (by decide)] at h
    exact c_callOi (k := 10) (As := []) (n := 0) (b' := b) (mc' := 0) (lvl' := 0) (x := ⟨"RankEntry$Op", "isFloat", "()Z"⟩) (y := ⟨"RankEntry$Op", "isFloat", "()Z"⟩) (owner := "RankEntry$Op") (Cn := "RankEntry$Op$11") O (by decide) rfl (fun X' O' => bc_Op_isFloat (t0 := nI 11) ht O' C h) (Nat.le_of_ble_eq_true rfl) ⟨hl, q364, va_Decl.of (O.1.ts _ q363) (O.1.ts _ q404), by decide, q367, q363, q404, by decide, by decide +kernel⟩ (by omega) (by decide) rfl hst hr d hq rfl kk
  | 11, hk =>
    rw [if_neg (by decide), if_neg (by decide), if_neg (by decide), if_neg (by decide), if_neg (by decide)] at h
    exact c_callOi (k := 11) (As := []) (n := 0) (b' := b) (mc' := 0) (lvl' := 0) (x := ⟨"RankEntry$Op", "isFloat", "()Z"⟩) (y := ⟨"RankEntry$Op", "isFloat", "()Z"⟩) (owner := "RankEntry$Op") (Cn := "RankEntry$Op$12") O (by decide) rfl (fun X' O' => bc_Op_isFloat (t0 := nI 12) ht O' C h) (Nat.le_of_ble_eq_true rfl) ⟨hl, q364, va_Decl.of (O.1.ts _ q363) (O.1.ts _ q404), by decide, q368, q363, q404, by decide, by decide +kernel⟩ (by omega) (by decide) rfl hst hr d hq rfl kk
  | 12, hk =>
    rw [if_neg (by decide), if_neg (by decide), if_neg (by decide), if_neg (by decide), if_neg (by decide)] at h
    exact c_callOi (k := 12) (As := []) (n := 0) (b' := b) (mc' := 0) (lvl' := 0) (x := ⟨"RankEntry$Op", "isFloat", "()Z"⟩) (y := ⟨"RankEntry$Op", "isFloat", "()Z"⟩) (owner := "RankEntry$Op") (Cn := "RankEntry$Op$13") O (by decide) rfl (fun X' O' => bc_Op_isFloat (t0 := nI 13) ht O' C h) (Nat.le_of_ble_eq_true rfl) ⟨hl, q364, va_Decl.of (O.1.ts _ q363) (O.1.ts _ q404), by decide, q369, q363, q404, by decide, by decide +kernel⟩ (by omega) (by decide) rfl hst hr d hq rfl kk
  | 13, hk =>
    rw [if_neg (by decide), if_neg (by decide), if_neg (by decide), if_neg (by decide), if_neg (by decide)] at h
    exact c_callOi (k := 13) (As := []) (n := 0) (b' := b) (mc' := 0) (lvl' := 0) (x := ⟨"RankEntry$Op", "isFloat", "()Z"⟩) (y := ⟨"RankEntry$Op", "isFloat", "()Z"⟩) (owner := "RankEntry$Op") (Cn := "RankEntry$Op$14") O (by decide) rfl (fun X' O' => bc_Op_isFloat (t0 := nI 14) ht O' C h) (Nat.le_of_ble_eq_true rfl) ⟨hl, q364, va_Decl.of (O.1.ts _ q363) (O.1.ts _ q404), by decide, q370, q363, q404, by decide, by decide +kernel⟩ (by omega) (by decide) rfl hst hr d hq rfl kk
  | 14, hk =>
    rw [if_neg (by decide), if_neg (by decide), if_neg (by decide), if_neg (by decide), if_neg (by decide)] at h
    exact c_callOi (k := 14) (As := []) (n := 0) (b' := b) (mc' := 0) (lvl' := 0) (x := ⟨"RankEntry$Op", "isFloat", "()Z"⟩) (y := ⟨"RankEntry$Op", "isFloat", "()Z"⟩) (owner := "RankEntry$Op") (Cn := "RankEntry$Op$15") O (by decide) rfl (fun X' O' => bc_Op_isFloat (t0 := nI 15) ht O' C h) (Nat.le_of_ble_eq_true rfl) ⟨hl, q364, va_Decl.of (O.1.ts _ q363) (O.1.ts _ q404), by decide, q371, q363, q404, by decide, by decide +kernel⟩ (by omega) (by decide) rfl hst hr d hq rfl kk
  | 15, hk =>
    rw [if_neg (by decide), if_neg (by decide), if_neg (by decide), if_neg (by decide), if_neg (by decide)] at h
    exact c_callOi (k := 15) (As := []) (n := 0) (b' := b) (mc' := 0) (lvl' := 0) (x := ⟨"RankEntry$Op", "isFloat", "()Z"⟩) (y := ⟨"RankEntry$Op", "isFloat", "()Z"⟩) (owner := "RankEntry$Op") (Cn := "RankEntry$Op$16") O (by decide) rfl (fun X' O' => bc_Op_isFloat (t0 := nI 16) ht O' C h) (Nat.le_of_ble_eq_true rfl) ⟨hl, q364, va_Decl.of (O.1.ts _ q363) (O.1.ts _ q404), by decide, q372, q363, q404, by decide, by decide +kernel⟩ (by omega) (by decide) rfl hst hr d hq rfl kk
  | 16, hk =>
    rw [if_neg (by decide), if_neg (by decide), if_neg (by decide), if_neg (by decide), if_neg (by decide)] at h
    exact c_callOi (k := 16) (As := []) (n := 0) (b' := b) (mc' := 0) (lvl' := 0) (x := ⟨"RankEntry$Op", "isFloat", "()Z"⟩) (y := ⟨"RankEntry$Op", "isFloat", "()Z"⟩) (owner := "RankEntry$Op") (Cn := "RankEntry$Op$17") O (by decide) rfl (fun X' O' => bc_Op_isFloat (t0 := nI 17) ht O' C h) (Nat.le_of_ble_eq_true rfl) ⟨hl, q364, va_Decl.of (O.1.ts _ q363) (O.1.ts _ q404), by decide, q373, q363, q404, by decide, by decide +kernel⟩ (by omega) (by decide) rfl hst hr d hq rfl kk
  | 17, hk =>
    rw [if_neg (by decide), if_neg (by decide), if_neg (by decide), if_neg (by decide), if_neg (by decide)] at h
    exact c_callOi (k := 17) (As := []) (n := 0) (b' := b) (mc' := 0) (lvl' := 0) (x := ⟨"RankEntry$Op", "isFloat", "()Z"⟩) (y := ⟨"RankEntry$Op", "isFloat", "()Z"⟩) (owner := "RankEntry$Op") (Cn := "RankEntry$Op$18") O (by decide) rfl (fun X' O' => bc_Op_isFloat (t0 := nI 18) ht O' C h) (Nat.le_of_ble_eq_true rfl) ⟨hl, q364, va_Decl.of (O.1.ts _ q363) (O.1.ts _ q404), by decide, q374, q363, q404, by decide, by decide +kernel⟩ (by omega) (by decide) rfl hst hr d hq rfl kk
  | 18, hk =>
    rw [if_neg (by decide), if_neg (by decide), if_neg (by decide), if_neg (by decide), if_neg (by decide)] at h
    exact c_callOi (k := 18) (As := []) (n := 0) (b' := b) (mc' := 0) (lvl' := 0) (x := ⟨"RankEntry$Op", "isFloat", "()Z"⟩) (y := ⟨"RankEntry$Op", "isFloat", "()Z"⟩) (owner := "RankEntry$Op") (Cn := "RankEntry$Op$19") O (by decide) rfl (fun X' O' => bc_Op_isFloat (t0 := nI 19) ht O' C h) (Nat.le_of_ble_eq_true rfl) ⟨hl, q364, va_Decl.of (O.1.ts _ q363) (O.1.ts _ q404), by decide, q375, q363, q404, by decide, by decide +kernel⟩ (by omega) (by decide) rfl hst hr d hq rfl kk
  | 19, hk =>
    rw [if_pos (by decide)] at h
    exact c_callOi (k := 19) (As := []) (n := 0) (b' := b) (mc' := 0) (lvl' := 0) (x := ⟨"RankEntry$Op", "isFloat", "()Z"⟩) (y := ⟨"RankEntry$Op$20", "isFloat", "()Z"⟩) (owner := "RankEntry$Op") (Cn := "RankEntry$Op$20") O (by decide) rfl (fun X' O' => bc_Op20_isFloat O' C h) (Nat.le_of_ble_eq_true rfl) ⟨hl, q364, va_Decl.of (O.1.ts _ q363) (O.1.ts _ q404), by decide, q377, q378, q379, by decide, by decide +kernel⟩ (by omega) (by decide) rfl hst hr d hq rfl kk
  | 20, hk =>
    rw [if_neg (by decide), if_pos (by decide)] at h
    exact c_callOi (k := 20) (As := []) (n := 0) (b' := b) (mc' := 0) (lvl' := 0) (x := ⟨"RankEntry$Op", "isFloat", "()Z"⟩) (y := ⟨"RankEntry$Op$21", "isFloat", "()Z"⟩) (owner := "RankEntry$Op") (Cn := "RankEntry$Op$21") O (by decide) rfl (fun X' O' => bc_Op21_isFloat O' C h) (Nat.le_of_ble_eq_true rfl) ⟨hl, q364, va_Decl.of (O.1.ts _ q363) (O.1.ts _ q404), by decide, q380, q381, q382, by decide, by decide +kernel⟩ (by omega) (by decide) rfl hst hr d hq rfl kk
  | 21, hk =>
    rw [if_neg (by decide), if_neg (by decide), if_pos (by decide)] at h
    exact c_callOi (k := 21) (As := []) (n := 0) (b' := b) (mc' := 0) (lvl' := 0) (x := ⟨"RankEntry$Op", "isFloat", "()Z"⟩) (y := ⟨"RankEntry$Op$22", "isFloat", "()Z"⟩) (owner := "RankEntry$Op") (Cn := "RankEntry$Op$22") O (by decide) rfl (fun X' O' => bc_Op22_isFloat O' C h) (Nat.le_of_ble_eq_true rfl) ⟨hl, q364, va_Decl.of (O.1.ts _ q363) (O.1.ts _ q404), by decide, q383, q384, q385, by decide, by decide +kernel⟩ (by omega) (by decide) rfl hst hr d hq rfl kk
  | 22, hk =>
    rw [if_neg (by decide), if_neg (by decide), if_neg (by decide), if_pos (by decide)] at h
    exact c_callOi (k := 22) (As := []) (n := 0) (b' := b) (mc' := 0) (lvl' := 0) (x := ⟨"RankEntry$Op", "isFloat", "()Z"⟩) (y := ⟨"RankEntry$Op$23", "isFloat", "()Z"⟩) (owner := "RankEntry$Op") (Cn := "RankEntry$Op$23") O (by decide) rfl (fun X' O' => bc_Op23_isFloat O' C h) (Nat.le_of_ble_eq_true rfl) ⟨hl, q364, va_Decl.of (O.1.ts _ q363) (O.1.ts _ q404), by decide, q386, q387, q388, by decide, by decide +kernel⟩ (by omega) (by decide) rfl hst hr d hq rfl kk
  | 23, hk =>
    rw [if_neg (by decide), if_neg (by decide), if_neg (by decide), if_neg (by decide), if_pos (by decide)] at h
    exact c_callOi (k := 23) (As := []) (n := 0) (b' := b) (mc' := 0) (lvl' := 0) (x := ⟨"RankEntry$Op", "isFloat", "()Z"⟩) (y := ⟨"RankEntry$Op$24", "isFloat", "()Z"⟩) (owner := "RankEntry$Op") (Cn := "RankEntry$Op$24") O (by decide) rfl (fun X' O' => bc_Op24_isFloat O' C h) (Nat.le_of_ble_eq_true rfl) ⟨hl, q364, va_Decl.of (O.1.ts _ q363) (O.1.ts _ q404), by decide, q389, q390, q391, by decide, by decide +kernel⟩ (by omega) (by decide) rfl hst hr d hq rfl kk
  | 24, hk =>
    rw [if_neg (by decide), if_neg (by decide), if_neg (by decide), if_neg (by decide), if_neg (by decide)] at h
    exact c_callOi (k := 24) (As := []) (n := 0) (b' := b) (mc' := 0) (lvl' := 0) (x := ⟨"RankEntry$Op", "isFloat", "()Z"⟩) (y := ⟨"RankEntry$Op", "isFloat", "()Z"⟩) (owner := "RankEntry$Op") (Cn := "RankEntry$Op$25") O (by decide) rfl (fun X' O' => bc_Op_isFloat (t0 := nI 25) ht O' C h) (Nat.le_of_ble_eq_true rfl) ⟨hl, q364, va_Decl.of (O.1.ts _ q363) (O.1.ts _ q404), by decide, q392, q363, q404, by decide, by decide +kernel⟩ (by omega) (by decide) rfl hst hr d hq rfl kk
  | 25, hk =>
    rw [if_neg (by decide), if_neg (by decide), if_neg (by decide), if_neg (by decide), if_neg (by decide)] at h
    exact c_callOi (k := 25) (As := []) (n := 0) (b' := b) (mc' := 0) (lvl' := 0) (x := ⟨"RankEntry$Op", "isFloat", "()Z"⟩) (y := ⟨"RankEntry$Op", "isFloat", "()Z"⟩) (owner := "RankEntry$Op") (Cn := "RankEntry$Op$26") O (by decide) rfl (fun X' O' => bc_Op_isFloat (t0 := nI 26) ht O' C h) (Nat.le_of_ble_eq_true rfl) ⟨hl, q364, va_Decl.of (O.1.ts _ q363) (O.1.ts _ q404), by decide, q393, q363, q404, by decide, by decide +kernel⟩ (by omega) (by decide) rfl hst hr d hq rfl kk
  | 26, hk =>
    rw [if_neg (by decide), if_neg (by decide), if_neg (by decide), if_neg (by decide), if_neg (by decide)] at h
    exact c_callOi (k := 26) (As := []) (n := 0) (b' := b) (mc' := 0) (lvl' := 0) (x := ⟨"RankEntry$Op", "isFloat", "()Z"⟩) (y := ⟨"RankEntry$Op", "isFloat", "()Z"⟩) (owner := "RankEntry$Op") (Cn := "RankEntry$Op$27") O (by decide) rfl (fun X' O' => bc_Op_isFloat (t0 := nI 27) ht O' C h) (Nat.le_of_ble_eq_true rfl) ⟨hl, q364, va_Decl.of (O.1.ts _ q363) (O.1.ts _ q404), by decide, q394, q363, q404, by decide, by decide +kernel⟩ (by omega) (by decide) rfl hst hr d hq rfl kk
  | 27, hk =>
    rw [if_neg (by decide), if_neg (by decide), if_neg (by decide), if_neg (by decide), if_neg (by decide)] at h
    exact c_callOi (k := 27) (As := []) (n := 0) (b' := b) (mc' := 0) (lvl' := 0) (x := ⟨"RankEntry$Op", "isFloat", "()Z"⟩) (y := ⟨"RankEntry$Op", "isFloat", "()Z"⟩) (owner := "RankEntry$Op") (Cn := "RankEntry$Op$28") O (by decide) rfl (fun X' O' => bc_Op_isFloat (t0 := nI 28) ht O' C h) (Nat.le_of_ble_eq_true rfl) ⟨hl, q364, va_Decl.of (O.1.ts _ q363) (O.1.ts _ q404), by decide, q395, q363, q404, by decide, by decide +kernel⟩ (by omega) (by decide) rfl hst hr d hq rfl kk
  | 28, hk =>
    rw [if_neg (by decide), if_neg (by decide), if_neg (by decide), if_neg (by decide), if_neg (by decide)] at h
    exact c_callOi (k := 28) (As := []) (n := 0) (b' := b) (mc' := 0) (lvl' := 0) (x := ⟨"RankEntry$Op", "isFloat", "()Z"⟩) (y := ⟨"RankEntry$Op", "isFloat", "()Z"⟩) (owner := "RankEntry$Op") (Cn := "RankEntry$Op$29") O (by decide) rfl (fun X' O' => bc_Op_isFloat (t0 := nI 29) ht O' C h) (Nat.le_of_ble_eq_true rfl) ⟨hl, q364, va_Decl.of (O.1.ts _ q363) (O.1.ts _ q404), by decide, q396, q363, q404, by decide, by decide +kernel⟩ (by omega) (by decide) rfl hst hr d hq rfl kk
  | k + 29, hk => omega
def fv_o_goesOn (t : Int32) (C : Mem) : Option (Int32 × Mem) :=
  if t = 11 then fc_Op11_goesOn C else
  if t = 18 then fc_Op18_goesOn C else
  fc_Op_goesOn t C
set_option maxHeartbeats 4000000 in
theorem c_o_goesOn {r : Int32} (O : OkC g X cc nL ret own lvl mc Qc) {idx : Nat} {t : Int32} (ht : inO t = true) (h : fv_o_goesOn t C = some (r, C')) (hl : Cond.methodLink own idx ⟨"RankEntry$Op", "goesOn", "()Z"⟩ ∈ lw_all) (hlv : 1 ≤ lvl) (hst : st = .ref (gCo g (t.toNatClampNeg - 1)) :: rest) (hr : (rest.map fun v => v.category).sum ≤ 8) (d : decode cc pc = .ok (.invokevirtual idx, 3)) (hq : pc + 3 = q) (kk : V X nL b (WdC g C') q lv (.int r :: rest)) : V X nL b (WdC g C) pc lv st := by
  obtain ⟨k, hk, rfl⟩ := inO_k ht
  unfold fv_o_goesOn at h
  match k, hk with
  | 0, hk =>
    rw [if_neg (by decide), if_neg (by decide)] at h
    exact c_callOi (k := 0) (As := []) (n := 0) (b' := b) (mc' := 0) (lvl' := 0) (x := ⟨"RankEntry$Op", "goesOn", "()Z"⟩) (y := ⟨"RankEntry$Op", "goesOn", "()Z"⟩) (owner := "RankEntry$Op") (Cn := "RankEntry$Op$1") O (by decide) rfl (fun X' O' => bc_Op_goesOn (t0 := nI 1) ht O' C h) (Nat.le_of_ble_eq_true rfl) ⟨hl, q1383, va_Decl.of (O.1.ts _ q1382) (O.1.ts _ q1417), by decide, q1384, q1382, q1417, by decide, by decide +kernel⟩ (by omega) (by decide) rfl hst hr d hq rfl kk
  | 1, hk =>
    rw [if_neg (by decide), if_neg (by decide)] at h
    exact c_callOi (k := 1) (As := []) (n := 0) (b' := b) (mc' := 0) (lvl' := 0) (x := ⟨"RankEntry$Op", "goesOn", "()Z"⟩) (y := ⟨"RankEntry$Op", "goesOn", "()Z"⟩) (owner := "RankEntry$Op") (Cn := "RankEntry$Op$2") O (by decide) rfl (fun X' O' => bc_Op_goesOn (t0 := nI 2) ht O' C h) (Nat.le_of_ble_eq_true rfl) ⟨hl, q1383, va_Decl.of (O.1.ts _ q1382) (O.1.ts _ q1417), by decide, q1399, q1382, q1417, by decide, by decide +kernel⟩ (by omega) (by decide) rfl hst hr d hq rfl kk
  | 2, hk =>
    rw [if_neg (by decide), if_neg (by decide)] at h
    exact c_callOi (k := 2) (As := []) (n := 0) (b' := b) (mc' := 0) (lvl' := 0) (x := ⟨"RankEntry$Op", "goesOn", "()Z"⟩) (y := ⟨"RankEntry$Op", "goesOn", "()Z"⟩) (owner := "RankEntry$Op") (Cn := "RankEntry$Op$3") O (by decide) rfl (fun X' O' => bc_Op_goesOn (t0 := nI 3) ht O' C h) (Nat.le_of_ble_eq_true rfl) ⟨hl, q1383, va_Decl.of (O.1.ts _ q1382) (O.1.ts _ q1417), by decide, q1410, q1382, q1417, by decide, by decide +kernel⟩ (by omega) (by decide) rfl hst hr d hq rfl kk
  | 3, hk =>
    rw [if_neg (by decide), if_neg (by decide)] at h
    exact c_callOi (k := 3) (As := []) (n := 0) (b' := b) (mc' := 0) (lvl' := 0) (x := ⟨"RankEntry$Op", "goesOn", "()Z"⟩) (y := ⟨"RankEntry$Op", "goesOn", "()Z"⟩) (owner := "RankEntry$Op") (Cn := "RankEntry$Op$4") O (by decide) rfl (fun X' O' => bc_Op_goesOn (t0 := nI 4) ht O' C h) (Nat.le_of_ble_eq_true rfl) ⟨hl, q1383, va_Decl.of (O.1.ts _ q1382) (O.1.ts _ q1417), by decide, q1411, q1382, q1417, by decide, by decide +kernel⟩ (by omega) (by decide) rfl hst hr d hq rfl kk
  | 4, hk =>
    rw [if_neg (by decide), if_neg (by decide)] at h
    exact c_callOi (k := 4) (As := []) (n := 0) (b' := b) (mc' := 0) (lvl' := 0) (x := ⟨"RankEntry$Op", "goesOn", "()Z"⟩) (y := ⟨"RankEntry$Op", "goesOn", "()Z"⟩) (owner := "RankEntry$Op") (Cn := "RankEntry$Op$5") O (by decide) rfl (fun X' O' => bc_Op_goesOn (t0 := nI 5) ht O' C h) (Nat.le_of_ble_eq_true rfl) ⟨hl, q1383, va_Decl.of (O.1.ts _ q1382) (O.1.ts _ q1417), by decide, q1412, q1382, q1417, by decide, by decide +kernel⟩ (by omega) (by decide) rfl hst hr d hq rfl kk
  | 5, hk =>
    rw [if_neg (by decide), if_neg (by decide)] at h
    exact c_callOi (k := 5) (As := []) (n := 0) (b' := b) (mc' := 0) (lvl' := 0) (x := ⟨"RankEntry$Op", "goesOn", "()Z"⟩) (y := ⟨"RankEntry$Op", "goesOn", "()Z"⟩) (owner := "RankEntry$Op") (Cn := "RankEntry$Op$6") O (by decide) rfl (fun X' O' => bc_Op_goesOn (t0 := nI 6) ht O' C h) (Nat.le_of_ble_eq_true rfl) ⟨hl, q1383, va_Decl.of (O.1.ts _ q1382) (O.1.ts _ q1417), by decide, q1413, q1382, q1417, by decide, by decide +kernel⟩ (by omega) (by decide) rfl hst hr d hq rfl kk
  | 6, hk =>
    rw [if_neg (by decide), if_neg (by decide)] at h
    exact c_callOi (k := 6) (As := []) (n := 0) (b' := b) (mc' := 0) (lvl' := 0) (x := ⟨"RankEntry$Op", "goesOn", "()Z"⟩) (y := ⟨"RankEntry$Op", "goesOn", "()Z"⟩) (owner := "RankEntry$Op") (Cn := "RankEntry$Op$7") O (by decide) rfl (fun X' O' => bc_Op_goesOn (t0 := nI 7) ht O' C h) (Nat.le_of_ble_eq_true rfl) ⟨hl, q1383, va_Decl.of (O.1.ts _ q1382) (O.1.ts _ q1417), by decide, q1414, q1382, q1417, by decide, by decide +kernel⟩ (by omega) (by decide) rfl hst hr d hq rfl kk
  | 7, hk =>
    rw [if_neg (by decide), if_neg (by decide)] at h
    exact c_callOi (k := 7) (As := []) (n := 0) (b' := b) (mc' := 0) (lvl' := 0) (x := ⟨"RankEntry$Op", "goesOn", "()Z"⟩) (y := ⟨"RankEntry$Op", "goesOn", "()Z"⟩) (owner := "RankEntry$Op") (Cn := "RankEntry$Op$8") O (by decide) rfl (fun X' O' => bc_Op_goesOn (t0 := nI 8) ht O' C h) (Nat.le_of_ble_eq_true rfl) ⟨hl, q1383, va_Decl.of (O.1.ts _ q1382) (O.1.ts _ q1417), by decide, q1415, q1382, q1417, by decide, by decide +kernel⟩ (by omega) (by decide) rfl hst hr d hq rfl kk
  | 8, hk =>
    rw [if_neg (by decide), if_neg (by decide)] at h
    exact c_callOi (k := 8) (As := []) (n := 0) (b' := b) (mc' := 0) (lvl' := 0) (x := ⟨"RankEntry$Op", "goesOn", "()Z"⟩) (y := ⟨"RankEntry$Op", "goesOn", "()Z"⟩) (owner := "RankEntry$Op") (Cn := "RankEntry$Op$9") O (by decide) rfl (fun X' O' => bc_Op_goesOn (t0 := nI 9) ht O' C h) (Nat.le_of_ble_eq_true rfl) ⟨hl, q1383, va_Decl.of (O.1.ts _ q1382) (O.1.ts _ q1417), by decide, q1416, q1382, q1417, by decide, by decide +kernel⟩ (by omega) (by decide) rfl hst hr d hq rfl kk
  | 9, hk =>
    rw [if_neg (by decide), if_neg (by decide)] at h
    exact c_callOi (k := 9) (As := []) (n := 0) (b' := b) (mc' := 0) (lvl' := 0) (x := ⟨"RankEntry$Op", "goesOn", "()Z"⟩) (y := ⟨"RankEntry$Op", "goesOn", "()Z"⟩) (owner := "RankEntry$Op") (Cn := "RankEntry$Op$10") O (by decide) rfl (fun X' O' => bc_Op_goesOn (t0 := nI 10) ht O' C h) (Nat.le_of_ble_eq_true rfl) ⟨hl, q1383, va_Decl.of (O.1.ts _ q1382) (O.1.ts _ q1417), by decide, q1385, q1382, q1417, by decide, by decide +kernel⟩ (by omega) (by decide) rfl hst hr d hq rfl kk
  | 10, hk =>
    rw [if_pos (by decide)] at h
    exact c_callOi (k := 10) (As := []) (n := 0) (b' := b) (mc' := 0) (lvl' := 0) (x := ⟨"RankEntry$Op", "goesOn", "()Z"⟩) (y := ⟨"RankEntry$Op$11", "goesOn", "()Z"⟩) (owner := "RankEntry$Op") (Cn := "RankEntry$Op$11") O (by decide) rfl (fun X' O' => bc_Op11_goesOn O' C h) (Nat.le_of_ble_eq_true rfl) ⟨hl, q1383, va_Decl.of (O.1.ts _ q1382) (O.1.ts _ q1417), by decide, q1386, q1387, q1388, by decide, by decide +kernel⟩ (by omega) (by decide) rfl hst hr d hq rfl kk
  | 11, hk =>
    rw [if_neg (by decide), if_neg (by decide)] at h
    exact c_callOi (k := 11) (As := []) (n := 0) (b' := b) (mc' := 0) (lvl' := 0) (x := ⟨"RankEntry$Op", "goesOn", "()Z"⟩) (y := ⟨"RankEntry$Op", "goesOn", "()Z"⟩) (owner := "RankEntry$Op") (Cn := "RankEntry$Op$12") O (by decide) rfl (fun X' O' => bc_Op_goesOn (t0 := nI 12) ht O' C h) (Nat.le_of_ble_eq_true rfl) ⟨hl, q1383, va_Decl.of (O.1.ts _ q1382) (O.1.ts _ q1417), by decide, q1389, q1382, q1417, by decide, by decide +kernel⟩ (by omega) (by decide) rfl hst hr d hq rfl kk
  | 12, hk =>
    rw [if_neg (by decide), if_neg (by decide)] at h
    exact c_callOi (k := 12) (As := []) (n := 0) (b' := b) (mc' := 0) (lvl' := 0) (x := ⟨"RankEntry$Op", "goesOn", "()Z"⟩) (y := ⟨"RankEntry$Op", "goesOn", "()Z"⟩) (owner := "RankEntry$Op") (Cn := "RankEntry$Op$13") O (by decide) rfl (fun X' O' => bc_Op_goesOn (t0 := nI 13) ht O' C h) (Nat.le_of_ble_eq_true rfl) ⟨hl, q1383, va_Decl.of (O.1.ts _ q1382) (O.1.ts _ q1417), by decide, q1390, q1382, q1417, by decide, by decide +kernel⟩ (by omega) (by decide) rfl hst hr d hq rfl kk
  | 13, hk =>
    rw [if_neg (by decide), if_neg (by decide)] at h
    exact c_callOi (k := 13) (As := []) (n := 0) (b' := b) (mc' := 0) (lvl' := 0) (x := ⟨"RankEntry$Op", "goesOn", "()Z"⟩) (y := ⟨"RankEntry$Op", "goesOn", "()Z"⟩) (owner := "RankEntry$Op") (Cn := "RankEntry$Op$14") O (by decide) rfl (fun X' O' => bc_Op_goesOn (t0 := nI 14) ht O' C h) (Nat.le_of_ble_eq_true rfl) ⟨hl, q1383, va_Decl.of (O.1.ts _ q1382) (O.1.ts _ q1417), by decide, q1391, q1382, q1417, by decide, by decide +kernel⟩ (by omega) (by decide) rfl hst hr d hq rfl kk
  | 14, hk =>
    rw [if_neg (by decide), if_neg (by decide)] at h
    exact c_callOi (k := 14) (As := []) (n := 0) (b' := b) (mc' := 0) (lvl' := 0) (x := ⟨"RankEntry$Op", "goesOn", "()Z"⟩) (y := ⟨"RankEntry$Op", "goesOn", "()Z"⟩) (owner := "RankEntry$Op") (Cn := "RankEntry$Op$15") O (by decide) rfl (fun X' O' => bc_Op_goesOn (t0 := nI 15) ht O' C h) (Nat.le_of_ble_eq_true rfl) ⟨hl, q1383, va_Decl.of (O.1.ts _ q1382) (O.1.ts _ q1417), by decide, q1392, q1382, q1417, by decide, by decide +kernel⟩ (by omega) (by decide) rfl hst hr d hq rfl kk
  | 15, hk =>
    rw [if_neg (by decide), if_neg (by decide)] at h
    exact c_callOi (k := 15) (As := []) (n := 0) (b' := b) (mc' := 0) (lvl' := 0) (x := ⟨"RankEntry$Op", "goesOn", "()Z"⟩) (y := ⟨"RankEntry$Op", "goesOn", "()Z"⟩) (owner := "RankEntry$Op") (Cn := "RankEntry$Op$16") O (by decide) rfl (fun X' O' => bc_Op_goesOn (t0 := nI 16) ht O' C h) (Nat.le_of_ble_eq_true rfl) ⟨hl, q1383, va_Decl.of (O.1.ts _ q1382) (O.1.ts _ q1417), by decide, q1393, q1382, q1417, by decide, by decide +kernel⟩ (by omega) (by decide) rfl hst hr d hq rfl kk
  | 16, hk =>
    rw [if_neg (by decide), if_neg (by decide)] at h
    exact c_callOi (k := 16) (As := []) (n := 0) (b' := b) (mc' := 0) (lvl' := 0) (x := ⟨"RankEntry$Op", "goesOn", "()Z"⟩) (y := ⟨"RankEntry$Op", "goesOn", "()Z"⟩) (owner := "RankEntry$Op") (Cn := "RankEntry$Op$17") O (by decide) rfl (fun X' O' => bc_Op_goesOn (t0 := nI 17) ht O' C h) (Nat.le_of_ble_eq_true rfl) ⟨hl, q1383, va_Decl.of (O.1.ts _ q1382) (O.1.ts _ q1417), by decide, q1394, q1382, q1417, by decide, by decide +kernel⟩ (by omega) (by decide) rfl hst hr d hq rfl kk
  | 17, hk =>
    rw [if_neg (by decide), if_pos (by decide)] at h
    exact c_callOi (k := 17) (As := []) (n := 0) (b' := b) (mc' := 0) (lvl' := 0) (x := ⟨"RankEntry$Op", "goesOn", "()Z"⟩) (y := ⟨"RankEntry$Op$18", "goesOn", "()Z"⟩) (owner := "RankEntry$Op") (Cn := "RankEntry$Op$18") O (by decide) rfl (fun X' O' => bc_Op18_goesOn O' C h) (Nat.le_of_ble_eq_true rfl) ⟨hl, q1383, va_Decl.of (O.1.ts _ q1382) (O.1.ts _ q1417), by decide, q1395, q1396, q1397, by decide, by decide +kernel⟩ (by omega) (by decide) rfl hst hr d hq rfl kk
  | 18, hk =>
    rw [if_neg (by decide), if_neg (by decide)] at h
    exact c_callOi (k := 18) (As := []) (n := 0) (b' := b) (mc' := 0) (lvl' := 0) (x := ⟨"RankEntry$Op", "goesOn", "()Z"⟩) (y := ⟨"RankEntry$Op", "goesOn", "()Z"⟩) (owner := "RankEntry$Op") (Cn := "RankEntry$Op$19") O (by decide) rfl (fun X' O' => bc_Op_goesOn (t0 := nI 19) ht O' C h) (Nat.le_of_ble_eq_true rfl) ⟨hl, q1383, va_Decl.of (O.1.ts _ q1382) (O.1.ts _ q1417), by decide, q1398, q1382, q1417, by decide, by decide +kernel⟩ (by omega) (by decide) rfl hst hr d hq rfl kk
  | 19, hk =>
    rw [if_neg (by decide), if_neg (by decide)] at h
    exact c_callOi (k := 19) (As := []) (n := 0) (b' := b) (mc' := 0) (lvl' := 0) (x := ⟨"RankEntry$Op", "goesOn", "()Z"⟩) (y := ⟨"RankEntry$Op", "goesOn", "()Z"⟩) (owner := "RankEntry$Op") (Cn := "RankEntry$Op$20") O (by decide) rfl (fun X' O' => bc_Op_goesOn (t0 := nI 20) ht O' C h) (Nat.le_of_ble_eq_true rfl) ⟨hl, q1383, va_Decl.of (O.1.ts _ q1382) (O.1.ts _ q1417), by decide, q1400, q1382, q1417, by decide, by decide +kernel⟩ (by omega) (by decide) rfl hst hr d hq rfl kk
  | 20, hk =>
    rw [if_neg (by decide), if_neg (by decide)] at h
    exact c_callOi (k := 20) (As := []) (n := 0) (b' := b) (mc' := 0) (lvl' := 0) (x := ⟨"RankEntry$Op", "goesOn", "()Z"⟩) (y := ⟨"RankEntry$Op", "goesOn", "()Z"⟩) (owner := "RankEntry$Op") (Cn := "RankEntry$Op$21") O (by decide) rfl (fun X' O' => bc_Op_goesOn (t0 := nI 21) ht O' C h) (Nat.le_of_ble_eq_true rfl) ⟨hl, q1383, va_Decl.of (O.1.ts _ q1382) (O.1.ts _ q1417), by decide, q1401, q1382, q1417, by decide, by decide +kernel⟩ (by omega) (by decide) rfl hst hr d hq rfl kk
  | 21, hk =>
    rw [if_neg (by decide), if_neg (by decide)] at h
    exact c_callOi (k := 21) (As := []) (n := 0) (b' := b) (mc' := 0) (lvl' := 0) (x := ⟨"RankEntry$Op", "goesOn", "()Z"⟩) (y := ⟨"RankEntry$Op", "goesOn", "()Z"⟩) (owner := "RankEntry$Op") (Cn := "RankEntry$Op$22") O (by decide) rfl (fun X' O' => bc_Op_goesOn (t0 := nI 22) ht O' C h) (Nat.le_of_ble_eq_true rfl) ⟨hl, q1383, va_Decl.of (O.1.ts _ q1382) (O.1.ts _ q1417), by decide, q1402, q1382, q1417, by decide, by decide +kernel⟩ (by omega) (by decide) rfl hst hr d hq rfl kk
  | 22, hk =>
    rw [if_neg (by decide), if_neg (by decide)] at h
    exact c_callOi (k := 22) (As := []) (n := 0) (b' := b) (mc' := 0) (lvl' := 0) (x := ⟨"RankEntry$Op", "goesOn", "()Z"⟩) (y := ⟨"RankEntry$Op", "goesOn", "()Z"⟩) (owner := "RankEntry$Op") (Cn := "RankEntry$Op$23") O (by decide) rfl (fun X' O' => bc_Op_goesOn (t0 := nI 23) ht O' C h) (Nat.le_of_ble_eq_true rfl) ⟨hl, q1383, va_Decl.of (O.1.ts _ q1382) (O.1.ts _ q1417), by decide, q1403, q1382, q1417, by decide, by decide +kernel⟩ (by omega) (by decide) rfl hst hr d hq rfl kk
  | 23, hk =>
    rw [if_neg (by decide), if_neg (by decide)] at h
    exact c_callOi (k := 23) (As := []) (n := 0) (b' := b) (mc' := 0) (lvl' := 0) (x := ⟨"RankEntry$Op", "goesOn", "()Z"⟩) (y := ⟨"RankEntry$Op", "goesOn", "()Z"⟩) (owner := "RankEntry$Op") (Cn := "RankEntry$Op$24") O (by decide) rfl (fun X' O' => bc_Op_goesOn (t0 := nI 24) ht O' C h) (Nat.le_of_ble_eq_true rfl) ⟨hl, q1383, va_Decl.of (O.1.ts _ q1382) (O.1.ts _ q1417), by decide, q1404, q1382, q1417, by decide, by decide +kernel⟩ (by omega) (by decide) rfl hst hr d hq rfl kk
  | 24, hk =>
    rw [if_neg (by decide), if_neg (by decide)] at h
    exact c_callOi (k := 24) (As := []) (n := 0) (b' := b) (mc' := 0) (lvl' := 0) (x := ⟨"RankEntry$Op", "goesOn", "()Z"⟩) (y := ⟨"RankEntry$Op", "goesOn", "()Z"⟩) (owner := "RankEntry$Op") (Cn := "RankEntry$Op$25") O (by decide) rfl (fun X' O' => bc_Op_goesOn (t0 := nI 25) ht O' C h) (Nat.le_of_ble_eq_true rfl) ⟨hl, q1383, va_Decl.of (O.1.ts _ q1382) (O.1.ts _ q1417), by decide, q1405, q1382, q1417, by decide, by decide +kernel⟩ (by omega) (by decide) rfl hst hr d hq rfl kk
  | 25, hk =>
    rw [if_neg (by decide), if_neg (by decide)] at h
    exact c_callOi (k := 25) (As := []) (n := 0) (b' := b) (mc' := 0) (lvl' := 0) (x := ⟨"RankEntry$Op", "goesOn", "()Z"⟩) (y := ⟨"RankEntry$Op", "goesOn", "()Z"⟩) (owner := "RankEntry$Op") (Cn := "RankEntry$Op$26") O (by decide) rfl (fun X' O' => bc_Op_goesOn (t0 := nI 26) ht O' C h) (Nat.le_of_ble_eq_true rfl) ⟨hl, q1383, va_Decl.of (O.1.ts _ q1382) (O.1.ts _ q1417), by decide, q1406, q1382, q1417, by decide, by decide +kernel⟩ (by omega) (by decide) rfl hst hr d hq rfl kk
  | 26, hk =>
    rw [if_neg (by decide), if_neg (by decide)] at h
    exact c_callOi (k := 26) (As := []) (n := 0) (b' := b) (mc' := 0) (lvl' := 0) (x := ⟨"RankEntry$Op", "goesOn", "()Z"⟩) (y := ⟨"RankEntry$Op", "goesOn", "()Z"⟩) (owner := "RankEntry$Op") (Cn := "RankEntry$Op$27") O (by decide) rfl (fun X' O' => bc_Op_goesOn (t0 := nI 27) ht O' C h) (Nat.le_of_ble_eq_true rfl) ⟨hl, q1383, va_Decl.of (O.1.ts _ q1382) (O.1.ts _ q1417), by decide, q1407, q1382, q1417, by decide, by decide +kernel⟩ (by omega) (by decide) rfl hst hr d hq rfl kk
  | 27, hk =>
    rw [if_neg (by decide), if_neg (by decide)] at h
    exact c_callOi (k := 27) (As := []) (n := 0) (b' := b) (mc' := 0) (lvl' := 0) (x := ⟨"RankEntry$Op", "goesOn", "()Z"⟩) (y := ⟨"RankEntry$Op", "goesOn", "()Z"⟩) (owner := "RankEntry$Op") (Cn := "RankEntry$Op$28") O (by decide) rfl (fun X' O' => bc_Op_goesOn (t0 := nI 28) ht O' C h) (Nat.le_of_ble_eq_true rfl) ⟨hl, q1383, va_Decl.of (O.1.ts _ q1382) (O.1.ts _ q1417), by decide, q1408, q1382, q1417, by decide, by decide +kernel⟩ (by omega) (by decide) rfl hst hr d hq rfl kk
  | 28, hk =>
    rw [if_neg (by decide), if_neg (by decide)] at h
    exact c_callOi (k := 28) (As := []) (n := 0) (b' := b) (mc' := 0) (lvl' := 0) (x := ⟨"RankEntry$Op", "goesOn", "()Z"⟩) (y := ⟨"RankEntry$Op", "goesOn", "()Z"⟩) (owner := "RankEntry$Op") (Cn := "RankEntry$Op$29") O (by decide) rfl (fun X' O' => bc_Op_goesOn (t0 := nI 29) ht O' C h) (Nat.le_of_ble_eq_true rfl) ⟨hl, q1383, va_Decl.of (O.1.ts _ q1382) (O.1.ts _ q1417), by decide, q1409, q1382, q1417, by decide, by decide +kernel⟩ (by omega) (by decide) rfl hst hr d hq rfl kk
  | k + 29, hk => omega
def fv_o_jumps (t : Int32) (C : Mem) : Option (Int32 × Mem) :=
  if t = 11 then fc_Op11_jumps C else
  if t = 12 then fc_Op12_jumps C else
  if t = 13 then fc_Op13_jumps C else
  fc_Op_jumps t C
set_option maxHeartbeats 4000000 in
theorem c_o_jumps {r : Int32} (O : OkC g X cc nL ret own lvl mc Qc) {idx : Nat} {t : Int32} (ht : inO t = true) (h : fv_o_jumps t C = some (r, C')) (hl : Cond.methodLink own idx ⟨"RankEntry$Op", "jumps", "()Z"⟩ ∈ lw_all) (hlv : 1 ≤ lvl) (hst : st = .ref (gCo g (t.toNatClampNeg - 1)) :: rest) (hr : (rest.map fun v => v.category).sum ≤ 8) (d : decode cc pc = .ok (.invokevirtual idx, 3)) (hq : pc + 3 = q) (kk : V X nL b (WdC g C') q lv (.int r :: rest)) : V X nL b (WdC g C) pc lv st := by
  obtain ⟨k, hk, rfl⟩ := inO_k ht
  unfold fv_o_jumps at h
  match k, hk with
  | 0, hk =>
    rw [if_neg (by decide), if_neg (by decide), if_neg (by decide)] at h
    exact c_callOi (k := 0) (As := []) (n := 0) (b' := b) (mc' := 0) (lvl' := 0) (x := ⟨"RankEntry$Op", "jumps", "()Z"⟩) (y := ⟨"RankEntry$Op", "jumps", "()Z"⟩) (owner := "RankEntry$Op") (Cn := "RankEntry$Op$1") O (by decide) rfl (fun X' O' => bc_Op_jumps (t0 := nI 1) ht O' C h) (Nat.le_of_ble_eq_true rfl) ⟨hl, q1420, va_Decl.of (O.1.ts _ q1419) (O.1.ts _ q1456), by decide, q1421, q1419, q1456, by decide, by decide +kernel⟩ (by omega) (by decide) rfl hst hr d hq rfl kk
  | 1, hk =>
    rw [if_neg (by decide), if_neg (by decide), if_neg (by decide)] at h
    exact c_callOi (k := 1) (As := []) (n := 0) (b' := b) (mc' := 0) (lvl' := 0) (x := ⟨"RankEntry$Op", "jumps", "()Z"⟩) (y := ⟨"RankEntry$Op", "jumps", "()Z"⟩) (owner := "RankEntry$Op") (Cn := "RankEntry$Op$2") O (by decide) rfl (fun X' O' => bc_Op_jumps (t0 := nI 2) ht O' C h) (Nat.le_of_ble_eq_true rfl) ⟨hl, q1420, va_Decl.of (O.1.ts _ q1419) (O.1.ts _ q1456), by decide, q1438, q1419, q1456, by decide, by decide +kernel⟩ (by omega) (by decide) rfl hst hr d hq rfl kk
  | 2, hk =>
    rw [if_neg (by decide), if_neg (by decide), if_neg (by decide)] at h
    exact c_callOi (k := 2) (As := []) (n := 0) (b' := b) (mc' := 0) (lvl' := 0) (x := ⟨"RankEntry$Op", "jumps", "()Z"⟩) (y := ⟨"RankEntry$Op", "jumps", "()Z"⟩) (owner := "RankEntry$Op") (Cn := "RankEntry$Op$3") O (by decide) rfl (fun X' O' => bc_Op_jumps (t0 := nI 3) ht O' C h) (Nat.le_of_ble_eq_true rfl) ⟨hl, q1420, va_Decl.of (O.1.ts _ q1419) (O.1.ts _ q1456), by decide, q1449, q1419, q1456, by decide, by decide +kernel⟩ (by omega) (by decide) rfl hst hr d hq rfl kk
  | 3, hk =>
    rw [if_neg (by decide), if_neg (by decide), if_neg (by decide)] at h
    exact c_callOi (k := 3) (As := []) (n := 0) (b' := b) (mc' := 0) (lvl' := 0) (x := ⟨"RankEntry$Op", "jumps", "()Z"⟩) (y := ⟨"RankEntry$Op", "jumps", "()Z"⟩) (owner := "RankEntry$Op") (Cn := "RankEntry$Op$4") O (by decide) rfl (fun X' O' => bc_Op_jumps (t0 := nI 4) ht O' C h) (Nat.le_of_ble_eq_true rfl) ⟨hl, q1420, va_Decl.of (O.1.ts _ q1419) (O.1.ts _ q1456), by decide, q1450, q1419, q1456, by decide, by decide +kernel⟩ (by omega) (by decide) rfl hst hr d hq rfl kk
  | 4, hk =>
    rw [if_neg (by decide), if_neg (by decide), if_neg (by decide)] at h
    exact c_callOi (k := 4) (As := []) (n := 0) (b' := b) (mc' := 0) (lvl' := 0) (x := ⟨"RankEntry$Op", "jumps", "()Z"⟩) (y := ⟨"RankEntry$Op", "jumps", "()Z"⟩) (owner := "RankEntry$Op") (Cn := "RankEntry$Op$5") O (by decide) rfl (fun X' O' => bc_Op_jumps (t0 := nI 5) ht O' C h) (Nat.le_of_ble_eq_true rfl) ⟨hl, q1420, va_Decl.of (O.1.ts _ q1419) (O.1.ts _ q1456), by decide, q1451, q1419, q1456, by decide, by decide +kernel⟩ (by omega) (by decide) rfl hst hr d hq rfl kk
  | 5, hk =>
    rw [if_neg (by decide), if_neg (by decide), if_neg (by decide)] at h
    exact c_callOi (k := 5) (As := []) (n := 0) (b' := b) (mc' := 0) (lvl' := 0) (x := ⟨"RankEntry$Op", "jumps", "()Z"⟩) (y := ⟨"RankEntry$Op", "jumps", "()Z"⟩) (owner := "RankEntry$Op") (Cn := "RankEntry$Op$6") O (by decide) rfl (fun X' O' => bc_Op_jumps (t0 := nI 6) ht O' C h) (Nat.le_of_ble_eq_true rfl) ⟨hl, q1420, va_Decl.of (O.1.ts _ q1419) (O.1.ts _ q1456), by decide, q1452, q1419, q1456, by decide, by decide +kernel⟩ (by omega) (by decide) rfl hst hr d hq rfl kk
  | 6, hk =>
    rw [if_neg (by decide), if_neg (by decide), if_neg (by decide)] at h
    exact c_callOi (k := 6) (As := []) (n := 0) (b' := b) (mc' := 0) (lvl' := 0) (x := ⟨"RankEntry$Op", "jumps", "()Z"⟩) (y := ⟨"RankEntry$Op", "jumps", "()Z"⟩) (owner := "RankEntry$Op") (Cn := "RankEntry$Op$7") O (by decide) rfl (fun X' O' => bc_Op_jumps (t0 := nI 7) ht O' C h) (Nat.le_of_ble_eq_true rfl) ⟨hl, q1420, va_Decl.of (O.1.ts _ q1419) (O.1.ts _ q1456), by decide, q1453, q1419, q1456, by decide, by decide +kernel⟩ (by omega) (by decide) rfl hst hr d hq rfl kk
  | 7, hk =>
    rw [if_neg (by decide), if_neg (by decide), if_neg (by decide)] at h
    exact c_callOi (k := 7) (As := []) (n := 0) (b' := b) (mc' := 0) (lvl' := 0) (x := ⟨"RankEntry$Op", "jumps", "()Z"⟩) (y := ⟨"RankEntry$Op", "jumps", "()Z"⟩) (owner := "RankEntry$Op") (Cn := "RankEntry$Op$8") O (by decide) rfl (fun X' O' => bc_Op_jumps (t0 := nI 8) ht O' C h) (Nat.le_of_ble_eq_true rfl) ⟨hl, q1420, va_Decl.of (O.1.ts _ q1419) (O.1.ts _ q1456), by decide, q1454, q1419, q1456, by decide, by decide +kernel⟩ (by omega) (by decide) rfl hst hr d hq rfl kk
  | 8, hk =>
    rw [if_neg (by decide), if_neg (by decide), if_neg (by decide)] at h
    exact c_callOi (k := 8) (As := []) (n := 0) (b' := b) (mc' := 0) (lvl' := 0) (x := ⟨"RankEntry$Op", "jumps", "()Z"⟩) (y := ⟨"RankEntry$Op", "jumps", "()Z"⟩) (owner := "RankEntry$Op") (Cn := "RankEntry$Op$9") O (by decide) rfl (fun X' O' => bc_Op_jumps (t0 := nI 9) ht O' C h) (Nat.le_of_ble_eq_true rfl) ⟨hl, q1420, va_Decl.of (O.1.ts _ q1419) (O.1.ts _ q1456), by decide, q1455, q1419, q1456, by decide, by decide +kernel⟩ (by omega) (by decide) rfl hst hr d hq rfl kk
  | 9, hk =>
    rw [if_neg (by decide), if_neg (by decide), if_neg (by decide)] at h
    exact c_callOi (k := 9) (As := []) (n := 0) (b' := b) (mc' := 0) (lvl' := 0) (x := ⟨"RankEntry$Op", "jumps", "()Z"⟩) (y := ⟨"RankEntry$Op", "jumps", "()Z"⟩) (owner := "RankEntry$Op") (Cn := "RankEntry$Op$10") O (by decide) rfl (fun X' O' => bc_Op_jumps (t0 := nI 10) ht O' C h) (Nat.le_of_ble_eq_true rfl) ⟨hl, q1420, va_Decl.of (O.1.ts _ q1419) (O.1.ts _ q1456), by decide, q1422, q1419, q1456, by decide, by decide +kernel⟩ (by omega) (by decide) rfl hst hr d hq rfl kk
  | 10, hk =>
    rw [if_pos (by decide)] at h
    exact c_callOi (k := 10) (As := []) (n := 0) (b' := b) (mc' := 0) (lvl' := 0) (x := ⟨"RankEntry$Op", "jumps", "()Z"⟩) (y := ⟨"RankEntry$Op$11", "jumps", "()Z"⟩) (owner := "RankEntry$Op") (Cn := "RankEntry$Op$11") O (by decide) rfl (fun X' O' => bc_Op11_jumps O' C h) (Nat.le_of_ble_eq_true rfl) ⟨hl, q1420, va_Decl.of (O.1.ts _ q1419) (O.1.ts _ q1456), by decide, q1423, q1424, q1425, by decide, by decide +kernel⟩ (by omega) (by decide) rfl hst hr d hq rfl kk
  | 11, hk =>
    rw [if_neg (by decide), if_pos (by decide)] at h
    exact c_callOi (k := 11) (As := []) (n := 0) (b' := b) (mc' := 0) (lvl' := 0) (x := ⟨"RankEntry$Op", "jumps", "()Z"⟩) (y := ⟨"RankEntry$Op$12", "jumps", "()Z"⟩) (owner := "RankEntry$Op") (Cn := "RankEntry$Op$12") O (by decide) rfl (fun X' O' => bc_Op12_jumps O' C h) (Nat.le_of_ble_eq_true rfl) ⟨hl, q1420, va_Decl.of (O.1.ts _ q1419) (O.1.ts _ q1456), by decide, q1426, q1427, q1428, by decide, by decide +kernel⟩ (by omega) (by decide) rfl hst hr d hq rfl kk
  | 12, hk =>
    rw [if_neg (by decide), if_neg (by decide), if_pos (by decide)] at h
    exact c_callOi (k := 12) (As := []) (n := 0) (b' := b) (mc' := 0) (lvl' := 0) (x := ⟨"RankEntry$Op", "jumps", "()Z"⟩) (y := ⟨"RankEntry$Op$13", "jumps", "()Z"⟩) (owner := "RankEntry$Op") (Cn := "RankEntry$Op$13") O (by decide) rfl (fun X' O' => bc_Op13_jumps O' C h) (Nat.le_of_ble_eq_true rfl) ⟨hl, q1420, va_Decl.of (O.1.ts _ q1419) (O.1.ts _ q1456), by decide, q1429, q1430, q1431, by decide, by decide +kernel⟩ (by omega) (by decide) rfl hst hr d hq rfl kk
  | 13, hk =>
    rw [if_neg (by decide), if_neg (by decide), if_neg (by decide)] at h
    exact c_callOi (k := 13) (As := []) (n := 0) (b' := b) (mc' := 0) (lvl' := 0) (x := ⟨"RankEntry$Op", "jumps", "()Z"⟩) (y := ⟨"RankEntry$Op", "jumps", "()Z"⟩) (owner := "RankEntry$Op") (Cn := "RankEntry$Op$14") O (by decide) rfl (fun X' O' => bc_Op_jumps (t0 := nI 14) ht O' C h) (Nat.le_of_ble_eq_true rfl) ⟨hl, q1420, va_Decl.of (O.1.ts _ q1419) (O.1.ts _ q1456), by decide, q1432, q1419, q1456, by decide, by decide +kernel⟩ (by omega) (by decide) rfl hst hr d hq rfl kk
  | 14, hk =>
    rw [if_neg (by decide), if_neg (by decide), if_neg (by decide)] at h
    exact c_callOi (k := 14) (As := []) (n := 0) (b' := b) (mc' := 0) (lvl' := 0) (x := ⟨"RankEntry$Op", "jumps", "()Z"⟩) (y := ⟨"RankEntry$Op", "jumps", "()Z"⟩) (owner := "RankEntry$Op") (Cn := "RankEntry$Op$15") O (by decide) rfl (fun X' O' => bc_Op_jumps (t0 := nI 15) ht O' C h) (Nat.le_of_ble_eq_true rfl) ⟨hl, q1420, va_Decl.of (O.1.ts _ q1419) (O.1.ts _ q1456), by decide, q1433, q1419, q1456, by decide, by decide +kernel⟩ (by omega) (by decide) rfl hst hr d hq rfl kk
  | 15, hk =>
    rw [if_neg (by decide), if_neg (by decide), if_neg (by decide)] at h
    exact c_callOi (k := 15) (As := []) (n := 0) (b' := b) (mc' := 0) (lvl' := 0) (x := ⟨"RankEntry$Op", "jumps", "()Z"⟩) (y := ⟨"RankEntry$Op", "jumps", "()Z"⟩) (owner := "RankEntry$Op") (Cn := "RankEntry$Op$16") O (by decide) rfl (fun X' O' => bc_Op_jumps (t0 := nI 16) ht O' C h) (Nat.le_of_ble_eq_true rfl) ⟨hl, q1420, va_Decl.of (O.1.ts _ q1419) (O.1.ts _ q1456), by decide, q1434, q1419, q1456, by decide, by decide +kernel⟩ (by omega) (by decide) rfl hst hr d hq rfl kk
  | 16, hk =>
    rw [if_neg (by decide), if_neg (by decide), if_neg (by decide)] at h
    exact c_callOi (k := 16) (As := []) (n := 0) (b' := b) (mc' := 0) (lvl' := 0) (x := ⟨"RankEntry$Op", "jumps", "()Z"⟩) (y := ⟨"RankEntry$Op", "jumps", "()Z"⟩) (owner := "RankEntry$Op") (Cn := "RankEntry$Op$17") O (by decide) rfl (fun X' O' => bc_Op_jumps (t0 := nI 17) ht O' C h) (Nat.le_of_ble_eq_true rfl) ⟨hl, q1420, va_Decl.of (O.1.ts _ q1419) (O.1.ts _ q1456), by decide, q1435, q1419, q1456, by decide, by decide +kernel⟩ (by omega) (by decide) rfl hst hr d hq rfl kk
  | 17, hk =>
    rw [if_neg (by decide), if_neg (by decide), if_neg (by decide)] at h
    exact c_callOi (k := 17) (As := []) (n := 0) (b' := b) (mc' := 0) (lvl' := 0) (x := ⟨"RankEntry$Op", "jumps", "()Z"⟩) (y := ⟨"RankEntry$Op", "jumps", "()Z"⟩) (owner := "RankEntry$Op") (Cn := "RankEntry$Op$18") O (by decide) rfl (fun X' O' => bc_Op_jumps (t0 := nI 18) ht O' C h) (Nat.le_of_ble_eq_true rfl) ⟨hl, q1420, va_Decl.of (O.1.ts _ q1419) (O.1.ts _ q1456), by decide, q1436, q1419, q1456, by decide, by decide +kernel⟩ (by omega) (by decide) rfl hst hr d hq rfl kk
  | 18, hk =>
    rw [if_neg (by decide), if_neg (by decide), if_neg (by decide)] at h
    exact c_callOi (k := 18) (As := []) (n := 0) (b' := b) (mc' := 0) (lvl' := 0) (x := ⟨"RankEntry$Op", "jumps", "()Z"⟩) (y := ⟨"RankEntry$Op", "jumps", "()Z"⟩) (owner := "RankEntry$Op") (Cn := "RankEntry$Op$19") O (by decide) rfl (fun X' O' => bc_Op_jumps (t0 := nI 19) ht O' C h) (Nat.le_of_ble_eq_true rfl) ⟨hl, q1420, va_Decl.of (O.1.ts _ q1419) (O.1.ts _ q1456), by decide, q1437, q1419, q1456, by decide, by decide +kernel⟩ (by omega) (by decide) rfl hst hr d hq rfl kk
  | 19, hk =>
    rw [if_neg (by decide), if_neg (by decide), if_neg (by decide)] at h
    exact c_callOi (k := 19) (As := []) (n := 0) (b' := b) (mc' := 0) (lvl' := 0) (x := ⟨"RankEntry$Op", "jumps", "()Z"⟩) (y := ⟨"RankEntry$Op", "jumps", "()Z"⟩) (owner := "RankEntry$Op") (Cn := "RankEntry$Op$20") O (by decide) rfl (fun X' O' => bc_Op_jumps (t0 := nI 20) ht O' C h) (Nat.le_of_ble_eq_true rfl) ⟨hl, q1420, va_Decl.of (O.1.ts _ q1419) (O.1.ts _ q1456), by decide, q1439, q1419, q1456, by decide, by decide +kernel⟩ (by omega) (by decide) rfl hst hr d hq rfl kk
  | 20, hk =>
    rw [if_neg (by decide), if_neg (by decide), if_neg (by decide)] at h
    exact c_callOi (k := 20) (As := []) (n := 0) (b' := b) (mc' := 0) (lvl' := 0) (x := ⟨"RankEntry$Op", "jumps", "()Z"⟩) (y := ⟨"RankEntry$Op", "jumps", "()Z"⟩) (owner := "RankEntry$Op") (Cn := "RankEntry$Op$21") O (by decide) rfl (fun X' O' => bc_Op_jumps (t0 := nI 21) ht O' C h) (Nat.le_of_ble_eq_true rfl) ⟨hl, q1420, va_Decl.of (O.1.ts _ q1419) (O.1.ts _ q1456), by decide, q1440, q1419, q1456, by decide, by decide +kernel⟩ (by omega) (by decide) rfl hst hr d hq rfl kk
  | 21, hk =>
    rw [if_neg (by decide), if_neg (by decide), if_neg (by decide)] at h
    exact c_callOi (k := 21) (As := []) (n := 0) (b' := b) (mc' := 0) (lvl' := 0) (x := ⟨"RankEntry$Op", "jumps", "()Z"⟩) (y := ⟨"RankEntry$Op", "jumps", "()Z"⟩) (owner := "RankEntry$Op") (Cn := "RankEntry$Op$22") O (by decide) rfl (fun X' O' => bc_Op_jumps (t0 := nI 22) ht O' C h) (Nat.le_of_ble_eq_true rfl) ⟨hl, q1420, va_Decl.of (O.1.ts _ q1419) (O.1.ts _ q1456), by decide, q1441, q1419, q1456, by decide, by decide +kernel⟩ (by omega) (by decide) rfl hst hr d hq rfl kk
  | 22, hk =>
    rw [if_neg (by decide), if_neg (by decide), if_neg (by decide)] at h
    exact c_callOi (k := 22) (As := []) (n := 0) (b' := b) (mc' := 0) (lvl' := 0) (x := ⟨"RankEntry$Op", "jumps", "()Z"⟩) (y := ⟨"RankEntry$Op", "jumps", "()Z"⟩) (owner := "RankEntry$Op") (Cn := "RankEntry$Op$23") O (by decide) rfl (fun X' O' => bc_Op_jumps (t0 := nI 23) ht O' C h) (Nat.le_of_ble_eq_true rfl) ⟨hl, q1420, va_Decl.of (O.1.ts _ q1419) (O.1.ts _ q1456), by decide, q1442, q1419, q1456, by decide, by decide +kernel⟩ (by omega) (by decide) rfl hst hr d hq rfl kk
  | 23, hk =>
    rw [if_neg (by decide), if_neg (by decide), if_neg (by decide)] at h
    exact c_callOi (k := 23) (As := []) (n := 0) (b' := b) (mc' := 0) (lvl' := 0) (x := ⟨"RankEntry$Op", "jumps", "()Z"⟩) (y := ⟨"RankEntry$Op", "jumps", "()Z"⟩) (owner := "RankEntry$Op") (Cn := "RankEntry$Op$24") O (by decide) rfl (fun X' O' => bc_Op_jumps (t0 := nI 24) ht O' C h) (Nat.le_of_ble_eq_true rfl) ⟨hl, q1420, va_Decl.of (O.1.ts _ q1419) (O.1.ts _ q1456), by decide, q1443, q1419, q1456, by decide, by decide +kernel⟩ (by omega) (by decide) rfl hst hr d hq rfl kk
  | 24, hk =>
    rw [if_neg (by decide), if_neg (by decide), if_neg (by decide)] at h
    exact c_callOi (k := 24) (As := []) (n := 0) (b' := b) (mc' := 0) (lvl' := 0) (x := ⟨"RankEntry$Op", "jumps", "()Z"⟩) (y := ⟨"RankEntry$Op", "jumps", "()Z"⟩) (owner := "RankEntry$Op") (Cn := "RankEntry$Op$25") O (by decide) rfl (fun X' O' => bc_Op_jumps (t0 := nI 25) ht O' C h) (Nat.le_of_ble_eq_true rfl) ⟨hl, q1420, va_Decl.of (O.1.ts _ q1419) (O.1.ts _ q1456), by decide, q1444, q1419, q1456, by decide, by decide +kernel⟩ (by omega) (by decide) rfl hst hr d hq rfl kk
  | 25, hk =>
    rw [if_neg (by decide), if_neg (by decide), if_neg (by decide)] at h
    exact c_callOi (k := 25) (As := []) (n := 0) (b' := b) (mc' := 0) (lvl' := 0) (x := ⟨"RankEntry$Op", "jumps", "()Z"⟩) (y := ⟨"RankEntry$Op", "jumps", "()Z"⟩) (owner := "RankEntry$Op") (Cn := "RankEntry$Op$26") O (by decide) rfl (fun X' O' => bc_Op_jumps (t0 := nI 26) ht O' C h) (Nat.le_of_ble_eq_true rfl) ⟨hl, q1420, va_Decl.of (O.1.ts _ q1419) (O.1.ts _ q1456), by decide, q1445, q1419, q1456, by decide, by decide +kernel⟩ (by omega) (by decide) rfl hst hr d hq rfl kk
  | 26, hk =>
    rw [if_neg (by decide), if_neg (by decide), if_neg (by decide)] at h
    exact c_callOi (k := 26) (As := []) (n := 0) (b' := b) (mc' := 0) (lvl' := 0) (x := ⟨"RankEntry$Op", "jumps", "()Z"⟩) (y := ⟨"RankEntry$Op", "jumps", "()Z"⟩) (owner := "RankEntry$Op") (Cn := "RankEntry$Op$27") O (by decide) rfl (fun X' O' => bc_Op_jumps (t0 := nI 27) ht O' C h) (Nat.le_of_ble_eq_true rfl) ⟨hl, q1420, va_Decl.of (O.1.ts _ q1419) (O.1.ts _ q1456), by decide, q1446, q1419, q1456, by decide, by decide +kernel⟩ (by omega) (by decide) rfl hst hr d hq rfl kk
  | 27, hk =>
    rw [if_neg (by decide), if_neg (by decide), if_neg (by decide)] at h
    exact c_callOi (k := 27) (As := []) (n := 0) (b' := b) (mc' := 0) (lvl' := 0) (x := ⟨"RankEntry$Op", "jumps", "()Z"⟩) (y := ⟨"RankEntry$Op", "jumps", "()Z"⟩) (owner := "RankEntry$Op") (Cn := "RankEntry$Op$28") O (by decide) rfl (fun X' O' => bc_Op_jumps (t0 := nI 28) ht O' C h) (Nat.le_of_ble_eq_true rfl) ⟨hl, q1420, va_Decl.of (O.1.ts _ q1419) (O.1.ts _ q1456), by decide, q1447, q1419, q1456, by decide, by decide +kernel⟩ (by omega) (by decide) rfl hst hr d hq rfl kk
  | 28, hk =>
    rw [if_neg (by decide), if_neg (by decide), if_neg (by decide)] at h
    exact c_callOi (k := 28) (As := []) (n := 0) (b' := b) (mc' := 0) (lvl' := 0) (x := ⟨"RankEntry$Op", "jumps", "()Z"⟩) (y := ⟨"RankEntry$Op", "jumps", "()Z"⟩) (owner := "RankEntry$Op") (Cn := "RankEntry$Op$29") O (by decide) rfl (fun X' O' => bc_Op_jumps (t0 := nI 29) ht O' C h) (Nat.le_of_ble_eq_true rfl) ⟨hl, q1420, va_Decl.of (O.1.ts _ q1419) (O.1.ts _ q1456), by decide, q1448, q1419, q1456, by decide, by decide +kernel⟩ (by omega) (by decide) rfl hst hr d hq rfl kk
  | k + 29, hk => omega
def fv_o_stops (t : Int32) (C : Mem) : Option (Int32 × Mem) :=
  if t = 19 then fc_Op19_stops C else
  fc_Op_stops t C
set_option maxHeartbeats 4000000 in
theorem c_o_stops {r : Int32} (O : OkC g X cc nL ret own lvl mc Qc) {idx : Nat} {t : Int32} (ht : inO t = true) (h : fv_o_stops t C = some (r, C')) (hl : Cond.methodLink own idx ⟨"RankEntry$Op", "stops", "()Z"⟩ ∈ lw_all) (hlv : 1 ≤ lvl) (hst : st = .ref (gCo g (t.toNatClampNeg - 1)) :: rest) (hr : (rest.map fun v => v.category).sum ≤ 8) (d : decode cc pc = .ok (.invokevirtual idx, 3)) (hq : pc + 3 = q) (kk : V X nL b (WdC g C') q lv (.int r :: rest)) : V X nL b (WdC g C) pc lv st := by
  obtain ⟨k, hk, rfl⟩ := inO_k ht
  unfold fv_o_stops at h
  match k, hk with
  | 0, hk =>
    rw [if_neg (by decide)] at h
    exact c_callOi (k := 0) (As := []) (n := 0) (b' := b) (mc' := 0) (lvl' := 0) (x := ⟨"RankEntry$Op", "stops", "()Z"⟩) (y := ⟨"RankEntry$Op", "stops", "()Z"⟩) (owner := "RankEntry$Op") (Cn := "RankEntry$Op$1") O (by decide) rfl (fun X' O' => bc_Op_stops (t0 := nI 1) ht O' C h) (Nat.le_of_ble_eq_true rfl) ⟨hl, q1315, va_Decl.of (O.1.ts _ q1314) (O.1.ts _ q1347), by decide, q1316, q1314, q1347, by decide, by decide +kernel⟩ (by omega) (by decide) rfl hst hr d hq rfl kk
  | 1, hk =>
    rw [if_neg (by decide)] at h
    exact c_callOi (k := 1) (As := []) (n := 0) (b' := b) (mc' := 0) (lvl' := 0) (x := ⟨"RankEntry$Op", "stops", "()Z"⟩) (y := ⟨"RankEntry$Op", "stops", "()Z"⟩) (owner := "RankEntry$Op") (Cn := "RankEntry$Op$2") O (by decide) rfl (fun X' O' => bc_Op_stops (t0 := nI 2) ht O' C h) (Nat.le_of_ble_eq_true rfl) ⟨hl, q1315, va_Decl.of (O.1.ts _ q1314) (O.1.ts _ q1347), by decide, q1329, q1314, q1347, by decide, by decide +kernel⟩ (by omega) (by decide) rfl hst hr d hq rfl kk
  | 2, hk =>
    rw [if_neg (by decide)] at h
    exact c_callOi (k := 2) (As := []) (n := 0) (b' := b) (mc' := 0) (lvl' := 0) (x := ⟨"RankEntry$Op", "stops", "()Z"⟩) (y := ⟨"RankEntry$Op", "stops", "()Z"⟩) (owner := "RankEntry$Op") (Cn := "RankEntry$Op$3") O (by decide) rfl (fun X' O' => bc_Op_stops (t0 := nI 3) ht O' C h) (Nat.le_of_ble_eq_true rfl) ⟨hl, q1315, va_Decl.of (O.1.ts _ q1314) (O.1.ts _ q1347), by decide, q1340, q1314, q1347, by decide, by decide +kernel⟩ (by omega) (by decide) rfl hst hr d hq rfl kk
  | 3, hk =>
    rw [if_neg (by decide)] at h
    exact c_callOi (k := 3) (As := []) (n := 0) (b' := b) (mc' := 0) (lvl' := 0) (x := ⟨"RankEntry$Op", "stops", "()Z"⟩) (y := ⟨"RankEntry$Op", "stops", "()Z"⟩) (owner := "RankEntry$Op") (Cn := "RankEntry$Op$4") O (by decide) rfl (fun X' O' => bc_Op_stops (t0 := nI 4) ht O' C h) (Nat.le_of_ble_eq_true rfl) ⟨hl, q1315, va_Decl.of (O.1.ts _ q1314) (O.1.ts _ q1347), by decide, q1341, q1314, q1347, by decide, by decide +kernel⟩ (by omega) (by decide) rfl hst hr d hq rfl kk
  | 4, hk =>
    rw [if_neg (by decide)] at h
    exact c_callOi (k := 4) (As := []) (n := 0) (b' := b) (mc' := 0) (lvl' := 0) (x := ⟨"RankEntry$Op", "stops", "()Z"⟩) (y := ⟨"RankEntry$Op", "stops", "()Z"⟩) (owner := "RankEntry$Op") (Cn := "RankEntry$Op$5") O (by decide) rfl (fun X' O' => bc_Op_stops (t0 := nI 5) ht O' C h) (Nat.le_of_ble_eq_true rfl) ⟨hl, q1315, va_Decl.of (O.1.ts _ q1314) (O.1.ts _ q1347), by decide, q1342, q1314, q1347, by decide, by decide +kernel⟩ (by omega) (by decide) rfl hst hr d hq rfl kk
  | 5, hk =>
    rw [if_neg (by decide)] at h
    exact c_callOi (k := 5) (As := []) (n := 0) (b' := b) (mc' := 0) (lvl' := 0) (x := ⟨"RankEntry$Op", "stops", "()Z"⟩) (y := ⟨"RankEntry$Op", "stops", "()Z"⟩) (owner := "RankEntry$Op") (Cn := "RankEntry$Op$6") O (by decide) rfl (fun X' O' => bc_Op_stops (t0 := nI 6) ht O' C h) (Nat.le_of_ble_eq_true rfl) ⟨hl, q1315, va_Decl.of (O.1.ts _ q1314) (O.1.ts _ q1347), by decide, q1343, q1314, q1347, by decide, by decide +kernel⟩ (by omega) (by decide) rfl hst hr d hq rfl kk
  | 6, hk =>
    rw [if_neg (by decide)] at h
    exact c_callOi (k := 6) (As := []) (n := 0) (b' := b) (mc' := 0) (lvl' := 0) (x := ⟨"RankEntry$Op", "stops", "()Z"⟩) (y := ⟨"RankEntry$Op", "stops", "()Z"⟩) (owner := "RankEntry$Op") (Cn := "RankEntry$Op$7") O (by decide) rfl (fun X' O' => bc_Op_stops (t0 := nI 7) ht O' C h) (Nat.le_of_ble_eq_true rfl) ⟨hl, q1315, va_Decl.of (O.1.ts _ q1314) (O.1.ts _ q1347), by decide, q1344, q1314, q1347, by decide, by decide +kernel⟩ (by omega) (by decide) rfl hst hr d hq rfl kk
  | 7, hk =>
    rw [if_neg (by decide)] at h
    exact c_callOi (k := 7) (As := []) (n := 0) (b' := b) (mc' := 0) (lvl' := 0) (x := ⟨"RankEntry$Op", "stops", "()Z"⟩) (y := ⟨"RankEntry$Op", "stops", "()Z"⟩) (owner := "RankEntry$Op") (Cn := "RankEntry$Op$8") O (by decide) rfl (fun X' O' => bc_Op_stops (t0 := nI 8) ht O' C h) (Nat.le_of_ble_eq_true rfl) ⟨hl, q1315, va_Decl.of (O.1.ts _ q1314) (O.1.ts _ q1347), by decide, q1345, q1314, q1347, by decide, by decide +kernel⟩ (by omega) (by decide) rfl hst hr d hq rfl kk
  | 8, hk =>
    rw [if_neg (by decide)] at h
    exact c_callOi (k := 8) (As := []) (n := 0) (b' := b) (mc' := 0) (lvl' := 0) (x := ⟨"RankEntry$Op", "stops", "()Z"⟩) (y := ⟨"RankEntry$Op", "stops", "()Z"⟩) (owner := "RankEntry$Op") (Cn := "RankEntry$Op$9") O (by decide) rfl (fun X' O' => bc_Op_stops (t0 := nI 9) ht O' C h) (Nat.le_of_ble_eq_true rfl) ⟨hl, q1315, va_Decl.of (O.1.ts _ q1314) (O.1.ts _ q1347), by decide, q1346, q1314, q1347, by decide, by decide +kernel⟩ (by omega) (by decide) rfl hst hr d hq rfl kk
  | 9, hk =>
    rw [if_neg (by decide)] at h
    exact c_callOi (k := 9) (As := []) (n := 0) (b' := b) (mc' := 0) (lvl' := 0) (x := ⟨"RankEntry$Op", "stops", "()Z"⟩) (y := ⟨"RankEntry$Op", "stops", "()Z"⟩) (owner := "RankEntry$Op") (Cn := "RankEntry$Op$10") O (by decide) rfl (fun X' O' => bc_Op_stops (t0 := nI 10) ht O' C h) (Nat.le_of_ble_eq_true rfl) ⟨hl, q1315, va_Decl.of (O.1.ts _ q1314) (O.1.ts _ q1347), by decide, q1317, q1314, q1347, by decide, by decide +kernel⟩ (by omega) (by decide) rfl hst hr d hq rfl kk
  | 10, hk =>
    rw [if_neg (by decide)] at h
    exact c_callOi (k := 10) (As := []) (n := 0) (b' := b) (mc' := 0) (lvl' := 0) (x := ⟨"RankEntry$Op", "stops", "()Z"⟩) (y := ⟨"RankEntry$Op", "stops", "()Z"⟩) (owner := "RankEntry$Op") (Cn := "RankEntry$Op$11") O (by decide) rfl (fun X' O' => bc_Op_stops (t0 := nI 11) ht O' C h) (Nat.le_of_ble_eq_true rfl) ⟨hl, q1315, va_Decl.of (O.1.ts _ q1314) (O.1.ts _ q1347), by decide, q1318, q1314, q1347, by decide, by decide +kernel⟩ (by omega) (by decide) rfl hst hr d hq rfl kk
  | 11, hk =>
    rw [if_neg (by decide)] at h
    exact c_callOi (k := 11) (As := []) (n := 0) (b' := b) (mc' := 0) (lvl' := 0) (x := ⟨"RankEntry$Op", "stops", "()Z"⟩) (y := ⟨"RankEntry$Op", "stops", "()Z"⟩) (owner := "RankEntry$Op") (Cn := "RankEntry$Op$12") O (by decide) rfl (fun X' O' => bc_Op_stops (t0 := nI 12) ht O' C h) (Nat.le_of_ble_eq_true rfl) ⟨hl, q1315, va_Decl.of (O.1.ts _ q1314) (O.1.ts _ q1347), by decide, q1319, q1314, q1347, by decide, by decide +kernel⟩ (by omega) (by decide) rfl hst hr d hq rfl kk
  | 12, hk =>
    rw [if_neg (by decide)] at h
    exact c_callOi (k := 12) (As := []) (n := 0) (b' := b) (mc' := 0) (lvl' := 0) (x := ⟨"RankEntry$Op", "stops", "()Z"⟩) (y := ⟨"RankEntry$Op", "stops", "()Z"⟩) (owner := "RankEntry$Op") (Cn := "RankEntry$Op$13") O (by decide) rfl (fun X' O' => bc_Op_stops (t0 := nI 13) ht O' C h) (Nat.le_of_ble_eq_true rfl) ⟨hl, q1315, va_Decl.of (O.1.ts _ q1314) (O.1.ts _ q1347), by decide, q1320, q1314, q1347, by decide, by decide +kernel⟩ (by omega) (by decide) rfl hst hr d hq rfl kk
  | 13, hk =>
    rw [if_neg (by decide)] at h
    exact c_callOi (k := 13) (As := []) (n := 0) (b' := b) (mc' := 0) (lvl' := 0) (x := ⟨"RankEntry$Op", "stops", "()Z"⟩) (y := ⟨"RankEntry$Op", "stops", "()Z"⟩) (owner := "RankEntry$Op") (Cn := "RankEntry$Op$14") O (by decide) rfl (fun X' O' => bc_Op_stops (t0 := nI 14) ht O' C h) (Nat.le_of_ble_eq_true rfl) ⟨hl, q1315, va_Decl.of (O.1.ts _ q1314) (O.1.ts _ q1347), by decide, q1321, q1314, q1347, by decide, by decide +kernel⟩ (by omega) (by decide) rfl hst hr d hq rfl kk
  | 14, hk =>
    rw [if_neg (by decide)] at h
    exact c_callOi (k := 14) (As := []) (n := 0) (b' := b) (mc' := 0) (lvl' := 0) (x := ⟨"RankEntry$Op", "stops", "()Z"⟩) (y := ⟨"RankEntry$Op", "stops", "()Z"⟩) (owner := "RankEntry$Op") (Cn := "RankEntry$Op$15") O (by decide) rfl (fun X' O' => bc_Op_stops (t0 := nI 15) ht O' C h) (Nat.le_of_ble_eq_true rfl) ⟨hl, q1315, va_Decl.of (O.1.ts _ q1314) (O.1.ts _ q1347), by decide, q1322, q1314, q1347, by decide, by decide +kernel⟩ (by omega) (by decide) rfl hst hr d hq rfl kk
  | 15, hk =>
    rw [if_neg (by decide)] at h
    exact c_callOi (k := 15) (As := []) (n := 0) (b' := b) (mc' := 0) (lvl' := 0) (x := ⟨"RankEntry$Op", "stops", "()Z"⟩) (y := ⟨"RankEntry$Op", "stops", "()Z"⟩) (owner := "RankEntry$Op") (Cn := "RankEntry$Op$16") O (by decide) rfl (fun X' O' => bc_Op_stops (t0 := nI 16) ht O' C h) (Nat.le_of_ble_eq_true rfl) ⟨hl, q1315, va_Decl.of (O.1.ts _ q1314) (O.1.ts _ q1347), by decide, q1323, q1314, q1347, by decide, by decide +kernel⟩ (by omega) (by decide) rfl hst hr d hq rfl kk
  | 16, hk =>
    rw [if_neg (by decide)] at h
    exact c_callOi (k := 16) (As := []) (n := 0) (b' := b) (mc' := 0) (lvl' := 0) (x := ⟨"RankEntry$Op", "stops", "()Z"⟩) (y := ⟨"RankEntry$Op", "stops", "()Z"⟩) (owner := "RankEntry$Op") (Cn := "RankEntry$Op$17") O (by decide) rfl (fun X' O' => bc_Op_stops (t0 := nI 17) ht O' C h) (Nat.le_of_ble_eq_true rfl) ⟨hl, q1315, va_Decl.of (O.1.ts _ q1314) (O.1.ts _ q1347), by decide, q1324, q1314, q1347, by decide, by decide +kernel⟩ (by omega) (by decide) rfl hst hr d hq rfl kk
  | 17, hk =>
    rw [if_neg (by decide)] at h
    exact c_callOi (k := 17) (As := []) (n := 0) (b' := b) (mc' := 0) (lvl' := 0) (x := ⟨"RankEntry$Op", "stops", "()Z"⟩) (y := ⟨"RankEntry$Op", "stops", "()Z"⟩) (owner := "RankEntry$Op") (Cn := "RankEntry$Op$18") O (by decide) rfl (fun X' O' => bc_Op_stops (t0 := nI 18) ht O' C h) (Nat.le_of_ble_eq_true rfl) ⟨hl, q1315, va_Decl.of (O.1.ts _ q1314) (O.1.ts _ q1347), by decide, q1325, q1314, q1347, by decide, by decide +kernel⟩ (by omega) (by decide) rfl hst hr d hq rfl kk
  | 18, hk =>
    rw [if_pos (by decide)] at h
    exact c_callOi (k := 18) (As := []) (n := 0) (b' := b) (mc' := 0) (lvl' := 0) (x := ⟨"RankEntry$Op", "stops", "()Z"⟩) (y := ⟨"RankEntry$Op$19", "stops", "()Z"⟩) (owner := "RankEntry$Op") (Cn := "RankEntry$Op$19") O (by decide) rfl (fun X' O' => bc_Op19_stops O' C h) (Nat.le_of_ble_eq_true rfl) ⟨hl, q1315, va_Decl.of (O.1.ts _ q1314) (O.1.ts _ q1347), by decide, q1326, q1327, q1328, by decide, by decide +kernel⟩ (by omega) (by decide) rfl hst hr d hq rfl kk
  | 19, hk =>
    rw [if_neg (by decide)] at h
    exact c_callOi (k := 19) (As := []) (n := 0) (b' := b) (mc' := 0) (lvl' := 0) (x := ⟨"RankEntry$Op", "stops", "()Z"⟩) (y := ⟨"RankEntry$Op", "stops", "()Z"⟩) (owner := "RankEntry$Op") (Cn := "RankEntry$Op$20") O (by decide) rfl (fun X' O' => bc_Op_stops (t0 := nI 20) ht O' C h) (Nat.le_of_ble_eq_true rfl) ⟨hl, q1315, va_Decl.of (O.1.ts _ q1314) (O.1.ts _ q1347), by decide, q1330, q1314, q1347, by decide, by decide +kernel⟩ (by omega) (by decide) rfl hst hr d hq rfl kk
  | 20, hk =>
    rw [if_neg (by decide)] at h
    exact c_callOi (k := 20) (As := []) (n := 0) (b' := b) (mc' := 0) (lvl' := 0) (x := ⟨"RankEntry$Op", "stops", "()Z"⟩) (y := ⟨"RankEntry$Op", "stops", "()Z"⟩) (owner := "RankEntry$Op") (Cn := "RankEntry$Op$21") O (by decide) rfl (fun X' O' => bc_Op_stops (t0 := nI 21) ht O' C h) (Nat.le_of_ble_eq_true rfl) ⟨hl, q1315, va_Decl.of (O.1.ts _ q1314) (O.1.ts _ q1347), by decide, q1331, q1314, q1347, by decide, by decide +kernel⟩ (by omega) (by decide) rfl hst hr d hq rfl kk
  | 21, hk =>
    rw [if_neg (by decide)] at h
    exact c_callOi (k := 21) (As := []) (n := 0) (b' := b) (mc' := 0) (lvl' := 0) (x := ⟨"RankEntry$Op", "stops", "()Z"⟩) (y := ⟨"RankEntry$Op", "stops", "()Z"⟩) (owner := "RankEntry$Op") (Cn := "RankEntry$Op$22") O (by decide) rfl (fun X' O' => bc_Op_stops (t0 := nI 22) ht O' C h) (Nat.le_of_ble_eq_true rfl) ⟨hl, q1315, va_Decl.of (O.1.ts _ q1314) (O.1.ts _ q1347), by decide, q1332, q1314, q1347, by decide, by decide +kernel⟩ (by omega) (by decide) rfl hst hr d hq rfl kk
  | 22, hk =>
    rw [if_neg (by decide)] at h
    exact c_callOi (k := 22) (As := []) (n := 0) (b' := b) (mc' := 0) (lvl' := 0) (x := ⟨"RankEntry$Op", "stops", "()Z"⟩) (y := ⟨"RankEntry$Op", "stops", "()Z"⟩) (owner := "RankEntry$Op") (Cn := "RankEntry$Op$23") O (by decide) rfl (fun X' O' => bc_Op_stops (t0 := nI 23) ht O' C h) (Nat.le_of_ble_eq_true rfl) ⟨hl, q1315, va_Decl.of (O.1.ts _ q1314) (O.1.ts _ q1347), by decide, q1333, q1314, q1347, by decide, by decide +kernel⟩ (by omega) (by decide) rfl hst hr d hq rfl kk
  | 23, hk =>
    rw [if_neg (by decide)] at h
    exact c_callOi (k := 23) (As := []) (n := 0) (b' := b) (mc' := 0) (lvl' := 0) (x := ⟨"RankEntry$Op", "stops", "()Z"⟩) (y := ⟨"RankEntry$Op", "stops", "()Z"⟩) (owner := "RankEntry$Op") (Cn := "RankEntry$Op$24") O (by decide) rfl (fun X' O' => bc_Op_stops (t0 := nI 24) ht O' C h) (Nat.le_of_ble_eq_true rfl) ⟨hl, q1315, va_Decl.of (O.1.ts _ q1314) (O.1.ts _ q1347), by decide, q1334, q1314, q1347, by decide, by decide +kernel⟩ (by omega) (by decide) rfl hst hr d hq rfl kk
  | 24, hk =>
    rw [if_neg (by decide)] at h
    exact c_callOi (k := 24) (As := []) (n := 0) (b' := b) (mc' := 0) (lvl' := 0) (x := ⟨"RankEntry$Op", "stops", "()Z"⟩) (y := ⟨"RankEntry$Op", "stops", "()Z"⟩) (owner := "RankEntry$Op") (Cn := "RankEntry$Op$25") O (by decide) rfl (fun X' O' => bc_Op_stops (t0 := nI 25) ht O' C h) (Nat.le_of_ble_eq_true rfl) ⟨hl, q1315, va_Decl.of (O.1.ts _ q1314) (O.1.ts _ q1347), by decide, q1335, q1314, q1347, by decide, by decide +kernel⟩ (by omega) (by decide) rfl hst hr d hq rfl kk
  | 25, hk =>
    rw [if_neg (by decide)] at h
    exact c_callOi (k := 25) (As := []) (n := 0) (b' := b) (mc' := 0) (lvl' := 0) (x := ⟨"RankEntry$Op", "stops", "()Z"⟩) (y := ⟨"RankEntry$Op", "stops", "()Z"⟩) (owner := "RankEntry$Op") (Cn := "RankEntry$Op$26") O (by decide) rfl (fun X' O' => bc_Op_stops (t0 := nI 26) ht O' C h) (Nat.le_of_ble_eq_true rfl) ⟨hl, q1315, va_Decl.of (O.1.ts _ q1314) (O.1.ts _ q1347), by decide, q1336, q1314, q1347, by decide, by decide +kernel⟩ (by omega) (by decide) rfl hst hr d hq rfl kk
  | 26, hk =>
    rw [if_neg (by decide)] at h
    exact c_callOi (k := 26) (As := []) (n := 0) (b' := b) (mc' := 0) (lvl' := 0) (x := ⟨"RankEntry$Op", "stops", "()Z"⟩) (y := ⟨"RankEntry$Op", "stops", "()Z"⟩) (owner := "RankEntry$Op") (Cn := "RankEntry$Op$27") O (by decide) rfl (fun X' O' => bc_Op_stops (t0 := nI 27) ht O' C h) (Nat.le_of_ble_eq_true rfl) ⟨hl, q1315, va_Decl.of (O.1.ts _ q1314) (O.1.ts _ q1347), by decide, q1337, q1314, q1347, by decide, by decide +kernel⟩ (by omega) (by decide) rfl hst hr d hq rfl kk
  | 27, hk =>
    rw [if_neg (by decide)] at h
    exact c_callOi (k := 27) (As := []) (n := 0) (b' := b) (mc' := 0) (lvl' := 0) (x := ⟨"RankEntry$Op", "stops", "()Z"⟩) (y := ⟨"RankEntry$Op", "stops", "()Z"⟩) (owner := "RankEntry$Op") (Cn := "RankEntry$Op$28") O (by decide) rfl (fun X' O' => bc_Op_stops (t0 := nI 28) ht O' C h) (Nat.le_of_ble_eq_true rfl) ⟨hl, q1315, va_Decl.of (O.1.ts _ q1314) (O.1.ts _ q1347), by decide, q1338, q1314, q1347, by decide, by decide +kernel⟩ (by omega) (by decide) rfl hst hr d hq rfl kk
  | 28, hk =>
    rw [if_neg (by decide)] at h
    exact c_callOi (k := 28) (As := []) (n := 0) (b' := b) (mc' := 0) (lvl' := 0) (x := ⟨"RankEntry$Op", "stops", "()Z"⟩) (y := ⟨"RankEntry$Op", "stops", "()Z"⟩) (owner := "RankEntry$Op") (Cn := "RankEntry$Op$29") O (by decide) rfl (fun X' O' => bc_Op_stops (t0 := nI 29) ht O' C h) (Nat.le_of_ble_eq_true rfl) ⟨hl, q1315, va_Decl.of (O.1.ts _ q1314) (O.1.ts _ q1347), by decide, q1339, q1314, q1347, by decide, by decide +kernel⟩ (by omega) (by decide) rfl hst hr d hq rfl kk
  | k + 29, hk => omega
def fv_o_pushes (t : Int32) (C : Mem) : Option (Int32 × Mem) :=
  if t = 9 then fc_Op9_pushes C else
  if t = 10 then fc_Op10_pushes C else
  fc_Op_pushes t C
set_option maxHeartbeats 4000000 in
theorem c_o_pushes {r : Int32} (O : OkC g X cc nL ret own lvl mc Qc) {idx : Nat} {t : Int32} (ht : inO t = true) (h : fv_o_pushes t C = some (r, C')) (hl : Cond.methodLink own idx ⟨"RankEntry$Op", "pushes", "()I"⟩ ∈ lw_all) (hlv : 1 ≤ lvl) (hst : st = .ref (gCo g (t.toNatClampNeg - 1)) :: rest) (hr : (rest.map fun v => v.category).sum ≤ 8) (d : decode cc pc = .ok (.invokevirtual idx, 3)) (hq : pc + 3 = q) (kk : V X nL b (WdC g C') q lv (.int r :: rest)) : V X nL b (WdC g C) pc lv st := by
  obtain ⟨k, hk, rfl⟩ := inO_k ht
  unfold fv_o_pushes at h
  match k, hk with
  | 0, hk =>
    rw [if_neg (by decide), if_neg (by decide)] at h
    exact c_callOi (k := 0) (As := []) (n := 0) (b' := b) (mc' := 0) (lvl' := 0) (x := ⟨"RankEntry$Op", "pushes", "()I"⟩) (y := ⟨"RankEntry$Op", "pushes", "()I"⟩) (owner := "RankEntry$Op") (Cn := "RankEntry$Op$1") O (by decide) rfl (fun X' O' => bc_Op_pushes (t0 := nI 1) ht O' C h) (Nat.le_of_ble_eq_true rfl) ⟨hl, q1470, va_Decl.of (O.1.ts _ q1469) (O.1.ts _ q1504), by decide, q1471, q1469, q1504, by decide, by decide +kernel⟩ (by omega) (by decide) rfl hst hr d hq rfl kk
  | 1, hk =>
    rw [if_neg (by decide), if_neg (by decide)] at h
    exact c_callOi (k := 1) (As := []) (n := 0) (b' := b) (mc' := 0) (lvl' := 0) (x := ⟨"RankEntry$Op", "pushes", "()I"⟩) (y := ⟨"RankEntry$Op", "pushes", "()I"⟩) (owner := "RankEntry$Op") (Cn := "RankEntry$Op$2") O (by decide) rfl (fun X' O' => bc_Op_pushes (t0 := nI 2) ht O' C h) (Nat.le_of_ble_eq_true rfl) ⟨hl, q1470, va_Decl.of (O.1.ts _ q1469) (O.1.ts _ q1504), by decide, q1484, q1469, q1504, by decide, by decide +kernel⟩ (by omega) (by decide) rfl hst hr d hq rfl kk
  | 2, hk =>
    rw [if_neg (by decide), if_neg (by decide)] at h
    exact c_callOi (k := 2) (As := []) (n := 0) (b' := b) (mc' := 0) (lvl' := 0) (x := ⟨"RankEntry$Op", "pushes", "()I"⟩) (y := ⟨"RankEntry$Op", "pushes", "()I"⟩) (owner := "RankEntry$Op") (Cn := "RankEntry$Op$3") O (by decide) rfl (fun X' O' => bc_Op_pushes (t0 := nI 3) ht O' C h) (Nat.le_of_ble_eq_true rfl) ⟨hl, q1470, va_Decl.of (O.1.ts _ q1469) (O.1.ts _ q1504), by decide, q1495, q1469, q1504, by decide, by decide +kernel⟩ (by omega) (by decide) rfl hst hr d hq rfl kk
  | 3, hk =>
    rw [if_neg (by decide), if_neg (by decide)] at h
    exact c_callOi (k := 3) (As := []) (n := 0) (b' := b) (mc' := 0) (lvl' := 0) (x := ⟨"RankEntry$Op", "pushes", "()I"⟩) (y := ⟨"RankEntry$Op", "pushes", "()I"⟩) (owner := "RankEntry$Op") (Cn := "RankEntry$Op$4") O (by decide) rfl (fun X' O' => bc_Op_pushes (t0 := nI 4) ht O' C h) (Nat.le_of_ble_eq_true rfl) ⟨hl, q1470, va_Decl.of (O.1.ts _ q1469) (O.1.ts _ q1504), by decide, q1496, q1469, q1504, by decide, by decide +kernel⟩ (by omega) (by decide) rfl hst hr d hq rfl kk
  | 4, hk =>
    rw [if_neg (by decide), if_neg (by decide)] at h
    exact c_callOi (k := 4) (As := []) (n := 0) (b' := b) (mc' := 0) (lvl' := 0) (x := ⟨"RankEntry$Op", "pushes", "()I"⟩) (y := ⟨"RankEntry$Op", "pushes", "()I"⟩) (owner := "RankEntry$Op") (Cn := "RankEntry$Op$5") O (by decide) rfl (fun X' O' => bc_Op_pushes (t0 := nI 5) ht O' C h) (Nat.le_of_ble_eq_true rfl) ⟨hl, q1470, va_Decl.of (O.1.ts _ q1469) (O.1.ts _ q1504), by decide, q1497, q1469, q1504, by decide, by decide +kernel⟩ (by omega) (by decide) rfl hst hr d hq rfl kk
  | 5, hk =>
    rw [if_neg (by decide), if_neg (by decide)] at h
    exact c_callOi (k := 5) (As := []) (n := 0) (b' := b) (mc' := 0) (lvl' := 0) (x := ⟨"RankEntry$Op", "pushes", "()I"⟩) (y := ⟨"RankEntry$Op", "pushes", "()I"⟩) (owner := "RankEntry$Op") (Cn := "RankEntry$Op$6") O (by decide) rfl (fun X' O' => bc_Op_pushes (t0 := nI 6) ht O' C h) (Nat.le_of_ble_eq_true rfl) ⟨hl, q1470, va_Decl.of (O.1.ts _ q1469) (O.1.ts _ q1504), by decide, q1498, q1469, q1504, by decide, by decide +kernel⟩ (by omega) (by decide) rfl hst hr d hq rfl kk
  | 6, hk =>
    rw [if_neg (by decide), if_neg (by decide)] at h
    exact c_callOi (k := 6) (As := []) (n := 0) (b' := b) (mc' := 0) (lvl' := 0) (x := ⟨"RankEntry$Op", "pushes", "()I"⟩) (y := ⟨"RankEntry$Op", "pushes", "()I"⟩) (owner := "RankEntry$Op") (Cn := "RankEntry$Op$7") O (by decide) rfl (fun X' O' => bc_Op_pushes (t0 := nI 7) ht O' C h) (Nat.le_of_ble_eq_true rfl) ⟨hl, q1470, va_Decl.of (O.1.ts _ q1469) (O.1.ts _ q1504), by decide, q1499, q1469, q1504, by decide, by decide +kernel⟩ (by omega) (by decide) rfl hst hr d hq rfl kk
  | 7, hk =>
    rw [if_neg (by decide), if_neg (by decide)] at h
    exact c_callOi (k := 7) (As := []) (n := 0) (b' := b) (mc' := 0) (lvl' := 0) (x := ⟨"RankEntry$Op", "pushes", "()I"⟩) (y := ⟨"RankEntry$Op", "pushes", "()I"⟩) (owner := "RankEntry$Op") (Cn := "RankEntry$Op$8") O (by decide) rfl (fun X' O' => bc_Op_pushes (t0 := nI 8) ht O' C h) (Nat.le_of_ble_eq_true rfl) ⟨hl, q1470, va_Decl.of (O.1.ts _ q1469) (O.1.ts _ q1504), by decide, q1500, q1469, q1504, by decide, by decide +kernel⟩ (by omega) (by decide) rfl hst hr d hq rfl kk
  | 8, hk =>
    rw [if_pos (by decide)] at h
    exact c_callOi (k := 8) (As := []) (n := 0) (b' := b) (mc' := 0) (lvl' := 0) (x := ⟨"RankEntry$Op", "pushes", "()I"⟩) (y := ⟨"RankEntry$Op$9", "pushes", "()I"⟩) (owner := "RankEntry$Op") (Cn := "RankEntry$Op$9") O (by decide) rfl (fun X' O' => bc_Op9_pushes O' C h) (Nat.le_of_ble_eq_true rfl) ⟨hl, q1470, va_Decl.of (O.1.ts _ q1469) (O.1.ts _ q1504), by decide, q1501, q1502, q1503, by decide, by decide +kernel⟩ (by omega) (by decide) rfl hst hr d hq rfl kk
  | 9, hk =>
    rw [if_neg (by decide), if_pos (by decide)] at h
    exact c_callOi (k := 9) (As := []) (n := 0) (b' := b) (mc' := 0) (lvl' := 0) (x := ⟨"RankEntry$Op", "pushes", "()I"⟩) (y := ⟨"RankEntry$Op$10", "pushes", "()I"⟩) (owner := "RankEntry$Op") (Cn := "RankEntry$Op$10") O (by decide) rfl (fun X' O' => bc_Op10_pushes O' C h) (Nat.le_of_ble_eq_true rfl) ⟨hl, q1470, va_Decl.of (O.1.ts _ q1469) (O.1.ts _ q1504), by decide, q1472, q1473, q1474, by decide, by decide +kernel⟩ (by omega) (by decide) rfl hst hr d hq rfl kk
  | 10, hk =>
    rw [if_neg (by decide), if_neg (by decide)] at h
    exact c_callOi (k := 10) (As := []) (n := 0) (b' := b) (mc' := 0) (lvl' := 0) (x := ⟨"RankEntry$Op", "pushes", "()I"⟩) (y := ⟨"RankEntry$Op", "pushes", "()I"⟩) (owner := "RankEntry$Op") (Cn := "RankEntry$Op$11") O (by decide) rfl (fun X' O' => bc_Op_pushes (t0 := nI 11) ht O' C h) (Nat.le_of_ble_eq_true rfl) ⟨hl, q1470, va_Decl.of (O.1.ts _ q1469) (O.1.ts _ q1504), by decide, q1475, q1469, q1504, by decide, by decide +kernel⟩ (by omega) (by decide) rfl hst hr d hq rfl kk
  | 11, hk =>
    rw [if_neg (by decide), if_neg (by decide)] at h
    exact c_callOi (k := 11) (As := []) (n := 0) (b' := b) (mc' := 0) (lvl' := 0) (x := ⟨"RankEntry$Op", "pushes", "()I"⟩) (y := ⟨"RankEntry$Op", "pushes", "()I"⟩) (owner := "RankEntry$Op") (Cn := "RankEntry$Op$12") O (by decide) rfl (fun X' O' => bc_Op_pushes (t0 := nI 12) ht O' C h) (Nat.le_of_ble_eq_true rfl) ⟨hl, q1470, va_Decl.of (O.1.ts _ q1469) (O.1.ts _ q1504), by decide, q1476, q1469, q1504, by decide, by decide +kernel⟩ (by omega) (by decide) rfl hst hr d hq rfl kk
  | 12, hk =>
    rw [if_neg (by decide), if_neg (by decide)] at h
    exact c_callOi (k := 12) (As := []) (n := 0) (b' := b) (mc' := 0) (lvl' := 0) (x := ⟨"RankEntry$Op", "pushes", "()I"⟩) (y := ⟨"RankEntry$Op", "pushes", "()I"⟩) (owner := "RankEntry$Op") (Cn := "RankEntry$Op$13") O (by decide) rfl (fun X' O' => bc_Op_pushes (t0 := nI 13) ht O' C h) (Nat.le_of_ble_eq_true rfl) ⟨hl, q1470, va_Decl.of (O.1.ts _ q1469) (O.1.ts _ q1504), by decide, q1477, q1469, q1504, by decide, by decide +kernel⟩ (by omega) (by decide) rfl hst hr d hq rfl kk
  | 13, hk =>
    rw [if_neg (by decide), if_neg (by decide)] at h
    exact c_callOi (k := 13) (As := []) (n := 0) (b' := b) (mc' := 0) (lvl' := 0) (x := ⟨"RankEntry$Op", "pushes", "()I"⟩) (y := ⟨"RankEntry$Op", "pushes", "()I"⟩) (owner := "RankEntry$Op") (Cn := "RankEntry$Op$14") O (by decide) rfl (fun X' O' => bc_Op_pushes (t0 := nI 14) ht O' C h) (Nat.le_of_ble_eq_true rfl) ⟨hl, q1470, va_Decl.of (O.1.ts _ q1469) (O.1.ts _ q1504), by decide, q1478, q1469, q1504, by decide, by decide +kernel⟩ (by omega) (by decide) rfl hst hr d hq rfl kk
  | 14, hk =>
    rw [if_neg (by decide), if_neg (by decide)] at h
    exact c_callOi (k := 14) (As := []) (n := 0) (b' := b) (mc' := 0) (lvl' := 0) (x := ⟨"RankEntry$Op", "pushes", "()I"⟩) (y := ⟨"RankEntry$Op", "pushes", "()I"⟩) (owner := "RankEntry$Op") (Cn := "RankEntry$Op$15") O (by decide) rfl (fun X' O' => bc_Op_pushes (t0 := nI 15) ht O' C h) (Nat.le_of_ble_eq_true rfl) ⟨hl, q1470, va_Decl.of (O.1.ts _ q1469) (O.1.ts _ q1504), by decide, q1479, q1469, q1504, by decide, by decide +kernel⟩ (by omega) (by decide) rfl hst hr d hq rfl kk
  | 15, hk =>
    rw [if_neg (by decide), if_neg (by decide)] at h
    exact c_callOi (k := 15) (As := []) (n := 0) (b' := b) (mc' := 0) (lvl' := 0) (x := ⟨"RankEntry$Op", "pushes", "()I"⟩) (y := ⟨"RankEntry$Op", "pushes", "()I"⟩) (owner := "RankEntry$Op") (Cn := "RankEntry$Op$16") O (by decide) rfl (fun X' O' => bc_Op_pushes (t0 := nI 16) ht O' C h) (Nat.le_of_ble_eq_true rfl) ⟨hl, q1470, va_Decl.of (O.1.ts _ q1469) (O.1.ts _ q1504), by decide, q1480, q1469, q1504, by decide, by decide +kernel⟩ (by omega) (by decide) rfl hst hr d hq rfl kk
  | 16, hk =>
    rw [if_neg (by decide), if_neg (by decide)] at h
    exact c_callOi (k := 16) (As := []) (n := 0) (b' := b) (mc' := 0) (lvl' := 0) (x := ⟨"RankEntry$Op", "pushes", "()I"⟩) (y := ⟨"RankEntry$Op", "pushes", "()I"⟩) (owner := "RankEntry$Op") (Cn := "RankEntry$Op$17") O (by decide) rfl (fun X' O' => bc_Op_pushes (t0 := nI 17) ht O' C h) (Nat.le_of_ble_eq_true rfl) ⟨hl, q1470, va_Decl.of (O.1.ts _ q1469) (O.1.ts _ q1504), by decide, q1481, q1469, q1504, by decide, by decide +kernel⟩ (by omega) (by decide) rfl hst hr d hq rfl kk
  | 17, hk =>
    rw [if_neg (by decide), if_neg (by decide)] at h
    exact c_callOi (k := 17) (As := []) (n := 0) (b' := b) (mc' := 0) (lvl' := 0) (x := ⟨"RankEntry$Op", "pushes", "()I"⟩) (y := ⟨"RankEntry$Op", "pushes", "()I"⟩) (owner := "RankEntry$Op") (Cn := "RankEntry$Op$18") O (by decide) rfl (fun X' O' => bc_Op_pushes (t0 := nI 18) ht O' C h) (Nat.le_of_ble_eq_true rfl) ⟨hl, q1470, va_Decl.of (O.1.ts _ q1469) (O.1.ts _ q1504), by decide, q1482, q1469, q1504, by decide, by decide +kernel⟩ (by omega) (by decide) rfl hst hr d hq rfl kk
  | 18, hk =>
    rw [if_neg (by decide), if_neg (by decide)] at h
    exact c_callOi (k := 18) (As := []) (n := 0) (b' := b) (mc' := 0) (lvl' := 0) (x := ⟨"RankEntry$Op", "pushes", "()I"⟩) (y := ⟨"RankEntry$Op", "pushes", "()I"⟩) (owner := "RankEntry$Op") (Cn := "RankEntry$Op$19") O (by decide) rfl (fun X' O' => bc_Op_pushes (t0 := nI 19) ht O' C h) (Nat.le_of_ble_eq_true rfl) ⟨hl, q1470, va_Decl.of (O.1.ts _ q1469) (O.1.ts _ q1504), by decide, q1483, q1469, q1504, by decide, by decide +kernel⟩ (by omega) (by decide) rfl hst hr d hq rfl kk
  | 19, hk =>
    rw [if_neg (by decide), if_neg (by decide)] at h
    exact c_callOi (k := 19) (As := []) (n := 0) (b' := b) (mc' := 0) (lvl' := 0) (x := ⟨"RankEntry$Op", "pushes", "()I"⟩) (y := ⟨"RankEntry$Op", "pushes", "()I"⟩) (owner := "RankEntry$Op") (Cn := "RankEntry$Op$20") O (by decide) rfl (fun X' O' => bc_Op_pushes (t0 := nI 20) ht O' C h) (Nat.le_of_ble_eq_true rfl) ⟨hl, q1470, va_Decl.of (O.1.ts _ q1469) (O.1.ts _ q1504), by decide, q1485, q1469, q1504, by decide, by decide +kernel⟩ (by omega) (by decide) rfl hst hr d hq rfl kk
  | 20, hk =>
    rw [if_neg (by decide), if_neg (by decide)] at h
    exact c_callOi (k := 20) (As := []) (n := 0) (b' := b) (mc' := 0) (lvl' := 0) (x := ⟨"RankEntry$Op", "pushes", "()I"⟩) (y := ⟨"RankEntry$Op", "pushes", "()I"⟩) (owner := "RankEntry$Op") (Cn := "RankEntry$Op$21") O (by decide) rfl (fun X' O' => bc_Op_pushes (t0 := nI 21) ht O' C h) (Nat.le_of_ble_eq_true rfl) ⟨hl, q1470, va_Decl.of (O.1.ts _ q1469) (O.1.ts _ q1504), by decide, q1486, q1469, q1504, by decide, by decide +kernel⟩ (by omega) (by decide) rfl hst hr d hq rfl kk
  | 21, hk =>
    rw [if_neg (by decide), if_neg (by decide)] at h
    exact c_callOi (k := 21) (As := []) (n := 0) (b' := b) (mc' := 0) (lvl' := 0) (x := ⟨"RankEntry$Op", "pushes", "()I"⟩) (y := ⟨"RankEntry$Op", "pushes", "()I"⟩) (owner := "RankEntry$Op") (Cn := "RankEntry$Op$22") O (by decide) rfl (fun X' O' => bc_Op_pushes (t0 := nI 22) ht O' C h) (Nat.le_of_ble_eq_true rfl) ⟨hl, q1470, va_Decl.of (O.1.ts _ q1469) (O.1.ts _ q1504), by decide, q1487, q1469, q1504, by decide, by decide +kernel⟩ (by omega) (by decide) rfl hst hr d hq rfl kk
  | 22, hk =>
    rw [if_neg (by decide), if_neg (by decide)] at h
    exact c_callOi (k := 22) (As := []) (n := 0) (b' := b) (mc' := 0) (lvl' := 0) (x := ⟨"RankEntry$Op", "pushes", "()I"⟩) (y := ⟨"RankEntry$Op", "pushes", "()I"⟩) (owner := "RankEntry$Op") (Cn := "RankEntry$Op$23") O (by decide) rfl (fun X' O' => bc_Op_pushes (t0 := nI 23) ht O' C h) (Nat.le_of_ble_eq_true rfl) ⟨hl, q1470, va_Decl.of (O.1.ts _ q1469) (O.1.ts _ q1504), by decide, q1488, q1469, q1504, by decide, by decide +kernel⟩ (by omega) (by decide) rfl hst hr d hq rfl kk
  | 23, hk =>
    rw [if_neg (by decide), if_neg (by decide)] at h
    exact c_callOi (k := 23) (As := []) (n := 0) (b' := b) (mc' := 0) (lvl' := 0) (x := ⟨"RankEntry$Op", "pushes", "()I"⟩) (y := ⟨"RankEntry$Op", "pushes", "()I"⟩) (owner := "RankEntry$Op") (Cn := "RankEntry$Op$24") O (by decide) rfl (fun X' O' => bc_Op_pushes (t0 := nI 24) ht O' C h) (Nat.le_of_ble_eq_true rfl) ⟨hl, q1470, va_Decl.of (O.1.ts _ q1469) (O.1.ts _ q1504), by decide, q1489, q1469, q1504, by decide, by decide +kernel⟩ (by omega) (by decide) rfl hst hr d hq rfl kk
  | 24, hk =>
    rw [if_neg (by decide), if_neg (by decide)] at h
    exact c_callOi (k := 24) (As := []) (n := 0) (b' := b) (mc' := 0) (lvl' := 0) (x := ⟨"RankEntry$Op", "pushes", "()I"⟩) (y := ⟨"RankEntry$Op", "pushes", "()I"⟩) (owner := "RankEntry$Op") (Cn := "RankEntry$Op$25") O (by decide) rfl (fun X' O' => bc_Op_pushes (t0 := nI 25) ht O' C h) (Nat.le_of_ble_eq_true rfl) ⟨hl, q1470, va_Decl.of (O.1.ts _ q1469) (O.1.ts _ q1504), by decide, q1490, q1469, q1504, by decide, by decide +kernel⟩ (by omega) (by decide) rfl hst hr d hq rfl kk
  | 25, hk =>
    rw [if_neg (by decide), if_neg (by decide)] at h
    exact c_callOi (k := 25) (As := []) (n := 0) (b' := b) (mc' := 0) (lvl' := 0) (x := ⟨"RankEntry$Op", "pushes", "()I"⟩) (y := ⟨"RankEntry$Op", "pushes", "()I"⟩) (owner := "RankEntry$Op") (Cn := "RankEntry$Op$26") O (by decide) rfl (fun X' O' => bc_Op_pushes (t0 := nI 26) ht O' C h) (Nat.le_of_ble_eq_true rfl) ⟨hl, q1470, va_Decl.of (O.1.ts _ q1469) (O.1.ts _ q1504), by decide, q1491, q1469, q1504, by decide, by decide +kernel⟩ (by omega) (by decide) rfl hst hr d hq rfl kk
  | 26, hk =>
    rw [if_neg (by decide), if_neg (by decide)] at h
    exact c_callOi (k := 26) (As := []) (n := 0) (b' := b) (mc' := 0) (lvl' := 0) (x := ⟨"RankEntry$Op", "pushes", "()I"⟩) (y := ⟨"RankEntry$Op", "pushes", "()I"⟩) (owner := "RankEntry$Op") (Cn := "RankEntry$Op$27") O (by decide) rfl (fun X' O' => bc_Op_pushes (t0 := nI 27) ht O' C h) (Nat.le_of_ble_eq_true rfl) ⟨hl, q1470, va_Decl.of (O.1.ts _ q1469) (O.1.ts _ q1504), by decide, q1492, q1469, q1504, by decide, by decide +kernel⟩ (by omega) (by decide) rfl hst hr d hq rfl kk
  | 27, hk =>
    rw [if_neg (by decide), if_neg (by decide)] at h
    exact c_callOi (k := 27) (As := []) (n := 0) (b' := b) (mc' := 0) (lvl' := 0) (x := ⟨"RankEntry$Op", "pushes", "()I"⟩) (y := ⟨"RankEntry$Op", "pushes", "()I"⟩) (owner := "RankEntry$Op") (Cn := "RankEntry$Op$28") O (by decide) rfl (fun X' O' => bc_Op_pushes (t0 := nI 28) ht O' C h) (Nat.le_of_ble_eq_true rfl) ⟨hl, q1470, va_Decl.of (O.1.ts _ q1469) (O.1.ts _ q1504), by decide, q1493, q1469, q1504, by decide, by decide +kernel⟩ (by omega) (by decide) rfl hst hr d hq rfl kk
  | 28, hk =>
    rw [if_neg (by decide), if_neg (by decide)] at h
    exact c_callOi (k := 28) (As := []) (n := 0) (b' := b) (mc' := 0) (lvl' := 0) (x := ⟨"RankEntry$Op", "pushes", "()I"⟩) (y := ⟨"RankEntry$Op", "pushes", "()I"⟩) (owner := "RankEntry$Op") (Cn := "RankEntry$Op$29") O (by decide) rfl (fun X' O' => bc_Op_pushes (t0 := nI 29) ht O' C h) (Nat.le_of_ble_eq_true rfl) ⟨hl, q1470, va_Decl.of (O.1.ts _ q1469) (O.1.ts _ q1504), by decide, q1494, q1469, q1504, by decide, by decide +kernel⟩ (by omega) (by decide) rfl hst hr d hq rfl kk
  | k + 29, hk => omega
end COPD
