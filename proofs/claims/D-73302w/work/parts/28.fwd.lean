/-- the cell of an array or of a function object -/
theorem c_inl {g : gC} {C : Mem} {H : Heap} {o n : Nat} {k : ClassId} {f : Nat → Option Nat} (h1 : WdC g C H) (ho : o < 95) (hv : ∀ ah ev, cCell g C ah ev o = .inl (k, n, qr f)) : H[gCa g o]? = some (arrV k n (fun j => va_rf (f j))) := by
  obtain ⟨Y, ah, ev, hP, hD, hY⟩ := h1
  have h := hP o _ (by rw [cWs_get ho, hv ah ev])
  exact h
theorem c_lamc {g : gC} {C : Mem} {H : Heap} {c j : Nat} (h1 : WdC g C H) (hc : cC c) (hj : j < 6) : ∃ cell, H[gCa g (c + 13 + j)]? = some cell ∧ cell.cls = gCk g (10 + j) ∧ cell.vm = .none ∧ cell.slots[0]? = some (.ref (gCa g c)) := by
  have hv : ∀ ah ev, cCell g C ah ev (c + 13 + j) = .inl (gCk g (10 + j), 1, qr (fun _ => some (gCa g c))) := by
    intro ah ev
    rw [show c + 13 + j = c + (13 + j) by omega, cCell_blk hc (by omega)]
    match j, hj with
    | 0, _ => rfl | 1, _ => rfl | 2, _ => rfl | 3, _ => rfl | 4, _ => rfl | 5, _ => rfl
  have h := c_inl h1 (by have := cC_lt (j := 13 + j) hc (by omega); omega) hv
  exact ⟨_, h, rfl, rfl, rfl⟩
theorem c_lamc7 {g : gC} {C : Mem} {H : Heap} {c : Nat} (h1 : WdC g C H) (hc : cC c) : ∃ cell, H[gCa g (c + 19)]? = some cell ∧ cell.cls = gCk g 17 ∧ cell.vm = .none ∧ cell.slots[0]? = some (.ref (gCa g c)) := by
  have hv : ∀ ah ev, cCell g C ah ev (c + 19) = .inl (gCk g 17, 1, qr (fun _ => some (gCa g c))) := fun ah ev => cCell_blk hc (by decide)
  have h := c_inl h1 (cC_lt hc (by decide)) hv
  exact ⟨_, h, rfl, rfl, rfl⟩
/-- an object without fields of its own: java/lang/Object -/
theorem ts_obj {X : Cxt} {cc : ByteArray} {nL : Nat} {ret : Option FieldType} {own : String} {lvl mc : Nat} (O : Ok X cc nL ret own lvl mc) {vm : Vm} (hW : (xs X).WarmedH vm) : ∀ o ok, vm.findClass "java/lang/Object" = some o → vm.classes[o]? = some ok → ok.instanceTypes.size = 0 := by
  intro o ok h1 h2
  have h := O.ts _ q2278
  obtain ⟨c0, k0, z1, z2, -, -, -, z3⟩ := Cond.instantiable_spec h
  rw [hW.alike.findClass] at h1
  cases z1.symm.trans h1
  obtain ⟨k', hk', he⟩ := hW.alike.2.2 _ _ z2
  cases hk'.symm.trans h2
  rw [he]
  exact z3
section CFWD
variable {g : gC} {X : Cxt} {cc : ByteArray} {nL b lvl mc : Nat} {ret : Option FieldType} {own : String} {Qc : Array Value → State → Outcome → State → Prop} {pc q : Nat} {lv : List (Nat × Value)} {st rest : List Value} {C C' : Mem}
theorem OkC.tsAt (O : OkC g X cc nL ret own lvl mc Qc) {U : State} {f : JFrame} {mk : MethodId} {a : Array Value} (hW : (xs X).WarmedH U.vm) : ∀ w ∈ lw_all, w.before a (U.calling f mk a) = true := fun w hw => word_at (s := xs X) (U := U.calling f mk a) hW (lw_self w hw).2 (O.1.ts w hw)
theorem fwd_P {r : Unit} (O : OkC g X cc nL ret own lvl mc Qc) {x y : MethodName} {pc0 ix k ci nt cn lvl' mc' maxL c : Nat} {σ : Lambda.Shape} {one : Option Nat} {by_ : ByteArray} {a : Addr} (hq : (x, pc0, ix, σ, k, one) ∈ lamSites) (hF : LamF σ x.cls bP 1 none 21 ci nt cn) (hG : LamG σ x.cls 15 2 14) (hy : y.cls = σ.implClass ∧ y.name = σ.implName ∧ y.desc = σ.implDesc.toString) (hym : y.cls ≠ "java/lang/invoke/MethodHandle" ∧ y.cls ≠ "java/lang/invoke/VarHandle") (hi : σ.implItf = false) (hc : cC c) (hcell : ∀ H, WdC g C H → ∃ cell, H[a]? = some cell ∧ cell.cls = gCk g k ∧ cell.vm = .none ∧ cell.slots[0]? = some (.ref (gCa g c)))
    (hini : Cond.initialized y.cls ∈ lw_all) (hinst : Cond.instanceMethod y ∈ lw_all) (hco : Cond.code y by_ maxL none ∈ lw_all) (hsel : Cond.selects "RankEntry$Core" y y ∈ lw_all) (hml : maxL ≤ 40) (hn : (parseMethodDescriptor y.desc).map (fun d => d.parameters.length) = some 0) (hM : MetC (xl X) g y by_ maxL none lvl' mc' (.ref (gCa g c) :: []) C (cQv g r C')) : Fwd g X (gCk g k) bP 1 none a [] C (lvl' + 1) mc' (cQv g r C') := by
  intro U f methk ck h1 hWU hKU hbc hml1 hlk hrt
  obtain ⟨cell, hcell1, hcls, hvm, hslot⟩ := hcell _ h1
  obtain ⟨d0, dk, hd, hdn, hmade, hcan, -⟩ := O.2.1.site hq
  have hts := O.tsAt (f := f) (mk := ⟨gCk g k, 1⟩) (a := (Value.ref a :: []).toArray) hWU
  have h5 := lv_entry (.ref a :: []) (n := 1) (Nat.le_of_ble_eq_true rfl)
  rw [lg_entry_eq]
  refine lv_aload_n O.1.ex hbc dbP_0 rfl (lvg_has h5 (i := 0) rfl) ?_
  refine lam_getf O.1.ex hbc (fun vm hW => ?_) hcell1 hvm hslot dbP_1 ?_
  · have hW1 : (xs X).WarmedH vm := State.WarmedH.trans hWU hW
    obtain ⟨kD, hkD, heD⟩ := hW1.alike.2.2 _ _ hd
    exact lam_field hG hkD (by rw [heD]; exact hdn) (Lambda.isMade_warmer hW1 hmade) (ts_obj O.1 hW1)
  have hrc := c_recv (X := X) O (H := U.heap) (o := c) (ci := 2) (p := (RX4, TX4, 55)) h1 (cC_lt (j := 0) hc (by decide)) rfl (fun _ _ => ⟨_, cCell_core hc⟩)
  obtain ⟨cellB, hcB, hoB, hclB⟩ := hrc
  have hrun := lam_runV (p := xp X) (l := xl X) (e := xe X) (R := rmz (lvl' + 1) mc') (s := U.calling f ⟨gCk g k, 1⟩ (Value.ref a :: []).toArray) (m := ⟨gCk g k, 1⟩) (args := (Value.ref a :: []).toArray) (below := .java f :: xb X) (meth := methk) (c := ck) (H := U.heap) (locs := []) (cells := 0) (slots := 0) (cc := bP) (pc := 4) (rest := []) (idx := 21) (y := y) (by_ := by_) (maxL := maxL) (ret := none) (b := gCa g c) (As := []) (Cn := "RankEntry$Core") O.1.ex hbc hM cPc_blind rfl rfl (Nat.le_refl _) (by show 8 + (maxL + 11) + (60 * lvl' + 3200) ≤ 60 * (lvl' + 1) + 3200; omega) (pay_in hts (lw_meth hco)) List.mem_cons_self (hts _ hini) (hts _ hinst) (hts _ hco) (hts _ hsel) hym
    (fun vm hW mk hmk => by
      have hW1 : (xs X).WarmedH vm := State.WarmedH.trans hWU hW
      have hmk0 : (xs X).methodNamed? y = some mk := by
        have e := State.methodNamed?_setVm (s := xs X) hWU.alike y
        exact e.symm.trans hmk
      obtain ⟨z1, kc, cf, k', z2, z3, z4, z5, z6, z7, z8⟩ := lam_ready hW1 hF hd hdn hmade hy hym hmk0
      exact ⟨z1, kc, cf, ci, nt, mk.cls, k', z2, z3, z4, z6, z7, by rw [z8, hi]⟩)
    hcB hoB (by show U.vm.findClass _ = _; rw [hWU.alike.findClass]; exact hclB) (fun V hV hW => ⟨rfl, by rw [hV]; exact h1, hKU.moved (U := V) (va_S.rf (A := cA g)) hV hW⟩)
    (fun sig h => by rw [h] at hn; exact (Option.some.inj hn).symm) (h5.1.trans hml1.symm) (by decide) dbP_4 ⟨by show 0 + mc' ≤ mc'; omega, by show 0 + 8 * mc' ≤ 8 * mc'; omega⟩
  refine va_callv (A1 := cA g) (A0 := cA g) (H0 := U.heap) hrun (va_S.rf (A := cA g)) (fun q _ h => h) (fun q h => h) (fun u t H1 lo1 ht hvm hw hB hz hk hS1 => ?_)
  subst hw
  refine W.widen (k := mc') (n := 8 * mc') (by omega) (by omega) ?_
  exact W.vret O.1.ex hbc hrt (fun t1 ht1 hW1 => ⟨⟨_, rfl, rfl, show WdC g _ t1.heap by rw [ht1, ← ht]; exact hB⟩, hS1.F ht1⟩) hS1.2.2 dbP_7 hlk
theorem fwd_E {r : Int32} (O : OkC g X cc nL ret own lvl mc Qc) {x y : MethodName} {pc0 ix k ci nt cn lvl' mc' maxL c : Nat} {σ : Lambda.Shape} {one : Option Nat} {by_ : ByteArray} {a : Addr} (x1 : Int32) (x2 : Int32) (hq : (x, pc0, ix, σ, k, one) ∈ lamSites) (hF : LamF σ x.cls bE 3 (some .int) 22 ci nt cn) (hG : LamG σ x.cls 15 2 14) (hy : y.cls = σ.implClass ∧ y.name = σ.implName ∧ y.desc = σ.implDesc.toString) (hym : y.cls ≠ "java/lang/invoke/MethodHandle" ∧ y.cls ≠ "java/lang/invoke/VarHandle") (hi : σ.implItf = false) (hc : cC c) (hcell : ∀ H, WdC g C H → ∃ cell, H[a]? = some cell ∧ cell.cls = gCk g k ∧ cell.vm = .none ∧ cell.slots[0]? = some (.ref (gCa g c)))
    (hini : Cond.initialized y.cls ∈ lw_all) (hinst : Cond.instanceMethod y ∈ lw_all) (hco : Cond.code y by_ maxL (some .int) ∈ lw_all) (hsel : Cond.selects "RankEntry$Core" y y ∈ lw_all) (hml : maxL ≤ 40) (hn : (parseMethodDescriptor y.desc).map (fun d => d.parameters.length) = some 2) (hM : MetC (xl X) g y by_ maxL (some .int) lvl' mc' (.ref (gCa g c) :: [.int x1, .int x2]) C (cQi g r C')) : Fwd g X (gCk g k) bE 3 (some .int) a [.int x1, .int x2] C (lvl' + 1) mc' (cQi g r C') := by
  intro U f methk ck h1 hWU hKU hbc hml1 hlk hrt
  obtain ⟨cell, hcell1, hcls, hvm, hslot⟩ := hcell _ h1
  obtain ⟨d0, dk, hd, hdn, hmade, hcan, -⟩ := O.2.1.site hq
  have hts := O.tsAt (f := f) (mk := ⟨gCk g k, 1⟩) (a := (Value.ref a :: [.int x1, .int x2]).toArray) hWU
  have h5 := lv_entry (.ref a :: [.int x1, .int x2]) (n := 3) (Nat.le_of_ble_eq_true rfl)
  rw [lg_entry_eq]
  refine lv_aload_n O.1.ex hbc dbE_0 rfl (lvg_has h5 (i := 0) rfl) ?_
  refine lam_getf O.1.ex hbc (fun vm hW => ?_) hcell1 hvm hslot dbE_1 ?_
  · have hW1 : (xs X).WarmedH vm := State.WarmedH.trans hWU hW
    obtain ⟨kD, hkD, heD⟩ := hW1.alike.2.2 _ _ hd
    exact lam_field hG hkD (by rw [heD]; exact hdn) (Lambda.isMade_warmer hW1 hmade) (ts_obj O.1 hW1)
  refine lv_iload_n O.1.ex hbc dbE_4 rfl (lvg_has h5 (i := 1) rfl) ?_
  refine lv_iload_n O.1.ex hbc dbE_5 rfl (lvg_has h5 (i := 2) rfl) ?_
  have hrc := c_recv (X := X) O (H := U.heap) (o := c) (ci := 2) (p := (RX4, TX4, 55)) h1 (cC_lt (j := 0) hc (by decide)) rfl (fun _ _ => ⟨_, cCell_core hc⟩)
  obtain ⟨cellB, hcB, hoB, hclB⟩ := hrc
  have hrun := lam_runV (p := xp X) (l := xl X) (e := xe X) (R := rmz (lvl' + 1) mc') (s := U.calling f ⟨gCk g k, 1⟩ (Value.ref a :: [.int x1, .int x2]).toArray) (m := ⟨gCk g k, 1⟩) (args := (Value.ref a :: [.int x1, .int x2]).toArray) (below := .java f :: xb X) (meth := methk) (c := ck) (H := U.heap) (locs := []) (cells := 0) (slots := 0) (cc := bE) (pc := 6) (rest := []) (idx := 22) (y := y) (by_ := by_) (maxL := maxL) (ret := (some .int)) (b := gCa g c) (As := [.int x1, .int x2]) (Cn := "RankEntry$Core") O.1.ex hbc hM cPc_blind rfl rfl (Nat.le_refl _) (by show 8 + (maxL + 11) + (60 * lvl' + 3200) ≤ 60 * (lvl' + 1) + 3200; omega) (pay_in hts (lw_meth hco)) List.mem_cons_self (hts _ hini) (hts _ hinst) (hts _ hco) (hts _ hsel) hym
    (fun vm hW mk hmk => by
      have hW1 : (xs X).WarmedH vm := State.WarmedH.trans hWU hW
      have hmk0 : (xs X).methodNamed? y = some mk := by
        have e := State.methodNamed?_setVm (s := xs X) hWU.alike y
        exact e.symm.trans hmk
      obtain ⟨z1, kc, cf, k', z2, z3, z4, z5, z6, z7, z8⟩ := lam_ready hW1 hF hd hdn hmade hy hym hmk0
      exact ⟨z1, kc, cf, ci, nt, mk.cls, k', z2, z3, z4, z6, z7, by rw [z8, hi]⟩)
    hcB hoB (by show U.vm.findClass _ = _; rw [hWU.alike.findClass]; exact hclB) (fun V hV hW => ⟨rfl, by rw [hV]; exact h1, hKU.moved (U := V) (va_S.rf (A := cA g)) hV hW⟩)
    (fun sig h => by rw [h] at hn; exact (Option.some.inj hn).symm) (h5.1.trans hml1.symm) (by decide) dbE_6 ⟨by show 0 + mc' ≤ mc'; omega, by show 0 + 8 * mc' ≤ 8 * mc'; omega⟩
  refine va_calli (A1 := cA g) (A0 := cA g) (H0 := U.heap) hrun (va_S.rf (A := cA g)) (fun q _ h => h) (fun q h => h) (fun r1 u t H1 lo1 ht hvm hw hB hz hk hS1 => ?_)
  obtain ⟨rfl, rfl⟩ := hw
  refine W.widen (k := mc') (n := 8 * mc') (by omega) (by omega) ?_
  exact W.iret O.1.ex hbc hrt (fun t1 ht1 hW1 => ⟨⟨_, _, rfl, ⟨rfl, rfl⟩, show WdC g _ t1.heap by rw [ht1, ← ht]; exact hB⟩, hS1.F ht1⟩) hS1.2.2 dbE_9 hlk
theorem fwd_L {r : Int32} (O : OkC g X cc nL ret own lvl mc Qc) {x y : MethodName} {pc0 ix k ci nt cn lvl' mc' maxL : Nat} {σ : Lambda.Shape} {one : Option Nat} {by_ : ByteArray} {a : Addr} (x1 x2 : Int32) (hq : (x, pc0, ix, σ, k, one) ∈ lamSites) (hF : LamF σ x.cls bL 3 (some .int) 17 ci nt cn) (hy : y.cls = σ.implClass ∧ y.name = σ.implName ∧ y.desc = σ.implDesc.toString) (hym : y.cls ≠ "java/lang/invoke/MethodHandle" ∧ y.cls ≠ "java/lang/invoke/VarHandle")
    (hini : Cond.initialized y.cls ∈ lw_all) (hstat : Cond.static y ∈ lw_all) (hco : Cond.code y by_ maxL (some .int) ∈ lw_all) (hml : maxL ≤ 40) (hn : (parseMethodDescriptor y.desc).map (fun d => d.parameters.length) = some 2) (hM : MetC (xl X) g y by_ maxL (some .int) lvl' mc' [.int x1, .int x2] C (cQi g r C'))
    {U : State} {f : JFrame} {methk : Method} {ck : Code} (h1 : WdC g C U.heap) (hWU : (xs X).WarmedH U.vm) (hKU : KC g U) (hbc : ck.code = bL) (hml1 : ck.maxLocals = 3) (hlk : methk.locks = false) (hrt : methk.sig.returnType = (some .int)) :
    W (xp X) (xl X) (xe X) (rmz (lvl' + 1) mc') (U.calling f ⟨gCk g k, 1⟩ (Value.ref a :: [.int x1, .int x2]).toArray) ⟨gCk g k, 1⟩ (Value.ref a :: [.int x1, .int x2]).toArray (.java f :: xb X) methk ck U.heap [] 0 0 (MQ (.java f :: xb X) (cQi g r C') (Value.ref a :: [.int x1, .int x2]).toArray (U.calling f ⟨gCk g k, 1⟩ (Value.ref a :: [.int x1, .int x2]).toArray) mc' (8 * mc') (cA g)) (entryFrame ⟨gCk g k, 1⟩ (Value.ref a :: [.int x1, .int x2]).toArray 3) := by
  obtain ⟨d0, dk, hd, hdn, hmade, hcan, -⟩ := O.2.1.site hq
  have hts := O.tsAt (f := f) (mk := ⟨gCk g k, 1⟩) (a := (Value.ref a :: [.int x1, .int x2]).toArray) hWU
  have h5 := lv_entry (.ref a :: [.int x1, .int x2]) (n := 3) (Nat.le_of_ble_eq_true rfl)
  rw [lg_entry_eq]
  refine lv_iload_n O.1.ex hbc dbL_0 rfl (lvg_has h5 (i := 1) rfl) ?_
  refine lv_iload_n O.1.ex hbc dbL_1 rfl (lvg_has h5 (i := 2) rfl) ?_
  have hrun := lam_runS (p := xp X) (l := xl X) (e := xe X) (R := rmz (lvl' + 1) mc') (s := U.calling f ⟨gCk g k, 1⟩ (Value.ref a :: [.int x1, .int x2]).toArray) (m := ⟨gCk g k, 1⟩) (args := (Value.ref a :: [.int x1, .int x2]).toArray) (below := .java f :: xb X) (meth := methk) (c := ck) (H := U.heap) (locs := []) (cells := 0) (slots := 0) (cc := bL) (pc := 2) (rest := []) (idx := 17) (y := y) (by_ := by_) (maxL := maxL) (ret := (some .int)) (As := [.int x1, .int x2]) O.1.ex hbc hM cPc_blind rfl rfl (Nat.le_refl _) (by show 8 + (maxL + 11) + (60 * lvl' + 3200) ≤ 60 * (lvl' + 1) + 3200; omega) (pay_in hts (lw_meth hco)) List.mem_cons_self (hts _ hini) (hts _ hstat) (hts _ hco) hym
    (fun vm hW mk hmk => by
      have hW1 : (xs X).WarmedH vm := State.WarmedH.trans hWU hW
      have hmk0 : (xs X).methodNamed? y = some mk := by
        have e := State.methodNamed?_setVm (s := xs X) hWU.alike y
        exact e.symm.trans hmk
      obtain ⟨z1, kc, cf, k', z2, z3, z4, z5, z6, z7, z8⟩ := lam_ready hW1 hF hd hdn hmade hy hym hmk0
      exact ⟨z1, kc, cf, ci, nt, _, _, z2, z3, z4, z5, z6⟩)
    (fun V hV hW => ⟨rfl, by rw [hV]; exact h1, hKU.moved (U := V) (va_S.rf (A := cA g)) hV hW⟩)
    (fun sig h => by rw [h] at hn; exact (Option.some.inj hn).symm) (h5.1.trans hml1.symm) (by decide) dbL_2 ⟨by show 0 + mc' ≤ mc'; omega, by show 0 + 8 * mc' ≤ 8 * mc'; omega⟩
  refine va_calli (A1 := cA g) (A0 := cA g) (H0 := U.heap) hrun (va_S.rf (A := cA g)) (fun q _ h => h) (fun q h => h) (fun r1 u t H1 lo1 ht hvm hw hB hz1 hk hS1 => ?_)
  obtain ⟨rfl, rfl⟩ := hw
  refine W.widen (k := mc') (n := 8 * mc') (by omega) (by omega) ?_
  exact W.iret O.1.ex hbc hrt (fun t1 ht1 hW1 => ⟨⟨_, _, rfl, ⟨rfl, rfl⟩, show WdC g _ t1.heap by rw [ht1, ← ht]; exact hB⟩, hS1.F ht1⟩) hS1.2.2 dbL_5 hlk
theorem fwd_C {r : Int32} (O : OkC g X cc nL ret own lvl mc Qc) {x y : MethodName} {pc0 ix k ci nt cn lvl' mc' maxL : Nat} {σ : Lambda.Shape} {one : Option Nat} {by_ : ByteArray} {a : Addr} (x1 : Int32) (hq : (x, pc0, ix, σ, k, one) ∈ lamSites) (hF : LamF σ x.cls bC 2 (some .boolean) 17 ci nt cn) (hy : y.cls = σ.implClass ∧ y.name = σ.implName ∧ y.desc = σ.implDesc.toString) (hym : y.cls ≠ "java/lang/invoke/MethodHandle" ∧ y.cls ≠ "java/lang/invoke/VarHandle") (hz : isB r = true)
    (hini : Cond.initialized y.cls ∈ lw_all) (hstat : Cond.static y ∈ lw_all) (hco : Cond.code y by_ maxL (some .boolean) ∈ lw_all) (hml : maxL ≤ 40) (hn : (parseMethodDescriptor y.desc).map (fun d => d.parameters.length) = some 1) (hM : MetC (xl X) g y by_ maxL (some .boolean) lvl' mc' [.int x1] C (cQi g r C'))
    {U : State} {f : JFrame} {methk : Method} {ck : Code} (h1 : WdC g C U.heap) (hWU : (xs X).WarmedH U.vm) (hKU : KC g U) (hbc : ck.code = bC) (hml1 : ck.maxLocals = 2) (hlk : methk.locks = false) (hrt : methk.sig.returnType = (some .boolean)) :
    W (xp X) (xl X) (xe X) (rmz (lvl' + 1) mc') (U.calling f ⟨gCk g k, 1⟩ (Value.ref a :: [.int x1]).toArray) ⟨gCk g k, 1⟩ (Value.ref a :: [.int x1]).toArray (.java f :: xb X) methk ck U.heap [] 0 0 (MQ (.java f :: xb X) (cQi g r C') (Value.ref a :: [.int x1]).toArray (U.calling f ⟨gCk g k, 1⟩ (Value.ref a :: [.int x1]).toArray) mc' (8 * mc') (cA g)) (entryFrame ⟨gCk g k, 1⟩ (Value.ref a :: [.int x1]).toArray 2) := by
  obtain ⟨d0, dk, hd, hdn, hmade, hcan, -⟩ := O.2.1.site hq
  have hts := O.tsAt (f := f) (mk := ⟨gCk g k, 1⟩) (a := (Value.ref a :: [.int x1]).toArray) hWU
  have h5 := lv_entry (.ref a :: [.int x1]) (n := 2) (Nat.le_of_ble_eq_true rfl)
  rw [lg_entry_eq]
  refine lv_iload_n O.1.ex hbc dbC_0 rfl (lvg_has h5 (i := 1) rfl) ?_
  have hrun := lam_runS (p := xp X) (l := xl X) (e := xe X) (R := rmz (lvl' + 1) mc') (s := U.calling f ⟨gCk g k, 1⟩ (Value.ref a :: [.int x1]).toArray) (m := ⟨gCk g k, 1⟩) (args := (Value.ref a :: [.int x1]).toArray) (below := .java f :: xb X) (meth := methk) (c := ck) (H := U.heap) (locs := []) (cells := 0) (slots := 0) (cc := bC) (pc := 1) (rest := []) (idx := 17) (y := y) (by_ := by_) (maxL := maxL) (ret := (some .boolean)) (As := [.int x1]) O.1.ex hbc hM cPc_blind rfl rfl (Nat.le_refl _) (by show 8 + (maxL + 11) + (60 * lvl' + 3200) ≤ 60 * (lvl' + 1) + 3200; omega) (pay_in hts (lw_meth hco)) List.mem_cons_self (hts _ hini) (hts _ hstat) (hts _ hco) hym
    (fun vm hW mk hmk => by
      have hW1 : (xs X).WarmedH vm := State.WarmedH.trans hWU hW
      have hmk0 : (xs X).methodNamed? y = some mk := by
        have e := State.methodNamed?_setVm (s := xs X) hWU.alike y
        exact e.symm.trans hmk
      obtain ⟨z1, kc, cf, k', z2, z3, z4, z5, z6, z7, z8⟩ := lam_ready hW1 hF hd hdn hmade hy hym hmk0
      exact ⟨z1, kc, cf, ci, nt, _, _, z2, z3, z4, z5, z6⟩)
    (fun V hV hW => ⟨rfl, by rw [hV]; exact h1, hKU.moved (U := V) (va_S.rf (A := cA g)) hV hW⟩)
    (fun sig h => by rw [h] at hn; exact (Option.some.inj hn).symm) (h5.1.trans hml1.symm) (by decide) dbC_1 ⟨by show 0 + mc' ≤ mc'; omega, by show 0 + 8 * mc' ≤ 8 * mc'; omega⟩
  refine va_calli (A1 := cA g) (A0 := cA g) (H0 := U.heap) hrun (va_S.rf (A := cA g)) (fun q _ h => h) (fun q h => h) (fun r1 u t H1 lo1 ht hvm hw hB hz1 hk hS1 => ?_)
  obtain ⟨rfl, rfl⟩ := hw
  refine W.widen (k := mc') (n := 8 * mc') (by omega) (by omega) ?_
  exact W.zret O.1.ex hbc hrt (isB_nar hz) (fun t1 ht1 hW1 => ⟨⟨_, _, rfl, ⟨rfl, rfl⟩, show WdC g _ t1.heap by rw [ht1, ← ht]; exact hB⟩, hS1.F ht1⟩) hS1.2.2 dbC_4 hlk
theorem fwd_A {r : Int32} (O : OkC g X cc nL ret own lvl mc Qc) {x y : MethodName} {pc0 ix k ci nt cn lvl' mc' maxL : Nat} {σ : Lambda.Shape} {one : Option Nat} {by_ : ByteArray} {a : Addr} (v : Int32) (a1 a2 : Nat) (hq : (x, pc0, ix, σ, k, one) ∈ lamSites) (hF : LamF σ x.cls bA 3 (some .boolean) 23 ci nt cn) (hy : y.cls = σ.implClass ∧ y.name = σ.implName ∧ y.desc = σ.implDesc.toString) (hym : y.cls ≠ "java/lang/invoke/MethodHandle" ∧ y.cls ≠ "java/lang/invoke/VarHandle") (hz : isB r = true)
    (hini : Cond.initialized y.cls ∈ lw_all) (hstat : Cond.static y ∈ lw_all) (hco : Cond.code y by_ maxL (some .boolean) ∈ lw_all) (hml : maxL ≤ 40) (hn : (parseMethodDescriptor y.desc).map (fun d => d.parameters.length) = some 3) (hM : MetC (xl X) g y by_ maxL (some .boolean) lvl' mc' [.int v, .ref a1, .ref a2] C (cQi g r C'))
    {U : State} {f : JFrame} {methk : Method} {ck : Code} (h1 : WdC g C U.heap) (hG : LamG σ x.cls 15 2 14) (hcell : U.heap[a]? = some (arrV (gCk g k) 1 (fun _ => .int v))) (hWU : (xs X).WarmedH U.vm) (hKU : KC g U) (hbc : ck.code = bA) (hml1 : ck.maxLocals = 3) (hlk : methk.locks = false) (hrt : methk.sig.returnType = (some .boolean)) :
    W (xp X) (xl X) (xe X) (rmz (lvl' + 1) mc') (U.calling f ⟨gCk g k, 1⟩ (Value.ref a :: [.ref a1, .ref a2]).toArray) ⟨gCk g k, 1⟩ (Value.ref a :: [.ref a1, .ref a2]).toArray (.java f :: xb X) methk ck U.heap [] 0 0 (MQ (.java f :: xb X) (cQi g r C') (Value.ref a :: [.ref a1, .ref a2]).toArray (U.calling f ⟨gCk g k, 1⟩ (Value.ref a :: [.ref a1, .ref a2]).toArray) mc' (8 * mc') (cA g)) (entryFrame ⟨gCk g k, 1⟩ (Value.ref a :: [.ref a1, .ref a2]).toArray 3) := by
  obtain ⟨d0, dk, hd, hdn, hmade, hcan, -⟩ := O.2.1.site hq
  have hts := O.tsAt (f := f) (mk := ⟨gCk g k, 1⟩) (a := (Value.ref a :: [.ref a1, .ref a2]).toArray) hWU
  have h5 := lv_entry (.ref a :: [.ref a1, .ref a2]) (n := 3) (Nat.le_of_ble_eq_true rfl)
  rw [lg_entry_eq]
  refine lv_aload_n O.1.ex hbc dbA_0 rfl (lvg_has h5 (i := 0) rfl) ?_
  refine lam_getf O.1.ex hbc (fun vm hW => ?_) hcell rfl (v := .int v) rfl dbA_1 ?_
  · have hW1 : (xs X).WarmedH vm := State.WarmedH.trans hWU hW
    obtain ⟨kD, hkD, heD⟩ := hW1.alike.2.2 _ _ hd
    exact lam_field hG hkD (by rw [heD]; exact hdn) (Lambda.isMade_warmer hW1 hmade) (ts_obj O.1 hW1)
  refine lv_aload_n O.1.ex hbc dbA_4 rfl (lvg_has h5 (i := 1) rfl) ?_
  refine lv_aload_n O.1.ex hbc dbA_5 rfl (lvg_has h5 (i := 2) rfl) ?_
  have hrun := lam_runS (p := xp X) (l := xl X) (e := xe X) (R := rmz (lvl' + 1) mc') (s := U.calling f ⟨gCk g k, 1⟩ (Value.ref a :: [.ref a1, .ref a2]).toArray) (m := ⟨gCk g k, 1⟩) (args := (Value.ref a :: [.ref a1, .ref a2]).toArray) (below := .java f :: xb X) (meth := methk) (c := ck) (H := U.heap) (locs := []) (cells := 0) (slots := 0) (cc := bA) (pc := 6) (rest := []) (idx := 23) (y := y) (by_ := by_) (maxL := maxL) (ret := (some .boolean)) (As := [.int v, .ref a1, .ref a2]) O.1.ex hbc hM cPc_blind rfl rfl (Nat.le_refl _) (by show 8 + (maxL + 11) + (60 * lvl' + 3200) ≤ 60 * (lvl' + 1) + 3200; omega) (pay_in hts (lw_meth hco)) List.mem_cons_self (hts _ hini) (hts _ hstat) (hts _ hco) hym
    (fun vm hW mk hmk => by
      have hW1 : (xs X).WarmedH vm := State.WarmedH.trans hWU hW
      have hmk0 : (xs X).methodNamed? y = some mk := by
        have e := State.methodNamed?_setVm (s := xs X) hWU.alike y
        exact e.symm.trans hmk
      obtain ⟨z1, kc, cf, k', z2, z3, z4, z5, z6, z7, z8⟩ := lam_ready hW1 hF hd hdn hmade hy hym hmk0
      exact ⟨z1, kc, cf, ci, nt, _, _, z2, z3, z4, z5, z6⟩)
    (fun V hV hW => ⟨rfl, by rw [hV]; exact h1, hKU.moved (U := V) (va_S.rf (A := cA g)) hV hW⟩)
    (fun sig h => by rw [h] at hn; exact (Option.some.inj hn).symm) (h5.1.trans hml1.symm) (by decide) dbA_6 ⟨by show 0 + mc' ≤ mc'; omega, by show 0 + 8 * mc' ≤ 8 * mc'; omega⟩
  refine va_calli (A1 := cA g) (A0 := cA g) (H0 := U.heap) hrun (va_S.rf (A := cA g)) (fun q _ h => h) (fun q h => h) (fun r1 u t H1 lo1 ht hvm hw hB hz1 hk hS1 => ?_)
  obtain ⟨rfl, rfl⟩ := hw
  refine W.widen (k := mc') (n := 8 * mc') (by omega) (by omega) ?_
  exact W.zret O.1.ex hbc hrt (isB_nar hz) (fun t1 ht1 hW1 => ⟨⟨_, _, rfl, ⟨rfl, rfl⟩, show WdC g _ t1.heap by rw [ht1, ← ht]; exact hB⟩, hS1.F ht1⟩) hS1.2.2 dbA_9 hlk
end CFWD
