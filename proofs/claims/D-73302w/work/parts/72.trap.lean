/-! Trap: an exception as an object. tr_super follows vx_ctorMade0 of part 07 (the receiver's class isn't the constructor's own) -/
def trapAtoms : List Cond := Bundle.throwableAtoms ++ Bundle.chain0Atoms "java/lang/Exception" [] ++
  [.methodLink "RankEntry$Trap" 1 (Bundle.init0 "java/lang/Exception"), .instantiable "RankEntry$Trap" 7, .selects "RankEntry$Trap" Bundle.tFill0 Bundle.tFill0, .selects "RankEntry$Trap" Bundle.tFill Bundle.tFill,
   .lays "RankEntry$Trap" Bundle.tN "cause" "Ljava/lang/Throwable;", .lays "RankEntry$Trap" Bundle.tN "stackTrace" Bundle.steD, .lays "RankEntry$Trap" Bundle.tN "suppressedExceptions" Bundle.listD,
   .isRef (.static Bundle.tN "UNASSIGNED_STACK" Bundle.steD), .isRef (.static Bundle.tN "SUPPRESSED_SENTINEL" Bundle.listD),
   .fieldLink Bundle.tN 198 Bundle.tN "backtrace" "Ljava/lang/Object;", .lays Bundle.tN Bundle.tN "backtrace" "Ljava/lang/Object;", .lays "RankEntry$Trap" Bundle.tN "backtrace" "Ljava/lang/Object;"]
section TRAP
variable {p : Program} {l : Launch} {e : Env} {R : Room} {s : State} {m : MethodId} {args : Array Value} {below : List Frame} {meth : Method} {c : Code} {H : Heap} {locs : List Loc} {cells slots : Nat} {Q : State → Prop} {cc : ByteArray} {pc : Nat} {ls : Array Slot} {rest : List Value}
set_option maxHeartbeats 2000000 in
theorem tr_super (hexec : p.tables.exec = Jvm.exec) (hb : c.code = cc) (hl : l.stackTraces = false) {A : Nat → Prop} {a : Nat} {cT : ClassId} {sl : Array Value} (hown : s.vm.findClass "RankEntry$Trap" = some m.cls) (hcT : s.vm.findClass "RankEntry$Trap" = some cT) (hat : ∀ w ∈ trapAtoms.filter vx_no, w.before args s = true)
    (hU : vx_Zq Bundle.tN "UNASSIGNED_STACK" Bundle.steD A s s.heap) (hN : vx_Zq Bundle.tN "SUPPRESSED_SENTINEL" Bundle.listD A s s.heap) (hS : va_S A s.heap H locs) (hA : A a) (hsize : ls.size = c.maxLocals)
    (hcell : H[a]? = some { cls := cT, slots := sl, vm := .none }) (hsl : sl.size = 7) (hbk : ∀ cf kf fi fd, s.fieldFound? Bundle.tN "backtrace" "Ljava/lang/Object;" = some (cf, kf, fi, fd) → sl[fd.slot]? = some .null)
    (d : decode cc pc = .ok (.invokespecial 1, 3)) (hRframes : 4 ≤ R.frames) (hRlocals : (rest.map fun v => v.category).sum + 100 ≤ R.locals)
    (kk : ∀ (ce : Cell) (H1 : Heap) (locs1 : List Loc), H1[a]? = some ce → (∀ q : Nat, q ≠ a → H1[q]? = H[q]?) → H1.size = H.size → ce.cls = cT → ce.vm = .none → ce.slots.size = 7 → va_S A s.heap H1 locs1 → W p l e R s m args below meth c H1 locs1 cells slots Q (F0 m (pc + 3) ls rest)) :
    W p l e R s m args below meth c H locs cells slots Q (F0 m pc ls (.ref a :: rest)) := by
  intro W0 hT X
  subst hT
  have htr : e.platform.stackTraces = false := (show e.platform.stackTraces = l.stackTraces by rw [X.admits.platform]).trans hl
  have h : ∀ w ∈ trapAtoms, w.before args s = true := vx_own hat (vx_isRefq hU.1) (vx_isRefq hN.1) hU.2.word hN.2.word
  have howns : e.platform.frameOwnsMonitors = true := by rw [X.admits.platform]
  have hfin : e.platform.finalization = false := by rw [X.admits.platform]
  have hpl : e.platform.magicAccessors = ({} : Platform).magicAccessors := by rw [X.admits.platform]
  have a' : ∀ x, x ∈ trapAtoms → x.holds args s none s [] = true := fun x hx => h x hx
  obtain ⟨T, Z, L, LZ, Y⟩ := ThrowableC.of_atoms (args := args) howns hfin hpl (fun x hx => h x (by simp [trapAtoms, hx]))
  obtain ⟨P1, Ps, hlen, L1, hL, hP1m, hlink1, hlink⟩ := Bundle.chain0 (args := args) hpl Y.init0 [] "java/lang/Exception" (by decide +kernel) (fun n hn => nomatch hn) (fun x hx => h x (by simp [trapAtoms, hx]))
  obtain ⟨c1, kX, hc1, hk, hord, -, -, hn7⟩ := Cond.instantiable_spec (a' (.instantiable "RankEntry$Trap" 7) (by simp [trapAtoms]))
  cases Option.some.inj (hc1.symm.trans hcT)
  have hsel0 : selectMethod e.platform s.vm cT T.fill0 = .method T.fill0 := by
    obtain ⟨c2, r2, m2, q1, q2, q3, q4, -⟩ := Cond.selects_spec (a' (.selects "RankEntry$Trap" Bundle.tFill0 Bundle.tFill0) (by simp [trapAtoms]))
    cases Option.some.inj (q1.symm.trans hcT)
    cases Option.some.inj (q2.symm.trans (State.methodFound?_of_named Y.fill0 (by decide)))
    cases Option.some.inj (q3.symm.trans Y.fill0)
    rw [Launch.admits_selectMethod X.admits]; exact q4
  have hselF : selectMethod e.platform s.vm cT T.fill = .method T.fill := by
    obtain ⟨c2, r2, m2, q1, q2, q3, q4, -⟩ := Cond.selects_spec (a' (.selects "RankEntry$Trap" Bundle.tFill Bundle.tFill) (by simp [trapAtoms]))
    cases Option.some.inj (q1.symm.trans hcT)
    cases Option.some.inj (q2.symm.trans (State.methodFound?_of_named Y.fill (by decide)))
    cases Option.some.inj (q3.symm.trans Y.fill)
    rw [Launch.admits_selectMethod X.admits]; exact q4
  obtain ⟨cellS0, hcS0, hiss⟩ := Y.statics
  obtain ⟨u0, hu0⟩ := Cond.staticRefV Y.unassigned L.unassignedStatic L.statics hcS0 hiss (a' (.isRef (.static Bundle.tN "UNASSIGNED_STACK" Bundle.steD)) (by simp [trapAtoms]))
  obtain ⟨sen, hsen⟩ := Cond.staticRefV Y.sentinel L.sentinelStatic L.statics hcS0 hiss (a' (.isRef (.static Bundle.tN "SUPPRESSED_SENTINEL" Bundle.listD)) (by simp [trapAtoms]))
  obtain ⟨ci198, i198, fB, hk198, hg198, ha198, hsB, -, hnB, htB, hffB⟩ := Cond.ownField (t := .object "java/lang/Object") Y.found L.cls (by decide +kernel) (a' (.fieldLink Bundle.tN 198 Bundle.tN "backtrace" "Ljava/lang/Object;") (by simp [trapAtoms])) (a' (.lays Bundle.tN Bundle.tN "backtrace" "Ljava/lang/Object;") (by simp [trapAtoms])) e.platform hpl
  have hnA : ¬ A T.aS := by
    obtain ⟨c9, k9, i9, f9, a9, cell9, y1, y2, y3, y4, y5, y6, y7, y8, y9, y10⟩ := hU.2
    cases y2.symm.trans Y.unassigned
    cases y4.symm.trans L.statics
    exact y10
  obtain ⟨cellS, hcS', heS, -, hkeep⟩ := X.same.2.2.2.2.2 T.aS cellS0 hcS0
  have hcellS : W0.heap[T.aS]? = some cellS := hcS'
  have hout' : ∀ i, (⟨T.aS, i⟩ : Loc) ∉ locs := fun i hmem => hnA (hS.2.2 _ hmem)
  have hknownS : cellS.vm ≠ .unknown := by
    rw [heS]; intro hu
    rw [show cellS0.vm = .unknown from hu] at hiss
    cases hiss
  have hneS : T.aS ≠ a := fun z => hnA (by rw [z]; exact hA)
  obtain ⟨tyC, dC, hdC, hdnC⟩ := Cond.laysAt hcT hk Y.cause (a' (.lays "RankEntry$Trap" Bundle.tN "cause" "Ljava/lang/Throwable;") (by simp [trapAtoms]))
  obtain ⟨tyS, dS, hdS, hdnS⟩ := Cond.laysAt hcT hk Y.stack (a' (.lays "RankEntry$Trap" Bundle.tN "stackTrace" Bundle.steD) (by simp [trapAtoms]))
  obtain ⟨tyP, dP, hdP, hdnP⟩ := Cond.laysAt hcT hk Y.supp (a' (.lays "RankEntry$Trap" Bundle.tN "suppressedExceptions" Bundle.listD) (by simp [trapAtoms]))
  obtain ⟨tyB, dB, hdB, hdnB⟩ := Cond.laysAt hcT hk hffB (a' (.lays "RankEntry$Trap" Bundle.tN "backtrace" "Ljava/lang/Object;") (by simp [trapAtoms]))
  have bC := Cond.laysApart hdB hdC hdnB hdnC (by rw [hnB, Y.causeName]; decide)
  have bS := Cond.laysApart hdB hdS hdnB hdnS (by rw [hnB, Y.stackName]; decide)
  have bP := Cond.laysApart hdB hdP hdnB hdnP (by rw [hnB, Y.suppName]; decide)
  have hnull := hbk _ _ _ _ hffB
  have hskip : SkipFacts T e.platform s (fun u => u) u0 ((preparedCellV T.toThrowableT { cls := cT, slots := sl, vm := .none } a u0 sen).withEntry W0.cur) :=
    ⟨{ ci198 := ci198, i198 := i198, fBack := fB }, ⟨hk198, hg198, ha198, hsB⟩, by
      simpa [preparedCellV, Cell.setSlot, Cell.withEntry, Array.getElem?_setIfInBounds, bC, bS, bP, bC.symm, bS.symm, bP.symm] using hnull, fun _ _ => rfl⟩
  have tk : ∀ (f : Field) (v : Value), kX.instanceTypes[f.slot]? = some f.type → fits f.type v = true → Takes s { cls := cT, slots := sl, vm := .none } f v := fun f v hty hv => by
    refine ⟨?_, ?_⟩
    · have := (Array.getElem?_eq_some_iff.mp hty).1
      show f.slot < sl.size
      omega
    · simp [State.fitsSlot, State.slotType?, hk, hord, hty, hv]
  have hst : (F0 m pc ls (.ref a :: rest)).stack = .ref a :: rest := rfl
  obtain ⟨tm, methC, cdC, kC, vm₁, hnC, -, -, -, -, -, -, -, hW₁, st1⟩ := Steps.initCold (tb := p.tables) (e := e) (below := below) (s := s) (U := W0) X.here hexec X.warmed hpl hown (t := Bundle.init0 "java/lang/Exception") rfl rfl (by decide)
    (a' (.methodLink "RankEntry$Trap" 1 (Bundle.init0 "java/lang/Exception")) (by simp [trapAtoms])) (h (.instanceMethod (Bundle.init0 "java/lang/Exception")) (by simp [trapAtoms, Bundle.chain0Atoms, Bundle.passAtoms])) (bytes := Bundle.five) (maxL := 1) (h (.code (Bundle.init0 "java/lang/Exception") Bundle.five 1 none) (by simp [trapAtoms, Bundle.chain0Atoms, Bundle.passAtoms]))
    (f := F0 m pc ls (.ref a :: rest)) rfl (a := a) (rest := rest) hst (by rw [hb]; exact d)
  cases Option.some.inj (hnC.symm.trans hP1m)
  have X₁ := X.noted hW₁
  obtain ⟨vm₂, X₂, st2⟩ := X₁.ctorPlainOffV hexec (g := F0 m pc ls rest) rfl hsize T L Z LZ (P1 :: Ps)
    (fun P hP => by rcases List.mem_cons.mp hP with rfl | hP; exact L1; exact hL P hP) ⟨hlink1, hlink⟩ (u0 := u0) (sen := sen) (self := a) (cell := { cls := cT, slots := sl, vm := .none }) (cellS := cellS)
    hcell (fun _ => by simp) (by simp) rfl rfl hsel0 hselF hcellS hneS hknownS (by rw [hkeep _ (hout' _)]; exact hu0) (by rw [hkeep _ (hout' _)]; exact hsen)
    (tk _ _ tyC (by rw [Y.causeType]; rfl)) (tk _ _ tyS (by rw [Y.stackType]; exact fits_refV_array _ u0)) (tk _ _ tyP (by rw [Y.suppType]; exact fits_refV_object _ sen)) Y.objLocals hskip htr [] (by rw [hb]; exact d)
    (by simp only [List.length_cons, hlen, List.length_nil]; omega) (by simp only [List.length_cons, hlen, List.length_nil]; show 2 * 0 + (rest.map fun v => v.category).sum + (13 * (0 + 1) + 41) ≤ _; omega)
  have hlt : a < ((W0.setVm vm₁).setVm vm₂).heap.size := (Array.getElem?_eq_some_iff.mp hcell).1
  generalize hce : (preparedCellV T.toThrowableT { cls := cT, slots := sl, vm := .none } a u0 sen).setSlot T.fStack.slot u0.v = ce at X₂ st2
  have e1 : ce.cls = cT ∧ ce.vm = .none ∧ ce.slots.size = 7 := by
    rw [← hce]
    refine ⟨rfl, rfl, ?_⟩
    simp [preparedCellV, Cell.setSlot, hsl]
  obtain ⟨t, a1, b1⟩ := kk ce (((W0.setVm vm₁).setVm vm₂).setCell a ce).heap _ (heapAt_setCell_self (s := (W0.setVm vm₁).setVm vm₂) ce hlt) (fun q hq => by
      show (W0.heap.setIfInBounds a ce)[q]? = W0.heap[q]?
      rw [Array.getElem?_setIfInBounds, if_neg (fun z => hq z.symm)]) (by
      show (W0.heap.setIfInBounds a ce).size = W0.heap.size
      rw [Array.size_setIfInBounds]) e1.1 e1.2.1 e1.2.2 ⟨by
      show s.heap.size ≤ (W0.heap.setIfInBounds a ce).size
      rw [Array.size_setIfInBounds]; exact hS.1, fun q z1 z2 => by
      have hq : ¬ a = q := fun z => z2 (by rw [← z]; exact hA)
      show (W0.heap.setIfInBounds a ce)[q]? = s.heap[q]?
      rw [Array.getElem?_setIfInBounds, if_neg hq]
      exact hS.2.1 q z1 z2, fun y hy => by
      rcases List.mem_append.mp hy with hy | hy
      · exact hS.2.2 y hy
      · simp only [List.mem_cons, List.not_mem_nil, or_false] at hy
        rcases hy with rfl | rfl | rfl | rfl <;> exact hA⟩ _ rfl X₂
  refine ⟨t, st1 _ (fun acts => ?_), b1⟩
  rw [doInvoke_state]
  exact st2 _ a1
end TRAP
/-- a method's body, by its walk; the launch -/
theorem g_bodyL {l : Launch} {y : MethodName} {cc : ByteArray} {nL : Nat} {ret : Option FieldType} {own : String} {lvl mc : Nat} {as : List Value} {g : gC} {Pw : Heap → Prop} {Qc : Array Value → State → Outcome → State → Prop} (hy : plainFor y = true) (hc : y.cls = own) (hlen : (lg_sl as).length ≤ nL) (h : ∀ X, OkC g X cc nL ret own lvl mc Qc → (xh X).name = y.name → xl X = l → V X nL mc Pw 0 (lv_args 0 as) []) : Met l y (ws_ y cc nL ret) (rmz lvl mc) (va_Pc as (fun U => Pw U.heap ∧ KC g U)) Qc mc (8 * mc) (cA g) := by
  refine MetFree.of_bodySF (code := cc) (maxLocals := nL) (ret := ret) hy ?_ ?_
  · intro args s m h hn
    obtain ⟨meth, c, h1, h2, h3, h4, h5, h6, -, -⟩ := Cond.code_spec hn (atoms_spec (ws := ws_ y cc nL ret) h _ List.mem_cons_self)
    exact ⟨meth, c, h1, h2, h3, h4, h5, h6⟩
  · intro p e s m args below meth c s₁ B hml hP _
    have hh0 : s₁.heap = s.heap := by rw [B.state]; rfl
    obtain ⟨rfl, hW, hK⟩ := hP
    have hts := atoms_spec (ws := ws_ y cc nL ret) B.pre
    have hts : ∀ w ∈ lw_all, w.before _ s = true := fun w h => hts w (List.mem_cons_of_mem _ h)
    have hown : s.vm.findClass y.cls = some m.cls := findClass_of_methodNamed B.named
    have hnm := (name_of_methodNamed B.named B.method).1
    rw [hc] at hown
    have hl := lv_entry as hlen
    rw [lg_entry_eq]
    obtain ⟨t, a1, o, b1, b2, b3⟩ := h (p, l, e, rmz lvl mc, s, m, as.toArray, below, meth, c, MQ below Qc as.toArray s mc (8 * mc) (cA g), cA g) ⟨⟨B.exec, B.bytes, hml, hown, hts, B.returns, B.notSynchronized, rfl⟩, hK, rfl, fun _ h => h⟩ hnm rfl s.heap [] 0 0 _ hW va_S.rf (by rw [Nat.zero_add]; exact Nat.le_refl _) (by rw [Nat.zero_add]; exact Nat.le_refl _) hl s₁ hh0 (Stand.of_body B)
    exact ⟨t, o, a1, b1, b2, ⟨b3.1, b3.2⟩⟩
theorem trap_go : ∀ w ∈ (trapAtoms.filter vx_no).filter goodWord, w ∈ lw_all := lw_in _ [64, 153, 162, 167, 170, 172, 154, 155, 97, 98, 156, 161, 168, 184, 143, 185, 145, 186, 147, 157, 159, 149, 177, 178, 179, 154, 176, 134, 140, 141, 142, 144, 146, 182, 151, 150] (by decide +kernel) (by decide +kernel)
theorem trap_ba : (trapAtoms.filter vx_no).filter (fun w => !goodWord w) = [.declares ⟨"java/lang/Throwable", "<init>", "()V"⟩] := by decide +kernel
/-- a Trap just made -/
def PT (g : gC) (W : va_W) (a : Nat) : Heap → Prop := fun H => Wo g W a 4 [.null, .null, .null, .null, .null, .int 0, .int 0] [] H ∧ ∃ sl : Array Value, H[a]? = some { cls := g.1.1 4, slots := sl, vm := .none } ∧ sl.size = 7
abbrev trapF (u : Nat → Value) (f : Int32) : List Value := [u 0, u 1, u 2, u 3, u 4, u 5, .int f]
theorem metk_Trap (l : Launch) (hl : l.stackTraces = false) (g : gC) (a : Nat) (x : Int32) (W : va_W) : MetK (S := Nat → Value) l g yX5_init cX5_init 2 5 0 [.ref a, .int x] (PT g W a) (fun u => Wo g W a 4 (trapF u x) []) :=
  g_bodyL (by decide +kernel) rfl (Nat.le_of_ble_eq_true rfl) (fun X O hnm hxl => by
    refine v_aload_n O.1 dX5_init_0 rfl (q := 1) rfl ?_
    intro H lo ce sl ls h1 h2 h3 h4 h5
    obtain ⟨⟨hP, hD⟩, s7, hc7, hs7⟩ := h1
    have S2 := O.S h2
    have hK5 := O.2.1.1.1 4 (RX5, TX5, 7) rfl
    obtain ⟨r0, hr0, cell, g1, g2, g3, g4⟩ := hP W.length _ wo_get
    cases hr0
    cases hc7.symm.trans g1
    refine tr_super O.1.ex O.1.bc (by rw [hxl]; exact hl) O.1.ow hK5.2.1 (vx_hat (fun w hw => O.1.ts _ (trap_go w hw)) (fun w hw => by rw [trap_ba] at hw; exact hw) (vx_c (va_any rfl (O.2.1.nest _ (List.mem_filter.mpr ⟨q138, rfl⟩))) vx_n)) O.2.1.thr.1 O.2.1.thr.2 S2 (hD.2 W.length _ wo_get) (h5.1.trans O.1.ml.symm) hc7 hs7 (fun cf kf fi fd hf => ?_) dX5_init_1 ?_ ?_ (fun c9 H1 lo1 k1 k2 k3 k4 k5 k6 k7 => ?_)
    · obtain ⟨cf', kf', fi', fd', y1, y2⟩ := hK5.1 4 (by decide)
      cases hf.symm.trans y1
      have := g4 4 (by decide)
      rw [y2]
      exact this
    · rw [O.1.rm]
      show 4 ≤ 5
      omega
    · rw [O.1.rm]
      show 0 + 100 ≤ 60 * 5 + 3200
      omega
    · have hv : ∀ k, k < 7 → c9.slots[g.1.2 4 k]? = some ((c9.slots[g.1.2 4 k]?).getD .null) := fun k hk => by
        have h7 : g.1.2 4 k < s7.size := (Array.getElem?_eq_some_iff.mp (g4 k hk)).1
        rw [Array.getElem?_eq_getElem (show g.1.2 4 k < c9.slots.size by omega)]
        rfl
      obtain ⟨u, hu⟩ : ∃ u : Nat → Value, ∀ k, k < 7 → c9.slots[g.1.2 4 k]? = some (u k) := ⟨_, hv⟩
      have w1 : Wo g W a 4 [u 0, u 1, u 2, u 3, u 4, u 5, u 6] [] H1 := by
        have q1 := hP.set hD wo_get (e := .inr (4, [u 0, u 1, u 2, u 3, u 4, u 5, u 6])) ⟨_, rfl, c9, k1, k4, k5, fun k hk => by
          have hk : k < 7 := hk
          rw [hu k hk]
          have : k = 0 ∨ k = 1 ∨ k = 2 ∨ k = 3 ∨ k = 4 ∨ k = 5 ∨ k = 6 := by omega
          rcases this with rfl | rfl | rfl | rfl | rfl | rfl | rfl <;> rfl⟩ k2
        have q2 := hD.set wo_get (e := .inr (4, [u 0, u 1, u 2, u 3, u 4, u 5, u 6]))
        rw [wo_set] at q1 q2
        exact ⟨q1, q2⟩
      have key : V X 2 0 (Wo g W a 4 [u 0, u 1, u 2, u 3, u 4, u 5, u 6] []) 4 [(0, .ref a), (1, .int x)] [] := by
        refine v_aload_n O.1 dX5_init_4 rfl (q := 5) rfl ?_
        refine v_iload_n O.1 dX5_init_5 rfl (q := 6) rfl ?_
        refine k_putF O hnm (Cn := RX5) (T := TX5) (N := 7) 6 (v := .int x) (ty := .int) in_X5 tyX5_ok nmX5 rfl (by decide) q180 rfl rfl rfl rfl rfl (Nat.le_of_ble_eq_true rfl) dX5_init_6 (q := 9) rfl ?_
        exact k_vret (L := fun u => Wo g W a 4 (trapF u x) []) O u dX5_init_9
      exact key H1 lo1 ce sl ls w1 (by rw [O.2.2.1]; exact k7) h3 h4 h5)
