section CGEN
variable {g : gC} {X : Cxt} {cc : ByteArray} {nL b lvl mc : Nat} {ret : Option FieldType} {own : String} {Qc : Array Value → State → Outcome → State → Prop} {pc q : Nat} {lv : List (Nat × Value)} {st rest : List Value} {C C' : Mem}
theorem c_getP (O : OkC g X cc nL ret own lvl mc Qc) {P : Heap → Prop} (hP0 : ∀ H, P H → WdC g C H) {o ci idx : Nat} {ref Cn : String} {T : u_T} {N : Nat} (k : Nat) {v : Value} (ho : o < 95) (hin : ∀ w ∈ u_ws Cn T N, w ∈ lw_all) (hci : cCl[ci]? = some (Cn, T, N)) (hk : k < N) (hl : Lk X own idx ref (T k).2.1 (T k).2.2.1) (hT : (T k).1 = ref) (hv : ∀ ah ev, ∃ fs, cCell g C ah ev o = .inr (ci, fs) ∧ fs[k]? = some v) (d : decode cc pc = .ok (.getfield idx, 3)) (hq : pc + 3 = q) (kk : V X nL b P q lv (v :: st)) : V X nL b P pc lv (.ref (gCa g o) :: st) := by
  subst hq
  intro H lo ce sl ls h1 h2 h3 h4 h5
  have h1' := hP0 H h1
  obtain ⟨Y, ah, ev, hP, hD, hY⟩ := h1'
  obtain ⟨fs, e1, e2⟩ := hv ah ev
  have hg : (cWs g C ah ev ++ Y)[o]? = some (gCa g o, .inr (ci, fs)) := by rw [cWs_get ho, e1]
  rcases hl with hl | ⟨host, hl⟩
  · exact va_get O.1.ex O.1.bc O.1.ts hin O.1.ow O.2.1.1 hP o hg hci k hk hl (fun x hx => by rw [← hT]; exact hx) e2 d (kk H lo ce sl ls h1 h2 h3 h4 h5)
  · exact va_getN O.1.ex O.1.bc O.1.ts hin O.1.ow O.2.1.1 hP o hg hci k hk hl (fun x hx => by rw [← hT]; exact hx) e2 d (kk H lo ce sl ls h1 h2 h3 h4 h5)
theorem c_getCP (O : OkC g X cc nL ret own lvl mc Qc) {P : Heap → Prop} (hP0 : ∀ H, P H → WdC g C H) {c idx : Nat} (hc : cC c) (k : Nat) {v : Value} (hk : k < 55) (hl : Lk X own idx "RankEntry$Core" (TX4 k).2.1 (TX4 k).2.2.1) (hT : (TX4 k).1 = "RankEntry$Core") (hv : ∀ a, (cFs g c (C c) a)[k]? = some v) (d : decode cc pc = .ok (.getfield idx, 3)) (hq : pc + 3 = q) (kk : V X nL b P q lv (v :: st)) : V X nL b P pc lv (.ref (gCa g c) :: st) :=
  c_getP O hP0 k (cC_lt (j := 0) hc (by decide)) in_X4 rfl hk hl hT (fun ah ev => ⟨_, cCell_core hc, hv _⟩) d hq kk
theorem c_getSP (O : OkC g X cc nL ret own lvl mc Qc) {P : Heap → Prop} (hP0 : ∀ H, P H → WdC g C H) {o idx : Nat} (hs : cS o) (k : Nat) (hk : k < 9) (hl : Lk X own idx "RankEntry$Source" (TX15 k).2.1 (TX15 k).2.2.1) (h16 : TX16 k = TX15 k) (h17 : TX17 k = TX15 k) (h18 : TX18 k = TX15 k) (hT : (TX15 k).1 = "RankEntry$Source") {v : Value} (hv : (if k = 0 then Value.int (nI (cK o)) else .int (C o k)) = v) (d : decode cc pc = .ok (.getfield idx, 3)) (hq : pc + 3 = q) (kk : V X nL b P q lv (v :: st)) : V X nL b P pc lv (.ref (gCa g o) :: st) := by
  have ho := (cS_lt hs).1
  have key : ∀ (ci : Nat), cSc (cK o) = ci → ∀ ah ev, ∃ fs, cCell g C ah ev o = .inr (ci, fs) ∧ fs[k]? = some v := fun ci hci ah ev => ⟨_, by rw [cCell_S hs, hci], by rw [cSf_get _ _ k hk, hv]⟩
  rcases cSc_or (cK o) with h | h | h | h
  · exact c_getP O hP0 k ho in_X15 rfl hk hl hT (key 5 h) d hq kk
  · exact c_getP O hP0 (T := TX16) k ho in_X16 rfl (by omega) (by rw [h16]; exact hl) (by rw [h16]; exact hT) (key 6 h) d hq kk
  · exact c_getP O hP0 (T := TX17) k ho in_X17 rfl hk (by rw [h17]; exact hl) (by rw [h17]; exact hT) (key 7 h) d hq kk
  · exact c_getP O hP0 (T := TX18) k ho in_X18 rfl hk (by rw [h18]; exact hl) (by rw [h18]; exact hT) (key 8 h) d hq kk
theorem c_ialdP (O : OkC g X cc nL ret own lvl mc Qc) {P : Heap → Prop} (hP0 : ∀ H, P H → WdC g C H) {o n j : Nat} {i : Int32} (hI : cIA o n) (hin : inb i n = true) (hj : i.toNatClampNeg = j) (d : decode cc pc = .ok (.iaload, 1)) (hq : pc + 1 = q) (kk : V X nL b P q lv (.int (C o j) :: st)) : V X nL b P pc lv (.int i :: .ref (gCa g o) :: st) := by
  subst hq
  subst hj
  intro H lo ce sl ls h1 h2 h3 h4 h5
  have h1' := hP0 H h1
  obtain ⟨Y, ah, ev, hP, hD, hY⟩ := h1'
  exact va_iald O.1.ex O.1.bc O.2.1.1 hP o 0 (by rw [cWs_get hI.1, hI.2.2]) rfl (inb_in hin) d (kk H lo ce sl ls h1 h2 h3 h4 h5)
theorem c_allP (O : OkC g X cc nL ret own lvl mc Qc) {P : Heap → Prop} (hP0 : ∀ H, P H → WdC g C H) {c j : Nat} (hc : cC c) {i : Int32} (hin : inb i 21 = true) (hj : i.toNatClampNeg = j) (d : decode cc pc = .ok (.aaload, 1)) (hq : pc + 1 = q) (kk : V X nL b P q lv (.ref (gCa g (c + 22 + j)) :: st)) : V X nL b P pc lv (.int i :: .ref (gCa g (c + 5)) :: st) := by
  subst hq
  subst hj
  intro H lo ce sl ls h1 h2 h3 h4 h5
  have h1' := hP0 H h1
  obtain ⟨Y, ah, ev, hP, hD, hY⟩ := h1'
  exact va_aldq (f := fun i => some (gCa g (c + 22 + i))) O.1.ex O.1.bc O.2.1.1 hP (c + 5) 3 (by rw [cWs_get (cC_lt hc (by decide)), cCell_blk hc (by decide)]; rfl) rfl (inb_in hin) d (kk H lo ce sl ls h1 h2 h3 h4 h5)
theorem c_getRP (O : OkC g X cc nL ret own lvl mc Qc) {P : Heap → Prop} (hP0 : ∀ H, P H → WdC g C H) {idx : Nat} (k : Nat) {v : Value} (hk : k < 4) (hl : Lk X own idx "RankEntry" (TX1 k).2.1 (TX1 k).2.2.1) (hT : (TX1 k).1 = "RankEntry") (hv : ∀ ah ev, ∃ fs, cCell g C ah ev 0 = .inr (0, fs) ∧ fs[k]? = some v) (d : decode cc pc = .ok (.getfield idx, 3)) (hq : pc + 3 = q) (kk : V X nL b P q lv (v :: st)) : V X nL b P pc lv (.ref (gCa g 0) :: st) :=
  c_getP O hP0 k (by decide) in_X1 rfl hk hl hT hv d hq kk
end CGEN
/-! WORLDS WHILE SOMETHING IS MADE: a list of cells -/
def Wg (g : gC) (ws : va_W) : Heap → Prop := fun H => va_P g.1 cCl ws H ∧ va_D (cA g) ws
def gPc (g : gC) (as : List Value) (ws : va_W) : Array Value → State → Prop := va_Pc as (fun U => Wg g ws U.heap ∧ KC g U)
def gQ (g : gC) (ws : va_W) : Array Value → State → Outcome → State → Prop := va_Qv (fun (_ : Unit) => True) (fun _ t => Wg g ws t.heap) (cA g)
abbrev MetG (l : Launch) (g : gC) (y : MethodName) (cc : ByteArray) (nL : Nat) (lvl mc : Nat) (as : List Value) (ws : va_W) (Qc : Array Value → State → Outcome → State → Prop) : Prop := Met l y (ws_ y cc nL none) (rmz lvl mc) (gPc g as ws) Qc mc (8 * mc) (cA g)
theorem gPc_blind {g : gC} {as : List Value} {ws : va_W} : FrameBlind (gPc g as ws) := fun a U f mk z => by obtain ⟨z0, z1, z2⟩ := z; exact ⟨z0, z1, z2.calling⟩
/-- a method's body, by its walk; and its name -/
theorem g_body {l : Launch} {y : MethodName} {cc : ByteArray} {nL : Nat} {ret : Option FieldType} {own : String} {lvl mc : Nat} {as : List Value} {g : gC} {Pw : Heap → Prop} {Qc : Array Value → State → Outcome → State → Prop} (hy : plainFor y = true) (hc : y.cls = own) (hlen : (lg_sl as).length ≤ nL) (h : ∀ X, OkC g X cc nL ret own lvl mc Qc → (xh X).name = y.name → V X nL mc Pw 0 (lv_args 0 as) []) : Met l y (ws_ y cc nL ret) (rmz lvl mc) (va_Pc as (fun U => Pw U.heap ∧ KC g U)) Qc mc (8 * mc) (cA g) := by
  refine MetFree.of_bodySF (code := cc) (maxLocals := nL) (ret := ret) hy ?_ ?_
  · intro args s m h hn
    obtain ⟨meth, c, h1, h2, h3, h4, h5, h6, -, -⟩ := Cond.code_spec hn (atoms_spec (ws := ws_ y cc nL ret) h _ List.mem_cons_self)
    exact ⟨meth, c, h1, h2, h3, h4, h5, h6⟩
  · intro p e s m args below meth c s₁ B hml hP _
    have hh0 : s₁.heap = s.heap := by rw [B.state]; rfl
    obtain ⟨rfl, hW, hK⟩ := hP
    have hts := atoms_spec (ws := ws_ y cc nL ret) B.pre
    have hts : ∀ w ∈ lw_all, w.before _ s = true := fun w h => hts w (List.mem_cons_of_mem _ h)
    have hown : s.vm.findClass y.cls = some m.cls := findClass_of_methodNamed B.named
    have hnm := (name_of_methodNamed B.named B.method).1
    rw [hc] at hown
    have hl := lv_entry as hlen
    rw [lg_entry_eq]
    obtain ⟨t, a1, o, b1, b2, b3⟩ := h (p, l, e, rmz lvl mc, s, m, as.toArray, below, meth, c, MQ below Qc as.toArray s mc (8 * mc) (cA g), cA g) ⟨⟨B.exec, B.bytes, hml, hown, hts, B.returns, B.notSynchronized, rfl⟩, hK, rfl, fun _ h => h⟩ hnm s.heap [] 0 0 _ hW va_S.rf (by rw [Nat.zero_add]; exact Nat.le_refl _) (by rw [Nat.zero_add]; exact Nat.le_refl _) hl s₁ hh0 (Stand.of_body B)
    exact ⟨t, o, a1, b1, b2, ⟨b3.1, b3.2⟩⟩
section GROWS
variable {g : gC} {X : Cxt} {cc : ByteArray} {nL b lvl mc : Nat} {ret : Option FieldType} {own : String} {Qc : Array Value → State → Outcome → State → Prop} {pc q : Nat} {lv : List (Nat × Value)} {st rest : List Value} {C C' : Mem} {ws ws' W0 : va_W} {P : Heap → Prop}
theorem OkC.free (O : OkC g X cc nL ret own lvl mc Qc) : ∀ q, (xs X).heap.size ≤ q → cA g q := fun q h => ⟨Nat.le_trans O.2.1.2.2.1 h, fun z => absurd (O.2.1.2.1 q z) (Nat.not_lt.mpr h)⟩
/-- Object's constructor -/
theorem g_obj (O : OkC g X cc nL ret own lvl mc Qc) {idx a : Nat} (hl : Cond.methodLink own idx ⟨"java/lang/Object", "<init>", "()V"⟩ ∈ lw_all) (hlv : 1 ≤ lvl) (hr : (st.map fun v => v.category).sum ≤ 8) (d : decode cc pc = .ok (.invokespecial idx, 3)) (hq : pc + 3 = q) (kk : V X nL b P q lv st) : V X nL b P pc lv (.ref a :: st) := by
  subst hq
  intro H lo ce sl ls h1 h2 h3 h4 h5
  have hts := O.1.ts
  refine W.objInit O.1.ex O.1.bc O.1.ow (hts _ hl) (hts _ q97) (hts _ q98) (g := F0 (xm X) pc ls (.ref a :: st)) rfl (h5.1.trans O.1.ml.symm) rfl d (by rw [O.1.rm]; exact hlv) ?_ (kk H lo ce sl ls h1 h2 h3 h4 h5)
  rw [O.1.rm]
  show 2 * 0 + _ + 12 ≤ 60 * lvl + 3200
  omega
/-- a final field of the last cell, in its constructor -/
theorem g_putF (O : OkC g X cc nL ret own lvl mc Qc) (hnm : (xh X).name = "<init>") {ci idx a : Nat} {Cn : String} {T : u_T} {N : Nat} (k : Nat) {v : Value} {fs : List Value} {ty : FieldType} {ty0 : Nat → FieldType} (hin : ∀ w ∈ u_ws Cn T N, w ∈ lw_all) (hty : ∀ k, k < N → parseFieldDescriptor (T k).2.2.1 = some (ty0 k)) (hnn : ∀ a, a < N → ∀ b, b < N → a ≠ b → (T a).2.1 ≠ (T b).2.1) (hci : cCl[ci]? = some (Cn, T, N)) (hk : k < N) (hl : Cond.fieldLink own idx own (T k).2.1 (T k).2.2.1 ∈ lw_all) (hT : (T k).1 = own) (hfin : (T k).2.2.2 = true) (hd : parseFieldDescriptor (T k).2.2.1 = some ty) (hn : narrow ty v = v) (hf : fits ty v = true) (hlf : k < fs.length) (d : decode cc pc = .ok (.putfield idx, 3)) (hq : pc + 3 = q) (kk : V X nL b (Wg g (W0 ++ [(a, .inr (ci, fs.set k v))])) q lv st) : V X nL b (Wg g (W0 ++ [(a, .inr (ci, fs))])) pc lv (v :: .ref a :: st) := by
  subst hq
  intro H lo ce sl ls h1 h2 h3 h4 h5
  obtain ⟨hP, hD⟩ := h1
  refine va_putF O.1.ex O.1.bc O.1.ts hin ty0 hty hnn O.1.ow O.2.1.1 hP hD (O.S h2) W0.length (by simp) hci k hk (O.1.ts _ hl) (fun x hx => by rw [← hT]; exact hx) hfin hnm hT hd hn hf hlf d (fun H1 lo1 p1 p2 p3 => ?_)
  have e : (W0 ++ [(a, (.inr (ci, fs) : va_E))]).set W0.length (a, .inr (ci, fs.set k v)) = W0 ++ [(a, .inr (ci, fs.set k v))] := by simp
  rw [e] at p1 p2
  exact kk H1 lo1 ce sl ls ⟨p1, p2⟩ (by rw [O.2.2.1]; exact p3) h3 h4 h5
theorem g_vret (O : OkC g X cc nL none own lvl mc (gQ g ws)) (d : decode cc pc = .ok (.return_, 1)) : V X nL b (Wg g ws) pc lv [] := by
  intro H lo ce sl ls h1 h2 h3 h4 h5
  unfold xW
  refine wq_mono O.2.2.2 ?_
  rw [O.1.rm] at h3 h4
  refine W.widen (k := mc) (n := 8 * mc) (Nat.le_trans (Nat.le_add_right _ _) h3) (Nat.le_trans (Nat.le_add_right _ _) h4) ?_
  have S2 := O.S h2
  exact W.vret O.1.ex O.1.bc O.1.rt (fun t ht hW => ⟨⟨(), rfl, trivial, show Wg g _ t.heap by rw [ht]; exact h1⟩, S2.F ht⟩) S2.2.2 d O.1.lk
/-- a constructor of another class, of the tables -/
theorem g_callI (O : OkC g X cc nL ret own lvl mc Qc) {idx maxL n lvl' b' mc' a : Nat} {y : MethodName} {by_ : ByteArray} {As : List Value} (hM : MetG (xl X) g y by_ maxL lvl' mc' (.ref a :: As) ws (gQ g ws')) (hl : Cond.methodLink own idx y ∈ lw_all) (hini : Cond.initialized y.cls ∈ lw_all) (hin : Cond.instanceMethod y ∈ lw_all) (hco : Cond.code y by_ maxL none ∈ lw_all) (hyn : y.name = "<init>") (hd : y.cls ≠ "java/lang/invoke/MethodHandle" ∧ y.cls ≠ "java/lang/invoke/VarHandle" ∧ (parseMethodDescriptor y.desc).map (fun d => d.parameters.length) = some n) (hlv : lvl' + 1 ≤ lvl) (hml : maxL ≤ 40) (hn : As.length = n) (hst : st = As.reverse ++ .ref a :: rest) (hr : (rest.map fun v => v.category).sum ≤ 8) (d : decode cc pc = .ok (.invokespecial idx, 3)) (hq : pc + 3 = q) (hb : b' + mc' = b) (kk : V X nL b' (Wg g ws') q lv rest) : V X nL b (Wg g ws) pc lv st := by
  subst hq
  subst hst
  subst hb
  intro H lo ce sl ls h1 h2 h3 h4 h5
  have S2 := O.S h2
  have hc := c_room (maxL := maxL) (mc' := mc') O hlv hml
  have hts := O.1.ts
  refine va_callv (A1 := cA g) (A0 := cA g) (va_runI (As := As) (rest := rest) ⟨O.1.ex, O.1.bc, O.1.ml, O.1.ow, hts⟩ hM ⟨⟨rfl, rfl, hc.1, hc.2, pay_in hts (lw_meth hco), List.mem_cons_self, hts _ hco, hts _ hini, ⟨hd.1, hd.2.1⟩, fun sig h => by have h2 := hd.2.2; rw [h] at h2; exact (Option.some.inj h2).symm, hts _ hl⟩, hyn, hts _ hin⟩ ⟨gPc_blind, fun U hU hW => ⟨rfl, by rw [hU]; exact h1, O.2.1.moved S2 hU hW⟩⟩ rfl hn h5.1 rfl (lv_room hr) d ⟨by omega, by omega⟩) S2 (fun q _ h => h) (fun q h => h) (fun u t H1 lo1 ht hvm hw hB hz hk hS1 => ?_)
  exact kk H1 lo1 _ _ ls (by rw [← ht]; exact hB) (by rw [O.2.2.1]; exact hS1) (by omega) (by omega) h5
/-- .. of a nest mate -/
theorem g_callIN (O : OkC g X cc nL ret own lvl mc Qc) {idx maxL n lvl' b' mc' a : Nat} {y : MethodName} {host : String} {by_ : ByteArray} {As : List Value} (hl : Cond.methodLinkNest own idx y host ∈ lw_tbl) (hini : Cond.initialized y.cls ∈ lw_all) (hin : Cond.instanceMethod y ∈ lw_all) (hco : Cond.code y by_ maxL none ∈ lw_all) (hyn : y.name = "<init>") (hd : y.cls ≠ "java/lang/invoke/MethodHandle" ∧ y.cls ≠ "java/lang/invoke/VarHandle" ∧ (parseMethodDescriptor y.desc).map (fun d => d.parameters.length) = some n) (hlv : lvl' + 1 ≤ lvl) (hml : maxL ≤ 40) (hn : As.length = n) (hst : st = As.reverse ++ .ref a :: rest) (hr : (rest.map fun v => v.category).sum ≤ 8) (d : decode cc pc = .ok (.invokespecial idx, 3)) (hq : pc + 3 = q) (hb : b' + mc' = b) {P P' : Heap → Prop} (hE : ∀ H, P H → ∃ ws ws', Wg g ws H ∧ MetG (xl X) g y by_ maxL lvl' mc' (.ref a :: As) ws (gQ g ws') ∧ ∀ H', Wg g ws' H' → P' H') (kk : V X nL b' P' q lv rest) : V X nL b P pc lv st := by
  subst hq
  subst hst
  subst hb
  intro H lo ce sl ls h1 h2 h3 h4 h5
  obtain ⟨ws, ws', h1, hM, hE⟩ := hE H h1
  have S2 := O.S h2
  have hts := O.1.ts
  refine va_callv (A1 := cA g) (A0 := cA g) (va_runIN (As := As) (rest := rest) ⟨O.1.ex, O.1.bc, O.1.ml, O.1.ow, hts⟩ hM ⟨va_cnB n hts (lw_meth hco) rfl rfl rfl (O.2.1.nest _ (List.mem_filter.mpr ⟨hl, rfl⟩)) (hts _ hini) hd (c_room O hlv hml), hyn, hts _ hin⟩ ⟨gPc_blind, fun U hU hW => ⟨rfl, by rw [hU]; exact h1, O.2.1.moved S2 hU hW⟩⟩ rfl hn h5.1 rfl (lv_room hr) d ⟨by omega, by omega⟩) S2 (fun q _ h => h) (fun q h => h) (fun u t H1 lo1 ht hvm hw hB hz hk hS1 => ?_)
  exact kk H1 lo1 _ _ ls (hE _ (by rw [← ht]; exact hB)) (by rw [O.2.2.1]; exact hS1) (by omega) (by omega) h5
end GROWS
