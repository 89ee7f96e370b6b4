/-! THE MODEL'S WORLD: cell 0 is the object, cells 1 .. 17 its arrays; the memory M says what they hold, M 0 the object's own numbers (by the field's place) -/
abbrev Mem : Type := Nat → Nat → Int32
def up2 (S : Mem) (o k : Nat) (v : Int32) : Mem := fun o' => if o' = o then upd (S o) k v else S o'
abbrev gM : Type := va_G × (Nat → Nat) × ClassId × ClassId × Nat × Nat
abbrev gMa (g : gM) : Nat → Nat := g.2.1
abbrev gMi (g : gM) : ClassId := g.2.2.1
abbrev gMz (g : gM) : ClassId := g.2.2.2.1
abbrev gMl (g : gM) : Nat := g.2.2.2.2.1
abbrev gMt (g : gM) : Nat := g.2.2.2.2.2
def mLen : Nat → Nat := fun o => [0, 512, 21, 21, 342, 342, 17, 24, 24, 24, 24, 64, 21, 512, 512, 512, 512, 512].getD o 0
def mZ : Nat → Bool := fun o => o == 3 || o == 13
/-- an array of ints -/
def mI : Nat → Bool := fun o => decide (0 < o) && decide (o < 18) && !mZ o
abbrev mCl : List vw_C := [(RX20, TX20, 25)]
def mFs (g : gM) (r : Nat → Int32) : List Value := [.ref (gMa g 1), .ref (gMa g 2), .ref (gMa g 3), .int (r 3), .ref (gMa g 4), .ref (gMa g 5), .ref (gMa g 6), .ref (gMa g 7), .ref (gMa g 8), .ref (gMa g 9), .ref (gMa g 10), .int (r 11), .ref (gMa g 11), .ref (gMa g 12), .int (r 14), .int (r 15), .int (r 16), .int (r 17), .ref (gMa g 13), .ref (gMa g 14), .ref (gMa g 15), .ref (gMa g 16), .ref (gMa g 17), .int (r 23), .int (r 24)]
def mCell (g : gM) (M : Mem) (o : Nat) : va_E := if o = 0 then .inr (0, mFs g (M 0)) else .inl (if mZ o then gMz g else gMi g, mLen o, .inl (M o))
def mWs (g : gM) (M : Mem) : va_W := (List.range 18).map fun o => (gMa g o, mCell g M o)
def mA (g : gM) : Nat → Prop := fun q => ∃ o, o < 18 ∧ q = gMa g o
def WdM (g : gM) (M : Mem) (H : Heap) : Prop := va_P g.1 mCl (mWs g M) H ∧ va_D (mA g) (mWs g M)
def mLong : Nat → Int32 := fun j => ([0, 3, 3, 3, 3, 3, 3, 3, 3, 2, 2, 3, 3, 3, 2, 2, 2, 2, 1, 1, 3, 3, 3, 3, 3, 3, 2, 2, 3, 3] : List Int32).getD j 0
def mTakes : Nat → Int32 := fun j => ([0, 1, 1, 1, 2, 4, 1, 1, 1, 1, 1, 1, 1, 1, 1, 1, 1, 1, 1, 1, 1, 2, 3, 1, 1, 1, 1, 1, 1, 1] : List Int32).getD j 0
/-- what the tables and the statics say, at a state -/
def KM (g : gM) (U : State) : Prop := va_K g.1 mCl [(gMi g, .int), (gMz g, .boolean)] U ∧ va_Z "RankEntryModel" "LONG" "[I" (.ref (gMl g)) (mA g) U U.heap ∧ va_T .int (gMl g) 30 (fun j => .int (mLong j)) (mA g) U U.heap ∧ va_Z "RankEntryModel" "TAKES" "[I" (.ref (gMt g)) (mA g) U U.heap ∧ va_T .int (gMt g) 30 (fun j => .int (mTakes j)) (mA g) U U.heap
theorem wl_get {N : Nat} {f : Nat → Nat × va_E} {o : Nat} (h : o < N) : ((List.range N).map f)[o]? = some (f o) := by
  rw [List.getElem?_map, List.getElem?_range h]
  rfl
theorem wl_set {N : Nat} {f f' : Nat → Nat × va_E} {o : Nat} {z : Nat × va_E} (hz : z = f' o) (hf : ∀ o', o' ≠ o → f' o' = f o') : ((List.range N).map f).set o z = (List.range N).map f' := by
  subst hz
  apply List.ext_getElem?
  intro i
  by_cases hi : i < N
  · by_cases ho : i = o
    · subst ho
      rw [List.getElem?_set_self (by simpa using hi), wl_get hi]
    · rw [List.getElem?_set_ne (Ne.symm ho), wl_get hi, wl_get hi, hf i ho]
  · rw [List.getElem?_eq_none (by simp; omega), List.getElem?_eq_none (by simp; omega)]
theorem up2_s {S : Mem} {o k : Nat} {v : Int32} : up2 S o k v o = upd (S o) k v := by simp [up2]
theorem up2_n {S : Mem} {o o' k : Nat} {v : Int32} (h : o' ≠ o) : up2 S o k v o' = S o' := by simp [up2, h]
theorem mWs_get {g : gM} {M : Mem} {o : Nat} (h : o < 18) : (mWs g M)[o]? = some (gMa g o, mCell g M o) := wl_get h
theorem mI_lt {o : Nat} (h : mI o = true) : 0 < o ∧ o < 18 ∧ mZ o = false := by
  simp only [mI, Bool.and_eq_true, decide_eq_true_eq, Bool.not_eq_true'] at h
  exact ⟨h.1.1, h.1.2, h.2⟩
theorem mCell_i {g : gM} {M : Mem} {o : Nat} (h : mI o = true) : mCell g M o = .inl (gMi g, mLen o, .inl (M o)) := by
  obtain ⟨h1, h2, h3⟩ := mI_lt h
  simp [mCell, h3, Nat.pos_iff_ne_zero.mp h1]
theorem mCell_z {g : gM} {M : Mem} {o : Nat} (h : mZ o = true) : mCell g M o = .inl (gMz g, mLen o, .inl (M o)) ∧ o < 18 := by
  have h0 : o = 3 ∨ o = 13 := by simpa [mZ] using h
  rcases h0 with rfl | rfl <;> exact ⟨rfl, by decide⟩
theorem mWs_seti {g : gM} {M : Mem} {o k : Nat} {v : Int32} {e : va_E} (he : e = mCell g (up2 M o k v) o) : (mWs g M).set o (gMa g o, e) = mWs g (up2 M o k v) := by
  subst he
  refine wl_set rfl (fun o' ho => ?_)
  simp only [mCell]
  by_cases h0 : o' = 0
  · subst h0
    rw [up2_n ho]
  · simp only [h0, if_false]
    rw [up2_n ho]
theorem KM.moved {g : gM} {s U : State} {H : Heap} {locs : List Loc} (hK : KM g s) (hS : va_S (mA g) s.heap H locs) (hU : U.heap = H) (hW : s.WarmedH U.vm) : KM g U := by
  obtain ⟨h1, h2, h3, h4, h5⟩ := hK
  have kp : ∀ a : Nat, a < s.heap.size → ¬ mA g a → U.heap[a]? = s.heap[a]? := fun a p q => by rw [hU]; exact hS.2.1 a p q
  exact ⟨va_K.moved hW.alike h1, (va_Z.moved hW.alike h2).kept kp, (va_T.moved hW.alike h3).kept kp, (va_Z.moved hW.alike h4).kept kp, (va_T.moved hW.alike h5).kept kp⟩
theorem KM.calling {g : gM} {U : State} {f : JFrame} {mk : MethodId} {a : Array Value} (h : KM g U) : KM g (U.calling f mk a) := by
  obtain ⟨h1, h2, h3, h4, h5⟩ := h
  exact ⟨va_K.moved (u := U) (U := U.calling f mk a) (Vm.Alike.refl U.vm) h1, va_Z.moved (u := U) (U := U.calling f mk a) (Vm.Alike.refl U.vm) h2, va_T.moved (u := U) (U := U.calling f mk a) (Vm.Alike.refl U.vm) h3, va_Z.moved (u := U) (U := U.calling f mk a) (Vm.Alike.refl U.vm) h4, va_T.moved (u := U) (U := U.calling f mk a) (Vm.Alike.refl U.vm) h5⟩
/-- a method's ends -/
def mQi (g : gM) (r : Int32) (M' : Mem) : Array Value → State → Outcome → State → Prop := va_Qi (fun r' (u : Mem) => r' = r ∧ u = M') (fun u t => WdM g u t.heap) (mA g)
def mQl (g : gM) (r : Int64) (M' : Mem) : Array Value → State → Outcome → State → Prop := va_Ql (fun r' (u : Mem) => r' = r ∧ u = M') (fun u t => WdM g u t.heap) (mA g)
def mQv (g : gM) (_ : Unit) (M' : Mem) : Array Value → State → Outcome → State → Prop := va_Qv (fun (u : Mem) => u = M') (fun u t => WdM g u t.heap) (mA g)
def mPc (g : gM) (as : List Value) (M : Mem) : Array Value → State → Prop := va_Pc as (fun U => WdM g M U.heap ∧ KM g U)
abbrev MetM (l : Launch) (g : gM) (y : MethodName) (cc : ByteArray) (nL : Nat) (ret : Option FieldType) (lvl : Nat) (as : List Value) (M : Mem) (Qc : Array Value → State → Outcome → State → Prop) : Prop := Met l y (ws_ y cc nL ret) (rmz lvl 0) (mPc g as M) Qc 0 0 (mA g)
def OkM (g : gM) (X : Cxt) (cc : ByteArray) (nL : Nat) (ret : Option FieldType) (lvl : Nat) (Qc : Array Value → State → Outcome → State → Prop) : Prop := Ok X cc nL ret RX20 lvl 0 ∧ KM g (xs X) ∧ xA X = mA g ∧ xQ X = MQ (xb X) Qc (xa X) (xs X) 0 0 (mA g)
theorem m_met {l : Launch} {g : gM} {y : MethodName} {cc : ByteArray} {nL : Nat} {ret : Option FieldType} {lvl : Nat} {as : List Value} {M : Mem} {Qc : Array Value → State → Outcome → State → Prop} (hy : plainName y.cls = true) (hc : y.cls = RX20) (hlen : (lg_sl as).length ≤ nL) (h : ∀ X, OkM g X cc nL ret lvl Qc → V X nL 0 (WdM g M) 0 (lv_args 0 as) []) : MetM l g y cc nL ret lvl as M Qc := by
  refine Met.ofW (cc := cc) (maxL := nL) (ret := ret) hy rfl ?_
  intro p e s m args below meth c s₁ B hml hv
  obtain ⟨rfl, hW, hK⟩ := hv
  have hts := atoms_spec (ws := ws_ y cc nL ret) B.pre
  have hts : ∀ w ∈ lw_all, w.before _ s = true := fun w h => hts w (List.mem_cons_of_mem _ h)
  have hown : s.vm.findClass y.cls = some m.cls := findClass_of_methodNamed B.named
  rw [hc] at hown
  have hl := lv_entry as hlen
  rw [lg_entry_eq]
  exact h (p, l, e, rmz lvl 0, s, m, as.toArray, below, meth, c, MQ below Qc as.toArray s 0 0 (mA g), mA g) ⟨⟨B.exec, B.bytes, hml, hown, hts, B.returns, B.notSynchronized, rfl⟩, hK, rfl, rfl⟩ s.heap [] 0 0 _ hW va_S.rf (Nat.le_refl _) (Nat.le_refl _) hl
section MROWS
variable {g : gM} {X : Cxt} {cc : ByteArray} {nL lvl : Nat} {ret : Option FieldType} {Qc : Array Value → State → Outcome → State → Prop} {pc q : Nat} {lv : List (Nat × Value)} {st rest : List Value} {M M' : Mem}
theorem OkM.S (O : OkM g X cc nL ret lvl Qc) {H : Heap} {locs : List Loc} (h : va_S (xA X) (xs X).heap H locs) : va_S (mA g) (xs X).heap H locs := by
  rw [O.2.2.1] at h
  exact h
theorem m_get (O : OkM g X cc nL ret lvl Qc) {idx : Nat} (k : Nat) {v : Value} (hk : k < 25) (hl : Cond.fieldLink RX20 idx "RankEntryModel" (TX20 k).2.1 (TX20 k).2.2.1 ∈ lw_all) (hT : (TX20 k).1 = "RankEntryModel") (hv : (mFs g (M 0))[k]? = some v) (d : decode cc pc = .ok (.getfield idx, 3)) (hq : pc + 3 = q) (kk : V X nL 0 (WdM g M) q lv (v :: st)) : V X nL 0 (WdM g M) pc lv (.ref (gMa g 0) :: st) := by
  subst hq
  exact fun H lo ce sl ls h1 h2 h3 h4 h5 => va_get O.1.ex O.1.bc O.1.ts in_X20 O.1.ow O.2.1.1 h1.1 0 (mWs_get (o := 0) (by decide)) rfl k hk (O.1.ts _ hl) (fun x hx => by rw [← hT]; exact hx) hv d (kk H lo ce sl ls h1 h2 h3 h4 h5)
theorem m_put (O : OkM g X cc nL ret lvl Qc) {idx : Nat} (k : Nat) {v : Int32} {ty : FieldType} (hk : k < 25) (hl : Cond.fieldLink RX20 idx "RankEntryModel" (TX20 k).2.1 (TX20 k).2.2.1 ∈ lw_all) (hT : (TX20 k).1 = "RankEntryModel") (hfin : (TX20 k).2.2.2 = false) (hd : parseFieldDescriptor (TX20 k).2.2.1 = some ty) (hn : narrow ty (.int v) = .int v) (hf : fits ty (.int v) = true) (hs : (mFs g (M 0)).set k (.int v) = mFs g (upd (M 0) k v)) (d : decode cc pc = .ok (.putfield idx, 3)) (hq : pc + 3 = q) (hM : M' = up2 M 0 k v) (kk : V X nL 0 (WdM g M') q lv st) : V X nL 0 (WdM g M) pc lv (.int v :: .ref (gMa g 0) :: st) := by
  subst hq
  subst hM
  intro H lo ce sl ls h1 h2 h3 h4 h5
  refine va_put O.1.ex O.1.bc O.1.ts in_X20 tyX20 tyX20_ok nmX20 O.1.ow O.2.1.1 h1.1 h1.2 (O.S h2) 0 (mWs_get (o := 0) (by decide)) rfl k hk (O.1.ts _ hl) (fun x hx => by rw [← hT]; exact hx) hfin hd hn hf hk d (fun H1 lo1 p1 p2 p3 => ?_)
  rw [mWs_seti (k := k) (v := v) (by rw [hs]; rfl)] at p1 p2
  exact kk H1 lo1 ce sl ls ⟨p1, p2⟩ (by rw [O.2.2.1]; exact p3) h3 h4 h5
theorem m_iald (O : OkM g X cc nL ret lvl Qc) {o n j : Nat} {i : Int32} (hI : mI o = true) (hn : mLen o = n) (hin : inb i n = true) (hj : i.toNatClampNeg = j) (d : decode cc pc = .ok (.iaload, 1)) (hq : pc + 1 = q) (kk : V X nL 0 (WdM g M) q lv (.int (M o j) :: st)) : V X nL 0 (WdM g M) pc lv (.int i :: .ref (gMa g o) :: st) := by
  subst hq
  subst hn
  subst hj
  exact fun H lo ce sl ls h1 h2 h3 h4 h5 => va_iald O.1.ex O.1.bc O.2.1.1 h1.1 o 0 (by rw [mWs_get (mI_lt hI).2.1, mCell_i hI]) rfl (inb_in hin) d (kk H lo ce sl ls h1 h2 h3 h4 h5)
theorem m_bald (O : OkM g X cc nL ret lvl Qc) {o n j : Nat} {i : Int32} (hI : mZ o = true) (hn : mLen o = n) (hin : inb i n = true) (hj : i.toNatClampNeg = j) (d : decode cc pc = .ok (.baload, 1)) (hq : pc + 1 = q) (kk : V X nL 0 (WdM g M) q lv (.int (M o j) :: st)) : V X nL 0 (WdM g M) pc lv (.int i :: .ref (gMa g o) :: st) := by
  subst hq
  subst hn
  subst hj
  exact fun H lo ce sl ls h1 h2 h3 h4 h5 => va_zald O.1.ex O.1.bc O.2.1.1 h1.1 o 1 (by rw [mWs_get (mCell_z (g := g) (M := M) hI).2, (mCell_z hI).1]) rfl (inb_in hin) d (kk H lo ce sl ls h1 h2 h3 h4 h5)
theorem m_iast (O : OkM g X cc nL ret lvl Qc) {o n j : Nat} {i v : Int32} (hI : mI o = true) (hn : mLen o = n) (hin : inb i n = true) (hj : i.toNatClampNeg = j) (d : decode cc pc = .ok (.iastore, 1)) (hq : pc + 1 = q) (hM : M' = up2 M o j v) (kk : V X nL 0 (WdM g M') q lv st) : V X nL 0 (WdM g M) pc lv (.int v :: .int i :: .ref (gMa g o) :: st) := by
  subst hq
  subst hn
  subst hj
  subst hM
  intro H lo ce sl ls h1 h2 h3 h4 h5
  refine va_iast O.1.ex O.1.bc O.2.1.1 h1.1 h1.2 (O.S h2) o 0 (by rw [mWs_get (mI_lt hI).2.1, mCell_i hI]) rfl (inb_in hin) d (fun H1 lo1 p1 p2 p3 => ?_)
  rw [mWs_seti (k := i.toNatClampNeg) (v := v) (by rw [mCell_i hI, up2_s])] at p1 p2
  exact kk H1 lo1 ce sl ls ⟨p1, p2⟩ (by rw [O.2.2.1]; exact p3) h3 h4 h5
theorem m_bast (O : OkM g X cc nL ret lvl Qc) {o n j : Nat} {i v : Int32} (hI : mZ o = true) (hn : mLen o = n) (hin : inb i n = true) (hj : i.toNatClampNeg = j) (hv : isB v = true) (d : decode cc pc = .ok (.bastore, 1)) (hq : pc + 1 = q) (hM : M' = up2 M o j v) (kk : V X nL 0 (WdM g M') q lv st) : V X nL 0 (WdM g M) pc lv (.int v :: .int i :: .ref (gMa g o) :: st) := by
  subst hq
  subst hn
  subst hj
  subst hM
  intro H lo ce sl ls h1 h2 h3 h4 h5
  refine va_zast O.1.ex O.1.bc O.2.1.1 h1.1 h1.2 (O.S h2) o 1 (by rw [mWs_get (mCell_z (g := g) (M := M) hI).2, (mCell_z hI).1]) rfl (inb_in hin) d (fun H1 lo1 p1 p2 p3 => ?_)
  rw [isB_vnar hv, mWs_seti (k := i.toNatClampNeg) (v := v) (by rw [(mCell_z hI).1, up2_s])] at p1 p2
  exact kk H1 lo1 ce sl ls ⟨p1, p2⟩ (by rw [O.2.2.1]; exact p3) h3 h4 h5
theorem m_long (O : OkM g X cc nL ret lvl Qc) {idx : Nat} (hl : Cond.fieldLink RX20 idx "RankEntryModel" "LONG" "[I" ∈ lw_all) (d : decode cc pc = .ok (.getstatic idx, 3)) (hq : pc + 3 = q) (kk : V X nL 0 (WdM g M) q lv (.ref (gMl g) :: st)) : V X nL 0 (WdM g M) pc lv st := by
  subst hq
  exact fun H lo ce sl ls h1 h2 h3 h4 h5 => va_gets O.1.ex O.1.bc O.2.1.2.1 (O.S h2) O.1.ow (O.1.ts _ hl) (fun _ h => h) d (kk H lo ce sl ls h1 h2 h3 h4 h5)
theorem m_takes (O : OkM g X cc nL ret lvl Qc) {idx : Nat} (hl : Cond.fieldLink RX20 idx "RankEntryModel" "TAKES" "[I" ∈ lw_all) (d : decode cc pc = .ok (.getstatic idx, 3)) (hq : pc + 3 = q) (kk : V X nL 0 (WdM g M) q lv (.ref (gMt g) :: st)) : V X nL 0 (WdM g M) pc lv st := by
  subst hq
  exact fun H lo ce sl ls h1 h2 h3 h4 h5 => va_gets O.1.ex O.1.bc O.2.1.2.2.2.1 (O.S h2) O.1.ow (O.1.ts _ hl) (fun _ h => h) d (kk H lo ce sl ls h1 h2 h3 h4 h5)
theorem m_longat (O : OkM g X cc nL ret lvl Qc) {i : Int32} (hin : inb i 30 = true) (d : decode cc pc = .ok (.iaload, 1)) (hq : pc + 1 = q) (kk : V X nL 0 (WdM g M) q lv (.int (mLong i.toNatClampNeg) :: st)) : V X nL 0 (WdM g M) pc lv (.int i :: .ref (gMl g) :: st) := by
  subst hq
  exact fun H lo ce sl ls h1 h2 h3 h4 h5 => va_ti O.1.ex O.1.bc O.2.1.2.2.1 (O.S h2) (inb_in hin) rfl d (kk H lo ce sl ls h1 h2 h3 h4 h5)
theorem m_takesat (O : OkM g X cc nL ret lvl Qc) {i : Int32} (hin : inb i 30 = true) (d : decode cc pc = .ok (.iaload, 1)) (hq : pc + 1 = q) (kk : V X nL 0 (WdM g M) q lv (.int (mTakes i.toNatClampNeg) :: st)) : V X nL 0 (WdM g M) pc lv (.int i :: .ref (gMt g) :: st) := by
  subst hq
  exact fun H lo ce sl ls h1 h2 h3 h4 h5 => va_ti O.1.ex O.1.bc O.2.1.2.2.2.2 (O.S h2) (inb_in hin) rfl d (kk H lo ce sl ls h1 h2 h3 h4 h5)
theorem m_iret {r v : Int32} (O : OkM g X cc nL (some .int) lvl (mQi g r M')) (h : some (v, M) = some (r, M')) (d : decode cc pc = .ok (.ireturn, 1)) : V X nL 0 (WdM g M) pc lv [.int v] := by
  intro H lo ce sl ls h1 h2 h3 h4 h5
  unfold xW
  rw [O.2.2.2]
  rw [O.1.rm] at h3 h4
  refine W.widen (k := 0) (n := 0) h3 h4 ?_
  have S2 := O.S h2
  cases h
  exact W.iret O.1.ex O.1.bc O.1.rt (fun t ht hW => ⟨⟨_, M, rfl, ⟨rfl, rfl⟩, show WdM g _ t.heap by rw [ht]; exact h1⟩, S2.F ht⟩) S2.2.2 d O.1.lk
theorem m_zret {r v : Int32} (O : OkM g X cc nL (some .boolean) lvl (mQi g r M')) (hB : isB v = true) (h : some (v, M) = some (r, M')) (d : decode cc pc = .ok (.ireturn, 1)) : V X nL 0 (WdM g M) pc lv [.int v] := by
  intro H lo ce sl ls h1 h2 h3 h4 h5
  unfold xW
  rw [O.2.2.2]
  rw [O.1.rm] at h3 h4
  refine W.widen (k := 0) (n := 0) h3 h4 ?_
  have S2 := O.S h2
  cases h
  exact W.zret O.1.ex O.1.bc O.1.rt (isB_nar hB) (fun t ht hW => ⟨⟨_, M, rfl, ⟨rfl, rfl⟩, show WdM g _ t.heap by rw [ht]; exact h1⟩, S2.F ht⟩) S2.2.2 d O.1.lk
theorem m_lret {r v : Int64} (O : OkM g X cc nL (some .long) lvl (mQl g r M')) (h : some (v, M) = some (r, M')) (d : decode cc pc = .ok (.lreturn, 1)) : V X nL 0 (WdM g M) pc lv [.long v] := by
  intro H lo ce sl ls h1 h2 h3 h4 h5
  unfold xW
  rw [O.2.2.2]
  rw [O.1.rm] at h3 h4
  refine W.widen (k := 0) (n := 0) h3 h4 ?_
  have S2 := O.S h2
  cases h
  exact W.lret O.1.ex O.1.bc O.1.rt (fun t ht hW => ⟨⟨_, M, rfl, ⟨rfl, rfl⟩, show WdM g _ t.heap by rw [ht]; exact h1⟩, S2.F ht⟩) S2.2.2 d O.1.lk
theorem m_vret {r : Unit} (O : OkM g X cc nL none lvl (mQv g r M')) (h : some ((), M) = some (r, M')) (d : decode cc pc = .ok (.return_, 1)) : V X nL 0 (WdM g M) pc lv [] := by
  intro H lo ce sl ls h1 h2 h3 h4 h5
  unfold xW
  rw [O.2.2.2]
  rw [O.1.rm] at h3 h4
  refine W.widen (k := 0) (n := 0) h3 h4 ?_
  have S2 := O.S h2
  cases h
  exact W.vret O.1.ex O.1.bc O.1.rt (fun t ht hW => ⟨⟨M, rfl, rfl, show WdM g _ t.heap by rw [ht]; exact h1⟩, S2.F ht⟩) S2.2.2 d O.1.lk
theorem m_room {lvl' maxL : Nat} (O : OkM g X cc nL ret lvl Qc) (h : lvl' + 1 ≤ lvl) (h2 : maxL ≤ 40) : (rmz lvl' 0).frames + 1 ≤ (xR X).frames ∧ 8 + (maxL + 11) + (rmz lvl' 0).locals ≤ (xR X).locals := by
  rw [O.1.rm]
  refine ⟨h, ?_⟩
  show 8 + (maxL + 11) + (60 * lvl' + 3200) ≤ 60 * lvl + 3200
  omega
theorem m_callVi (O : OkM g X cc nL ret lvl Qc) {idx maxL n lvl' : Nat} {y : MethodName} {by_ : ByteArray} {rt : Option FieldType} {As : List Value} {r : Int32} (hM : MetM (xl X) g y by_ maxL rt lvl' (.ref (gMa g 0) :: As) M (mQi g r M')) (hG : GoodIn lw_all (wsV RX20 idx RX20 y (ws_ y by_ maxL rt))) (hd : y.cls = RX20 ∧ y.cls ≠ "java/lang/invoke/MethodHandle" ∧ y.cls ≠ "java/lang/invoke/VarHandle" ∧ (parseMethodDescriptor y.desc).map (fun d => d.parameters.length) = some n) (hlv : lvl' + 1 ≤ lvl) (hml : maxL ≤ 40) (hn : As.length = n) (hst : st = As.reverse ++ .ref (gMa g 0) :: rest) (hr : (rest.map fun v => v.category).sum ≤ 8) (d : decode cc pc = .ok (.invokevirtual idx, 3)) (hq : pc + 3 = q) (kk : V X nL 0 (WdM g M') q lv (.int r :: rest)) : V X nL 0 (WdM g M) pc lv st := by
  subst hq
  subst hst
  intro H lo ce sl ls h1 h2 h3 h4 h5
  have S2 := O.S h2
  refine va_calli (A1 := mA g) (A0 := mA g) (va_runV (As := As) (rest := rest) ⟨O.1.ex, O.1.bc, O.1.ml, O.1.ow, O.1.ts⟩ hM (cwV n O.1.ts hG rfl rfl rfl hd (m_room O hlv hml)) ⟨fun a U f mk z => by obtain ⟨z0, z1, z2⟩ := z; exact ⟨z0, z1, z2.calling⟩, va_recv O.2.1.1 h1.1 (ci := 0) (q0 := 0) rfl (mWs_get (o := 0) (by decide)), fun U hU hW => ⟨rfl, by rw [hU]; exact h1, O.2.1.moved S2 hU hW⟩⟩ rfl hn h5.1 rfl (lv_room hr) d ⟨h3, h4⟩) S2 (fun q _ h => h) (fun q h => h) (fun r1 u t H1 lo1 ht hvm hw hB hz hk hS1 => ?_)
  obtain ⟨rfl, rfl⟩ := hw
  refine kk H1 lo1 (ce + 0) (sl + 0) ls (by rw [← ht]; exact hB) (by rw [O.2.2.1]; exact hS1) h3 h4 h5
theorem m_callVl (O : OkM g X cc nL ret lvl Qc) {idx maxL n lvl' : Nat} {y : MethodName} {by_ : ByteArray} {rt : Option FieldType} {As : List Value} {r : Int64} (hM : MetM (xl X) g y by_ maxL rt lvl' (.ref (gMa g 0) :: As) M (mQl g r M')) (hG : GoodIn lw_all (wsV RX20 idx RX20 y (ws_ y by_ maxL rt))) (hd : y.cls = RX20 ∧ y.cls ≠ "java/lang/invoke/MethodHandle" ∧ y.cls ≠ "java/lang/invoke/VarHandle" ∧ (parseMethodDescriptor y.desc).map (fun d => d.parameters.length) = some n) (hlv : lvl' + 1 ≤ lvl) (hml : maxL ≤ 40) (hn : As.length = n) (hst : st = As.reverse ++ .ref (gMa g 0) :: rest) (hr : (rest.map fun v => v.category).sum ≤ 8) (d : decode cc pc = .ok (.invokevirtual idx, 3)) (hq : pc + 3 = q) (kk : V X nL 0 (WdM g M') q lv (.long r :: rest)) : V X nL 0 (WdM g M) pc lv st := by
  subst hq
  subst hst
  intro H lo ce sl ls h1 h2 h3 h4 h5
  have S2 := O.S h2
  refine va_calll (A1 := mA g) (A0 := mA g) (va_runV (As := As) (rest := rest) ⟨O.1.ex, O.1.bc, O.1.ml, O.1.ow, O.1.ts⟩ hM (cwV n O.1.ts hG rfl rfl rfl hd (m_room O hlv hml)) ⟨fun a U f mk z => by obtain ⟨z0, z1, z2⟩ := z; exact ⟨z0, z1, z2.calling⟩, va_recv O.2.1.1 h1.1 (ci := 0) (q0 := 0) rfl (mWs_get (o := 0) (by decide)), fun U hU hW => ⟨rfl, by rw [hU]; exact h1, O.2.1.moved S2 hU hW⟩⟩ rfl hn h5.1 rfl (lv_room hr) d ⟨h3, h4⟩) S2 (fun q _ h => h) (fun q h => h) (fun r1 u t H1 lo1 ht hvm hw hB hz hk hS1 => ?_)
  obtain ⟨rfl, rfl⟩ := hw
  refine kk H1 lo1 (ce + 0) (sl + 0) ls (by rw [← ht]; exact hB) (by rw [O.2.2.1]; exact hS1) h3 h4 h5
theorem m_callVv (O : OkM g X cc nL ret lvl Qc) {idx maxL n lvl' : Nat} {y : MethodName} {by_ : ByteArray} {rt : Option FieldType} {As : List Value} {r : Unit} (hM : MetM (xl X) g y by_ maxL rt lvl' (.ref (gMa g 0) :: As) M (mQv g r M')) (hG : GoodIn lw_all (wsV RX20 idx RX20 y (ws_ y by_ maxL rt))) (hd : y.cls = RX20 ∧ y.cls ≠ "java/lang/invoke/MethodHandle" ∧ y.cls ≠ "java/lang/invoke/VarHandle" ∧ (parseMethodDescriptor y.desc).map (fun d => d.parameters.length) = some n) (hlv : lvl' + 1 ≤ lvl) (hml : maxL ≤ 40) (hn : As.length = n) (hst : st = As.reverse ++ .ref (gMa g 0) :: rest) (hr : (rest.map fun v => v.category).sum ≤ 8) (d : decode cc pc = .ok (.invokevirtual idx, 3)) (hq : pc + 3 = q) (kk : V X nL 0 (WdM g M') q lv ( rest)) : V X nL 0 (WdM g M) pc lv st := by
  subst hq
  subst hst
  intro H lo ce sl ls h1 h2 h3 h4 h5
  have S2 := O.S h2
  refine va_callv (A1 := mA g) (A0 := mA g) (va_runV (As := As) (rest := rest) ⟨O.1.ex, O.1.bc, O.1.ml, O.1.ow, O.1.ts⟩ hM (cwV n O.1.ts hG rfl rfl rfl hd (m_room O hlv hml)) ⟨fun a U f mk z => by obtain ⟨z0, z1, z2⟩ := z; exact ⟨z0, z1, z2.calling⟩, va_recv O.2.1.1 h1.1 (ci := 0) (q0 := 0) rfl (mWs_get (o := 0) (by decide)), fun U hU hW => ⟨rfl, by rw [hU]; exact h1, O.2.1.moved S2 hU hW⟩⟩ rfl hn h5.1 rfl (lv_room hr) d ⟨h3, h4⟩) S2 (fun q _ h => h) (fun q h => h) (fun u t H1 lo1 ht hvm hw hB hz hk hS1 => ?_)
  subst hw
  refine kk H1 lo1 (ce + 0) (sl + 0) ls (by rw [← ht]; exact hB) (by rw [O.2.2.1]; exact hS1) h3 h4 h5
theorem m_callSi (O : OkM g X cc nL ret lvl Qc) {idx maxL n lvl' : Nat} {y : MethodName} {by_ : ByteArray} {rt : Option FieldType} {As : List Value} {r : Int32} (hM : MetM (xl X) g y by_ maxL rt lvl' (As) M (mQi g r M')) (hG : GoodIn lw_all (va_wsS RX20 idx y (ws_ y by_ maxL rt))) (hd : y.cls ≠ "java/lang/invoke/MethodHandle" ∧ y.cls ≠ "java/lang/invoke/VarHandle" ∧ (parseMethodDescriptor y.desc).map (fun d => d.parameters.length) = some n) (hlv : lvl' + 1 ≤ lvl) (hml : maxL ≤ 40) (hn : As.length = n) (hst : st = As.reverse ++ rest) (hr : (rest.map fun v => v.category).sum ≤ 8) (d : decode cc pc = .ok (.invokestatic idx, 3)) (hq : pc + 3 = q) (kk : V X nL 0 (WdM g M') q lv (.int r :: rest)) : V X nL 0 (WdM g M) pc lv st := by
  subst hq
  subst hst
  intro H lo ce sl ls h1 h2 h3 h4 h5
  have S2 := O.S h2
  refine va_calli (A1 := mA g) (A0 := mA g) (va_runS (As := As) (rest := rest) ⟨O.1.ex, O.1.bc, O.1.ml, O.1.ow, O.1.ts⟩ hM (va_cwS n O.1.ts hG rfl rfl rfl hd (m_room O hlv hml)) ⟨fun a U f mk z => by obtain ⟨z0, z1, z2⟩ := z; exact ⟨z0, z1, z2.calling⟩, fun U hU hW => ⟨rfl, by rw [hU]; exact h1, O.2.1.moved S2 hU hW⟩⟩ rfl hn h5.1 rfl (lv_room hr) d ⟨h3, h4⟩) S2 (fun q _ h => h) (fun q h => h) (fun r1 u t H1 lo1 ht hvm hw hB hz hk hS1 => ?_)
  obtain ⟨rfl, rfl⟩ := hw
  refine kk H1 lo1 (ce + 0) (sl + 0) ls (by rw [← ht]; exact hB) (by rw [O.2.2.1]; exact hS1) h3 h4 h5
theorem m_callSl (O : OkM g X cc nL ret lvl Qc) {idx maxL n lvl' : Nat} {y : MethodName} {by_ : ByteArray} {rt : Option FieldType} {As : List Value} {r : Int64} (hM : MetM (xl X) g y by_ maxL rt lvl' (As) M (mQl g r M')) (hG : GoodIn lw_all (va_wsS RX20 idx y (ws_ y by_ maxL rt))) (hd : y.cls ≠ "java/lang/invoke/MethodHandle" ∧ y.cls ≠ "java/lang/invoke/VarHandle" ∧ (parseMethodDescriptor y.desc).map (fun d => d.parameters.length) = some n) (hlv : lvl' + 1 ≤ lvl) (hml : maxL ≤ 40) (hn : As.length = n) (hst : st = As.reverse ++ rest) (hr : (rest.map fun v => v.category).sum ≤ 8) (d : decode cc pc = .ok (.invokestatic idx, 3)) (hq : pc + 3 = q) (kk : V X nL 0 (WdM g M') q lv (.long r :: rest)) : V X nL 0 (WdM g M) pc lv st := by
  subst hq
  subst hst
  intro H lo ce sl ls h1 h2 h3 h4 h5
  have S2 := O.S h2
  refine va_calll (A1 := mA g) (A0 := mA g) (va_runS (As := As) (rest := rest) ⟨O.1.ex, O.1.bc, O.1.ml, O.1.ow, O.1.ts⟩ hM (va_cwS n O.1.ts hG rfl rfl rfl hd (m_room O hlv hml)) ⟨fun a U f mk z => by obtain ⟨z0, z1, z2⟩ := z; exact ⟨z0, z1, z2.calling⟩, fun U hU hW => ⟨rfl, by rw [hU]; exact h1, O.2.1.moved S2 hU hW⟩⟩ rfl hn h5.1 rfl (lv_room hr) d ⟨h3, h4⟩) S2 (fun q _ h => h) (fun q h => h) (fun r1 u t H1 lo1 ht hvm hw hB hz hk hS1 => ?_)
  obtain ⟨rfl, rfl⟩ := hw
  refine kk H1 lo1 (ce + 0) (sl + 0) ls (by rw [← ht]; exact hB) (by rw [O.2.2.1]; exact hS1) h3 h4 h5
theorem m_callSv (O : OkM g X cc nL ret lvl Qc) {idx maxL n lvl' : Nat} {y : MethodName} {by_ : ByteArray} {rt : Option FieldType} {As : List Value} {r : Unit} (hM : MetM (xl X) g y by_ maxL rt lvl' (As) M (mQv g r M')) (hG : GoodIn lw_all (va_wsS RX20 idx y (ws_ y by_ maxL rt))) (hd : y.cls ≠ "java/lang/invoke/MethodHandle" ∧ y.cls ≠ "java/lang/invoke/VarHandle" ∧ (parseMethodDescriptor y.desc).map (fun d => d.parameters.length) = some n) (hlv : lvl' + 1 ≤ lvl) (hml : maxL ≤ 40) (hn : As.length = n) (hst : st = As.reverse ++ rest) (hr : (rest.map fun v => v.category).sum ≤ 8) (d : decode cc pc = .ok (.invokestatic idx, 3)) (hq : pc + 3 = q) (kk : V X nL 0 (WdM g M') q lv ( rest)) : V X nL 0 (WdM g M) pc lv st := by
  subst hq
  subst hst
  intro H lo ce sl ls h1 h2 h3 h4 h5
  have S2 := O.S h2
  refine va_callv (A1 := mA g) (A0 := mA g) (va_runS (As := As) (rest := rest) ⟨O.1.ex, O.1.bc, O.1.ml, O.1.ow, O.1.ts⟩ hM (va_cwS n O.1.ts hG rfl rfl rfl hd (m_room O hlv hml)) ⟨fun a U f mk z => by obtain ⟨z0, z1, z2⟩ := z; exact ⟨z0, z1, z2.calling⟩, fun U hU hW => ⟨rfl, by rw [hU]; exact h1, O.2.1.moved S2 hU hW⟩⟩ rfl hn h5.1 rfl (lv_room hr) d ⟨h3, h4⟩) S2 (fun q _ h => h) (fun q h => h) (fun u t H1 lo1 ht hvm hw hB hz hk hS1 => ?_)
  subst hw
  refine kk H1 lo1 (ce + 0) (sl + 0) ls (by rw [← ht]; exact hB) (by rw [O.2.2.1]; exact hS1) h3 h4 h5
end MROWS
