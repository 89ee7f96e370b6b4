/-! THE MODEL: its constructor -/
def KN (D : va_G) (ki kz : ClassId) (lg tk : Nat) (A : Nat → Prop) (U : State) : Prop := va_K D mCl [(ki, .int), (kz, .boolean)] U ∧ va_Z "RankEntryModel" "LONG" "[I" (.ref lg) A U U.heap ∧ va_T .int lg 30 (fun j => .int (mLong j)) A U U.heap ∧ va_Z "RankEntryModel" "TAKES" "[I" (.ref tk) A U U.heap ∧ va_T .int tk 30 (fun j => .int (mTakes j)) A U U.heap
theorem KN.moved {D : va_G} {ki kz : ClassId} {lg tk : Nat} {A : Nat → Prop} {s U : State} {H : Heap} {locs : List Loc} (h : KN D ki kz lg tk A s) (hS : va_S A s.heap H locs) (hU : U.heap = H) (hW : s.WarmedH U.vm) : KN D ki kz lg tk A U := by
  obtain ⟨h1, h2, h3, h4, h5⟩ := h
  subst hU
  exact ⟨va_K.moved hW.alike h1, (va_Z.moved hW.alike h2).kept hS.2.1, (va_T.moved hW.alike h3).kept hS.2.1, (va_Z.moved hW.alike h4).kept hS.2.1, (va_T.moved hW.alike h5).kept hS.2.1⟩
theorem KN.narrow {D : va_G} {ki kz : ClassId} {lg tk : Nat} {A B : Nat → Prop} {U : State} (h : KN D ki kz lg tk A U) (hAB : ∀ q, B q → A q) : KN D ki kz lg tk B U := ⟨h.1, h.2.1.narrow hAB, h.2.2.1.narrow hAB, h.2.2.2.1.narrow hAB, h.2.2.2.2.narrow hAB⟩
def Wn (D : va_G) (A : Nat → Prop) (ws : va_W) : Heap → Prop := fun H => va_P D mCl ws H ∧ va_D A ws
def OkN (D : va_G) (ki kz : ClassId) (lg tk : Nat) (A : Nat → Prop) (X : Cxt) (cc : ByteArray) (nL : Nat) (ret : Option FieldType) (lvl mc : Nat) (Qc : Array Value → State → Outcome → State → Prop) : Prop := Ok X cc nL ret RX20 lvl mc ∧ KN D ki kz lg tk A (xs X) ∧ xA X = A ∧ (∀ q, (xs X).heap.size ≤ q → A q) ∧ (∀ t, MQ (xb X) Qc (xa X) (xs X) mc (8 * mc) A t → xQ X t)
theorem n_body {l : Launch} {y : MethodName} {cc : ByteArray} {nL : Nat} {ret : Option FieldType} {lvl mc : Nat} {as : List Value} {D : va_G} {ki kz : ClassId} {lg tk : Nat} {A : Nat → Prop} {Pw : Heap → Prop} {Qc : Array Value → State → Outcome → State → Prop} (hy : plainFor y = true) (hc : y.cls = RX20) (hlen : (lg_sl as).length ≤ nL) (h : ∀ X, OkN D ki kz lg tk A X cc nL ret lvl mc Qc → (xh X).name = y.name → V X nL mc Pw 0 (lv_args 0 as) []) : Met l y (ws_ y cc nL ret) (rmz lvl mc) (va_Pc as (fun U => Pw U.heap ∧ KN D ki kz lg tk A U ∧ ∀ q, U.heap.size ≤ q → A q)) Qc mc (8 * mc) A := by
  refine MetFree.of_bodySF (code := cc) (maxLocals := nL) (ret := ret) hy ?_ ?_
  · intro args s m h hn
    obtain ⟨meth, c, h1, h2, h3, h4, h5, h6, -, -⟩ := Cond.code_spec hn (atoms_spec (ws := ws_ y cc nL ret) h _ List.mem_cons_self)
    exact ⟨meth, c, h1, h2, h3, h4, h5, h6⟩
  · intro p e s m args below meth c s₁ B hml hP _
    have hh0 : s₁.heap = s.heap := by rw [B.state]; rfl
    obtain ⟨rfl, hW, hK⟩ := hP
    have hts := atoms_spec (ws := ws_ y cc nL ret) B.pre
    have hts : ∀ w ∈ lw_all, w.before _ s = true := fun w h => hts w (List.mem_cons_of_mem _ h)
    have hown : s.vm.findClass y.cls = some m.cls := findClass_of_methodNamed B.named
    have hnm := (name_of_methodNamed B.named B.method).1
    rw [hc] at hown
    have hl := lv_entry as hlen
    rw [lg_entry_eq]
    obtain ⟨t, a1, o, b1, b2, b3⟩ := h (p, l, e, rmz lvl mc, s, m, as.toArray, below, meth, c, MQ below Qc as.toArray s mc (8 * mc) A, A) ⟨⟨B.exec, B.bytes, hml, hown, hts, B.returns, B.notSynchronized, rfl⟩, hK.1, rfl, hK.2, fun _ h => h⟩ hnm s.heap [] 0 0 _ hW va_S.rf (by rw [Nat.zero_add]; exact Nat.le_refl _) (by rw [Nat.zero_add]; exact Nat.le_refl _) hl s₁ hh0 (Stand.of_body B)
    exact ⟨t, o, a1, b1, b2, ⟨b3.1, b3.2⟩⟩
section MCTOR
variable {D : va_G} {ki kz : ClassId} {lg tk : Nat} {A : Nat → Prop} {X : Cxt} {cc : ByteArray} {nL b lvl mc : Nat} {ret : Option FieldType} {Qc : Array Value → State → Outcome → State → Prop} {pc q : Nat} {lv : List (Nat × Value)} {st rest : List Value} {Z : va_W} {a : Nat} {fs : List Value} {gm : gM} {M M' : Mem}
theorem OkN.S (O : OkN D ki kz lg tk A X cc nL ret lvl mc Qc) {H : Heap} {lo : List Loc} (h : va_S (xA X) (xs X).heap H lo) : va_S A (xs X).heap H lo := by rw [← O.2.2.1]; exact h
theorem n_obj (O : OkN D ki kz lg tk A X cc nL ret lvl mc Qc) {P : Heap → Prop} {idx : Nat} (hl : Cond.methodLink RX20 idx ⟨"java/lang/Object", "<init>", "()V"⟩ ∈ lw_all) (hlv : 1 ≤ lvl) (hr : (st.map fun v => v.category).sum ≤ 8) (d : decode cc pc = .ok (.invokespecial idx, 3)) (hq : pc + 3 = q) (kk : V X nL b P q lv st) : V X nL b P pc lv (.ref a :: st) := by
  subst hq
  intro H lo ce sl ls h1 h2 h3 h4 h5
  have hts := O.1.ts
  refine W.objInit O.1.ex O.1.bc O.1.ow (hts _ hl) (hts _ q97) (hts _ q98) (g := F0 (xm X) pc ls (.ref a :: st)) rfl (h5.1.trans O.1.ml.symm) rfl d (by rw [O.1.rm]; exact hlv) ?_ (kk H lo ce sl ls h1 h2 h3 h4 h5)
  rw [O.1.rm]
  show 2 * 0 + _ + 12 ≤ 60 * lvl + 3200
  omega
theorem n_putF (O : OkN D ki kz lg tk A X cc nL ret lvl mc Qc) (hnm : (xh X).name = "<init>") {idx : Nat} (k : Nat) {fs' : List Value} {v : Value} {ty : FieldType} (hs' : fs.set k v = fs') (hk : k < 25) (hl : Cond.fieldLink RX20 idx "RankEntryModel" (TX20 k).2.1 (TX20 k).2.2.1 ∈ lw_all) (hT : (TX20 k).1 = "RankEntryModel") (hfin : (TX20 k).2.2.2 = true) (hd : parseFieldDescriptor (TX20 k).2.2.1 = some ty) (hn : narrow ty v = v) (hf : fits ty v = true) (hlf : k < fs.length) (d : decode cc pc = .ok (.putfield idx, 3)) (hq : pc + 3 = q) (kk : V X nL b (Wn D A ((a, .inr (0, fs')) :: Z)) q lv st) : V X nL b (Wn D A ((a, .inr (0, fs)) :: Z)) pc lv (v :: .ref a :: st) := by
  subst hq
  subst hs'
  intro H lo ce sl ls h1 h2 h3 h4 h5
  obtain ⟨hP, hD⟩ := h1
  refine va_putF O.1.ex O.1.bc O.1.ts in_X20 tyX20 tyX20_ok nmX20 O.1.ow O.2.1.1 hP hD (O.S h2) 0 rfl rfl k hk (O.1.ts _ hl) (fun x hx => by rw [← hT]; exact hx) hfin hnm hT hd hn hf hlf d (fun H1 lo1 p1 p2 p3 => ?_)
  exact kk H1 lo1 ce sl ls ⟨p1, p2⟩ (by rw [O.2.2.1]; exact p3) h3 h4 h5
theorem n_newa (O : OkN D ki kz lg tk A X cc nL ret lvl mc Qc) {atype : ArrayType} {ty : FieldType} {kk0 : ClassId} {i N' m b' : Nat} {v : Int32} (hw : Cond.arrayClass (newarray.typeOf atype) ∈ lw_all) (hty : newarray.typeOf atype = ty) (hi : ([(ki, .int), (kz, .boolean)] : List (ClassId × FieldType))[i]? = some (kk0, ty)) (hx : ∀ cA : ClassId, vp_cell cA (N', .inl (fun _ => 0)) = arrV cA N' (fun _ => defaultValue ty)) (hn : ¬ v < 0) (hN : v.toNatClampNeg = N') (hby : N' * componentBytes ty ≤ 536870912) (hm : 1 ≤ m ∧ N' ≤ 8 * m) (hb : b' + m = b) (d : decode cc pc = .ok (.newarray atype, 2)) (hq : pc + 2 = q) (kk : ∀ z, V X nL b' (Wn D A ((a, .inr (0, fs)) :: (Z ++ [(z, .inl (kk0, N', .inl (fun _ => 0)))]))) q lv (.ref z :: st)) : V X nL b (Wn D A ((a, .inr (0, fs)) :: Z)) pc lv (.int v :: st) := by
  subst hq
  subst hb
  intro H lo ce sl ls h1 h2 h3 h4 h5
  refine va_newa O.1.ex O.1.bc (O.1.ts _ hw) hty O.2.1.1 h1.1 h1.2 (O.S h2) O.2.2.2.1 (a0 := (N', .inl (fun _ => 0))) hx hn hN hby (by omega) (by omega) d (fun z kA H1 hK p1 p2 p3 => ?_)
  have e := k_cls hK hi
  subst e
  exact kk z H1 lo _ _ ls ⟨p1, p2⟩ (by rw [O.2.2.1]; exact p3) (by omega) (by omega) h5
theorem n_get (O : OkN gm.1 (gMi gm) (gMz gm) lg tk A X cc nL ret lvl mc Qc) {idx : Nat} (k : Nat) {v : Value} (hk : k < 25) (hl : Cond.fieldLink RX20 idx "RankEntryModel" (TX20 k).2.1 (TX20 k).2.2.1 ∈ lw_all) (hT : (TX20 k).1 = "RankEntryModel") (hv : (mFs gm (M 0))[k]? = some v) (d : decode cc pc = .ok (.getfield idx, 3)) (hq : pc + 3 = q) (kk : V X nL b (Wn gm.1 A (mWs gm M)) q lv (v :: st)) : V X nL b (Wn gm.1 A (mWs gm M)) pc lv (.ref (gMa gm 0) :: st) := by
  subst hq
  exact fun H lo ce sl ls h1 h2 h3 h4 h5 => va_get O.1.ex O.1.bc O.1.ts in_X20 O.1.ow O.2.1.1 h1.1 0 (mWs_get (o := 0) (by decide)) rfl k hk (O.1.ts _ hl) (fun x hx => by rw [← hT]; exact hx) hv d (kk H lo ce sl ls h1 h2 h3 h4 h5)
theorem n_iast (O : OkN gm.1 (gMi gm) (gMz gm) lg tk A X cc nL ret lvl mc Qc) {o n j : Nat} {i v : Int32} (hI : mI o = true) (hn : mLen o = n) (hin : inb i n = true) (hj : i.toNatClampNeg = j) (d : decode cc pc = .ok (.iastore, 1)) (hq : pc + 1 = q) (kk : V X nL b (Wn gm.1 A (mWs gm (up2 M o j v))) q lv st) : V X nL b (Wn gm.1 A (mWs gm M)) pc lv (.int v :: .int i :: .ref (gMa gm o) :: st) := by
  subst hq
  subst hn
  subst hj
  intro H lo ce sl ls h1 h2 h3 h4 h5
  refine va_iast O.1.ex O.1.bc O.2.1.1 h1.1 h1.2 (O.S h2) o 0 (by rw [mWs_get (mI_lt hI).2.1, mCell_i hI]) rfl (inb_in hin) d (fun H1 lo1 p1 p2 p3 => ?_)
  rw [mWs_seti (k := i.toNatClampNeg) (v := v) (by rw [mCell_i hI, up2_s])] at p1 p2
  exact kk H1 lo1 ce sl ls ⟨p1, p2⟩ (by rw [O.2.2.1]; exact p3) h3 h4 h5
theorem n_bast (O : OkN gm.1 (gMi gm) (gMz gm) lg tk A X cc nL ret lvl mc Qc) {o n j : Nat} {i v : Int32} (hI : mZ o = true) (hn : mLen o = n) (hin : inb i n = true) (hj : i.toNatClampNeg = j) (hv : isB v = true) (d : decode cc pc = .ok (.bastore, 1)) (hq : pc + 1 = q) (kk : V X nL b (Wn gm.1 A (mWs gm (up2 M o j v))) q lv st) : V X nL b (Wn gm.1 A (mWs gm M)) pc lv (.int v :: .int i :: .ref (gMa gm o) :: st) := by
  subst hq
  subst hn
  subst hj
  intro H lo ce sl ls h1 h2 h3 h4 h5
  refine va_zast O.1.ex O.1.bc O.2.1.1 h1.1 h1.2 (O.S h2) o 1 (by rw [mWs_get (mCell_z (g := gm) (M := M) hI).2, (mCell_z hI).1]) rfl (inb_in hin) d (fun H1 lo1 p1 p2 p3 => ?_)
  rw [isB_vnar hv, mWs_seti (k := i.toNatClampNeg) (v := v) (by rw [(mCell_z hI).1, up2_s])] at p1 p2
  exact kk H1 lo1 ce sl ls ⟨p1, p2⟩ (by rw [O.2.2.1]; exact p3) h3 h4 h5
theorem n_room (O : OkN D ki kz lg tk A X cc nL ret lvl mc Qc) {lvl' maxL : Nat} (h : lvl' + 1 ≤ lvl) (hm : maxL ≤ 40) : (rmz lvl' 0).frames + 1 ≤ (xR X).frames ∧ 8 + (maxL + 11) + (rmz lvl' 0).locals ≤ (xR X).locals := by
  rw [O.1.rm]
  show lvl' + 1 ≤ lvl ∧ 8 + (maxL + 11) + (60 * lvl' + 3200) ≤ 60 * lvl + 3200
  omega
theorem mA_in (h : ∀ o, o < 18 → A (gMa gm o)) : ∀ q, mA gm q → A q := fun q ⟨o, ho, hq⟩ => by rw [hq]; exact h o ho
theorem wn_wd {H : Heap} (h : Wn gm.1 A (mWs gm M) H) : WdM gm M H ∧ ∀ o, o < 18 → A (gMa gm o) := by
  refine ⟨⟨h.1, h.2.weaken (fun k x hx _ => ?_)⟩, fun o ho => ?_⟩
  · have hk : k < 18 := by
      have := (List.getElem?_eq_some_iff.mp hx).1
      unfold mWs at this
      rw [List.length_map, List.length_range] at this
      exact this
    rw [mWs_get hk] at hx
    cases hx
    exact ⟨k, hk, rfl⟩
  · exact h.2.2 o _ (mWs_get ho)
theorem n_fresh (O : OkN gm.1 (gMi gm) (gMz gm) (gMl gm) (gMt gm) A X cc nL ret lvl mc Qc) {idx : Nat} (hM : fm_fresh M = some ((), M')) (hl : Cond.methodLink RX20 idx yX20_fresh ∈ lw_all) (hlv : 1 ≤ lvl) (hst : st = .ref (gMa gm 0) :: rest) (hr : (rest.map fun v => v.category).sum ≤ 8) (d : decode cc pc = .ok (.invokevirtual idx, 3)) (hq : pc + 3 = q) (kk : V X nL b (fun H => WdM gm M' H ∧ ∀ o, o < 18 → A (gMa gm o)) q lv rest) : V X nL b (Wn gm.1 A (mWs gm M)) pc lv st := by
  subst hq
  subst hst
  intro H lo ce sl ls h1 h2 h3 h4 h5
  have S2 := O.S h2
  obtain ⟨w1, w2⟩ := wn_wd h1
  refine va_callv (A1 := mA gm) (A0 := A) (va_runV (As := []) (rest := rest) ⟨O.1.ex, O.1.bc, O.1.ml, O.1.ow, O.1.ts⟩ (met_fresh _ gm M M' () hM) (cwV 0 O.1.ts (lw_V hl q1730 qs21 q84 q1731) rfl rfl rfl (by decide +kernel) (n_room O hlv (by decide))) ⟨fun a U f mk z => by obtain ⟨z0, z1, z2⟩ := z; exact ⟨z0, z1, z2.calling⟩, va_recv O.2.1.1 h1.1 (ci := 0) (q0 := 0) rfl (mWs_get (o := 0) (by decide)), fun U hU hW => ⟨rfl, by rw [hU]; exact w1, (O.2.1.moved S2 hU hW).narrow (mA_in w2)⟩⟩ rfl rfl h5.1 rfl (lv_room hr) d ⟨by omega, by omega⟩) S2 (fun q _ h => mA_in w2 q h) (fun q h => mA_in w2 q h) (fun u t H1 lo1 ht hvm hw hB hz hk hS1 => ?_)
  subst hw
  exact kk H1 lo1 (ce + 0) (sl + 0) ls ⟨by rw [← ht]; exact hB, w2⟩ (by rw [O.2.2.1]; exact hS1) (by omega) (by omega) h5
end MCTOR
theorem mWs_lit (gm : gM) (M : Mem) : mWs gm M = [(gMa gm 0, .inr (0, mFs gm (M 0))), (gMa gm 1, .inl (gMi gm, 512, .inl (M 1))), (gMa gm 2, .inl (gMi gm, 21, .inl (M 2))), (gMa gm 3, .inl (gMz gm, 21, .inl (M 3))), (gMa gm 4, .inl (gMi gm, 342, .inl (M 4))), (gMa gm 5, .inl (gMi gm, 342, .inl (M 5))), (gMa gm 6, .inl (gMi gm, 17, .inl (M 6))), (gMa gm 7, .inl (gMi gm, 24, .inl (M 7))), (gMa gm 8, .inl (gMi gm, 24, .inl (M 8))), (gMa gm 9, .inl (gMi gm, 24, .inl (M 9))), (gMa gm 10, .inl (gMi gm, 24, .inl (M 10))), (gMa gm 11, .inl (gMi gm, 64, .inl (M 11))), (gMa gm 12, .inl (gMi gm, 21, .inl (M 12))), (gMa gm 13, .inl (gMz gm, 512, .inl (M 13))), (gMa gm 14, .inl (gMi gm, 512, .inl (M 14))), (gMa gm 15, .inl (gMi gm, 512, .inl (M 15))), (gMa gm 16, .inl (gMi gm, 512, .inl (M 16))), (gMa gm 17, .inl (gMi gm, 512, .inl (M 17)))] := rfl
/-- the model's memory before fresh -/
def M0a (i : Nat) : Mem := fun o j => if o = 4 ∧ 173 ≤ j ∧ j < 173 + i then 255 else 0
theorem M0a_s {i : Nat} : up2 (M0a i) 4 (173 + i) 255 = M0a (i + 1) := by
  funext o j
  by_cases h : o = 4 ∧ j = 173 + i
  · obtain ⟨rfl, rfl⟩ := h
    rw [up2_e]
    unfold M0a
    rw [if_pos ⟨rfl, by omega, by omega⟩]
  · rw [up2_x (by omega)]
    unfold M0a
    by_cases h2 : o = 4 ∧ 173 ≤ j ∧ j < 173 + i
    · rw [if_pos h2, if_pos ⟨h2.1, h2.2.1, by omega⟩]
    · rw [if_neg h2, if_neg (by omega)]
/-- what the model's constructor leaves -/
def moL (D : va_G) (ki kz : ClassId) (lg tk a : Nat) (A : Nat → Prop) (M' : Mem) (ad : Nat → Nat) : Heap → Prop := fun H => WdM (D, ad, ki, kz, lg, tk) M' H ∧ ad 0 = a ∧ ∀ o, o < 18 → A (ad o)
theorem n_vret {S : Type} {D : va_G} {ki kz : ClassId} {lg tk : Nat} {A : Nat → Prop} {X : Cxt} {cc : ByteArray} {nL b lvl mc pc : Nat} {lv : List (Nat × Value)} {L : S → Heap → Prop} (O : OkN D ki kz lg tk A X cc nL none lvl mc (va_Qv (fun (_ : S) => True) (fun u t => L u t.heap) A)) (u : S) (d : decode cc pc = .ok (.return_, 1)) : V X nL b (L u) pc lv [] := by
  intro H lo ce sl ls h1 h2 h3 h4 h5
  unfold xW
  refine wq_mono O.2.2.2.2 ?_
  rw [O.1.rm] at h3 h4
  refine W.widen (k := mc) (n := 8 * mc) (Nat.le_trans (Nat.le_add_right _ _) h3) (Nat.le_trans (Nat.le_add_right _ _) h4) ?_
  have S2 := O.S h2
  exact W.vret O.1.ex O.1.bc O.1.rt (fun t ht hW => ⟨⟨u, rfl, trivial, show L u t.heap by rw [ht]; exact h1⟩, S2.F ht⟩) S2.2.2 d O.1.lk
theorem mod_loop {gm : gM} {A : Nat → Prop} {X : Cxt} {M' : Mem} (hM : fm_fresh (up2 (M0a 21) 3 20 1) = some ((), M')) (O : OkN gm.1 (gMi gm) (gMz gm) (gMl gm) (gMt gm) A X cX20_init 2 none 2 502 (va_Qv (fun (_ : Nat → Nat) => True) (fun u t => moL gm.1 (gMi gm) (gMz gm) (gMl gm) (gMt gm) (gMa gm 0) A M' u t.heap) A)) : ∀ (n i : Nat), i + n = 21 → V X 2 0 (Wn gm.1 A (mWs gm (M0a i))) 150 [(0, .ref (gMa gm 0)), (1, .int (nI i))] [] := by
  intro n
  induction n with
  | zero =>
    intro i hi
    have ei : i = 21 := by omega
    subst ei
    refine v_iload_n O.1 dX20_init_150 rfl (q := 151) rfl ?_
    refine v_bipush O.1 dX20_init_151 (v := 21) (by decide) (q := 153) rfl ?_
    refine v_icmp_ge O.1 dX20_init_153 (t := 175) (by decide) (q := 156) rfl (fun _ => ?_) (fun z => absurd (show (21 : Int32) ≤ nI 21 by decide) z)
    refine v_aload_n O.1 dX20_init_175 rfl (q := 176) rfl ?_
    refine n_get O 2 (v := .ref (gMa gm 3)) (by decide) q1734 rfl rfl dX20_init_176 (q := 179) rfl ?_
    refine v_bipush O.1 dX20_init_179 (v := 20) (by decide) (q := 181) rfl ?_
    refine v_iconst O.1 dX20_init_181 (v := 1) rfl (q := 182) rfl ?_
    refine n_bast O rfl rfl (n := 21) (show inb 20 21 = true by decide) rfl (j := 20) rfl dX20_init_182 (q := 183) rfl ?_
    refine v_aload_n O.1 dX20_init_183 rfl (q := 184) rfl ?_
    refine n_fresh (rest := []) O hM q1728 (by decide) rfl (Nat.le_of_ble_eq_true rfl) dX20_init_184 (q := 187) rfl ?_
    refine v_world (P' := moL gm.1 (gMi gm) (gMz gm) (gMl gm) (gMt gm) (gMa gm 0) A M' (gMa gm)) (fun H h => ⟨h.1, rfl, h.2⟩) ?_
    exact n_vret (L := moL gm.1 (gMi gm) (gMz gm) (gMl gm) (gMt gm) (gMa gm 0) A M') O (gMa gm) dX20_init_187
  | succ n ih =>
    intro i hi
    refine v_iload_n O.1 dX20_init_150 rfl (q := 151) rfl ?_
    refine v_bipush O.1 dX20_init_151 (v := 21) (by decide) (q := 153) rfl ?_
    refine v_icmp_ge O.1 dX20_init_153 (t := 175) (by decide) (q := 156) rfl (fun z => absurd z (nI_ge (a := i) (b := 21) (by omega) (by decide))) (fun _ => ?_)
    refine v_aload_n O.1 dX20_init_156 rfl (q := 157) rfl ?_
    refine n_get O 4 (v := .ref (gMa gm 4)) (by decide) q1736 rfl rfl dX20_init_157 (q := 160) rfl ?_
    refine v_sipush O.1 dX20_init_160 (v := 173) (by decide) (q := 163) rfl ?_
    refine v_iload_n O.1 dX20_init_163 rfl (q := 164) rfl ?_
    refine v_iadd O.1 dX20_init_164 (q := 165) rfl ?_
    refine v_sipush O.1 dX20_init_165 (v := 255) (by decide) (q := 168) rfl ?_
    rw [show (173 : Int32) + nI i = nI (173 + i) from nI_add 173 i]
    refine n_iast O rfl rfl (n := 342) (inb_nI (show 173 + i < 342 by omega) (by decide)) (nI_clamp (show 173 + i < 2 ^ 31 by omega)) dX20_init_168 (q := 169) rfl ?_
    rw [M0a_s]
    refine v_iinc (lv' := [(1, .int (nI (i + 1))), (0, .ref (gMa gm 0))]) (v := nI (i + 1)) O.1 dX20_init_169 rfl (nI_1 i) (by decide) rfl (q := 172) rfl ?_
    refine v_goto O.1 dX20_init_172 (t := 150) (by decide) ?_
    exact v_sub [1, 0] rfl (ih (i + 1) (by omega))
set_option maxHeartbeats 4000000 in
theorem metm_init (l : Launch) (D : va_G) (ki kz : ClassId) (lg tk a : Nat) (A : Nat → Prop) (M' : Mem) (hM : fm_fresh (up2 (M0a 21) 3 20 1) = some ((), M')) : Met l yX20_init (ws_ yX20_init cX20_init 2 none) (rmz 2 502) (va_Pc [.ref a] (fun U => Wn D A ((a, .inr (0, [.null, .null, .null, .int 0, .null, .null, .null, .null, .null, .null, .null, .int 0, .null, .null, .int 0, .int 0, .int 0, .int 0, .null, .null, .null, .null, .null, .int 0, .int 0])) :: []) U.heap ∧ KN D ki kz lg tk A U ∧ ∀ q, U.heap.size ≤ q → A q)) (va_Qv (fun (_ : Nat → Nat) => True) (fun u t => moL D ki kz lg tk a A M' u t.heap) A) 502 (8 * 502) A :=
  n_body (by decide +kernel) rfl (Nat.le_of_ble_eq_true rfl) (fun X O hnm => by
    refine v_aload_n O.1 dX20_init_0 rfl (q := 1) rfl ?_
    refine n_obj O q1727 (by decide) (Nat.le_of_ble_eq_true rfl) dX20_init_1 (q := 4) rfl ?_
    refine v_aload_n O.1 dX20_init_4 rfl (q := 5) rfl ?_
    refine v_sipush O.1 dX20_init_5 (v := 512) (by decide) (q := 8) rfl ?_
    refine n_newa (atype := .int) (i := 0) (kk0 := ki) (N' := 512) (m := 64) (b' := 438) O q281 rfl rfl (fun _ => rfl) (by decide) rfl (by decide) (by decide) rfl dX20_init_8 (q := 10) rfl (fun z1 => ?_)
    refine n_putF O hnm 0 (fs' := [.ref z1, .null, .null, .int 0, .null, .null, .null, .null, .null, .null, .null, .int 0, .null, .null, .int 0, .int 0, .int 0, .int 0, .null, .null, .null, .null, .null, .int 0, .int 0]) (v := .ref z1) (ty := .array .int) rfl (by decide) q1732 rfl rfl rfl rfl rfl (Nat.le_of_ble_eq_true rfl) dX20_init_10 (q := 13) rfl ?_
    refine v_aload_n O.1 dX20_init_13 rfl (q := 14) rfl ?_
    refine v_bipush O.1 dX20_init_14 (v := 21) (by decide) (q := 16) rfl ?_
    refine n_newa (atype := .int) (i := 0) (kk0 := ki) (N' := 21) (m := 3) (b' := 435) O q281 rfl rfl (fun _ => rfl) (by decide) rfl (by decide) (by decide) rfl dX20_init_16 (q := 18) rfl (fun z2 => ?_)
    refine n_putF O hnm 1 (fs' := [.ref z1, .ref z2, .null, .int 0, .null, .null, .null, .null, .null, .null, .null, .int 0, .null, .null, .int 0, .int 0, .int 0, .int 0, .null, .null, .null, .null, .null, .int 0, .int 0]) (v := .ref z2) (ty := .array .int) rfl (by decide) q1733 rfl rfl rfl rfl rfl (Nat.le_of_ble_eq_true rfl) dX20_init_18 (q := 21) rfl ?_
    refine v_aload_n O.1 dX20_init_21 rfl (q := 22) rfl ?_
    refine v_bipush O.1 dX20_init_22 (v := 21) (by decide) (q := 24) rfl ?_
    refine n_newa (atype := .boolean) (i := 1) (kk0 := kz) (N' := 21) (m := 3) (b' := 432) O q1808 rfl rfl (fun _ => rfl) (by decide) rfl (by decide) (by decide) rfl dX20_init_24 (q := 26) rfl (fun z3 => ?_)
    refine n_putF O hnm 2 (fs' := [.ref z1, .ref z2, .ref z3, .int 0, .null, .null, .null, .null, .null, .null, .null, .int 0, .null, .null, .int 0, .int 0, .int 0, .int 0, .null, .null, .null, .null, .null, .int 0, .int 0]) (v := .ref z3) (ty := .array .boolean) rfl (by decide) q1734 rfl rfl rfl rfl rfl (Nat.le_of_ble_eq_true rfl) dX20_init_26 (q := 29) rfl ?_
    refine v_aload_n O.1 dX20_init_29 rfl (q := 30) rfl ?_
    refine v_sipush O.1 dX20_init_30 (v := 342) (by decide) (q := 33) rfl ?_
    refine n_newa (atype := .int) (i := 0) (kk0 := ki) (N' := 342) (m := 43) (b' := 389) O q281 rfl rfl (fun _ => rfl) (by decide) rfl (by decide) (by decide) rfl dX20_init_33 (q := 35) rfl (fun z4 => ?_)
    refine n_putF O hnm 4 (fs' := [.ref z1, .ref z2, .ref z3, .int 0, .ref z4, .null, .null, .null, .null, .null, .null, .int 0, .null, .null, .int 0, .int 0, .int 0, .int 0, .null, .null, .null, .null, .null, .int 0, .int 0]) (v := .ref z4) (ty := .array .int) rfl (by decide) q1736 rfl rfl rfl rfl rfl (Nat.le_of_ble_eq_true rfl) dX20_init_35 (q := 38) rfl ?_
    refine v_aload_n O.1 dX20_init_38 rfl (q := 39) rfl ?_
    refine v_sipush O.1 dX20_init_39 (v := 342) (by decide) (q := 42) rfl ?_
    refine n_newa (atype := .int) (i := 0) (kk0 := ki) (N' := 342) (m := 43) (b' := 346) O q281 rfl rfl (fun _ => rfl) (by decide) rfl (by decide) (by decide) rfl dX20_init_42 (q := 44) rfl (fun z5 => ?_)
    refine n_putF O hnm 5 (fs' := [.ref z1, .ref z2, .ref z3, .int 0, .ref z4, .ref z5, .null, .null, .null, .null, .null, .int 0, .null, .null, .int 0, .int 0, .int 0, .int 0, .null, .null, .null, .null, .null, .int 0, .int 0]) (v := .ref z5) (ty := .array .int) rfl (by decide) q1737 rfl rfl rfl rfl rfl (Nat.le_of_ble_eq_true rfl) dX20_init_44 (q := 47) rfl ?_
    refine v_aload_n O.1 dX20_init_47 rfl (q := 48) rfl ?_
    refine v_bipush O.1 dX20_init_48 (v := 17) (by decide) (q := 50) rfl ?_
    refine n_newa (atype := .int) (i := 0) (kk0 := ki) (N' := 17) (m := 3) (b' := 343) O q281 rfl rfl (fun _ => rfl) (by decide) rfl (by decide) (by decide) rfl dX20_init_50 (q := 52) rfl (fun z6 => ?_)
    refine n_putF O hnm 6 (fs' := [.ref z1, .ref z2, .ref z3, .int 0, .ref z4, .ref z5, .ref z6, .null, .null, .null, .null, .int 0, .null, .null, .int 0, .int 0, .int 0, .int 0, .null, .null, .null, .null, .null, .int 0, .int 0]) (v := .ref z6) (ty := .array .int) rfl (by decide) q1738 rfl rfl rfl rfl rfl (Nat.le_of_ble_eq_true rfl) dX20_init_52 (q := 55) rfl ?_
    refine v_aload_n O.1 dX20_init_55 rfl (q := 56) rfl ?_
    refine v_bipush O.1 dX20_init_56 (v := 24) (by decide) (q := 58) rfl ?_
    refine n_newa (atype := .int) (i := 0) (kk0 := ki) (N' := 24) (m := 3) (b' := 340) O q281 rfl rfl (fun _ => rfl) (by decide) rfl (by decide) (by decide) rfl dX20_init_58 (q := 60) rfl (fun z7 => ?_)
    refine n_putF O hnm 7 (fs' := [.ref z1, .ref z2, .ref z3, .int 0, .ref z4, .ref z5, .ref z6, .ref z7, .null, .null, .null, .int 0, .null, .null, .int 0, .int 0, .int 0, .int 0, .null, .null, .null, .null, .null, .int 0, .int 0]) (v := .ref z7) (ty := .array .int) rfl (by decide) q1739 rfl rfl rfl rfl rfl (Nat.le_of_ble_eq_true rfl) dX20_init_60 (q := 63) rfl ?_
    refine v_aload_n O.1 dX20_init_63 rfl (q := 64) rfl ?_
    refine v_bipush O.1 dX20_init_64 (v := 24) (by decide) (q := 66) rfl ?_
    refine n_newa (atype := .int) (i := 0) (kk0 := ki) (N' := 24) (m := 3) (b' := 337) O q281 rfl rfl (fun _ => rfl) (by decide) rfl (by decide) (by decide) rfl dX20_init_66 (q := 68) rfl (fun z8 => ?_)
    refine n_putF O hnm 8 (fs' := [.ref z1, .ref z2, .ref z3, .int 0, .ref z4, .ref z5, .ref z6, .ref z7, .ref z8, .null, .null, .int 0, .null, .null, .int 0, .int 0, .int 0, .int 0, .null, .null, .null, .null, .null, .int 0, .int 0]) (v := .ref z8) (ty := .array .int) rfl (by decide) q1740 rfl rfl rfl rfl rfl (Nat.le_of_ble_eq_true rfl) dX20_init_68 (q := 71) rfl ?_
    refine v_aload_n O.1 dX20_init_71 rfl (q := 72) rfl ?_
    refine v_bipush O.1 dX20_init_72 (v := 24) (by decide) (q := 74) rfl ?_
    refine n_newa (atype := .int) (i := 0) (kk0 := ki) (N' := 24) (m := 3) (b' := 334) O q281 rfl rfl (fun _ => rfl) (by decide) rfl (by decide) (by decide) rfl dX20_init_74 (q := 76) rfl (fun z9 => ?_)
    refine n_putF O hnm 9 (fs' := [.ref z1, .ref z2, .ref z3, .int 0, .ref z4, .ref z5, .ref z6, .ref z7, .ref z8, .ref z9, .null, .int 0, .null, .null, .int 0, .int 0, .int 0, .int 0, .null, .null, .null, .null, .null, .int 0, .int 0]) (v := .ref z9) (ty := .array .int) rfl (by decide) q1741 rfl rfl rfl rfl rfl (Nat.le_of_ble_eq_true rfl) dX20_init_76 (q := 79) rfl ?_
    refine v_aload_n O.1 dX20_init_79 rfl (q := 80) rfl ?_
    refine v_bipush O.1 dX20_init_80 (v := 24) (by decide) (q := 82) rfl ?_
    refine n_newa (atype := .int) (i := 0) (kk0 := ki) (N' := 24) (m := 3) (b' := 331) O q281 rfl rfl (fun _ => rfl) (by decide) rfl (by decide) (by decide) rfl dX20_init_82 (q := 84) rfl (fun z10 => ?_)
    refine n_putF O hnm 10 (fs' := [.ref z1, .ref z2, .ref z3, .int 0, .ref z4, .ref z5, .ref z6, .ref z7, .ref z8, .ref z9, .ref z10, .int 0, .null, .null, .int 0, .int 0, .int 0, .int 0, .null, .null, .null, .null, .null, .int 0, .int 0]) (v := .ref z10) (ty := .array .int) rfl (by decide) q1742 rfl rfl rfl rfl rfl (Nat.le_of_ble_eq_true rfl) dX20_init_84 (q := 87) rfl ?_
    refine v_aload_n O.1 dX20_init_87 rfl (q := 88) rfl ?_
    refine v_bipush O.1 dX20_init_88 (v := 64) (by decide) (q := 90) rfl ?_
    refine n_newa (atype := .int) (i := 0) (kk0 := ki) (N' := 64) (m := 8) (b' := 323) O q281 rfl rfl (fun _ => rfl) (by decide) rfl (by decide) (by decide) rfl dX20_init_90 (q := 92) rfl (fun z11 => ?_)
    refine n_putF O hnm 12 (fs' := [.ref z1, .ref z2, .ref z3, .int 0, .ref z4, .ref z5, .ref z6, .ref z7, .ref z8, .ref z9, .ref z10, .int 0, .ref z11, .null, .int 0, .int 0, .int 0, .int 0, .null, .null, .null, .null, .null, .int 0, .int 0]) (v := .ref z11) (ty := .array .int) rfl (by decide) q1744 rfl rfl rfl rfl rfl (Nat.le_of_ble_eq_true rfl) dX20_init_92 (q := 95) rfl ?_
    refine v_aload_n O.1 dX20_init_95 rfl (q := 96) rfl ?_
    refine v_bipush O.1 dX20_init_96 (v := 21) (by decide) (q := 98) rfl ?_
    refine n_newa (atype := .int) (i := 0) (kk0 := ki) (N' := 21) (m := 3) (b' := 320) O q281 rfl rfl (fun _ => rfl) (by decide) rfl (by decide) (by decide) rfl dX20_init_98 (q := 100) rfl (fun z12 => ?_)
    refine n_putF O hnm 13 (fs' := [.ref z1, .ref z2, .ref z3, .int 0, .ref z4, .ref z5, .ref z6, .ref z7, .ref z8, .ref z9, .ref z10, .int 0, .ref z11, .ref z12, .int 0, .int 0, .int 0, .int 0, .null, .null, .null, .null, .null, .int 0, .int 0]) (v := .ref z12) (ty := .array .int) rfl (by decide) q1745 rfl rfl rfl rfl rfl (Nat.le_of_ble_eq_true rfl) dX20_init_100 (q := 103) rfl ?_
    refine v_aload_n O.1 dX20_init_103 rfl (q := 104) rfl ?_
    refine v_sipush O.1 dX20_init_104 (v := 512) (by decide) (q := 107) rfl ?_
    refine n_newa (atype := .boolean) (i := 1) (kk0 := kz) (N' := 512) (m := 64) (b' := 256) O q1808 rfl rfl (fun _ => rfl) (by decide) rfl (by decide) (by decide) rfl dX20_init_107 (q := 109) rfl (fun z13 => ?_)
    refine n_putF O hnm 18 (fs' := [.ref z1, .ref z2, .ref z3, .int 0, .ref z4, .ref z5, .ref z6, .ref z7, .ref z8, .ref z9, .ref z10, .int 0, .ref z11, .ref z12, .int 0, .int 0, .int 0, .int 0, .ref z13, .null, .null, .null, .null, .int 0, .int 0]) (v := .ref z13) (ty := .array .boolean) rfl (by decide) q1750 rfl rfl rfl rfl rfl (Nat.le_of_ble_eq_true rfl) dX20_init_109 (q := 112) rfl ?_
    refine v_aload_n O.1 dX20_init_112 rfl (q := 113) rfl ?_
    refine v_sipush O.1 dX20_init_113 (v := 512) (by decide) (q := 116) rfl ?_
    refine n_newa (atype := .int) (i := 0) (kk0 := ki) (N' := 512) (m := 64) (b' := 192) O q281 rfl rfl (fun _ => rfl) (by decide) rfl (by decide) (by decide) rfl dX20_init_116 (q := 118) rfl (fun z14 => ?_)
    refine n_putF O hnm 19 (fs' := [.ref z1, .ref z2, .ref z3, .int 0, .ref z4, .ref z5, .ref z6, .ref z7, .ref z8, .ref z9, .ref z10, .int 0, .ref z11, .ref z12, .int 0, .int 0, .int 0, .int 0, .ref z13, .ref z14, .null, .null, .null, .int 0, .int 0]) (v := .ref z14) (ty := .array .int) rfl (by decide) q1751 rfl rfl rfl rfl rfl (Nat.le_of_ble_eq_true rfl) dX20_init_118 (q := 121) rfl ?_
    refine v_aload_n O.1 dX20_init_121 rfl (q := 122) rfl ?_
    refine v_sipush O.1 dX20_init_122 (v := 512) (by decide) (q := 125) rfl ?_
    refine n_newa (atype := .int) (i := 0) (kk0 := ki) (N' := 512) (m := 64) (b' := 128) O q281 rfl rfl (fun _ => rfl) (by decide) rfl (by decide) (by decide) rfl dX20_init_125 (q := 127) rfl (fun z15 => ?_)
    refine n_putF O hnm 20 (fs' := [.ref z1, .ref z2, .ref z3, .int 0, .ref z4, .ref z5, .ref z6, .ref z7, .ref z8, .ref z9, .ref z10, .int 0, .ref z11, .ref z12, .int 0, .int 0, .int 0, .int 0, .ref z13, .ref z14, .ref z15, .null, .null, .int 0, .int 0]) (v := .ref z15) (ty := .array .int) rfl (by decide) q1752 rfl rfl rfl rfl rfl (Nat.le_of_ble_eq_true rfl) dX20_init_127 (q := 130) rfl ?_
    refine v_aload_n O.1 dX20_init_130 rfl (q := 131) rfl ?_
    refine v_sipush O.1 dX20_init_131 (v := 512) (by decide) (q := 134) rfl ?_
    refine n_newa (atype := .int) (i := 0) (kk0 := ki) (N' := 512) (m := 64) (b' := 64) O q281 rfl rfl (fun _ => rfl) (by decide) rfl (by decide) (by decide) rfl dX20_init_134 (q := 136) rfl (fun z16 => ?_)
    refine n_putF O hnm 21 (fs' := [.ref z1, .ref z2, .ref z3, .int 0, .ref z4, .ref z5, .ref z6, .ref z7, .ref z8, .ref z9, .ref z10, .int 0, .ref z11, .ref z12, .int 0, .int 0, .int 0, .int 0, .ref z13, .ref z14, .ref z15, .ref z16, .null, .int 0, .int 0]) (v := .ref z16) (ty := .array .int) rfl (by decide) q1753 rfl rfl rfl rfl rfl (Nat.le_of_ble_eq_true rfl) dX20_init_136 (q := 139) rfl ?_
    refine v_aload_n O.1 dX20_init_139 rfl (q := 140) rfl ?_
    refine v_sipush O.1 dX20_init_140 (v := 512) (by decide) (q := 143) rfl ?_
    refine n_newa (atype := .int) (i := 0) (kk0 := ki) (N' := 512) (m := 64) (b' := 0) O q281 rfl rfl (fun _ => rfl) (by decide) rfl (by decide) (by decide) rfl dX20_init_143 (q := 145) rfl (fun z17 => ?_)
    refine n_putF O hnm 22 (fs' := [.ref z1, .ref z2, .ref z3, .int 0, .ref z4, .ref z5, .ref z6, .ref z7, .ref z8, .ref z9, .ref z10, .int 0, .ref z11, .ref z12, .int 0, .int 0, .int 0, .int 0, .ref z13, .ref z14, .ref z15, .ref z16, .ref z17, .int 0, .int 0]) (v := .ref z17) (ty := .array .int) rfl (by decide) q1754 rfl rfl rfl rfl rfl (Nat.le_of_ble_eq_true rfl) dX20_init_145 (q := 148) rfl ?_
    refine v_iconst O.1 dX20_init_148 (v := 0) rfl (q := 149) rfl ?_
    refine v_istore_n (lv' := [(1, .int 0), (0, .ref a)]) O.1 dX20_init_149 (by decide) rfl (q := 150) rfl ?_
    refine v_sub [1, 0] rfl ?_
    have hl2 := mod_loop (gm := (D, fun o => ([a, z1, z2, z3, z4, z5, z6, z7, z8, z9, z10, z11, z12, z13, z14, z15, z16, z17] : List Nat).getD o 0, ki, kz, lg, tk)) (A := A) hM O 21 0 rfl
    rw [mWs_lit] at hl2
    simp only [gMa, gMi, gMz, mFs, List.getD_cons_zero, List.getD_cons_succ] at hl2
    simp only [List.nil_append, List.cons_append, List.append_assoc]
    have em : ∀ o, M0a 0 o = fun _ => 0 := fun o => by funext j; unfold M0a; rw [if_neg (by omega)]
    simp only [em] at hl2
    exact hl2)
