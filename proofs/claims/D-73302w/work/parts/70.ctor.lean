/-! CONSTRUCTORS: rows. A world while an object a is being made: W0, the object, what was made for it -/
def Wo (g : gC) (W0 : va_W) (a ci : Nat) (fs : List Value) (Z : va_W) : Heap → Prop := Wg g (W0 ++ (a, .inr (ci, fs)) :: Z)
theorem wo_app {W0 Z zs : va_W} {o : Nat × va_E} : W0 ++ o :: (Z ++ zs) = (W0 ++ o :: Z) ++ zs := by simp
theorem wo_set {W0 Z : va_W} {o o' : Nat × va_E} : (W0 ++ o :: Z).set W0.length o' = W0 ++ o' :: Z := by simp
theorem wo_get {W0 Z : va_W} {o : Nat × va_E} : (W0 ++ o :: Z)[W0.length]? = some o := by simp
/-- the end of a method that made things: what it leaves, by some u -/
def kQ {S : Type} (g : gC) (L : S → Heap → Prop) : Array Value → State → Outcome → State → Prop := va_Qv (fun (_ : S) => True) (fun u t => L u t.heap) (cA g)
def kPc (g : gC) (as : List Value) (P : Heap → Prop) : Array Value → State → Prop := va_Pc as (fun U => P U.heap ∧ KC g U)
theorem kPc_blind {g : gC} {as : List Value} {P : Heap → Prop} : FrameBlind (kPc g as P) := fun a U f mk z => by obtain ⟨z0, z1, z2⟩ := z; exact ⟨z0, z1, z2.calling⟩
abbrev MetK {S : Type} (l : Launch) (g : gC) (y : MethodName) (cc : ByteArray) (nL : Nat) (lvl mc : Nat) (as : List Value) (P : Heap → Prop) (L : S → Heap → Prop) : Prop := Met l y (ws_ y cc nL none) (rmz lvl mc) (kPc g as P) (kQ g L) mc (8 * mc) (cA g)
section CTOR
variable {g : gC} {X : Cxt} {cc : ByteArray} {nL b lvl mc : Nat} {ret : Option FieldType} {own : String} {Qc : Array Value → State → Outcome → State → Prop} {pc q : Nat} {lv : List (Nat × Value)} {st rest : List Value} {W0 Z : va_W} {a ci : Nat} {fs : List Value}
theorem k_put (O : OkC g X cc nL ret own lvl mc Qc) {idx : Nat} {ref Cn : String} {T : u_T} {N : Nat} (k : Nat) {v : Value} {ty : FieldType} {ty0 : Nat → FieldType} (hin : ∀ w ∈ u_ws Cn T N, w ∈ lw_all) (hty : ∀ k, k < N → parseFieldDescriptor (T k).2.2.1 = some (ty0 k)) (hnn : ∀ a, a < N → ∀ b, b < N → a ≠ b → (T a).2.1 ≠ (T b).2.1) (hci : cCl[ci]? = some (Cn, T, N)) (hk : k < N) (hl : Cond.fieldLink own idx ref (T k).2.1 (T k).2.2.1 ∈ lw_all) (hs : (T k).1 = ref ∨ Cond.sameField ref (T k).1 (T k).2.1 (T k).2.2.1 ∈ lw_all) (hfin : (T k).2.2.2 = false) (hd : parseFieldDescriptor (T k).2.2.1 = some ty) (hn : narrow ty v = v) (hf : fits ty v = true) (hlf : k < fs.length) (d : decode cc pc = .ok (.putfield idx, 3)) (hq : pc + 3 = q) (kk : V X nL b (Wo g W0 a ci (fs.set k v) Z) q lv st) : V X nL b (Wo g W0 a ci fs Z) pc lv (v :: .ref a :: st) := by
  subst hq
  intro H lo ce sl ls h1 h2 h3 h4 h5
  obtain ⟨hP, hD⟩ := h1
  refine va_put O.1.ex O.1.bc O.1.ts hin ty0 hty hnn O.1.ow O.2.1.1 hP hD (O.S h2) W0.length wo_get hci k hk (O.1.ts _ hl) (fun x hx => ?_) hfin hd hn hf hlf d (fun H1 lo1 p1 p2 p3 => ?_)
  · rcases hs with hs | hs
    · rw [← hs]; exact hx
    · exact u_same (O.1.ts _ hs) x hx
  · rw [wo_set] at p1 p2
    exact kk H1 lo1 ce sl ls ⟨p1, p2⟩ (by rw [O.2.2.1]; exact p3) h3 h4 h5
theorem k_putF (O : OkC g X cc nL ret own lvl mc Qc) (hnm : (xh X).name = "<init>") {idx : Nat} {Cn : String} {T : u_T} {N : Nat} (k : Nat) {v : Value} {ty : FieldType} {ty0 : Nat → FieldType} (hin : ∀ w ∈ u_ws Cn T N, w ∈ lw_all) (hty : ∀ k, k < N → parseFieldDescriptor (T k).2.2.1 = some (ty0 k)) (hnn : ∀ a, a < N → ∀ b, b < N → a ≠ b → (T a).2.1 ≠ (T b).2.1) (hci : cCl[ci]? = some (Cn, T, N)) (hk : k < N) (hl : Cond.fieldLink own idx own (T k).2.1 (T k).2.2.1 ∈ lw_all) (hT : (T k).1 = own) (hfin : (T k).2.2.2 = true) (hd : parseFieldDescriptor (T k).2.2.1 = some ty) (hn : narrow ty v = v) (hf : fits ty v = true) (hlf : k < fs.length) (d : decode cc pc = .ok (.putfield idx, 3)) (hq : pc + 3 = q) (kk : V X nL b (Wo g W0 a ci (fs.set k v) Z) q lv st) : V X nL b (Wo g W0 a ci fs Z) pc lv (v :: .ref a :: st) := by
  subst hq
  intro H lo ce sl ls h1 h2 h3 h4 h5
  obtain ⟨hP, hD⟩ := h1
  refine va_putF O.1.ex O.1.bc O.1.ts hin ty0 hty hnn O.1.ow O.2.1.1 hP hD (O.S h2) W0.length wo_get hci k hk (O.1.ts _ hl) (fun x hx => by rw [← hT]; exact hx) hfin hnm hT hd hn hf hlf d (fun H1 lo1 p1 p2 p3 => ?_)
  rw [wo_set] at p1 p2
  exact kk H1 lo1 ce sl ls ⟨p1, p2⟩ (by rw [O.2.2.1]; exact p3) h3 h4 h5
theorem k_get (O : OkC g X cc nL ret own lvl mc Qc) {idx : Nat} {ref Cn : String} {T : u_T} {N : Nat} (k : Nat) {v : Value} (hin : ∀ w ∈ u_ws Cn T N, w ∈ lw_all) (hci : cCl[ci]? = some (Cn, T, N)) (hk : k < N) (hl : Cond.fieldLink own idx ref (T k).2.1 (T k).2.2.1 ∈ lw_all) (hT : (T k).1 = ref) (hv : fs[k]? = some v) (d : decode cc pc = .ok (.getfield idx, 3)) (hq : pc + 3 = q) (kk : V X nL b (Wo g W0 a ci fs Z) q lv (v :: st)) : V X nL b (Wo g W0 a ci fs Z) pc lv (.ref a :: st) := by
  subst hq
  intro H lo ce sl ls h1 h2 h3 h4 h5
  exact va_get O.1.ex O.1.bc O.1.ts hin O.1.ow O.2.1.1 h1.1 W0.length wo_get hci k hk (O.1.ts _ hl) (fun x hx => by rw [← hT]; exact hx) hv d (kk H lo ce sl ls h1 h2 h3 h4 h5)
/-- a new array of one of our kinds -/
theorem k_cls {s : State} {D : va_G} {cl : List vw_C} {tys : List (ClassId × FieldType)} {i : Nat} {cA cB : ClassId} {ty : FieldType} (hK : va_K D cl (tys ++ [(cA, ty)]) s) (ht : tys[i]? = some (cB, ty)) : cA = cB := by
  have h1 := (hK.2 tys.length (cA, ty) (by simp)).2
  have h2 := (hK.2 i (cB, ty) (by rw [List.getElem?_append_left (List.getElem?_eq_some_iff.mp ht).1]; exact ht)).2
  cases ty with
  | object C =>
    obtain ⟨k1, c1, -, -, -, e1⟩ := h1
    obtain ⟨k2, c2, -, -, -, e2⟩ := h2
    exact Option.some.inj (e1.symm.trans e2)
  | _ => exact Option.some.inj (h1.symm.trans h2)
theorem g_newa (O : OkC g X cc nL ret own lvl mc Qc) {ws : va_W} {atype : ArrayType} {ty : FieldType} {i n N' m b' : Nat} {x : vp_A} {v : Int32} (hw : Cond.arrayClass (newarray.typeOf atype) ∈ lw_all) (hty : newarray.typeOf atype = ty) (hi : (cTy g)[i]? = some (gCk g i, ty)) (hx : ∀ cA : ClassId, vp_cell cA x = arrV cA N' (fun _ => defaultValue ty)) (hn : ¬ v < 0) (hN : v.toNatClampNeg = N') (hby : N' * componentBytes ty ≤ 536870912) (hm : 1 ≤ m ∧ N' ≤ 8 * m) (hb : b' + m = b) (d : decode cc pc = .ok (.newarray atype, 2)) (hq : pc + 2 = q) (kk : ∀ z, V X nL b' (Wg g (ws ++ [(z, .inl (gCk g i, x))])) q lv (.ref z :: st)) : V X nL b (Wg g ws) pc lv (.int v :: st) := by
  subst hq
  subst hb
  intro H lo ce sl ls h1 h2 h3 h4 h5
  refine va_newa O.1.ex O.1.bc (O.1.ts _ hw) hty O.2.1.1 h1.1 h1.2 (O.S h2) O.free (a0 := x) hx hn hN hby (by omega) (by omega) d (fun z kA H1 hK p1 p2 p3 => ?_)
  have e := k_cls hK hi
  subst e
  exact kk z H1 lo _ _ ls ⟨p1, p2⟩ (by rw [O.2.2.1]; exact p3) (by omega) (by omega) h5
theorem k_newa (O : OkC g X cc nL ret own lvl mc Qc) {atype : ArrayType} {ty : FieldType} {i n N' m b' : Nat} {x : vp_A} {v : Int32} (hw : Cond.arrayClass (newarray.typeOf atype) ∈ lw_all) (hty : newarray.typeOf atype = ty) (hi : (cTy g)[i]? = some (gCk g i, ty)) (hx : ∀ cA : ClassId, vp_cell cA x = arrV cA N' (fun _ => defaultValue ty)) (hn : ¬ v < 0) (hN : v.toNatClampNeg = N') (hby : N' * componentBytes ty ≤ 536870912) (hm : 1 ≤ m ∧ N' ≤ 8 * m) (hb : b' + m = b) (d : decode cc pc = .ok (.newarray atype, 2)) (hq : pc + 2 = q) (kk : ∀ z, V X nL b' (Wo g W0 a ci fs (Z ++ [(z, .inl (gCk g i, x))])) q lv (.ref z :: st)) : V X nL b (Wo g W0 a ci fs Z) pc lv (.int v :: st) :=
  g_newa O (n := n) hw hty hi hx hn hN hby hm hb d hq (fun z => by have := kk z; unfold Wo at this; rw [wo_app] at this; exact this)
theorem g_newq (O : OkC g X cc nL ret own lvl mc Qc) {ws : va_W} {C : String} {idx i N' m b' : Nat} {v : Int32} (hw : Cond.classLink own idx C ∈ lw_all) (hA : va_AO C (xs X)) (hi : (cTy g)[i]? = some (gCk g i, .object C)) (hn : ¬ v < 0) (hN : v.toNatClampNeg = N') (hby : N' * 4 ≤ 536870912) (hm : 1 ≤ m ∧ N' ≤ 8 * m) (hb : b' + m = b) (d : decode cc pc = .ok (.anewarray idx, 3)) (hq : pc + 3 = q) (kk : ∀ z, V X nL b' (Wg g (ws ++ [(z, .inl (gCk g i, N', qr (fun _ => none)))])) q lv (.ref z :: st)) : V X nL b (Wg g ws) pc lv (.int v :: st) := by
  subst hq
  subst hb
  intro H lo ce sl ls h1 h2 h3 h4 h5
  refine va_newq O.1.ex O.1.bc O.1.ow (O.1.ts _ hw) hA O.2.1.1 h1.1 h1.2 (O.S h2) O.free hn hN hby (by omega) (by omega) d (fun z kA H1 hK p1 p2 p3 => ?_)
  have e := k_cls hK hi
  subst e
  exact kk z H1 lo _ _ ls ⟨p1, p2⟩ (by rw [O.2.2.1]; exact p3) (by omega) (by omega) h5
theorem k_newq (O : OkC g X cc nL ret own lvl mc Qc) {C : String} {idx i N' m b' : Nat} {v : Int32} (hw : Cond.classLink own idx C ∈ lw_all) (hA : va_AO C (xs X)) (hi : (cTy g)[i]? = some (gCk g i, .object C)) (hn : ¬ v < 0) (hN : v.toNatClampNeg = N') (hby : N' * 4 ≤ 536870912) (hm : 1 ≤ m ∧ N' ≤ 8 * m) (hb : b' + m = b) (d : decode cc pc = .ok (.anewarray idx, 3)) (hq : pc + 3 = q) (kk : ∀ z, V X nL b' (Wo g W0 a ci fs (Z ++ [(z, .inl (gCk g i, N', qr (fun _ => none)))])) q lv (.ref z :: st)) : V X nL b (Wo g W0 a ci fs Z) pc lv (.int v :: st) :=
  g_newq O hw hA hi hn hN hby hm hb d hq (fun z => by have := kk z; unfold Wo at this; rw [wo_app] at this; exact this)
/-- a new object -/
theorem g_new (O : OkC g X cc nL ret own lvl mc Qc) {ws : va_W} {cj idx N m b' : Nat} {Cn : String} {T : u_T} {ty : Nat → FieldType} {f0 : List Value} (hci : cCl[cj]? = some (Cn, T, N)) (hin : ∀ w ∈ u_ws Cn T N, w ∈ lw_all) (hty : ∀ k, k < N → parseFieldDescriptor (T k).2.2.1 = some (ty k)) (hcl : Cond.classLink own idx Cn ∈ lw_all) (hins : Cond.instantiable Cn N ∈ lw_all) (hini : Cond.initialized Cn ∈ lw_all) (hfs : ∀ j, j < N → defaultValue (ty j) = vp_V f0 j) (hm : 1 ≤ m ∧ N ≤ 8 * m) (hb : b' + m = b) (d : decode cc pc = .ok (.new idx, 3)) (hq : pc + 3 = q) (kk : ∀ z, V X nL b' (Wg g (ws ++ [(z, .inr (cj, f0))])) q lv (.ref z :: st)) : V X nL b (Wg g ws) pc lv st := by
  subst hq
  subst hb
  intro H lo ce sl ls h1 h2 h3 h4 h5
  have hts := O.1.ts
  refine va_new O.1.ex O.1.bc hts hin ty hty O.1.ow (hts _ hcl) (hts _ hins) (hts _ hini) O.2.1.1 h1.1 h1.2 (O.S h2) O.free hci hfs (by omega) (by omega) d (fun z H1 p1 p2 p3 => ?_)
  exact kk z H1 lo _ _ ls ⟨p1, p2⟩ (by rw [O.2.2.1]; exact p3) (by omega) (by omega) h5
theorem k_new (O : OkC g X cc nL ret own lvl mc Qc) {cj idx N m b' : Nat} {Cn : String} {T : u_T} {ty : Nat → FieldType} {f0 : List Value} (hci : cCl[cj]? = some (Cn, T, N)) (hin : ∀ w ∈ u_ws Cn T N, w ∈ lw_all) (hty : ∀ k, k < N → parseFieldDescriptor (T k).2.2.1 = some (ty k)) (hcl : Cond.classLink own idx Cn ∈ lw_all) (hins : Cond.instantiable Cn N ∈ lw_all) (hini : Cond.initialized Cn ∈ lw_all) (hfs : ∀ j, j < N → defaultValue (ty j) = vp_V f0 j) (hm : 1 ≤ m ∧ N ≤ 8 * m) (hb : b' + m = b) (d : decode cc pc = .ok (.new idx, 3)) (hq : pc + 3 = q) (kk : ∀ z, V X nL b' (Wo g W0 a ci fs (Z ++ [(z, .inr (cj, f0))])) q lv (.ref z :: st)) : V X nL b (Wo g W0 a ci fs Z) pc lv st :=
  g_new O hci hin hty hcl hins hini hfs hm hb d hq (fun z => by have := kk z; unfold Wo at this; rw [wo_app] at this; exact this)
theorem k_vret {S : Type} {L : S → Heap → Prop} (O : OkC g X cc nL none own lvl mc (kQ g L)) (u : S) (d : decode cc pc = .ok (.return_, 1)) : V X nL b (L u) pc lv [] := by
  intro H lo ce sl ls h1 h2 h3 h4 h5
  unfold xW
  refine wq_mono O.2.2.2 ?_
  rw [O.1.rm] at h3 h4
  refine W.widen (k := mc) (n := 8 * mc) (Nat.le_trans (Nat.le_add_right _ _) h3) (Nat.le_trans (Nat.le_add_right _ _) h4) ?_
  have S2 := O.S h2
  exact W.vret O.1.ex O.1.bc O.1.rt (fun t ht hW => ⟨⟨u, rfl, trivial, show L u t.heap by rw [ht]; exact h1⟩, S2.F ht⟩) S2.2.2 d O.1.lk
/-- a constructor of the tables -/
theorem g_ctor {S : Type} {P : Heap → Prop} {L : S → Heap → Prop} (O : OkC g X cc nL ret own lvl mc Qc) {idx maxL n lvl' b' mc' z : Nat} {y : MethodName} {by_ : ByteArray} {As : List Value} (hM : MetK (xl X) g y by_ maxL lvl' mc' (.ref z :: As) P L) (hl : Cond.methodLink own idx y ∈ lw_all) (hini : Cond.initialized y.cls ∈ lw_all) (hin : Cond.instanceMethod y ∈ lw_all) (hco : Cond.code y by_ maxL none ∈ lw_all) (hyn : y.name = "<init>") (hd : y.cls ≠ "java/lang/invoke/MethodHandle" ∧ y.cls ≠ "java/lang/invoke/VarHandle" ∧ (parseMethodDescriptor y.desc).map (fun d => d.parameters.length) = some n) (hlv : lvl' + 1 ≤ lvl) (hml : maxL ≤ 40) (hn : As.length = n) (hst : st = As.reverse ++ .ref z :: rest) (hr : (rest.map fun v => v.category).sum ≤ 8) (d : decode cc pc = .ok (.invokespecial idx, 3)) (hq : pc + 3 = q) (hb : b' + mc' = b) (kk : ∀ u, V X nL b' (L u) q lv rest) : V X nL b P pc lv st := by
  subst hq
  subst hst
  subst hb
  intro H lo ce sl ls h1 h2 h3 h4 h5
  have S2 := O.S h2
  have hc := c_room (maxL := maxL) (mc' := mc') O hlv hml
  have hts := O.1.ts
  refine va_callv (A1 := cA g) (A0 := cA g) (va_runI (As := As) (rest := rest) ⟨O.1.ex, O.1.bc, O.1.ml, O.1.ow, hts⟩ hM ⟨⟨rfl, rfl, hc.1, hc.2, pay_in hts (lw_meth hco), List.mem_cons_self, hts _ hco, hts _ hini, ⟨hd.1, hd.2.1⟩, fun sig h => by have h2 := hd.2.2; rw [h] at h2; exact (Option.some.inj h2).symm, hts _ hl⟩, hyn, hts _ hin⟩ ⟨kPc_blind, fun U hU hW => ⟨rfl, by rw [hU]; exact h1, O.2.1.moved S2 hU hW⟩⟩ rfl hn h5.1 rfl (lv_room hr) d ⟨by omega, by omega⟩) S2 (fun q _ h => h) (fun q h => h) (fun u t H1 lo1 ht hvm hw hB hz hk hS1 => ?_)
  exact kk u H1 lo1 _ _ ls (by rw [← ht]; exact hB) (by rw [O.2.2.1]; exact hS1) (by omega) (by omega) h5
/-- .. of a nest mate -/
theorem g_ctorN {S : Type} {P : Heap → Prop} {L : S → Heap → Prop} (O : OkC g X cc nL ret own lvl mc Qc) {idx maxL n lvl' b' mc' z : Nat} {y : MethodName} {host : String} {by_ : ByteArray} {As : List Value} (hM : MetK (xl X) g y by_ maxL lvl' mc' (.ref z :: As) P L) (hl : Cond.methodLinkNest own idx y host ∈ lw_tbl) (hini : Cond.initialized y.cls ∈ lw_all) (hin : Cond.instanceMethod y ∈ lw_all) (hco : Cond.code y by_ maxL none ∈ lw_all) (hyn : y.name = "<init>") (hd : y.cls ≠ "java/lang/invoke/MethodHandle" ∧ y.cls ≠ "java/lang/invoke/VarHandle" ∧ (parseMethodDescriptor y.desc).map (fun d => d.parameters.length) = some n) (hlv : lvl' + 1 ≤ lvl) (hml : maxL ≤ 40) (hn : As.length = n) (hst : st = As.reverse ++ .ref z :: rest) (hr : (rest.map fun v => v.category).sum ≤ 8) (d : decode cc pc = .ok (.invokespecial idx, 3)) (hq : pc + 3 = q) (hb : b' + mc' = b) (kk : ∀ u, V X nL b' (L u) q lv rest) : V X nL b P pc lv st := by
  subst hq
  subst hst
  subst hb
  intro H lo ce sl ls h1 h2 h3 h4 h5
  have S2 := O.S h2
  have hts := O.1.ts
  refine va_callv (A1 := cA g) (A0 := cA g) (va_runIN (As := As) (rest := rest) ⟨O.1.ex, O.1.bc, O.1.ml, O.1.ow, hts⟩ hM ⟨va_cnB n hts (lw_meth hco) rfl rfl rfl (O.2.1.nest _ (List.mem_filter.mpr ⟨hl, rfl⟩)) (hts _ hini) hd (c_room O hlv hml), hyn, hts _ hin⟩ ⟨kPc_blind, fun U hU hW => ⟨rfl, by rw [hU]; exact h1, O.2.1.moved S2 hU hW⟩⟩ rfl hn h5.1 rfl (lv_room hr) d ⟨by omega, by omega⟩) S2 (fun q _ h => h) (fun q h => h) (fun u t H1 lo1 ht hvm hw hB hz hk hS1 => ?_)
  exact kk u H1 lo1 _ _ ls (by rw [← ht]; exact hB) (by rw [O.2.2.1]; exact hS1) (by omega) (by omega) h5
end CTOR
/-! the sources -/
theorem metk_Src_X15 (l : Launch) (g : gC) (a : Nat) (x : Int32) (W : va_W) : MetK (S := Unit) l g yX14_init cX14_init 2 1 0 [.ref a, .int x] (Wo g W a 5 [.int 0, .int 0, .int 0, .int 0, .int 0, .int 0, .int 0, .int 0, .int 0] []) (fun _ => Wo g W a 5 [.int x, .int 255, .int 0, .int 0, .int 0, .int 0, .int 0, .int 0, .int (-1)] []) :=
  g_body (by decide +kernel) rfl (Nat.le_of_ble_eq_true rfl) (fun X O hnm => by
    refine v_aload_n O.1 dX14_init_0 rfl (q := 1) rfl ?_
    refine g_obj O q731 (by decide) (Nat.le_of_ble_eq_true rfl) dX14_init_1 (q := 4) rfl ?_
    refine v_aload_n O.1 dX14_init_4 rfl (q := 5) rfl ?_
    refine v_sipush O.1 dX14_init_5 (v := 255) (by decide) (q := 8) rfl ?_
    refine k_put O (Cn := RX15) (T := TX15) (N := 9) 1 (v := .int 255) (ty := .int) in_X15 tyX15_ok nmX15 rfl (by decide) q735 (Or.inl rfl) rfl rfl rfl rfl (Nat.le_of_ble_eq_true rfl) dX14_init_8 (q := 11) rfl ?_
    refine v_aload_n O.1 dX14_init_11 rfl (q := 12) rfl ?_
    refine v_iconst O.1 dX14_init_12 (v := (-1)) rfl (q := 13) rfl ?_
    refine k_put O (Cn := RX15) (T := TX15) (N := 9) 8 (v := .int (-1)) (ty := .int) in_X15 tyX15_ok nmX15 rfl (by decide) q757 (Or.inl rfl) rfl rfl rfl rfl (Nat.le_of_ble_eq_true rfl) dX14_init_13 (q := 16) rfl ?_
    refine v_aload_n O.1 dX14_init_16 rfl (q := 17) rfl ?_
    refine v_iload_n O.1 dX14_init_17 rfl (q := 18) rfl ?_
    refine k_putF O hnm (Cn := RX15) (T := TX15) (N := 9) 0 (v := .int x) (ty := .int) in_X15 tyX15_ok nmX15 rfl (by decide) q732 rfl rfl rfl rfl rfl (Nat.le_of_ble_eq_true rfl) dX14_init_18 (q := 21) rfl ?_
    exact k_vret O () dX14_init_21)
theorem metk_Src_X16 (l : Launch) (g : gC) (a : Nat) (x : Int32) (W : va_W) : MetK (S := Unit) l g yX14_init cX14_init 2 1 0 [.ref a, .int x] (Wo g W a 6 [.int 0, .int 0, .int 0, .int 0, .int 0, .int 0, .int 0, .int 0, .int 0, .int 0] []) (fun _ => Wo g W a 6 [.int x, .int 255, .int 0, .int 0, .int 0, .int 0, .int 0, .int 0, .int (-1), .int 0] []) :=
  g_body (by decide +kernel) rfl (Nat.le_of_ble_eq_true rfl) (fun X O hnm => by
    refine v_aload_n O.1 dX14_init_0 rfl (q := 1) rfl ?_
    refine g_obj O q731 (by decide) (Nat.le_of_ble_eq_true rfl) dX14_init_1 (q := 4) rfl ?_
    refine v_aload_n O.1 dX14_init_4 rfl (q := 5) rfl ?_
    refine v_sipush O.1 dX14_init_5 (v := 255) (by decide) (q := 8) rfl ?_
    refine k_put O (Cn := RX16) (T := TX16) (N := 10) 1 (v := .int 255) (ty := .int) in_X16 tyX16_ok nmX16 rfl (by decide) q735 (Or.inl rfl) rfl rfl rfl rfl (Nat.le_of_ble_eq_true rfl) dX14_init_8 (q := 11) rfl ?_
    refine v_aload_n O.1 dX14_init_11 rfl (q := 12) rfl ?_
    refine v_iconst O.1 dX14_init_12 (v := (-1)) rfl (q := 13) rfl ?_
    refine k_put O (Cn := RX16) (T := TX16) (N := 10) 8 (v := .int (-1)) (ty := .int) in_X16 tyX16_ok nmX16 rfl (by decide) q757 (Or.inl rfl) rfl rfl rfl rfl (Nat.le_of_ble_eq_true rfl) dX14_init_13 (q := 16) rfl ?_
    refine v_aload_n O.1 dX14_init_16 rfl (q := 17) rfl ?_
    refine v_iload_n O.1 dX14_init_17 rfl (q := 18) rfl ?_
    refine k_putF O hnm (Cn := RX16) (T := TX16) (N := 10) 0 (v := .int x) (ty := .int) in_X16 tyX16_ok nmX16 rfl (by decide) q732 rfl rfl rfl rfl rfl (Nat.le_of_ble_eq_true rfl) dX14_init_18 (q := 21) rfl ?_
    exact k_vret O () dX14_init_21)
theorem metk_Src_X17 (l : Launch) (g : gC) (a : Nat) (x : Int32) (W : va_W) : MetK (S := Unit) l g yX14_init cX14_init 2 1 0 [.ref a, .int x] (Wo g W a 7 [.int 0, .int 0, .int 0, .int 0, .int 0, .int 0, .int 0, .int 0, .int 0] []) (fun _ => Wo g W a 7 [.int x, .int 255, .int 0, .int 0, .int 0, .int 0, .int 0, .int 0, .int (-1)] []) :=
  g_body (by decide +kernel) rfl (Nat.le_of_ble_eq_true rfl) (fun X O hnm => by
    refine v_aload_n O.1 dX14_init_0 rfl (q := 1) rfl ?_
    refine g_obj O q731 (by decide) (Nat.le_of_ble_eq_true rfl) dX14_init_1 (q := 4) rfl ?_
    refine v_aload_n O.1 dX14_init_4 rfl (q := 5) rfl ?_
    refine v_sipush O.1 dX14_init_5 (v := 255) (by decide) (q := 8) rfl ?_
    refine k_put O (Cn := RX17) (T := TX17) (N := 9) 1 (v := .int 255) (ty := .int) in_X17 tyX17_ok nmX17 rfl (by decide) q735 (Or.inl rfl) rfl rfl rfl rfl (Nat.le_of_ble_eq_true rfl) dX14_init_8 (q := 11) rfl ?_
    refine v_aload_n O.1 dX14_init_11 rfl (q := 12) rfl ?_
    refine v_iconst O.1 dX14_init_12 (v := (-1)) rfl (q := 13) rfl ?_
    refine k_put O (Cn := RX17) (T := TX17) (N := 9) 8 (v := .int (-1)) (ty := .int) in_X17 tyX17_ok nmX17 rfl (by decide) q757 (Or.inl rfl) rfl rfl rfl rfl (Nat.le_of_ble_eq_true rfl) dX14_init_13 (q := 16) rfl ?_
    refine v_aload_n O.1 dX14_init_16 rfl (q := 17) rfl ?_
    refine v_iload_n O.1 dX14_init_17 rfl (q := 18) rfl ?_
    refine k_putF O hnm (Cn := RX17) (T := TX17) (N := 9) 0 (v := .int x) (ty := .int) in_X17 tyX17_ok nmX17 rfl (by decide) q732 rfl rfl rfl rfl rfl (Nat.le_of_ble_eq_true rfl) dX14_init_18 (q := 21) rfl ?_
    exact k_vret O () dX14_init_21)
theorem metk_Src_X18 (l : Launch) (g : gC) (a : Nat) (x : Int32) (W : va_W) : MetK (S := Unit) l g yX14_init cX14_init 2 1 0 [.ref a, .int x] (Wo g W a 8 [.int 0, .int 0, .int 0, .int 0, .int 0, .int 0, .int 0, .int 0, .int 0] []) (fun _ => Wo g W a 8 [.int x, .int 255, .int 0, .int 0, .int 0, .int 0, .int 0, .int 0, .int (-1)] []) :=
  g_body (by decide +kernel) rfl (Nat.le_of_ble_eq_true rfl) (fun X O hnm => by
    refine v_aload_n O.1 dX14_init_0 rfl (q := 1) rfl ?_
    refine g_obj O q731 (by decide) (Nat.le_of_ble_eq_true rfl) dX14_init_1 (q := 4) rfl ?_
    refine v_aload_n O.1 dX14_init_4 rfl (q := 5) rfl ?_
    refine v_sipush O.1 dX14_init_5 (v := 255) (by decide) (q := 8) rfl ?_
    refine k_put O (Cn := RX18) (T := TX18) (N := 9) 1 (v := .int 255) (ty := .int) in_X18 tyX18_ok nmX18 rfl (by decide) q735 (Or.inl rfl) rfl rfl rfl rfl (Nat.le_of_ble_eq_true rfl) dX14_init_8 (q := 11) rfl ?_
    refine v_aload_n O.1 dX14_init_11 rfl (q := 12) rfl ?_
    refine v_iconst O.1 dX14_init_12 (v := (-1)) rfl (q := 13) rfl ?_
    refine k_put O (Cn := RX18) (T := TX18) (N := 9) 8 (v := .int (-1)) (ty := .int) in_X18 tyX18_ok nmX18 rfl (by decide) q757 (Or.inl rfl) rfl rfl rfl rfl (Nat.le_of_ble_eq_true rfl) dX14_init_13 (q := 16) rfl ?_
    refine v_aload_n O.1 dX14_init_16 rfl (q := 17) rfl ?_
    refine v_iload_n O.1 dX14_init_17 rfl (q := 18) rfl ?_
    refine k_putF O hnm (Cn := RX18) (T := TX18) (N := 9) 0 (v := .int x) (ty := .int) in_X18 tyX18_ok nmX18 rfl (by decide) q732 rfl rfl rfl rfl rfl (Nat.le_of_ble_eq_true rfl) dX14_init_18 (q := 21) rfl ?_
    exact k_vret O () dX14_init_21)
theorem metk_Line_X15 (l : Launch) (g : gC) (a : Nat) (x : Int32) (W : va_W) : MetK (S := Unit) l g yX15_init cX15_init 2 2 0 [.ref a, .int x] (Wo g W a 5 [.int 0, .int 0, .int 0, .int 0, .int 0, .int 0, .int 0, .int 0, .int 0] []) (fun _ => Wo g W a 5 [.int x, .int 255, .int 0, .int 0, .int 0, .int 0, .int 0, .int 0, .int (-1)] []) :=
  g_body (by decide +kernel) rfl (Nat.le_of_ble_eq_true rfl) (fun X O hnm => by
    refine v_aload_n O.1 dX15_init_0 rfl (q := 1) rfl ?_
    refine v_iload_n O.1 dX15_init_1 rfl (q := 2) rfl ?_
    refine g_ctor (S := Unit) (As := [.int x]) (rest := []) (n := 1) (b' := 0) (mc' := 0) O (metk_Src_X15 _ g a x W) q728 q78 q729 q730 rfl (by decide +kernel) (by decide) (by decide) rfl rfl (Nat.le_of_ble_eq_true rfl) dX15_init_2 (q := 5) rfl rfl (fun _ => ?_)
    exact k_vret O () dX15_init_5)
theorem metk_Line_X16 (l : Launch) (g : gC) (a : Nat) (x : Int32) (W : va_W) : MetK (S := Unit) l g yX15_init cX15_init 2 2 0 [.ref a, .int x] (Wo g W a 6 [.int 0, .int 0, .int 0, .int 0, .int 0, .int 0, .int 0, .int 0, .int 0, .int 0] []) (fun _ => Wo g W a 6 [.int x, .int 255, .int 0, .int 0, .int 0, .int 0, .int 0, .int 0, .int (-1), .int 0] []) :=
  g_body (by decide +kernel) rfl (Nat.le_of_ble_eq_true rfl) (fun X O hnm => by
    refine v_aload_n O.1 dX15_init_0 rfl (q := 1) rfl ?_
    refine v_iload_n O.1 dX15_init_1 rfl (q := 2) rfl ?_
    refine g_ctor (S := Unit) (As := [.int x]) (rest := []) (n := 1) (b' := 0) (mc' := 0) O (metk_Src_X16 _ g a x W) q728 q78 q729 q730 rfl (by decide +kernel) (by decide) (by decide) rfl rfl (Nat.le_of_ble_eq_true rfl) dX15_init_2 (q := 5) rfl rfl (fun _ => ?_)
    exact k_vret O () dX15_init_5)
theorem metk_Level (l : Launch) (g : gC) (a : Nat) (x : Int32) (W : va_W) : MetK (S := Unit) l g yX16_init cX16_init 2 3 0 [.ref a, .int x] (Wo g W a 6 [.int 0, .int 0, .int 0, .int 0, .int 0, .int 0, .int 0, .int 0, .int 0, .int 0] []) (fun _ => Wo g W a 6 [.int x, .int 255, .int 0, .int 0, .int 0, .int 0, .int 0, .int 0, .int (-1), .int 0] []) :=
  g_body (by decide +kernel) rfl (Nat.le_of_ble_eq_true rfl) (fun X O hnm => by
    refine v_aload_n O.1 dX16_init_0 rfl (q := 1) rfl ?_
    refine v_iload_n O.1 dX16_init_1 rfl (q := 2) rfl ?_
    refine g_ctor (S := Unit) (As := [.int x]) (rest := []) (n := 1) (b' := 0) (mc' := 0) O (metk_Line_X16 _ g a x W) q782 q79 q726 q727 rfl (by decide +kernel) (by decide) (by decide) rfl rfl (Nat.le_of_ble_eq_true rfl) dX16_init_2 (q := 5) rfl rfl (fun _ => ?_)
    exact k_vret O () dX16_init_5)
theorem metk_Inner (l : Launch) (g : gC) (a : Nat) (x : Int32) (W : va_W) : MetK (S := Unit) l g yX17_init cX17_init 2 2 0 [.ref a, .int x] (Wo g W a 7 [.int 0, .int 0, .int 0, .int 0, .int 0, .int 0, .int 0, .int 0, .int 0] []) (fun _ => Wo g W a 7 [.int x, .int 255, .int 0, .int 0, .int 0, .int 0, .int 0, .int 0, .int (-1)] []) :=
  g_body (by decide +kernel) rfl (Nat.le_of_ble_eq_true rfl) (fun X O hnm => by
    refine v_aload_n O.1 dX17_init_0 rfl (q := 1) rfl ?_
    refine v_iload_n O.1 dX17_init_1 rfl (q := 2) rfl ?_
    refine g_ctor (S := Unit) (As := [.int x]) (rest := []) (n := 1) (b' := 0) (mc' := 0) O (metk_Src_X17 _ g a x W) q800 q78 q729 q730 rfl (by decide +kernel) (by decide) (by decide) rfl rfl (Nat.le_of_ble_eq_true rfl) dX17_init_2 (q := 5) rfl rfl (fun _ => ?_)
    exact k_vret O () dX17_init_5)
theorem metk_Hard (l : Launch) (g : gC) (a : Nat) (x : Int32) (W : va_W) : MetK (S := Unit) l g yX18_init cX18_init 2 2 0 [.ref a, .int x] (Wo g W a 8 [.int 0, .int 0, .int 0, .int 0, .int 0, .int 0, .int 0, .int 0, .int 0] []) (fun _ => Wo g W a 8 [.int x, .int 255, .int 0, .int 1, .int 0, .int 0, .int 0, .int 0, .int (-1)] []) :=
  g_body (by decide +kernel) rfl (Nat.le_of_ble_eq_true rfl) (fun X O hnm => by
    refine v_aload_n O.1 dX18_init_0 rfl (q := 1) rfl ?_
    refine v_iload_n O.1 dX18_init_1 rfl (q := 2) rfl ?_
    refine g_ctor (S := Unit) (As := [.int x]) (rest := []) (n := 1) (b' := 0) (mc' := 0) O (metk_Src_X18 _ g a x W) q816 q78 q729 q730 rfl (by decide +kernel) (by decide) (by decide) rfl rfl (Nat.le_of_ble_eq_true rfl) dX18_init_2 (q := 5) rfl rfl (fun _ => ?_)
    refine v_aload_n O.1 dX18_init_5 rfl (q := 6) rfl ?_
    refine v_iconst O.1 dX18_init_6 (v := 1) rfl (q := 7) rfl ?_
    refine k_put O (Cn := RX18) (T := TX18) (N := 9) 3 (v := .int 1) (ty := .boolean) in_X18 tyX18_ok nmX18 rfl (by decide) q741 (Or.inr q742) rfl rfl rfl rfl (Nat.le_of_ble_eq_true rfl) dX18_init_7 (q := 10) rfl ?_
    exact k_vret O () dX18_init_10)
theorem X15fresh : ∀ j, j < 9 → defaultValue (tyX15 j) = vp_V [.int 0, .int 0, .int 0, .int 0, .int 0, .int 0, .int 0, .int 0, .int 0] j := by decide +kernel
theorem X16fresh : ∀ j, j < 10 → defaultValue (tyX16 j) = vp_V [.int 0, .int 0, .int 0, .int 0, .int 0, .int 0, .int 0, .int 0, .int 0, .int 0] j := by decide +kernel
theorem X17fresh : ∀ j, j < 9 → defaultValue (tyX17 j) = vp_V [.int 0, .int 0, .int 0, .int 0, .int 0, .int 0, .int 0, .int 0, .int 0] j := by decide +kernel
theorem X18fresh : ∀ j, j < 9 → defaultValue (tyX18 j) = vp_V [.int 0, .int 0, .int 0, .int 0, .int 0, .int 0, .int 0, .int 0, .int 0] j := by decide +kernel
/-! RankEntry.made -/
def srcF (k : Nat) : List Value := cSf k (fun j => if j = 1 then 255 else if j = 8 then -1 else if j = 3 ∧ k = 20 then 1 else 0)
def kQr {S : Type} (g : gC) (L : S → Nat → Heap → Prop) : Array Value → State → Outcome → State → Prop := va_Qr (fun (_ : S) => True) (fun u z t => L u z t.heap) (cA g)
theorem k_rret {S : Type} {n : String} {L : S → Nat → Heap → Prop} {g : gC} {X : Cxt} {cc : ByteArray} {nL b lvl mc : Nat} {own : String} {pc : Nat} {lv : List (Nat × Value)} (O : OkC g X cc nL (some (.object n)) own lvl mc (kQr g L)) (u : S) {z : Nat} (d : decode cc pc = .ok (.areturn, 1)) : V X nL b (L u z) pc lv [.ref z] := by
  intro H lo ce sl ls h1 h2 h3 h4 h5
  unfold xW
  refine wq_mono O.2.2.2 ?_
  rw [O.1.rm] at h3 h4
  refine W.widen (k := mc) (n := 8 * mc) (Nat.le_trans (Nat.le_add_right _ _) h3) (Nat.le_trans (Nat.le_add_right _ _) h4) ?_
  have S2 := O.S h2
  exact W.aret O.1.ex O.1.bc O.1.rt (Or.inl ⟨_, rfl⟩) (Or.inr ⟨_, rfl⟩) (fun t ht hW => ⟨⟨u, z, rfl, trivial, show L u z t.heap by rw [ht]; exact h1⟩, S2.F ht⟩) S2.2.2 d O.1.lk
theorem metk_made (l : Launch) (g : gC) (k : Nat) (hk : k < 21) (W : va_W) : Met l yX1_made (ws_ yX1_made cX1_made 1 (some (.object "RankEntry$Source"))) (rmz 4 2) (kPc g [.int (nI k)] (Wg g W)) (kQr g (fun (_ : Unit) z => Wg g (W ++ [(z, .inr (cSc k, srcF k))]))) 2 (8 * 2) (cA g) :=
  g_bodyN (by decide +kernel) rfl (Nat.le_of_ble_eq_true rfl) (fun X O hx hnm => by
    have e : W = W ++ [] := (List.append_nil W).symm
    refine v_iload_n O.1 dX1_made_0 rfl (q := 1) rfl ?_
    refine v_bipush O.1 dX1_made_1 (v := 8) (by decide) (q := 3) rfl ?_
    refine v_icmp_ge O.1 dX1_made_3 (t := 17) (by decide) (q := 6) rfl (fun c => ?_) (fun c => ?_)
    · have k1 : 8 ≤ k := by
        rcases Nat.lt_or_ge k 8 with z | z
        · exact absurd c (nI_ge (b := 8) z (by decide))
        · exact z
      refine v_iload_n O.1 dX1_made_17 rfl (q := 18) rfl ?_
      refine v_bipush O.1 dX1_made_18 (v := 16) (by decide) (q := 20) rfl ?_
      refine v_icmp_ge O.1 dX1_made_20 (t := 34) (by decide) (q := 23) rfl (fun c => ?_) (fun c => ?_)
      · have k2 : 16 ≤ k := by
          rcases Nat.lt_or_ge k 16 with z | z
          · exact absurd c (nI_ge (b := 16) z (by decide))
          · exact z
        refine v_iload_n O.1 dX1_made_34 rfl (q := 35) rfl ?_
        refine v_bipush O.1 dX1_made_35 (v := 20) (by decide) (q := 37) rfl ?_
        refine v_icmp_ge O.1 dX1_made_37 (t := 51) (by decide) (q := 40) rfl (fun c => ?_) (fun c => ?_)
        · have k3 : 20 ≤ k := by
            rcases Nat.lt_or_ge k 20 with z | z
            · exact absurd c (nI_ge (b := 20) z (by decide))
            · exact z
          have k20 : k = 20 := by omega
          refine g_new (b' := 0) (m := 2) (N := 9) (f0 := [.int 0, .int 0, .int 0, .int 0, .int 0, .int 0, .int 0, .int 0, .int 0]) (cj := 8) O rfl in_X18 tyX18_ok q811 q812 q82 (fun j hj => X18fresh j hj) (by decide) rfl dX1_made_51 (q := 54) rfl (fun z => ?_)
          refine v_dup O.1 dX1_made_54 rfl (q := 55) rfl ?_
          refine v_iload_n O.1 dX1_made_55 rfl (q := 56) rfl ?_
          refine g_ctor (S := Unit) (As := [.int (nI k)]) (rest := [.ref z]) (n := 1) (b' := 0) (mc' := 0) O (metk_Hard _ g z (nI k) W) q813 q82 q814 q815 rfl (by decide +kernel) (by decide) (by decide) rfl rfl (Nat.le_of_ble_eq_true rfl) dX1_made_56 (q := 59) rfl rfl (fun _ => ?_)
          have ec : cSc k = 8 := by unfold cSc; rw [if_neg (by omega), if_neg (by omega), if_neg (by omega)]
          have ef : srcF k = [.int (nI k), .int 255, .int 0, .int 1, .int 0, .int 0, .int 0, .int 0, .int (-1)] := by unfold srcF cSf; rw [if_neg (show ¬ (8 ≤ k ∧ k < 16) by omega)]; simp [k20]
          have e2 : Wo g W z 8 [.int (nI k), .int 255, .int 0, .int 1, .int 0, .int 0, .int 0, .int 0, .int (-1)] [] = Wg g (W ++ [(z, .inr (cSc k, srcF k))]) := by rw [ec, ef]; rfl
          rw [e2]
          exact k_rret (L := fun (_ : Unit) z => Wg g (W ++ [(z, .inr (cSc k, srcF k))])) O () dX1_made_59
        · have k3 : k < 20 := by
            rcases Nat.lt_or_ge k 20 with z | z
            · exact z
            · exact absurd (nI_le (a := 20) z (by omega)) c
          refine g_new (b' := 0) (m := 2) (N := 9) (f0 := [.int 0, .int 0, .int 0, .int 0, .int 0, .int 0, .int 0, .int 0, .int 0]) (cj := 7) O rfl in_X17 tyX17_ok q795 q796 q81 (fun j hj => X17fresh j hj) (by decide) rfl dX1_made_40 (q := 43) rfl (fun z => ?_)
          refine v_dup O.1 dX1_made_43 rfl (q := 44) rfl ?_
          refine v_iload_n O.1 dX1_made_44 rfl (q := 45) rfl ?_
          refine g_ctor (S := Unit) (As := [.int (nI k)]) (rest := [.ref z]) (n := 1) (b' := 0) (mc' := 0) O (metk_Inner _ g z (nI k) W) q797 q81 q798 q799 rfl (by decide +kernel) (by decide) (by decide) rfl rfl (Nat.le_of_ble_eq_true rfl) dX1_made_45 (q := 48) rfl rfl (fun _ => ?_)
          refine v_goto O.1 dX1_made_48 (t := 59) (by decide) ?_
          have ec : cSc k = 7 := by unfold cSc; rw [if_neg (by omega), if_neg (by omega), if_pos (by omega)]
          have ef : srcF k = [.int (nI k), .int 255, .int 0, .int 0, .int 0, .int 0, .int 0, .int 0, .int (-1)] := by unfold srcF cSf; rw [if_neg (show ¬ (8 ≤ k ∧ k < 16) by omega)]; simp [show ¬ k = 20 by omega]
          have e2 : Wo g W z 7 [.int (nI k), .int 255, .int 0, .int 0, .int 0, .int 0, .int 0, .int 0, .int (-1)] [] = Wg g (W ++ [(z, .inr (cSc k, srcF k))]) := by rw [ec, ef]; rfl
          rw [e2]
          exact k_rret (L := fun (_ : Unit) z => Wg g (W ++ [(z, .inr (cSc k, srcF k))])) O () dX1_made_59
      · have k2 : k < 16 := by
          rcases Nat.lt_or_ge k 16 with z | z
          · exact z
          · exact absurd (nI_le (a := 16) z (by omega)) c
        refine g_new (b' := 0) (m := 2) (N := 10) (f0 := [.int 0, .int 0, .int 0, .int 0, .int 0, .int 0, .int 0, .int 0, .int 0, .int 0]) (cj := 6) O rfl in_X16 tyX16_ok q777 q778 q80 (fun j hj => X16fresh j hj) (by decide) rfl dX1_made_23 (q := 26) rfl (fun z => ?_)
        refine v_dup O.1 dX1_made_26 rfl (q := 27) rfl ?_
        refine v_iload_n O.1 dX1_made_27 rfl (q := 28) rfl ?_
        refine g_ctor (S := Unit) (As := [.int (nI k)]) (rest := [.ref z]) (n := 1) (b' := 0) (mc' := 0) O (metk_Level _ g z (nI k) W) q779 q80 q780 q781 rfl (by decide +kernel) (by decide) (by decide) rfl rfl (Nat.le_of_ble_eq_true rfl) dX1_made_28 (q := 31) rfl rfl (fun _ => ?_)
        refine v_goto O.1 dX1_made_31 (t := 59) (by decide) ?_
        have ec : cSc k = 6 := by unfold cSc; rw [if_neg (by omega), if_pos (by omega)]
        have ef : srcF k = [.int (nI k), .int 255, .int 0, .int 0, .int 0, .int 0, .int 0, .int 0, .int (-1), .int 0] := by unfold srcF cSf; rw [if_pos (show 8 ≤ k ∧ k < 16 from ⟨k1, k2⟩)]; simp [show ¬ k = 20 by omega]
        have e2 : Wo g W z 6 [.int (nI k), .int 255, .int 0, .int 0, .int 0, .int 0, .int 0, .int 0, .int (-1), .int 0] [] = Wg g (W ++ [(z, .inr (cSc k, srcF k))]) := by rw [ec, ef]; rfl
        rw [e2]
        exact k_rret (L := fun (_ : Unit) z => Wg g (W ++ [(z, .inr (cSc k, srcF k))])) O () dX1_made_59
    · have k1 : k < 8 := by
        rcases Nat.lt_or_ge k 8 with z | z
        · exact z
        · exact absurd (nI_le (a := 8) z (by omega)) c
      refine g_new (b' := 0) (m := 2) (N := 9) (f0 := [.int 0, .int 0, .int 0, .int 0, .int 0, .int 0, .int 0, .int 0, .int 0]) (cj := 5) O rfl in_X15 tyX15_ok q723 q724 q79 (fun j hj => X15fresh j hj) (by decide) rfl dX1_made_6 (q := 9) rfl (fun z => ?_)
      refine v_dup O.1 dX1_made_9 rfl (q := 10) rfl ?_
      refine v_iload_n O.1 dX1_made_10 rfl (q := 11) rfl ?_
      refine g_ctor (S := Unit) (As := [.int (nI k)]) (rest := [.ref z]) (n := 1) (b' := 0) (mc' := 0) O (metk_Line_X15 _ g z (nI k) W) q725 q79 q726 q727 rfl (by decide +kernel) (by decide) (by decide) rfl rfl (Nat.le_of_ble_eq_true rfl) dX1_made_11 (q := 14) rfl rfl (fun _ => ?_)
      refine v_goto O.1 dX1_made_14 (t := 59) (by decide) ?_
      have ec : cSc k = 5 := by unfold cSc; rw [if_pos (by omega)]
      have ef : srcF k = [.int (nI k), .int 255, .int 0, .int 0, .int 0, .int 0, .int 0, .int 0, .int (-1)] := by unfold srcF cSf; rw [if_neg (show ¬ (8 ≤ k ∧ k < 16) by omega)]; simp [show ¬ k = 20 by omega]
      have e2 : Wo g W z 5 [.int (nI k), .int 255, .int 0, .int 0, .int 0, .int 0, .int 0, .int 0, .int (-1)] [] = Wg g (W ++ [(z, .inr (cSc k, srcF k))]) := by rw [ec, ef]; rfl
      rw [e2]
      exact k_rret (L := fun (_ : Unit) z => Wg g (W ++ [(z, .inr (cSc k, srcF k))])) O () dX1_made_59)
/-! Ways -/
abbrev wayW (g : gC) (a cd : Nat) (u : Nat × Nat × Nat × Nat) : va_W := [(a, .inr (3, [.ref cd, .ref u.1, .ref u.2.1, .ref u.2.2.1, .ref u.2.2.2, .int 0])), (u.1, .inl (gCk g 0, 512, .inl (fun _ => 0))), (u.2.1, .inl (gCk g 0, 512, .inl (fun _ => 0))), (u.2.2.1, .inl (gCk g 0, 512, .inl (fun _ => 0))), (u.2.2.2, .inl (gCk g 0, 512, .inl (fun _ => 0)))]
theorem metk_Ways (l : Launch) (g : gC) (a cd : Nat) (W : va_W) : MetK (S := Nat × Nat × Nat × Nat) l g yX19_init cX19_init 2 1 256 [.ref a, .ref cd] (Wo g W a 3 [.null, .null, .null, .null, .null, .int 0] []) (fun u => Wg g (W ++ wayW g a cd u)) :=
  g_body (by decide +kernel) rfl (Nat.le_of_ble_eq_true rfl) (fun X O hnm => by
    refine v_aload_n O.1 dX19_init_0 rfl (q := 1) rfl ?_
    refine g_obj O q1055 (by decide) (Nat.le_of_ble_eq_true rfl) dX19_init_1 (q := 4) rfl ?_
    refine v_aload_n O.1 dX19_init_4 rfl (q := 5) rfl ?_
    refine v_sipush O.1 dX19_init_5 (v := 512) (by decide) (q := 8) rfl ?_
    refine k_newa (atype := .int) (i := 0) (n := 512) (N' := 512) (m := 64) (b' := 192) (x := (512, .inl (fun _ => 0))) O q281 rfl rfl (fun _ => rfl) (by decide) rfl (by decide) (by decide) rfl dX19_init_8 (q := 10) rfl (fun z0 => ?_)
    refine k_putF O hnm (Cn := RX19) (T := TX19) (N := 6) 1 (v := .ref z0) (ty := .array .int) in_X19 tyX19_ok nmX19 rfl (by decide) q1057 rfl rfl rfl rfl rfl (Nat.le_of_ble_eq_true rfl) dX19_init_10 (q := 13) rfl ?_
    refine v_aload_n O.1 dX19_init_13 rfl (q := 14) rfl ?_
    refine v_sipush O.1 dX19_init_14 (v := 512) (by decide) (q := 17) rfl ?_
    refine k_newa (atype := .int) (i := 0) (n := 512) (N' := 512) (m := 64) (b' := 128) (x := (512, .inl (fun _ => 0))) O q281 rfl rfl (fun _ => rfl) (by decide) rfl (by decide) (by decide) rfl dX19_init_17 (q := 19) rfl (fun z1 => ?_)
    refine k_putF O hnm (Cn := RX19) (T := TX19) (N := 6) 2 (v := .ref z1) (ty := .array .int) in_X19 tyX19_ok nmX19 rfl (by decide) q1059 rfl rfl rfl rfl rfl (Nat.le_of_ble_eq_true rfl) dX19_init_19 (q := 22) rfl ?_
    refine v_aload_n O.1 dX19_init_22 rfl (q := 23) rfl ?_
    refine v_sipush O.1 dX19_init_23 (v := 512) (by decide) (q := 26) rfl ?_
    refine k_newa (atype := .int) (i := 0) (n := 512) (N' := 512) (m := 64) (b' := 64) (x := (512, .inl (fun _ => 0))) O q281 rfl rfl (fun _ => rfl) (by decide) rfl (by decide) (by decide) rfl dX19_init_26 (q := 28) rfl (fun z2 => ?_)
    refine k_putF O hnm (Cn := RX19) (T := TX19) (N := 6) 3 (v := .ref z2) (ty := .array .int) in_X19 tyX19_ok nmX19 rfl (by decide) q1061 rfl rfl rfl rfl rfl (Nat.le_of_ble_eq_true rfl) dX19_init_28 (q := 31) rfl ?_
    refine v_aload_n O.1 dX19_init_31 rfl (q := 32) rfl ?_
    refine v_sipush O.1 dX19_init_32 (v := 512) (by decide) (q := 35) rfl ?_
    refine k_newa (atype := .int) (i := 0) (n := 512) (N' := 512) (m := 64) (b' := 0) (x := (512, .inl (fun _ => 0))) O q281 rfl rfl (fun _ => rfl) (by decide) rfl (by decide) (by decide) rfl dX19_init_35 (q := 37) rfl (fun z3 => ?_)
    refine k_putF O hnm (Cn := RX19) (T := TX19) (N := 6) 4 (v := .ref z3) (ty := .array .int) in_X19 tyX19_ok nmX19 rfl (by decide) q1062 rfl rfl rfl rfl rfl (Nat.le_of_ble_eq_true rfl) dX19_init_37 (q := 40) rfl ?_
    refine v_aload_n O.1 dX19_init_40 rfl (q := 41) rfl ?_
    refine v_aload_n O.1 dX19_init_41 rfl (q := 42) rfl ?_
    refine k_putF O hnm (Cn := RX19) (T := TX19) (N := 6) 0 (v := .ref cd) (ty := .object "RankEntry$Code") in_X19 tyX19_ok nmX19 rfl (by decide) q1056 rfl rfl rfl rfl rfl (Nat.le_of_ble_eq_true rfl) dX19_init_42 (q := 45) rfl ?_
    exact k_vret (L := fun u => Wg g (W ++ wayW g a cd u)) O (z0, z1, z2, z3) dX19_init_45)
