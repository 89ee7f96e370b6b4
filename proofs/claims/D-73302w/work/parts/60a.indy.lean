/-! FUNCTION OBJECTS ARE MADE: invokedynamic of a linked site; RankEntry.by, Core.splits -/
section SHAPE
variable {α : Type}
theorem m15_some {x : Array Nat} {f : Nat → Nat → Nat → Option α} {r : α} (h : Lambda.shapeOf?.match_15 (fun _ => Option α) x f (fun _ => none) = some r) : ∃ a b c, f a b c = some r := by
  rcases x with ⟨L⟩
  match L, h with
  | [], h => cases h
  | [_], h => cases h
  | [_, _], h => cases h
  | [a, b, c], h => exact ⟨a, b, c, h⟩
  | _ :: _ :: _ :: _ :: _, h => cases h
theorem m19_some {x : Option CpInfo} {f : Nat → Nat → Option α} {r : α} (h : Lambda.shapeOf?.match_19 (fun _ => Option α) x f (fun _ => none) = some r) : ∃ b nt, x = some (.invokeDynamic b nt) ∧ f b nt = some r := by
  split at h
  · exact ⟨_, _, rfl, h⟩
  · cases h
theorem m17_some {x : Option CpInfo} {f : Nat → Option α} {r : α} (h : Lambda.shapeOf?.match_17 (fun _ => Option α) x f (fun _ => none) = some r) : ∃ y, f y = some r := by
  split at h
  · exact ⟨_, h⟩
  · cases h
theorem m9_some {x : Option CpInfo} {f : Nat → Option α} {r : α} (h : Lambda.shapeOf?.match_9 (fun _ => Option α) x f (fun _ => none) = some r) : ∃ y, f y = some r := by
  split at h
  · exact ⟨_, h⟩
  · cases h
theorem m12_some {x : Option CpInfo} {f : Nat → Nat → Option α} {r : α} (h : Lambda.shapeOf?.match_12 (fun _ => Option α) x f (fun _ => none) = some r) : ∃ y z, f y z = some r := by
  split at h
  · exact ⟨_, _, h⟩
  · cases h
theorem m6_some {x : Option FieldType} {f : String → Option α} {r : α} (h : Lambda.shapeOf?.match_6 (fun _ => Option α) x f (fun _ => none) = some r) : ∃ y, f y = some r := by
  split at h
  · exact ⟨_, h⟩
  · cases h
end SHAPE
theorem shape_cp {cf : ClassFile} {index : Nat} {σ : Lambda.Shape} (h : Lambda.shapeOf? cf index = some σ) : ∃ (b nt : Nat) (name desc : String) (site : MethodDescriptor), cf.constantPool[index]? = some (.invokeDynamic b nt) ∧ cf.constantPool.nameAndType? nt = some (name, desc) ∧ parseMethodDescriptor desc = some site ∧ site.parameters = σ.captured := by
  unfold Lambda.shapeOf? at h
  obtain ⟨b, nt, hc, h⟩ := m19_some h
  obtain ⟨_, -, h⟩ := Option.bind_eq_some_iff.mp h
  obtain ⟨_, -, h⟩ := Option.bind_eq_some_iff.mp h
  obtain ⟨_, h⟩ := m17_some h
  obtain ⟨_, -, h⟩ := Option.bind_eq_some_iff.mp h
  obtain ⟨_, _, _, h⟩ := m15_some h
  obtain ⟨_, h⟩ := m9_some h
  obtain ⟨_, _, h⟩ := m12_some h
  obtain ⟨_, h⟩ := m9_some h
  obtain ⟨⟨name, desc⟩, h1, h⟩ := Option.bind_eq_some_iff.mp h
  obtain ⟨site, h2, h⟩ := Option.bind_eq_some_iff.mp h
  obtain ⟨_, h⟩ := m6_some h
  obtain ⟨⟨_, _, _, _⟩, -, h⟩ := Option.bind_eq_some_iff.mp h
  obtain ⟨_, -, h⟩ := Option.bind_eq_some_iff.mp h
  obtain ⟨_, -, h⟩ := Option.bind_eq_some_iff.mp h
  obtain ⟨_, -, h⟩ := Option.bind_eq_some_iff.mp h
  obtain ⟨_, -, h⟩ := Option.bind_eq_some_iff.mp h
  obtain ⟨_, -, h⟩ := Option.bind_eq_some_iff.mp h
  cases h
  exact ⟨b, nt, _, desc, site, hc, h1, h2, rfl⟩
theorem arr1 {cK : ClassId} {f : Nat → Value} : arrV cK 1 f = { cls := cK, slots := #[f 0], vm := .none } := by
  unfold arrV
  congr 1
def LamT (σ : Lambda.Shape) (caller : String) (t : FieldType) : Prop := ∃ (D : ClassFile) (laid : Array Field × Array FieldType × Array FieldType), σ.file caller = some D ∧ layoutFields D 0 = some laid ∧ laid.2.1 = #[t]
theorem LamT.mk {σ : Lambda.Shape} {caller : String} {t : FieldType} (h1 : (σ.file caller).isSome = true) (h2 : (layoutFields (lamFile σ caller) 0).isSome = true) (h3 : (lamLaid σ caller).2.1 = #[t]) : LamT σ caller t := by
  refine ⟨lamFile σ caller, lamLaid σ caller, ?_, ?_, h3⟩
  · obtain ⟨x, hx⟩ := Option.isSome_iff_exists.mp h1
    simp [lamFile, hx]
  · obtain ⟨x, hx⟩ := Option.isSome_iff_exists.mp h2
    simp [lamLaid, hx]
theorem lam_types {vm : Vm} {d c : ClassId} {dk : Class} {σ : Lambda.Shape} {caller : String} {t : FieldType} (hT : LamT σ caller t) (hd : vm.classes[d]? = some dk) (hname : dk.name = caller) (h : Lambda.isMade lamE0 vm d σ c = true) (hO : ∀ o ok, vm.findClass "java/lang/Object" = some o → vm.classes[o]? = some ok → ok.instanceTypes.size = 0) : ∃ k, vm.classes[c]? = some k ∧ k.instanceTypes = #[t] ∧ k.kind = .ordinary := by
  obtain ⟨D, laid, hfile0, hl0, e1⟩ := hT
  obtain ⟨dk', k, ok, tk, file, cf, object, iface, toy, lay, methods, target, found, hd', hk, hfile, hcf, hobj, -, hok, hlay, hms, ht, htk, hg, -, hrec, -, -, -, hitf, hpool, hmeth, hfields, hit, hres, -⟩ := Lambda.isMade_spec h
  cases hd.symm.trans hd'
  rw [hname, hfile0] at hcf
  cases hcf
  have h0 := hO object ok hobj hok
  rw [h0, hl0] at hlay
  cases hlay
  refine ⟨k, hk, ?_, hrec.2.1⟩
  rw [hit.1, e1, Array.eq_empty_of_size_eq_zero h0]
  rfl
section LAMK
variable {p : Program} {l : Launch} {e : Env} {R : Room} {s : State} {m : MethodId} {args : Array Value} {below : List Frame} {meth : Method} {c : Code} {H : Heap} {locs : List Loc} {cells slots : Nat} {Q : State → Prop} {cc : ByteArray} {pc : Nat} {ls : Array Slot} {rest : List Value}
/-- a function object that holds one value -/
theorem lam_mk (hexec : p.tables.exec = Jvm.exec) (hb : c.code = cc) {x : MethodName} {index : Nat} {σ : Lambda.Shape} {cK : ClassId} {t : FieldType} {v : Value} (hx : s.methodNamed? x = some m) (hsite : s.lambdaAt? x pc index σ = some (cK, none)) (hcap : σ.captured = [t]) (hty : ∃ kc, s.vm.classes[cK]? = some kc ∧ kc.instanceTypes = #[t] ∧ kc.kind = .ordinary) (hn : narrow t v = v) (hf : fits t v = true) (hsize : ls.size = c.maxLocals) (hwords : ((v :: rest).map fun v => v.category).sum + 3072 ≤ R.locals) (hcells : cells + 1 ≤ R.cells) (hslots : slots + 1 ≤ R.slots) (d : decode cc pc = .ok (.invokedynamic index, 5))
    (kk : W p l e R s m args below meth c (H.push { cls := cK, slots := #[v], vm := .none }) locs (cells + 1) (slots + 1) Q (F0 m (pc + 5) ls (.ref H.size :: rest))) : W p l e R s m args below meth c H locs cells slots Q (F0 m pc ls (v :: rest)) := by
  intro T hT X
  subst hT
  obtain ⟨m', k, cf, i0, p0, lk, hm, hk, hcf, hsh, -, hfind, hmade, -, hl⟩ := State.lambdaAt?_spec hsite
  cases hx.symm.trans hm
  obtain ⟨b, nt, name, desc, site, hc, hnt, hsig, hpar⟩ := shape_cp hsh
  rcases hl with ⟨a, cell, -, h1, -⟩ | ⟨rfl, -, -⟩
  · cases h1
  obtain ⟨kc, hkc, hit, hkind⟩ := hty
  have e0 : ((kc.instanceTypes.toList.zip [v]).map fun (t, v) => narrow t v) = [v] := by
    rw [hit]
    show [narrow t v] = [v]
    rw [hn]
  have hlw : e.platform.lambdaLinkWords = 3072 := by rw [X.admits.platform]
  have key := X.lambdaMakes hexec (g := F0 m pc ls (v :: rest)) rfl hsize (by rw [hb]; exact d) (vals := [v]) (rest := rest) hk hfind hcf hc hnt (parseLong_of_parse hsig) (by rw [hpar, hcap]; rfl) rfl hkc (by rw [hlw]; show 2 * 0 + ((v :: rest).map fun v => v.category).sum + 3072 ≤ R.locals; omega) hcells (by rw [e0]; exact hslots) (by
    rw [e0]
    intro i w hw
    cases i with
    | zero =>
      have hw : some v = some w := hw
      cases hw
      simp [State.fitsSlot, State.slotType?, hkc, hit, hf, hkind]
    | succ i => simp at hw)
  rw [e0] at key
  obtain ⟨X', hst⟩ := key
  obtain ⟨t1, a1, b1⟩ := kk _ rfl X'
  exact ⟨t1, hst _ a1, b1⟩
end LAMK
/-- a method's body, by its walk; its name -/
theorem g_bodyN {l : Launch} {y : MethodName} {cc : ByteArray} {nL : Nat} {ret : Option FieldType} {own : String} {lvl mc : Nat} {as : List Value} {g : gC} {Pw : Heap → Prop} {Qc : Array Value → State → Outcome → State → Prop} (hy : plainFor y = true) (hc : y.cls = own) (hlen : (lg_sl as).length ≤ nL) (h : ∀ X, OkC g X cc nL ret own lvl mc Qc → (xs X).methodNamed? y = some (xm X) → (xh X).name = y.name → V X nL mc Pw 0 (lv_args 0 as) []) : Met l y (ws_ y cc nL ret) (rmz lvl mc) (va_Pc as (fun U => Pw U.heap ∧ KC g U)) Qc mc (8 * mc) (cA g) := by
  refine MetFree.of_bodySF (code := cc) (maxLocals := nL) (ret := ret) hy ?_ ?_
  · intro args s m h hn
    obtain ⟨meth, c, h1, h2, h3, h4, h5, h6, -, -⟩ := Cond.code_spec hn (atoms_spec (ws := ws_ y cc nL ret) h _ List.mem_cons_self)
    exact ⟨meth, c, h1, h2, h3, h4, h5, h6⟩
  · intro p e s m args below meth c s₁ B hml hP _
    have hh0 : s₁.heap = s.heap := by rw [B.state]; rfl
    obtain ⟨rfl, hW, hK⟩ := hP
    have hts := atoms_spec (ws := ws_ y cc nL ret) B.pre
    have hts : ∀ w ∈ lw_all, w.before _ s = true := fun w h => hts w (List.mem_cons_of_mem _ h)
    have hown : s.vm.findClass y.cls = some m.cls := findClass_of_methodNamed B.named
    have hnm := (name_of_methodNamed B.named B.method).1
    rw [hc] at hown
    have hl := lv_entry as hlen
    rw [lg_entry_eq]
    obtain ⟨t, a1, o, b1, b2, b3⟩ := h (p, l, e, rmz lvl mc, s, m, as.toArray, below, meth, c, MQ below Qc as.toArray s mc (8 * mc) (cA g), cA g) ⟨⟨B.exec, B.bytes, hml, hown, hts, B.returns, B.notSynchronized, rfl⟩, hK, rfl, fun _ h => h⟩ B.named hnm s.heap [] 0 0 _ hW va_S.rf (by rw [Nat.zero_add]; exact Nat.le_refl _) (by rw [Nat.zero_add]; exact Nat.le_refl _) hl s₁ hh0 (Stand.of_body B)
    exact ⟨t, o, a1, b1, b2, ⟨b3.1, b3.2⟩⟩
def gQr (g : gC) (f : Nat → va_W) : Array Value → State → Outcome → State → Prop := va_Qr (fun (_ : Unit) => True) (fun _ a t => Wg g (f a) t.heap) (cA g)
section GINDY
variable {g : gC} {X : Cxt} {cc : ByteArray} {nL b lvl mc : Nat} {ret : Option FieldType} {own : String} {Qc : Array Value → State → Outcome → State → Prop} {pc q : Nat} {lv : List (Nat × Value)} {st rest : List Value} {C C' : Mem} {ws : va_W}
/-- a new cell at the heap's end -/
theorem g_push (O : OkC g X cc nL ret own lvl mc Qc) {H : Heap} {lo : List Loc} {e : va_E} {ce : Cell} (h1 : Wg g ws H) (h2 : va_S (xA X) (xs X).heap H lo) (he : ∃ (cK : ClassId) (a : vp_A), e = .inl (cK, a) ∧ vp_cell cK a = ce) : Wg g (ws ++ [(H.size, e)]) (H.push ce) ∧ va_S (xA X) (xs X).heap (H.push ce) lo := by
  obtain ⟨hP, hD⟩ := h1
  have S2 := O.S h2
  have o1 : ∀ q : Nat, q < H.size → (H.push ce)[q]? = H[q]? := fun q hq => by rw [Array.getElem?_push, if_neg (Nat.ne_of_lt hq)]
  have hk : ∀ (k : Nat) (x : Nat × va_E), ws[k]? = some x → (H.push ce)[x.1]? = H[x.1]? := fun k x hx => o1 x.1 ((hP k x hx).lt)
  refine ⟨⟨(hP.kept hk).app (fun k x hx => ?_), hD.push hP rfl (O.free _ S2.1)⟩, ?_⟩
  · have hz : k < 1 := (List.getElem?_eq_some_iff.mp hx).1
    rw [show k = 0 by omega] at hx
    cases hx
    obtain ⟨cK, a, rfl, ha⟩ := he
    show (H.push ce)[H.size]? = some (vp_cell _ _)
    rw [ha, Array.getElem?_push_size]
  · rw [O.2.2.1]
    exact ⟨by rw [Array.size_push]; have := S2.1; omega, fun x z1 z2 => (o1 x (Nat.lt_of_lt_of_le z1 S2.1)).trans (S2.2.1 x z1 z2), S2.2.2⟩
theorem g_indy (O : OkC g X cc nL ret own lvl mc Qc) {x : MethodName} {index k : Nat} {σ : Lambda.Shape} {t : FieldType} {v : Value} {e : va_E} (hx : (xs X).methodNamed? x = some (xm X)) (hs : (x, pc, index, σ, k, (none : Option Nat)) ∈ lamSites) (hT : LamT σ x.cls t) (hcap : σ.captured = [t]) (hn : narrow t v = v) (hf : fits t v = true) (he : ∃ a : vp_A, e = .inl (gCk g k, a) ∧ vp_cell (gCk g k) a = { cls := gCk g k, slots := #[v], vm := .none }) (hr : ((v :: st).map fun v => v.category).sum ≤ 100) (d : decode cc pc = .ok (.invokedynamic index, 5)) (hq : pc + 5 = q) (kk : ∀ a, V X nL b (Wg g (ws ++ [(a, e)])) q lv (.ref a :: st)) : V X nL (b + 1) (Wg g ws) pc lv (v :: st) := by
  subst hq
  intro H lo ce sl ls h1 h2 h3 h4 h5
  have hsite := O.2.1.lam.1 _ hs
  obtain ⟨d0, dk, hd, hdn, hmade, hcan, -⟩ := O.2.1.site hs
  have hty := lam_types hT hd hdn hmade (ts_obj O.1 (State.WarmedH.refl (xs X)))
  obtain ⟨a, ha, hce⟩ := he
  obtain ⟨p1, p2⟩ := g_push O (e := e) h1 h2 ⟨_, a, ha, hce⟩
  refine lam_mk O.1.ex O.1.bc hx hsite hcap hty hn hf (h5.1.trans O.1.ml.symm) ?_ (by omega) (by omega) d (kk H.size _ lo _ _ ls p1 p2 (by omega) (by omega) h5)
  rw [O.1.rm]
  show _ + 3072 ≤ 60 * lvl + 3200
  omega
theorem g_rret {n : String} {f : Nat → va_W} (O : OkC g X cc nL (some (.object n)) own lvl mc (gQr g f)) {a : Nat} (d : decode cc pc = .ok (.areturn, 1)) : V X nL b (Wg g (f a)) pc lv [.ref a] := by
  intro H lo ce sl ls h1 h2 h3 h4 h5
  unfold xW
  refine wq_mono O.2.2.2 ?_
  rw [O.1.rm] at h3 h4
  refine W.widen (k := mc) (n := 8 * mc) (Nat.le_trans (Nat.le_add_right _ _) h3) (Nat.le_trans (Nat.le_add_right _ _) h4) ?_
  have S2 := O.S h2
  exact W.aret O.1.ex O.1.bc O.1.rt (Or.inl ⟨_, rfl⟩) (Or.inr ⟨_, rfl⟩) (fun t ht hW => ⟨⟨(), a, rfl, trivial, show Wg g _ t.heap by rw [ht]; exact h1⟩, S2.F ht⟩) S2.2.2 d O.1.lk
end GINDY
theorem lt_A : LamT lshA "RankEntry" .int := LamT.mk (by decide +kernel) (by decide +kernel) (by decide +kernel)
/-- RankEntry.by -/
theorem metg_by (l : Launch) (g : gC) (v : Int32) (ws : va_W) : Met l yX1_by (ws_ yX1_by cX1_by 1 (some (.object "RankEntry$Ahead"))) (rmz 0 1) (gPc g [.int v] ws) (gQr g (fun a => ws ++ [(a, lamE g v)])) 1 8 (cA g) :=
  g_bodyN (by decide +kernel) rfl (Nat.le_of_ble_eq_true rfl) (fun X O hx hnm => by
    refine v_iload_n O.1 dX1_by_0 rfl (q := 1) rfl ?_
    refine g_indy (b := 0) (e := lamE g v) O hx (show (yX1_by, 1, 1, lshA, 20, (none : Option Nat)) ∈ lamSites from List.mem_of_getElem? (i := 10) rfl) lt_A rfl rfl rfl ⟨(1, .inl (fun _ => v)), rfl, arr1 (f := fun _ => .int v)⟩ (Nat.le_of_ble_eq_true rfl) dX1_by_1 (q := 6) rfl (fun a => ?_)
    exact g_rret (f := fun a => ws ++ [(a, lamE g v)]) O dX1_by_6)
section GBY
variable {g : gC} {X : Cxt} {cc : ByteArray} {nL b lvl mc : Nat} {ret : Option FieldType} {own : String} {Qc : Array Value → State → Outcome → State → Prop} {pc q : Nat} {lv : List (Nat × Value)} {st rest : List Value} {C C' : Mem} {ws : va_W}
/-- a call of by -/
theorem g_callBy (O : OkC g X cc nL ret own lvl mc Qc) {idx b' : Nat} {v : Int32} {host : String} (hl : Cond.methodLinkNest own idx yX1_by host ∈ lw_tbl) (hlv : 1 ≤ lvl) (hst : st = .int v :: rest) (hr : (rest.map fun v => v.category).sum ≤ 8) (d : decode cc pc = .ok (.invokestatic idx, 3)) (hq : pc + 3 = q) (hb : b' + 1 = b) (kk : ∀ a, V X nL b' (Wg g (ws ++ [(a, lamE g v)])) q lv (.ref a :: rest)) : V X nL b (Wg g ws) pc lv st := by
  subst hq
  subst hst
  subst hb
  intro H lo ce sl ls h1 h2 h3 h4 h5
  have S2 := O.S h2
  refine va_callr (A1 := cA g) (A0 := cA g) (va_runSN (As := [.int v]) (rest := rest) ⟨O.1.ex, O.1.bc, O.1.ml, O.1.ow, O.1.ts⟩ (metg_by (xl X) g v ws) ⟨va_cnB 1 O.1.ts (lw_meth q705) rfl rfl rfl (O.2.1.nest _ (List.mem_filter.mpr ⟨hl, rfl⟩)) (O.1.ts _ q59) (by decide +kernel) (c_room O hlv (by decide)), O.1.ts _ q704, trivial⟩ ⟨gPc_blind, fun U hU hW => ⟨rfl, by rw [hU]; exact h1, O.2.1.moved S2 hU hW⟩⟩ rfl rfl h5.1 rfl (lv_room hr) d ⟨by omega, by omega⟩) S2 (fun q _ h => h) (fun q h => h) (fun u ra t H1 lo1 ht hvm hw hB hz hk hS1 => ?_)
  exact kk ra H1 lo1 _ _ ls (by rw [← ht]; exact hB) (by rw [O.2.2.1]; exact hS1) (by omega) (by omega) h5
/-- ahead = by(v) -/
theorem c_byA (O : OkC g X cc nL ret own lvl mc Qc) {c idx i2 b' : Nat} {v : Int32} {host : String} (hc : cC c) (hl : Cond.methodLinkNest own idx yX1_by host ∈ lw_tbl) (hl2 : Cond.fieldLink own i2 "RankEntry$Core" "ahead" "LRankEntry$Ahead;" ∈ lw_all) (hlv : 1 ≤ lvl) (hr : (st.map fun v => v.category).sum ≤ 7) (d : decode cc pc = .ok (.invokestatic idx, 3)) (d2 : decode cc (pc + 3) = .ok (.putfield i2, 3)) (hq : pc + 6 = q) (hb : b' + 1 = b) (hC : C' = up2 C c 27 v) (kk : V X nL b' (WdC g C') q lv st) : V X nL b (WdC g C) pc lv (.int v :: .ref (gCa g c) :: st) := by
  subst hq
  subst hC
  intro H lo ce sl ls h1 h2 h3 h4 h5
  obtain ⟨Y, ah, ev, hP, hD, hY⟩ := h1
  refine g_callBy (ws := cWs g C ah ev ++ Y) (rest := .ref (gCa g c) :: st) (b' := b') O hl hlv rfl (by show 1 + (st.map fun v => v.category).sum ≤ 8; omega) d rfl hb (fun a => ?_) H lo ce sl ls ⟨hP, hD⟩ h2 h3 h4 h5
  intro H lo ce sl ls h1 h2 h3 h4 h5
  obtain ⟨hP, hD⟩ := h1
  rw [List.append_assoc] at hP hD
  have hg : (cWs g C ah ev ++ (Y ++ [(a, lamE g v)]))[c]? = some (gCa g c, .inr (2, cFs g c (C c) (ah c))) := by rw [cWs_get (show c < 95 by rcases hc with rfl | rfl <;> decide), cCell_core hc]
  refine va_put O.1.ex O.1.bc O.1.ts in_X4 tyX4 tyX4_ok nmX4 O.1.ow O.2.1.1 hP hD (O.S h2) c hg rfl 27 (by decide) (O.1.ts _ hl2) (fun x hx => hx) rfl (ty := .object "RankEntry$Ahead") rfl rfl rfl (Nat.le_of_ble_eq_true rfl) d2 (fun H1 lo1 p1 p2 p3 => ?_)
  rw [c_setA (u := v) hc] at p1 p2
  refine kk H1 lo1 ce sl ls ⟨Y ++ [(a, lamE g v)], _, ev, p1, p2, ?_⟩ (by rw [O.2.2.1]; exact p3) h3 h4 h5
  intro c2 hc2
  have e2 : up2 C c 27 v (c2 + 11) = C (c2 + 11) := up2_n (by rcases hc with rfl | rfl <;> rcases hc2 with rfl | rfl <;> decide)
  rw [e2]
  refine ⟨?_, (hY.mono c2 hc2).2⟩
  by_cases he : c2 = c
  · subst he
    rw [up2_s]
    simp only [va_up, if_true, upd]
    simp
  · rw [up2_n he]
    simp only [va_up, if_neg he]
    exact List.mem_append_left _ (hY c2 hc2).1
end GBY
/-! RankEntry$Core.splits(I)V -/
def fc_Core_splits (c : Nat) (x1 : Int32) (C : Mem) : Option (Unit × Mem) :=
  stp (up2 C c 34 x1) fun C1 =>
  stp (up2 C1 c 27 x1) fun C2 =>
  some ((), C2)
theorem bc_Core_splits {g : gC} {X : Cxt} {r : Unit} {C' : Mem} {c : Nat} (hc : cC c) (O : OkC g X cX4_splits 2 none RX4 1 1 (cQv g r C')) (x1 : Int32) (C : Mem) (h : fc_Core_splits c x1 C = some (r, C')) : V X 2 1 (WdC g C) 0 [(0, .ref (gCa g c)), (1, .int x1)] [] := by
  unfold fc_Core_splits at h
  refine v_aload_n O.1 dX4_splits_0 rfl (q := 1) rfl ?_
  refine v_iload_n O.1 dX4_splits_1 rfl (q := 2) rfl ?_
  obtain ⟨C1, e1, h⟩ := stp_some h
  refine c_putC O hc 34 (u := x1) (ty := .int) (by decide) (by decide) (O.lk q897) rfl rfl rfl rfl rfl (fun _ => rfl) dX4_splits_2 (q := 5) rfl e1 ?_
  refine v_aload_n O.1 dX4_splits_5 rfl (q := 6) rfl ?_
  refine v_iload_n O.1 dX4_splits_6 rfl (q := 7) rfl ?_
  obtain ⟨C2, e2, h⟩ := stp_some h
  refine c_byA O hc q703 q877 (by decide) (by decide) dX4_splits_7 dX4_splits_10 (q := 13) rfl (b' := 0) rfl e2 ?_
  exact c_vret O h dX4_splits_13
theorem metc_Core_splits (l : Launch) (g : gC) (c : Nat) (hc : cC c) (x1 : Int32) (C C' : Mem) (r : Unit) (h : fc_Core_splits c x1 C = some (r, C')) : MetC l g yX4_splits cX4_splits 2 none 1 1 [.ref (gCa g c), .int x1] C (cQv g r C') :=
  c_met (by decide) rfl (Nat.le_of_ble_eq_true rfl) (fun X O => bc_Core_splits hc O x1 C h)
