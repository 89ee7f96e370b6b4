/-! Op.values, Code -/
def opsE (g : gC) : va_E := .inl (gCk g 5, 29, qr (fun i => some (gCo g i)))
theorem ops_fit {g : gC} {i : Nat} {v : Value} (h : (vp_cell (gCk g 5) (29, qr (fun i => some (gCo g i)))).slots[i]? = some v) : fits (.object "RankEntry$Op") v = true := by
  have h : (arrV (gCk g 5) 29 (fun j => va_rf (some (gCo g j)))).slots[i]? = some v := h
  have hi : i < 29 := by
    have := (Array.getElem?_eq_some_iff.mp h).1
    rw [arrV_size] at this
    exact this
  rw [arrV_read _ _ hi] at h
  cases h
  rfl
theorem ops_cls {g : gC} {U : State} (h : KC g U) : U.vm.findClass "[LRankEntry$Op;" = some (gCk g 5) := by
  obtain ⟨k, c, -, -, -, e⟩ := (h.1.2 5 (gCk g 5, .object "RankEntry$Op") rfl).2
  exact e
theorem k_rretA {S : Type} {n : FieldType} {L : S → Nat → Heap → Prop} {g : gC} {X : Cxt} {cc : ByteArray} {nL b lvl mc : Nat} {own : String} {pc : Nat} {lv : List (Nat × Value)} (O : OkC g X cc nL (some (.array n)) own lvl mc (kQr g L)) (u : S) {z : Nat} (d : decode cc pc = .ok (.areturn, 1)) : V X nL b (L u z) pc lv [.ref z] := by
  intro H lo ce sl ls h1 h2 h3 h4 h5
  unfold xW
  refine wq_mono O.2.2.2 ?_
  rw [O.1.rm] at h3 h4
  refine W.widen (k := mc) (n := 8 * mc) (Nat.le_trans (Nat.le_add_right _ _) h3) (Nat.le_trans (Nat.le_add_right _ _) h4) ?_
  have S2 := O.S h2
  exact W.aret O.1.ex O.1.bc O.1.rt (Or.inr ⟨_, rfl⟩) (Or.inr ⟨_, rfl⟩) (fun t ht hW => ⟨⟨u, z, rfl, trivial, show L u z t.heap by rw [ht]; exact h1⟩, S2.F ht⟩) S2.2.2 d O.1.lk
theorem metk_values (l : Launch) (g : gC) (W : va_W) : Met l yX3_values (ws_ yX3_values cX3_values 0 (some (.array (.object "RankEntry$Op")))) (rmz 1 4) (kPc g [] (Wg g W)) (kQr g (fun (_ : Unit) z => Wg g (W ++ [(z, opsE g)]))) 4 (8 * 4) (cA g) :=
  g_bodyN (by decide +kernel) rfl (Nat.le_of_ble_eq_true rfl) (fun X O hx hnm => by
    intro H lo ce sl ls h1 h2 h3 h4 h5
    have S2 := O.S h2
    obtain ⟨-, -, v, ce0, x1, x2, ⟨y1, y2, y3, y4⟩, x3⟩ := O.2.1.kx
    refine va_gets O.1.ex O.1.bc x1 S2 O.1.ow (O.1.ts _ q108) (fun x hx => hx) dX3_values_0 ?_
    have hvl : v < (xs X).heap.size := (Array.getElem?_eq_some_iff.mp x2).1
    have hv : H[v]? = some ce0 := (S2.2.1 v hvl x3).trans x2
    obtain ⟨c0, t0', f1, f2, f3⟩ := Cond.castable_spec (va_Nw.use (A := xa X) rfl (O.2.1.nest _ (List.mem_filter.mpr ⟨q115, rfl⟩)))
    cases (ops_cls O.2.1).symm.trans f1
    obtain ⟨-, kS, hkS, compS, hkindS⟩ := (O.2.1.1.2 5 (gCk g 5, .object "RankEntry$Op") rfl).1 0 (fun _ => .null)
    have hcE : ({ cls := ce0.cls, slots := ce0.slots } : Cell) = vp_cell (gCk g 5) (29, qr (fun i => some (gCo g i))) := by
      rw [y1, y2]
      rfl
    have hsz : ce0.slots.size = 29 := by
      rw [y2]
      exact arrV_size _ _ _
    refine fun T hT Y => ?_
    have hvT : T.heap[v]? = some ce0 := by rw [hT]; exact hv
    obtain ⟨kA, hkA, hek⟩ := Y.warmed.alike.2.2 _ _ hkS
    obtain ⟨vm', Y', st⟩ := Y.cloneArray O.1.ex (ad := "[LRankEntry$Op;") O.1.ow (O.1.ts _ q110) (O.1.ts _ q111) (O.1.ts _ q112) (O.1.ts _ q113) (O.1.ts _ q114) (a := v) (cell := ce0) hvT y3 y4 (by rw [y1]; exact ops_cls O.2.1) f2 (by rw [y1]; exact f3)
      (fun i w hw => by
        rw [y1]
        rw [y2] at hw
        have hk' : T.vm.classes[gCk g 5]? = some kA := hkA
        have hkind : kA.kind = .array compS (.object "RankEntry$Op") := by rw [hek]; exact hkindS
        simpa [State.fitsSlot, State.slotType?, hk', hkind] using ops_fit hw)
      (g := F0 (xm X) 3 ls [.ref v]) rfl (h5.1.trans O.1.ml.symm) rfl (by rw [O.1.bc]; exact dX3_values_3) (by rw [O.1.rm]; show 1 ≤ 1; omega) (by rw [O.1.rm]; show 2 * 0 + 0 + 14 ≤ 60 * 1 + 3200; omega) (by omega) (by rw [hsz]; show sl + 29 ≤ _; omega) (hloader := by rw [y1]; exact Vm.clonesLoader_of_array hkS hkindS)
    rw [hcE, hsz] at Y'
    generalize hH1 : H.push (vp_cell (gCk g 5) (29, qr (fun i => some (gCo g i)))) = H1
    have e1 : H1[H.size]? = some (vp_cell (gCk g 5) (29, qr (fun i => some (gCo g i)))) := by rw [← hH1, Array.getElem?_push_size]
    obtain ⟨w1, w2⟩ := g_push (ws := W) (e := opsE g) (ce := vp_cell (gCk g 5) (29, qr (fun i => some (gCo g i)))) O h1 h2 ⟨gCk g 5, (29, qr (fun i => some (gCo g i))), rfl, rfl⟩
    rw [hH1] at w1 w2
    have key : xW X H1 lo (ce + 1) (sl + 29) (F0 (xm X) 6 ls [.ref H.size]) := by
      have hz : (W ++ [(H.size, opsE g)])[W.length]? = some (H.size, opsE g) := by simp
      refine va_castA O.1.ex O.1.bc O.1.ow (O.1.ts _ q117) w1.1 W.length hz (ops_cls O.2.1) dX3_values_6 ?_
      exact k_rretA (L := fun (_ : Unit) z => Wg g (W ++ [(z, opsE g)])) (b := 0) O () dX3_values_9 H1 lo _ _ ls w1 w2 (by omega) (by show sl + 29 + 8 * 0 ≤ _; omega) h5
    obtain ⟨t, a1, b1⟩ := key ((T.setVm vm').pushCell (vp_cell (gCk g 5) (29, qr (fun i => some (gCo g i))))) (by rw [← hH1, ← hT]; rfl) Y'
    refine ⟨t, st t ?_, b1⟩
    rw [hcE, hT]
    exact a1)
section KCALL
variable {g : gC} {X : Cxt} {cc : ByteArray} {nL b lvl mc : Nat} {ret : Option FieldType} {own : String} {Qc : Array Value → State → Outcome → State → Prop} {pc q : Nat} {lv : List (Nat × Value)} {st rest : List Value} {W0 Z : va_W} {a ci : Nat} {fs : List Value}
theorem g_callR {S : Type} {P : Heap → Prop} {L : S → Nat → Heap → Prop} (O : OkC g X cc nL ret own lvl mc Qc) {idx maxL n lvl' b' mc' : Nat} {y : MethodName} {by_ : ByteArray} {rt : Option FieldType} {As : List Value} (hM : Met (xl X) y (ws_ y by_ maxL rt) (rmz lvl' mc') (kPc g As P) (kQr g L) mc' (8 * mc') (cA g)) (hG : GoodIn lw_all (va_wsS own idx y (ws_ y by_ maxL rt))) (hd : y.cls ≠ "java/lang/invoke/MethodHandle" ∧ y.cls ≠ "java/lang/invoke/VarHandle" ∧ (parseMethodDescriptor y.desc).map (fun d => d.parameters.length) = some n) (hlv : lvl' + 1 ≤ lvl) (hml : maxL ≤ 40) (hn : As.length = n) (hst : st = As.reverse ++ rest) (hr : (rest.map fun v => v.category).sum ≤ 8) (d : decode cc pc = .ok (.invokestatic idx, 3)) (hq : pc + 3 = q) (hb : b' + mc' = b) (kk : ∀ u z, V X nL b' (L u z) q lv (.ref z :: rest)) : V X nL b P pc lv st := by
  subst hq
  subst hst
  subst hb
  intro H lo ce sl ls h1 h2 h3 h4 h5
  have S2 := O.S h2
  refine va_callr (A1 := cA g) (A0 := cA g) (va_runS (As := As) (rest := rest) ⟨O.1.ex, O.1.bc, O.1.ml, O.1.ow, O.1.ts⟩ hM (va_cwS n O.1.ts hG rfl rfl rfl hd (c_room O hlv hml)) ⟨kPc_blind, fun U hU hW => ⟨rfl, by rw [hU]; exact h1, O.2.1.moved S2 hU hW⟩⟩ rfl hn h5.1 rfl (lv_room hr) d ⟨by omega, by omega⟩) S2 (fun q _ h => h) (fun q h => h) (fun u ra t H1 lo1 ht hvm hw hB hz hk hS1 => ?_)
  exact kk u ra H1 lo1 _ _ ls (by rw [← ht]; exact hB) (by rw [O.2.2.1]; exact hS1) (by omega) (by omega) h5
theorem g_callRN {S : Type} {P : Heap → Prop} {L : S → Nat → Heap → Prop} (O : OkC g X cc nL ret own lvl mc Qc) {idx maxL n lvl' b' mc' : Nat} {y : MethodName} {host : String} {by_ : ByteArray} {rt : Option FieldType} {As : List Value} (hM : Met (xl X) y (ws_ y by_ maxL rt) (rmz lvl' mc') (kPc g As P) (kQr g L) mc' (8 * mc') (cA g)) (hl : Cond.methodLinkNest own idx y host ∈ lw_tbl) (hini : Cond.initialized y.cls ∈ lw_all) (hst0 : Cond.static y ∈ lw_all) (hco : Cond.code y by_ maxL rt ∈ lw_all) (hd : y.cls ≠ "java/lang/invoke/MethodHandle" ∧ y.cls ≠ "java/lang/invoke/VarHandle" ∧ (parseMethodDescriptor y.desc).map (fun d => d.parameters.length) = some n) (hlv : lvl' + 1 ≤ lvl) (hml : maxL ≤ 40) (hn : As.length = n) (hst : st = As.reverse ++ rest) (hr : (rest.map fun v => v.category).sum ≤ 8) (d : decode cc pc = .ok (.invokestatic idx, 3)) (hq : pc + 3 = q) (hb : b' + mc' = b) (kk : ∀ u z, V X nL b' (L u z) q lv (.ref z :: rest)) : V X nL b P pc lv st := by
  subst hq
  subst hst
  subst hb
  intro H lo ce sl ls h1 h2 h3 h4 h5
  have S2 := O.S h2
  refine va_callr (A1 := cA g) (A0 := cA g) (va_runSN (As := As) (rest := rest) ⟨O.1.ex, O.1.bc, O.1.ml, O.1.ow, O.1.ts⟩ hM ⟨va_cnB n O.1.ts (lw_meth hco) rfl rfl rfl (O.2.1.nest _ (List.mem_filter.mpr ⟨hl, rfl⟩)) (O.1.ts _ hini) hd (c_room O hlv hml), O.1.ts _ hst0, trivial⟩ ⟨kPc_blind, fun U hU hW => ⟨rfl, by rw [hU]; exact h1, O.2.1.moved S2 hU hW⟩⟩ rfl hn h5.1 rfl (lv_room hr) d ⟨by omega, by omega⟩) S2 (fun q _ h => h) (fun q h => h) (fun u ra t H1 lo1 ht hvm hw hB hz hk hS1 => ?_)
  exact kk u ra H1 lo1 _ _ ls (by rw [← ht]; exact hB) (by rw [O.2.2.1]; exact hS1) (by omega) (by omega) h5
end KCALL
abbrev codW (g : gC) (a : Nat) (u : Nat × Nat) : va_W := [(a, .inr (1, [.ref u.1, .ref u.2])), (u.1, .inl (gCk g 1, 512, .inl (fun _ => 0))), (u.2, opsE g)]
theorem metk_Code (l : Launch) (g : gC) (a : Nat) (W : va_W) : MetK (S := Nat × Nat) l g yX2_init cX2_init 1 2 68 [.ref a] (Wo g W a 1 [.null, .null] []) (fun u => Wg g (W ++ codW g a u)) :=
  g_body (by decide +kernel) rfl (Nat.le_of_ble_eq_true rfl) (fun X O hnm => by
    refine v_aload_n O.1 dX2_init_0 rfl (q := 1) rfl ?_
    refine g_obj O q104 (by decide) (Nat.le_of_ble_eq_true rfl) dX2_init_1 (q := 4) rfl ?_
    refine v_aload_n O.1 dX2_init_4 rfl (q := 5) rfl ?_
    refine v_sipush O.1 dX2_init_5 (v := 512) (by decide) (q := 8) rfl ?_
    refine k_newa (atype := .byte) (i := 1) (n := 512) (N' := 512) (m := 64) (b' := 4) (x := (512, .inl (fun _ => 0))) O q126 rfl rfl (fun _ => rfl) (by decide) rfl (by decide) (by decide) rfl dX2_init_8 (q := 10) rfl (fun z => ?_)
    refine k_putF O hnm (Cn := RX2) (T := TX2) (N := 2) 0 (v := .ref z) (ty := .array .byte) in_X2 tyX2_ok nmX2 rfl (by decide) q118 rfl rfl rfl rfl rfl (Nat.le_of_ble_eq_true rfl) dX2_init_10 (q := 13) rfl ?_
    refine v_aload_n O.1 dX2_init_13 rfl (q := 14) rfl ?_
    refine g_callR (As := []) (rest := [.ref a]) (n := 0) (b' := 0) (mc' := 4) O (metk_values _ g _) (lw_S q105 q106 q62 q107) (by decide +kernel) (by decide) (by decide) rfl rfl (Nat.le_of_ble_eq_true rfl) dX2_init_14 (q := 17) rfl rfl (fun _ y => ?_)
    have e : ∀ fs : List Value, Wg g ((W ++ (a, .inr (1, fs)) :: ([] ++ [(z, (.inl (gCk g 1, 512, .inl (fun _ => 0)) : va_E))])) ++ [(y, opsE g)]) = Wo g W a 1 fs [(z, .inl (gCk g 1, 512, .inl (fun _ => 0))), (y, opsE g)] := fun fs => by
      unfold Wo
      rw [List.append_assoc]
      rfl
    rw [e]
    refine k_putF O hnm (Cn := RX2) (T := TX2) (N := 2) 1 (v := .ref y) (ty := .array (.object "RankEntry$Op")) in_X2 tyX2_ok nmX2 rfl (by decide) q120 rfl rfl rfl rfl rfl (Nat.le_of_ble_eq_true rfl) dX2_init_17 (q := 20) rfl ?_
    exact k_vret (L := fun u => Wg g (W ++ codW g a u)) O (z, y) dX2_init_20)
