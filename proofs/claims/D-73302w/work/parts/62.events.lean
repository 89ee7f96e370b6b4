/-! THE EVENTS: what is read of them -/
def PE (g : gC) (C : Mem) (a : Nat) (e : va_E) : Heap → Prop := fun H => ∃ (Y : va_W) (ah : Nat → Nat) (ev : Nat → Nat → Option Nat), va_P g.1 cCl (cWs g C ah ev ++ Y) H ∧ va_D (cA g) (cWs g C ah ev ++ Y) ∧ Dy g C Y ah ev ∧ (a, e) ∈ Y
theorem PE.wd {g : gC} {C : Mem} {a : Nat} {e : va_E} : ∀ H, PE g C a e H → WdC g C H := fun H h => by
  obtain ⟨Y, ah, ev, h1, h2, h3, -⟩ := h
  exact ⟨Y, ah, ev, h1, h2, h3⟩
theorem PE.at {g : gC} {C : Mem} {a : Nat} {e : va_E} {H : Heap} (h : PE g C a e H) : ∃ (ws : va_W) (q0 : Nat), va_P g.1 cCl ws H ∧ ws[q0]? = some (a, e) := by
  obtain ⟨Y, ah, ev, h1, h2, h3, h4⟩ := h
  obtain ⟨i, hi⟩ := List.mem_iff_getElem?.mp h4
  exact ⟨_, 95 + i, h1, by rw [List.getElem?_append_right (by rw [cWs_len]; omega), cWs_len]; simpa using hi⟩
def ePc (g : gC) (a : Nat) (e : va_E) (C : Mem) : Array Value → State → Prop := va_Pc [.ref a] (fun U => PE g C a e U.heap ∧ KC g U)
theorem ePc_blind {g : gC} {a : Nat} {e : va_E} {C : Mem} : FrameBlind (ePc g a e C) := fun a U f mk z => by obtain ⟨z0, z1, z2⟩ := z; exact ⟨z0, z1, z2.calling⟩
abbrev MetE (l : Launch) (g : gC) (y : MethodName) (cc : ByteArray) (nL : Nat) (ret : Option FieldType) (lvl : Nat) (a : Nat) (e : va_E) (C : Mem) (r : Int32) : Prop := Met l y (ws_ y cc nL ret) (rmz lvl 0) (ePc g a e C) (cQi g r C) 0 (8 * 0) (cA g)
def fv_kind (k : Int32) : Int32 := if k = 0 ∨ k = 1 then (if k = 0 then 0 else 1) else if k = 2 then 2 else if k = 3 then 3 else if k = 4 then 4 else 5
section CEVT
variable {g : gC} {X : Cxt} {cc : ByteArray} {nL b lvl mc : Nat} {ret : Option FieldType} {own : String} {Qc : Array Value → State → Outcome → State → Prop} {pc q : Nat} {lv : List (Nat × Value)} {st rest : List Value} {C C' : Mem}
variable {a : Nat} {e : va_E}
theorem e_iret {r : Int32} (O : OkC g X cc nL (some .int) own lvl mc (cQi g r C)) (d : decode cc pc = .ok (.ireturn, 1)) : V X nL b (PE g C a e) pc lv [.int r] := v_world PE.wd (c_iret O rfl d)
theorem e_zret {r : Int32} (O : OkC g X cc nL (some .boolean) own lvl mc (cQi g r C)) (hz : isB r = true) (d : decode cc pc = .ok (.ireturn, 1)) : V X nL b (PE g C a e) pc lv [.int r] := v_world PE.wd (c_zret O hz rfl d)
theorem e_get (O : OkC g X cc nL ret own lvl mc Qc) {ci idx : Nat} {fs : List Value} {ref Cn : String} {T : u_T} {N : Nat} (k : Nat) {v : Value} (hin : ∀ w ∈ u_ws Cn T N, w ∈ lw_all) (hci : cCl[ci]? = some (Cn, T, N)) (hk : k < N) (hl : Cond.fieldLink own idx ref (T k).2.1 (T k).2.2.1 ∈ lw_all) (hT : (T k).1 = ref) (hv : fs[k]? = some v) (d : decode cc pc = .ok (.getfield idx, 3)) (hq : pc + 3 = q) (kk : V X nL b (PE g C a (.inr (ci, fs))) q lv (v :: st)) : V X nL b (PE g C a (.inr (ci, fs))) pc lv (.ref a :: st) := by
  subst hq
  intro H lo ce sl ls h1 h2 h3 h4 h5
  obtain ⟨ws, q0, hP, hg⟩ := h1.at
  exact va_get O.1.ex O.1.bc O.1.ts hin O.1.ow O.2.1.1 hP q0 hg hci k hk (O.1.ts _ hl) (fun x hx => by rw [← hT]; exact hx) hv d (kk H lo ce sl ls h1 h2 h3 h4 h5)
theorem e_recv (O : OkC g X cc nL ret own lvl mc Qc) {ci : Nat} {fs : List Value} {p : vw_C} {H : Heap} (h1 : PE g C a (.inr (ci, fs)) H) (hci : cCl[ci]? = some p) : ∃ cell : Cell, H[a]? = some cell ∧ cell.vm.isStatics = false ∧ (xs X).vm.findClass p.1 = some cell.cls := by
  obtain ⟨ws, q0, hP, hg⟩ := h1.at
  exact va_recv O.2.1.1 hP hci hg
theorem e_instY (O : OkC g X cc nL ret own lvl mc Qc) {ci idx : Nat} {fs : List Value} {p : vw_C} (hci : cCl[ci]? = some p) (hl : Cond.classLink own idx p.1 ∈ lw_all) (d : decode cc pc = .ok (.instanceof idx, 3)) (hq : pc + 3 = q) (kk : V X nL b (PE g C a (.inr (ci, fs))) q lv (.int 1 :: st)) : V X nL b (PE g C a (.inr (ci, fs))) pc lv (.ref a :: st) := by
  subst hq
  exact fun H lo ce sl ls h1 h2 h3 h4 h5 => va_instS O.1.ex O.1.bc O.1.ow (O.1.ts _ hl) (O.2.1.1.1 ci p hci).2 (e_recv O h1 hci) d (kk H lo ce sl ls h1 h2 h3 h4 h5)
theorem e_cast (O : OkC g X cc nL ret own lvl mc Qc) {ci idx : Nat} {fs : List Value} {p : vw_C} (hci : cCl[ci]? = some p) (hl : Cond.classLink own idx p.1 ∈ lw_all) (d : decode cc pc = .ok (.checkcast idx, 3)) (hq : pc + 3 = q) (kk : V X nL b (PE g C a (.inr (ci, fs))) q lv (.ref a :: st)) : V X nL b (PE g C a (.inr (ci, fs))) pc lv (.ref a :: st) := by
  subst hq
  exact fun H lo ce sl ls h1 h2 h3 h4 h5 => va_castS O.1.ex O.1.bc O.1.ow (O.1.ts _ hl) (O.2.1.1.1 ci p hci).2 (e_recv O h1 hci) d (kk H lo ce sl ls h1 h2 h3 h4 h5)
theorem e_instN (O : OkC g X cc nL ret own lvl mc Qc) {ci idx : Nat} {fs : List Value} {p : vw_C} {nm : String} (hci : cCl[ci]? = some p) (hl : Cond.classLink own idx nm ∈ lw_all) (hn : (p.1, nm) ∈ ncs) (d : decode cc pc = .ok (.instanceof idx, 3)) (hq : pc + 3 = q) (kk : V X nL b (PE g C a (.inr (ci, fs))) q lv (.int 0 :: st)) : V X nL b (PE g C a (.inr (ci, fs))) pc lv (.ref a :: st) := by
  subst hq
  exact fun H lo ce sl ls h1 h2 h3 h4 h5 => va_instNo O.1.ex O.1.bc O.1.ow (O.1.ts _ hl) (O.2.1.nc _ hn) (e_recv O h1 hci) d (kk H lo ce sl ls h1 h2 h3 h4 h5)
theorem OkC.preE (O : OkC g X cc nL ret own lvl mc Qc) {H : Heap} {lo : List Loc} (h1 : PE g C a e H) (h2 : va_S (xA X) (xs X).heap H lo) : ∀ U : State, U.heap = H → (xs X).WarmedH U.vm → ePc g a e C [Value.ref a].toArray U := fun U hU hW => ⟨rfl, by rw [hU]; exact h1, O.2.1.moved (O.S h2) hU hW⟩
/-- a method of the record's own class -/
theorem e_callV {r : Int32} (O : OkC g X cc nL ret own lvl mc Qc) {idx maxL lvl' ci : Nat} {fs : List Value} {y : MethodName} {by_ : ByteArray} {rt : Option FieldType} {p : vw_C} (hci : cCl[ci]? = some p) (hM : MetE (xl X) g y by_ maxL rt lvl' a (.inr (ci, fs)) C r) (hG : GoodIn lw_all (wsV own idx p.1 y (ws_ y by_ maxL rt))) (hd : y.cls = p.1 ∧ y.cls ≠ "java/lang/invoke/MethodHandle" ∧ y.cls ≠ "java/lang/invoke/VarHandle" ∧ (parseMethodDescriptor y.desc).map (fun d => d.parameters.length) = some 0) (hlv : lvl' + 1 ≤ lvl) (hml : maxL ≤ 40) (hst : st = .ref a :: rest) (hr : (rest.map fun v => v.category).sum ≤ 8) (d : decode cc pc = .ok (.invokevirtual idx, 3)) (hq : pc + 3 = q) (kk : V X nL b (WdC g C) q lv (.int r :: rest)) : V X nL b (PE g C a (.inr (ci, fs))) pc lv st := by
  subst hq
  subst hst
  intro H lo ce sl ls h1 h2 h3 h4 h5
  have S2 := O.S h2
  refine va_calli (A1 := cA g) (A0 := cA g) (va_runV (As := []) (rest := rest) ⟨O.1.ex, O.1.bc, O.1.ml, O.1.ow, O.1.ts⟩ hM (cwV 0 O.1.ts hG rfl rfl rfl hd (c_room O hlv hml)) ⟨ePc_blind, e_recv O h1 hci, O.preE h1 h2⟩ rfl rfl h5.1 rfl (lv_room hr) d ⟨by omega, by omega⟩) S2 (fun q _ h => h) (fun q h => h) (fun r1 u t H1 lo1 ht hvm hw hB hz hk hS1 => ?_)
  obtain ⟨rfl, rfl⟩ := hw
  exact kk H1 lo1 _ _ ls (by rw [← ht]; exact hB) (by rw [O.2.2.1]; exact hS1) (by omega) (by omega) h5
/-- .. by the interface -/
theorem e_callF {r : Int32} (O : OkC g X cc nL ret own lvl mc Qc) {idx maxL lvl' ci : Nat} {fs : List Value} {x y : MethodName} {by_ : ByteArray} {rt : Option FieldType} {p : vw_C} (hci : cCl[ci]? = some p) (hM : MetE (xl X) g y by_ maxL rt lvl' a (.inr (ci, fs)) C r) (hx : x ∈ lamFaces) (h3' : Cond.publicMethod y ∈ lw_tbl) (h4' : Cond.unhidden p.1 x.name x.desc ∈ lw_tbl) (h5' : Cond.castable p.1 x.cls ∈ lw_tbl) (hG : GoodIn lw_all (va_wsF own idx p.1 x y (ws_ y by_ maxL rt))) (hd : x.cls ≠ "java/lang/invoke/MethodHandle" ∧ x.cls ≠ "java/lang/invoke/VarHandle" ∧ (parseMethodDescriptor x.desc).map (fun d => d.parameters.length) = some 0) (hlv : lvl' + 1 ≤ lvl) (hml : maxL ≤ 40) (hst : st = .ref a :: rest) (hr : (rest.map fun v => v.category).sum ≤ 8) {cnt : Nat} (d : decode cc pc = .ok (.invokeinterface idx cnt, 5)) (hq : pc + 5 = q) (kk : V X nL b (WdC g C) q lv (.int r :: rest)) : V X nL b (PE g C a (.inr (ci, fs))) pc lv st := by
  subst hq
  subst hst
  intro H lo ce sl ls h1 h2 h3 h4 h5
  have S2 := O.S h2
  have hF := O.2.1.lam.2.2 x hx
  have nw : ∀ w, w ∈ lw_tbl → isNest w = true → va_Nw w (xs X) := fun w hw hn => O.2.1.nest _ (List.mem_filter.mpr ⟨hw, hn⟩)
  refine va_callFi (A1 := cA g) (A0 := cA g) (va_runF (As := []) (rest := rest) (O.2.1.1.1 ci p hci).2 ⟨O.1.ex, O.1.bc, O.1.ml, O.1.ow, O.1.ts⟩ hM (va_cwF 0 O.1.ts hG rfl rfl rfl ⟨hF.1, hF.2, nw _ h3' rfl, nw _ h4' rfl, nw _ h5' rfl⟩ hd (c_room O hlv hml)) ⟨ePc_blind, e_recv O h1 hci, O.preE h1 h2⟩ rfl rfl h5.1 rfl (lv_room hr) d ⟨by omega, by omega⟩) S2 (fun q _ h => h) (fun q h => h) (fun r1 u t H1 lo1 ht hvm hw hB hz hk hS1 => ?_)
  obtain ⟨rfl, rfl⟩ := hw
  exact kk H1 lo1 _ _ ls (by rw [← ht]; exact hB) (by rw [O.2.2.1]; exact hS1) (by omega) (by omega) h5
/-- an event, out of the core's -/
theorem c_evld (O : OkC g X cc nL ret own lvl mc Qc) {c : Nat} (hc : cC c) {i : Int32} (hin : inb i 24 = true) (hk : ¬ C (c + 11) (8 * i.toNatClampNeg) < 0) (d : decode cc pc = .ok (.aaload, 1)) (hq : pc + 1 = q) (kk : ∀ a, V X nL b (PE g C a (evE (C (c + 11)) i.toNatClampNeg)) q lv (.ref a :: st)) : V X nL b (WdC g C) pc lv (.int i :: .ref (gCa g (c + 11)) :: st) := by
  subst hq
  intro H lo ce sl ls h1 h2 h3 h4 h5
  obtain ⟨Y, ah, ev, hP, hD, hY⟩ := h1
  have he := (hY c hc).2 i.toNatClampNeg (inb_lt hin)
  unfold EvIn at he
  rw [if_neg hk] at he
  obtain ⟨a, e1, e2⟩ := he
  refine va_aldq (f := ev c) O.1.ex O.1.bc O.2.1.1 hP (c + 11) 4 (by rw [cWs_get (cC_lt hc (by decide)), cCell_blk hc (by decide)]; rfl) rfl (inb_in hin) d ?_
  rw [e1]
  exact kk a H lo ce sl ls ⟨Y, ah, ev, hP, hD, hY, e2⟩ h2 h3 h4 h5
end CEVT
theorem mete_Began_source (l : Launch) (g : gC) (a : Nat) (x1 x2 x3 x4 : Int32) (C : Mem) : MetE l g yX7_source cX7_source 1 (some .int) 0 a (.inr (9, [.int x1, .int x2, .int x3, .int x4])) C x1 :=
  g_body (by decide +kernel) rfl (Nat.le_of_ble_eq_true rfl) (fun X O hnm => by
    refine v_aload_n O.1 dX7_source_0 rfl (q := 1) rfl ?_
    refine e_get (Cn := RX7) (T := TX7) (N := 4) O 0 in_X7 rfl (by decide) q333 rfl rfl dX7_source_1 (q := 4) rfl ?_
    exact e_iret O dX7_source_4)
theorem mete_Began_clock (l : Launch) (g : gC) (a : Nat) (x1 x2 x3 x4 : Int32) (C : Mem) : MetE l g yX7_clock cX7_clock 1 (some .int) 0 a (.inr (9, [.int x1, .int x2, .int x3, .int x4])) C x2 :=
  g_body (by decide +kernel) rfl (Nat.le_of_ble_eq_true rfl) (fun X O hnm => by
    refine v_aload_n O.1 dX7_clock_0 rfl (q := 1) rfl ?_
    refine e_get (Cn := RX7) (T := TX7) (N := 4) O 1 in_X7 rfl (by decide) q334 rfl rfl dX7_clock_1 (q := 4) rfl ?_
    exact e_iret O dX7_clock_4)
theorem mete_Began_more (l : Launch) (g : gC) (a : Nat) (x1 x2 x3 x4 : Int32) (C : Mem) : MetE l g yX7_more cX7_more 1 (some .int) 0 a (.inr (9, [.int x1, .int x2, .int x3, .int x4])) C x3 :=
  g_body (by decide +kernel) rfl (Nat.le_of_ble_eq_true rfl) (fun X O hnm => by
    refine v_aload_n O.1 dX7_more_0 rfl (q := 1) rfl ?_
    refine e_get (Cn := RX7) (T := TX7) (N := 4) O 2 in_X7 rfl (by decide) q335 rfl rfl dX7_more_1 (q := 4) rfl ?_
    exact e_iret O dX7_more_4)
theorem mete_Began_chained (l : Launch) (g : gC) (a : Nat) (x1 x2 x3 x4 : Int32) (hz : isB x4 = true) (C : Mem) : MetE l g yX7_chained cX7_chained 1 (some .boolean) 0 a (.inr (9, [.int x1, .int x2, .int x3, .int x4])) C x4 :=
  g_body (by decide +kernel) rfl (Nat.le_of_ble_eq_true rfl) (fun X O hnm => by
    refine v_aload_n O.1 dX7_chained_0 rfl (q := 1) rfl ?_
    refine e_get (Cn := RX7) (T := TX7) (N := 4) O 3 in_X7 rfl (by decide) q336 rfl rfl dX7_chained_1 (q := 4) rfl ?_
    exact e_zret O hz dX7_chained_4)
theorem mete_Ended_source (l : Launch) (g : gC) (a : Nat) (x1 x2 x3 : Int32) (C : Mem) : MetE l g yX11_source cX11_source 1 (some .int) 0 a (.inr (10, [.int x1, .int x2, .int x3])) C x1 :=
  g_body (by decide +kernel) rfl (Nat.le_of_ble_eq_true rfl) (fun X O hnm => by
    refine v_aload_n O.1 dX11_source_0 rfl (q := 1) rfl ?_
    refine e_get (Cn := RX11) (T := TX11) (N := 3) O 0 in_X11 rfl (by decide) q496 rfl rfl dX11_source_1 (q := 4) rfl ?_
    exact e_iret O dX11_source_4)
theorem mete_Ended_clock (l : Launch) (g : gC) (a : Nat) (x1 x2 x3 : Int32) (C : Mem) : MetE l g yX11_clock cX11_clock 1 (some .int) 0 a (.inr (10, [.int x1, .int x2, .int x3])) C x2 :=
  g_body (by decide +kernel) rfl (Nat.le_of_ble_eq_true rfl) (fun X O hnm => by
    refine v_aload_n O.1 dX11_clock_0 rfl (q := 1) rfl ?_
    refine e_get (Cn := RX11) (T := TX11) (N := 3) O 1 in_X11 rfl (by decide) q497 rfl rfl dX11_clock_1 (q := 4) rfl ?_
    exact e_iret O dX11_clock_4)
theorem mete_Ended_more (l : Launch) (g : gC) (a : Nat) (x1 x2 x3 : Int32) (C : Mem) : MetE l g yX11_more cX11_more 1 (some .int) 0 a (.inr (10, [.int x1, .int x2, .int x3])) C x3 :=
  g_body (by decide +kernel) rfl (Nat.le_of_ble_eq_true rfl) (fun X O hnm => by
    refine v_aload_n O.1 dX11_more_0 rfl (q := 1) rfl ?_
    refine e_get (Cn := RX11) (T := TX11) (N := 3) O 2 in_X11 rfl (by decide) q498 rfl rfl dX11_more_1 (q := 4) rfl ?_
    exact e_iret O dX11_more_4)
theorem mete_Raised_source (l : Launch) (g : gC) (a : Nat) (x1 x2 x3 : Int32) (C : Mem) : MetE l g yX6_source cX6_source 1 (some .int) 0 a (.inr (11, [.int x1, .int x2, .int x3])) C x1 :=
  g_body (by decide +kernel) rfl (Nat.le_of_ble_eq_true rfl) (fun X O hnm => by
    refine v_aload_n O.1 dX6_source_0 rfl (q := 1) rfl ?_
    refine e_get (Cn := RX6) (T := TX6) (N := 3) O 0 in_X6 rfl (by decide) q271 rfl rfl dX6_source_1 (q := 4) rfl ?_
    exact e_iret O dX6_source_4)
theorem mete_Raised_clock (l : Launch) (g : gC) (a : Nat) (x1 x2 x3 : Int32) (C : Mem) : MetE l g yX6_clock cX6_clock 1 (some .int) 0 a (.inr (11, [.int x1, .int x2, .int x3])) C x2 :=
  g_body (by decide +kernel) rfl (Nat.le_of_ble_eq_true rfl) (fun X O hnm => by
    refine v_aload_n O.1 dX6_clock_0 rfl (q := 1) rfl ?_
    refine e_get (Cn := RX6) (T := TX6) (N := 3) O 1 in_X6 rfl (by decide) q272 rfl rfl dX6_clock_1 (q := 4) rfl ?_
    exact e_iret O dX6_clock_4)
theorem mete_Raised_more (l : Launch) (g : gC) (a : Nat) (x1 x2 x3 : Int32) (C : Mem) : MetE l g yX6_more cX6_more 1 (some .int) 0 a (.inr (11, [.int x1, .int x2, .int x3])) C x3 :=
  g_body (by decide +kernel) rfl (Nat.le_of_ble_eq_true rfl) (fun X O hnm => by
    refine v_aload_n O.1 dX6_more_0 rfl (q := 1) rfl ?_
    refine e_get (Cn := RX6) (T := TX6) (N := 3) O 2 in_X6 rfl (by decide) q273 rfl rfl dX6_more_1 (q := 4) rfl ?_
    exact e_iret O dX6_more_4)
theorem mete_Abandoned_source (l : Launch) (g : gC) (a : Nat) (x1 x2 x3 : Int32) (C : Mem) : MetE l g yX12_source cX12_source 1 (some .int) 0 a (.inr (12, [.int x1, .int x2, .int x3])) C x1 :=
  g_body (by decide +kernel) rfl (Nat.le_of_ble_eq_true rfl) (fun X O hnm => by
    refine v_aload_n O.1 dX12_source_0 rfl (q := 1) rfl ?_
    refine e_get (Cn := RX12) (T := TX12) (N := 3) O 0 in_X12 rfl (by decide) q640 rfl rfl dX12_source_1 (q := 4) rfl ?_
    exact e_iret O dX12_source_4)
theorem mete_Abandoned_clock (l : Launch) (g : gC) (a : Nat) (x1 x2 x3 : Int32) (C : Mem) : MetE l g yX12_clock cX12_clock 1 (some .int) 0 a (.inr (12, [.int x1, .int x2, .int x3])) C x2 :=
  g_body (by decide +kernel) rfl (Nat.le_of_ble_eq_true rfl) (fun X O hnm => by
    refine v_aload_n O.1 dX12_clock_0 rfl (q := 1) rfl ?_
    refine e_get (Cn := RX12) (T := TX12) (N := 3) O 1 in_X12 rfl (by decide) q641 rfl rfl dX12_clock_1 (q := 4) rfl ?_
    exact e_iret O dX12_clock_4)
theorem mete_Abandoned_more (l : Launch) (g : gC) (a : Nat) (x1 x2 x3 : Int32) (C : Mem) : MetE l g yX12_more cX12_more 1 (some .int) 0 a (.inr (12, [.int x1, .int x2, .int x3])) C x3 :=
  g_body (by decide +kernel) rfl (Nat.le_of_ble_eq_true rfl) (fun X O hnm => by
    refine v_aload_n O.1 dX12_more_0 rfl (q := 1) rfl ?_
    refine e_get (Cn := RX12) (T := TX12) (N := 3) O 2 in_X12 rfl (by decide) q642 rfl rfl dX12_more_1 (q := 4) rfl ?_
    exact e_iret O dX12_more_4)
theorem mete_Returned_source (l : Launch) (g : gC) (a : Nat) (x1 x2 x3 : Int32) (C : Mem) : MetE l g yX13_source cX13_source 1 (some .int) 0 a (.inr (13, [.int x1, .int x2, .int x3])) C x1 :=
  g_body (by decide +kernel) rfl (Nat.le_of_ble_eq_true rfl) (fun X O hnm => by
    refine v_aload_n O.1 dX13_source_0 rfl (q := 1) rfl ?_
    refine e_get (Cn := RX13) (T := TX13) (N := 3) O 0 in_X13 rfl (by decide) q677 rfl rfl dX13_source_1 (q := 4) rfl ?_
    exact e_iret O dX13_source_4)
theorem mete_Returned_clock (l : Launch) (g : gC) (a : Nat) (x1 x2 x3 : Int32) (C : Mem) : MetE l g yX13_clock cX13_clock 1 (some .int) 0 a (.inr (13, [.int x1, .int x2, .int x3])) C x2 :=
  g_body (by decide +kernel) rfl (Nat.le_of_ble_eq_true rfl) (fun X O hnm => by
    refine v_aload_n O.1 dX13_clock_0 rfl (q := 1) rfl ?_
    refine e_get (Cn := RX13) (T := TX13) (N := 3) O 1 in_X13 rfl (by decide) q678 rfl rfl dX13_clock_1 (q := 4) rfl ?_
    exact e_iret O dX13_clock_4)
theorem mete_Returned_more (l : Launch) (g : gC) (a : Nat) (x1 x2 x3 : Int32) (C : Mem) : MetE l g yX13_more cX13_more 1 (some .int) 0 a (.inr (13, [.int x1, .int x2, .int x3])) C x3 :=
  g_body (by decide +kernel) rfl (Nat.le_of_ble_eq_true rfl) (fun X O hnm => by
    refine v_aload_n O.1 dX13_more_0 rfl (q := 1) rfl ?_
    refine e_get (Cn := RX13) (T := TX13) (N := 3) O 2 in_X13 rfl (by decide) q679 rfl rfl dX13_more_1 (q := 4) rfl ?_
    exact e_iret O dX13_more_4)
theorem mete_kind_Began (l : Launch) (g : gC) (a : Nat) (x1 x2 x3 x4 : Int32) (hz : isB x4 = true) (C : Mem) : MetE l g yX1_kind cX1_kind 2 (some .int) 1 a (.inr (9, [.int x1, .int x2, .int x3, .int x4])) C (if x4 = 0 then 0 else 1) :=
  g_body (by decide +kernel) rfl (Nat.le_of_ble_eq_true rfl) (fun X O hnm => by
    refine v_aload_n O.1 dX1_kind_0 rfl (q := 1) rfl ?_
    refine e_instY (p := (RX7, TX7, 4)) O rfl q1622 dX1_kind_1 (q := 4) rfl ?_
    refine v_if_eq O.1 dX1_kind_4 (t := 27) (by decide) (q := 7) rfl (fun z => absurd z (by decide)) (fun _ => ?_)
    refine v_aload_n O.1 dX1_kind_7 rfl (q := 8) rfl ?_
    refine e_cast (p := (RX7, TX7, 4)) O rfl q1622 dX1_kind_8 (q := 11) rfl ?_
    refine v_astore_n (lv' := [(1, .ref a), (0, .ref a)]) O.1 dX1_kind_11 (by decide) rfl (q := 12) rfl ?_
    refine v_aload_n O.1 dX1_kind_12 rfl (q := 13) rfl ?_
    refine e_callV (rest := []) (p := (RX7, TX7, 4)) O rfl (mete_Began_chained _ g a x1 x2 x3 x4 hz C) (lw_V q1623 q1624 q1625 q69 q1626) (by decide +kernel) (by decide) (by decide) rfl (Nat.le_of_ble_eq_true rfl) dX1_kind_13 (q := 16) rfl ?_
    refine v_if_eq O.1 dX1_kind_16 (t := 23) (by decide) (q := 19) rfl (fun z => ?_) (fun z => ?_)
    · rw [if_pos z] at O
      refine v_iconst O.1 dX1_kind_23 (v := 0) rfl (q := 24) rfl ?_
      refine v_goto O.1 dX1_kind_24 (t := 61) (by decide) ?_
      exact c_iret O rfl dX1_kind_61
    · rw [if_neg z] at O
      refine v_iconst O.1 dX1_kind_19 (v := 1) rfl (q := 20) rfl ?_
      refine v_goto O.1 dX1_kind_20 (t := 61) (by decide) ?_
      exact c_iret O rfl dX1_kind_61)
theorem mete_kind_Ended (l : Launch) (g : gC) (a : Nat) (x1 x2 x3 : Int32) (C : Mem) : MetE l g yX1_kind cX1_kind 2 (some .int) 1 a (.inr (10, [.int x1, .int x2, .int x3])) C 2 :=
  g_body (by decide +kernel) rfl (Nat.le_of_ble_eq_true rfl) (fun X O hnm => by
    refine v_aload_n O.1 dX1_kind_0 rfl (q := 1) rfl ?_
    refine e_instN (p := (RX11, TX11, 3)) O rfl q1622 (by simp [ncs, RX11]) dX1_kind_1 (q := 4) rfl ?_
    refine v_if_eq O.1 dX1_kind_4 (t := 27) (by decide) (q := 7) rfl (fun _ => ?_) (fun z => absurd rfl z)
    refine v_aload_n O.1 dX1_kind_27 rfl (q := 28) rfl ?_
    refine e_instY (p := (RX11, TX11, 3)) O rfl q1627 dX1_kind_28 (q := 31) rfl ?_
    refine v_if_eq O.1 dX1_kind_31 (t := 38) (by decide) (q := 34) rfl (fun z => absurd z (by decide)) (fun _ => ?_)
    refine v_iconst O.1 dX1_kind_34 (v := 2) rfl (q := 35) rfl ?_
    refine v_goto O.1 dX1_kind_35 (t := 61) (by decide) ?_
    exact e_iret O dX1_kind_61)
theorem mete_kind_Raised (l : Launch) (g : gC) (a : Nat) (x1 x2 x3 : Int32) (C : Mem) : MetE l g yX1_kind cX1_kind 2 (some .int) 1 a (.inr (11, [.int x1, .int x2, .int x3])) C 3 :=
  g_body (by decide +kernel) rfl (Nat.le_of_ble_eq_true rfl) (fun X O hnm => by
    refine v_aload_n O.1 dX1_kind_0 rfl (q := 1) rfl ?_
    refine e_instN (p := (RX6, TX6, 3)) O rfl q1622 (by simp [ncs, RX6]) dX1_kind_1 (q := 4) rfl ?_
    refine v_if_eq O.1 dX1_kind_4 (t := 27) (by decide) (q := 7) rfl (fun _ => ?_) (fun z => absurd rfl z)
    refine v_aload_n O.1 dX1_kind_27 rfl (q := 28) rfl ?_
    refine e_instN (p := (RX6, TX6, 3)) O rfl q1627 (by simp [ncs, RX6]) dX1_kind_28 (q := 31) rfl ?_
    refine v_if_eq O.1 dX1_kind_31 (t := 38) (by decide) (q := 34) rfl (fun _ => ?_) (fun z => absurd rfl z)
    refine v_aload_n O.1 dX1_kind_38 rfl (q := 39) rfl ?_
    refine e_instY (p := (RX6, TX6, 3)) O rfl q1628 dX1_kind_39 (q := 42) rfl ?_
    refine v_if_eq O.1 dX1_kind_42 (t := 49) (by decide) (q := 45) rfl (fun z => absurd z (by decide)) (fun _ => ?_)
    refine v_iconst O.1 dX1_kind_45 (v := 3) rfl (q := 46) rfl ?_
    refine v_goto O.1 dX1_kind_46 (t := 61) (by decide) ?_
    exact e_iret O dX1_kind_61)
theorem mete_kind_Abandoned (l : Launch) (g : gC) (a : Nat) (x1 x2 x3 : Int32) (C : Mem) : MetE l g yX1_kind cX1_kind 2 (some .int) 1 a (.inr (12, [.int x1, .int x2, .int x3])) C 4 :=
  g_body (by decide +kernel) rfl (Nat.le_of_ble_eq_true rfl) (fun X O hnm => by
    refine v_aload_n O.1 dX1_kind_0 rfl (q := 1) rfl ?_
    refine e_instN (p := (RX12, TX12, 3)) O rfl q1622 (by simp [ncs, RX12]) dX1_kind_1 (q := 4) rfl ?_
    refine v_if_eq O.1 dX1_kind_4 (t := 27) (by decide) (q := 7) rfl (fun _ => ?_) (fun z => absurd rfl z)
    refine v_aload_n O.1 dX1_kind_27 rfl (q := 28) rfl ?_
    refine e_instN (p := (RX12, TX12, 3)) O rfl q1627 (by simp [ncs, RX12]) dX1_kind_28 (q := 31) rfl ?_
    refine v_if_eq O.1 dX1_kind_31 (t := 38) (by decide) (q := 34) rfl (fun _ => ?_) (fun z => absurd rfl z)
    refine v_aload_n O.1 dX1_kind_38 rfl (q := 39) rfl ?_
    refine e_instN (p := (RX12, TX12, 3)) O rfl q1628 (by simp [ncs, RX12]) dX1_kind_39 (q := 42) rfl ?_
    refine v_if_eq O.1 dX1_kind_42 (t := 49) (by decide) (q := 45) rfl (fun _ => ?_) (fun z => absurd rfl z)
    refine v_aload_n O.1 dX1_kind_49 rfl (q := 50) rfl ?_
    refine e_instY (p := (RX12, TX12, 3)) O rfl q1629 dX1_kind_50 (q := 53) rfl ?_
    refine v_if_eq O.1 dX1_kind_53 (t := 60) (by decide) (q := 56) rfl (fun z => absurd z (by decide)) (fun _ => ?_)
    refine v_iconst O.1 dX1_kind_56 (v := 4) rfl (q := 57) rfl ?_
    refine v_goto O.1 dX1_kind_57 (t := 61) (by decide) ?_
    exact e_iret O dX1_kind_61)
theorem mete_kind_Returned (l : Launch) (g : gC) (a : Nat) (x1 x2 x3 : Int32) (C : Mem) : MetE l g yX1_kind cX1_kind 2 (some .int) 1 a (.inr (13, [.int x1, .int x2, .int x3])) C 5 :=
  g_body (by decide +kernel) rfl (Nat.le_of_ble_eq_true rfl) (fun X O hnm => by
    refine v_aload_n O.1 dX1_kind_0 rfl (q := 1) rfl ?_
    refine e_instN (p := (RX13, TX13, 3)) O rfl q1622 (by simp [ncs, RX13]) dX1_kind_1 (q := 4) rfl ?_
    refine v_if_eq O.1 dX1_kind_4 (t := 27) (by decide) (q := 7) rfl (fun _ => ?_) (fun z => absurd rfl z)
    refine v_aload_n O.1 dX1_kind_27 rfl (q := 28) rfl ?_
    refine e_instN (p := (RX13, TX13, 3)) O rfl q1627 (by simp [ncs, RX13]) dX1_kind_28 (q := 31) rfl ?_
    refine v_if_eq O.1 dX1_kind_31 (t := 38) (by decide) (q := 34) rfl (fun _ => ?_) (fun z => absurd rfl z)
    refine v_aload_n O.1 dX1_kind_38 rfl (q := 39) rfl ?_
    refine e_instN (p := (RX13, TX13, 3)) O rfl q1628 (by simp [ncs, RX13]) dX1_kind_39 (q := 42) rfl ?_
    refine v_if_eq O.1 dX1_kind_42 (t := 49) (by decide) (q := 45) rfl (fun _ => ?_) (fun z => absurd rfl z)
    refine v_aload_n O.1 dX1_kind_49 rfl (q := 50) rfl ?_
    refine e_instN (p := (RX13, TX13, 3)) O rfl q1629 (by simp [ncs, RX13]) dX1_kind_50 (q := 53) rfl ?_
    refine v_if_eq O.1 dX1_kind_53 (t := 60) (by decide) (q := 56) rfl (fun _ => ?_) (fun z => absurd rfl z)
    refine v_iconst O.1 dX1_kind_60 (v := 5) rfl (q := 61) rfl ?_
    exact e_iret O dX1_kind_61)
theorem ev_cases (r : Nat → Int32) (j : Nat) : (isB (r (8 * j)) = true ∧ fv_kind (r (8 * j)) = (if r (8 * j) = 0 then 0 else 1) ∧ evE r j = .inr (9, [.int (r (8 * j + 1)), .int (r (8 * j + 2)), .int (r (8 * j + 3)), .int (r (8 * j))])) ∨ (fv_kind (r (8 * j)) = 2 ∧ evE r j = .inr (10, [.int (r (8 * j + 1)), .int (r (8 * j + 2)), .int (r (8 * j + 3))])) ∨ (fv_kind (r (8 * j)) = 3 ∧ evE r j = .inr (11, [.int (r (8 * j + 1)), .int (r (8 * j + 2)), .int (r (8 * j + 3))])) ∨ (fv_kind (r (8 * j)) = 4 ∧ evE r j = .inr (12, [.int (r (8 * j + 1)), .int (r (8 * j + 2)), .int (r (8 * j + 3))])) ∨ (fv_kind (r (8 * j)) = 5 ∧ evE r j = .inr (13, [.int (r (8 * j + 1)), .int (r (8 * j + 2)), .int (r (8 * j + 3))])) := by
  unfold fv_kind evE evC
  generalize r (8 * j) = k
  by_cases h : k = 0 ∨ k = 1
  · left
    rw [if_pos h, if_pos h, if_pos h]
    refine ⟨?_, rfl, rfl⟩
    rcases h with h | h <;> rw [h] <;> rfl
  · rw [if_neg h, if_neg h, if_neg h]
    right
    by_cases h2 : k = 2
    · left
      rw [if_pos h2, if_pos h2]
      exact ⟨rfl, rfl⟩
    · right
      rw [if_neg h2, if_neg h2]
      by_cases h3 : k = 3
      · left
        rw [if_pos h3, if_pos h3]
        exact ⟨rfl, rfl⟩
      · right
        rw [if_neg h3, if_neg h3]
        by_cases h4 : k = 4
        · left
          rw [if_pos h4, if_pos h4]
          exact ⟨rfl, rfl⟩
        · right
          rw [if_neg h4, if_neg h4]
          exact ⟨rfl, rfl⟩
section CEVU
variable {g : gC} {X : Cxt} {cc : ByteArray} {nL b lvl mc : Nat} {ret : Option FieldType} {own : String} {Qc : Array Value → State → Outcome → State → Prop} {pc q : Nat} {lv : List (Nat × Value)} {st rest : List Value} {C C' : Mem}
theorem lw_F {own : String} {idx : Nat} {Cn : String} {x y : MethodName} {b : ByteArray} {L : Nat} {r : Option FieldType} (h1 : Cond.methodLink own idx x ∈ lw_all) (h2 : Cond.selects Cn x y ∈ lw_all) (h3 : Cond.instanceMethod y ∈ lw_all) (h4 : Cond.initialized y.cls ∈ lw_all) (h5 : Cond.code y b L r ∈ lw_all) : GoodIn lw_all (va_wsF own idx Cn x y (ws_ y b L r)) := by
  refine lw_app ?_ (lw_meth h5)
  intro w hw
  simp only [List.mem_cons, List.not_mem_nil, or_false] at hw
  rcases hw with rfl | rfl | rfl | rfl <;> assumption
/-- a static method of one event -/
theorem e_callS {r : Int32} {a : Nat} {e : va_E} (O : OkC g X cc nL ret own lvl mc Qc) {idx maxL lvl' : Nat} {y : MethodName} {by_ : ByteArray} {rt : Option FieldType} (hM : MetE (xl X) g y by_ maxL rt lvl' a e C r) (hG : GoodIn lw_all (va_wsS own idx y (ws_ y by_ maxL rt))) (hd : y.cls ≠ "java/lang/invoke/MethodHandle" ∧ y.cls ≠ "java/lang/invoke/VarHandle" ∧ (parseMethodDescriptor y.desc).map (fun d => d.parameters.length) = some 1) (hlv : lvl' + 1 ≤ lvl) (hml : maxL ≤ 40) (hst : st = .ref a :: rest) (hr : (rest.map fun v => v.category).sum ≤ 8) (d : decode cc pc = .ok (.invokestatic idx, 3)) (hq : pc + 3 = q) (kk : V X nL b (WdC g C) q lv (.int r :: rest)) : V X nL b (PE g C a e) pc lv st := by
  subst hq
  subst hst
  intro H lo ce sl ls h1 h2 h3 h4 h5
  have S2 := O.S h2
  refine va_calli (A1 := cA g) (A0 := cA g) (va_runS (As := [.ref a]) (rest := rest) ⟨O.1.ex, O.1.bc, O.1.ml, O.1.ow, O.1.ts⟩ hM (va_cwS 1 O.1.ts hG rfl rfl rfl hd (c_room O hlv hml)) ⟨ePc_blind, O.preE h1 h2⟩ rfl rfl h5.1 rfl (lv_room hr) d ⟨by omega, by omega⟩) S2 (fun q _ h => h) (fun q h => h) (fun r1 u t H1 lo1 ht hvm hw hB hz hk hS1 => ?_)
  obtain ⟨rfl, rfl⟩ := hw
  exact kk H1 lo1 _ _ ls (by rw [← ht]; exact hB) (by rw [O.2.2.1]; exact hS1) (by omega) (by omega) h5
theorem e_kind (O : OkC g X cc nL ret "RankEntry" lvl mc Qc) {a idx j : Nat} {r0 : Nat → Int32} (hl : Cond.methodLink "RankEntry" idx ⟨"RankEntry", "kind", "(LRankEntry$Event;)I"⟩ ∈ lw_all) (hlv : 2 ≤ lvl) (hst : st = .ref a :: rest) (hr : (rest.map fun v => v.category).sum ≤ 8) (d : decode cc pc = .ok (.invokestatic idx, 3)) (hq : pc + 3 = q) (kk : V X nL b (WdC g C) q lv (.int (fv_kind (r0 (8 * j))) :: rest)) : V X nL b (PE g C a (evE r0 j)) pc lv st := by
  rcases ev_cases r0 j with ⟨hz, e1, e2⟩ | ⟨e1, e2⟩ | ⟨e1, e2⟩ | ⟨e1, e2⟩ | ⟨e1, e2⟩
  · rw [e2]
    rw [e1] at kk
    exact e_callS O (mete_kind_Began _ g a _ _ _ _ hz C) (lw_S hl q1620 q59 q1621) (by decide +kernel) hlv (by decide) hst hr d hq kk
  · rw [e2]
    rw [e1] at kk
    exact e_callS O (mete_kind_Ended _ g a _ _ _ C) (lw_S hl q1620 q59 q1621) (by decide +kernel) hlv (by decide) hst hr d hq kk
  · rw [e2]
    rw [e1] at kk
    exact e_callS O (mete_kind_Raised _ g a _ _ _ C) (lw_S hl q1620 q59 q1621) (by decide +kernel) hlv (by decide) hst hr d hq kk
  · rw [e2]
    rw [e1] at kk
    exact e_callS O (mete_kind_Abandoned _ g a _ _ _ C) (lw_S hl q1620 q59 q1621) (by decide +kernel) hlv (by decide) hst hr d hq kk
  · rw [e2]
    rw [e1] at kk
    exact e_callS O (mete_kind_Returned _ g a _ _ _ C) (lw_S hl q1620 q59 q1621) (by decide +kernel) hlv (by decide) hst hr d hq kk
theorem e_source (O : OkC g X cc nL ret own lvl mc Qc) {a idx cnt j : Nat} {r0 : Nat → Int32} (hl : Cond.methodLink own idx ⟨"RankEntry$Event", "source", "()I"⟩ ∈ lw_all) (hlv : 1 ≤ lvl) (hst : st = .ref a :: rest) (hr : (rest.map fun v => v.category).sum ≤ 8) (d : decode cc pc = .ok (.invokeinterface idx cnt, 5)) (hq : pc + 5 = q) (kk : V X nL b (WdC g C) q lv (.int (r0 (8 * j + 1)) :: rest)) : V X nL b (PE g C a (evE r0 j)) pc lv st := by
  rcases ev_cases r0 j with ⟨hz, e1, e2⟩ | ⟨e1, e2⟩ | ⟨e1, e2⟩ | ⟨e1, e2⟩ | ⟨e1, e2⟩
  · rw [e2]
    exact e_callF (x := ⟨"RankEntry$Event", "source", "()I"⟩) (p := (RX7, TX7, 4)) O rfl (mete_Began_source _ g a _ _ _ _ C) (by simp [lamFaces]) q1644 q1642 q1640 (lw_F hl q1641 q1643 q69 q1645) (by decide +kernel) hlv (by decide) hst hr d hq kk
  · rw [e2]
    exact e_callF (x := ⟨"RankEntry$Event", "source", "()I"⟩) (p := (RX11, TX11, 3)) O rfl (mete_Ended_source _ g a _ _ _ C) (by simp [lamFaces]) q1650 q1648 q1646 (lw_F hl q1647 q1649 q75 q1651) (by decide +kernel) hlv (by decide) hst hr d hq kk
  · rw [e2]
    exact e_callF (x := ⟨"RankEntry$Event", "source", "()I"⟩) (p := (RX6, TX6, 3)) O rfl (mete_Raised_source _ g a _ _ _ C) (by simp [lamFaces]) q1656 q1654 q1652 (lw_F hl q1653 q1655 q68 q1657) (by decide +kernel) hlv (by decide) hst hr d hq kk
  · rw [e2]
    exact e_callF (x := ⟨"RankEntry$Event", "source", "()I"⟩) (p := (RX12, TX12, 3)) O rfl (mete_Abandoned_source _ g a _ _ _ C) (by simp [lamFaces]) q1638 q1636 q1634 (lw_F hl q1635 q1637 q76 q1639) (by decide +kernel) hlv (by decide) hst hr d hq kk
  · rw [e2]
    exact e_callF (x := ⟨"RankEntry$Event", "source", "()I"⟩) (p := (RX13, TX13, 3)) O rfl (mete_Returned_source _ g a _ _ _ C) (by simp [lamFaces]) q1662 q1660 q1658 (lw_F hl q1659 q1661 q77 q1663) (by decide +kernel) hlv (by decide) hst hr d hq kk
theorem e_clock (O : OkC g X cc nL ret own lvl mc Qc) {a idx cnt j : Nat} {r0 : Nat → Int32} (hl : Cond.methodLink own idx ⟨"RankEntry$Event", "clock", "()I"⟩ ∈ lw_all) (hlv : 1 ≤ lvl) (hst : st = .ref a :: rest) (hr : (rest.map fun v => v.category).sum ≤ 8) (d : decode cc pc = .ok (.invokeinterface idx cnt, 5)) (hq : pc + 5 = q) (kk : V X nL b (WdC g C) q lv (.int (r0 (8 * j + 2)) :: rest)) : V X nL b (PE g C a (evE r0 j)) pc lv st := by
  rcases ev_cases r0 j with ⟨hz, e1, e2⟩ | ⟨e1, e2⟩ | ⟨e1, e2⟩ | ⟨e1, e2⟩ | ⟨e1, e2⟩
  · rw [e2]
    exact e_callF (x := ⟨"RankEntry$Event", "clock", "()I"⟩) (p := (RX7, TX7, 4)) O rfl (mete_Began_clock _ g a _ _ _ _ C) (by simp [lamFaces]) q1676 q1674 q1640 (lw_F hl q1673 q1675 q69 q1677) (by decide +kernel) hlv (by decide) hst hr d hq kk
  · rw [e2]
    exact e_callF (x := ⟨"RankEntry$Event", "clock", "()I"⟩) (p := (RX11, TX11, 3)) O rfl (mete_Ended_clock _ g a _ _ _ C) (by simp [lamFaces]) q1681 q1679 q1646 (lw_F hl q1678 q1680 q75 q1682) (by decide +kernel) hlv (by decide) hst hr d hq kk
  · rw [e2]
    exact e_callF (x := ⟨"RankEntry$Event", "clock", "()I"⟩) (p := (RX6, TX6, 3)) O rfl (mete_Raised_clock _ g a _ _ _ C) (by simp [lamFaces]) q1686 q1684 q1652 (lw_F hl q1683 q1685 q68 q1687) (by decide +kernel) hlv (by decide) hst hr d hq kk
  · rw [e2]
    exact e_callF (x := ⟨"RankEntry$Event", "clock", "()I"⟩) (p := (RX12, TX12, 3)) O rfl (mete_Abandoned_clock _ g a _ _ _ C) (by simp [lamFaces]) q1671 q1669 q1634 (lw_F hl q1668 q1670 q76 q1672) (by decide +kernel) hlv (by decide) hst hr d hq kk
  · rw [e2]
    exact e_callF (x := ⟨"RankEntry$Event", "clock", "()I"⟩) (p := (RX13, TX13, 3)) O rfl (mete_Returned_clock _ g a _ _ _ C) (by simp [lamFaces]) q1691 q1689 q1658 (lw_F hl q1688 q1690 q77 q1692) (by decide +kernel) hlv (by decide) hst hr d hq kk
theorem e_more (O : OkC g X cc nL ret own lvl mc Qc) {a idx cnt j : Nat} {r0 : Nat → Int32} (hl : Cond.methodLink own idx ⟨"RankEntry$Event", "more", "()I"⟩ ∈ lw_all) (hlv : 1 ≤ lvl) (hst : st = .ref a :: rest) (hr : (rest.map fun v => v.category).sum ≤ 8) (d : decode cc pc = .ok (.invokeinterface idx cnt, 5)) (hq : pc + 5 = q) (kk : V X nL b (WdC g C) q lv (.int (r0 (8 * j + 3)) :: rest)) : V X nL b (PE g C a (evE r0 j)) pc lv st := by
  rcases ev_cases r0 j with ⟨hz, e1, e2⟩ | ⟨e1, e2⟩ | ⟨e1, e2⟩ | ⟨e1, e2⟩ | ⟨e1, e2⟩
  · rw [e2]
    exact e_callF (x := ⟨"RankEntry$Event", "more", "()I"⟩) (p := (RX7, TX7, 4)) O rfl (mete_Began_more _ g a _ _ _ _ C) (by simp [lamFaces]) q1705 q1703 q1640 (lw_F hl q1702 q1704 q69 q1706) (by decide +kernel) hlv (by decide) hst hr d hq kk
  · rw [e2]
    exact e_callF (x := ⟨"RankEntry$Event", "more", "()I"⟩) (p := (RX11, TX11, 3)) O rfl (mete_Ended_more _ g a _ _ _ C) (by simp [lamFaces]) q1710 q1708 q1646 (lw_F hl q1707 q1709 q75 q1711) (by decide +kernel) hlv (by decide) hst hr d hq kk
  · rw [e2]
    exact e_callF (x := ⟨"RankEntry$Event", "more", "()I"⟩) (p := (RX6, TX6, 3)) O rfl (mete_Raised_more _ g a _ _ _ C) (by simp [lamFaces]) q1715 q1713 q1652 (lw_F hl q1712 q1714 q68 q1716) (by decide +kernel) hlv (by decide) hst hr d hq kk
  · rw [e2]
    exact e_callF (x := ⟨"RankEntry$Event", "more", "()I"⟩) (p := (RX12, TX12, 3)) O rfl (mete_Abandoned_more _ g a _ _ _ C) (by simp [lamFaces]) q1700 q1698 q1634 (lw_F hl q1697 q1699 q76 q1701) (by decide +kernel) hlv (by decide) hst hr d hq kk
  · rw [e2]
    exact e_callF (x := ⟨"RankEntry$Event", "more", "()I"⟩) (p := (RX13, TX13, 3)) O rfl (mete_Returned_more _ g a _ _ _ C) (by simp [lamFaces]) q1720 q1718 q1658 (lw_F hl q1717 q1719 q77 q1721) (by decide +kernel) hlv (by decide) hst hr d hq kk
end CEVU
