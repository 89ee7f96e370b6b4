theorem v_lookup {X : Cxt} {cc : ByteArray} {nL b lvl mc : Nat} {ret : Option FieldType} {own : String} {P : Heap → Prop} {pc : Nat} {lv : List (Nat × Value)} {st : List Value} (O : Ok X cc nL ret own lvl mc) {x : Int32} {dflt off : Int} {ps : Array (Int × Int)} {len t : Nat} (d : decode cc pc = .ok (.lookupswitch dflt ps, len)) (hp : (ps.toList.zip (ps.toList.drop 1)).all (fun (a, next) => a.1 < next.1) = true) (ho : Op.lookupswitch.offset ps.toList dflt x.toInt = off) (ht : (pc : Int) + off = (t : Int)) (k : V X nL b P t lv st) : V X nL b P pc lv (.int x :: st) :=
  fun H lo' ce sl ls h1 h2 h3 h4 h5 => lv_lookup O.ex O.bc d hp ho ht (k H lo' ce sl ls h1 h2 h3 h4 h5)
def cQr (g : gC) (_ : Unit) (C' : Mem) : Array Value → State → Outcome → State → Prop := va_Qq (fun r' (u : Mem) => r' = some (gCa g 52) ∧ u = C') (fun u t => WdC g u t.heap) (cA g)
section CTRY
variable {g : gC} {X : Cxt} {cc : ByteArray} {nL b lvl mc : Nat} {ret : Option FieldType} {own : String} {Qc : Array Value → State → Outcome → State → Prop} {pc q : Nat} {lv : List (Nat × Value)} {st rest : List Value} {C C' : Mem}
theorem c_rret {r : Unit} (O : OkC g X cc nL (some (.object "RankEntry$Core")) own lvl mc (cQr g r C')) (h : some ((), C) = some (r, C')) (d : decode cc pc = .ok (.areturn, 1)) : V X nL b (WdC g C) pc lv [.ref (gCa g 52)] := by
  intro H lo ce sl ls h1 h2 h3 h4 h5
  unfold xW
  refine wq_mono O.2.2.2 ?_
  rw [O.1.rm] at h3 h4
  refine W.widen (k := mc) (n := 8 * mc) (Nat.le_trans (Nat.le_add_right _ _) h3) (Nat.le_trans (Nat.le_add_right _ _) h4) ?_
  have S2 := O.S h2
  cases h
  exact W.aret O.1.ex O.1.bc O.1.rt (Or.inl ⟨_, rfl⟩) (Or.inr ⟨_, rfl⟩) (fun t ht hW => ⟨⟨some (gCa g 52), _, rfl, ⟨rfl, rfl⟩, show WdC g _ t.heap by rw [ht]; exact h1⟩, S2.F ht⟩) S2.2.2 d O.1.lk
theorem c_callVr {r : Unit} (O : OkC g X cc nL ret own lvl mc Qc) {idx maxL n lvl' b' mc' o ci : Nat} {y : MethodName} {by_ : ByteArray} {rt : Option FieldType} {As : List Value} {p : vw_C} (ho : o < 95) (hci : cCl[ci]? = some p) (hv : ∀ ah ev, ∃ fs, cCell g C ah ev o = .inr (ci, fs)) (hM : MetC (xl X) g y by_ maxL rt lvl' mc' (.ref (gCa g o) :: As) C (cQr g r C')) (hG : GoodIn lw_all (wsV own idx p.1 y (ws_ y by_ maxL rt))) (hd : y.cls = p.1 ∧ y.cls ≠ "java/lang/invoke/MethodHandle" ∧ y.cls ≠ "java/lang/invoke/VarHandle" ∧ (parseMethodDescriptor y.desc).map (fun d => d.parameters.length) = some n) (hlv : lvl' + 1 ≤ lvl) (hml : maxL ≤ 40) (hn : As.length = n) (hst : st = As.reverse ++ .ref (gCa g o) :: rest) (hr : (rest.map fun v => v.category).sum ≤ 8) (d : decode cc pc = .ok (.invokevirtual idx, 3)) (hq : pc + 3 = q) (hb : b' + mc' = b) (kk : V X nL b' (WdC g C') q lv (.ref (gCa g 52) :: rest)) : V X nL b (WdC g C) pc lv st := by
  subst hq
  subst hst
  subst hb
  intro H lo ce sl ls h1 h2 h3 h4 h5
  have S2 := O.S h2
  refine va_callq (A1 := cA g) (A0 := cA g) (va_runV (As := As) (rest := rest) ⟨O.1.ex, O.1.bc, O.1.ml, O.1.ow, O.1.ts⟩ hM (cwV n O.1.ts hG rfl rfl rfl hd (c_room O hlv hml)) ⟨cPc_blind, c_recv O h1 ho hci hv, O.pre h1 h2⟩ rfl hn h5.1 rfl (lv_room hr) d ⟨by omega, by omega⟩) S2 (fun q _ h => h) (fun q h => h) (fun r1 u t H1 lo1 ht hvm hw hB hz hk hS1 => ?_)
  obtain ⟨e1, rfl⟩ := hw
  subst e1
  show xW X H1 lo1 _ _ (F0 (xm X) (pc + 3) ls (.ref (gCa g 52) :: rest))
  exact kk H1 lo1 _ _ ls (by rw [← ht]; exact hB) (by rw [O.2.2.1]; exact hS1) (by omega) (by omega) h5
end CTRY
/-! RankEntry.tried(Z)LRankEntry$Core; -/
def fc_RE_tried (x1 : Int32) (C : Mem) : Option (Unit × Mem) :=
  bnd (fc_Core_takes 52 9 C) fun r1 C1 =>
  bnd (fc_Core_plays 52 x1 C1) fun r2 C2 =>
  some ((), C2)
set_option maxHeartbeats 4000000 in
theorem bc_RE_tried {g : gC} {X : Cxt} {r : Unit} {C' : Mem} (O : OkC g X cX1_tried 2 (some (.object "RankEntry$Core")) RX1 3 0 (cQr g r C')) (x1 : Int32) (C : Mem) (h : fc_RE_tried x1 C = some (r, C')) : V X 2 0 (WdC g C) 0 [(0, .ref (gCa g 0)), (1, .int x1)] [] := by
  unfold fc_RE_tried at h
  refine v_aload_n O.1 dX1_tried_0 rfl (q := 1) rfl ?_
  refine c_getR O 2 (v := .ref (gCa g 52)) (by decide) (O.lk q1079) rfl (fun _ _ => ⟨_, rfl, rfl⟩) dX1_tried_1 (q := 4) rfl ?_
  refine v_aload_n O.1 dX1_tried_4 rfl (q := 5) rfl ?_
  refine c_getR O 1 (v := .ref (gCa g 9)) (by decide) (O.lk q1078) rfl (fun _ _ => ⟨_, rfl, rfl⟩) dX1_tried_5 (q := 8) rfl ?_
  obtain ⟨r1, C1, e1, h⟩ := bnd_some h
  refine c_callVv (As := [.ref (gCa g 9)]) (rest := []) (n := 1) (ci := 2) (p := (RX4, TX4, 55)) O (cC_lt (j := 0) cC_52 (by decide)) rfl (fun _ _ => ⟨_, cCell_core cC_52⟩) (metc_Core_takes _ g 52 cC_52 9 cC_9 C C1 r1 e1) (lw_V q1242 q1243 q1244 q63 q1245) (by decide +kernel) (by decide) (by decide) rfl rfl (Nat.le_of_ble_eq_true rfl) dX1_tried_8 (q := 11) rfl (b' := 0) rfl ?_
  refine v_aload_n O.1 dX1_tried_11 rfl (q := 12) rfl ?_
  refine c_getR O 2 (v := .ref (gCa g 52)) (by decide) (O.lk q1079) rfl (fun _ _ => ⟨_, rfl, rfl⟩) dX1_tried_12 (q := 15) rfl ?_
  refine v_iload_n O.1 dX1_tried_15 rfl (q := 16) rfl ?_
  obtain ⟨r2, C2, e2, h⟩ := bnd_some h
  refine c_callVv (As := [.int x1]) (rest := []) (n := 1) (ci := 2) (p := (RX4, TX4, 55)) O (cC_lt (j := 0) cC_52 (by decide)) rfl (fun _ _ => ⟨_, cCell_core cC_52⟩) (metc_Core_plays _ g 52 cC_52 x1 C1 C2 r2 e2) (lw_V q1263 q1264 q1265 q63 q1266) (by decide +kernel) (by decide) (by decide) rfl rfl (Nat.le_of_ble_eq_true rfl) dX1_tried_16 (q := 19) rfl (b' := 0) rfl ?_
  refine v_aload_n O.1 dX1_tried_19 rfl (q := 20) rfl ?_
  refine c_getR O 2 (v := .ref (gCa g 52)) (by decide) (O.lk q1079) rfl (fun _ _ => ⟨_, rfl, rfl⟩) dX1_tried_20 (q := 23) rfl ?_
  exact c_rret O h dX1_tried_23
theorem metc_RE_tried (l : Launch) (g : gC) (x1 : Int32) (C C' : Mem) (r : Unit) (h : fc_RE_tried x1 C = some (r, C')) : MetC l g yX1_tried cX1_tried 2 (some (.object "RankEntry$Core")) 3 0 [.ref (gCa g 0), .int x1] C (cQr g r C') :=
  c_met (by decide) rfl (Nat.le_of_ble_eq_true rfl) (fun X O => bc_RE_tried O x1 C h)
