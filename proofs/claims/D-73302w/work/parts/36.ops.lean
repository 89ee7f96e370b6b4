theorem inb_p1 {g : gC} {i : Int32} (h : inb i 29 = true) : cOn g (i + 1) = .ref (gCo g i.toNatClampNeg) := by
  simp only [inb, Bool.and_eq_true, decide_eq_true_eq] at h
  have h0 : ¬ i < 0 := Int32.not_lt.mpr h.1
  have e1 := toNatClampNeg_of_not_neg32 i h0
  have e2 : (i + 1).toInt = i.toInt + 1 := by
    rw [Int32.toInt_add]
    show Int.bmod (i.toInt + 1) (2 ^ 32) = _
    simp only [Int.bmod]
    omega
  have h1 : ¬ i + 1 < 1 := by
    rw [Int32.lt_iff_toInt_lt, e2]
    show ¬ i.toInt + 1 < 1
    omega
  have h2 : ¬ i + 1 < 0 := by
    rw [Int32.lt_iff_toInt_lt, e2]
    show ¬ i.toInt + 1 < 0
    omega
  have e3 := toNatClampNeg_of_not_neg32 (i + 1) h2
  unfold cOn
  rw [if_neg h1]
  have e4 : (i + 1).toNatClampNeg - 1 = i.toNatClampNeg := by omega
  rw [e4]
theorem inO_lt {t : Int32} (h : inO t = true) : t.toNatClampNeg - 1 < 29 := by
  simp only [inO, Bool.and_eq_true, decide_eq_true_eq] at h
  have h1 := Int32.le_iff_toInt_le.mp h.1
  have h2 := Int32.le_iff_toInt_le.mp h.2
  have h0 : ¬ t < 0 := by
    rw [Int32.lt_iff_toInt_lt]
    have : (1 : Int32).toInt = 1 := rfl
    have : (0 : Int32).toInt = 0 := rfl
    omega
  have e1 := toNatClampNeg_of_not_neg32 t h0
  have : (29 : Int32).toInt = 29 := rfl
  omega
def cQo (g : gC) (r : Int32) (C' : Mem) : Array Value → State → Outcome → State → Prop := va_Qq (fun r' (u : Mem) => va_rf r' = cOn g r ∧ u = C') (fun u t => WdC g u t.heap) (cA g)
theorem cOn_rf (g : gC) (t : Int32) : ∃ r, va_rf r = cOn g t := by
  rcases cOn_or g t with h | ⟨x, h⟩
  · exact ⟨none, h.symm⟩
  · exact ⟨some x, h.symm⟩
section COPS
variable {g : gC} {X : Cxt} {cc : ByteArray} {nL b lvl mc : Nat} {ret : Option FieldType} {own : String} {Qc : Array Value → State → Outcome → State → Prop} {pc q : Nat} {lv : List (Nat × Value)} {st rest : List Value} {C C' : Mem}
/-- ops.length -/
theorem c_olen (O : OkC g X cc nL ret own lvl mc Qc) (d : decode cc pc = .ok (.arraylength, 1)) (hq : pc + 1 = q) (kk : V X nL b (WdC g C) q lv (.int 29 :: st)) : V X nL b (WdC g C) pc lv (.ref (gCa g 3) :: st) := by
  subst hq
  intro H lo ce sl ls h1 h2 h3 h4 h5
  have h1' := h1
  obtain ⟨Y, ah, ev, hP, hD, hY⟩ := h1'
  exact va_alen O.1.ex O.1.bc O.2.1.1 hP 3 5 (by rw [cWs_get (by decide)]; rfl) rfl (v := 29) rfl d (kk H lo ce sl ls h1 h2 h3 h4 h5)
/-- ops[i] -/
theorem c_opa (O : OkC g X cc nL ret own lvl mc Qc) {i : Int32} (hin : inb i 29 = true) (d : decode cc pc = .ok (.aaload, 1)) (hq : pc + 1 = q) (kk : V X nL b (WdC g C) q lv (cOn g (i + 1) :: st)) : V X nL b (WdC g C) pc lv (.int i :: .ref (gCa g 3) :: st) := by
  subst hq
  intro H lo ce sl ls h1 h2 h3 h4 h5
  have h1' := h1
  obtain ⟨Y, ah, ev, hP, hD, hY⟩ := h1'
  rw [inb_p1 hin] at kk
  exact va_aldq (f := fun i => some (gCo g i)) O.1.ex O.1.bc O.2.1.1 hP 3 5 (by rw [cWs_get (by decide)]; rfl) rfl (inb_in hin) d (kk H lo ce sl ls h1 h2 h3 h4 h5)
theorem c_oret {r v : Int32} (O : OkC g X cc nL (some (.object "RankEntry$Op")) own lvl mc (cQo g r C')) (h : some (v, C) = some (r, C')) (d : decode cc pc = .ok (.areturn, 1)) : V X nL b (WdC g C) pc lv [cOn g v] := by
  intro H lo ce sl ls h1 h2 h3 h4 h5
  unfold xW
  refine wq_mono O.2.2.2 ?_
  rw [O.1.rm] at h3 h4
  refine W.widen (k := mc) (n := 8 * mc) (Nat.le_trans (Nat.le_add_right _ _) h3) (Nat.le_trans (Nat.le_add_right _ _) h4) ?_
  have S2 := O.S h2
  obtain ⟨rr, hr⟩ := cOn_rf g v
  have hor := cOn_or g v
  cases h
  exact W.aret O.1.ex O.1.bc O.1.rt (Or.inl ⟨_, rfl⟩) hor (fun t ht hW => ⟨⟨rr, _, by rw [hr], ⟨hr, rfl⟩, show WdC g _ t.heap by rw [ht]; exact h1⟩, S2.F ht⟩) S2.2.2 d O.1.lk
theorem c_callVo {r : Int32} (O : OkC g X cc nL ret own lvl mc Qc) {idx maxL n lvl' b' mc' o ci : Nat} {y : MethodName} {by_ : ByteArray} {rt : Option FieldType} {As : List Value} {p : vw_C} (ho : o < 95) (hci : cCl[ci]? = some p) (hv : ∀ ah ev, ∃ fs, cCell g C ah ev o = .inr (ci, fs)) (hM : MetC (xl X) g y by_ maxL rt lvl' mc' (.ref (gCa g o) :: As) C (cQo g r C')) (hG : GoodIn lw_all (wsV own idx p.1 y (ws_ y by_ maxL rt))) (hd : y.cls = p.1 ∧ y.cls ≠ "java/lang/invoke/MethodHandle" ∧ y.cls ≠ "java/lang/invoke/VarHandle" ∧ (parseMethodDescriptor y.desc).map (fun d => d.parameters.length) = some n) (hlv : lvl' + 1 ≤ lvl) (hml : maxL ≤ 40) (hn : As.length = n) (hst : st = As.reverse ++ .ref (gCa g o) :: rest) (hr : (rest.map fun v => v.category).sum ≤ 8) (d : decode cc pc = .ok (.invokevirtual idx, 3)) (hq : pc + 3 = q) (hb : b' + mc' = b) (kk : V X nL b' (WdC g C') q lv (cOn g r :: rest)) : V X nL b (WdC g C) pc lv st := by
  subst hq
  subst hst
  subst hb
  intro H lo ce sl ls h1 h2 h3 h4 h5
  have S2 := O.S h2
  refine va_callq (A1 := cA g) (A0 := cA g) (va_runV (As := As) (rest := rest) ⟨O.1.ex, O.1.bc, O.1.ml, O.1.ow, O.1.ts⟩ hM (cwV n O.1.ts hG rfl rfl rfl hd (c_room O hlv hml)) ⟨cPc_blind, c_recv O h1 ho hci hv, O.pre h1 h2⟩ rfl hn h5.1 rfl (lv_room hr) d ⟨by omega, by omega⟩) S2 (fun q _ h => h) (fun q h => h) (fun r1 u t H1 lo1 ht hvm hw hB hz hk hS1 => ?_)
  obtain ⟨e1, rfl⟩ := hw
  rw [e1]
  exact kk H1 lo1 _ _ ls (by rw [← ht]; exact hB) (by rw [O.2.2.1]; exact hS1) (by omega) (by omega) h5
/-- the constant's length, cycles -/
theorem c_getO (O : OkC g X cc nL ret own lvl mc Qc) {idx : Nat} {t : Int32} (ht : inO t = true) {nm : String} {L : List Int32} (hnm : (nm = "length" ∧ L = opL) ∨ (nm = "cycles" ∧ L = opY)) (hl : Cond.fieldLink own idx "RankEntry$Op" nm "I" ∈ lw_all) (d : decode cc pc = .ok (.getfield idx, 3)) (hq : pc + 3 = q) (kk : V X nL b (WdC g C) q lv (.int (L.getD (t.toNatClampNeg - 1) 0) :: st)) : V X nL b (WdC g C) pc lv (.ref (gCo g (t.toNatClampNeg - 1)) :: st) := by
  subst hq
  intro H lo ce sl ls h1 h2 h3 h4 h5
  have hi : t.toNatClampNeg - 1 < 29 := inO_lt ht
  have key : va_OF "RankEntry$Op" nm "I" (.int (L.getD (t.toNatClampNeg - 1) 0)) (gCo g (t.toNatClampNeg - 1)) (cA g) (xs X) (xs X).heap := by
    obtain ⟨-, k2, k3⟩ := O.2.1.ops _ hi
    rcases hnm with ⟨rfl, rfl⟩ | ⟨rfl, rfl⟩
    · exact k2
    · exact k3
  obtain ⟨cf, k, fi, f, cell, z1, z2, z3, z4, z5, z6⟩ := key.kept (O.S h2).2.1
  exact W.getf O.1.ex O.1.bc O.1.ow (O.1.ts _ hl) z1 z2 z3 z4 z5 rfl rfl d (kk H lo ce sl ls h1 h2 h3 h4 h5)
end COPS
/-! RankEntry$Code.op(I)LRankEntry$Op; -/
def fc_Code_op_32 (y0 : Int32) (C : Mem) : Option (Int32 × Mem) :=
  some (y0, C)
set_option maxHeartbeats 4000000 in
theorem bc_Code_op_32 {g : gC} {X : Cxt} {r : Int32} {C' : Mem} (O : OkC g X cX2_op 3 (some (.object "RankEntry$Op")) RX2 1 0 (cQo g r C')) (y0 : Int32) (C : Mem) (h : fc_Code_op_32 y0 C = some (r, C')) : V X 3 0 (WdC g C) 32 [] [cOn g y0] := by
  unfold fc_Code_op_32 at h
  exact c_oret O h dX2_op_32
def fc_Code_op_31  (C : Mem) : Option (Int32 × Mem) :=
  fc_Code_op_32 0 C
set_option maxHeartbeats 4000000 in
theorem bc_Code_op_31 {g : gC} {X : Cxt} {r : Int32} {C' : Mem} (O : OkC g X cX2_op 3 (some (.object "RankEntry$Op")) RX2 1 0 (cQo g r C'))  (C : Mem) (h : fc_Code_op_31  C = some (r, C')) : V X 3 0 (WdC g C) 31 [] [] := by
  unfold fc_Code_op_31 at h
  refine v_null (w := cOn g 0) O.1 rfl dX2_op_31 (q := 32) rfl ?_
  exact v_sub [] rfl (bc_Code_op_32 O 0 C h)
def fc_Code_op (x1 : Int32) (C : Mem) : Option (Int32 × Mem) :=
  bnd (fc_Code_at x1 C) fun r1 C1 =>
  if r1 < 1 then
    fc_Code_op_31 C1
  else
    if 29 < r1 then
      fc_Code_op_31 C1
    else
      gd (inb (r1 - 1) 29) <|
      fc_Code_op_32 ((r1 - 1) + 1) C1
set_option maxHeartbeats 4000000 in
theorem bc_Code_op {g : gC} {X : Cxt} {r : Int32} {C' : Mem} (O : OkC g X cX2_op 3 (some (.object "RankEntry$Op")) RX2 1 0 (cQo g r C')) (x1 : Int32) (C : Mem) (h : fc_Code_op x1 C = some (r, C')) : V X 3 0 (WdC g C) 0 [(0, .ref (gCa g 1)), (1, .int x1)] [] := by
  unfold fc_Code_op at h
  refine v_aload_n O.1 dX2_op_0 rfl (q := 1) rfl ?_
  refine v_iload_n O.1 dX2_op_1 rfl (q := 2) rfl ?_
  obtain ⟨r1, C1, e1, h⟩ := bnd_some h
  refine c_callVi (As := [.int x1]) (rest := []) (n := 1) (ci := 1) (p := (RX2, TX2, 2)) O (by decide) rfl (fun _ _ => ⟨_, rfl⟩) (metc_Code_at _ g  x1 C C1 r1 e1) (lw_V q358 q359 q360 q60 q361) (by decide +kernel) (by decide) (by decide) rfl rfl (Nat.le_of_ble_eq_true rfl) dX2_op_2 (q := 5) rfl (b' := 0) rfl ?_
  refine v_istore_n (lv' := [(2, .int r1), (0, .ref (gCa g 1)), (1, .int x1)]) O.1 dX2_op_5 (by decide) rfl (q := 6) rfl ?_
  refine v_iload_n O.1 dX2_op_6 rfl (q := 7) rfl ?_
  refine v_iconst O.1 dX2_op_7 (v := 1) rfl (q := 8) rfl ?_
  refine v_icmp_lt O.1 dX2_op_8 (t := 31) (by decide) (q := 11) rfl (fun c2 => ?_) (fun c2 => ?_)
  · rw [if_pos c2] at h
    exact v_sub [] rfl (bc_Code_op_31 O C1 h)
  · rw [if_neg c2] at h
    refine v_iload_n O.1 dX2_op_11 rfl (q := 12) rfl ?_
    refine v_aload_n O.1 dX2_op_12 rfl (q := 13) rfl ?_
    refine c_getK O 1 (v := .ref (gCa g 3)) (by decide) (O.lk q120) rfl (fun _ _ => ⟨_, rfl, rfl⟩) dX2_op_13 (q := 16) rfl ?_
    refine c_olen O dX2_op_16 (q := 17) rfl ?_
    refine v_icmp_gt O.1 dX2_op_17 (t := 31) (by decide) (q := 20) rfl (fun c3 => ?_) (fun c3 => ?_)
    · rw [if_pos c3] at h
      exact v_sub [] rfl (bc_Code_op_31 O C1 h)
    · rw [if_neg c3] at h
      refine v_aload_n O.1 dX2_op_20 rfl (q := 21) rfl ?_
      refine c_getK O 1 (v := .ref (gCa g 3)) (by decide) (O.lk q120) rfl (fun _ _ => ⟨_, rfl, rfl⟩) dX2_op_21 (q := 24) rfl ?_
      refine v_iload_n O.1 dX2_op_24 rfl (q := 25) rfl ?_
      refine v_iconst O.1 dX2_op_25 (v := 1) rfl (q := 26) rfl ?_
      refine v_isub O.1 dX2_op_26 (q := 27) rfl ?_
      obtain ⟨g4, h⟩ := gd_some h
      refine c_opa O g4 dX2_op_27 (q := 28) rfl ?_
      refine v_goto O.1 dX2_op_28 (t := 32) (by decide) ?_
      exact v_sub [] rfl (bc_Code_op_32 O ((r1 - 1) + 1) C1 h)
theorem metc_Code_op (l : Launch) (g : gC) (x1 : Int32) (C C' : Mem) (r : Int32) (h : fc_Code_op x1 C = some (r, C')) : MetC l g yX2_op cX2_op 3 (some (.object "RankEntry$Op")) 1 0 [.ref (gCa g 1), .int x1] C (cQo g r C') :=
  c_met (by decide) rfl (Nat.le_of_ble_eq_true rfl) (fun X O => bc_Code_op O x1 C h)
