/-! THE ENTRY: split, hold -/
theorem cLv_of {o : Nat} (h : cS o) (hv : 8 ≤ cK o ∧ cK o < 16) : cLv o := ⟨h, hv.1, hv.2⟩
section CINST
variable {g : gC} {X : Cxt} {cc : ByteArray} {nL b lvl mc : Nat} {ret : Option FieldType} {own : String} {Qc : Array Value → State → Outcome → State → Prop} {pc q : Nat} {lv : List (Nat × Value)} {st rest : List Value} {C C' : Mem}
theorem c_instL (O : OkC g X cc nL ret own lvl mc Qc) {o idx : Nat} (hs : cS o) (hl : Cond.classLink own idx "RankEntry$Level" ∈ lw_all) (d : decode cc pc = .ok (.instanceof idx, 3)) (hq : pc + 3 = q) (kk : V X nL b (WdC g C) q lv (.int (if 8 ≤ cK o ∧ cK o < 16 then (1 : Int32) else 0) :: st)) : V X nL b (WdC g C) pc lv (.ref (gCa g o) :: st) := by
  subst hq
  intro H lo ce sl ls h1 h2 h3 h4 h5
  have ho := (cS_lt hs).1
  have hrc : ∀ ci p, cCl[ci]? = some p → cSc (cK o) = ci → ∃ cell : Cell, H[gCa g o]? = some cell ∧ cell.vm.isStatics = false ∧ (xs X).vm.findClass p.1 = some cell.cls := fun ci p hci hc => c_recv O h1 ho hci (fun ah ev => ⟨_, by rw [cCell_S hs, hc]⟩)
  have nc := O.2.1.nc
  by_cases hv : 8 ≤ cK o ∧ cK o < 16
  · rw [if_pos hv] at kk
    exact va_instS O.1.ex O.1.bc O.1.ow (O.1.ts _ hl) (O.2.1.1.1 6 _ rfl).2 (hrc 6 _ rfl (cLv_c ⟨hs, hv.1, hv.2⟩)) d (kk H lo ce sl ls h1 h2 h3 h4 h5)
  · rw [if_neg hv] at kk
    rcases cSc_or (cK o) with h | h | h | h
    · exact va_instNo O.1.ex O.1.bc O.1.ow (O.1.ts _ hl) (nc ("RankEntry$Line", "RankEntry$Level") (by simp [ncs])) (hrc 5 _ rfl h) d (kk H lo ce sl ls h1 h2 h3 h4 h5)
    · have := cSc_6 h
      exact absurd ⟨by omega, by omega⟩ hv
    · exact va_instNo O.1.ex O.1.bc O.1.ow (O.1.ts _ hl) (nc ("RankEntry$Inner", "RankEntry$Level") (by simp [ncs])) (hrc 7 _ rfl h) d (kk H lo ce sl ls h1 h2 h3 h4 h5)
    · exact va_instNo O.1.ex O.1.bc O.1.ow (O.1.ts _ hl) (nc ("RankEntry$Hard", "RankEntry$Level") (by simp [ncs])) (hrc 8 _ rfl h) d (kk H lo ce sl ls h1 h2 h3 h4 h5)
theorem c_castL (O : OkC g X cc nL ret own lvl mc Qc) {o idx : Nat} (hs : cS o) (hv : 8 ≤ cK o ∧ cK o < 16) (hl : Cond.classLink own idx "RankEntry$Level" ∈ lw_all) (d : decode cc pc = .ok (.checkcast idx, 3)) (hq : pc + 3 = q) (kk : V X nL b (WdC g C) q lv (.ref (gCa g o) :: st)) : V X nL b (WdC g C) pc lv (.ref (gCa g o) :: st) := by
  subst hq
  intro H lo ce sl ls h1 h2 h3 h4 h5
  exact va_castS O.1.ex O.1.bc O.1.ow (O.1.ts _ hl) (O.2.1.1.1 6 _ rfl).2 (c_recv O h1 (cS_lt hs).1 (p := (RX16, TX16, 10)) rfl (fun ah ev => ⟨_, by rw [cCell_S hs, cLv_c ⟨hs, hv.1, hv.2⟩]⟩)) d (kk H lo ce sl ls h1 h2 h3 h4 h5)
end CINST
/-! RankEntry.split(I)Z -/
def fc_RE_split_20  (C : Mem) : Option (Int32 × Mem) :=
  some (0, C)
set_option maxHeartbeats 4000000 in
theorem bc_RE_split_20 {g : gC} {X : Cxt} {r : Int32} {C' : Mem} (O : OkC g X cX1_split 2 (some .boolean) RX1 2 1 (cQi g r C'))  (C : Mem) (h : fc_RE_split_20  C = some (r, C')) : V X 2 0 (WdC g C) 20 [] [] := by
  unfold fc_RE_split_20 at h
  refine v_iconst O.1 dX1_split_20 (v := 0) rfl (q := 21) rfl ?_
  exact c_zret O (by decide) h dX1_split_21
def fc_RE_split (x1 : Int32) (C : Mem) : Option (Int32 × Mem) :=
  bnd (fc_RE_within x1 0 7 C) fun r1 C1 =>
  if r1 = 0 then
    fc_RE_split_20 C1
  else
    if (C1 9 33) ≤ 0 then
      bnd (fc_Core_splits 9 x1 C1) fun r4 C4 =>
      some (1, C4)
    else
      fc_RE_split_20 C1
set_option maxHeartbeats 4000000 in
theorem bc_RE_split {g : gC} {X : Cxt} {r : Int32} {C' : Mem} (O : OkC g X cX1_split 2 (some .boolean) RX1 2 1 (cQi g r C')) (x1 : Int32) (C : Mem) (h : fc_RE_split x1 C = some (r, C')) : V X 2 1 (WdC g C) 0 [(0, .ref (gCa g 0)), (1, .int x1)] [] := by
  unfold fc_RE_split at h
  refine v_iload_n O.1 dX1_split_0 rfl (q := 1) rfl ?_
  refine v_iconst O.1 dX1_split_1 (v := 0) rfl (q := 2) rfl ?_
  refine v_bipush O.1 dX1_split_2 (v := 7) (by decide) (q := 4) rfl ?_
  obtain ⟨r1, C1, e1, h⟩ := bnd_some h
  refine c_callSi (As := [.int x1, .int 0, .int 7]) (rest := []) (n := 3) O (metc_RE_within _ g x1 0 7 C C1 r1 e1) (lw_S q1094 q656 q59 q657) (by decide +kernel) (by decide) (by decide) rfl rfl (Nat.le_of_ble_eq_true rfl) dX1_split_4 (q := 7) rfl (b' := 1) rfl ?_
  refine v_if_eq O.1 dX1_split_7 (t := 20) (by decide) (q := 10) rfl (fun c2 => ?_) (fun c2 => ?_)
  · rw [if_pos c2] at h
    exact v_less (b' := 0) (by decide) (v_sub [] rfl (bc_RE_split_20 O C1 h))
  · rw [if_neg c2] at h
    refine v_aload_n O.1 dX1_split_10 rfl (q := 11) rfl ?_
    refine c_getR O 1 (v := .ref (gCa g 9)) (by decide) (O.lk q1078) rfl (fun _ _ => ⟨_, rfl, rfl⟩) dX1_split_11 (q := 14) rfl ?_
    refine c_getC O cC_9 33 (v := .int (C1 9 33)) (by decide) (O.lkn q896) rfl (fun _ => rfl) dX1_split_14 (q := 17) rfl ?_
    refine v_if_le O.1 dX1_split_17 (t := 22) (by decide) (q := 20) rfl (fun c3 => ?_) (fun c3 => ?_)
    · rw [if_pos c3] at h
      refine v_aload_n O.1 dX1_split_22 rfl (q := 23) rfl ?_
      refine c_getR O 1 (v := .ref (gCa g 9)) (by decide) (O.lk q1078) rfl (fun _ _ => ⟨_, rfl, rfl⟩) dX1_split_23 (q := 26) rfl ?_
      refine v_iload_n O.1 dX1_split_26 rfl (q := 27) rfl ?_
      obtain ⟨r4, C4, e4, h⟩ := bnd_some h
      refine c_callVv (As := [.int x1]) (rest := []) (n := 1) (ci := 2) (p := (RX4, TX4, 55)) O (cC_lt (j := 0) cC_9 (by decide)) rfl (fun _ _ => ⟨_, cCell_core cC_9⟩) (metc_Core_splits _ g 9 cC_9 x1 C1 C4 r4 e4) (lw_V q1116 q1117 q1118 q63 q1119) (by decide +kernel) (by decide) (by decide) rfl rfl (Nat.le_of_ble_eq_true rfl) dX1_split_27 (q := 30) rfl (b' := 0) rfl ?_
      refine v_iconst O.1 dX1_split_30 (v := 1) rfl (q := 31) rfl ?_
      exact c_zret O (by decide) h dX1_split_31
    · rw [if_neg c3] at h
      exact v_less (b' := 0) (by decide) (v_sub [] rfl (bc_RE_split_20 O C1 h))
theorem metc_RE_split (l : Launch) (g : gC) (x1 : Int32) (C C' : Mem) (r : Int32) (h : fc_RE_split x1 C = some (r, C')) : MetC l g yX1_split cX1_split 2 (some .boolean) 2 1 [.ref (gCa g 0), .int x1] C (cQi g r C') :=
  c_met (by decide) rfl (Nat.le_of_ble_eq_true rfl) (fun X O => bc_RE_split O x1 C h)
/-! RankEntry.hold(IZ)Z -/
def fc_RE_hold_60  (C : Mem) : Option (Int32 × Mem) :=
  some (0, C)
set_option maxHeartbeats 4000000 in
theorem bc_RE_hold_60 {g : gC} {X : Cxt} {r : Int32} {C' : Mem} (O : OkC g X cX1_hold 5 (some .boolean) RX1 2 0 (cQi g r C'))  (C : Mem) (h : fc_RE_hold_60  C = some (r, C')) : V X 5 0 (WdC g C) 60 [] [] := by
  unfold fc_RE_hold_60 at h
  refine v_iconst O.1 dX1_hold_60 (v := 0) rfl (q := 61) rfl ?_
  exact c_zret O (by decide) h dX1_hold_61
def fc_RE_hold_58  (C : Mem) : Option (Int32 × Mem) :=
  some (1, C)
set_option maxHeartbeats 4000000 in
theorem bc_RE_hold_58 {g : gC} {X : Cxt} {r : Int32} {C' : Mem} (O : OkC g X cX1_hold 5 (some .boolean) RX1 2 0 (cQi g r C'))  (C : Mem) (h : fc_RE_hold_58  C = some (r, C')) : V X 5 0 (WdC g C) 58 [] [] := by
  unfold fc_RE_hold_58 at h
  refine v_iconst O.1 dX1_hold_58 (v := 1) rfl (q := 59) rfl ?_
  exact c_zret O (by decide) h dX1_hold_59
def fc_RE_hold (x1 : Int32) (x2 : Int32) (C : Mem) : Option (Int32 × Mem) :=
  bnd (fc_RE_within x1 0 20 C) fun r1 C1 =>
  if r1 = 0 then
    some (0, C1)
  else
    gd (inb x1 21) <|
    if (if 8 ≤ cK (9 + 22 + x1.toNatClampNeg) ∧ cK (9 + 22 + x1.toNatClampNeg) < 16 then (1 : Int32) else 0) = 0 then
      fc_RE_hold_60 C1
    else
      gd (decide (8 ≤ cK (9 + 22 + x1.toNatClampNeg) ∧ cK (9 + 22 + x1.toNatClampNeg) < 16)) <|
      bnd (fc_Lev_holds (9 + 22 + x1.toNatClampNeg) x2 C1) fun r6 C6 =>
      if r6 = 0 then
        fc_RE_hold_60 C6
      else
        if x2 = 0 then
          fc_RE_hold_58 C6
        else
          bnd (fc_Core_becomes 9 x1 C6) fun r9 C9 =>
          fc_RE_hold_58 C9
set_option maxHeartbeats 4000000 in
theorem bc_RE_hold {g : gC} {X : Cxt} {r : Int32} {C' : Mem} (O : OkC g X cX1_hold 5 (some .boolean) RX1 2 0 (cQi g r C')) (x1 : Int32) (x2 : Int32) (C : Mem) (h : fc_RE_hold x1 x2 C = some (r, C')) : V X 5 0 (WdC g C) 0 [(0, .ref (gCa g 0)), (1, .int x1), (2, .int x2)] [] := by
  unfold fc_RE_hold at h
  refine v_iload_n O.1 dX1_hold_0 rfl (q := 1) rfl ?_
  refine v_iconst O.1 dX1_hold_1 (v := 0) rfl (q := 2) rfl ?_
  refine v_bipush O.1 dX1_hold_2 (v := 20) (by decide) (q := 4) rfl ?_
  obtain ⟨r1, C1, e1, h⟩ := bnd_some h
  refine c_callSi (As := [.int x1, .int 0, .int 20]) (rest := []) (n := 3) O (metc_RE_within _ g x1 0 20 C C1 r1 e1) (lw_S q1094 q656 q59 q657) (by decide +kernel) (by decide) (by decide) rfl rfl (Nat.le_of_ble_eq_true rfl) dX1_hold_4 (q := 7) rfl (b' := 0) rfl ?_
  refine v_if_ne O.1 dX1_hold_7 (t := 12) (by decide) (q := 10) rfl (fun c2 => ?_) (fun c2 => ?_)
  · rw [if_neg c2] at h
    refine v_aload_n O.1 dX1_hold_12 rfl (q := 13) rfl ?_
    refine c_getR O 1 (v := .ref (gCa g 9)) (by decide) (O.lk q1078) rfl (fun _ _ => ⟨_, rfl, rfl⟩) dX1_hold_13 (q := 16) rfl ?_
    refine c_getC O cC_9 7 (v := .ref (gCa g (9 + 5))) (by decide) (O.lkn q851) rfl (fun _ => rfl) dX1_hold_16 (q := 19) rfl ?_
    refine v_iload_n O.1 dX1_hold_19 rfl (q := 20) rfl ?_
    obtain ⟨g3, h⟩ := gd_some h
    refine c_all O cC_9 g3 rfl (j := x1.toNatClampNeg) dX1_hold_20 (q := 21) rfl ?_
    refine v_astore (lv' := [(4, .ref (gCa g (9 + 22 + x1.toNatClampNeg))), (0, .ref (gCa g 0)), (1, .int x1), (2, .int x2)]) O.1 dX1_hold_21 (by decide) rfl (q := 23) rfl ?_
    refine v_aload O.1 dX1_hold_23 rfl (q := 25) rfl ?_
    refine c_instL O (cS_of cC_9 (inb_lt g3)) q777 dX1_hold_25 (q := 28) rfl ?_
    refine v_if_eq O.1 dX1_hold_28 (t := 60) (by decide) (q := 31) rfl (fun c4 => ?_) (fun c4 => ?_)
    · rw [if_pos c4] at h
      exact v_sub [] rfl (bc_RE_hold_60 O C1 h)
    · rw [if_neg c4] at h
      refine v_aload O.1 dX1_hold_31 rfl (q := 33) rfl ?_
      obtain ⟨g5, h⟩ := gd_some h
      refine c_castL O (cS_of cC_9 (inb_lt g3)) (of_decide_eq_true g5) q777 dX1_hold_33 (q := 36) rfl ?_
      refine v_astore_n (lv' := [(3, .ref (gCa g (9 + 22 + x1.toNatClampNeg))), (4, .ref (gCa g (9 + 22 + x1.toNatClampNeg))), (0, .ref (gCa g 0)), (1, .int x1), (2, .int x2)]) O.1 dX1_hold_36 (by decide) rfl (q := 37) rfl ?_
      refine v_aload_n O.1 dX1_hold_37 rfl (q := 38) rfl ?_
      refine v_iload_n O.1 dX1_hold_38 rfl (q := 39) rfl ?_
      obtain ⟨r6, C6, e6, h⟩ := bnd_some h
      refine c_callVi (As := [.int x2]) (rest := []) (n := 1) (ci := 6) (p := (RX16, TX16, 10)) O (cS_lt (cS_of cC_9 (inb_lt g3))).1 rfl (fun _ _ => ⟨_, by rw [cCell_S (cS_of cC_9 (inb_lt g3)), cLv_c (cLv_of (cS_of cC_9 (inb_lt g3)) (of_decide_eq_true g5))]⟩) (metc_Lev_holds _ g (9 + 22 + x1.toNatClampNeg) (cLv_of (cS_of cC_9 (inb_lt g3)) (of_decide_eq_true g5)) x2 C1 C6 r6 e6) (lw_V q1124 q1125 q1126 q80 q1127) (by decide +kernel) (by decide) (by decide) rfl rfl (Nat.le_of_ble_eq_true rfl) dX1_hold_39 (q := 42) rfl (b' := 0) rfl ?_
      refine v_if_eq O.1 dX1_hold_42 (t := 60) (by decide) (q := 45) rfl (fun c7 => ?_) (fun c7 => ?_)
      · rw [if_pos c7] at h
        exact v_sub [] rfl (bc_RE_hold_60 O C6 h)
      · rw [if_neg c7] at h
        refine v_iload_n O.1 dX1_hold_45 rfl (q := 46) rfl ?_
        refine v_if_eq O.1 dX1_hold_46 (t := 58) (by decide) (q := 49) rfl (fun c8 => ?_) (fun c8 => ?_)
        · rw [if_pos c8] at h
          exact v_sub [] rfl (bc_RE_hold_58 O C6 h)
        · rw [if_neg c8] at h
          refine v_aload_n O.1 dX1_hold_49 rfl (q := 50) rfl ?_
          refine c_getR O 1 (v := .ref (gCa g 9)) (by decide) (O.lk q1078) rfl (fun _ _ => ⟨_, rfl, rfl⟩) dX1_hold_50 (q := 53) rfl ?_
          refine v_iload_n O.1 dX1_hold_53 rfl (q := 54) rfl ?_
          obtain ⟨r9, C9, e9, h⟩ := bnd_some h
          refine c_callVi (As := [.int x1]) (rest := []) (n := 1) (ci := 2) (p := (RX4, TX4, 55)) O (cC_lt (j := 0) cC_9 (by decide)) rfl (fun _ _ => ⟨_, cCell_core cC_9⟩) (metc_Core_becomes _ g 9 cC_9 x1 C6 C9 r9 e9) (lw_V q1128 q288 q289 q63 q290) (by decide +kernel) (by decide) (by decide) rfl rfl (Nat.le_of_ble_eq_true rfl) dX1_hold_54 (q := 57) rfl (b' := 0) rfl ?_
          refine v_pop O.1 dX1_hold_57 rfl (q := 58) rfl ?_
          exact v_sub [] rfl (bc_RE_hold_58 O C9 h)
  · rw [if_pos c2] at h
    refine v_iconst O.1 dX1_hold_10 (v := 0) rfl (q := 11) rfl ?_
    exact c_zret O (by decide) h dX1_hold_11
theorem metc_RE_hold (l : Launch) (g : gC) (x1 : Int32) (x2 : Int32) (C C' : Mem) (r : Int32) (h : fc_RE_hold x1 x2 C = some (r, C')) : MetC l g yX1_hold cX1_hold 5 (some .boolean) 2 0 [.ref (gCa g 0), .int x1, .int x2] C (cQi g r C') :=
  c_met (by decide) rfl (Nat.le_of_ble_eq_true rfl) (fun X O => bc_RE_hold O x1 x2 C h)
