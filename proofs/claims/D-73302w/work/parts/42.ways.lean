/-! RankEntry$Op.ways()I -/
def fc_Op_ways_24 (t0 : Int32) (y1 : Int32) (y0 : Int32) (C : Mem) : Option (Int32 × Mem) :=
  some ((y0 + y1), C)
set_option maxHeartbeats 4000000 in
theorem bc_Op_ways_24 {g : gC} {X : Cxt} {r : Int32} {C' : Mem} {t0 : Int32} (ht0 : inO t0 = true) (O : OkC g X cX3_ways 1 (some .int) RX3 1 0 (cQi g r C')) (y1 : Int32) (y0 : Int32) (C : Mem) (h : fc_Op_ways_24 t0 y1 y0 C = some (r, C')) : V X 1 0 (WdC g C) 24 [] [.int y1, .int y0] := by
  unfold fc_Op_ways_24 at h
  refine v_iadd O.1 dX3_ways_24 (q := 25) rfl ?_
  exact c_iret O h dX3_ways_25
def fc_Op_ways_12 (t0 : Int32) (y0 : Int32) (C : Mem) : Option (Int32 × Mem) :=
  bnd (fv_o_jumps t0 C) fun r1 C1 =>
  if r1 = 0 then
    fc_Op_ways_24 t0 0 y0 C1
  else
    fc_Op_ways_24 t0 1 y0 C1
set_option maxHeartbeats 4000000 in
theorem bc_Op_ways_12 {g : gC} {X : Cxt} {r : Int32} {C' : Mem} {t0 : Int32} (ht0 : inO t0 = true) (O : OkC g X cX3_ways 1 (some .int) RX3 1 0 (cQi g r C')) (y0 : Int32) (C : Mem) (h : fc_Op_ways_12 t0 y0 C = some (r, C')) : V X 1 0 (WdC g C) 12 [(0, .ref (gCo g (t0.toNatClampNeg - 1)))] [.int y0] := by
  unfold fc_Op_ways_12 at h
  refine v_aload_n O.1 dX3_ways_12 rfl (q := 13) rfl ?_
  obtain ⟨r1, C1, e1, h⟩ := bnd_some h
  refine c_o_jumps (rest := [.int y0]) O ht0 e1 q1418 (by decide) rfl (Nat.le_of_ble_eq_true rfl) dX3_ways_13 (q := 16) rfl ?_
  refine v_if_eq O.1 dX3_ways_16 (t := 23) (by decide) (q := 19) rfl (fun c2 => ?_) (fun c2 => ?_)
  · rw [if_pos c2] at h
    refine v_iconst O.1 dX3_ways_23 (v := 0) rfl (q := 24) rfl ?_
    exact v_sub [] rfl (bc_Op_ways_24 ht0 O 0 y0 C1 h)
  · rw [if_neg c2] at h
    refine v_iconst O.1 dX3_ways_19 (v := 1) rfl (q := 20) rfl ?_
    refine v_goto O.1 dX3_ways_20 (t := 24) (by decide) ?_
    exact v_sub [] rfl (bc_Op_ways_24 ht0 O 1 y0 C1 h)
def fc_Op_ways (t0 : Int32)  (C : Mem) : Option (Int32 × Mem) :=
  bnd (fv_o_goesOn t0 C) fun r1 C1 =>
  if r1 = 0 then
    fc_Op_ways_12 t0 0 C1
  else
    fc_Op_ways_12 t0 1 C1
set_option maxHeartbeats 4000000 in
theorem bc_Op_ways {g : gC} {X : Cxt} {r : Int32} {C' : Mem} {t0 : Int32} (ht0 : inO t0 = true) (O : OkC g X cX3_ways 1 (some .int) RX3 1 0 (cQi g r C'))  (C : Mem) (h : fc_Op_ways t0  C = some (r, C')) : V X 1 0 (WdC g C) 0 [(0, .ref (gCo g (t0.toNatClampNeg - 1)))] [] := by
  unfold fc_Op_ways at h
  refine v_aload_n O.1 dX3_ways_0 rfl (q := 1) rfl ?_
  obtain ⟨r1, C1, e1, h⟩ := bnd_some h
  refine c_o_goesOn (rest := []) O ht0 e1 q1381 (by decide) rfl (Nat.le_of_ble_eq_true rfl) dX3_ways_1 (q := 4) rfl ?_
  refine v_if_eq O.1 dX3_ways_4 (t := 11) (by decide) (q := 7) rfl (fun c2 => ?_) (fun c2 => ?_)
  · rw [if_pos c2] at h
    refine v_iconst O.1 dX3_ways_11 (v := 0) rfl (q := 12) rfl ?_
    exact v_sub [0] rfl (bc_Op_ways_12 ht0 O 0 C1 h)
  · rw [if_neg c2] at h
    refine v_iconst O.1 dX3_ways_7 (v := 1) rfl (q := 8) rfl ?_
    refine v_goto O.1 dX3_ways_8 (t := 12) (by decide) ?_
    exact v_sub [0] rfl (bc_Op_ways_12 ht0 O 1 C1 h)
theorem metc_Op_ways (l : Launch) (g : gC) (t0 : Int32) (ht0 : inO t0 = true) (C C' : Mem) (r : Int32) (h : fc_Op_ways t0 C = some (r, C')) : MetC l g yX3_ways cX3_ways 1 (some .int) 1 0 [.ref (gCo g (t0.toNatClampNeg - 1))] C (cQi g r C') :=
  c_met (by decide) rfl (Nat.le_of_ble_eq_true rfl) (fun X O => bc_Op_ways ht0 O C h)
section COPW
variable {g : gC} {X : Cxt} {cc : ByteArray} {nL b lvl mc : Nat} {ret : Option FieldType} {own : String} {Qc : Array Value → State → Outcome → State → Prop} {pc q : Nat} {lv : List (Nat × Value)} {st rest : List Value} {C C' C1 : Mem} {c : Nat}
def fv_o_ways (t : Int32) (C : Mem) : Option (Int32 × Mem) :=
  fc_Op_ways t C
set_option maxHeartbeats 4000000 in
theorem c_o_ways {r : Int32} (O : OkC g X cc nL ret own lvl mc Qc) {idx : Nat} {t : Int32} (ht : inO t = true) (h : fv_o_ways t C = some (r, C')) (hl : Cond.methodLink own idx ⟨"RankEntry$Op", "ways", "()I"⟩ ∈ lw_all) (hlv : 2 ≤ lvl) (hst : st = .ref (gCo g (t.toNatClampNeg - 1)) :: rest) (hr : (rest.map fun v => v.category).sum ≤ 8) (d : decode cc pc = .ok (.invokevirtual idx, 3)) (hq : pc + 3 = q) (kk : V X nL b (WdC g C') q lv (.int r :: rest)) : V X nL b (WdC g C) pc lv st := by
  obtain ⟨k, hk, rfl⟩ := inO_k ht
  unfold fv_o_ways at h
  match k, hk with
  | 0, hk =>
    exact c_callOi (k := 0) (As := []) (n := 0) (b' := b) (mc' := 0) (lvl' := 1) (x := ⟨"RankEntry$Op", "ways", "()I"⟩) (y := ⟨"RankEntry$Op", "ways", "()I"⟩) (owner := "RankEntry$Op") (Cn := "RankEntry$Op$1") O (by decide) rfl (fun X' O' => bc_Op_ways (t0 := nI 1) ht O' C h) (Nat.le_of_ble_eq_true rfl) ⟨hl, q1350, va_Decl.of (O.1.ts _ q1349) (O.1.ts _ q1380), by decide, q1351, q1349, q1380, by decide, by decide +kernel⟩ (by omega) (by decide) rfl hst hr d hq rfl kk
  | 1, hk =>
    exact c_callOi (k := 1) (As := []) (n := 0) (b' := b) (mc' := 0) (lvl' := 1) (x := ⟨"RankEntry$Op", "ways", "()I"⟩) (y := ⟨"RankEntry$Op", "ways", "()I"⟩) (owner := "RankEntry$Op") (Cn := "RankEntry$Op$2") O (by decide) rfl (fun X' O' => bc_Op_ways (t0 := nI 2) ht O' C h) (Nat.le_of_ble_eq_true rfl) ⟨hl, q1350, va_Decl.of (O.1.ts _ q1349) (O.1.ts _ q1380), by decide, q1362, q1349, q1380, by decide, by decide +kernel⟩ (by omega) (by decide) rfl hst hr d hq rfl kk
  | 2, hk =>
    exact c_callOi (k := 2) (As := []) (n := 0) (b' := b) (mc' := 0) (lvl' := 1) (x := ⟨"RankEntry$Op", "ways", "()I"⟩) (y := ⟨"RankEntry$Op", "ways", "()I"⟩) (owner := "RankEntry$Op") (Cn := "RankEntry$Op$3") O (by decide) rfl (fun X' O' => bc_Op_ways (t0 := nI 3) ht O' C h) (Nat.le_of_ble_eq_true rfl) ⟨hl, q1350, va_Decl.of (O.1.ts _ q1349) (O.1.ts _ q1380), by decide, q1373, q1349, q1380, by decide, by decide +kernel⟩ (by omega) (by decide) rfl hst hr d hq rfl kk
  | 3, hk =>
    exact c_callOi (k := 3) (As := []) (n := 0) (b' := b) (mc' := 0) (lvl' := 1) (x := ⟨"RankEntry$Op", "ways", "()I"⟩) (y := ⟨"RankEntry$Op", "ways", "()I"⟩) (owner := "RankEntry$Op") (Cn := "RankEntry$Op$4") O (by decide) rfl (fun X' O' => bc_Op_ways (t0 := nI 4) ht O' C h) (Nat.le_of_ble_eq_true rfl) ⟨hl, q1350, va_Decl.of (O.1.ts _ q1349) (O.1.ts _ q1380), by decide, q1374, q1349, q1380, by decide, by decide +kernel⟩ (by omega) (by decide) rfl hst hr d hq rfl kk
  | 4, hk =>
    exact c_callOi (k := 4) (As := []) (n := 0) (b' := b) (mc' := 0) (lvl' := 1) (x := ⟨"RankEntry$Op", "ways", "()I"⟩) (y := ⟨"RankEntry$Op", "ways", "()I"⟩) (owner := "RankEntry$Op") (Cn := "RankEntry$Op$5") O (by decide) rfl (fun X' O' => bc_Op_ways (t0 := nI 5) ht O' C h) (Nat.le_of_ble_eq_true rfl) ⟨hl, q1350, va_Decl.of (O.1.ts _ q1349) (O.1.ts _ q1380), by decide, q1375, q1349, q1380, by decide, by decide +kernel⟩ (by omega) (by decide) rfl hst hr d hq rfl kk
  | 5, hk =>
    exact c_callOi (k := 5) (As := []) (n := 0) (b' := b) (mc' := 0) (lvl' := 1) (x := ⟨"RankEntry$Op", "ways", "()I"⟩) (y := ⟨"RankEntry$Op", "ways", "()I"⟩) (owner := "RankEntry$Op") (Cn := "RankEntry$Op$6") O (by decide) rfl (fun X' O' => bc_Op_ways (t0 := nI 6) ht O' C h) (Nat.le_of_ble_eq_true rfl) ⟨hl, q1350, va_Decl.of (O.1.ts _ q1349) (O.1.ts _ q1380), by decide, q1376, q1349, q1380, by decide, by decide +kernel⟩ (by omega) (by decide) rfl hst hr d hq rfl kk
  | 6, hk =>
    exact c_callOi (k := 6) (As := []) (n := 0) (b' := b) (mc' := 0) (lvl' := 1) (x := ⟨"RankEntry$Op", "ways", "()I"⟩) (y := ⟨"RankEntry$Op", "ways", "()I"⟩) (owner := "RankEntry$Op") (Cn := "RankEntry$Op$7") O (by decide) rfl (fun X' O' => bc_Op_ways (t0 := nI 7) ht O' C h) (Nat.le_of_ble_eq_true rfl) ⟨hl, q1350, va_Decl.of (O.1.ts _ q1349) (O.1.ts _ q1380), by decide, q1377, q1349, q1380, by decide, by decide +kernel⟩ (by omega) (by decide) rfl hst hr d hq rfl kk
  | 7, hk =>
    exact c_callOi (k := 7) (As := []) (n := 0) (b' := b) (mc' := 0) (lvl' := 1) (x := ⟨"RankEntry$Op", "ways", "()I"⟩) (y := ⟨"RankEntry$Op", "ways", "()I"⟩) (owner := "RankEntry$Op") (Cn := "RankEntry$Op$8") O (by decide) rfl (fun X' O' => bc_Op_ways (t0 := nI 8) ht O' C h) (Nat.le_of_ble_eq_true rfl) ⟨hl, q1350, va_Decl.of (O.1.ts _ q1349) (O.1.ts _ q1380), by decide, q1378, q1349, q1380, by decide, by decide +kernel⟩ (by omega) (by decide) rfl hst hr d hq rfl kk
  | 8, hk =>
    exact c_callOi (k := 8) (As := []) (n := 0) (b' := b) (mc' := 0) (lvl' := 1) (x := ⟨"RankEntry$Op", "ways", "()I"⟩) (y := ⟨"RankEntry$Op", "ways", "()I"⟩) (owner := "RankEntry$Op") (Cn := "RankEntry$Op$9") O (by decide) rfl (fun X' O' => bc_Op_ways (t0 := nI 9) ht O' C h) (Nat.le_of_ble_eq_true rfl) ⟨hl, q1350, va_Decl.of (O.1.ts _ q1349) (O.1.ts _ q1380), by decide, q1379, q1349, q1380, by decide, by decide +kernel⟩ (by omega) (by decide) rfl hst hr d hq rfl kk
  | 9, hk =>
    exact c_callOi (k := 9) (As := []) (n := 0) (b' := b) (mc' := 0) (lvl' := 1) (x := ⟨"RankEntry$Op", "ways", "()I"⟩) (y := ⟨"RankEntry$Op", "ways", "()I"⟩) (owner := "RankEntry$Op") (Cn := "RankEntry$Op$10") O (by decide) rfl (fun X' O' => bc_Op_ways (t0 := nI 10) ht O' C h) (Nat.le_of_ble_eq_true rfl) ⟨hl, q1350, va_Decl.of (O.1.ts _ q1349) (O.1.ts _ q1380), by decide, q1352, q1349, q1380, by decide, by decide +kernel⟩ (by omega) (by decide) rfl hst hr d hq rfl kk
  | 10, hk =>
    exact c_callOi (k := 10) (As := []) (n := 0) (b' := b) (mc' := 0) (lvl' := 1) (x := ⟨"RankEntry$Op", "ways", "()I"⟩) (y := ⟨"RankEntry$Op", "ways", "()I"⟩) (owner := "RankEntry$Op") (Cn := "RankEntry$Op$11") O (by decide) rfl (fun X' O' => bc_Op_ways (t0 := nI 11) ht O' C h) (Nat.le_of_ble_eq_true rfl) ⟨hl, q1350, va_Decl.of (O.1.ts _ q1349) (O.1.ts _ q1380), by decide, q1353, q1349, q1380, by decide, by decide +kernel⟩ (by omega) (by decide) rfl hst hr d hq rfl kk
  | 11, hk =>
    exact c_callOi (k := 11) (As := []) (n := 0) (b' := b) (mc' := 0) (lvl' := 1) (x := ⟨"RankEntry$Op", "ways", "()I"⟩) (y := ⟨"RankEntry$Op", "ways", "()I"⟩) (owner := "RankEntry$Op") (Cn := "RankEntry$Op$12") O (by decide) rfl (fun X' O' => bc_Op_ways (t0 := nI 12) ht O' C h) (Nat.le_of_ble_eq_true rfl) ⟨hl, q1350, va_Decl.of (O.1.ts _ q1349) (O.1.ts _ q1380), by decide, q1354, q1349, q1380, by decide, by decide +kernel⟩ (by omega) (by decide) rfl hst hr d hq rfl kk
  | 12, hk =>
    exact c_callOi (k := 12) (As := []) (n := 0) (b' := b) (mc' := 0) (lvl' := 1) (x := ⟨"RankEntry$Op", "ways", "()I"⟩) (y := ⟨"RankEntry$Op", "ways", "()I"⟩) (owner := "RankEntry$Op") (Cn := "RankEntry$Op$13") O (by decide) rfl (fun X' O' => bc_Op_ways (t0 := nI 13) ht O' C h) (Nat.le_of_ble_eq_true rfl) ⟨hl, q1350, va_Decl.of (O.1.ts _ q1349) (O.1.ts _ q1380), by decide, q1355, q1349, q1380, by decide, by decide +kernel⟩ (by omega) (by decide) rfl hst hr d hq rfl kk
  | 13, hk =>
    exact c_callOi (k := 13) (As := []) (n := 0) (b' := b) (mc' := 0) (lvl' := 1) (x := ⟨"RankEntry$Op", "ways", "()I"⟩) (y := ⟨"RankEntry$Op", "ways", "()I"⟩) (owner := "RankEntry$Op") (Cn := "RankEntry$Op$14") O (by decide) rfl (fun X' O' => bc_Op_ways (t0 := nI 14) ht O' C h) (Nat.le_of_ble_eq_true rfl) ⟨hl, q1350, va_Decl.of (O.1.ts _ q1349) (O.1.ts _ q1380), by decide, q1356, q1349, q1380, by decide, by decide +kernel⟩ (by omega) (by decide) rfl hst hr d hq rfl kk
  | 14, hk =>
    exact c_callOi (k := 14) (As := []) (n := 0) (b' := b) (mc' := 0) (lvl' := 1) (x := ⟨"RankEntry$Op", "ways", "()I"⟩) (y := ⟨"RankEntry$Op", "ways", "()I"⟩) (owner := "RankEntry$Op") (Cn := "RankEntry$Op$15") O (by decide) rfl (fun X' O' => bc_Op_ways (t0 := nI 15) ht O' C h) (Nat.le_of_ble_eq_true rfl) ⟨hl, q1350, va_Decl.of (O.1.ts _ q1349) (O.1.ts _ q1380), by decide, q1357, q1349, q1380, by decide, by decide +kernel⟩ (by omega) (by decide) rfl hst hr d hq rfl kk
  | 15, hk =>
    exact c_callOi (k := 15) (As := []) (n := 0) (b' := b) (mc' := 0) (lvl' := 1) (x := ⟨"RankEntry$Op", "ways", "()I"⟩) (y := ⟨"RankEntry$Op", "ways", "()I"⟩) (owner := "RankEntry$Op") (Cn := "RankEntry$Op$16") O (by decide) rfl (fun X' O' => bc_Op_ways (t0 := nI 16) ht O' C h) (Nat.le_of_ble_eq_true rfl) ⟨hl, q1350, va_Decl.of (O.1.ts _ q1349) (O.1.ts _ q1380), by decide, q1358, q1349, q1380, by decide, by decide +kernel⟩ (by omega) (by decide) rfl hst hr d hq rfl kk
  | 16, hk =>
    exact c_callOi (k := 16) (As := []) (n := 0) (b' := b) (mc' := 0) (lvl' := 1) (x := ⟨"RankEntry$Op", "ways", "()I"⟩) (y := ⟨"RankEntry$Op", "ways", "()I"⟩) (owner := "RankEntry$Op") (Cn := "RankEntry$Op$17") O (by decide) rfl (fun X' O' => bc_Op_ways (t0 := nI 17) ht O' C h) (Nat.le_of_ble_eq_true rfl) ⟨hl, q1350, va_Decl.of (O.1.ts _ q1349) (O.1.ts _ q1380), by decide, q1359, q1349, q1380, by decide, by decide +kernel⟩ (by omega) (by decide) rfl hst hr d hq rfl kk
  | 17, hk =>
    exact c_callOi (k := 17) (As := []) (n := 0) (b' := b) (mc' := 0) (lvl' := 1) (x := ⟨"RankEntry$Op", "ways", "()I"⟩) (y := ⟨"RankEntry$Op", "ways", "()I"⟩) (owner := "RankEntry$Op") (Cn := "RankEntry$Op$18") O (by decide) rfl (fun X' O' => bc_Op_ways (t0 := nI 18) ht O' C h) (Nat.le_of_ble_eq_true rfl) ⟨hl, q1350, va_Decl.of (O.1.ts _ q1349) (O.1.ts _ q1380), by decide, q1360, q1349, q1380, by decide, by decide +kernel⟩ (by omega) (by decide) rfl hst hr d hq rfl kk
  | 18, hk =>
    exact c_callOi (k := 18) (As := []) (n := 0) (b' := b) (mc' := 0) (lvl' := 1) (x := ⟨"RankEntry$Op", "ways", "()I"⟩) (y := ⟨"RankEntry$Op", "ways", "()I"⟩) (owner := "RankEntry$Op") (Cn := "RankEntry$Op$19") O (by decide) rfl (fun X' O' => bc_Op_ways (t0 := nI 19) ht O' C h) (Nat.le_of_ble_eq_true rfl) ⟨hl, q1350, va_Decl.of (O.1.ts _ q1349) (O.1.ts _ q1380), by decide, q1361, q1349, q1380, by decide, by decide +kernel⟩ (by omega) (by decide) rfl hst hr d hq rfl kk
  | 19, hk =>
    exact c_callOi (k := 19) (As := []) (n := 0) (b' := b) (mc' := 0) (lvl' := 1) (x := ⟨"RankEntry$Op", "ways", "()I"⟩) (y := ⟨"RankEntry$Op", "ways", "()I"⟩) (owner := "RankEntry$Op") (Cn := "RankEntry$Op$20") O (by decide) rfl (fun X' O' => bc_Op_ways (t0 := nI 20) ht O' C h) (Nat.le_of_ble_eq_true rfl) ⟨hl, q1350, va_Decl.of (O.1.ts _ q1349) (O.1.ts _ q1380), by decide, q1363, q1349, q1380, by decide, by decide +kernel⟩ (by omega) (by decide) rfl hst hr d hq rfl kk
  | 20, hk =>
    exact c_callOi (k := 20) (As := []) (n := 0) (b' := b) (mc' := 0) (lvl' := 1) (x := ⟨"RankEntry$Op", "ways", "()I"⟩) (y := ⟨"RankEntry$Op", "ways", "()I"⟩) (owner := "RankEntry$Op") (Cn := "RankEntry$Op$21") O (by decide) rfl (fun X' O' => bc_Op_ways (t0 := nI 21) ht O' C h) (Nat.le_of_ble_eq_true rfl) ⟨hl, q1350, va_Decl.of (O.1.ts _ q1349) (O.1.ts _ q1380), by decide, q1364, q1349, q1380, by decide, by decide +kernel⟩ (by omega) (by decide) rfl hst hr d hq rfl kk
  | 21, hk =>
    exact c_callOi (k := 21) (As := []) (n := 0) (b' := b) (mc' := 0) (lvl' := 1) (x := ⟨"RankEntry$Op", "ways", "()I"⟩) (y := ⟨"RankEntry$Op", "ways", "()I"⟩) (owner := "RankEntry$Op") (Cn := "RankEntry$Op$22") O (by decide) rfl (fun X' O' => bc_Op_ways (t0 := nI 22) ht O' C h) (Nat.le_of_ble_eq_true rfl) ⟨hl, q1350, va_Decl.of (O.1.ts _ q1349) (O.1.ts _ q1380), by decide, q1365, q1349, q1380, by decide, by decide +kernel⟩ (by omega) (by decide) rfl hst hr d hq rfl kk
  | 22, hk =>
    exact c_callOi (k := 22) (As := []) (n := 0) (b' := b) (mc' := 0) (lvl' := 1) (x := ⟨"RankEntry$Op", "ways", "()I"⟩) (y := ⟨"RankEntry$Op", "ways", "()I"⟩) (owner := "RankEntry$Op") (Cn := "RankEntry$Op$23") O (by decide) rfl (fun X' O' => bc_Op_ways (t0 := nI 23) ht O' C h) (Nat.le_of_ble_eq_true rfl) ⟨hl, q1350, va_Decl.of (O.1.ts _ q1349) (O.1.ts _ q1380), by decide, q1366, q1349, q1380, by decide, by decide +kernel⟩ (by omega) (by decide) rfl hst hr d hq rfl kk
  | 23, hk =>
    exact c_callOi (k := 23) (As := []) (n := 0) (b' := b) (mc' := 0) (lvl' := 1) (x := ⟨"RankEntry$Op", "ways", "()I"⟩) (y := ⟨"RankEntry$Op", "ways", "()I"⟩) (owner := "RankEntry$Op") (Cn := "RankEntry$Op$24") O (by decide) rfl (fun X' O' => bc_Op_ways (t0 := nI 24) ht O' C h) (Nat.le_of_ble_eq_true rfl) ⟨hl, q1350, va_Decl.of (O.1.ts _ q1349) (O.1.ts _ q1380), by decide, q1367, q1349, q1380, by decide, by decide +kernel⟩ (by omega) (by decide) rfl hst hr d hq rfl kk
  | 24, hk =>
    exact c_callOi (k := 24) (As := []) (n := 0) (b' := b) (mc' := 0) (lvl' := 1) (x := ⟨"RankEntry$Op", "ways", "()I"⟩) (y := ⟨"RankEntry$Op", "ways", "()I"⟩) (owner := "RankEntry$Op") (Cn := "RankEntry$Op$25") O (by decide) rfl (fun X' O' => bc_Op_ways (t0 := nI 25) ht O' C h) (Nat.le_of_ble_eq_true rfl) ⟨hl, q1350, va_Decl.of (O.1.ts _ q1349) (O.1.ts _ q1380), by decide, q1368, q1349, q1380, by decide, by decide +kernel⟩ (by omega) (by decide) rfl hst hr d hq rfl kk
  | 25, hk =>
    exact c_callOi (k := 25) (As := []) (n := 0) (b' := b) (mc' := 0) (lvl' := 1) (x := ⟨"RankEntry$Op", "ways", "()I"⟩) (y := ⟨"RankEntry$Op", "ways", "()I"⟩) (owner := "RankEntry$Op") (Cn := "RankEntry$Op$26") O (by decide) rfl (fun X' O' => bc_Op_ways (t0 := nI 26) ht O' C h) (Nat.le_of_ble_eq_true rfl) ⟨hl, q1350, va_Decl.of (O.1.ts _ q1349) (O.1.ts _ q1380), by decide, q1369, q1349, q1380, by decide, by decide +kernel⟩ (by omega) (by decide) rfl hst hr d hq rfl kk
  | 26, hk =>
    exact c_callOi (k := 26) (As := []) (n := 0) (b' := b) (mc' := 0) (lvl' := 1) (x := ⟨"RankEntry$Op", "ways", "()I"⟩) (y := ⟨"RankEntry$Op", "ways", "()I"⟩) (owner := "RankEntry$Op") (Cn := "RankEntry$Op$27") O (by decide) rfl (fun X' O' => bc_Op_ways (t0 := nI 27) ht O' C h) (Nat.le_of_ble_eq_true rfl) ⟨hl, q1350, va_Decl.of (O.1.ts _ q1349) (O.1.ts _ q1380), by decide, q1370, q1349, q1380, by decide, by decide +kernel⟩ (by omega) (by decide) rfl hst hr d hq rfl kk
  | 27, hk =>
    exact c_callOi (k := 27) (As := []) (n := 0) (b' := b) (mc' := 0) (lvl' := 1) (x := ⟨"RankEntry$Op", "ways", "()I"⟩) (y := ⟨"RankEntry$Op", "ways", "()I"⟩) (owner := "RankEntry$Op") (Cn := "RankEntry$Op$28") O (by decide) rfl (fun X' O' => bc_Op_ways (t0 := nI 28) ht O' C h) (Nat.le_of_ble_eq_true rfl) ⟨hl, q1350, va_Decl.of (O.1.ts _ q1349) (O.1.ts _ q1380), by decide, q1371, q1349, q1380, by decide, by decide +kernel⟩ (by omega) (by decide) rfl hst hr d hq rfl kk
  | 28, hk =>
    exact c_callOi (k := 28) (As := []) (n := 0) (b' := b) (mc' := 0) (lvl' := 1) (x := ⟨"RankEntry$Op", "ways", "()I"⟩) (y := ⟨"RankEntry$Op", "ways", "()I"⟩) (owner := "RankEntry$Op") (Cn := "RankEntry$Op$29") O (by decide) rfl (fun X' O' => bc_Op_ways (t0 := nI 29) ht O' C h) (Nat.le_of_ble_eq_true rfl) ⟨hl, q1350, va_Decl.of (O.1.ts _ q1349) (O.1.ts _ q1380), by decide, q1372, q1349, q1380, by decide, by decide +kernel⟩ (by omega) (by decide) rfl hst hr d hq rfl kk
  | k + 29, hk => omega
end COPW
/-! RankEntry$Code.next(II)I -/
def fc_Code_next_59 (y0 : Int32) (C : Mem) : Option (Int32 × Mem) :=
  some (y0, C)
set_option maxHeartbeats 4000000 in
theorem bc_Code_next_59 {g : gC} {X : Cxt} {r : Int32} {C' : Mem} (O : OkC g X cX2_next 5 (some .int) RX2 2 0 (cQi g r C')) (y0 : Int32) (C : Mem) (h : fc_Code_next_59 y0 C = some (r, C')) : V X 5 0 (WdC g C) 59 [] [.int y0] := by
  unfold fc_Code_next_59 at h
  exact c_iret O h dX2_next_59
def fc_Code_next_22 (x1 : Int32) (x3 : Int32) (y0 : Int32) (C : Mem) : Option (Int32 × Mem) :=
  if y0 = 0 then
    bnd (fc_Code_at (x1 + 1) C) fun r2 C2 =>
    bnd (fc_Code_at (x1 + 2) C2) fun r3 C3 =>
    bnd (fc_Op_target r2 r3 C3) fun r4 C4 =>
    fc_Code_next_59 r4 C4
  else
    gd (inO x3) <|
    fc_Code_next_59 ((x1 + (opL.getD (x3.toNatClampNeg - 1) 0)) &&& 511) C
set_option maxHeartbeats 4000000 in
theorem bc_Code_next_22 {g : gC} {X : Cxt} {r : Int32} {C' : Mem} (O : OkC g X cX2_next 5 (some .int) RX2 2 0 (cQi g r C')) (x1 : Int32) (x3 : Int32) (y0 : Int32) (C : Mem) (h : fc_Code_next_22 x1 x3 y0 C = some (r, C')) : V X 5 0 (WdC g C) 22 [(0, .ref (gCa g 1)), (1, .int x1), (3, cOn g x3)] [.int y0] := by
  unfold fc_Code_next_22 at h
  refine v_istore (lv' := [(4, .int y0), (0, .ref (gCa g 1)), (1, .int x1), (3, cOn g x3)]) O.1 dX2_next_22 (by decide) (by first | rfl | simp [List.filter, cSn_cat, cOn_cat, show ((1 : Fin 4) : Nat) = 1 from rfl, show ((2 : Fin 4) : Nat) = 2 from rfl, show ((3 : Fin 4) : Nat) = 3 from rfl]) (q := 24) rfl ?_
  refine v_iload O.1 dX2_next_24 rfl (q := 26) rfl ?_
  refine v_if_eq O.1 dX2_next_26 (t := 42) (by decide) (q := 29) rfl (fun c1 => ?_) (fun c1 => ?_)
  · rw [if_pos c1] at h
    refine v_aload_n O.1 dX2_next_42 rfl (q := 43) rfl ?_
    refine v_iload_n O.1 dX2_next_43 rfl (q := 44) rfl ?_
    refine v_iconst O.1 dX2_next_44 (v := 1) rfl (q := 45) rfl ?_
    refine v_iadd O.1 dX2_next_45 (q := 46) rfl ?_
    obtain ⟨r2, C2, e2, h⟩ := bnd_some h
    refine c_callVi (As := [.int (x1 + 1)]) (rest := []) (n := 1) (ci := 1) (p := (RX2, TX2, 2)) O (by decide) rfl (fun _ _ => ⟨_, rfl⟩) (metc_Code_at _ g  (x1 + 1) C C2 r2 e2) (lw_V q358 q359 q360 q60 q361) (by decide +kernel) (by decide) (by decide) rfl rfl (Nat.le_of_ble_eq_true rfl) dX2_next_46 (q := 49) rfl (b' := 0) rfl ?_
    refine v_aload_n O.1 dX2_next_49 rfl (q := 50) rfl ?_
    refine v_iload_n O.1 dX2_next_50 rfl (q := 51) rfl ?_
    refine v_iconst O.1 dX2_next_51 (v := 2) rfl (q := 52) rfl ?_
    refine v_iadd O.1 dX2_next_52 (q := 53) rfl ?_
    obtain ⟨r3, C3, e3, h⟩ := bnd_some h
    refine c_callVi (As := [.int (x1 + 2)]) (rest := [.int r2]) (n := 1) (ci := 1) (p := (RX2, TX2, 2)) O (by decide) rfl (fun _ _ => ⟨_, rfl⟩) (metc_Code_at _ g  (x1 + 2) C2 C3 r3 e3) (lw_V q358 q359 q360 q60 q361) (by decide +kernel) (by decide) (by decide) rfl rfl (Nat.le_of_ble_eq_true rfl) dX2_next_53 (q := 56) rfl (b' := 0) rfl ?_
    obtain ⟨r4, C4, e4, h⟩ := bnd_some h
    refine c_callSi (As := [.int r2, .int r3]) (rest := []) (n := 2) O (metc_Op_target _ g r2 r3 C3 C4 r4 e4) (lw_S q1467 q443 q62 q444) (by decide +kernel) (by decide) (by decide) rfl rfl (Nat.le_of_ble_eq_true rfl) dX2_next_56 (q := 59) rfl (b' := 0) rfl ?_
    exact v_sub [] rfl (bc_Code_next_59 O r4 C4 h)
  · rw [if_neg c1] at h
    refine v_iload_n O.1 dX2_next_29 rfl (q := 30) rfl ?_
    obtain ⟨g5, h⟩ := gd_some h
    refine v_aload_nq O.1 (cOn_in g5) dX2_next_30 rfl (q := 31) rfl ?_
    refine c_getO O g5 (Or.inl ⟨rfl, rfl⟩) q2247 dX2_next_31 (q := 34) rfl ?_
    refine v_iadd O.1 dX2_next_34 (q := 35) rfl ?_
    refine v_sipush O.1 dX2_next_35 (v := 511) (by decide) (q := 38) rfl ?_
    refine v_iand O.1 dX2_next_38 (q := 39) rfl ?_
    refine v_goto O.1 dX2_next_39 (t := 59) (by decide) ?_
    exact v_sub [] rfl (bc_Code_next_59 O ((x1 + (opL.getD (x3.toNatClampNeg - 1) 0)) &&& 511) C h)
def fc_Code_next_21 (x1 : Int32) (x3 : Int32) (C : Mem) : Option (Int32 × Mem) :=
  fc_Code_next_22 x1 x3 0 C
set_option maxHeartbeats 4000000 in
theorem bc_Code_next_21 {g : gC} {X : Cxt} {r : Int32} {C' : Mem} (O : OkC g X cX2_next 5 (some .int) RX2 2 0 (cQi g r C')) (x1 : Int32) (x3 : Int32) (C : Mem) (h : fc_Code_next_21 x1 x3 C = some (r, C')) : V X 5 0 (WdC g C) 21 [(0, .ref (gCa g 1)), (1, .int x1), (3, cOn g x3)] [] := by
  unfold fc_Code_next_21 at h
  refine v_iconst O.1 dX2_next_21 (v := 0) rfl (q := 22) rfl ?_
  exact v_sub [0, 1, 2] rfl (bc_Code_next_22 O x1 x3 0 C h)
def fc_Code_next (x1 : Int32) (x2 : Int32) (C : Mem) : Option (Int32 × Mem) :=
  bnd (fc_Code_op x1 C) fun r1 C1 =>
  gd (inO r1) <|
  bnd (fv_o_goesOn r1 C1) fun r3 C3 =>
  if r3 = 0 then
    fc_Code_next_21 x1 r1 C3
  else
    if x2 = 0 then
      fc_Code_next_22 x1 r1 1 C3
    else
      fc_Code_next_21 x1 r1 C3
set_option maxHeartbeats 4000000 in
theorem bc_Code_next {g : gC} {X : Cxt} {r : Int32} {C' : Mem} (O : OkC g X cX2_next 5 (some .int) RX2 2 0 (cQi g r C')) (x1 : Int32) (x2 : Int32) (C : Mem) (h : fc_Code_next x1 x2 C = some (r, C')) : V X 5 0 (WdC g C) 0 [(0, .ref (gCa g 1)), (1, .int x1), (2, .int x2)] [] := by
  unfold fc_Code_next at h
  refine v_aload_n O.1 dX2_next_0 rfl (q := 1) rfl ?_
  refine v_iload_n O.1 dX2_next_1 rfl (q := 2) rfl ?_
  obtain ⟨r1, C1, e1, h⟩ := bnd_some h
  refine c_callVo (As := [.int x1]) (rest := []) (n := 1) (ci := 1) (p := (RX2, TX2, 2)) O (by decide) rfl (fun _ _ => ⟨_, rfl⟩) (metc_Code_op _ g  x1 C C1 r1 e1) (lw_V q1465 q355 q356 q60 q357) (by decide +kernel) (by decide) (by decide) rfl rfl (Nat.le_of_ble_eq_true rfl) dX2_next_2 (q := 5) rfl (b' := 0) rfl ?_
  refine v_astore_nr (lv' := [(3, cOn g r1), (0, .ref (gCa g 1)), (1, .int x1), (2, .int x2)]) O.1 (cOn_or _ _) dX2_next_5 (by decide) (by first | rfl | simp [List.filter, cSn_cat, cOn_cat, show ((1 : Fin 4) : Nat) = 1 from rfl, show ((2 : Fin 4) : Nat) = 2 from rfl, show ((3 : Fin 4) : Nat) = 3 from rfl]) (q := 6) rfl ?_
  obtain ⟨g2, h⟩ := gd_some h
  refine v_aload_nq O.1 (cOn_in g2) dX2_next_6 rfl (q := 7) rfl ?_
  obtain ⟨r3, C3, e3, h⟩ := bnd_some h
  refine c_o_goesOn (rest := []) O g2 e3 q1466 (by decide) rfl (Nat.le_of_ble_eq_true rfl) dX2_next_7 (q := 10) rfl ?_
  refine v_if_eq O.1 dX2_next_10 (t := 21) (by decide) (q := 13) rfl (fun c4 => ?_) (fun c4 => ?_)
  · rw [if_pos c4] at h
    exact v_sub [1, 2, 0] rfl (bc_Code_next_21 O x1 r1 C3 h)
  · rw [if_neg c4] at h
    refine v_iload_n O.1 dX2_next_13 rfl (q := 14) rfl ?_
    refine v_if_ne O.1 dX2_next_14 (t := 21) (by decide) (q := 17) rfl (fun c5 => ?_) (fun c5 => ?_)
    · rw [if_neg c5] at h
      exact v_sub [1, 2, 0] rfl (bc_Code_next_21 O x1 r1 C3 h)
    · rw [if_pos c5] at h
      refine v_iconst O.1 dX2_next_17 (v := 1) rfl (q := 18) rfl ?_
      refine v_goto O.1 dX2_next_18 (t := 22) (by decide) ?_
      exact v_sub [1, 2, 0] rfl (bc_Code_next_22 O x1 r1 1 C3 h)
theorem metc_Code_next (l : Launch) (g : gC) (x1 : Int32) (x2 : Int32) (C C' : Mem) (r : Int32) (h : fc_Code_next x1 x2 C = some (r, C')) : MetC l g yX2_next cX2_next 5 (some .int) 2 0 [.ref (gCa g 1), .int x1, .int x2] C (cQi g r C') :=
  c_met (by decide) rfl (Nat.le_of_ble_eq_true rfl) (fun X O => bc_Code_next O x1 x2 C h)
/-! RankEntry$Ways.enters(I)V -/
def fc_Ways_enters (x1 : Int32) (C : Mem) : Option (Unit × Mem) :=
  gd (inb x1 512) <|
  stp (up2 C 7 x1.toNatClampNeg 0) fun C2 =>
  gd (inb (C2 4 5) 512) <|
  stp (up2 C2 8 (C2 4 5).toNatClampNeg x1) fun C4 =>
  stp (up2 C4 4 5 ((C4 4 5) + 1)) fun C5 =>
  some ((), C5)
set_option maxHeartbeats 4000000 in
theorem bc_Ways_enters {g : gC} {X : Cxt} {r : Unit} {C' : Mem} (O : OkC g X cX19_enters 2 none RX19 0 0 (cQv g r C')) (x1 : Int32) (C : Mem) (h : fc_Ways_enters x1 C = some (r, C')) : V X 2 0 (WdC g C) 0 [(0, .ref (gCa g 4)), (1, .int x1)] [] := by
  unfold fc_Ways_enters at h
  refine v_aload_n O.1 dX19_enters_0 rfl (q := 1) rfl ?_
  refine c_getW O 3 (v := .ref (gCa g 7)) (by decide) (O.lk q1061) rfl (fun _ _ => ⟨_, rfl, rfl⟩) dX19_enters_1 (q := 4) rfl ?_
  refine v_iload_n O.1 dX19_enters_4 rfl (q := 5) rfl ?_
  refine v_iconst O.1 dX19_enters_5 (v := 0) rfl (q := 6) rfl ?_
  obtain ⟨g1, h⟩ := gd_some h
  obtain ⟨C2, e2, h⟩ := stp_some h
  refine c_iast O (cIA_w (by decide)) g1 rfl (j := x1.toNatClampNeg) dX19_enters_6 (q := 7) rfl e2 ?_
  refine v_aload_n O.1 dX19_enters_7 rfl (q := 8) rfl ?_
  refine c_getW O 4 (v := .ref (gCa g 8)) (by decide) (O.lk q1062) rfl (fun _ _ => ⟨_, rfl, rfl⟩) dX19_enters_8 (q := 11) rfl ?_
  refine v_aload_n O.1 dX19_enters_11 rfl (q := 12) rfl ?_
  refine c_getW O 5 (v := .int (C2 4 5)) (by decide) (O.lk q1063) rfl (fun _ _ => ⟨_, rfl, rfl⟩) dX19_enters_12 (q := 15) rfl ?_
  refine v_iload_n O.1 dX19_enters_15 rfl (q := 16) rfl ?_
  obtain ⟨g3, h⟩ := gd_some h
  obtain ⟨C4, e4, h⟩ := stp_some h
  refine c_iast O (cIA_w (by decide)) g3 rfl (j := (C2 4 5).toNatClampNeg) dX19_enters_16 (q := 17) rfl e4 ?_
  refine v_aload_n O.1 dX19_enters_17 rfl (q := 18) rfl ?_
  refine v_dup O.1 dX19_enters_18 rfl (q := 19) rfl ?_
  refine c_getW O 5 (v := .int (C4 4 5)) (by decide) (O.lk q1063) rfl (fun _ _ => ⟨_, rfl, rfl⟩) dX19_enters_19 (q := 22) rfl ?_
  refine v_iconst O.1 dX19_enters_22 (v := 1) rfl (q := 23) rfl ?_
  refine v_iadd O.1 dX19_enters_23 (q := 24) rfl ?_
  obtain ⟨C5, e5, h⟩ := stp_some h
  refine c_putW O (O.lk q1063) dX19_enters_24 (q := 27) rfl e5 ?_
  exact c_vret O h dX19_enters_27
theorem metc_Ways_enters (l : Launch) (g : gC) (x1 : Int32) (C C' : Mem) (r : Unit) (h : fc_Ways_enters x1 C = some (r, C')) : MetC l g yX19_enters cX19_enters 2 none 0 0 [.ref (gCa g 4), .int x1] C (cQv g r C') :=
  c_met (by decide) rfl (Nat.le_of_ble_eq_true rfl) (fun X O => bc_Ways_enters O x1 C h)
/-! RankEntry$Ways.leaves(ILRankEntry$Op;)V -/
def fc_Ways_leaves_76 (t2 : Int32) (K8 : Int32 → Int32 → Int32 → Int32 → Mem → Option (Unit × Mem)) (x1 : Int32) (x3 : Int32) (x5 : Int32) (y0 : Int32) (C : Mem) : Option (Unit × Mem) :=
  K8 x1 x3 y0 (x5 + 1) C
set_option maxHeartbeats 4000000 in
theorem bc_Ways_leaves_76 {g : gC} {X : Cxt} {r : Unit} {C' : Mem} {t2 : Int32} (ht2 : inO t2 = true) (O : OkC g X cX19_leaves 7 none RX19 3 0 (cQv g r C')) {K8 : Int32 → Int32 → Int32 → Int32 → Mem → Option (Unit × Mem)} (hK8 : ∀ (x1 : Int32) (x3 : Int32) (x4 : Int32) (x5 : Int32) (C : Mem), K8 x1 x3 x4 x5 C = some (r, C') → V X 7 0 (WdC g C) 8 [(0, .ref (gCa g 4)), (1, .int x1), (2, .ref (gCo g (t2.toNatClampNeg - 1))), (3, .int x3), (4, .int x4), (5, .int x5)] []) (x1 : Int32) (x3 : Int32) (x5 : Int32) (y0 : Int32) (C : Mem) (h : fc_Ways_leaves_76 t2 K8 x1 x3 x5 y0 C = some (r, C')) : V X 7 0 (WdC g C) 76 [(0, .ref (gCa g 4)), (1, .int x1), (2, .ref (gCo g (t2.toNatClampNeg - 1))), (3, .int x3), (5, .int x5)] [.int y0] := by
  unfold fc_Ways_leaves_76 at h
  refine v_istore (lv' := [(4, .int y0), (0, .ref (gCa g 4)), (1, .int x1), (2, .ref (gCo g (t2.toNatClampNeg - 1))), (3, .int x3), (5, .int x5)]) O.1 dX19_leaves_76 (by decide) rfl (q := 78) rfl ?_
  refine v_iinc (lv' := [(5, .int (x5 + 1)), (4, .int y0), (0, .ref (gCa g 4)), (1, .int x1), (2, .ref (gCo g (t2.toNatClampNeg - 1))), (3, .int x3)]) (v := (x5 + 1)) O.1 dX19_leaves_78 rfl rfl (by decide) rfl (q := 81) rfl ?_
  refine v_goto O.1 dX19_leaves_81 (t := 8) (by decide) ?_
  exact v_sub [2, 3, 4, 5, 1, 0] rfl (hK8 x1 x3 y0 (x5 + 1) C h)
def fc_Ways_leaves_51 (t2 : Int32) (K8 : Int32 → Int32 → Int32 → Int32 → Mem → Option (Unit × Mem)) (x1 : Int32) (x4 : Int32) (x5 : Int32) (x6 : Int32) (y0 : Int32) (C : Mem) : Option (Unit × Mem) :=
  gd (inb x6 512) <|
  if (C 6 x6.toNatClampNeg) ≤ x4 then
    fc_Ways_leaves_76 t2 K8 x1 y0 x5 x4 C
  else
    gd (inb x6 512) <|
    fc_Ways_leaves_76 t2 K8 x1 y0 x5 (C 6 x6.toNatClampNeg) C
set_option maxHeartbeats 4000000 in
theorem bc_Ways_leaves_51 {g : gC} {X : Cxt} {r : Unit} {C' : Mem} {t2 : Int32} (ht2 : inO t2 = true) (O : OkC g X cX19_leaves 7 none RX19 3 0 (cQv g r C')) {K8 : Int32 → Int32 → Int32 → Int32 → Mem → Option (Unit × Mem)} (hK8 : ∀ (x1 : Int32) (x3 : Int32) (x4 : Int32) (x5 : Int32) (C : Mem), K8 x1 x3 x4 x5 C = some (r, C') → V X 7 0 (WdC g C) 8 [(0, .ref (gCa g 4)), (1, .int x1), (2, .ref (gCo g (t2.toNatClampNeg - 1))), (3, .int x3), (4, .int x4), (5, .int x5)] []) (x1 : Int32) (x4 : Int32) (x5 : Int32) (x6 : Int32) (y0 : Int32) (C : Mem) (h : fc_Ways_leaves_51 t2 K8 x1 x4 x5 x6 y0 C = some (r, C')) : V X 7 0 (WdC g C) 51 [(0, .ref (gCa g 4)), (1, .int x1), (2, .ref (gCo g (t2.toNatClampNeg - 1))), (4, .int x4), (5, .int x5), (6, .int x6)] [.int y0] := by
  unfold fc_Ways_leaves_51 at h
  refine v_istore_n (lv' := [(3, .int y0), (0, .ref (gCa g 4)), (1, .int x1), (2, .ref (gCo g (t2.toNatClampNeg - 1))), (4, .int x4), (5, .int x5), (6, .int x6)]) O.1 dX19_leaves_51 (by decide) rfl (q := 52) rfl ?_
  refine v_aload_n O.1 dX19_leaves_52 rfl (q := 53) rfl ?_
  refine c_getW O 2 (v := .ref (gCa g 6)) (by decide) (O.lk q1059) rfl (fun _ _ => ⟨_, rfl, rfl⟩) dX19_leaves_53 (q := 56) rfl ?_
  refine v_iload O.1 dX19_leaves_56 rfl (q := 58) rfl ?_
  obtain ⟨g1, h⟩ := gd_some h
  refine c_iald O (cIA_w (by decide)) g1 rfl (j := x6.toNatClampNeg) dX19_leaves_58 (q := 59) rfl ?_
  refine v_iload O.1 dX19_leaves_59 rfl (q := 61) rfl ?_
  refine v_icmp_le O.1 dX19_leaves_61 (t := 74) (by decide) (q := 64) rfl (fun c2 => ?_) (fun c2 => ?_)
  · rw [if_pos c2] at h
    refine v_iload O.1 dX19_leaves_74 rfl (q := 76) rfl ?_
    exact v_sub [1, 2, 3, 0, 5] rfl (bc_Ways_leaves_76 ht2 O hK8 x1 y0 x5 x4 C h)
  · rw [if_neg c2] at h
    refine v_aload_n O.1 dX19_leaves_64 rfl (q := 65) rfl ?_
    refine c_getW O 2 (v := .ref (gCa g 6)) (by decide) (O.lk q1059) rfl (fun _ _ => ⟨_, rfl, rfl⟩) dX19_leaves_65 (q := 68) rfl ?_
    refine v_iload O.1 dX19_leaves_68 rfl (q := 70) rfl ?_
    obtain ⟨g3, h⟩ := gd_some h
    refine c_iald O (cIA_w (by decide)) g3 rfl (j := x6.toNatClampNeg) dX19_leaves_70 (q := 71) rfl ?_
    refine v_goto O.1 dX19_leaves_71 (t := 76) (by decide) ?_
    exact v_sub [1, 2, 3, 0, 5] rfl (bc_Ways_leaves_76 ht2 O hK8 x1 y0 x5 (C 6 x6.toNatClampNeg) C h)
def fc_Ways_leaves_122 (t2 : Int32) (x1 : Int32) (y2 : Int32) (y1 : Int32) (C : Mem) : Option (Unit × Mem) :=
  gd (inb y1 512) <|
  stp (up2 C 6 y1.toNatClampNeg y2) fun C2 =>
  gd (inb x1 512) <|
  stp (up2 C2 7 x1.toNatClampNeg 9) fun C4 =>
  stp (up2 C4 4 5 ((C4 4 5) - 1)) fun C5 =>
  some ((), C5)
set_option maxHeartbeats 4000000 in
theorem bc_Ways_leaves_122 {g : gC} {X : Cxt} {r : Unit} {C' : Mem} {t2 : Int32} (ht2 : inO t2 = true) (O : OkC g X cX19_leaves 7 none RX19 3 0 (cQv g r C')) (x1 : Int32) (y2 : Int32) (y1 : Int32) (C : Mem) (h : fc_Ways_leaves_122 t2 x1 y2 y1 C = some (r, C')) : V X 7 0 (WdC g C) 122 [(0, .ref (gCa g 4)), (1, .int x1)] [.int y2, .int y1, .ref (gCa g 6)] := by
  unfold fc_Ways_leaves_122 at h
  obtain ⟨g1, h⟩ := gd_some h
  obtain ⟨C2, e2, h⟩ := stp_some h
  refine c_iast O (cIA_w (by decide)) g1 rfl (j := y1.toNatClampNeg) dX19_leaves_122 (q := 123) rfl e2 ?_
  refine v_aload_n O.1 dX19_leaves_123 rfl (q := 124) rfl ?_
  refine c_getW O 3 (v := .ref (gCa g 7)) (by decide) (O.lk q1061) rfl (fun _ _ => ⟨_, rfl, rfl⟩) dX19_leaves_124 (q := 127) rfl ?_
  refine v_iload_n O.1 dX19_leaves_127 rfl (q := 128) rfl ?_
  refine v_bipush O.1 dX19_leaves_128 (v := 9) (by decide) (q := 130) rfl ?_
  obtain ⟨g3, h⟩ := gd_some h
  obtain ⟨C4, e4, h⟩ := stp_some h
  refine c_iast O (cIA_w (by decide)) g3 rfl (j := x1.toNatClampNeg) dX19_leaves_130 (q := 131) rfl e4 ?_
  refine v_aload_n O.1 dX19_leaves_131 rfl (q := 132) rfl ?_
  refine v_dup O.1 dX19_leaves_132 rfl (q := 133) rfl ?_
  refine c_getW O 5 (v := .int (C4 4 5)) (by decide) (O.lk q1063) rfl (fun _ _ => ⟨_, rfl, rfl⟩) dX19_leaves_133 (q := 136) rfl ?_
  refine v_iconst O.1 dX19_leaves_136 (v := 1) rfl (q := 137) rfl ?_
  refine v_isub O.1 dX19_leaves_137 (q := 138) rfl ?_
  obtain ⟨C5, e5, h⟩ := stp_some h
  refine c_putW O (O.lk q1063) dX19_leaves_138 (q := 141) rfl e5 ?_
  exact c_vret O h dX19_leaves_141
def fc_Ways_leaves_8b (t2 : Int32) (K8 : Int32 → Int32 → Int32 → Int32 → Mem → Option (Unit × Mem)) (x1 : Int32) (x3 : Int32) (x4 : Int32) (x5 : Int32) (C : Mem) : Option (Unit × Mem) :=
  bnd (fv_o_ways t2 C) fun r1 C1 =>
  if r1 ≤ x5 then
    gd (inb x1 512) <|
    stp (up2 C1 5 x1.toNatClampNeg (x3 + (opY.getD (t2.toNatClampNeg - 1) 0))) fun C4 =>
    bnd (fv_o_pushes t2 C4) fun r5 C5 =>
    if (x4 + r5) ≤ 0 then
      fc_Ways_leaves_122 t2 x1 0 x1 C5
    else
      bnd (fv_o_pushes t2 C5) fun r7 C7 =>
      fc_Ways_leaves_122 t2 x1 (x4 + r7) x1 C7
  else
    bnd (fc_Code_next x1 x5 C1) fun r8 C8 =>
    gd (inb r8 512) <|
    if (C8 5 r8.toNatClampNeg) ≤ x3 then
      fc_Ways_leaves_51 t2 K8 x1 x4 x5 r8 x3 C8
    else
      gd (inb r8 512) <|
      fc_Ways_leaves_51 t2 K8 x1 x4 x5 r8 (C8 5 r8.toNatClampNeg) C8
set_option maxHeartbeats 4000000 in
theorem bc_Ways_leaves_8b {g : gC} {X : Cxt} {r : Unit} {C' : Mem} {t2 : Int32} (ht2 : inO t2 = true) (O : OkC g X cX19_leaves 7 none RX19 3 0 (cQv g r C')) {K8 : Int32 → Int32 → Int32 → Int32 → Mem → Option (Unit × Mem)} (hK8 : ∀ (x1 : Int32) (x3 : Int32) (x4 : Int32) (x5 : Int32) (C : Mem), K8 x1 x3 x4 x5 C = some (r, C') → V X 7 0 (WdC g C) 8 [(0, .ref (gCa g 4)), (1, .int x1), (2, .ref (gCo g (t2.toNatClampNeg - 1))), (3, .int x3), (4, .int x4), (5, .int x5)] []) (x1 : Int32) (x3 : Int32) (x4 : Int32) (x5 : Int32) (C : Mem) (h : fc_Ways_leaves_8b t2 K8 x1 x3 x4 x5 C = some (r, C')) : V X 7 0 (WdC g C) 8 [(0, .ref (gCa g 4)), (1, .int x1), (2, .ref (gCo g (t2.toNatClampNeg - 1))), (3, .int x3), (4, .int x4), (5, .int x5)] [] := by
  unfold fc_Ways_leaves_8b at h
  refine v_iload O.1 dX19_leaves_8 rfl (q := 10) rfl ?_
  refine v_aload_n O.1 dX19_leaves_10 rfl (q := 11) rfl ?_
  obtain ⟨r1, C1, e1, h⟩ := bnd_some h
  refine c_o_ways (rest := [.int x5]) O ht2 e1 q1348 (by decide) rfl (Nat.le_of_ble_eq_true rfl) dX19_leaves_11 (q := 14) rfl ?_
  refine v_icmp_ge O.1 dX19_leaves_14 (t := 84) (by decide) (q := 17) rfl (fun c2 => ?_) (fun c2 => ?_)
  · rw [if_pos c2] at h
    refine v_aload_n O.1 dX19_leaves_84 rfl (q := 85) rfl ?_
    refine c_getW O 1 (v := .ref (gCa g 5)) (by decide) (O.lk q1057) rfl (fun _ _ => ⟨_, rfl, rfl⟩) dX19_leaves_85 (q := 88) rfl ?_
    refine v_iload_n O.1 dX19_leaves_88 rfl (q := 89) rfl ?_
    refine v_iload_n O.1 dX19_leaves_89 rfl (q := 90) rfl ?_
    refine v_aload_n O.1 dX19_leaves_90 rfl (q := 91) rfl ?_
    refine c_getO O ht2 (Or.inr ⟨rfl, rfl⟩) q2248 dX19_leaves_91 (q := 94) rfl ?_
    refine v_iadd O.1 dX19_leaves_94 (q := 95) rfl ?_
    obtain ⟨g3, h⟩ := gd_some h
    obtain ⟨C4, e4, h⟩ := stp_some h
    refine c_iast O (cIA_w (by decide)) g3 rfl (j := x1.toNatClampNeg) dX19_leaves_95 (q := 96) rfl e4 ?_
    refine v_aload_n O.1 dX19_leaves_96 rfl (q := 97) rfl ?_
    refine c_getW O 2 (v := .ref (gCa g 6)) (by decide) (O.lk q1059) rfl (fun _ _ => ⟨_, rfl, rfl⟩) dX19_leaves_97 (q := 100) rfl ?_
    refine v_iload_n O.1 dX19_leaves_100 rfl (q := 101) rfl ?_
    refine v_iload O.1 dX19_leaves_101 rfl (q := 103) rfl ?_
    refine v_aload_n O.1 dX19_leaves_103 rfl (q := 104) rfl ?_
    obtain ⟨r5, C5, e5, h⟩ := bnd_some h
    refine c_o_pushes (rest := [.int x4, .int x1, .ref (gCa g 6)]) O ht2 e5 q1468 (by decide) rfl (Nat.le_of_ble_eq_true rfl) dX19_leaves_104 (q := 107) rfl ?_
    refine v_iadd O.1 dX19_leaves_107 (q := 108) rfl ?_
    refine v_if_le O.1 dX19_leaves_108 (t := 121) (by decide) (q := 111) rfl (fun c6 => ?_) (fun c6 => ?_)
    · rw [if_pos c6] at h
      refine v_iconst O.1 dX19_leaves_121 (v := 0) rfl (q := 122) rfl ?_
      exact v_sub [0, 1] rfl (bc_Ways_leaves_122 ht2 O x1 0 x1 C5 h)
    · rw [if_neg c6] at h
      refine v_iload O.1 dX19_leaves_111 rfl (q := 113) rfl ?_
      refine v_aload_n O.1 dX19_leaves_113 rfl (q := 114) rfl ?_
      obtain ⟨r7, C7, e7, h⟩ := bnd_some h
      refine c_o_pushes (rest := [.int x4, .int x1, .ref (gCa g 6)]) O ht2 e7 q1468 (by decide) rfl (Nat.le_of_ble_eq_true rfl) dX19_leaves_114 (q := 117) rfl ?_
      refine v_iadd O.1 dX19_leaves_117 (q := 118) rfl ?_
      refine v_goto O.1 dX19_leaves_118 (t := 122) (by decide) ?_
      exact v_sub [0, 1] rfl (bc_Ways_leaves_122 ht2 O x1 (x4 + r7) x1 C7 h)
  · rw [if_neg c2] at h
    refine v_aload_n O.1 dX19_leaves_17 rfl (q := 18) rfl ?_
    refine c_getW O 0 (v := .ref (gCa g 1)) (by decide) (O.lk q1056) rfl (fun _ _ => ⟨_, rfl, rfl⟩) dX19_leaves_18 (q := 21) rfl ?_
    refine v_iload_n O.1 dX19_leaves_21 rfl (q := 22) rfl ?_
    refine v_iload O.1 dX19_leaves_22 rfl (q := 24) rfl ?_
    obtain ⟨r8, C8, e8, h⟩ := bnd_some h
    refine c_callVi (As := [.int x1, .int x5]) (rest := []) (n := 2) (ci := 1) (p := (RX2, TX2, 2)) O (by decide) rfl (fun _ _ => ⟨_, rfl⟩) (metc_Code_next _ g  x1 x5 C1 C8 r8 e8) (lw_V q1461 q1462 q1463 q60 q1464) (by decide +kernel) (by decide) (by decide) rfl rfl (Nat.le_of_ble_eq_true rfl) dX19_leaves_24 (q := 27) rfl (b' := 0) rfl ?_
    refine v_istore (lv' := [(6, .int r8), (0, .ref (gCa g 4)), (1, .int x1), (2, .ref (gCo g (t2.toNatClampNeg - 1))), (3, .int x3), (4, .int x4), (5, .int x5)]) O.1 dX19_leaves_27 (by decide) rfl (q := 29) rfl ?_
    refine v_aload_n O.1 dX19_leaves_29 rfl (q := 30) rfl ?_
    refine c_getW O 1 (v := .ref (gCa g 5)) (by decide) (O.lk q1057) rfl (fun _ _ => ⟨_, rfl, rfl⟩) dX19_leaves_30 (q := 33) rfl ?_
    refine v_iload O.1 dX19_leaves_33 rfl (q := 35) rfl ?_
    obtain ⟨g9, h⟩ := gd_some h
    refine c_iald O (cIA_w (by decide)) g9 rfl (j := r8.toNatClampNeg) dX19_leaves_35 (q := 36) rfl ?_
    refine v_iload_n O.1 dX19_leaves_36 rfl (q := 37) rfl ?_
    refine v_icmp_le O.1 dX19_leaves_37 (t := 50) (by decide) (q := 40) rfl (fun c10 => ?_) (fun c10 => ?_)
    · rw [if_pos c10] at h
      refine v_iload_n O.1 dX19_leaves_50 rfl (q := 51) rfl ?_
      exact v_sub [1, 2, 3, 5, 6, 0] rfl (bc_Ways_leaves_51 ht2 O hK8 x1 x4 x5 r8 x3 C8 h)
    · rw [if_neg c10] at h
      refine v_aload_n O.1 dX19_leaves_40 rfl (q := 41) rfl ?_
      refine c_getW O 1 (v := .ref (gCa g 5)) (by decide) (O.lk q1057) rfl (fun _ _ => ⟨_, rfl, rfl⟩) dX19_leaves_41 (q := 44) rfl ?_
      refine v_iload O.1 dX19_leaves_44 rfl (q := 46) rfl ?_
      obtain ⟨g11, h⟩ := gd_some h
      refine c_iald O (cIA_w (by decide)) g11 rfl (j := r8.toNatClampNeg) dX19_leaves_46 (q := 47) rfl ?_
      refine v_goto O.1 dX19_leaves_47 (t := 51) (by decide) ?_
      exact v_sub [1, 2, 3, 5, 6, 0] rfl (bc_Ways_leaves_51 ht2 O hK8 x1 x4 x5 r8 (C8 5 r8.toNatClampNeg) C8 h)
def fc_Ways_leaves_8 (t2 : Int32) (n : Nat) : Int32 → Int32 → Int32 → Int32 → Mem → Option (Unit × Mem) := lpc (fc_Ways_leaves_8b t2) (fun _ _ _ _ _ => none) n
theorem bc_Ways_leaves_8 {g : gC} {X : Cxt} {r : Unit} {C' : Mem} {t2 : Int32} (ht2 : inO t2 = true) (O : OkC g X cX19_leaves 7 none RX19 3 0 (cQv g r C')) : ∀ (n : Nat) (x1 : Int32) (x3 : Int32) (x4 : Int32) (x5 : Int32) (C : Mem), fc_Ways_leaves_8 t2 n x1 x3 x4 x5 C = some (r, C') → V X 7 0 (WdC g C) 8 [(0, .ref (gCa g 4)), (1, .int x1), (2, .ref (gCo g (t2.toNatClampNeg - 1))), (3, .int x3), (4, .int x4), (5, .int x5)] [] := by
  intro n
  induction n with
  | zero =>
    intro x1 x3 x4 x5 C h
    cases h
  | succ n ih =>
    intro x1 x3 x4 x5 C h
    exact bc_Ways_leaves_8b ht2 O ih x1 x3 x4 x5 C h
def fc_Ways_leaves (t2 : Int32) (x1 : Int32) (C : Mem) : Option (Unit × Mem) :=
  fc_Ways_leaves_8 t2 600 x1 0 0 0 C
set_option maxHeartbeats 4000000 in
theorem bc_Ways_leaves {g : gC} {X : Cxt} {r : Unit} {C' : Mem} {t2 : Int32} (ht2 : inO t2 = true) (O : OkC g X cX19_leaves 7 none RX19 3 0 (cQv g r C')) (x1 : Int32) (C : Mem) (h : fc_Ways_leaves t2 x1 C = some (r, C')) : V X 7 0 (WdC g C) 0 [(0, .ref (gCa g 4)), (1, .int x1), (2, .ref (gCo g (t2.toNatClampNeg - 1)))] [] := by
  unfold fc_Ways_leaves at h
  refine v_iconst O.1 dX19_leaves_0 (v := 0) rfl (q := 1) rfl ?_
  refine v_istore_n (lv' := [(3, .int 0), (0, .ref (gCa g 4)), (1, .int x1), (2, .ref (gCo g (t2.toNatClampNeg - 1)))]) O.1 dX19_leaves_1 (by decide) rfl (q := 2) rfl ?_
  refine v_iconst O.1 dX19_leaves_2 (v := 0) rfl (q := 3) rfl ?_
  refine v_istore (lv' := [(4, .int 0), (3, .int 0), (0, .ref (gCa g 4)), (1, .int x1), (2, .ref (gCo g (t2.toNatClampNeg - 1)))]) O.1 dX19_leaves_3 (by decide) rfl (q := 5) rfl ?_
  refine v_iconst O.1 dX19_leaves_5 (v := 0) rfl (q := 6) rfl ?_
  refine v_istore (lv' := [(5, .int 0), (4, .int 0), (3, .int 0), (0, .ref (gCa g 4)), (1, .int x1), (2, .ref (gCo g (t2.toNatClampNeg - 1)))]) O.1 dX19_leaves_6 (by decide) rfl (q := 8) rfl ?_
  exact v_sub [3, 4, 5, 2, 1, 0] rfl (bc_Ways_leaves_8 ht2 O 600 x1 0 0 0 C h)
theorem metc_Ways_leaves (l : Launch) (g : gC) (x1 : Int32) (t2 : Int32) (ht2 : inO t2 = true) (C C' : Mem) (r : Unit) (h : fc_Ways_leaves t2 x1 C = some (r, C')) : MetC l g yX19_leaves cX19_leaves 7 none 3 0 [.ref (gCa g 4), .int x1, .ref (gCo g (t2.toNatClampNeg - 1))] C (cQv g r C') :=
  c_met (by decide) rfl (Nat.le_of_ble_eq_true rfl) (fun X O => bc_Ways_leaves ht2 O x1 C h)
/-! RankEntry$Ways.end(I)Z -/
def fc_Ways_end_71  (C : Mem) : Option (Int32 × Mem) :=
  some (0, C)
set_option maxHeartbeats 4000000 in
theorem bc_Ways_end_71 {g : gC} {X : Cxt} {r : Int32} {C' : Mem} (O : OkC g X cX19_end 5 (some .boolean) RX19 4 0 (cQi g r C'))  (C : Mem) (h : fc_Ways_end_71  C = some (r, C')) : V X 5 0 (WdC g C) 71 [] [] := by
  unfold fc_Ways_end_71 at h
  refine v_iconst O.1 dX19_end_71 (v := 0) rfl (q := 72) rfl ?_
  exact c_zret O (by decide) h dX19_end_72
def fc_Ways_end_155 (K32 : Mem → Option (Int32 × Mem))  (C : Mem) : Option (Int32 × Mem) :=
  K32 C
set_option maxHeartbeats 4000000 in
theorem bc_Ways_end_155 {g : gC} {X : Cxt} {r : Int32} {C' : Mem} (O : OkC g X cX19_end 5 (some .boolean) RX19 4 0 (cQi g r C')) {K32 : Mem → Option (Int32 × Mem)} (hK32 : ∀  (C : Mem), K32  C = some (r, C') → V X 5 0 (WdC g C) 32 [(0, .ref (gCa g 4))] [])  (C : Mem) (h : fc_Ways_end_155 K32  C = some (r, C')) : V X 5 0 (WdC g C) 155 [(0, .ref (gCa g 4))] [] := by
  unfold fc_Ways_end_155 at h
  refine v_goto O.1 dX19_end_155 (t := 32) (by decide) ?_
  exact v_sub [0] rfl (hK32 C h)
def fc_Ways_end_32b (K32 : Mem → Option (Int32 × Mem))  (C : Mem) : Option (Int32 × Mem) :=
  if (C 4 5) ≤ 0 then
    some (1, C)
  else
    gd (inb ((C 4 5) - 1) 512) <|
    bnd (fc_Code_op (C 8 ((C 4 5) - 1).toNatClampNeg) C) fun r3 C3 =>
    if r3 < 1 then
      fc_Ways_end_71 C3
    else
      gd (inO r3) <|
      bnd (fv_o_stops r3 C3) fun r6 C6 =>
      if r6 = 0 then
        gd (inb (C 8 ((C 4 5) - 1).toNatClampNeg) 512) <|
        gd (inO r3) <|
        bnd (fv_o_ways r3 C6) fun r10 C10 =>
        if (C6 7 (C 8 ((C 4 5) - 1).toNatClampNeg).toNatClampNeg) = r10 then
          gd (inO r3) <|
          bnd (fc_Ways_leaves r3 (C 8 ((C 4 5) - 1).toNatClampNeg) C10) fun r23 C23 =>
          fc_Ways_end_155 K32 C23
        else
          gd (inb (C 8 ((C 4 5) - 1).toNatClampNeg) 512) <|
          bnd (fc_Code_next (C 8 ((C 4 5) - 1).toNatClampNeg) (C10 7 (C 8 ((C 4 5) - 1).toNatClampNeg).toNatClampNeg) C10) fun r13 C13 =>
          gd (inb (C 8 ((C 4 5) - 1).toNatClampNeg) 512) <|
          gd (inb (C 8 ((C 4 5) - 1).toNatClampNeg) 512) <|
          stp (up2 C13 7 (C 8 ((C 4 5) - 1).toNatClampNeg).toNatClampNeg ((C13 7 (C 8 ((C 4 5) - 1).toNatClampNeg).toNatClampNeg) + 1)) fun C16 =>
          gd (inb r13 512) <|
          if (C16 7 r13.toNatClampNeg) = (-1) then
            bnd (fc_Ways_enters r13 C16) fun r21 C21 =>
            fc_Ways_end_155 K32 C21
          else
            gd (inb r13 512) <|
            if (C16 7 r13.toNatClampNeg) = 9 then
              fc_Ways_end_155 K32 C16
            else
              some (0, C16)
      else
        fc_Ways_end_71 C6
set_option maxHeartbeats 4000000 in
theorem bc_Ways_end_32b {g : gC} {X : Cxt} {r : Int32} {C' : Mem} (O : OkC g X cX19_end 5 (some .boolean) RX19 4 0 (cQi g r C')) {K32 : Mem → Option (Int32 × Mem)} (hK32 : ∀  (C : Mem), K32  C = some (r, C') → V X 5 0 (WdC g C) 32 [(0, .ref (gCa g 4))] [])  (C : Mem) (h : fc_Ways_end_32b K32  C = some (r, C')) : V X 5 0 (WdC g C) 32 [(0, .ref (gCa g 4))] [] := by
  unfold fc_Ways_end_32b at h
  refine v_aload_n O.1 dX19_end_32 rfl (q := 33) rfl ?_
  refine c_getW O 5 (v := .int (C 4 5)) (by decide) (O.lk q1063) rfl (fun _ _ => ⟨_, rfl, rfl⟩) dX19_end_33 (q := 36) rfl ?_
  refine v_if_le O.1 dX19_end_36 (t := 158) (by decide) (q := 39) rfl (fun c1 => ?_) (fun c1 => ?_)
  · rw [if_pos c1] at h
    refine v_iconst O.1 dX19_end_158 (v := 1) rfl (q := 159) rfl ?_
    exact c_zret O (by decide) h dX19_end_159
  · rw [if_neg c1] at h
    refine v_aload_n O.1 dX19_end_39 rfl (q := 40) rfl ?_
    refine c_getW O 4 (v := .ref (gCa g 8)) (by decide) (O.lk q1062) rfl (fun _ _ => ⟨_, rfl, rfl⟩) dX19_end_40 (q := 43) rfl ?_
    refine v_aload_n O.1 dX19_end_43 rfl (q := 44) rfl ?_
    refine c_getW O 5 (v := .int (C 4 5)) (by decide) (O.lk q1063) rfl (fun _ _ => ⟨_, rfl, rfl⟩) dX19_end_44 (q := 47) rfl ?_
    refine v_iconst O.1 dX19_end_47 (v := 1) rfl (q := 48) rfl ?_
    refine v_isub O.1 dX19_end_48 (q := 49) rfl ?_
    obtain ⟨g2, h⟩ := gd_some h
    refine c_iald O (cIA_w (by decide)) g2 rfl (j := ((C 4 5) - 1).toNatClampNeg) dX19_end_49 (q := 50) rfl ?_
    refine v_istore_n (lv' := [(2, .int (C 8 ((C 4 5) - 1).toNatClampNeg)), (0, .ref (gCa g 4))]) O.1 dX19_end_50 (by decide) rfl (q := 51) rfl ?_
    refine v_aload_n O.1 dX19_end_51 rfl (q := 52) rfl ?_
    refine c_getW O 0 (v := .ref (gCa g 1)) (by decide) (O.lk q1056) rfl (fun _ _ => ⟨_, rfl, rfl⟩) dX19_end_52 (q := 55) rfl ?_
    refine v_iload_n O.1 dX19_end_55 rfl (q := 56) rfl ?_
    obtain ⟨r3, C3, e3, h⟩ := bnd_some h
    refine c_callVo (As := [.int (C 8 ((C 4 5) - 1).toNatClampNeg)]) (rest := []) (n := 1) (ci := 1) (p := (RX2, TX2, 2)) O (by decide) rfl (fun _ _ => ⟨_, rfl⟩) (metc_Code_op _ g  (C 8 ((C 4 5) - 1).toNatClampNeg) C C3 r3 e3) (lw_V q1312 q355 q356 q60 q357) (by decide +kernel) (by decide) (by decide) rfl rfl (Nat.le_of_ble_eq_true rfl) dX19_end_56 (q := 59) rfl (b' := 0) rfl ?_
    refine v_astore_nr (lv' := [(3, cOn g r3), (2, .int (C 8 ((C 4 5) - 1).toNatClampNeg)), (0, .ref (gCa g 4))]) O.1 (cOn_or _ _) dX19_end_59 (by decide) (by first | rfl | simp [List.filter, cSn_cat, cOn_cat, show ((1 : Fin 4) : Nat) = 1 from rfl, show ((2 : Fin 4) : Nat) = 2 from rfl, show ((3 : Fin 4) : Nat) = 3 from rfl]) (q := 60) rfl ?_
    refine v_aload_nr O.1 (cOn_or _ _) dX19_end_60 rfl (q := 61) rfl ?_
    refine v_ifnull (p := r3 < 1) O.1 (fun z => cOn_n z) (fun z => cOn_r z) dX19_end_61 (t := 71) (by decide) (q := 64) rfl (fun c4 => ?_) (fun c4 => ?_)
    · rw [if_pos c4] at h
      exact v_sub [] rfl (bc_Ways_end_71 O C3 h)
    · rw [if_neg c4] at h
      obtain ⟨g5, h⟩ := gd_some h
      refine v_aload_nq O.1 (cOn_in g5) dX19_end_64 rfl (q := 65) rfl ?_
      obtain ⟨r6, C6, e6, h⟩ := bnd_some h
      refine c_o_stops (rest := []) O g5 e6 q1313 (by decide) rfl (Nat.le_of_ble_eq_true rfl) dX19_end_65 (q := 68) rfl ?_
      refine v_if_eq O.1 dX19_end_68 (t := 73) (by decide) (q := 71) rfl (fun c7 => ?_) (fun c7 => ?_)
      · rw [if_pos c7] at h
        refine v_aload_n O.1 dX19_end_73 rfl (q := 74) rfl ?_
        refine c_getW O 3 (v := .ref (gCa g 7)) (by decide) (O.lk q1061) rfl (fun _ _ => ⟨_, rfl, rfl⟩) dX19_end_74 (q := 77) rfl ?_
        refine v_iload_n O.1 dX19_end_77 rfl (q := 78) rfl ?_
        obtain ⟨g8, h⟩ := gd_some h
        refine c_iald O (cIA_w (by decide)) g8 rfl (j := (C 8 ((C 4 5) - 1).toNatClampNeg).toNatClampNeg) dX19_end_78 (q := 79) rfl ?_
        obtain ⟨g9, h⟩ := gd_some h
        refine v_aload_nq O.1 (cOn_in g9) dX19_end_79 rfl (q := 80) rfl ?_
        obtain ⟨r10, C10, e10, h⟩ := bnd_some h
        refine c_o_ways (rest := [.int (C6 7 (C 8 ((C 4 5) - 1).toNatClampNeg).toNatClampNeg)]) O g9 e10 q1348 (by decide) rfl (Nat.le_of_ble_eq_true rfl) dX19_end_80 (q := 83) rfl ?_
        refine v_icmp_ne O.1 dX19_end_83 (t := 95) (by decide) (q := 86) rfl (fun c11 => ?_) (fun c11 => ?_)
        · rw [if_neg c11] at h
          refine v_aload_n O.1 dX19_end_95 rfl (q := 96) rfl ?_
          refine c_getW O 0 (v := .ref (gCa g 1)) (by decide) (O.lk q1056) rfl (fun _ _ => ⟨_, rfl, rfl⟩) dX19_end_96 (q := 99) rfl ?_
          refine v_iload_n O.1 dX19_end_99 rfl (q := 100) rfl ?_
          refine v_aload_n O.1 dX19_end_100 rfl (q := 101) rfl ?_
          refine c_getW O 3 (v := .ref (gCa g 7)) (by decide) (O.lk q1061) rfl (fun _ _ => ⟨_, rfl, rfl⟩) dX19_end_101 (q := 104) rfl ?_
          refine v_iload_n O.1 dX19_end_104 rfl (q := 105) rfl ?_
          obtain ⟨g12, h⟩ := gd_some h
          refine c_iald O (cIA_w (by decide)) g12 rfl (j := (C 8 ((C 4 5) - 1).toNatClampNeg).toNatClampNeg) dX19_end_105 (q := 106) rfl ?_
          obtain ⟨r13, C13, e13, h⟩ := bnd_some h
          refine c_callVi (As := [.int (C 8 ((C 4 5) - 1).toNatClampNeg), .int (C10 7 (C 8 ((C 4 5) - 1).toNatClampNeg).toNatClampNeg)]) (rest := []) (n := 2) (ci := 1) (p := (RX2, TX2, 2)) O (by decide) rfl (fun _ _ => ⟨_, rfl⟩) (metc_Code_next _ g  (C 8 ((C 4 5) - 1).toNatClampNeg) (C10 7 (C 8 ((C 4 5) - 1).toNatClampNeg).toNatClampNeg) C10 C13 r13 e13) (lw_V q1461 q1462 q1463 q60 q1464) (by decide +kernel) (by decide) (by decide) rfl rfl (Nat.le_of_ble_eq_true rfl) dX19_end_106 (q := 109) rfl (b' := 0) rfl ?_
          refine v_istore (lv' := [(4, .int r13), (3, cOn g r3), (2, .int (C 8 ((C 4 5) - 1).toNatClampNeg)), (0, .ref (gCa g 4))]) O.1 dX19_end_109 (by decide) (by first | rfl | simp [List.filter, cSn_cat, cOn_cat, show ((1 : Fin 4) : Nat) = 1 from rfl, show ((2 : Fin 4) : Nat) = 2 from rfl, show ((3 : Fin 4) : Nat) = 3 from rfl]) (q := 111) rfl ?_
          refine v_aload_n O.1 dX19_end_111 rfl (q := 112) rfl ?_
          refine c_getW O 3 (v := .ref (gCa g 7)) (by decide) (O.lk q1061) rfl (fun _ _ => ⟨_, rfl, rfl⟩) dX19_end_112 (q := 115) rfl ?_
          refine v_iload_n O.1 dX19_end_115 rfl (q := 116) rfl ?_
          refine v_dup2 O.1 dX19_end_116 rfl rfl (q := 117) rfl ?_
          obtain ⟨g14, h⟩ := gd_some h
          refine c_iald O (cIA_w (by decide)) g14 rfl (j := (C 8 ((C 4 5) - 1).toNatClampNeg).toNatClampNeg) dX19_end_117 (q := 118) rfl ?_
          refine v_iconst O.1 dX19_end_118 (v := 1) rfl (q := 119) rfl ?_
          refine v_iadd O.1 dX19_end_119 (q := 120) rfl ?_
          obtain ⟨g15, h⟩ := gd_some h
          obtain ⟨C16, e16, h⟩ := stp_some h
          refine c_iast O (cIA_w (by decide)) g15 rfl (j := (C 8 ((C 4 5) - 1).toNatClampNeg).toNatClampNeg) dX19_end_120 (q := 121) rfl e16 ?_
          refine v_aload_n O.1 dX19_end_121 rfl (q := 122) rfl ?_
          refine c_getW O 3 (v := .ref (gCa g 7)) (by decide) (O.lk q1061) rfl (fun _ _ => ⟨_, rfl, rfl⟩) dX19_end_122 (q := 125) rfl ?_
          refine v_iload O.1 dX19_end_125 rfl (q := 127) rfl ?_
          obtain ⟨g17, h⟩ := gd_some h
          refine c_iald O (cIA_w (by decide)) g17 rfl (j := r13.toNatClampNeg) dX19_end_127 (q := 128) rfl ?_
          refine v_iconst O.1 dX19_end_128 (v := (-1)) rfl (q := 129) rfl ?_
          refine v_icmp_ne O.1 dX19_end_129 (t := 141) (by decide) (q := 132) rfl (fun c18 => ?_) (fun c18 => ?_)
          · rw [if_neg c18] at h
            refine v_aload_n O.1 dX19_end_141 rfl (q := 142) rfl ?_
            refine c_getW O 3 (v := .ref (gCa g 7)) (by decide) (O.lk q1061) rfl (fun _ _ => ⟨_, rfl, rfl⟩) dX19_end_142 (q := 145) rfl ?_
            refine v_iload O.1 dX19_end_145 rfl (q := 147) rfl ?_
            obtain ⟨g19, h⟩ := gd_some h
            refine c_iald O (cIA_w (by decide)) g19 rfl (j := r13.toNatClampNeg) dX19_end_147 (q := 148) rfl ?_
            refine v_bipush O.1 dX19_end_148 (v := 9) (by decide) (q := 150) rfl ?_
            refine v_icmp_eq O.1 dX19_end_150 (t := 155) (by decide) (q := 153) rfl (fun c20 => ?_) (fun c20 => ?_)
            · rw [if_pos c20] at h
              exact v_sub [3] rfl (bc_Ways_end_155 O hK32 C16 h)
            · rw [if_neg c20] at h
              refine v_iconst O.1 dX19_end_153 (v := 0) rfl (q := 154) rfl ?_
              exact c_zret O (by decide) h dX19_end_154
          · rw [if_pos c18] at h
            refine v_aload_n O.1 dX19_end_132 rfl (q := 133) rfl ?_
            refine v_iload O.1 dX19_end_133 rfl (q := 135) rfl ?_
            obtain ⟨r21, C21, e21, h⟩ := bnd_some h
            refine c_callVv (As := [.int r13]) (rest := []) (n := 1) (ci := 3) (p := (RX19, TX19, 6)) O (by decide) rfl (fun _ _ => ⟨_, rfl⟩) (metc_Ways_enters _ g  r13 C16 C21 r21 e21) (lw_V q1308 q1310 qs19 q83 q1311) (by decide +kernel) (by decide) (by decide) rfl rfl (Nat.le_of_ble_eq_true rfl) dX19_end_135 (q := 138) rfl (b' := 0) rfl ?_
            refine v_goto O.1 dX19_end_138 (t := 155) (by decide) ?_
            exact v_sub [3] rfl (bc_Ways_end_155 O hK32 C21 h)
        · rw [if_pos c11] at h
          refine v_aload_n O.1 dX19_end_86 rfl (q := 87) rfl ?_
          refine v_iload_n O.1 dX19_end_87 rfl (q := 88) rfl ?_
          obtain ⟨g22, h⟩ := gd_some h
          refine v_aload_nq O.1 (cOn_in g22) dX19_end_88 rfl (q := 89) rfl ?_
          obtain ⟨r23, C23, e23, h⟩ := bnd_some h
          refine c_callVv (As := [.int (C 8 ((C 4 5) - 1).toNatClampNeg), .ref (gCo g (r3.toNatClampNeg - 1))]) (rest := []) (n := 2) (ci := 3) (p := (RX19, TX19, 6)) O (by decide) rfl (fun _ _ => ⟨_, rfl⟩) (metc_Ways_leaves _ g  (C 8 ((C 4 5) - 1).toNatClampNeg) r3 g22 C10 C23 r23 e23) (lw_V q1457 q1459 qs20 q83 q1460) (by decide +kernel) (by decide) (by decide) rfl rfl (Nat.le_of_ble_eq_true rfl) dX19_end_89 (q := 92) rfl (b' := 0) rfl ?_
          refine v_goto O.1 dX19_end_92 (t := 155) (by decide) ?_
          exact v_sub [2] rfl (bc_Ways_end_155 O hK32 C23 h)
      · rw [if_neg c7] at h
        exact v_sub [] rfl (bc_Ways_end_71 O C6 h)
def fc_Ways_end_32 (n : Nat) : Mem → Option (Int32 × Mem) := lpc (fc_Ways_end_32b) (fun _ => none) n
theorem bc_Ways_end_32 {g : gC} {X : Cxt} {r : Int32} {C' : Mem} (O : OkC g X cX19_end 5 (some .boolean) RX19 4 0 (cQi g r C')) : ∀ (n : Nat)  (C : Mem), fc_Ways_end_32 n  C = some (r, C') → V X 5 0 (WdC g C) 32 [(0, .ref (gCa g 4))] [] := by
  intro n
  induction n with
  | zero =>
    intro  C h
    cases h
  | succ n ih =>
    intro  C h
    exact bc_Ways_end_32b O ih  C h
def fc_Ways_end_2b (K2 : Int32 → Int32 → Mem → Option (Int32 × Mem)) (x1 : Int32) (x2 : Int32) (C : Mem) : Option (Int32 × Mem) :=
  if 512 ≤ x2 then
    stp (up2 C 4 5 0) fun C2 =>
    bnd (fc_Ways_enters x1 C2) fun r3 C3 =>
    fc_Ways_end_32 4000 C3
  else
    gd (inb x2 512) <|
    stp (up2 C 7 x2.toNatClampNeg (-1)) fun C5 =>
    K2 x1 (x2 + 1) C5
set_option maxHeartbeats 4000000 in
theorem bc_Ways_end_2b {g : gC} {X : Cxt} {r : Int32} {C' : Mem} (O : OkC g X cX19_end 5 (some .boolean) RX19 4 0 (cQi g r C')) {K2 : Int32 → Int32 → Mem → Option (Int32 × Mem)} (hK2 : ∀ (x1 : Int32) (x2 : Int32) (C : Mem), K2 x1 x2 C = some (r, C') → V X 5 0 (WdC g C) 2 [(0, .ref (gCa g 4)), (1, .int x1), (2, .int x2)] []) (x1 : Int32) (x2 : Int32) (C : Mem) (h : fc_Ways_end_2b K2 x1 x2 C = some (r, C')) : V X 5 0 (WdC g C) 2 [(0, .ref (gCa g 4)), (1, .int x1), (2, .int x2)] [] := by
  unfold fc_Ways_end_2b at h
  refine v_iload_n O.1 dX19_end_2 rfl (q := 3) rfl ?_
  refine v_sipush O.1 dX19_end_3 (v := 512) (by decide) (q := 6) rfl ?_
  refine v_icmp_ge O.1 dX19_end_6 (t := 22) (by decide) (q := 9) rfl (fun c1 => ?_) (fun c1 => ?_)
  · rw [if_pos c1] at h
    refine v_aload_n O.1 dX19_end_22 rfl (q := 23) rfl ?_
    refine v_iconst O.1 dX19_end_23 (v := 0) rfl (q := 24) rfl ?_
    obtain ⟨C2, e2, h⟩ := stp_some h
    refine c_putW O (O.lk q1063) dX19_end_24 (q := 27) rfl e2 ?_
    refine v_aload_n O.1 dX19_end_27 rfl (q := 28) rfl ?_
    refine v_iload_n O.1 dX19_end_28 rfl (q := 29) rfl ?_
    obtain ⟨r3, C3, e3, h⟩ := bnd_some h
    refine c_callVv (As := [.int x1]) (rest := []) (n := 1) (ci := 3) (p := (RX19, TX19, 6)) O (by decide) rfl (fun _ _ => ⟨_, rfl⟩) (metc_Ways_enters _ g  x1 C2 C3 r3 e3) (lw_V q1308 q1310 qs19 q83 q1311) (by decide +kernel) (by decide) (by decide) rfl rfl (Nat.le_of_ble_eq_true rfl) dX19_end_29 (q := 32) rfl (b' := 0) rfl ?_
    exact v_sub [0] rfl (bc_Ways_end_32 O 4000 C3 h)
  · rw [if_neg c1] at h
    refine v_aload_n O.1 dX19_end_9 rfl (q := 10) rfl ?_
    refine c_getW O 3 (v := .ref (gCa g 7)) (by decide) (O.lk q1061) rfl (fun _ _ => ⟨_, rfl, rfl⟩) dX19_end_10 (q := 13) rfl ?_
    refine v_iload_n O.1 dX19_end_13 rfl (q := 14) rfl ?_
    refine v_iconst O.1 dX19_end_14 (v := (-1)) rfl (q := 15) rfl ?_
    obtain ⟨g4, h⟩ := gd_some h
    obtain ⟨C5, e5, h⟩ := stp_some h
    refine c_iast O (cIA_w (by decide)) g4 rfl (j := x2.toNatClampNeg) dX19_end_15 (q := 16) rfl e5 ?_
    refine v_iinc (lv' := [(2, .int (x2 + 1)), (0, .ref (gCa g 4)), (1, .int x1)]) (v := (x2 + 1)) O.1 dX19_end_16 rfl rfl (by decide) rfl (q := 19) rfl ?_
    refine v_goto O.1 dX19_end_19 (t := 2) (by decide) ?_
    exact v_sub [1, 2, 0] rfl (hK2 x1 (x2 + 1) C5 h)
def fc_Ways_end_2 (n : Nat) : Int32 → Int32 → Mem → Option (Int32 × Mem) := lpc (fc_Ways_end_2b) (fun _ _ _ => none) n
theorem bc_Ways_end_2 {g : gC} {X : Cxt} {r : Int32} {C' : Mem} (O : OkC g X cX19_end 5 (some .boolean) RX19 4 0 (cQi g r C')) : ∀ (n : Nat) (x1 : Int32) (x2 : Int32) (C : Mem), fc_Ways_end_2 n x1 x2 C = some (r, C') → V X 5 0 (WdC g C) 2 [(0, .ref (gCa g 4)), (1, .int x1), (2, .int x2)] [] := by
  intro n
  induction n with
  | zero =>
    intro x1 x2 C h
    cases h
  | succ n ih =>
    intro x1 x2 C h
    exact bc_Ways_end_2b O ih x1 x2 C h
def fc_Ways_end (x1 : Int32) (C : Mem) : Option (Int32 × Mem) :=
  fc_Ways_end_2 4000 x1 0 C
set_option maxHeartbeats 4000000 in
theorem bc_Ways_end {g : gC} {X : Cxt} {r : Int32} {C' : Mem} (O : OkC g X cX19_end 5 (some .boolean) RX19 4 0 (cQi g r C')) (x1 : Int32) (C : Mem) (h : fc_Ways_end x1 C = some (r, C')) : V X 5 0 (WdC g C) 0 [(0, .ref (gCa g 4)), (1, .int x1)] [] := by
  unfold fc_Ways_end at h
  refine v_iconst O.1 dX19_end_0 (v := 0) rfl (q := 1) rfl ?_
  refine v_istore_n (lv' := [(2, .int 0), (0, .ref (gCa g 4)), (1, .int x1)]) O.1 dX19_end_1 (by decide) rfl (q := 2) rfl ?_
  exact v_sub [1, 2, 0] rfl (bc_Ways_end_2 O 4000 x1 0 C h)
theorem metc_Ways_end (l : Launch) (g : gC) (x1 : Int32) (C C' : Mem) (r : Int32) (h : fc_Ways_end x1 C = some (r, C')) : MetC l g yX19_end cX19_end 5 (some .boolean) 4 0 [.ref (gCa g 4), .int x1] C (cQi g r C') :=
  c_met (by decide) rfl (Nat.le_of_ble_eq_true rfl) (fun X O => bc_Ways_end O x1 C h)
