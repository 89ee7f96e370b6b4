def fv_o_does (c : Nat) (t x y : Int32) (C : Mem) : Option ((Unit ⊕ Int32) × Mem) :=
  if t = 1 then fc_Op1_does c x y C else
  if t = 2 then fc_Op2_does c x y C else
  if t = 3 then fc_Op3_does c x y C else
  if t = 4 then fc_Op4_does c x y C else
  if t = 5 then fc_Op5_does c x y C else
  if t = 6 then fc_Op6_does c x y C else
  if t = 7 then fc_Op7_does c x y C else
  if t = 8 then fc_Op8_does c x y C else
  if t = 9 then fc_Op9_does c x y C else
  if t = 10 then fc_Op10_does c x y C else
  if t = 11 then fc_Op11_does c x y C else
  if t = 12 then fc_Op12_does c x y C else
  if t = 13 then fc_Op13_does c x y C else
  if t = 14 then fc_Op14_does c x y C else
  if t = 15 then fc_Op15_does c x y C else
  if t = 16 then fc_Op16_does c x y C else
  if t = 17 then fc_Op17_does c x y C else
  if t = 18 then fc_Op18_does c x y C else
  if t = 19 then fc_Op19_does c x y C else
  if t = 20 then fc_Op20_does c x y C else
  if t = 21 then fc_Op21_does c x y C else
  if t = 22 then fc_Op22_does c x y C else
  if t = 23 then fc_Op23_does c x y C else
  if t = 24 then fc_Op24_does c x y C else
  if t = 25 then fc_Op25_does c x y C else
  if t = 26 then fc_Op26_does c x y C else
  if t = 27 then fc_Op27_does c x y C else
  if t = 28 then fc_Op28_does c x y C else
  fc_Op29_does c x y C
section COPX
variable {g : gC} {X : Cxt} {cc : ByteArray} {nL b lvl mc : Nat} {ret : Option FieldType} {own : String} {Qc : Array Value → State → Outcome → State → Prop} {pc q : Nat} {lv : List (Nat × Value)} {st rest : List Value} {C C' C1 : Mem} {c : Nat}
set_option maxHeartbeats 8000000 in
theorem x_o_does {r : Unit} (O : OkC g X cc nL ret own lvl mc Qc) {idx b' : Nat} {t x y : Int32} (hc : cC c) (ht : inO t = true) (h : fv_o_does c t x y C = some (.inl r, C')) (hl : Cond.methodLink own idx ⟨"RankEntry$Op", "does", "(LRankEntry$Core;II)V"⟩ ∈ lw_all) (hlv : 8 ≤ lvl) (hst : st = .int y :: .int x :: .ref (gCa g c) :: .ref (gCo g (t.toNatClampNeg - 1)) :: rest) (hr : (rest.map fun v => v.category).sum ≤ 8) (d : decode cc pc = .ok (.invokevirtual idx, 3)) (hq : pc + 3 = q) (hb : b' + 1 = b) (kk : V X nL b' (WdC g C') q lv rest) : V X nL b (WdC g C) pc lv st := by
  obtain ⟨k, hk, rfl⟩ := inO_k ht
  unfold fv_o_does at h
  match k, hk with
  | 0, hk =>
    rw [if_pos (by decide)] at h
    exact v_less (b' := b') (by omega) (x_callOv (c0 := c) (b' := b') (k := 0) (As := [.ref (gCa g c), .int x, .int y]) (n := 3) (mc' := 0) (lvl' := 1) (x := ⟨"RankEntry$Op", "does", "(LRankEntry$Core;II)V"⟩) (y := ⟨"RankEntry$Op$1", "does", "(LRankEntry$Core;II)V"⟩) (owner := "RankEntry$Op") (Cn := "RankEntry$Op$1") O (by decide) rfl (fun X' OX' => bc_Op1_does hc OX' x y C h) (Nat.le_of_ble_eq_true rfl) ⟨hl, q422, va_Decl.abs (O.2.1.nest _ (List.mem_filter.mpr ⟨q421, rfl⟩)), by decide, q423, q424, q425, by decide, by decide +kernel⟩ (by omega) (by decide) rfl hst hr d hq rfl kk)
  | 1, hk =>
    rw [if_neg (by decide), if_pos (by decide)] at h
    exact v_less (b' := b') (by omega) (x_callOv (c0 := c) (b' := b') (k := 1) (As := [.ref (gCa g c), .int x, .int y]) (n := 3) (mc' := 0) (lvl' := 2) (x := ⟨"RankEntry$Op", "does", "(LRankEntry$Core;II)V"⟩) (y := ⟨"RankEntry$Op$2", "does", "(LRankEntry$Core;II)V"⟩) (owner := "RankEntry$Op") (Cn := "RankEntry$Op$2") O (by decide) rfl (fun X' OX' => bc_Op2_does hc OX' x y C h) (Nat.le_of_ble_eq_true rfl) ⟨hl, q422, va_Decl.abs (O.2.1.nest _ (List.mem_filter.mpr ⟨q421, rfl⟩)), by decide, q526, q527, q528, by decide, by decide +kernel⟩ (by omega) (by decide) rfl hst hr d hq rfl kk)
  | 2, hk =>
    rw [if_neg (by decide), if_neg (by decide), if_pos (by decide)] at h
    exact v_less (b' := b') (by omega) (x_callOv (c0 := c) (b' := b') (k := 2) (As := [.ref (gCa g c), .int x, .int y]) (n := 3) (mc' := 0) (lvl' := 2) (x := ⟨"RankEntry$Op", "does", "(LRankEntry$Core;II)V"⟩) (y := ⟨"RankEntry$Op$3", "does", "(LRankEntry$Core;II)V"⟩) (owner := "RankEntry$Op") (Cn := "RankEntry$Op$3") O (by decide) rfl (fun X' OX' => bc_Op3_does hc OX' x y C h) (Nat.le_of_ble_eq_true rfl) ⟨hl, q422, va_Decl.abs (O.2.1.nest _ (List.mem_filter.mpr ⟨q421, rfl⟩)), by decide, q593, q594, q595, by decide, by decide +kernel⟩ (by omega) (by decide) rfl hst hr d hq rfl kk)
  | 3, hk =>
    rw [if_neg (by decide), if_neg (by decide), if_neg (by decide), if_pos (by decide)] at h
    exact v_less (b' := b') (by omega) (x_callOv (c0 := c) (b' := b') (k := 3) (As := [.ref (gCa g c), .int x, .int y]) (n := 3) (mc' := 0) (lvl' := 2) (x := ⟨"RankEntry$Op", "does", "(LRankEntry$Core;II)V"⟩) (y := ⟨"RankEntry$Op$4", "does", "(LRankEntry$Core;II)V"⟩) (owner := "RankEntry$Op") (Cn := "RankEntry$Op$4") O (by decide) rfl (fun X' OX' => bc_Op4_does hc OX' x y C h) (Nat.le_of_ble_eq_true rfl) ⟨hl, q422, va_Decl.abs (O.2.1.nest _ (List.mem_filter.mpr ⟨q421, rfl⟩)), by decide, q598, q599, q600, by decide, by decide +kernel⟩ (by omega) (by decide) rfl hst hr d hq rfl kk)
  | 4, hk =>
    rw [if_neg (by decide), if_neg (by decide), if_neg (by decide), if_neg (by decide), if_pos (by decide)] at h
    exact v_less (b' := b') (by omega) (x_callOv (c0 := c) (b' := b') (k := 4) (As := [.ref (gCa g c), .int x, .int y]) (n := 3) (mc' := 0) (lvl' := 2) (x := ⟨"RankEntry$Op", "does", "(LRankEntry$Core;II)V"⟩) (y := ⟨"RankEntry$Op$5", "does", "(LRankEntry$Core;II)V"⟩) (owner := "RankEntry$Op") (Cn := "RankEntry$Op$5") O (by decide) rfl (fun X' OX' => bc_Op5_does hc OX' x y C h) (Nat.le_of_ble_eq_true rfl) ⟨hl, q422, va_Decl.abs (O.2.1.nest _ (List.mem_filter.mpr ⟨q421, rfl⟩)), by decide, q603, q604, q605, by decide, by decide +kernel⟩ (by omega) (by decide) rfl hst hr d hq rfl kk)
  | 5, hk =>
    rw [if_neg (by decide), if_neg (by decide), if_neg (by decide), if_neg (by decide), if_neg (by decide), if_pos (by decide)] at h
    exact v_less (b' := b') (by omega) (x_callOv (c0 := c) (b' := b') (k := 5) (As := [.ref (gCa g c), .int x, .int y]) (n := 3) (mc' := 0) (lvl' := 2) (x := ⟨"RankEntry$Op", "does", "(LRankEntry$Core;II)V"⟩) (y := ⟨"RankEntry$Op$6", "does", "(LRankEntry$Core;II)V"⟩) (owner := "RankEntry$Op") (Cn := "RankEntry$Op$6") O (by decide) rfl (fun X' OX' => bc_Op6_does hc OX' x y C h) (Nat.le_of_ble_eq_true rfl) ⟨hl, q422, va_Decl.abs (O.2.1.nest _ (List.mem_filter.mpr ⟨q421, rfl⟩)), by decide, q608, q609, q610, by decide, by decide +kernel⟩ (by omega) (by decide) rfl hst hr d hq rfl kk)
  | 6, hk =>
    rw [if_neg (by decide), if_neg (by decide), if_neg (by decide), if_neg (by decide), if_neg (by decide), if_neg (by decide), if_pos (by decide)] at h
    exact v_less (b' := b') (by omega) (x_callOv (c0 := c) (b' := b') (k := 6) (As := [.ref (gCa g c), .int x, .int y]) (n := 3) (mc' := 0) (lvl' := 2) (x := ⟨"RankEntry$Op", "does", "(LRankEntry$Core;II)V"⟩) (y := ⟨"RankEntry$Op$7", "does", "(LRankEntry$Core;II)V"⟩) (owner := "RankEntry$Op") (Cn := "RankEntry$Op$7") O (by decide) rfl (fun X' OX' => bc_Op7_does hc OX' x y C h) (Nat.le_of_ble_eq_true rfl) ⟨hl, q422, va_Decl.abs (O.2.1.nest _ (List.mem_filter.mpr ⟨q421, rfl⟩)), by decide, q613, q614, q615, by decide, by decide +kernel⟩ (by omega) (by decide) rfl hst hr d hq rfl kk)
  | 7, hk =>
    rw [if_neg (by decide), if_neg (by decide), if_neg (by decide), if_neg (by decide), if_neg (by decide), if_neg (by decide), if_neg (by decide), if_pos (by decide)] at h
    exact v_less (b' := b') (by omega) (x_callOv (c0 := c) (b' := b') (k := 7) (As := [.ref (gCa g c), .int x, .int y]) (n := 3) (mc' := 0) (lvl' := 1) (x := ⟨"RankEntry$Op", "does", "(LRankEntry$Core;II)V"⟩) (y := ⟨"RankEntry$Op$8", "does", "(LRankEntry$Core;II)V"⟩) (owner := "RankEntry$Op") (Cn := "RankEntry$Op$8") O (by decide) rfl (fun X' OX' => bc_Op8_does hc OX' x y C h) (Nat.le_of_ble_eq_true rfl) ⟨hl, q422, va_Decl.abs (O.2.1.nest _ (List.mem_filter.mpr ⟨q421, rfl⟩)), by decide, q618, q619, q620, by decide, by decide +kernel⟩ (by omega) (by decide) rfl hst hr d hq rfl kk)
  | 8, hk =>
    rw [if_neg (by decide), if_neg (by decide), if_neg (by decide), if_neg (by decide), if_neg (by decide), if_neg (by decide), if_neg (by decide), if_neg (by decide), if_pos (by decide)] at h
    exact v_less (b' := b') (by omega) (x_callOv (c0 := c) (b' := b') (k := 8) (As := [.ref (gCa g c), .int x, .int y]) (n := 3) (mc' := 0) (lvl' := 2) (x := ⟨"RankEntry$Op", "does", "(LRankEntry$Core;II)V"⟩) (y := ⟨"RankEntry$Op$9", "does", "(LRankEntry$Core;II)V"⟩) (owner := "RankEntry$Op") (Cn := "RankEntry$Op$9") O (by decide) rfl (fun X' OX' => bc_Op9_does hc OX' x y C h) (Nat.le_of_ble_eq_true rfl) ⟨hl, q422, va_Decl.abs (O.2.1.nest _ (List.mem_filter.mpr ⟨q421, rfl⟩)), by decide, q623, q624, q625, by decide, by decide +kernel⟩ (by omega) (by decide) rfl hst hr d hq rfl kk)
  | 9, hk =>
    rw [if_neg (by decide), if_neg (by decide), if_neg (by decide), if_neg (by decide), if_neg (by decide), if_neg (by decide), if_neg (by decide), if_neg (by decide), if_neg (by decide), if_pos (by decide)] at h
    exact v_less (b' := b') (by omega) (x_callOv (c0 := c) (b' := b') (k := 9) (As := [.ref (gCa g c), .int x, .int y]) (n := 3) (mc' := 0) (lvl' := 1) (x := ⟨"RankEntry$Op", "does", "(LRankEntry$Core;II)V"⟩) (y := ⟨"RankEntry$Op$10", "does", "(LRankEntry$Core;II)V"⟩) (owner := "RankEntry$Op") (Cn := "RankEntry$Op$10") O (by decide) rfl (fun X' OX' => bc_Op10_does hc OX' x y C h) (Nat.le_of_ble_eq_true rfl) ⟨hl, q422, va_Decl.abs (O.2.1.nest _ (List.mem_filter.mpr ⟨q421, rfl⟩)), by decide, q430, q431, q432, by decide, by decide +kernel⟩ (by omega) (by decide) rfl hst hr d hq rfl kk)
  | 10, hk =>
    rw [if_neg (by decide), if_neg (by decide), if_neg (by decide), if_neg (by decide), if_neg (by decide), if_neg (by decide), if_neg (by decide), if_neg (by decide), if_neg (by decide), if_neg (by decide), if_pos (by decide)] at h
    exact v_less (b' := b') (by omega) (x_callOv (c0 := c) (b' := b') (k := 10) (As := [.ref (gCa g c), .int x, .int y]) (n := 3) (mc' := 0) (lvl' := 1) (x := ⟨"RankEntry$Op", "does", "(LRankEntry$Core;II)V"⟩) (y := ⟨"RankEntry$Op$11", "does", "(LRankEntry$Core;II)V"⟩) (owner := "RankEntry$Op") (Cn := "RankEntry$Op$11") O (by decide) rfl (fun X' OX' => bc_Op11_does hc OX' x y C h) (Nat.le_of_ble_eq_true rfl) ⟨hl, q422, va_Decl.abs (O.2.1.nest _ (List.mem_filter.mpr ⟨q421, rfl⟩)), by decide, q438, q439, q440, by decide, by decide +kernel⟩ (by omega) (by decide) rfl hst hr d hq rfl kk)
  | 11, hk =>
    rw [if_neg (by decide), if_neg (by decide), if_neg (by decide), if_neg (by decide), if_neg (by decide), if_neg (by decide), if_neg (by decide), if_neg (by decide), if_neg (by decide), if_neg (by decide), if_neg (by decide), if_pos (by decide)] at h
    exact v_less (b' := b') (by omega) (x_callOv (c0 := c) (b' := b') (k := 11) (As := [.ref (gCa g c), .int x, .int y]) (n := 3) (mc' := 0) (lvl' := 1) (x := ⟨"RankEntry$Op", "does", "(LRankEntry$Core;II)V"⟩) (y := ⟨"RankEntry$Op$12", "does", "(LRankEntry$Core;II)V"⟩) (owner := "RankEntry$Op") (Cn := "RankEntry$Op$12") O (by decide) rfl (fun X' OX' => bc_Op12_does hc OX' x y C h) (Nat.le_of_ble_eq_true rfl) ⟨hl, q422, va_Decl.abs (O.2.1.nest _ (List.mem_filter.mpr ⟨q421, rfl⟩)), by decide, q445, q446, q447, by decide, by decide +kernel⟩ (by omega) (by decide) rfl hst hr d hq rfl kk)
  | 12, hk =>
    rw [if_neg (by decide), if_neg (by decide), if_neg (by decide), if_neg (by decide), if_neg (by decide), if_neg (by decide), if_neg (by decide), if_neg (by decide), if_neg (by decide), if_neg (by decide), if_neg (by decide), if_neg (by decide), if_pos (by decide)] at h
    exact v_less (b' := b') (by omega) (x_callOv (c0 := c) (b' := b') (k := 12) (As := [.ref (gCa g c), .int x, .int y]) (n := 3) (mc' := 0) (lvl' := 1) (x := ⟨"RankEntry$Op", "does", "(LRankEntry$Core;II)V"⟩) (y := ⟨"RankEntry$Op$13", "does", "(LRankEntry$Core;II)V"⟩) (owner := "RankEntry$Op") (Cn := "RankEntry$Op$13") O (by decide) rfl (fun X' OX' => bc_Op13_does hc OX' x y C h) (Nat.le_of_ble_eq_true rfl) ⟨hl, q422, va_Decl.abs (O.2.1.nest _ (List.mem_filter.mpr ⟨q421, rfl⟩)), by decide, q450, q451, q452, by decide, by decide +kernel⟩ (by omega) (by decide) rfl hst hr d hq rfl kk)
  | 13, hk =>
    rw [if_neg (by decide), if_neg (by decide), if_neg (by decide), if_neg (by decide), if_neg (by decide), if_neg (by decide), if_neg (by decide), if_neg (by decide), if_neg (by decide), if_neg (by decide), if_neg (by decide), if_neg (by decide), if_neg (by decide), if_pos (by decide)] at h
    exact v_less (b' := b') (by omega) (x_callOv (c0 := c) (b' := b') (k := 13) (As := [.ref (gCa g c), .int x, .int y]) (n := 3) (mc' := 0) (lvl' := 2) (x := ⟨"RankEntry$Op", "does", "(LRankEntry$Core;II)V"⟩) (y := ⟨"RankEntry$Op$14", "does", "(LRankEntry$Core;II)V"⟩) (owner := "RankEntry$Op") (Cn := "RankEntry$Op$14") O (by decide) rfl (fun X' OX' => bc_Op14_does hc OX' x y C h) (Nat.le_of_ble_eq_true rfl) ⟨hl, q422, va_Decl.abs (O.2.1.nest _ (List.mem_filter.mpr ⟨q421, rfl⟩)), by decide, q455, q456, q457, by decide, by decide +kernel⟩ (by omega) (by decide) rfl hst hr d hq rfl kk)
  | 14, hk =>
    rw [if_neg (by decide), if_neg (by decide), if_neg (by decide), if_neg (by decide), if_neg (by decide), if_neg (by decide), if_neg (by decide), if_neg (by decide), if_neg (by decide), if_neg (by decide), if_neg (by decide), if_neg (by decide), if_neg (by decide), if_neg (by decide), if_pos (by decide)] at h
    exact v_less (b' := b') (by omega) (x_callOv (c0 := c) (b' := b') (k := 14) (As := [.ref (gCa g c), .int x, .int y]) (n := 3) (mc' := 0) (lvl' := 2) (x := ⟨"RankEntry$Op", "does", "(LRankEntry$Core;II)V"⟩) (y := ⟨"RankEntry$Op$15", "does", "(LRankEntry$Core;II)V"⟩) (owner := "RankEntry$Op") (Cn := "RankEntry$Op$15") O (by decide) rfl (fun X' OX' => bc_Op15_does hc OX' x y C h) (Nat.le_of_ble_eq_true rfl) ⟨hl, q422, va_Decl.abs (O.2.1.nest _ (List.mem_filter.mpr ⟨q421, rfl⟩)), by decide, q459, q460, q461, by decide, by decide +kernel⟩ (by omega) (by decide) rfl hst hr d hq rfl kk)
  | 15, hk =>
    rw [if_neg (by decide), if_neg (by decide), if_neg (by decide), if_neg (by decide), if_neg (by decide), if_neg (by decide), if_neg (by decide), if_neg (by decide), if_neg (by decide), if_neg (by decide), if_neg (by decide), if_neg (by decide), if_neg (by decide), if_neg (by decide), if_neg (by decide), if_pos (by decide)] at h
    exact v_less (b' := b') (by omega) (x_callOv (c0 := c) (b' := b') (k := 15) (As := [.ref (gCa g c), .int x, .int y]) (n := 3) (mc' := 0) (lvl' := 0) (x := ⟨"RankEntry$Op", "does", "(LRankEntry$Core;II)V"⟩) (y := ⟨"RankEntry$Op$16", "does", "(LRankEntry$Core;II)V"⟩) (owner := "RankEntry$Op") (Cn := "RankEntry$Op$16") O (by decide) rfl (fun X' OX' => bc_Op16_does hc OX' x y C h) (Nat.le_of_ble_eq_true rfl) ⟨hl, q422, va_Decl.abs (O.2.1.nest _ (List.mem_filter.mpr ⟨q421, rfl⟩)), by decide, q477, q478, q479, by decide, by decide +kernel⟩ (by omega) (by decide) rfl hst hr d hq rfl kk)
  | 16, hk =>
    rw [if_neg (by decide), if_neg (by decide), if_neg (by decide), if_neg (by decide), if_neg (by decide), if_neg (by decide), if_neg (by decide), if_neg (by decide), if_neg (by decide), if_neg (by decide), if_neg (by decide), if_neg (by decide), if_neg (by decide), if_neg (by decide), if_neg (by decide), if_neg (by decide), if_pos (by decide)] at h
    exact v_less (b' := b') (by omega) (x_callOv (c0 := c) (b' := b') (k := 16) (As := [.ref (gCa g c), .int x, .int y]) (n := 3) (mc' := 0) (lvl' := 0) (x := ⟨"RankEntry$Op", "does", "(LRankEntry$Core;II)V"⟩) (y := ⟨"RankEntry$Op$17", "does", "(LRankEntry$Core;II)V"⟩) (owner := "RankEntry$Op") (Cn := "RankEntry$Op$17") O (by decide) rfl (fun X' OX' => bc_Op17_does hc OX' x y C h) (Nat.le_of_ble_eq_true rfl) ⟨hl, q422, va_Decl.abs (O.2.1.nest _ (List.mem_filter.mpr ⟨q421, rfl⟩)), by decide, q480, q481, q482, by decide, by decide +kernel⟩ (by omega) (by decide) rfl hst hr d hq rfl kk)
  | 17, hk =>
    rw [if_neg (by decide), if_neg (by decide), if_neg (by decide), if_neg (by decide), if_neg (by decide), if_neg (by decide), if_neg (by decide), if_neg (by decide), if_neg (by decide), if_neg (by decide), if_neg (by decide), if_neg (by decide), if_neg (by decide), if_neg (by decide), if_neg (by decide), if_neg (by decide), if_neg (by decide), if_pos (by decide)] at h
    exact x_callOv (c0 := c) (k := 17) (As := [.ref (gCa g c), .int x, .int y]) (n := 3) (mc' := 1) (lvl' := 7) (x := ⟨"RankEntry$Op", "does", "(LRankEntry$Core;II)V"⟩) (y := ⟨"RankEntry$Op$18", "does", "(LRankEntry$Core;II)V"⟩) (owner := "RankEntry$Op") (Cn := "RankEntry$Op$18") O (by decide) rfl (fun X' OX' => bc_Op18_does hc OX' x y C h) (Nat.le_of_ble_eq_true rfl) ⟨hl, q422, va_Decl.abs (O.2.1.nest _ (List.mem_filter.mpr ⟨q421, rfl⟩)), by decide, q483, q484, q485, by decide, by decide +kernel⟩ (by omega) (by decide) rfl hst hr d hq hb kk
  | 18, hk =>
    rw [if_neg (by decide), if_neg (by decide), if_neg (by decide), if_neg (by decide), if_neg (by decide), if_neg (by decide), if_neg (by decide), if_neg (by decide), if_neg (by decide), if_neg (by decide), if_neg (by decide), if_neg (by decide), if_neg (by decide), if_neg (by decide), if_neg (by decide), if_neg (by decide), if_neg (by decide), if_neg (by decide), if_pos (by decide)] at h
    exact v_less (b' := b') (by omega) (x_callOv (c0 := c) (b' := b') (k := 18) (As := [.ref (gCa g c), .int x, .int y]) (n := 3) (mc' := 0) (lvl' := 0) (x := ⟨"RankEntry$Op", "does", "(LRankEntry$Core;II)V"⟩) (y := ⟨"RankEntry$Op$19", "does", "(LRankEntry$Core;II)V"⟩) (owner := "RankEntry$Op") (Cn := "RankEntry$Op$19") O (by decide) rfl (fun X' OX' => bc_Op19_does hc OX' x y C h) (Nat.le_of_ble_eq_true rfl) ⟨hl, q422, va_Decl.abs (O.2.1.nest _ (List.mem_filter.mpr ⟨q421, rfl⟩)), by decide, q523, q524, q525, by decide, by decide +kernel⟩ (by omega) (by decide) rfl hst hr d hq rfl kk)
  | 19, hk =>
    rw [if_neg (by decide), if_neg (by decide), if_neg (by decide), if_neg (by decide), if_neg (by decide), if_neg (by decide), if_neg (by decide), if_neg (by decide), if_neg (by decide), if_neg (by decide), if_neg (by decide), if_neg (by decide), if_neg (by decide), if_neg (by decide), if_neg (by decide), if_neg (by decide), if_neg (by decide), if_neg (by decide), if_neg (by decide), if_pos (by decide)] at h
    exact v_less (b' := b') (by omega) (x_callOv (c0 := c) (b' := b') (k := 19) (As := [.ref (gCa g c), .int x, .int y]) (n := 3) (mc' := 0) (lvl' := 1) (x := ⟨"RankEntry$Op", "does", "(LRankEntry$Core;II)V"⟩) (y := ⟨"RankEntry$Op$20", "does", "(LRankEntry$Core;II)V"⟩) (owner := "RankEntry$Op") (Cn := "RankEntry$Op$20") O (by decide) rfl (fun X' OX' => bc_Op20_does hc OX' x y C h) (Nat.le_of_ble_eq_true rfl) ⟨hl, q422, va_Decl.abs (O.2.1.nest _ (List.mem_filter.mpr ⟨q421, rfl⟩)), by decide, q538, q539, q540, by decide, by decide +kernel⟩ (by omega) (by decide) rfl hst hr d hq rfl kk)
  | 20, hk =>
    rw [if_neg (by decide), if_neg (by decide), if_neg (by decide), if_neg (by decide), if_neg (by decide), if_neg (by decide), if_neg (by decide), if_neg (by decide), if_neg (by decide), if_neg (by decide), if_neg (by decide), if_neg (by decide), if_neg (by decide), if_neg (by decide), if_neg (by decide), if_neg (by decide), if_neg (by decide), if_neg (by decide), if_neg (by decide), if_neg (by decide), if_pos (by decide)] at h
    exact v_less (b' := b') (by omega) (x_callOv (c0 := c) (b' := b') (k := 20) (As := [.ref (gCa g c), .int x, .int y]) (n := 3) (mc' := 0) (lvl' := 2) (x := ⟨"RankEntry$Op", "does", "(LRankEntry$Core;II)V"⟩) (y := ⟨"RankEntry$Op$21", "does", "(LRankEntry$Core;II)V"⟩) (owner := "RankEntry$Op") (Cn := "RankEntry$Op$21") O (by decide) rfl (fun X' OX' => bc_Op21_does hc OX' x y C h) (Nat.le_of_ble_eq_true rfl) ⟨hl, q422, va_Decl.abs (O.2.1.nest _ (List.mem_filter.mpr ⟨q421, rfl⟩)), by decide, q546, q547, q548, by decide, by decide +kernel⟩ (by omega) (by decide) rfl hst hr d hq rfl kk)
  | 21, hk =>
    rw [if_neg (by decide), if_neg (by decide), if_neg (by decide), if_neg (by decide), if_neg (by decide), if_neg (by decide), if_neg (by decide), if_neg (by decide), if_neg (by decide), if_neg (by decide), if_neg (by decide), if_neg (by decide), if_neg (by decide), if_neg (by decide), if_neg (by decide), if_neg (by decide), if_neg (by decide), if_neg (by decide), if_neg (by decide), if_neg (by decide), if_neg (by decide), if_pos (by decide)] at h
    exact v_less (b' := b') (by omega) (x_callOv (c0 := c) (b' := b') (k := 21) (As := [.ref (gCa g c), .int x, .int y]) (n := 3) (mc' := 0) (lvl' := 2) (x := ⟨"RankEntry$Op", "does", "(LRankEntry$Core;II)V"⟩) (y := ⟨"RankEntry$Op$22", "does", "(LRankEntry$Core;II)V"⟩) (owner := "RankEntry$Op") (Cn := "RankEntry$Op$22") O (by decide) rfl (fun X' OX' => bc_Op22_does hc OX' x y C h) (Nat.le_of_ble_eq_true rfl) ⟨hl, q422, va_Decl.abs (O.2.1.nest _ (List.mem_filter.mpr ⟨q421, rfl⟩)), by decide, q556, q557, q558, by decide, by decide +kernel⟩ (by omega) (by decide) rfl hst hr d hq rfl kk)
  | 22, hk =>
    rw [if_neg (by decide), if_neg (by decide), if_neg (by decide), if_neg (by decide), if_neg (by decide), if_neg (by decide), if_neg (by decide), if_neg (by decide), if_neg (by decide), if_neg (by decide), if_neg (by decide), if_neg (by decide), if_neg (by decide), if_neg (by decide), if_neg (by decide), if_neg (by decide), if_neg (by decide), if_neg (by decide), if_neg (by decide), if_neg (by decide), if_neg (by decide), if_neg (by decide), if_pos (by decide)] at h
    exact v_less (b' := b') (by omega) (x_callOv (c0 := c) (b' := b') (k := 22) (As := [.ref (gCa g c), .int x, .int y]) (n := 3) (mc' := 0) (lvl' := 1) (x := ⟨"RankEntry$Op", "does", "(LRankEntry$Core;II)V"⟩) (y := ⟨"RankEntry$Op$23", "does", "(LRankEntry$Core;II)V"⟩) (owner := "RankEntry$Op") (Cn := "RankEntry$Op$23") O (by decide) rfl (fun X' OX' => bc_Op23_does hc OX' x y C h) (Nat.le_of_ble_eq_true rfl) ⟨hl, q422, va_Decl.abs (O.2.1.nest _ (List.mem_filter.mpr ⟨q421, rfl⟩)), by decide, q560, q561, q562, by decide, by decide +kernel⟩ (by omega) (by decide) rfl hst hr d hq rfl kk)
  | 23, hk =>
    rw [if_neg (by decide), if_neg (by decide), if_neg (by decide), if_neg (by decide), if_neg (by decide), if_neg (by decide), if_neg (by decide), if_neg (by decide), if_neg (by decide), if_neg (by decide), if_neg (by decide), if_neg (by decide), if_neg (by decide), if_neg (by decide), if_neg (by decide), if_neg (by decide), if_neg (by decide), if_neg (by decide), if_neg (by decide), if_neg (by decide), if_neg (by decide), if_neg (by decide), if_neg (by decide), if_pos (by decide)] at h
    exact v_less (b' := b') (by omega) (x_callOv (c0 := c) (b' := b') (k := 23) (As := [.ref (gCa g c), .int x, .int y]) (n := 3) (mc' := 0) (lvl' := 1) (x := ⟨"RankEntry$Op", "does", "(LRankEntry$Core;II)V"⟩) (y := ⟨"RankEntry$Op$24", "does", "(LRankEntry$Core;II)V"⟩) (owner := "RankEntry$Op") (Cn := "RankEntry$Op$24") O (by decide) rfl (fun X' OX' => bc_Op24_does hc OX' x y C h) (Nat.le_of_ble_eq_true rfl) ⟨hl, q422, va_Decl.abs (O.2.1.nest _ (List.mem_filter.mpr ⟨q421, rfl⟩)), by decide, q564, q565, q566, by decide, by decide +kernel⟩ (by omega) (by decide) rfl hst hr d hq rfl kk)
  | 24, hk =>
    rw [if_neg (by decide), if_neg (by decide), if_neg (by decide), if_neg (by decide), if_neg (by decide), if_neg (by decide), if_neg (by decide), if_neg (by decide), if_neg (by decide), if_neg (by decide), if_neg (by decide), if_neg (by decide), if_neg (by decide), if_neg (by decide), if_neg (by decide), if_neg (by decide), if_neg (by decide), if_neg (by decide), if_neg (by decide), if_neg (by decide), if_neg (by decide), if_neg (by decide), if_neg (by decide), if_neg (by decide), if_pos (by decide)] at h
    exact v_less (b' := b') (by omega) (x_callOv (c0 := c) (b' := b') (k := 24) (As := [.ref (gCa g c), .int x, .int y]) (n := 3) (mc' := 0) (lvl' := 1) (x := ⟨"RankEntry$Op", "does", "(LRankEntry$Core;II)V"⟩) (y := ⟨"RankEntry$Op$25", "does", "(LRankEntry$Core;II)V"⟩) (owner := "RankEntry$Op") (Cn := "RankEntry$Op$25") O (by decide) rfl (fun X' OX' => bc_Op25_does hc OX' x y C h) (Nat.le_of_ble_eq_true rfl) ⟨hl, q422, va_Decl.abs (O.2.1.nest _ (List.mem_filter.mpr ⟨q421, rfl⟩)), by decide, q569, q570, q571, by decide, by decide +kernel⟩ (by omega) (by decide) rfl hst hr d hq rfl kk)
  | 25, hk =>
    rw [if_neg (by decide), if_neg (by decide), if_neg (by decide), if_neg (by decide), if_neg (by decide), if_neg (by decide), if_neg (by decide), if_neg (by decide), if_neg (by decide), if_neg (by decide), if_neg (by decide), if_neg (by decide), if_neg (by decide), if_neg (by decide), if_neg (by decide), if_neg (by decide), if_neg (by decide), if_neg (by decide), if_neg (by decide), if_neg (by decide), if_neg (by decide), if_neg (by decide), if_neg (by decide), if_neg (by decide), if_neg (by decide), if_pos (by decide)] at h
    exact v_less (b' := b') (by omega) (x_callOv (c0 := c) (b' := b') (k := 25) (As := [.ref (gCa g c), .int x, .int y]) (n := 3) (mc' := 0) (lvl' := 1) (x := ⟨"RankEntry$Op", "does", "(LRankEntry$Core;II)V"⟩) (y := ⟨"RankEntry$Op$26", "does", "(LRankEntry$Core;II)V"⟩) (owner := "RankEntry$Op") (Cn := "RankEntry$Op$26") O (by decide) rfl (fun X' OX' => bc_Op26_does hc OX' x y C h) (Nat.le_of_ble_eq_true rfl) ⟨hl, q422, va_Decl.abs (O.2.1.nest _ (List.mem_filter.mpr ⟨q421, rfl⟩)), by decide, q573, q574, q575, by decide, by decide +kernel⟩ (by omega) (by decide) rfl hst hr d hq rfl kk)
  | 26, hk =>
    rw [if_neg (by decide), if_neg (by decide), if_neg (by decide), if_neg (by decide), if_neg (by decide), if_neg (by decide), if_neg (by decide), if_neg (by decide), if_neg (by decide), if_neg (by decide), if_neg (by decide), if_neg (by decide), if_neg (by decide), if_neg (by decide), if_neg (by decide), if_neg (by decide), if_neg (by decide), if_neg (by decide), if_neg (by decide), if_neg (by decide), if_neg (by decide), if_neg (by decide), if_neg (by decide), if_neg (by decide), if_neg (by decide), if_neg (by decide), if_pos (by decide)] at h
    exact v_less (b' := b') (by omega) (x_callOv (c0 := c) (b' := b') (k := 26) (As := [.ref (gCa g c), .int x, .int y]) (n := 3) (mc' := 0) (lvl' := 1) (x := ⟨"RankEntry$Op", "does", "(LRankEntry$Core;II)V"⟩) (y := ⟨"RankEntry$Op$27", "does", "(LRankEntry$Core;II)V"⟩) (owner := "RankEntry$Op") (Cn := "RankEntry$Op$27") O (by decide) rfl (fun X' OX' => bc_Op27_does hc OX' x y C h) (Nat.le_of_ble_eq_true rfl) ⟨hl, q422, va_Decl.abs (O.2.1.nest _ (List.mem_filter.mpr ⟨q421, rfl⟩)), by decide, q577, q578, q579, by decide, by decide +kernel⟩ (by omega) (by decide) rfl hst hr d hq rfl kk)
  | 27, hk =>
    rw [if_neg (by decide), if_neg (by decide), if_neg (by decide), if_neg (by decide), if_neg (by decide), if_neg (by decide), if_neg (by decide), if_neg (by decide), if_neg (by decide), if_neg (by decide), if_neg (by decide), if_neg (by decide), if_neg (by decide), if_neg (by decide), if_neg (by decide), if_neg (by decide), if_neg (by decide), if_neg (by decide), if_neg (by decide), if_neg (by decide), if_neg (by decide), if_neg (by decide), if_neg (by decide), if_neg (by decide), if_neg (by decide), if_neg (by decide), if_neg (by decide), if_pos (by decide)] at h
    exact v_less (b' := b') (by omega) (x_callOv (c0 := c) (b' := b') (k := 27) (As := [.ref (gCa g c), .int x, .int y]) (n := 3) (mc' := 0) (lvl' := 1) (x := ⟨"RankEntry$Op", "does", "(LRankEntry$Core;II)V"⟩) (y := ⟨"RankEntry$Op$28", "does", "(LRankEntry$Core;II)V"⟩) (owner := "RankEntry$Op") (Cn := "RankEntry$Op$28") O (by decide) rfl (fun X' OX' => bc_Op28_does hc OX' x y C h) (Nat.le_of_ble_eq_true rfl) ⟨hl, q422, va_Decl.abs (O.2.1.nest _ (List.mem_filter.mpr ⟨q421, rfl⟩)), by decide, q585, q586, q587, by decide, by decide +kernel⟩ (by omega) (by decide) rfl hst hr d hq rfl kk)
  | 28, hk =>
    rw [if_neg (by decide), if_neg (by decide), if_neg (by decide), if_neg (by decide), if_neg (by decide), if_neg (by decide), if_neg (by decide), if_neg (by decide), if_neg (by decide), if_neg (by decide), if_neg (by decide), if_neg (by decide), if_neg (by decide), if_neg (by decide), if_neg (by decide), if_neg (by decide), if_neg (by decide), if_neg (by decide), if_neg (by decide), if_neg (by decide), if_neg (by decide), if_neg (by decide), if_neg (by decide), if_neg (by decide), if_neg (by decide), if_neg (by decide), if_neg (by decide), if_neg (by decide)] at h
    exact v_less (b' := b') (by omega) (x_callOv (c0 := c) (b' := b') (k := 28) (As := [.ref (gCa g c), .int x, .int y]) (n := 3) (mc' := 0) (lvl' := 1) (x := ⟨"RankEntry$Op", "does", "(LRankEntry$Core;II)V"⟩) (y := ⟨"RankEntry$Op$29", "does", "(LRankEntry$Core;II)V"⟩) (owner := "RankEntry$Op") (Cn := "RankEntry$Op$29") O (by decide) rfl (fun X' OX' => bc_Op29_does hc OX' x y C h) (Nat.le_of_ble_eq_true rfl) ⟨hl, q422, va_Decl.abs (O.2.1.nest _ (List.mem_filter.mpr ⟨q421, rfl⟩)), by decide, q589, q590, q591, by decide, by decide +kernel⟩ (by omega) (by decide) rfl hst hr d hq rfl kk)
  | k + 29, hk => omega
set_option maxHeartbeats 8000000 in
theorem x_o_doest {α : Type} {f : Int32} {r : α ⊕ Int32} (OX : OkX g c X cc nL ret own lvl mc Qc r C') {idx : Nat} {t x y : Int32} (hc : cC c) (ht : inO t = true) (h : fv_o_does c t x y C = some (.inr f, C1)) (hl : Cond.methodLink own idx ⟨"RankEntry$Op", "does", "(LRankEntry$Core;II)V"⟩ ∈ lw_all) (hlv : 8 ≤ lvl) (hst : st = .int y :: .int x :: .ref (gCa g c) :: .ref (gCo g (t.toNatClampNeg - 1)) :: rest) (hr : (rest.map fun v => v.category).sum ≤ 8) (d : decode cc pc = .ok (.invokevirtual idx, 3)) (hb : 1 ≤ b) (h' : (r, C') = ((Sum.inr f : α ⊕ Int32), C1)) : V X nL b (WdC g C) pc lv st := by
  have O := OX.1
  obtain ⟨k, hk, rfl⟩ := inO_k ht
  unfold fv_o_does at h
  match k, hk with
  | 0, hk =>
    rw [if_pos (by decide)] at h
    exact x_callOtv (k := 0) (As := [.ref (gCa g c), .int x, .int y]) (n := 3) (mc' := 0) (lvl' := 1) (x := ⟨"RankEntry$Op", "does", "(LRankEntry$Core;II)V"⟩) (y := ⟨"RankEntry$Op$1", "does", "(LRankEntry$Core;II)V"⟩) (owner := "RankEntry$Op") (Cn := "RankEntry$Op$1") OX hc (by decide) rfl (fun X' OX' => bc_Op1_does hc OX' x y C h) (Nat.le_of_ble_eq_true rfl) ⟨hl, q422, va_Decl.abs (O.2.1.nest _ (List.mem_filter.mpr ⟨q421, rfl⟩)), by decide, q423, q424, q425, by decide, by decide +kernel⟩ (by omega) (by decide) rfl hst hr d (Nat.zero_le _) h'
  | 1, hk =>
    rw [if_neg (by decide), if_pos (by decide)] at h
    exact x_callOtv (k := 1) (As := [.ref (gCa g c), .int x, .int y]) (n := 3) (mc' := 0) (lvl' := 2) (x := ⟨"RankEntry$Op", "does", "(LRankEntry$Core;II)V"⟩) (y := ⟨"RankEntry$Op$2", "does", "(LRankEntry$Core;II)V"⟩) (owner := "RankEntry$Op") (Cn := "RankEntry$Op$2") OX hc (by decide) rfl (fun X' OX' => bc_Op2_does hc OX' x y C h) (Nat.le_of_ble_eq_true rfl) ⟨hl, q422, va_Decl.abs (O.2.1.nest _ (List.mem_filter.mpr ⟨q421, rfl⟩)), by decide, q526, q527, q528, by decide, by decide +kernel⟩ (by omega) (by decide) rfl hst hr d (Nat.zero_le _) h'
  | 2, hk =>
    rw [if_neg (by decide), if_neg (by decide), if_pos (by decide)] at h
    exact x_callOtv (k := 2) (As := [.ref (gCa g c), .int x, .int y]) (n := 3) (mc' := 0) (lvl' := 2) (x := ⟨"RankEntry$Op", "does", "(LRankEntry$Core;II)V"⟩) (y := ⟨"RankEntry$Op$3", "does", "(LRankEntry$Core;II)V"⟩) (owner := "RankEntry$Op") (Cn := "RankEntry$Op$3") OX hc (by decide) rfl (fun X' OX' => bc_Op3_does hc OX' x y C h) (Nat.le_of_ble_eq_true rfl) ⟨hl, q422, va_Decl.abs (O.2.1.nest _ (List.mem_filter.mpr ⟨q421, rfl⟩)), by decide, q593, q594, q595, by decide, by decide +kernel⟩ (by omega) (by decide) rfl hst hr d (Nat.zero_le _) h'
  | 3, hk =>
    rw [if_neg (by decide), if_neg (by decide), if_neg (by decide), if_pos (by decide)] at h
    exact x_callOtv (k := 3) (As := [.ref (gCa g c), .int x, .int y]) (n := 3) (mc' := 0) (lvl' := 2) (x := ⟨"RankEntry$Op", "does", "(LRankEntry$Core;II)V"⟩) (y := ⟨"RankEntry$Op$4", "does", "(LRankEntry$Core;II)V"⟩) (owner := "RankEntry$Op") (Cn := "RankEntry$Op$4") OX hc (by decide) rfl (fun X' OX' => bc_Op4_does hc OX' x y C h) (Nat.le_of_ble_eq_true rfl) ⟨hl, q422, va_Decl.abs (O.2.1.nest _ (List.mem_filter.mpr ⟨q421, rfl⟩)), by decide, q598, q599, q600, by decide, by decide +kernel⟩ (by omega) (by decide) rfl hst hr d (Nat.zero_le _) h'
  | 4, hk =>
    rw [if_neg (by decide), if_neg (by decide), if_neg (by decide), if_neg (by decide), if_pos (by decide)] at h
    exact x_callOtv (k := 4) (As := [.ref (gCa g c), .int x, .int y]) (n := 3) (mc' := 0) (lvl' := 2) (x := ⟨"RankEntry$Op", "does", "(LRankEntry$Core;II)V"⟩) (y := ⟨"RankEntry$Op$5", "does", "(LRankEntry$Core;II)V"⟩) (owner := "RankEntry$Op") (Cn := "RankEntry$Op$5") OX hc (by decide) rfl (fun X' OX' => bc_Op5_does hc OX' x y C h) (Nat.le_of_ble_eq_true rfl) ⟨hl, q422, va_Decl.abs (O.2.1.nest _ (List.mem_filter.mpr ⟨q421, rfl⟩)), by decide, q603, q604, q605, by decide, by decide +kernel⟩ (by omega) (by decide) rfl hst hr d (Nat.zero_le _) h'
  | 5, hk =>
    rw [if_neg (by decide), if_neg (by decide), if_neg (by decide), if_neg (by decide), if_neg (by decide), if_pos (by decide)] at h
    exact x_callOtv (k := 5) (As := [.ref (gCa g c), .int x, .int y]) (n := 3) (mc' := 0) (lvl' := 2) (x := ⟨"RankEntry$Op", "does", "(LRankEntry$Core;II)V"⟩) (y := ⟨"RankEntry$Op$6", "does", "(LRankEntry$Core;II)V"⟩) (owner := "RankEntry$Op") (Cn := "RankEntry$Op$6") OX hc (by decide) rfl (fun X' OX' => bc_Op6_does hc OX' x y C h) (Nat.le_of_ble_eq_true rfl) ⟨hl, q422, va_Decl.abs (O.2.1.nest _ (List.mem_filter.mpr ⟨q421, rfl⟩)), by decide, q608, q609, q610, by decide, by decide +kernel⟩ (by omega) (by decide) rfl hst hr d (Nat.zero_le _) h'
  | 6, hk =>
    rw [if_neg (by decide), if_neg (by decide), if_neg (by decide), if_neg (by decide), if_neg (by decide), if_neg (by decide), if_pos (by decide)] at h
    exact x_callOtv (k := 6) (As := [.ref (gCa g c), .int x, .int y]) (n := 3) (mc' := 0) (lvl' := 2) (x := ⟨"RankEntry$Op", "does", "(LRankEntry$Core;II)V"⟩) (y := ⟨"RankEntry$Op$7", "does", "(LRankEntry$Core;II)V"⟩) (owner := "RankEntry$Op") (Cn := "RankEntry$Op$7") OX hc (by decide) rfl (fun X' OX' => bc_Op7_does hc OX' x y C h) (Nat.le_of_ble_eq_true rfl) ⟨hl, q422, va_Decl.abs (O.2.1.nest _ (List.mem_filter.mpr ⟨q421, rfl⟩)), by decide, q613, q614, q615, by decide, by decide +kernel⟩ (by omega) (by decide) rfl hst hr d (Nat.zero_le _) h'
  | 7, hk =>
    rw [if_neg (by decide), if_neg (by decide), if_neg (by decide), if_neg (by decide), if_neg (by decide), if_neg (by decide), if_neg (by decide), if_pos (by decide)] at h
    exact x_callOtv (k := 7) (As := [.ref (gCa g c), .int x, .int y]) (n := 3) (mc' := 0) (lvl' := 1) (x := ⟨"RankEntry$Op", "does", "(LRankEntry$Core;II)V"⟩) (y := ⟨"RankEntry$Op$8", "does", "(LRankEntry$Core;II)V"⟩) (owner := "RankEntry$Op") (Cn := "RankEntry$Op$8") OX hc (by decide) rfl (fun X' OX' => bc_Op8_does hc OX' x y C h) (Nat.le_of_ble_eq_true rfl) ⟨hl, q422, va_Decl.abs (O.2.1.nest _ (List.mem_filter.mpr ⟨q421, rfl⟩)), by decide, q618, q619, q620, by decide, by decide +kernel⟩ (by omega) (by decide) rfl hst hr d (Nat.zero_le _) h'
  | 8, hk =>
    rw [if_neg (by decide), if_neg (by decide), if_neg (by decide), if_neg (by decide), if_neg (by decide), if_neg (by decide), if_neg (by decide), if_neg (by decide), if_pos (by decide)] at h
    exact x_callOtv (k := 8) (As := [.ref (gCa g c), .int x, .int y]) (n := 3) (mc' := 0) (lvl' := 2) (x := ⟨"RankEntry$Op", "does", "(LRankEntry$Core;II)V"⟩) (y := ⟨"RankEntry$Op$9", "does", "(LRankEntry$Core;II)V"⟩) (owner := "RankEntry$Op") (Cn := "RankEntry$Op$9") OX hc (by decide) rfl (fun X' OX' => bc_Op9_does hc OX' x y C h) (Nat.le_of_ble_eq_true rfl) ⟨hl, q422, va_Decl.abs (O.2.1.nest _ (List.mem_filter.mpr ⟨q421, rfl⟩)), by decide, q623, q624, q625, by decide, by decide +kernel⟩ (by omega) (by decide) rfl hst hr d (Nat.zero_le _) h'
  | 9, hk =>
    rw [if_neg (by decide), if_neg (by decide), if_neg (by decide), if_neg (by decide), if_neg (by decide), if_neg (by decide), if_neg (by decide), if_neg (by decide), if_neg (by decide), if_pos (by decide)] at h
    exact x_callOtv (k := 9) (As := [.ref (gCa g c), .int x, .int y]) (n := 3) (mc' := 0) (lvl' := 1) (x := ⟨"RankEntry$Op", "does", "(LRankEntry$Core;II)V"⟩) (y := ⟨"RankEntry$Op$10", "does", "(LRankEntry$Core;II)V"⟩) (owner := "RankEntry$Op") (Cn := "RankEntry$Op$10") OX hc (by decide) rfl (fun X' OX' => bc_Op10_does hc OX' x y C h) (Nat.le_of_ble_eq_true rfl) ⟨hl, q422, va_Decl.abs (O.2.1.nest _ (List.mem_filter.mpr ⟨q421, rfl⟩)), by decide, q430, q431, q432, by decide, by decide +kernel⟩ (by omega) (by decide) rfl hst hr d (Nat.zero_le _) h'
  | 10, hk =>
    rw [if_neg (by decide), if_neg (by decide), if_neg (by decide), if_neg (by decide), if_neg (by decide), if_neg (by decide), if_neg (by decide), if_neg (by decide), if_neg (by decide), if_neg (by decide), if_pos (by decide)] at h
    exact x_callOtv (k := 10) (As := [.ref (gCa g c), .int x, .int y]) (n := 3) (mc' := 0) (lvl' := 1) (x := ⟨"RankEntry$Op", "does", "(LRankEntry$Core;II)V"⟩) (y := ⟨"RankEntry$Op$11", "does", "(LRankEntry$Core;II)V"⟩) (owner := "RankEntry$Op") (Cn := "RankEntry$Op$11") OX hc (by decide) rfl (fun X' OX' => bc_Op11_does hc OX' x y C h) (Nat.le_of_ble_eq_true rfl) ⟨hl, q422, va_Decl.abs (O.2.1.nest _ (List.mem_filter.mpr ⟨q421, rfl⟩)), by decide, q438, q439, q440, by decide, by decide +kernel⟩ (by omega) (by decide) rfl hst hr d (Nat.zero_le _) h'
  | 11, hk =>
    rw [if_neg (by decide), if_neg (by decide), if_neg (by decide), if_neg (by decide), if_neg (by decide), if_neg (by decide), if_neg (by decide), if_neg (by decide), if_neg (by decide), if_neg (by decide), if_neg (by decide), if_pos (by decide)] at h
    exact x_callOtv (k := 11) (As := [.ref (gCa g c), .int x, .int y]) (n := 3) (mc' := 0) (lvl' := 1) (x := ⟨"RankEntry$Op", "does", "(LRankEntry$Core;II)V"⟩) (y := ⟨"RankEntry$Op$12", "does", "(LRankEntry$Core;II)V"⟩) (owner := "RankEntry$Op") (Cn := "RankEntry$Op$12") OX hc (by decide) rfl (fun X' OX' => bc_Op12_does hc OX' x y C h) (Nat.le_of_ble_eq_true rfl) ⟨hl, q422, va_Decl.abs (O.2.1.nest _ (List.mem_filter.mpr ⟨q421, rfl⟩)), by decide, q445, q446, q447, by decide, by decide +kernel⟩ (by omega) (by decide) rfl hst hr d (Nat.zero_le _) h'
  | 12, hk =>
    rw [if_neg (by decide), if_neg (by decide), if_neg (by decide), if_neg (by decide), if_neg (by decide), if_neg (by decide), if_neg (by decide), if_neg (by decide), if_neg (by decide), if_neg (by decide), if_neg (by decide), if_neg (by decide), if_pos (by decide)] at h
    exact x_callOtv (k := 12) (As := [.ref (gCa g c), .int x, .int y]) (n := 3) (mc' := 0) (lvl' := 1) (x := ⟨"RankEntry$Op", "does", "(LRankEntry$Core;II)V"⟩) (y := ⟨"RankEntry$Op$13", "does", "(LRankEntry$Core;II)V"⟩) (owner := "RankEntry$Op") (Cn := "RankEntry$Op$13") OX hc (by decide) rfl (fun X' OX' => bc_Op13_does hc OX' x y C h) (Nat.le_of_ble_eq_true rfl) ⟨hl, q422, va_Decl.abs (O.2.1.nest _ (List.mem_filter.mpr ⟨q421, rfl⟩)), by decide, q450, q451, q452, by decide, by decide +kernel⟩ (by omega) (by decide) rfl hst hr d (Nat.zero_le _) h'
  | 13, hk =>
    rw [if_neg (by decide), if_neg (by decide), if_neg (by decide), if_neg (by decide), if_neg (by decide), if_neg (by decide), if_neg (by decide), if_neg (by decide), if_neg (by decide), if_neg (by decide), if_neg (by decide), if_neg (by decide), if_neg (by decide), if_pos (by decide)] at h
    exact x_callOtv (k := 13) (As := [.ref (gCa g c), .int x, .int y]) (n := 3) (mc' := 0) (lvl' := 2) (x := ⟨"RankEntry$Op", "does", "(LRankEntry$Core;II)V"⟩) (y := ⟨"RankEntry$Op$14", "does", "(LRankEntry$Core;II)V"⟩) (owner := "RankEntry$Op") (Cn := "RankEntry$Op$14") OX hc (by decide) rfl (fun X' OX' => bc_Op14_does hc OX' x y C h) (Nat.le_of_ble_eq_true rfl) ⟨hl, q422, va_Decl.abs (O.2.1.nest _ (List.mem_filter.mpr ⟨q421, rfl⟩)), by decide, q455, q456, q457, by decide, by decide +kernel⟩ (by omega) (by decide) rfl hst hr d (Nat.zero_le _) h'
  | 14, hk =>
    rw [if_neg (by decide), if_neg (by decide), if_neg (by decide), if_neg (by decide), if_neg (by decide), if_neg (by decide), if_neg (by decide), if_neg (by decide), if_neg (by decide), if_neg (by decide), if_neg (by decide), if_neg (by decide), if_neg (by decide), if_neg (by decide), if_pos (by decide)] at h
    exact x_callOtv (k := 14) (As := [.ref (gCa g c), .int x, .int y]) (n := 3) (mc' := 0) (lvl' := 2) (x := ⟨"RankEntry$Op", "does", "(LRankEntry$Core;II)V"⟩) (y := ⟨"RankEntry$Op$15", "does", "(LRankEntry$Core;II)V"⟩) (owner := "RankEntry$Op") (Cn := "RankEntry$Op$15") OX hc (by decide) rfl (fun X' OX' => bc_Op15_does hc OX' x y C h) (Nat.le_of_ble_eq_true rfl) ⟨hl, q422, va_Decl.abs (O.2.1.nest _ (List.mem_filter.mpr ⟨q421, rfl⟩)), by decide, q459, q460, q461, by decide, by decide +kernel⟩ (by omega) (by decide) rfl hst hr d (Nat.zero_le _) h'
  | 15, hk =>
    rw [if_neg (by decide), if_neg (by decide), if_neg (by decide), if_neg (by decide), if_neg (by decide), if_neg (by decide), if_neg (by decide), if_neg (by decide), if_neg (by decide), if_neg (by decide), if_neg (by decide), if_neg (by decide), if_neg (by decide), if_neg (by decide), if_neg (by decide), if_pos (by decide)] at h
    exact x_callOtv (k := 15) (As := [.ref (gCa g c), .int x, .int y]) (n := 3) (mc' := 0) (lvl' := 0) (x := ⟨"RankEntry$Op", "does", "(LRankEntry$Core;II)V"⟩) (y := ⟨"RankEntry$Op$16", "does", "(LRankEntry$Core;II)V"⟩) (owner := "RankEntry$Op") (Cn := "RankEntry$Op$16") OX hc (by decide) rfl (fun X' OX' => bc_Op16_does hc OX' x y C h) (Nat.le_of_ble_eq_true rfl) ⟨hl, q422, va_Decl.abs (O.2.1.nest _ (List.mem_filter.mpr ⟨q421, rfl⟩)), by decide, q477, q478, q479, by decide, by decide +kernel⟩ (by omega) (by decide) rfl hst hr d (Nat.zero_le _) h'
  | 16, hk =>
    rw [if_neg (by decide), if_neg (by decide), if_neg (by decide), if_neg (by decide), if_neg (by decide), if_neg (by decide), if_neg (by decide), if_neg (by decide), if_neg (by decide), if_neg (by decide), if_neg (by decide), if_neg (by decide), if_neg (by decide), if_neg (by decide), if_neg (by decide), if_neg (by decide), if_pos (by decide)] at h
    exact x_callOtv (k := 16) (As := [.ref (gCa g c), .int x, .int y]) (n := 3) (mc' := 0) (lvl' := 0) (x := ⟨"RankEntry$Op", "does", "(LRankEntry$Core;II)V"⟩) (y := ⟨"RankEntry$Op$17", "does", "(LRankEntry$Core;II)V"⟩) (owner := "RankEntry$Op") (Cn := "RankEntry$Op$17") OX hc (by decide) rfl (fun X' OX' => bc_Op17_does hc OX' x y C h) (Nat.le_of_ble_eq_true rfl) ⟨hl, q422, va_Decl.abs (O.2.1.nest _ (List.mem_filter.mpr ⟨q421, rfl⟩)), by decide, q480, q481, q482, by decide, by decide +kernel⟩ (by omega) (by decide) rfl hst hr d (Nat.zero_le _) h'
  | 17, hk =>
    rw [if_neg (by decide), if_neg (by decide), if_neg (by decide), if_neg (by decide), if_neg (by decide), if_neg (by decide), if_neg (by decide), if_neg (by decide), if_neg (by decide), if_neg (by decide), if_neg (by decide), if_neg (by decide), if_neg (by decide), if_neg (by decide), if_neg (by decide), if_neg (by decide), if_neg (by decide), if_pos (by decide)] at h
    exact x_callOtv (k := 17) (As := [.ref (gCa g c), .int x, .int y]) (n := 3) (mc' := 1) (lvl' := 7) (x := ⟨"RankEntry$Op", "does", "(LRankEntry$Core;II)V"⟩) (y := ⟨"RankEntry$Op$18", "does", "(LRankEntry$Core;II)V"⟩) (owner := "RankEntry$Op") (Cn := "RankEntry$Op$18") OX hc (by decide) rfl (fun X' OX' => bc_Op18_does hc OX' x y C h) (Nat.le_of_ble_eq_true rfl) ⟨hl, q422, va_Decl.abs (O.2.1.nest _ (List.mem_filter.mpr ⟨q421, rfl⟩)), by decide, q483, q484, q485, by decide, by decide +kernel⟩ (by omega) (by decide) rfl hst hr d hb h'
  | 18, hk =>
    rw [if_neg (by decide), if_neg (by decide), if_neg (by decide), if_neg (by decide), if_neg (by decide), if_neg (by decide), if_neg (by decide), if_neg (by decide), if_neg (by decide), if_neg (by decide), if_neg (by decide), if_neg (by decide), if_neg (by decide), if_neg (by decide), if_neg (by decide), if_neg (by decide), if_neg (by decide), if_neg (by decide), if_pos (by decide)] at h
    exact x_callOtv (k := 18) (As := [.ref (gCa g c), .int x, .int y]) (n := 3) (mc' := 0) (lvl' := 0) (x := ⟨"RankEntry$Op", "does", "(LRankEntry$Core;II)V"⟩) (y := ⟨"RankEntry$Op$19", "does", "(LRankEntry$Core;II)V"⟩) (owner := "RankEntry$Op") (Cn := "RankEntry$Op$19") OX hc (by decide) rfl (fun X' OX' => bc_Op19_does hc OX' x y C h) (Nat.le_of_ble_eq_true rfl) ⟨hl, q422, va_Decl.abs (O.2.1.nest _ (List.mem_filter.mpr ⟨q421, rfl⟩)), by decide, q523, q524, q525, by decide, by decide +kernel⟩ (by omega) (by decide) rfl hst hr d (Nat.zero_le _) h'
  | 19, hk =>
    rw [if_neg (by decide), if_neg (by decide), if_neg (by decide), if_neg (by decide), if_neg (by decide), if_neg (by decide), if_neg (by decide), if_neg (by decide), if_neg (by decide), if_neg (by decide), if_neg (by decide), if_neg (by decide), if_neg (by decide), if_neg (by decide), if_neg (by decide), if_neg (by decide), if_neg (by decide), if_neg (by decide), if_neg (by decide), if_pos (by decide)] at h
    exact x_callOtv (k := 19) (As := [.ref (gCa g c), .int x, .int y]) (n := 3) (mc' := 0) (lvl' := 1) (x := ⟨"RankEntry$Op", "does", "(LRankEntry$Core;II)V"⟩) (y := ⟨"RankEntry$Op$20", "does", "(LRankEntry$Core;II)V"⟩) (owner := "RankEntry$Op") (Cn := "RankEntry$Op$20") OX hc (by decide) rfl (fun X' OX' => bc_Op20_does hc OX' x y C h) (Nat.le_of_ble_eq_true rfl) ⟨hl, q422, va_Decl.abs (O.2.1.nest _ (List.mem_filter.mpr ⟨q421, rfl⟩)), by decide, q538, q539, q540, by decide, by decide +kernel⟩ (by omega) (by decide) rfl hst hr d (Nat.zero_le _) h'
  | 20, hk =>
    rw [if_neg (by decide), if_neg (by decide), if_neg (by decide), if_neg (by decide), if_neg (by decide), if_neg (by decide), if_neg (by decide), if_neg (by decide), if_neg (by decide), if_neg (by decide), if_neg (by decide), if_neg (by decide), if_neg (by decide), if_neg (by decide), if_neg (by decide), if_neg (by decide), if_neg (by decide), if_neg (by decide), if_neg (by decide), if_neg (by decide), if_pos (by decide)] at h
    exact x_callOtv (k := 20) (As := [.ref (gCa g c), .int x, .int y]) (n := 3) (mc' := 0) (lvl' := 2) (x := ⟨"RankEntry$Op", "does", "(LRankEntry$Core;II)V"⟩) (y := ⟨"RankEntry$Op$21", "does", "(LRankEntry$Core;II)V"⟩) (owner := "RankEntry$Op") (Cn := "RankEntry$Op$21") OX hc (by decide) rfl (fun X' OX' => bc_Op21_does hc OX' x y C h) (Nat.le_of_ble_eq_true rfl) ⟨hl, q422, va_Decl.abs (O.2.1.nest _ (List.mem_filter.mpr ⟨q421, rfl⟩)), by decide, q546, q547, q548, by decide, by decide +kernel⟩ (by omega) (by decide) rfl hst hr d (Nat.zero_le _) h'
  | 21, hk =>
    rw [if_neg (by decide), if_neg (by decide), if_neg (by decide), if_neg (by decide), if_neg (by decide), if_neg (by decide), if_neg (by decide), if_neg (by decide), if_neg (by decide), if_neg (by decide), if_neg (by decide), if_neg (by decide), if_neg (by decide), if_neg (by decide), if_neg (by decide), if_neg (by decide), if_neg (by decide), if_neg (by decide), if_neg (by decide), if_neg (by decide), if_neg (by decide), if_pos (by decide)] at h
    exact x_callOtv (k := 21) (As := [.ref (gCa g c), .int x, .int y]) (n := 3) (mc' := 0) (lvl' := 2) (x := ⟨"RankEntry$Op", "does", "(LRankEntry$Core;II)V"⟩) (y := ⟨"RankEntry$Op$22", "does", "(LRankEntry$Core;II)V"⟩) (owner := "RankEntry$Op") (Cn := "RankEntry$Op$22") OX hc (by decide) rfl (fun X' OX' => bc_Op22_does hc OX' x y C h) (Nat.le_of_ble_eq_true rfl) ⟨hl, q422, va_Decl.abs (O.2.1.nest _ (List.mem_filter.mpr ⟨q421, rfl⟩)), by decide, q556, q557, q558, by decide, by decide +kernel⟩ (by omega) (by decide) rfl hst hr d (Nat.zero_le _) h'
  | 22, hk =>
    rw [if_neg (by decide), if_neg (by decide), if_neg (by decide), if_neg (by decide), if_neg (by decide), if_neg (by decide), if_neg (by decide), if_neg (by decide), if_neg (by decide), if_neg (by decide), if_neg (by decide), if_neg (by decide), if_neg (by decide), if_neg (by decide), if_neg (by decide), if_neg (by decide), if_neg (by decide), if_neg (by decide), if_neg (by decide), if_neg (by decide), if_neg (by decide), if_neg (by decide), if_pos (by decide)] at h
    exact x_callOtv (k := 22) (As := [.ref (gCa g c), .int x, .int y]) (n := 3) (mc' := 0) (lvl' := 1) (x := ⟨"RankEntry$Op", "does", "(LRankEntry$Core;II)V"⟩) (y := ⟨"RankEntry$Op$23", "does", "(LRankEntry$Core;II)V"⟩) (owner := "RankEntry$Op") (Cn := "RankEntry$Op$23") OX hc (by decide) rfl (fun X' OX' => bc_Op23_does hc OX' x y C h) (Nat.le_of_ble_eq_true rfl) ⟨hl, q422, va_Decl.abs (O.2.1.nest _ (List.mem_filter.mpr ⟨q421, rfl⟩)), by decide, q560, q561, q562, by decide, by decide +kernel⟩ (by omega) (by decide) rfl hst hr d (Nat.zero_le _) h'
  | 23, hk =>
    rw [if_neg (by decide), if_neg (by decide), if_neg (by decide), if_neg (by decide), if_neg (by decide), if_neg (by decide), if_neg (by decide), if_neg (by decide), if_neg (by decide), if_neg (by decide), if_neg (by decide), if_neg (by decide), if_neg (by decide), if_neg (by decide), if_neg (by decide), if_neg (by decide), if_neg (by decide), if_neg (by decide), if_neg (by decide), if_neg (by decide), if_neg (by decide), if_neg (by decide), if_neg (by decide), if_pos (by decide)] at h
    exact x_callOtv (k := 23) (As := [.ref (gCa g c), .int x, .int y]) (n := 3) (mc' := 0) (lvl' := 1) (x := ⟨"RankEntry$Op", "does", "(LRankEntry$Core;II)V"⟩) (y := ⟨"RankEntry$Op$24", "does", "(LRankEntry$Core;II)V"⟩) (owner := "RankEntry$Op") (Cn := "RankEntry$Op$24") OX hc (by decide) rfl (fun X' OX' => bc_Op24_does hc OX' x y C h) (Nat.le_of_ble_eq_true rfl) ⟨hl, q422, va_Decl.abs (O.2.1.nest _ (List.mem_filter.mpr ⟨q421, rfl⟩)), by decide, q564, q565, q566, by decide, by decide +kernel⟩ (by omega) (by decide) rfl hst hr d (Nat.zero_le _) h'
  | 24, hk =>
    rw [if_neg (by decide), if_neg (by decide), if_neg (by decide), if_neg (by decide), if_neg (by decide), if_neg (by decide), if_neg (by decide), if_neg (by decide), if_neg (by decide), if_neg (by decide), if_neg (by decide), if_neg (by decide), if_neg (by decide), if_neg (by decide), if_neg (by decide), if_neg (by decide), if_neg (by decide), if_neg (by decide), if_neg (by decide), if_neg (by decide), if_neg (by decide), if_neg (by decide), if_neg (by decide), if_neg (by decide), if_pos (by decide)] at h
    exact x_callOtv (k := 24) (As := [.ref (gCa g c), .int x, .int y]) (n := 3) (mc' := 0) (lvl' := 1) (x := ⟨"RankEntry$Op", "does", "(LRankEntry$Core;II)V"⟩) (y := ⟨"RankEntry$Op$25", "does", "(LRankEntry$Core;II)V"⟩) (owner := "RankEntry$Op") (Cn := "RankEntry$Op$25") OX hc (by decide) rfl (fun X' OX' => bc_Op25_does hc OX' x y C h) (Nat.le_of_ble_eq_true rfl) ⟨hl, q422, va_Decl.abs (O.2.1.nest _ (List.mem_filter.mpr ⟨q421, rfl⟩)), by decide, q569, q570, q571, by decide, by decide +kernel⟩ (by omega) (by decide) rfl hst hr d (Nat.zero_le _) h'
  | 25, hk =>
    rw [if_neg (by decide), if_neg (by decide), if_neg (by decide), if_neg (by decide), if_neg (by decide), if_neg (by decide), if_neg (by decide), if_neg (by decide), if_neg (by decide), if_neg (by decide), if_neg (by decide), if_neg (by decide), if_neg (by decide), if_neg (by decide), if_neg (by decide), if_neg (by decide), if_neg (by decide), if_neg (by decide), if_neg (by decide), if_neg (by decide), if_neg (by decide), if_neg (by decide), if_neg (by decide), if_neg (by decide), if_neg (by decide), if_pos (by decide)] at h
    exact x_callOtv (k := 25) (As := [.ref (gCa g c), .int x, .int y]) (n := 3) (mc' := 0) (lvl' := 1) (x := ⟨"RankEntry$Op", "does", "(LRankEntry$Core;II)V"⟩) (y := ⟨"RankEntry$Op$26", "does", "(LRankEntry$Core;II)V"⟩) (owner := "RankEntry$Op") (Cn := "RankEntry$Op$26") OX hc (by decide) rfl (fun X' OX' => bc_Op26_does hc OX' x y C h) (Nat.le_of_ble_eq_true rfl) ⟨hl, q422, va_Decl.abs (O.2.1.nest _ (List.mem_filter.mpr ⟨q421, rfl⟩)), by decide, q573, q574, q575, by decide, by decide +kernel⟩ (by omega) (by decide) rfl hst hr d (Nat.zero_le _) h'
  | 26, hk =>
    rw [if_neg (by decide), if_neg (by decide), if_neg (by decide), if_neg (by decide), if_neg (by decide), if_neg (by decide), if_neg (by decide), if_neg (by decide), if_neg (by decide), if_neg (by decide), if_neg (by decide), if_neg (by decide), if_neg (by decide), if_neg (by decide), if_neg (by decide), if_neg (by decide), if_neg (by decide), if_neg (by decide), if_neg (by decide), if_neg (by decide), if_neg (by decide), if_neg (by decide), if_neg (by decide), if_neg (by decide), if_neg (by decide), if_neg (by decide), if_pos (by decide)] at h
    exact x_callOtv (k := 26) (As := [.ref (gCa g c), .int x, .int y]) (n := 3) (mc' := 0) (lvl' := 1) (x := ⟨"RankEntry$Op", "does", "(LRankEntry$Core;II)V"⟩) (y := ⟨"RankEntry$Op$27", "does", "(LRankEntry$Core;II)V"⟩) (owner := "RankEntry$Op") (Cn := "RankEntry$Op$27") OX hc (by decide) rfl (fun X' OX' => bc_Op27_does hc OX' x y C h) (Nat.le_of_ble_eq_true rfl) ⟨hl, q422, va_Decl.abs (O.2.1.nest _ (List.mem_filter.mpr ⟨q421, rfl⟩)), by decide, q577, q578, q579, by decide, by decide +kernel⟩ (by omega) (by decide) rfl hst hr d (Nat.zero_le _) h'
  | 27, hk =>
    rw [if_neg (by decide), if_neg (by decide), if_neg (by decide), if_neg (by decide), if_neg (by decide), if_neg (by decide), if_neg (by decide), if_neg (by decide), if_neg (by decide), if_neg (by decide), if_neg (by decide), if_neg (by decide), if_neg (by decide), if_neg (by decide), if_neg (by decide), if_neg (by decide), if_neg (by decide), if_neg (by decide), if_neg (by decide), if_neg (by decide), if_neg (by decide), if_neg (by decide), if_neg (by decide), if_neg (by decide), if_neg (by decide), if_neg (by decide), if_neg (by decide), if_pos (by decide)] at h
    exact x_callOtv (k := 27) (As := [.ref (gCa g c), .int x, .int y]) (n := 3) (mc' := 0) (lvl' := 1) (x := ⟨"RankEntry$Op", "does", "(LRankEntry$Core;II)V"⟩) (y := ⟨"RankEntry$Op$28", "does", "(LRankEntry$Core;II)V"⟩) (owner := "RankEntry$Op") (Cn := "RankEntry$Op$28") OX hc (by decide) rfl (fun X' OX' => bc_Op28_does hc OX' x y C h) (Nat.le_of_ble_eq_true rfl) ⟨hl, q422, va_Decl.abs (O.2.1.nest _ (List.mem_filter.mpr ⟨q421, rfl⟩)), by decide, q585, q586, q587, by decide, by decide +kernel⟩ (by omega) (by decide) rfl hst hr d (Nat.zero_le _) h'
  | 28, hk =>
    rw [if_neg (by decide), if_neg (by decide), if_neg (by decide), if_neg (by decide), if_neg (by decide), if_neg (by decide), if_neg (by decide), if_neg (by decide), if_neg (by decide), if_neg (by decide), if_neg (by decide), if_neg (by decide), if_neg (by decide), if_neg (by decide), if_neg (by decide), if_neg (by decide), if_neg (by decide), if_neg (by decide), if_neg (by decide), if_neg (by decide), if_neg (by decide), if_neg (by decide), if_neg (by decide), if_neg (by decide), if_neg (by decide), if_neg (by decide), if_neg (by decide), if_neg (by decide)] at h
    exact x_callOtv (k := 28) (As := [.ref (gCa g c), .int x, .int y]) (n := 3) (mc' := 0) (lvl' := 1) (x := ⟨"RankEntry$Op", "does", "(LRankEntry$Core;II)V"⟩) (y := ⟨"RankEntry$Op$29", "does", "(LRankEntry$Core;II)V"⟩) (owner := "RankEntry$Op") (Cn := "RankEntry$Op$29") OX hc (by decide) rfl (fun X' OX' => bc_Op29_does hc OX' x y C h) (Nat.le_of_ble_eq_true rfl) ⟨hl, q422, va_Decl.abs (O.2.1.nest _ (List.mem_filter.mpr ⟨q421, rfl⟩)), by decide, q589, q590, q591, by decide, by decide +kernel⟩ (by omega) (by decide) rfl hst hr d (Nat.zero_le _) h'
  | k + 29, hk => omega
end COPX
/-! RankEntry$Core.executes()Z -/
def fc_Core_executes_120 (c : Nat)  (C : Mem) : Option ((Int32 ⊕ Int32) × Mem) :=
  some (Sum.inl 1, C)
set_option maxHeartbeats 4000000 in
theorem bc_Core_executes_120 {g : gC} {X : Cxt} {r : (Int32 ⊕ Int32)} {C' : Mem} {c : Nat} (hc : cC c) (OX : OkX g c X cX4_executes 4 (some .boolean) RX4 8 1 (xQi g r C') r C')  (C : Mem) (h : fc_Core_executes_120 c  C = some (r, C')) : V X 4 0 (WdC g C) 120 [] [] := by
  have O := OX.1
  unfold fc_Core_executes_120 at h
  refine v_iconst O.1 dX4_executes_120 (v := 1) rfl (q := 121) rfl ?_
  exact x_zret OX (by decide) h dX4_executes_121
def fc_Core_executes_46 (c : Nat) (x1 : Int32) (C : Mem) : Option ((Int32 ⊕ Int32) × Mem) :=
  bnd (fc_Code_at ((C c 31) + 1) C) fun r1 C1 =>
  bnd (fc_Code_at ((C1 c 31) + 2) C1) fun r2 C2 =>
  gd (inO x1) <|
  stp (up2 C2 c 31 (((C2 c 31) + (opL.getD (x1.toNatClampNeg - 1) 0)) &&& 511)) fun C4 =>
  gd (inO x1) <|
  stp (up2 C4 c 43 ((opY.getD (x1.toNatClampNeg - 1) 0) - 1)) fun C6 =>
  gd (inO x1) <|
  bndx (fv_o_does c x1 r1 r2 C6) fun r8 C8 =>
  gd (inO x1) <|
  bnd (fv_o_isFloat x1 C8) fun r10 C10 =>
  if r10 = 0 then
    fc_Core_executes_120 c C10
  else
    stp (up2 C10 c 45 1) fun C12 =>
    fc_Core_executes_120 c C12
set_option maxHeartbeats 4000000 in
theorem bc_Core_executes_46 {g : gC} {X : Cxt} {r : (Int32 ⊕ Int32)} {C' : Mem} {c : Nat} (hc : cC c) (OX : OkX g c X cX4_executes 4 (some .boolean) RX4 8 1 (xQi g r C') r C') (x1 : Int32) (C : Mem) (h : fc_Core_executes_46 c x1 C = some (r, C')) : V X 4 1 (WdC g C) 46 [(0, .ref (gCa g c)), (1, cOn g x1)] [] := by
  have O := OX.1
  unfold fc_Core_executes_46 at h
  refine v_aload_n O.1 dX4_executes_46 rfl (q := 47) rfl ?_
  refine c_getC O hc 0 (v := .ref (gCa g 1)) (by decide) (O.lk q827) rfl (fun _ => rfl) dX4_executes_47 (q := 50) rfl ?_
  refine v_aload_n O.1 dX4_executes_50 rfl (q := 51) rfl ?_
  refine c_getC O hc 31 (v := .int (C c 31)) (by decide) (O.lk q889) rfl (fun _ => rfl) dX4_executes_51 (q := 54) rfl ?_
  refine v_iconst O.1 dX4_executes_54 (v := 1) rfl (q := 55) rfl ?_
  refine v_iadd O.1 dX4_executes_55 (q := 56) rfl ?_
  obtain ⟨r1, C1, e1, h⟩ := bnd_some h
  refine c_callVi (As := [.int ((C c 31) + 1)]) (rest := []) (n := 1) (ci := 1) (p := (RX2, TX2, 2)) O (by decide) rfl (fun _ _ => ⟨_, rfl⟩) (metc_Code_at _ g  ((C c 31) + 1) C C1 r1 e1) (lw_V q419 q359 q360 q60 q361) (by decide +kernel) (by decide) (by decide) rfl rfl (Nat.le_of_ble_eq_true rfl) dX4_executes_56 (q := 59) rfl (b' := 1) rfl ?_
  refine v_istore_n (lv' := [(2, .int r1), (0, .ref (gCa g c)), (1, cOn g x1)]) O.1 dX4_executes_59 (by decide) (by first | rfl | simp [List.filter, cSn_cat, cOn_cat, show ((1 : Fin 4) : Nat) = 1 from rfl, show ((2 : Fin 4) : Nat) = 2 from rfl, show ((3 : Fin 4) : Nat) = 3 from rfl]) (q := 60) rfl ?_
  refine v_aload_n O.1 dX4_executes_60 rfl (q := 61) rfl ?_
  refine c_getC O hc 0 (v := .ref (gCa g 1)) (by decide) (O.lk q827) rfl (fun _ => rfl) dX4_executes_61 (q := 64) rfl ?_
  refine v_aload_n O.1 dX4_executes_64 rfl (q := 65) rfl ?_
  refine c_getC O hc 31 (v := .int (C1 c 31)) (by decide) (O.lk q889) rfl (fun _ => rfl) dX4_executes_65 (q := 68) rfl ?_
  refine v_iconst O.1 dX4_executes_68 (v := 2) rfl (q := 69) rfl ?_
  refine v_iadd O.1 dX4_executes_69 (q := 70) rfl ?_
  obtain ⟨r2, C2, e2, h⟩ := bnd_some h
  refine c_callVi (As := [.int ((C1 c 31) + 2)]) (rest := []) (n := 1) (ci := 1) (p := (RX2, TX2, 2)) O (by decide) rfl (fun _ _ => ⟨_, rfl⟩) (metc_Code_at _ g  ((C1 c 31) + 2) C1 C2 r2 e2) (lw_V q419 q359 q360 q60 q361) (by decide +kernel) (by decide) (by decide) rfl rfl (Nat.le_of_ble_eq_true rfl) dX4_executes_70 (q := 73) rfl (b' := 1) rfl ?_
  refine v_istore_n (lv' := [(3, .int r2), (2, .int r1), (0, .ref (gCa g c)), (1, cOn g x1)]) O.1 dX4_executes_73 (by decide) (by first | rfl | simp [List.filter, cSn_cat, cOn_cat, show ((1 : Fin 4) : Nat) = 1 from rfl, show ((2 : Fin 4) : Nat) = 2 from rfl, show ((3 : Fin 4) : Nat) = 3 from rfl]) (q := 74) rfl ?_
  refine v_aload_n O.1 dX4_executes_74 rfl (q := 75) rfl ?_
  refine v_aload_n O.1 dX4_executes_75 rfl (q := 76) rfl ?_
  refine c_getC O hc 31 (v := .int (C2 c 31)) (by decide) (O.lk q889) rfl (fun _ => rfl) dX4_executes_76 (q := 79) rfl ?_
  obtain ⟨g3, h⟩ := gd_some h
  refine v_aload_nq O.1 (cOn_in g3) dX4_executes_79 rfl (q := 80) rfl ?_
  refine c_getO O g3 (Or.inl ⟨rfl, rfl⟩) q2245 dX4_executes_80 (q := 83) rfl ?_
  refine v_iadd O.1 dX4_executes_83 (q := 84) rfl ?_
  refine v_sipush O.1 dX4_executes_84 (v := 511) (by decide) (q := 87) rfl ?_
  refine v_iand O.1 dX4_executes_87 (q := 88) rfl ?_
  obtain ⟨C4, e4, h⟩ := stp_some h
  refine c_putC O hc 31 (u := (((C2 c 31) + (opL.getD (x1.toNatClampNeg - 1) 0)) &&& 511)) (ty := .int) (by decide) (by decide) (O.lk q889) rfl rfl rfl rfl rfl (fun _ => rfl) dX4_executes_88 (q := 91) rfl e4 ?_
  refine v_aload_n O.1 dX4_executes_91 rfl (q := 92) rfl ?_
  obtain ⟨g5, h⟩ := gd_some h
  refine v_aload_nq O.1 (cOn_in g5) dX4_executes_92 rfl (q := 93) rfl ?_
  refine c_getO O g5 (Or.inr ⟨rfl, rfl⟩) q2246 dX4_executes_93 (q := 96) rfl ?_
  refine v_iconst O.1 dX4_executes_96 (v := 1) rfl (q := 97) rfl ?_
  refine v_isub O.1 dX4_executes_97 (q := 98) rfl ?_
  obtain ⟨C6, e6, h⟩ := stp_some h
  refine c_putC O hc 43 (u := ((opY.getD (x1.toNatClampNeg - 1) 0) - 1)) (ty := .int) (by decide) (by decide) (O.lk q917) rfl rfl rfl rfl rfl (fun _ => rfl) dX4_executes_98 (q := 101) rfl e6 ?_
  obtain ⟨g7, h⟩ := gd_some h
  refine v_aload_nq O.1 (cOn_in g7) dX4_executes_101 rfl (q := 102) rfl ?_
  refine v_aload_n O.1 dX4_executes_102 rfl (q := 103) rfl ?_
  refine v_iload_n O.1 dX4_executes_103 rfl (q := 104) rfl ?_
  refine v_iload_n O.1 dX4_executes_104 rfl (q := 105) rfl ?_
  rcases bndx_some h with ⟨r8, C8, e8, h⟩ | ⟨r8, C8, e8, h⟩
  case inr => exact x_o_doest (rest := []) OX hc g7 e8 q420 (by decide) rfl (Nat.le_of_ble_eq_true rfl) dX4_executes_105 (by decide) h
  refine x_o_does (rest := []) O hc g7 e8 q420 (by decide) rfl (Nat.le_of_ble_eq_true rfl) dX4_executes_105 (q := 108) rfl (b' := 0) rfl ?_
  obtain ⟨g9, h⟩ := gd_some h
  refine v_aload_nq O.1 (cOn_in g9) dX4_executes_108 rfl (q := 109) rfl ?_
  obtain ⟨r10, C10, e10, h⟩ := bnd_some h
  refine c_o_isFloat (rest := []) O g9 e10 q362 (by decide) rfl (Nat.le_of_ble_eq_true rfl) dX4_executes_109 (q := 112) rfl ?_
  refine v_if_eq O.1 dX4_executes_112 (t := 120) (by decide) (q := 115) rfl (fun c11 => ?_) (fun c11 => ?_)
  · rw [if_pos c11] at h
    exact v_sub [] rfl (bc_Core_executes_120 hc OX C10 h)
  · rw [if_neg c11] at h
    refine v_aload_n O.1 dX4_executes_115 rfl (q := 116) rfl ?_
    refine v_iconst O.1 dX4_executes_116 (v := 1) rfl (q := 117) rfl ?_
    obtain ⟨C12, e12, h⟩ := stp_some h
    refine c_putC O hc 45 (u := 1) (ty := .int) (by decide) (by decide) (O.lk q922) rfl rfl rfl rfl rfl (fun _ => rfl) dX4_executes_117 (q := 120) rfl e12 ?_
    exact v_sub [] rfl (bc_Core_executes_120 hc OX C12 h)
def fc_Core_executes (c : Nat)  (C : Mem) : Option ((Int32 ⊕ Int32) × Mem) :=
  bnd (fc_Code_op (C c 31) C) fun r1 C1 =>
  if r1 < 1 then
    some (Sum.inr 18, C1)
  else
    gd (inO r1) <|
    bnd (fv_o_isFloat r1 C1) fun r4 C4 =>
    if r4 = 0 then
      fc_Core_executes_46 c r1 C4
    else
      if (C4 c 46) < 0 then
        fc_Core_executes_46 c r1 C4
      else
        bnd (fc_Core_turns c 4 C4) fun r7 C7 =>
        bnd (fc_Core_saving c C7) fun r8 C8 =>
        some (Sum.inl 0, C8)
set_option maxHeartbeats 4000000 in
theorem bc_Core_executes {g : gC} {X : Cxt} {r : (Int32 ⊕ Int32)} {C' : Mem} {c : Nat} (hc : cC c) (OX : OkX g c X cX4_executes 4 (some .boolean) RX4 8 1 (xQi g r C') r C')  (C : Mem) (h : fc_Core_executes c  C = some (r, C')) : V X 4 1 (WdC g C) 0 [(0, .ref (gCa g c))] [] := by
  have O := OX.1
  unfold fc_Core_executes at h
  refine v_aload_n O.1 dX4_executes_0 rfl (q := 1) rfl ?_
  refine c_getC O hc 0 (v := .ref (gCa g 1)) (by decide) (O.lk q827) rfl (fun _ => rfl) dX4_executes_1 (q := 4) rfl ?_
  refine v_aload_n O.1 dX4_executes_4 rfl (q := 5) rfl ?_
  refine c_getC O hc 31 (v := .int (C c 31)) (by decide) (O.lk q889) rfl (fun _ => rfl) dX4_executes_5 (q := 8) rfl ?_
  obtain ⟨r1, C1, e1, h⟩ := bnd_some h
  refine c_callVo (As := [.int (C c 31)]) (rest := []) (n := 1) (ci := 1) (p := (RX2, TX2, 2)) O (by decide) rfl (fun _ _ => ⟨_, rfl⟩) (metc_Code_op _ g  (C c 31) C C1 r1 e1) (lw_V q354 q355 q356 q60 q357) (by decide +kernel) (by decide) (by decide) rfl rfl (Nat.le_of_ble_eq_true rfl) dX4_executes_8 (q := 11) rfl (b' := 1) rfl ?_
  refine v_astore_nr (lv' := [(1, cOn g r1), (0, .ref (gCa g c))]) O.1 (cOn_or _ _) dX4_executes_11 (by decide) (by first | rfl | simp [List.filter, cSn_cat, cOn_cat, show ((1 : Fin 4) : Nat) = 1 from rfl, show ((2 : Fin 4) : Nat) = 2 from rfl, show ((3 : Fin 4) : Nat) = 3 from rfl]) (q := 12) rfl ?_
  refine v_aload_nr O.1 (cOn_or _ _) dX4_executes_12 rfl (q := 13) rfl ?_
  refine v_ifnonnull (p := r1 < 1) O.1 (fun z => cOn_n z) (fun z => cOn_r z) dX4_executes_13 (t := 21) (by decide) (q := 16) rfl (fun c2 => ?_) (fun c2 => ?_)
  · rw [if_neg c2] at h
    obtain ⟨g3, h⟩ := gd_some h
    refine v_aload_nq O.1 (cOn_in g3) dX4_executes_21 rfl (q := 22) rfl ?_
    obtain ⟨r4, C4, e4, h⟩ := bnd_some h
    refine c_o_isFloat (rest := []) O g3 e4 q362 (by decide) rfl (Nat.le_of_ble_eq_true rfl) dX4_executes_22 (q := 25) rfl ?_
    refine v_if_eq O.1 dX4_executes_25 (t := 46) (by decide) (q := 28) rfl (fun c5 => ?_) (fun c5 => ?_)
    · rw [if_pos c5] at h
      exact v_sub [1, 0] rfl (bc_Core_executes_46 hc OX r1 C4 h)
    · rw [if_neg c5] at h
      refine v_aload_n O.1 dX4_executes_28 rfl (q := 29) rfl ?_
      refine c_getC O hc 46 (v := .int (C4 c 46)) (by decide) (O.lk q924) rfl (fun _ => rfl) dX4_executes_29 (q := 32) rfl ?_
      refine v_if_lt O.1 dX4_executes_32 (t := 46) (by decide) (q := 35) rfl (fun c6 => ?_) (fun c6 => ?_)
      · rw [if_pos c6] at h
        exact v_sub [1, 0] rfl (bc_Core_executes_46 hc OX r1 C4 h)
      · rw [if_neg c6] at h
        refine v_aload_n O.1 dX4_executes_35 rfl (q := 36) rfl ?_
        refine v_iconst O.1 dX4_executes_36 (v := 4) rfl (q := 37) rfl ?_
        obtain ⟨r7, C7, e7, h⟩ := bnd_some h
        refine c_callVv (As := [.int 4]) (rest := []) (n := 1) (ci := 2) (p := (RX4, TX4, 55)) O (cC_lt (j := 0) hc (by decide)) rfl (fun _ _ => ⟨_, cCell_core hc⟩) (metc_Core_turns _ g c hc 4 C4 C7 r7 e7) (lw_V q238 q239 q240 q63 q241) (by decide +kernel) (by decide) (by decide) rfl rfl (Nat.le_of_ble_eq_true rfl) dX4_executes_37 (q := 40) rfl (b' := 1) rfl ?_
        refine v_aload_n O.1 dX4_executes_40 rfl (q := 41) rfl ?_
        obtain ⟨r8, C8, e8, h⟩ := bnd_some h
        refine c_callVv (As := []) (rest := []) (n := 0) (ci := 2) (p := (RX4, TX4, 55)) O (cC_lt (j := 0) hc (by decide)) rfl (fun _ _ => ⟨_, cCell_core hc⟩) (metc_Core_saving _ g c hc C7 C8 r8 e8) (lw_V q405 q407 qs10 q63 q408) (by decide +kernel) (by decide) (by decide) rfl rfl (Nat.le_of_ble_eq_true rfl) dX4_executes_41 (q := 44) rfl (b' := 1) rfl ?_
        refine v_iconst O.1 dX4_executes_44 (v := 0) rfl (q := 45) rfl ?_
        exact x_zret OX (by decide) h dX4_executes_45
  · rw [if_pos c2] at h
    refine v_aload_n O.1 dX4_executes_16 rfl (q := 17) rfl ?_
    refine c_getC O hc 1 (v := .ref (gCa g (c + 20))) (by decide) (O.lk q828) rfl (fun _ => rfl) dX4_executes_17 (q := 20) rfl ?_
    exact x_throw 18 OX hc (Or.inl rfl) h rfl dX4_executes_20
theorem metc_Core_executes (l : Launch) (g : gC) (c : Nat) (hc : cC c) (C C' : Mem) (r : (Int32 ⊕ Int32)) (h : fc_Core_executes c C = some (r, C')) : MetX l g c yX4_executes cX4_executes 4 (some .boolean) 8 1 [.ref (gCa g c)] C (xQi g r C') r C' :=
  x_met (by decide) rfl (Nat.le_of_ble_eq_true rfl) (fun X OX => bc_Core_executes hc OX C h)
