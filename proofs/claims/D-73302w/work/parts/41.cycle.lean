def fv_go (c : Nat) (v : Int32) (C : Mem) : Option (Unit × Mem) :=
  if v = 0 then fc_Core_running c C else
  if v = 1 then fc_Core_stacking c C else
  if v = 2 then fc_Core_chaining c C else
  if v = 3 then fc_Core_unstacking c C else
  if v = 4 then fc_Core_saving c C else
  if v = 5 then fc_Core_locked c C else
  none
section CGO
variable {g : gC} {X : Cxt} {cc : ByteArray} {nL b lvl mc : Nat} {ret : Option FieldType} {own : String} {Qc : Array Value → State → Outcome → State → Prop} {pc q : Nat} {lv : List (Nat × Value)} {st rest : List Value} {C C' C1 : Mem} {c : Nat}
/-- phase.go() -/
theorem c_go {r : Unit} (O : OkC g X cc nL ret own lvl mc Qc) {idx b' : Nat} {v : Int32} (hc : cC c) (h : fv_go c v C = some (r, C')) (hl : Cond.methodLink own idx ⟨"RankEntry$Phase", "go", "()V"⟩ ∈ lw_all) (hlv : 12 ≤ lvl) (hst : st = .ref (gCa g (c + 13 + v.toNatClampNeg)) :: rest) (hr : (rest.map fun v => v.category).sum ≤ 8) (d : decode cc pc = .ok (.invokeinterface idx 1, 5)) (hq : pc + 5 = q) (hb : b' + 3 = b) (kk : V X nL b' (WdC g C') q lv rest) : V X nL b (WdC g C) pc lv st := by
  unfold fv_go at h
  by_cases c0 : v = 0
  · rw [if_pos c0] at h
    subst c0
    have hm : (yCi, 121, 64, lshP "running", 10, (none : Option Nat)) ∈ lamSites := by simp [lamSites]
    refine v_less (b' := b' + 3) (by omega) (c_lamv (r := r) (a := gCa g (c + 13 + 0)) (As := []) (lvl' := 11) (b' := b') (mc' := 3) O hm lf_running (by simp [lamFaces]) ⟨rfl, rfl, by decide +kernel⟩ hl (by decide +kernel) (fun H lo h1 h2 => by obtain ⟨cell, z1, z2, z3, z4⟩ := c_lamc (j := 0) h1 hc (by decide); exact ⟨cell, z1, z2, z3⟩) (show (parseMethodDescriptor "()V").map (fun d => d.parameters.length) = some 0 by decide +kernel) (by omega) (by decide) ?_ (by rw [hst]; rfl) hr d hq rfl kk)
    exact fwd_P (r := r) O (y := ⟨"RankEntry$Core", "running", "()V"⟩) hm lf_running lg_running ⟨rfl, rfl, by decide +kernel⟩ (by decide) rfl hc (fun H h1 => c_lamc (j := 0) h1 hc (by decide)) q63 q202 q203 qs1 (by decide) (by decide +kernel) (metc_Core_running _ g c hc C C' r h)
  rw [if_neg c0] at h
  by_cases c1 : v = 1
  · rw [if_pos c1] at h
    subst c1
    have hm : (yCi, 131, 72, lshP "stacking", 11, (none : Option Nat)) ∈ lamSites := by simp [lamSites]
    refine v_less (b' := b' + 3) (by omega) (c_lamv (r := r) (a := gCa g (c + 13 + 1)) (As := []) (lvl' := 8) (b' := b') (mc' := 3) O hm lf_stacking (by simp [lamFaces]) ⟨rfl, rfl, by decide +kernel⟩ hl (by decide +kernel) (fun H lo h1 h2 => by obtain ⟨cell, z1, z2, z3, z4⟩ := c_lamc (j := 1) h1 hc (by decide); exact ⟨cell, z1, z2, z3⟩) (show (parseMethodDescriptor "()V").map (fun d => d.parameters.length) = some 0 by decide +kernel) (by omega) (by decide) ?_ (by rw [hst]; rfl) hr d hq rfl kk)
    exact fwd_P (r := r) O (y := ⟨"RankEntry$Core", "stacking", "()V"⟩) hm lf_stacking lg_stacking ⟨rfl, rfl, by decide +kernel⟩ (by decide) rfl hc (fun H h1 => c_lamc (j := 1) h1 hc (by decide)) q63 q244 q245 qs3 (by decide) (by decide +kernel) (metc_Core_stacking _ g c hc C C' r h)
  rw [if_neg c1] at h
  by_cases c2 : v = 2
  · rw [if_pos c2] at h
    subst c2
    have hm : (yCi, 141, 76, lshP "chaining", 12, (none : Option Nat)) ∈ lamSites := by simp [lamSites]
    refine v_less (b' := b' + 1) (by omega) (c_lamv (r := r) (a := gCa g (c + 13 + 2)) (As := []) (lvl' := 7) (b' := b') (mc' := 1) O hm lf_chaining (by simp [lamFaces]) ⟨rfl, rfl, by decide +kernel⟩ hl (by decide +kernel) (fun H lo h1 h2 => by obtain ⟨cell, z1, z2, z3, z4⟩ := c_lamc (j := 2) h1 hc (by decide); exact ⟨cell, z1, z2, z3⟩) (show (parseMethodDescriptor "()V").map (fun d => d.parameters.length) = some 0 by decide +kernel) (by omega) (by decide) ?_ (by rw [hst]; rfl) hr d hq rfl kk)
    exact fwd_P (r := r) O (y := ⟨"RankEntry$Core", "chaining", "()V"⟩) hm lf_chaining lg_chaining ⟨rfl, rfl, by decide +kernel⟩ (by decide) rfl hc (fun H h1 => c_lamc (j := 2) h1 hc (by decide)) q63 q629 q630 qs11 (by decide) (by decide +kernel) (metc_Core_chaining _ g c hc C C' r h)
  rw [if_neg c2] at h
  by_cases c3 : v = 3
  · rw [if_pos c3] at h
    subst c3
    have hm : (yCi, 151, 80, lshP "unstacking", 13, (none : Option Nat)) ∈ lamSites := by simp [lamSites]
    refine v_less (b' := b' + 2) (by omega) (c_lamv (r := r) (a := gCa g (c + 13 + 3)) (As := []) (lvl' := 8) (b' := b') (mc' := 2) O hm lf_unstacking (by simp [lamFaces]) ⟨rfl, rfl, by decide +kernel⟩ hl (by decide +kernel) (fun H lo h1 h2 => by obtain ⟨cell, z1, z2, z3, z4⟩ := c_lamc (j := 3) h1 hc (by decide); exact ⟨cell, z1, z2, z3⟩) (show (parseMethodDescriptor "()V").map (fun d => d.parameters.length) = some 0 by decide +kernel) (by omega) (by decide) ?_ (by rw [hst]; rfl) hr d hq rfl kk)
    exact fwd_P (r := r) O (y := ⟨"RankEntry$Core", "unstacking", "()V"⟩) hm lf_unstacking lg_unstacking ⟨rfl, rfl, by decide +kernel⟩ (by decide) rfl hc (fun H h1 => c_lamc (j := 3) h1 hc (by decide)) q63 q632 q633 qs12 (by decide) (by decide +kernel) (metc_Core_unstacking _ g c hc C C' r h)
  rw [if_neg c3] at h
  by_cases c4 : v = 4
  · rw [if_pos c4] at h
    subst c4
    have hm : (yCi, 161, 84, lshP "saving", 14, (none : Option Nat)) ∈ lamSites := by simp [lamSites]
    refine v_less (b' := b' + 0) (by omega) (c_lamv (r := r) (a := gCa g (c + 13 + 4)) (As := []) (lvl' := 3) (b' := b') (mc' := 0) O hm lf_saving (by simp [lamFaces]) ⟨rfl, rfl, by decide +kernel⟩ hl (by decide +kernel) (fun H lo h1 h2 => by obtain ⟨cell, z1, z2, z3, z4⟩ := c_lamc (j := 4) h1 hc (by decide); exact ⟨cell, z1, z2, z3⟩) (show (parseMethodDescriptor "()V").map (fun d => d.parameters.length) = some 0 by decide +kernel) (by omega) (by decide) ?_ (by rw [hst]; rfl) hr d hq rfl kk)
    exact fwd_P (r := r) O (y := ⟨"RankEntry$Core", "saving", "()V"⟩) hm lf_saving lg_saving ⟨rfl, rfl, by decide +kernel⟩ (by decide) rfl hc (fun H h1 => c_lamc (j := 4) h1 hc (by decide)) q63 q407 q408 qs10 (by decide) (by decide +kernel) (metc_Core_saving _ g c hc C C' r h)
  rw [if_neg c4] at h
  by_cases c5 : v = 5
  · rw [if_pos c5] at h
    subst c5
    have hm : (yCi, 171, 88, lshP "locked", 15, (none : Option Nat)) ∈ lamSites := by simp [lamSites]
    refine v_less (b' := b' + 0) (by omega) (c_lamv (r := r) (a := gCa g (c + 13 + 5)) (As := []) (lvl' := 1) (b' := b') (mc' := 0) O hm lf_locked (by simp [lamFaces]) ⟨rfl, rfl, by decide +kernel⟩ hl (by decide +kernel) (fun H lo h1 h2 => by obtain ⟨cell, z1, z2, z3, z4⟩ := c_lamc (j := 5) h1 hc (by decide); exact ⟨cell, z1, z2, z3⟩) (show (parseMethodDescriptor "()V").map (fun d => d.parameters.length) = some 0 by decide +kernel) (by omega) (by decide) ?_ (by rw [hst]; rfl) hr d hq rfl kk)
    exact fwd_P (r := r) O (y := ⟨"RankEntry$Core", "locked", "()V"⟩) hm lf_locked lg_locked ⟨rfl, rfl, by decide +kernel⟩ (by decide) rfl hc (fun H h1 => c_lamc (j := 5) h1 hc (by decide)) q63 q688 q689 qs16 (by decide) (by decide +kernel) (metc_Core_locked _ g c hc C C' r h)
  rw [if_neg c5] at h
  cases h
end CGO
/-! RankEntry$Core.cycle()V -/
def fc_Core_cycle_81 (c : Nat) (K19 : Int32 → Int32 → Mem → Option (Unit × Mem)) (x1 : Int32) (x2 : Int32) (C : Mem) : Option (Unit × Mem) :=
  K19 x1 (x2 + 1) C
set_option maxHeartbeats 4000000 in
theorem bc_Core_cycle_81 {g : gC} {X : Cxt} {r : Unit} {C' : Mem} {c : Nat} (hc : cC c) (O : OkC g X cX4_cycle 3 none RX4 12 3 (cQv g r C')) {K19 : Int32 → Int32 → Mem → Option (Unit × Mem)} (hK19 : ∀ (x1 : Int32) (x2 : Int32) (C : Mem), K19 x1 x2 C = some (r, C') → V X 3 3 (WdC g C) 19 [(0, .ref (gCa g c)), (1, .int x1), (2, .int x2)] []) (x1 : Int32) (x2 : Int32) (C : Mem) (h : fc_Core_cycle_81 c K19 x1 x2 C = some (r, C')) : V X 3 3 (WdC g C) 81 [(0, .ref (gCa g c)), (1, .int x1), (2, .int x2)] [] := by
  unfold fc_Core_cycle_81 at h
  refine v_iinc (lv' := [(2, .int (x2 + 1)), (0, .ref (gCa g c)), (1, .int x1)]) (v := (x2 + 1)) O.1 dX4_cycle_81 rfl rfl (by decide) rfl (q := 84) rfl ?_
  refine v_goto O.1 dX4_cycle_84 (t := 19) (by decide) ?_
  exact v_sub [1, 2, 0] rfl (hK19 x1 (x2 + 1) C h)
def fc_Core_cycle_131 (c : Nat)  (C : Mem) : Option (Unit × Mem) :=
  bnd (fv_go c (C c 24) C) fun r1 C1 =>
  some ((), C1)
set_option maxHeartbeats 4000000 in
theorem bc_Core_cycle_131 {g : gC} {X : Cxt} {r : Unit} {C' : Mem} {c : Nat} (hc : cC c) (O : OkC g X cX4_cycle 3 none RX4 12 3 (cQv g r C'))  (C : Mem) (h : fc_Core_cycle_131 c  C = some (r, C')) : V X 3 3 (WdC g C) 131 [(0, .ref (gCa g c))] [] := by
  unfold fc_Core_cycle_131 at h
  refine v_aload_n O.1 dX4_cycle_131 rfl (q := 132) rfl ?_
  refine c_getC O hc 24 (v := .ref (gCa g (c + 13 + ((C c 24) : Int32).toNatClampNeg))) (by decide) (O.lk q874) rfl (fun _ => rfl) dX4_cycle_132 (q := 135) rfl ?_
  obtain ⟨r1, C1, e1, h⟩ := bnd_some h
  refine c_go (rest := []) (b' := 0) O hc e1 q1155 (by decide) rfl (Nat.le_of_ble_eq_true rfl) dX4_cycle_135 (q := 140) rfl rfl ?_
  exact c_vret O h dX4_cycle_140
def fc_Core_cycle_19b (c : Nat) (K19 : Int32 → Int32 → Mem → Option (Unit × Mem)) (x1 : Int32) (x2 : Int32) (C : Mem) : Option (Unit × Mem) :=
  if (C c 40) ≤ x2 then
    stp (up2 C c 40 x1) fun C2 =>
    if (C2 c 38) ≤ 0 then
      fc_Core_cycle_131 c C2
    else
      stp (up2 C2 c 39 ((C2 c 39) - 1)) fun C4 =>
      if (C4 c 39) = 0 then
        bnd (fc_Core_becomes c 16 C4) fun r6 C6 =>
        stp (up2 C6 c 39 (C6 c 38)) fun C7 =>
        fc_Core_cycle_131 c C7
      else
        fc_Core_cycle_131 c C4
  else
    gd (inb x2 32) <|
    if (C (c + 7) x2.toNatClampNeg) = (C c 37) then
      gd (inb x2 32) <|
      bnd (fc_Core_becomes c (C (c + 8) x2.toNatClampNeg) C) fun r17 C17 =>
      fc_Core_cycle_81 c K19 x1 x2 C17
    else
      gd (inb x2 32) <|
      gd (inb x1 32) <|
      stp (up2 C (c + 7) x1.toNatClampNeg (C (c + 7) x2.toNatClampNeg)) fun C12 =>
      gd (inb x2 32) <|
      gd (inb x1 32) <|
      stp (up2 C12 (c + 8) x1.toNatClampNeg (C12 (c + 8) x2.toNatClampNeg)) fun C15 =>
      fc_Core_cycle_81 c K19 (x1 + 1) x2 C15
set_option maxHeartbeats 4000000 in
theorem bc_Core_cycle_19b {g : gC} {X : Cxt} {r : Unit} {C' : Mem} {c : Nat} (hc : cC c) (O : OkC g X cX4_cycle 3 none RX4 12 3 (cQv g r C')) {K19 : Int32 → Int32 → Mem → Option (Unit × Mem)} (hK19 : ∀ (x1 : Int32) (x2 : Int32) (C : Mem), K19 x1 x2 C = some (r, C') → V X 3 3 (WdC g C) 19 [(0, .ref (gCa g c)), (1, .int x1), (2, .int x2)] []) (x1 : Int32) (x2 : Int32) (C : Mem) (h : fc_Core_cycle_19b c K19 x1 x2 C = some (r, C')) : V X 3 3 (WdC g C) 19 [(0, .ref (gCa g c)), (1, .int x1), (2, .int x2)] [] := by
  unfold fc_Core_cycle_19b at h
  refine v_iload_n O.1 dX4_cycle_19 rfl (q := 20) rfl ?_
  refine v_aload_n O.1 dX4_cycle_20 rfl (q := 21) rfl ?_
  refine c_getC O hc 40 (v := .int (C c 40)) (by decide) (O.lk q911) rfl (fun _ => rfl) dX4_cycle_21 (q := 24) rfl ?_
  refine v_icmp_ge O.1 dX4_cycle_24 (t := 87) (by decide) (q := 27) rfl (fun c1 => ?_) (fun c1 => ?_)
  · rw [if_pos c1] at h
    refine v_aload_n O.1 dX4_cycle_87 rfl (q := 88) rfl ?_
    refine v_iload_n O.1 dX4_cycle_88 rfl (q := 89) rfl ?_
    obtain ⟨C2, e2, h⟩ := stp_some h
    refine c_putC O hc 40 (u := x1) (ty := .int) (by decide) (by decide) (O.lk q911) rfl rfl rfl rfl rfl (fun _ => rfl) dX4_cycle_89 (q := 92) rfl e2 ?_
    refine v_aload_n O.1 dX4_cycle_92 rfl (q := 93) rfl ?_
    refine c_getC O hc 38 (v := .int (C2 c 38)) (by decide) (O.lk q907) rfl (fun _ => rfl) dX4_cycle_93 (q := 96) rfl ?_
    refine v_if_le O.1 dX4_cycle_96 (t := 131) (by decide) (q := 99) rfl (fun c3 => ?_) (fun c3 => ?_)
    · rw [if_pos c3] at h
      exact v_sub [0] rfl (bc_Core_cycle_131 hc O C2 h)
    · rw [if_neg c3] at h
      refine v_aload_n O.1 dX4_cycle_99 rfl (q := 100) rfl ?_
      refine v_dup O.1 dX4_cycle_100 rfl (q := 101) rfl ?_
      refine c_getC O hc 39 (v := .int (C2 c 39)) (by decide) (O.lk q909) rfl (fun _ => rfl) dX4_cycle_101 (q := 104) rfl ?_
      refine v_iconst O.1 dX4_cycle_104 (v := 1) rfl (q := 105) rfl ?_
      refine v_isub O.1 dX4_cycle_105 (q := 106) rfl ?_
      obtain ⟨C4, e4, h⟩ := stp_some h
      refine c_putC O hc 39 (u := ((C2 c 39) - 1)) (ty := .int) (by decide) (by decide) (O.lk q909) rfl rfl rfl rfl rfl (fun _ => rfl) dX4_cycle_106 (q := 109) rfl e4 ?_
      refine v_aload_n O.1 dX4_cycle_109 rfl (q := 110) rfl ?_
      refine c_getC O hc 39 (v := .int (C4 c 39)) (by decide) (O.lk q909) rfl (fun _ => rfl) dX4_cycle_110 (q := 113) rfl ?_
      refine v_if_ne O.1 dX4_cycle_113 (t := 131) (by decide) (q := 116) rfl (fun c5 => ?_) (fun c5 => ?_)
      · rw [if_neg c5] at h
        exact v_sub [0] rfl (bc_Core_cycle_131 hc O C4 h)
      · rw [if_pos c5] at h
        refine v_aload_n O.1 dX4_cycle_116 rfl (q := 117) rfl ?_
        refine v_bipush O.1 dX4_cycle_117 (v := 16) (by decide) (q := 119) rfl ?_
        obtain ⟨r6, C6, e6, h⟩ := bnd_some h
        refine c_callVi (As := [.int 16]) (rest := []) (n := 1) (ci := 2) (p := (RX4, TX4, 55)) O (cC_lt (j := 0) hc (by decide)) rfl (fun _ _ => ⟨_, cCell_core hc⟩) (metc_Core_becomes _ g c hc 16 C4 C6 r6 e6) (lw_V q287 q288 q289 q63 q290) (by decide +kernel) (by decide) (by decide) rfl rfl (Nat.le_of_ble_eq_true rfl) dX4_cycle_119 (q := 122) rfl (b' := 3) rfl ?_
        refine v_pop O.1 dX4_cycle_122 rfl (q := 123) rfl ?_
        refine v_aload_n O.1 dX4_cycle_123 rfl (q := 124) rfl ?_
        refine v_aload_n O.1 dX4_cycle_124 rfl (q := 125) rfl ?_
        refine c_getC O hc 38 (v := .int (C6 c 38)) (by decide) (O.lk q907) rfl (fun _ => rfl) dX4_cycle_125 (q := 128) rfl ?_
        obtain ⟨C7, e7, h⟩ := stp_some h
        refine c_putC O hc 39 (u := (C6 c 38)) (ty := .int) (by decide) (by decide) (O.lk q909) rfl rfl rfl rfl rfl (fun _ => rfl) dX4_cycle_128 (q := 131) rfl e7 ?_
        exact v_sub [0] rfl (bc_Core_cycle_131 hc O C7 h)
  · rw [if_neg c1] at h
    refine v_aload_n O.1 dX4_cycle_27 rfl (q := 28) rfl ?_
    refine c_getC O hc 9 (v := .ref (gCa g (c + 7))) (by decide) (O.lk q854) rfl (fun _ => rfl) dX4_cycle_28 (q := 31) rfl ?_
    refine v_iload_n O.1 dX4_cycle_31 rfl (q := 32) rfl ?_
    obtain ⟨g8, h⟩ := gd_some h
    refine c_iald O (cIA_due hc) g8 rfl (j := x2.toNatClampNeg) dX4_cycle_32 (q := 33) rfl ?_
    refine v_aload_n O.1 dX4_cycle_33 rfl (q := 34) rfl ?_
    refine c_getC O hc 37 (v := .int (C c 37)) (by decide) (O.lk q905) rfl (fun _ => rfl) dX4_cycle_34 (q := 37) rfl ?_
    refine v_icmp_ne O.1 dX4_cycle_37 (t := 54) (by decide) (q := 40) rfl (fun c9 => ?_) (fun c9 => ?_)
    · rw [if_neg c9] at h
      refine v_aload_n O.1 dX4_cycle_54 rfl (q := 55) rfl ?_
      refine c_getC O hc 9 (v := .ref (gCa g (c + 7))) (by decide) (O.lk q854) rfl (fun _ => rfl) dX4_cycle_55 (q := 58) rfl ?_
      refine v_iload_n O.1 dX4_cycle_58 rfl (q := 59) rfl ?_
      refine v_aload_n O.1 dX4_cycle_59 rfl (q := 60) rfl ?_
      refine c_getC O hc 9 (v := .ref (gCa g (c + 7))) (by decide) (O.lk q854) rfl (fun _ => rfl) dX4_cycle_60 (q := 63) rfl ?_
      refine v_iload_n O.1 dX4_cycle_63 rfl (q := 64) rfl ?_
      obtain ⟨g10, h⟩ := gd_some h
      refine c_iald O (cIA_due hc) g10 rfl (j := x2.toNatClampNeg) dX4_cycle_64 (q := 65) rfl ?_
      obtain ⟨g11, h⟩ := gd_some h
      obtain ⟨C12, e12, h⟩ := stp_some h
      refine c_iast O (cIA_due hc) g11 rfl (j := x1.toNatClampNeg) dX4_cycle_65 (q := 66) rfl e12 ?_
      refine v_aload_n O.1 dX4_cycle_66 rfl (q := 67) rfl ?_
      refine c_getC O hc 10 (v := .ref (gCa g (c + 8))) (by decide) (O.lk q856) rfl (fun _ => rfl) dX4_cycle_67 (q := 70) rfl ?_
      refine v_iload_n O.1 dX4_cycle_70 rfl (q := 71) rfl ?_
      refine v_aload_n O.1 dX4_cycle_71 rfl (q := 72) rfl ?_
      refine c_getC O hc 10 (v := .ref (gCa g (c + 8))) (by decide) (O.lk q856) rfl (fun _ => rfl) dX4_cycle_72 (q := 75) rfl ?_
      refine v_iload_n O.1 dX4_cycle_75 rfl (q := 76) rfl ?_
      obtain ⟨g13, h⟩ := gd_some h
      refine c_iald O (cIA_dueOf hc) g13 rfl (j := x2.toNatClampNeg) dX4_cycle_76 (q := 77) rfl ?_
      obtain ⟨g14, h⟩ := gd_some h
      obtain ⟨C15, e15, h⟩ := stp_some h
      refine c_iast O (cIA_dueOf hc) g14 rfl (j := x1.toNatClampNeg) dX4_cycle_77 (q := 78) rfl e15 ?_
      refine v_iinc (lv' := [(1, .int (x1 + 1)), (0, .ref (gCa g c)), (2, .int x2)]) (v := (x1 + 1)) O.1 dX4_cycle_78 rfl rfl (by decide) rfl (q := 81) rfl ?_
      exact v_sub [1, 0, 2] rfl (bc_Core_cycle_81 hc O hK19 (x1 + 1) x2 C15 h)
    · rw [if_pos c9] at h
      refine v_aload_n O.1 dX4_cycle_40 rfl (q := 41) rfl ?_
      refine v_aload_n O.1 dX4_cycle_41 rfl (q := 42) rfl ?_
      refine c_getC O hc 10 (v := .ref (gCa g (c + 8))) (by decide) (O.lk q856) rfl (fun _ => rfl) dX4_cycle_42 (q := 45) rfl ?_
      refine v_iload_n O.1 dX4_cycle_45 rfl (q := 46) rfl ?_
      obtain ⟨g16, h⟩ := gd_some h
      refine c_iald O (cIA_dueOf hc) g16 rfl (j := x2.toNatClampNeg) dX4_cycle_46 (q := 47) rfl ?_
      obtain ⟨r17, C17, e17, h⟩ := bnd_some h
      refine c_callVi (As := [.int (C (c + 8) x2.toNatClampNeg)]) (rest := []) (n := 1) (ci := 2) (p := (RX4, TX4, 55)) O (cC_lt (j := 0) hc (by decide)) rfl (fun _ _ => ⟨_, cCell_core hc⟩) (metc_Core_becomes _ g c hc (C (c + 8) x2.toNatClampNeg) C C17 r17 e17) (lw_V q287 q288 q289 q63 q290) (by decide +kernel) (by decide) (by decide) rfl rfl (Nat.le_of_ble_eq_true rfl) dX4_cycle_47 (q := 50) rfl (b' := 3) rfl ?_
      refine v_pop O.1 dX4_cycle_50 rfl (q := 51) rfl ?_
      refine v_goto O.1 dX4_cycle_51 (t := 81) (by decide) ?_
      exact v_sub [0, 1, 2] rfl (bc_Core_cycle_81 hc O hK19 x1 x2 C17 h)
def fc_Core_cycle_19 (c : Nat) (n : Nat) : Int32 → Int32 → Mem → Option (Unit × Mem) := lpc (fc_Core_cycle_19b c) (fun _ _ _ => none) n
theorem bc_Core_cycle_19 {g : gC} {X : Cxt} {r : Unit} {C' : Mem} {c : Nat} (hc : cC c) (O : OkC g X cX4_cycle 3 none RX4 12 3 (cQv g r C')) : ∀ (n : Nat) (x1 : Int32) (x2 : Int32) (C : Mem), fc_Core_cycle_19 c n x1 x2 C = some (r, C') → V X 3 3 (WdC g C) 19 [(0, .ref (gCa g c)), (1, .int x1), (2, .int x2)] [] := by
  intro n
  induction n with
  | zero =>
    intro x1 x2 C h
    cases h
  | succ n ih =>
    intro x1 x2 C h
    exact bc_Core_cycle_19b hc O ih x1 x2 C h
def fc_Core_cycle (c : Nat)  (C : Mem) : Option (Unit × Mem) :=
  stp (up2 C c 37 ((C c 37) + 1)) fun C1 =>
  stp (up2 C1 c 52 (-1)) fun C2 =>
  fc_Core_cycle_19 c 600 0 0 C2
set_option maxHeartbeats 4000000 in
theorem bc_Core_cycle {g : gC} {X : Cxt} {r : Unit} {C' : Mem} {c : Nat} (hc : cC c) (O : OkC g X cX4_cycle 3 none RX4 12 3 (cQv g r C'))  (C : Mem) (h : fc_Core_cycle c  C = some (r, C')) : V X 3 3 (WdC g C) 0 [(0, .ref (gCa g c))] [] := by
  unfold fc_Core_cycle at h
  refine v_aload_n O.1 dX4_cycle_0 rfl (q := 1) rfl ?_
  refine v_dup O.1 dX4_cycle_1 rfl (q := 2) rfl ?_
  refine c_getC O hc 37 (v := .int (C c 37)) (by decide) (O.lk q905) rfl (fun _ => rfl) dX4_cycle_2 (q := 5) rfl ?_
  refine v_iconst O.1 dX4_cycle_5 (v := 1) rfl (q := 6) rfl ?_
  refine v_iadd O.1 dX4_cycle_6 (q := 7) rfl ?_
  obtain ⟨C1, e1, h⟩ := stp_some h
  refine c_putC O hc 37 (u := ((C c 37) + 1)) (ty := .int) (by decide) (by decide) (O.lk q905) rfl rfl rfl rfl rfl (fun _ => rfl) dX4_cycle_7 (q := 10) rfl e1 ?_
  refine v_aload_n O.1 dX4_cycle_10 rfl (q := 11) rfl ?_
  refine v_iconst O.1 dX4_cycle_11 (v := (-1)) rfl (q := 12) rfl ?_
  obtain ⟨C2, e2, h⟩ := stp_some h
  refine c_putC O hc 52 (u := (-1)) (ty := .int) (by decide) (by decide) (O.lk q933) rfl rfl rfl rfl rfl (fun _ => rfl) dX4_cycle_12 (q := 15) rfl e2 ?_
  refine v_iconst O.1 dX4_cycle_15 (v := 0) rfl (q := 16) rfl ?_
  refine v_istore_n (lv' := [(1, .int 0), (0, .ref (gCa g c))]) O.1 dX4_cycle_16 (by decide) rfl (q := 17) rfl ?_
  refine v_iconst O.1 dX4_cycle_17 (v := 0) rfl (q := 18) rfl ?_
  refine v_istore_n (lv' := [(2, .int 0), (1, .int 0), (0, .ref (gCa g c))]) O.1 dX4_cycle_18 (by decide) rfl (q := 19) rfl ?_
  exact v_sub [2, 1, 0] rfl (bc_Core_cycle_19 hc O 600 0 0 C2 h)
theorem metc_Core_cycle (l : Launch) (g : gC) (c : Nat) (hc : cC c) (C C' : Mem) (r : Unit) (h : fc_Core_cycle c C = some (r, C')) : MetC l g yX4_cycle cX4_cycle 3 none 12 3 [.ref (gCa g c)] C (cQv g r C') :=
  c_met (by decide) rfl (Nat.le_of_ble_eq_true rfl) (fun X O => bc_Core_cycle hc O C h)
