def n32 (r : UInt32) : Bool := decide (r &&& 0x7fffffff ≤ 0x7f800000)
theorem n32_n {r : UInt32} (h : n32 r = true) : vf_n32 r := by
  unfold vf_n32
  exact of_decide_eq_true h
/-! RankEntry$Source.group(I)I -/
def fc_Src_group (o : Nat) (x1 : Int32) (C : Mem) : Option (Int32 × Mem) :=
  some (((C o 1) >>> (x1 &&& 31)), C)
set_option maxHeartbeats 4000000 in
theorem bc_Src_group {g : gC} {X : Cxt} {r : Int32} {C' : Mem} {o : Nat} (hs : cS o) (O : OkC g X cX14_group 2 (some .int) RX14 0 0 (cQi g r C')) (x1 : Int32) (C : Mem) (h : fc_Src_group o x1 C = some (r, C')) : V X 2 0 (WdC g C) 0 [(0, .ref (gCa g o)), (1, .int x1)] [] := by
  unfold fc_Src_group at h
  refine v_aload_n O.1 dX14_group_0 rfl (q := 1) rfl ?_
  refine c_getS O hs 1 (by decide) (O.lk q735) rfl rfl rfl rfl (v := .int (C o 1)) rfl dX14_group_1 (q := 4) rfl ?_
  refine v_iload_n O.1 dX14_group_4 rfl (q := 5) rfl ?_
  refine v_ishr O.1 dX14_group_5 (q := 6) rfl ?_
  exact c_iret O h dX14_group_6
theorem metc_Src_group (l : Launch) (g : gC) (o : Nat) (hs : cS o) (x1 : Int32) (C C' : Mem) (r : Int32) (h : fc_Src_group o x1 C = some (r, C')) : MetC l g yX14_group cX14_group 2 (some .int) 0 0 [.ref (gCa g o), .int x1] C (cQi g r C') :=
  c_met (by decide) rfl (Nat.le_of_ble_eq_true rfl) (fun X O => bc_Src_group hs O x1 C h)
/-! RankEntry$Source.told()I -/
def fc_Src_told (o : Nat)  (C : Mem) : Option (Int32 × Mem) :=
  some ((C o 1), C)
set_option maxHeartbeats 4000000 in
theorem bc_Src_told {g : gC} {X : Cxt} {r : Int32} {C' : Mem} {o : Nat} (hs : cS o) (O : OkC g X cX14_told 1 (some .int) RX14 0 0 (cQi g r C'))  (C : Mem) (h : fc_Src_told o  C = some (r, C')) : V X 1 0 (WdC g C) 0 [(0, .ref (gCa g o))] [] := by
  unfold fc_Src_told at h
  refine v_aload_n O.1 dX14_told_0 rfl (q := 1) rfl ?_
  refine c_getS O hs 1 (by decide) (O.lk q735) rfl rfl rfl rfl (v := .int (C o 1)) rfl dX14_told_1 (q := 4) rfl ?_
  exact c_iret O h dX14_told_4
theorem metc_Src_told (l : Launch) (g : gC) (o : Nat) (hs : cS o) (C C' : Mem) (r : Int32) (h : fc_Src_told o C = some (r, C')) : MetC l g yX14_told cX14_told 1 (some .int) 0 0 [.ref (gCa g o)] C (cQi g r C') :=
  c_met (by decide) rfl (Nat.le_of_ble_eq_true rfl) (fun X O => bc_Src_told hs O C h)
/-! RankEntry$Source.becomes(I)Z -/
def fc_Src_becomes (o : Nat) (x1 : Int32) (C : Mem) : Option (Int32 × Mem) :=
  if (C o 4) = 0 then
    stp (up2 C o 4 1) fun C2 =>
    stp (up2 C2 o 6 x1) fun C3 =>
    some (1, C3)
  else
    some (0, C)
set_option maxHeartbeats 4000000 in
theorem bc_Src_becomes {g : gC} {X : Cxt} {r : Int32} {C' : Mem} {o : Nat} (hs : cS o) (O : OkC g X cX14_becomes 2 (some .boolean) RX14 0 0 (cQi g r C')) (x1 : Int32) (C : Mem) (h : fc_Src_becomes o x1 C = some (r, C')) : V X 2 0 (WdC g C) 0 [(0, .ref (gCa g o)), (1, .int x1)] [] := by
  unfold fc_Src_becomes at h
  refine v_aload_n O.1 dX14_becomes_0 rfl (q := 1) rfl ?_
  refine c_getS O hs 4 (by decide) (O.lk q746) rfl rfl rfl rfl (v := .int (C o 4)) rfl dX14_becomes_1 (q := 4) rfl ?_
  refine v_if_eq O.1 dX14_becomes_4 (t := 9) (by decide) (q := 7) rfl (fun c1 => ?_) (fun c1 => ?_)
  · rw [if_pos c1] at h
    refine v_aload_n O.1 dX14_becomes_9 rfl (q := 10) rfl ?_
    refine v_iconst O.1 dX14_becomes_10 (v := 1) rfl (q := 11) rfl ?_
    obtain ⟨C2, e2, h⟩ := stp_some h
    refine c_putS O hs 4 (ty := .boolean) (by decide) (by decide) (O.lk q746) rfl rfl rfl rfl rfl rfl rfl rfl dX14_becomes_11 (q := 14) rfl e2 ?_
    refine v_aload_n O.1 dX14_becomes_14 rfl (q := 15) rfl ?_
    refine v_iload_n O.1 dX14_becomes_15 rfl (q := 16) rfl ?_
    obtain ⟨C3, e3, h⟩ := stp_some h
    refine c_putS O hs 6 (ty := .int) (by decide) (by decide) (O.lk q753) rfl rfl rfl rfl rfl rfl rfl rfl dX14_becomes_16 (q := 19) rfl e3 ?_
    refine v_iconst O.1 dX14_becomes_19 (v := 1) rfl (q := 20) rfl ?_
    exact c_zret O (by decide) h dX14_becomes_20
  · rw [if_neg c1] at h
    refine v_iconst O.1 dX14_becomes_7 (v := 0) rfl (q := 8) rfl ?_
    exact c_zret O (by decide) h dX14_becomes_8
theorem metc_Src_becomes (l : Launch) (g : gC) (o : Nat) (hs : cS o) (x1 : Int32) (C C' : Mem) (r : Int32) (h : fc_Src_becomes o x1 C = some (r, C')) : MetC l g yX14_becomes cX14_becomes 2 (some .boolean) 0 0 [.ref (gCa g o), .int x1] C (cQi g r C') :=
  c_met (by decide) rfl (Nat.le_of_ble_eq_true rfl) (fun X O => bc_Src_becomes hs O x1 C h)
/-! RankEntry$Source.drops()Z -/
def fc_Src_drops (o : Nat)  (C : Mem) : Option (Int32 × Mem) :=
  stp (up2 C o 4 0) fun C1 =>
  gd (isB (C o 4)) <|
  some ((C o 4), C1)
set_option maxHeartbeats 4000000 in
theorem bc_Src_drops {g : gC} {X : Cxt} {r : Int32} {C' : Mem} {o : Nat} (hs : cS o) (O : OkC g X cX14_drops 2 (some .boolean) RX14 0 0 (cQi g r C'))  (C : Mem) (h : fc_Src_drops o  C = some (r, C')) : V X 2 0 (WdC g C) 0 [(0, .ref (gCa g o))] [] := by
  unfold fc_Src_drops at h
  refine v_aload_n O.1 dX14_drops_0 rfl (q := 1) rfl ?_
  refine c_getS O hs 4 (by decide) (O.lk q746) rfl rfl rfl rfl (v := .int (C o 4)) rfl dX14_drops_1 (q := 4) rfl ?_
  refine v_istore_n (lv' := [(1, .int (C o 4)), (0, .ref (gCa g o))]) O.1 dX14_drops_4 (by decide) rfl (q := 5) rfl ?_
  refine v_aload_n O.1 dX14_drops_5 rfl (q := 6) rfl ?_
  refine v_iconst O.1 dX14_drops_6 (v := 0) rfl (q := 7) rfl ?_
  obtain ⟨C1, e1, h⟩ := stp_some h
  refine c_putS O hs 4 (ty := .boolean) (by decide) (by decide) (O.lk q746) rfl rfl rfl rfl rfl rfl rfl rfl dX14_drops_7 (q := 10) rfl e1 ?_
  refine v_iload_n O.1 dX14_drops_10 rfl (q := 11) rfl ?_
  obtain ⟨g2, h⟩ := gd_some h
  exact c_zret O g2 h dX14_drops_11
theorem metc_Src_drops (l : Launch) (g : gC) (o : Nat) (hs : cS o) (C C' : Mem) (r : Int32) (h : fc_Src_drops o C = some (r, C')) : MetC l g yX14_drops cX14_drops 2 (some .boolean) 0 0 [.ref (gCa g o)] C (cQi g r C') :=
  c_met (by decide) rfl (Nat.le_of_ble_eq_true rfl) (fun X O => bc_Src_drops hs O C h)
/-! RankEntry$Source.ends()Z -/
def fc_Src_ends (o : Nat)  (C : Mem) : Option (Int32 × Mem) :=
  stp (up2 C o 5 0) fun C1 =>
  some (0, C1)
set_option maxHeartbeats 4000000 in
theorem bc_Src_ends {g : gC} {X : Cxt} {r : Int32} {C' : Mem} {o : Nat} (hs : cS o) (O : OkC g X cX14_ends 1 (some .boolean) RX14 0 0 (cQi g r C'))  (C : Mem) (h : fc_Src_ends o  C = some (r, C')) : V X 1 0 (WdC g C) 0 [(0, .ref (gCa g o))] [] := by
  unfold fc_Src_ends at h
  refine v_aload_n O.1 dX14_ends_0 rfl (q := 1) rfl ?_
  refine v_iconst O.1 dX14_ends_1 (v := 0) rfl (q := 2) rfl ?_
  obtain ⟨C1, e1, h⟩ := stp_some h
  refine c_putS O hs 5 (ty := .boolean) (by decide) (by decide) (O.lk q750) rfl rfl rfl rfl rfl rfl rfl rfl dX14_ends_2 (q := 5) rfl e1 ?_
  refine v_iconst O.1 dX14_ends_5 (v := 0) rfl (q := 6) rfl ?_
  exact c_zret O (by decide) h dX14_ends_6
theorem metc_Src_ends (l : Launch) (g : gC) (o : Nat) (hs : cS o) (C C' : Mem) (r : Int32) (h : fc_Src_ends o C = some (r, C')) : MetC l g yX14_ends cX14_ends 1 (some .boolean) 0 0 [.ref (gCa g o)] C (cQi g r C') :=
  c_met (by decide) rfl (Nat.le_of_ble_eq_true rfl) (fun X O => bc_Src_ends hs O C h)
/-! RankEntry$Source.isHeld()Z -/
def fc_Src_isHeld (o : Nat)  (C : Mem) : Option (Int32 × Mem) :=
  some (0, C)
set_option maxHeartbeats 4000000 in
theorem bc_Src_isHeld {g : gC} {X : Cxt} {r : Int32} {C' : Mem} {o : Nat} (hs : cS o) (O : OkC g X cX14_isHeld 1 (some .boolean) RX14 0 0 (cQi g r C'))  (C : Mem) (h : fc_Src_isHeld o  C = some (r, C')) : V X 1 0 (WdC g C) 0 [(0, .ref (gCa g o))] [] := by
  unfold fc_Src_isHeld at h
  refine v_iconst O.1 dX14_isHeld_0 (v := 0) rfl (q := 1) rfl ?_
  exact c_zret O (by decide) h dX14_isHeld_1
theorem metc_Src_isHeld (l : Launch) (g : gC) (o : Nat) (hs : cS o) (C C' : Mem) (r : Int32) (h : fc_Src_isHeld o C = some (r, C')) : MetC l g yX14_isHeld cX14_isHeld 1 (some .boolean) 0 0 [.ref (gCa g o)] C (cQi g r C') :=
  c_met (by decide) rfl (Nat.le_of_ble_eq_true rfl) (fun X O => bc_Src_isHeld hs O C h)
/-! RankEntry$Source.begins(I)V -/
def fc_Src_begins_42 (o : Nat) (y1 : Int32) (C : Mem) : Option (Unit × Mem) :=
  stp (up2 C o 8 y1) fun C1 =>
  some ((), C1)
set_option maxHeartbeats 4000000 in
theorem bc_Src_begins_42 {g : gC} {X : Cxt} {r : Unit} {C' : Mem} {o : Nat} (hs : cS o) (O : OkC g X cX14_begins 2 none RX14 0 0 (cQv g r C')) (y1 : Int32) (C : Mem) (h : fc_Src_begins_42 o y1 C = some (r, C')) : V X 2 0 (WdC g C) 42 [] [.int y1, .ref (gCa g o)] := by
  unfold fc_Src_begins_42 at h
  obtain ⟨C1, e1, h⟩ := stp_some h
  refine c_putS O hs 8 (ty := .int) (by decide) (by decide) (O.lk q757) rfl rfl rfl rfl rfl rfl rfl rfl dX14_begins_42 (q := 45) rfl e1 ?_
  exact c_vret O h dX14_begins_45
def fc_Src_begins (o : Nat) (x1 : Int32) (C : Mem) : Option (Unit × Mem) :=
  stp (up2 C o 4 0) fun C1 =>
  stp (up2 C1 o 5 1) fun C2 =>
  stp (up2 C2 o 7 x1) fun C3 =>
  if (x1 - (C3 o 6)) ≤ (C3 o 8) then
    fc_Src_begins_42 o (C3 o 8) C3
  else
    fc_Src_begins_42 o (x1 - (C3 o 6)) C3
set_option maxHeartbeats 4000000 in
theorem bc_Src_begins {g : gC} {X : Cxt} {r : Unit} {C' : Mem} {o : Nat} (hs : cS o) (O : OkC g X cX14_begins 2 none RX14 0 0 (cQv g r C')) (x1 : Int32) (C : Mem) (h : fc_Src_begins o x1 C = some (r, C')) : V X 2 0 (WdC g C) 0 [(0, .ref (gCa g o)), (1, .int x1)] [] := by
  unfold fc_Src_begins at h
  refine v_aload_n O.1 dX14_begins_0 rfl (q := 1) rfl ?_
  refine v_iconst O.1 dX14_begins_1 (v := 0) rfl (q := 2) rfl ?_
  obtain ⟨C1, e1, h⟩ := stp_some h
  refine c_putS O hs 4 (ty := .boolean) (by decide) (by decide) (O.lk q746) rfl rfl rfl rfl rfl rfl rfl rfl dX14_begins_2 (q := 5) rfl e1 ?_
  refine v_aload_n O.1 dX14_begins_5 rfl (q := 6) rfl ?_
  refine v_iconst O.1 dX14_begins_6 (v := 1) rfl (q := 7) rfl ?_
  obtain ⟨C2, e2, h⟩ := stp_some h
  refine c_putS O hs 5 (ty := .boolean) (by decide) (by decide) (O.lk q750) rfl rfl rfl rfl rfl rfl rfl rfl dX14_begins_7 (q := 10) rfl e2 ?_
  refine v_aload_n O.1 dX14_begins_10 rfl (q := 11) rfl ?_
  refine v_iload_n O.1 dX14_begins_11 rfl (q := 12) rfl ?_
  obtain ⟨C3, e3, h⟩ := stp_some h
  refine c_putS O hs 7 (ty := .int) (by decide) (by decide) (O.lk q755) rfl rfl rfl rfl rfl rfl rfl rfl dX14_begins_12 (q := 15) rfl e3 ?_
  refine v_aload_n O.1 dX14_begins_15 rfl (q := 16) rfl ?_
  refine v_iload_n O.1 dX14_begins_16 rfl (q := 17) rfl ?_
  refine v_aload_n O.1 dX14_begins_17 rfl (q := 18) rfl ?_
  refine c_getS O hs 6 (by decide) (O.lk q753) rfl rfl rfl rfl (v := .int (C3 o 6)) rfl dX14_begins_18 (q := 21) rfl ?_
  refine v_isub O.1 dX14_begins_21 (q := 22) rfl ?_
  refine v_aload_n O.1 dX14_begins_22 rfl (q := 23) rfl ?_
  refine c_getS O hs 8 (by decide) (O.lk q757) rfl rfl rfl rfl (v := .int (C3 o 8)) rfl dX14_begins_23 (q := 26) rfl ?_
  refine v_icmp_le O.1 dX14_begins_26 (t := 38) (by decide) (q := 29) rfl (fun c4 => ?_) (fun c4 => ?_)
  · rw [if_pos c4] at h
    refine v_aload_n O.1 dX14_begins_38 rfl (q := 39) rfl ?_
    refine c_getS O hs 8 (by decide) (O.lk q757) rfl rfl rfl rfl (v := .int (C3 o 8)) rfl dX14_begins_39 (q := 42) rfl ?_
    exact v_sub [] rfl (bc_Src_begins_42 hs O (C3 o 8) C3 h)
  · rw [if_neg c4] at h
    refine v_iload_n O.1 dX14_begins_29 rfl (q := 30) rfl ?_
    refine v_aload_n O.1 dX14_begins_30 rfl (q := 31) rfl ?_
    refine c_getS O hs 6 (by decide) (O.lk q753) rfl rfl rfl rfl (v := .int (C3 o 6)) rfl dX14_begins_31 (q := 34) rfl ?_
    refine v_isub O.1 dX14_begins_34 (q := 35) rfl ?_
    refine v_goto O.1 dX14_begins_35 (t := 42) (by decide) ?_
    exact v_sub [] rfl (bc_Src_begins_42 hs O (x1 - (C3 o 6)) C3 h)
theorem metc_Src_begins (l : Launch) (g : gC) (o : Nat) (hs : cS o) (x1 : Int32) (C C' : Mem) (r : Unit) (h : fc_Src_begins o x1 C = some (r, C')) : MetC l g yX14_begins cX14_begins 2 none 0 0 [.ref (gCa g o), .int x1] C (cQv g r C') :=
  c_met (by decide) rfl (Nat.le_of_ble_eq_true rfl) (fun X O => bc_Src_begins hs O x1 C h)
/-! RankEntry$Source.takes(LRankEntry$Source;)V -/
def fc_Src_takes (o : Nat) (o1 : Nat)  (C : Mem) : Option (Unit × Mem) :=
  stp (up2 C o 1 (C o1 1)) fun C1 =>
  stp (up2 C1 o 2 (C1 o1 2)) fun C2 =>
  gd (isB (C2 o1 3)) <|
  stp (up2 C2 o 3 (C2 o1 3)) fun C4 =>
  gd (isB (C4 o1 4)) <|
  stp (up2 C4 o 4 (C4 o1 4)) fun C6 =>
  gd (isB (C6 o1 5)) <|
  stp (up2 C6 o 5 (C6 o1 5)) fun C8 =>
  stp (up2 C8 o 6 (C8 o1 6)) fun C9 =>
  stp (up2 C9 o 7 (C9 o1 7)) fun C10 =>
  stp (up2 C10 o 8 (C10 o1 8)) fun C11 =>
  some ((), C11)
set_option maxHeartbeats 4000000 in
theorem bc_Src_takes {g : gC} {X : Cxt} {r : Unit} {C' : Mem} {o : Nat} {o1 : Nat} (hs : cS o) (hs1 : cS o1) (O : OkC g X cX14_takes 2 none RX14 0 0 (cQv g r C'))  (C : Mem) (h : fc_Src_takes o o1  C = some (r, C')) : V X 2 0 (WdC g C) 0 [(0, .ref (gCa g o)), (1, .ref (gCa g o1))] [] := by
  unfold fc_Src_takes at h
  refine v_aload_n O.1 dX14_takes_0 rfl (q := 1) rfl ?_
  refine v_aload_n O.1 dX14_takes_1 rfl (q := 2) rfl ?_
  refine c_getS O hs1 1 (by decide) (O.lk q735) rfl rfl rfl rfl (v := .int (C o1 1)) rfl dX14_takes_2 (q := 5) rfl ?_
  obtain ⟨C1, e1, h⟩ := stp_some h
  refine c_putS O hs 1 (ty := .int) (by decide) (by decide) (O.lk q735) rfl rfl rfl rfl rfl rfl rfl rfl dX14_takes_5 (q := 8) rfl e1 ?_
  refine v_aload_n O.1 dX14_takes_8 rfl (q := 9) rfl ?_
  refine v_aload_n O.1 dX14_takes_9 rfl (q := 10) rfl ?_
  refine c_getS O hs1 2 (by decide) (O.lk q738) rfl rfl rfl rfl (v := .int (C1 o1 2)) rfl dX14_takes_10 (q := 13) rfl ?_
  obtain ⟨C2, e2, h⟩ := stp_some h
  refine c_putS O hs 2 (ty := .int) (by decide) (by decide) (O.lk q738) rfl rfl rfl rfl rfl rfl rfl rfl dX14_takes_13 (q := 16) rfl e2 ?_
  refine v_aload_n O.1 dX14_takes_16 rfl (q := 17) rfl ?_
  refine v_aload_n O.1 dX14_takes_17 rfl (q := 18) rfl ?_
  refine c_getS O hs1 3 (by decide) (O.lk q743) rfl rfl rfl rfl (v := .int (C2 o1 3)) rfl dX14_takes_18 (q := 21) rfl ?_
  obtain ⟨g3, h⟩ := gd_some h
  obtain ⟨C4, e4, h⟩ := stp_some h
  refine c_putS O hs 3 (ty := .boolean) (by decide) (by decide) (O.lk q743) rfl rfl rfl rfl rfl rfl (isB_nar g3) (isB_fit g3) dX14_takes_21 (q := 24) rfl e4 ?_
  refine v_aload_n O.1 dX14_takes_24 rfl (q := 25) rfl ?_
  refine v_aload_n O.1 dX14_takes_25 rfl (q := 26) rfl ?_
  refine c_getS O hs1 4 (by decide) (O.lk q746) rfl rfl rfl rfl (v := .int (C4 o1 4)) rfl dX14_takes_26 (q := 29) rfl ?_
  obtain ⟨g5, h⟩ := gd_some h
  obtain ⟨C6, e6, h⟩ := stp_some h
  refine c_putS O hs 4 (ty := .boolean) (by decide) (by decide) (O.lk q746) rfl rfl rfl rfl rfl rfl (isB_nar g5) (isB_fit g5) dX14_takes_29 (q := 32) rfl e6 ?_
  refine v_aload_n O.1 dX14_takes_32 rfl (q := 33) rfl ?_
  refine v_aload_n O.1 dX14_takes_33 rfl (q := 34) rfl ?_
  refine c_getS O hs1 5 (by decide) (O.lk q750) rfl rfl rfl rfl (v := .int (C6 o1 5)) rfl dX14_takes_34 (q := 37) rfl ?_
  obtain ⟨g7, h⟩ := gd_some h
  obtain ⟨C8, e8, h⟩ := stp_some h
  refine c_putS O hs 5 (ty := .boolean) (by decide) (by decide) (O.lk q750) rfl rfl rfl rfl rfl rfl (isB_nar g7) (isB_fit g7) dX14_takes_37 (q := 40) rfl e8 ?_
  refine v_aload_n O.1 dX14_takes_40 rfl (q := 41) rfl ?_
  refine v_aload_n O.1 dX14_takes_41 rfl (q := 42) rfl ?_
  refine c_getS O hs1 6 (by decide) (O.lk q753) rfl rfl rfl rfl (v := .int (C8 o1 6)) rfl dX14_takes_42 (q := 45) rfl ?_
  obtain ⟨C9, e9, h⟩ := stp_some h
  refine c_putS O hs 6 (ty := .int) (by decide) (by decide) (O.lk q753) rfl rfl rfl rfl rfl rfl rfl rfl dX14_takes_45 (q := 48) rfl e9 ?_
  refine v_aload_n O.1 dX14_takes_48 rfl (q := 49) rfl ?_
  refine v_aload_n O.1 dX14_takes_49 rfl (q := 50) rfl ?_
  refine c_getS O hs1 7 (by decide) (O.lk q755) rfl rfl rfl rfl (v := .int (C9 o1 7)) rfl dX14_takes_50 (q := 53) rfl ?_
  obtain ⟨C10, e10, h⟩ := stp_some h
  refine c_putS O hs 7 (ty := .int) (by decide) (by decide) (O.lk q755) rfl rfl rfl rfl rfl rfl rfl rfl dX14_takes_53 (q := 56) rfl e10 ?_
  refine v_aload_n O.1 dX14_takes_56 rfl (q := 57) rfl ?_
  refine v_aload_n O.1 dX14_takes_57 rfl (q := 58) rfl ?_
  refine c_getS O hs1 8 (by decide) (O.lk q757) rfl rfl rfl rfl (v := .int (C10 o1 8)) rfl dX14_takes_58 (q := 61) rfl ?_
  obtain ⟨C11, e11, h⟩ := stp_some h
  refine c_putS O hs 8 (ty := .int) (by decide) (by decide) (O.lk q757) rfl rfl rfl rfl rfl rfl rfl rfl dX14_takes_61 (q := 64) rfl e11 ?_
  exact c_vret O h dX14_takes_64
theorem metc_Src_takes (l : Launch) (g : gC) (o : Nat) (hs : cS o) (o1 : Nat) (hs1 : cS o1) (C C' : Mem) (r : Unit) (h : fc_Src_takes o o1 C = some (r, C')) : MetC l g yX14_takes cX14_takes 2 none 0 0 [.ref (gCa g o), .ref (gCa g o1)] C (cQv g r C') :=
  c_met (by decide) rfl (Nat.le_of_ble_eq_true rfl) (fun X O => bc_Src_takes hs hs1 O C h)
/-! RankEntry$Source.forgets()V -/
def fc_Src_forgets (o : Nat)  (C : Mem) : Option (Unit × Mem) :=
  stp (up2 C o 4 0) fun C1 =>
  stp (up2 C1 o 5 0) fun C2 =>
  stp (up2 C2 o 8 (-1)) fun C3 =>
  some ((), C3)
set_option maxHeartbeats 4000000 in
theorem bc_Src_forgets {g : gC} {X : Cxt} {r : Unit} {C' : Mem} {o : Nat} (hs : cS o) (O : OkC g X cX14_forgets 1 none RX14 0 0 (cQv g r C'))  (C : Mem) (h : fc_Src_forgets o  C = some (r, C')) : V X 1 0 (WdC g C) 0 [(0, .ref (gCa g o))] [] := by
  unfold fc_Src_forgets at h
  refine v_aload_n O.1 dX14_forgets_0 rfl (q := 1) rfl ?_
  refine v_iconst O.1 dX14_forgets_1 (v := 0) rfl (q := 2) rfl ?_
  obtain ⟨C1, e1, h⟩ := stp_some h
  refine c_putS O hs 4 (ty := .boolean) (by decide) (by decide) (O.lk q746) rfl rfl rfl rfl rfl rfl rfl rfl dX14_forgets_2 (q := 5) rfl e1 ?_
  refine v_aload_n O.1 dX14_forgets_5 rfl (q := 6) rfl ?_
  refine v_iconst O.1 dX14_forgets_6 (v := 0) rfl (q := 7) rfl ?_
  obtain ⟨C2, e2, h⟩ := stp_some h
  refine c_putS O hs 5 (ty := .boolean) (by decide) (by decide) (O.lk q750) rfl rfl rfl rfl rfl rfl rfl rfl dX14_forgets_7 (q := 10) rfl e2 ?_
  refine v_aload_n O.1 dX14_forgets_10 rfl (q := 11) rfl ?_
  refine v_iconst O.1 dX14_forgets_11 (v := (-1)) rfl (q := 12) rfl ?_
  obtain ⟨C3, e3, h⟩ := stp_some h
  refine c_putS O hs 8 (ty := .int) (by decide) (by decide) (O.lk q757) rfl rfl rfl rfl rfl rfl rfl rfl dX14_forgets_12 (q := 15) rfl e3 ?_
  exact c_vret O h dX14_forgets_15
theorem metc_Src_forgets (l : Launch) (g : gC) (o : Nat) (hs : cS o) (C C' : Mem) (r : Unit) (h : fc_Src_forgets o C = some (r, C')) : MetC l g yX14_forgets cX14_forgets 1 none 0 0 [.ref (gCa g o)] C (cQv g r C') :=
  c_met (by decide) rfl (Nat.le_of_ble_eq_true rfl) (fun X O => bc_Src_forgets hs O C h)
/-! RankEntry$Hard.group(I)I -/
def fc_Hard_group (o : Nat) (x1 : Int32) (C : Mem) : Option (Int32 × Mem) :=
  some ((-1), C)
set_option maxHeartbeats 4000000 in
theorem bc_Hard_group {g : gC} {X : Cxt} {r : Int32} {C' : Mem} {o : Nat} (hs : cS o) (O : OkC g X cX18_group 2 (some .int) RX18 0 0 (cQi g r C')) (x1 : Int32) (C : Mem) (h : fc_Hard_group o x1 C = some (r, C')) : V X 2 0 (WdC g C) 0 [(0, .ref (gCa g o)), (1, .int x1)] [] := by
  unfold fc_Hard_group at h
  refine v_iconst O.1 dX18_group_0 (v := (-1)) rfl (q := 1) rfl ?_
  exact c_iret O h dX18_group_1
theorem metc_Hard_group (l : Launch) (g : gC) (o : Nat) (hs : cS o) (x1 : Int32) (C C' : Mem) (r : Int32) (h : fc_Hard_group o x1 C = some (r, C')) : MetC l g yX18_group cX18_group 2 (some .int) 0 0 [.ref (gCa g o), .int x1] C (cQi g r C') :=
  c_met (by decide) rfl (Nat.le_of_ble_eq_true rfl) (fun X O => bc_Hard_group hs O x1 C h)
/-! RankEntry$Hard.sub(I)I -/
def fc_Hard_sub (o : Nat) (x1 : Int32) (C : Mem) : Option (Int32 × Mem) :=
  some (0, C)
set_option maxHeartbeats 4000000 in
theorem bc_Hard_sub {g : gC} {X : Cxt} {r : Int32} {C' : Mem} {o : Nat} (hs : cS o) (O : OkC g X cX18_sub 2 (some .int) RX18 0 0 (cQi g r C')) (x1 : Int32) (C : Mem) (h : fc_Hard_sub o x1 C = some (r, C')) : V X 2 0 (WdC g C) 0 [(0, .ref (gCa g o)), (1, .int x1)] [] := by
  unfold fc_Hard_sub at h
  refine v_iconst O.1 dX18_sub_0 (v := 0) rfl (q := 1) rfl ?_
  exact c_iret O h dX18_sub_1
theorem metc_Hard_sub (l : Launch) (g : gC) (o : Nat) (hs : cS o) (x1 : Int32) (C C' : Mem) (r : Int32) (h : fc_Hard_sub o x1 C = some (r, C')) : MetC l g yX18_sub cX18_sub 2 (some .int) 0 0 [.ref (gCa g o), .int x1] C (cQi g r C') :=
  c_met (by decide) rfl (Nat.le_of_ble_eq_true rfl) (fun X O => bc_Hard_sub hs O x1 C h)
/-! RankEntry$Hard.told()I -/
def fc_Hard_told (o : Nat)  (C : Mem) : Option (Int32 × Mem) :=
  some ((-1), C)
set_option maxHeartbeats 4000000 in
theorem bc_Hard_told {g : gC} {X : Cxt} {r : Int32} {C' : Mem} {o : Nat} (hs : cS o) (O : OkC g X cX18_told 1 (some .int) RX18 0 0 (cQi g r C'))  (C : Mem) (h : fc_Hard_told o  C = some (r, C')) : V X 1 0 (WdC g C) 0 [(0, .ref (gCa g o))] [] := by
  unfold fc_Hard_told at h
  refine v_iconst O.1 dX18_told_0 (v := (-1)) rfl (q := 1) rfl ?_
  exact c_iret O h dX18_told_1
theorem metc_Hard_told (l : Launch) (g : gC) (o : Nat) (hs : cS o) (C C' : Mem) (r : Int32) (h : fc_Hard_told o C = some (r, C')) : MetC l g yX18_told cX18_told 1 (some .int) 0 0 [.ref (gCa g o)] C (cQi g r C') :=
  c_met (by decide) rfl (Nat.le_of_ble_eq_true rfl) (fun X O => bc_Hard_told hs O C h)
/-! RankEntry$Level.holds(Z)Z -/
def fc_Lev_holds (o : Nat) (x1 : Int32) (C : Mem) : Option (Int32 × Mem) :=
  if (C o 9) = x1 then
    some (0, C)
  else
    gd (isB x1) <|
    stp (up2 C o 9 x1) fun C3 =>
    some (1, C3)
set_option maxHeartbeats 4000000 in
theorem bc_Lev_holds {g : gC} {X : Cxt} {r : Int32} {C' : Mem} {o : Nat} (hs : cLv o) (O : OkC g X cX16_holds 2 (some .boolean) RX16 0 0 (cQi g r C')) (x1 : Int32) (C : Mem) (h : fc_Lev_holds o x1 C = some (r, C')) : V X 2 0 (WdC g C) 0 [(0, .ref (gCa g o)), (1, .int x1)] [] := by
  unfold fc_Lev_holds at h
  refine v_aload_n O.1 dX16_holds_0 rfl (q := 1) rfl ?_
  refine c_getH O hs (O.lk q783) dX16_holds_1 (q := 4) rfl ?_
  refine v_iload_n O.1 dX16_holds_4 rfl (q := 5) rfl ?_
  refine v_icmp_ne O.1 dX16_holds_5 (t := 10) (by decide) (q := 8) rfl (fun c1 => ?_) (fun c1 => ?_)
  · rw [if_neg c1] at h
    refine v_aload_n O.1 dX16_holds_10 rfl (q := 11) rfl ?_
    refine v_iload_n O.1 dX16_holds_11 rfl (q := 12) rfl ?_
    obtain ⟨g2, h⟩ := gd_some h
    obtain ⟨C3, e3, h⟩ := stp_some h
    refine c_putH O hs (O.lk q783) g2 dX16_holds_12 (q := 15) rfl e3 ?_
    refine v_iconst O.1 dX16_holds_15 (v := 1) rfl (q := 16) rfl ?_
    exact c_zret O (by decide) h dX16_holds_16
  · rw [if_pos c1] at h
    refine v_iconst O.1 dX16_holds_8 (v := 0) rfl (q := 9) rfl ?_
    exact c_zret O (by decide) h dX16_holds_9
theorem metc_Lev_holds (l : Launch) (g : gC) (o : Nat) (hs : cLv o) (x1 : Int32) (C C' : Mem) (r : Int32) (h : fc_Lev_holds o x1 C = some (r, C')) : MetC l g yX16_holds cX16_holds 2 (some .boolean) 0 0 [.ref (gCa g o), .int x1] C (cQi g r C') :=
  c_met (by decide) rfl (Nat.le_of_ble_eq_true rfl) (fun X O => bc_Lev_holds hs O x1 C h)
/-! RankEntry$Level.isHeld()Z -/
def fc_Lev_isHeld (o : Nat)  (C : Mem) : Option (Int32 × Mem) :=
  gd (isB (C o 9)) <|
  some ((C o 9), C)
set_option maxHeartbeats 4000000 in
theorem bc_Lev_isHeld {g : gC} {X : Cxt} {r : Int32} {C' : Mem} {o : Nat} (hs : cLv o) (O : OkC g X cX16_isHeld 1 (some .boolean) RX16 0 0 (cQi g r C'))  (C : Mem) (h : fc_Lev_isHeld o  C = some (r, C')) : V X 1 0 (WdC g C) 0 [(0, .ref (gCa g o))] [] := by
  unfold fc_Lev_isHeld at h
  refine v_aload_n O.1 dX16_isHeld_0 rfl (q := 1) rfl ?_
  refine c_getH O hs (O.lk q783) dX16_isHeld_1 (q := 4) rfl ?_
  obtain ⟨g1, h⟩ := gd_some h
  exact c_zret O g1 h dX16_isHeld_4
theorem metc_Lev_isHeld (l : Launch) (g : gC) (o : Nat) (hs : cLv o) (C C' : Mem) (r : Int32) (h : fc_Lev_isHeld o C = some (r, C')) : MetC l g yX16_isHeld cX16_isHeld 1 (some .boolean) 0 0 [.ref (gCa g o)] C (cQi g r C') :=
  c_met (by decide) rfl (Nat.le_of_ble_eq_true rfl) (fun X O => bc_Lev_isHeld hs O C h)
/-! RankEntry$Core.reg(I)I -/
def fc_Core_reg (c : Nat) (x1 : Int32) (C : Mem) : Option (Int32 × Mem) :=
  gd (inb (x1 &&& 7) 8) <|
  some ((C (c + 1) (x1 &&& 7).toNatClampNeg), C)
set_option maxHeartbeats 4000000 in
theorem bc_Core_reg {g : gC} {X : Cxt} {r : Int32} {C' : Mem} {c : Nat} (hc : cC c) (O : OkC g X cX4_reg 2 (some .int) RX4 0 0 (cQi g r C')) (x1 : Int32) (C : Mem) (h : fc_Core_reg c x1 C = some (r, C')) : V X 2 0 (WdC g C) 0 [(0, .ref (gCa g c)), (1, .int x1)] [] := by
  unfold fc_Core_reg at h
  refine v_aload_n O.1 dX4_reg_0 rfl (q := 1) rfl ?_
  refine c_getC O hc 3 (v := .ref (gCa g (c + 1))) (by decide) (O.lk q833) rfl (fun _ => rfl) dX4_reg_1 (q := 4) rfl ?_
  refine v_iload_n O.1 dX4_reg_4 rfl (q := 5) rfl ?_
  refine v_bipush O.1 dX4_reg_5 (v := 7) (by decide) (q := 7) rfl ?_
  refine v_iand O.1 dX4_reg_7 (q := 8) rfl ?_
  obtain ⟨g1, h⟩ := gd_some h
  refine c_iald O (cIA_r hc) g1 rfl (j := (x1 &&& 7).toNatClampNeg) dX4_reg_8 (q := 9) rfl ?_
  exact c_iret O h dX4_reg_9
theorem metc_Core_reg (l : Launch) (g : gC) (c : Nat) (hc : cC c) (x1 : Int32) (C C' : Mem) (r : Int32) (h : fc_Core_reg c x1 C = some (r, C')) : MetC l g yX4_reg cX4_reg 2 (some .int) 0 0 [.ref (gCa g c), .int x1] C (cQi g r C') :=
  c_met (by decide) rfl (Nat.le_of_ble_eq_true rfl) (fun X O => bc_Core_reg hc O x1 C h)
/-! RankEntry$Core.sets(II)V -/
def fc_Core_sets (c : Nat) (x1 : Int32) (x2 : Int32) (C : Mem) : Option (Unit × Mem) :=
  gd (inb (x1 &&& 7) 8) <|
  stp (up2 C (c + 1) (x1 &&& 7).toNatClampNeg x2) fun C2 =>
  some ((), C2)
set_option maxHeartbeats 4000000 in
theorem bc_Core_sets {g : gC} {X : Cxt} {r : Unit} {C' : Mem} {c : Nat} (hc : cC c) (O : OkC g X cX4_sets 3 none RX4 0 0 (cQv g r C')) (x1 : Int32) (x2 : Int32) (C : Mem) (h : fc_Core_sets c x1 x2 C = some (r, C')) : V X 3 0 (WdC g C) 0 [(0, .ref (gCa g c)), (1, .int x1), (2, .int x2)] [] := by
  unfold fc_Core_sets at h
  refine v_aload_n O.1 dX4_sets_0 rfl (q := 1) rfl ?_
  refine c_getC O hc 3 (v := .ref (gCa g (c + 1))) (by decide) (O.lk q833) rfl (fun _ => rfl) dX4_sets_1 (q := 4) rfl ?_
  refine v_iload_n O.1 dX4_sets_4 rfl (q := 5) rfl ?_
  refine v_bipush O.1 dX4_sets_5 (v := 7) (by decide) (q := 7) rfl ?_
  refine v_iand O.1 dX4_sets_7 (q := 8) rfl ?_
  refine v_iload_n O.1 dX4_sets_8 rfl (q := 9) rfl ?_
  obtain ⟨g1, h⟩ := gd_some h
  obtain ⟨C2, e2, h⟩ := stp_some h
  refine c_iast O (cIA_r hc) g1 rfl (j := (x1 &&& 7).toNatClampNeg) dX4_sets_9 (q := 10) rfl e2 ?_
  exact c_vret O h dX4_sets_10
theorem metc_Core_sets (l : Launch) (g : gC) (c : Nat) (hc : cC c) (x1 : Int32) (x2 : Int32) (C C' : Mem) (r : Unit) (h : fc_Core_sets c x1 x2 C = some (r, C')) : MetC l g yX4_sets cX4_sets 3 none 0 0 [.ref (gCa g c), .int x1, .int x2] C (cQv g r C') :=
  c_met (by decide) rfl (Nat.le_of_ble_eq_true rfl) (fun X O => bc_Core_sets hc O x1 x2 C h)
/-! RankEntry$Core.comes(II)V -/
def fc_Core_comes_29 (c : Nat) (y1 : Int32) (C : Mem) : Option (Unit × Mem) :=
  stp (up2 C c 30 y1) fun C1 =>
  some ((), C1)
set_option maxHeartbeats 4000000 in
theorem bc_Core_comes_29 {g : gC} {X : Cxt} {r : Unit} {C' : Mem} {c : Nat} (hc : cC c) (O : OkC g X cX4_comes 3 none RX4 1 0 (cQv g r C')) (y1 : Int32) (C : Mem) (h : fc_Core_comes_29 c y1 C = some (r, C')) : V X 3 0 (WdC g C) 29 [] [.int y1, .ref (gCa g c)] := by
  unfold fc_Core_comes_29 at h
  obtain ⟨C1, e1, h⟩ := stp_some h
  refine c_putC O hc 30 (u := y1) (ty := .int) (by decide) (by decide) (O.lk q884) rfl rfl rfl rfl rfl (fun _ => rfl) dX4_comes_29 (q := 32) rfl e1 ?_
  exact c_vret O h dX4_comes_32
def fc_Core_comes_16 (c : Nat) (x2 : Int32) (y1 : Int32) (C : Mem) : Option (Unit × Mem) :=
  stp (up2 C c 29 y1) fun C1 =>
  if 0 ≤ x2 then
    fc_Core_comes_29 c 0 C1
  else
    fc_Core_comes_29 c 1 C1
set_option maxHeartbeats 4000000 in
theorem bc_Core_comes_16 {g : gC} {X : Cxt} {r : Unit} {C' : Mem} {c : Nat} (hc : cC c) (O : OkC g X cX4_comes 3 none RX4 1 0 (cQv g r C')) (x2 : Int32) (y1 : Int32) (C : Mem) (h : fc_Core_comes_16 c x2 y1 C = some (r, C')) : V X 3 0 (WdC g C) 16 [(0, .ref (gCa g c)), (2, .int x2)] [.int y1, .ref (gCa g c)] := by
  unfold fc_Core_comes_16 at h
  obtain ⟨C1, e1, h⟩ := stp_some h
  refine c_putC O hc 29 (u := y1) (ty := .int) (by decide) (by decide) (O.lk q881) rfl rfl rfl rfl rfl (fun _ => rfl) dX4_comes_16 (q := 19) rfl e1 ?_
  refine v_aload_n O.1 dX4_comes_19 rfl (q := 20) rfl ?_
  refine v_iload_n O.1 dX4_comes_20 rfl (q := 21) rfl ?_
  refine v_if_ge O.1 dX4_comes_21 (t := 28) (by decide) (q := 24) rfl (fun c2 => ?_) (fun c2 => ?_)
  · rw [if_pos c2] at h
    refine v_iconst O.1 dX4_comes_28 (v := 0) rfl (q := 29) rfl ?_
    exact v_sub [] rfl (bc_Core_comes_29 hc O 0 C1 h)
  · rw [if_neg c2] at h
    refine v_iconst O.1 dX4_comes_24 (v := 1) rfl (q := 25) rfl ?_
    refine v_goto O.1 dX4_comes_25 (t := 29) (by decide) ?_
    exact v_sub [] rfl (bc_Core_comes_29 hc O 1 C1 h)
def fc_Core_comes (c : Nat) (x1 : Int32) (x2 : Int32) (C : Mem) : Option (Unit × Mem) :=
  bnd (fc_Core_sets c x1 x2 C) fun r1 C1 =>
  if x2 = 0 then
    fc_Core_comes_16 c x2 1 C1
  else
    fc_Core_comes_16 c x2 0 C1
set_option maxHeartbeats 4000000 in
theorem bc_Core_comes {g : gC} {X : Cxt} {r : Unit} {C' : Mem} {c : Nat} (hc : cC c) (O : OkC g X cX4_comes 3 none RX4 1 0 (cQv g r C')) (x1 : Int32) (x2 : Int32) (C : Mem) (h : fc_Core_comes c x1 x2 C = some (r, C')) : V X 3 0 (WdC g C) 0 [(0, .ref (gCa g c)), (1, .int x1), (2, .int x2)] [] := by
  unfold fc_Core_comes at h
  refine v_aload_n O.1 dX4_comes_0 rfl (q := 1) rfl ?_
  refine v_iload_n O.1 dX4_comes_1 rfl (q := 2) rfl ?_
  refine v_iload_n O.1 dX4_comes_2 rfl (q := 3) rfl ?_
  obtain ⟨r1, C1, e1, h⟩ := bnd_some h
  refine c_callVv (As := [.int x1, .int x2]) (rest := []) (n := 2) (ci := 2) (p := (RX4, TX4, 55)) O (cC_lt (j := 0) hc (by decide)) rfl (fun _ _ => ⟨_, cCell_core hc⟩) (metc_Core_sets _ g c hc x1 x2 C C1 r1 e1) (lw_V q537 q427 q428 q63 q429) (by decide +kernel) (by decide) (by decide) rfl rfl (Nat.le_of_ble_eq_true rfl) dX4_comes_3 (q := 6) rfl (b' := 0) rfl ?_
  refine v_aload_n O.1 dX4_comes_6 rfl (q := 7) rfl ?_
  refine v_iload_n O.1 dX4_comes_7 rfl (q := 8) rfl ?_
  refine v_if_ne O.1 dX4_comes_8 (t := 15) (by decide) (q := 11) rfl (fun c2 => ?_) (fun c2 => ?_)
  · rw [if_neg c2] at h
    refine v_iconst O.1 dX4_comes_15 (v := 0) rfl (q := 16) rfl ?_
    exact v_sub [0, 2] rfl (bc_Core_comes_16 hc O x2 0 C1 h)
  · rw [if_pos c2] at h
    refine v_iconst O.1 dX4_comes_11 (v := 1) rfl (q := 12) rfl ?_
    refine v_goto O.1 dX4_comes_12 (t := 16) (by decide) ?_
    exact v_sub [0, 2] rfl (bc_Core_comes_16 hc O x2 1 C1 h)
theorem metc_Core_comes (l : Launch) (g : gC) (c : Nat) (hc : cC c) (x1 : Int32) (x2 : Int32) (C C' : Mem) (r : Unit) (h : fc_Core_comes c x1 x2 C = some (r, C')) : MetC l g yX4_comes cX4_comes 3 none 1 0 [.ref (gCa g c), .int x1, .int x2] C (cQv g r C') :=
  c_met (by decide) rfl (Nat.le_of_ble_eq_true rfl) (fun X O => bc_Core_comes hc O x1 x2 C h)
/-! RankEntry$Core.grows(I)V -/
def fc_Core_grows_44 (c : Nat) (y2 : Int32) (y1 : Int32) (C : Mem) : Option (Unit × Mem) :=
  gd (inb y1 14) <|
  stp (up2 C (c + 9) y1.toNatClampNeg y2) fun C2 =>
  some ((), C2)
set_option maxHeartbeats 4000000 in
theorem bc_Core_grows_44 {g : gC} {X : Cxt} {r : Unit} {C' : Mem} {c : Nat} (hc : cC c) (O : OkC g X cX4_grows 2 none RX4 0 0 (cQv g r C')) (y2 : Int32) (y1 : Int32) (C : Mem) (h : fc_Core_grows_44 c y2 y1 C = some (r, C')) : V X 2 0 (WdC g C) 44 [] [.int y2, .int y1, .ref (gCa g (c + 9))] := by
  unfold fc_Core_grows_44 at h
  obtain ⟨g1, h⟩ := gd_some h
  obtain ⟨C2, e2, h⟩ := stp_some h
  refine c_iast O (cIA_counts hc) g1 rfl (j := y1.toNatClampNeg) dX4_grows_44 (q := 45) rfl e2 ?_
  exact c_vret O h dX4_grows_45
def fc_Core_grows (c : Nat) (x1 : Int32) (C : Mem) : Option (Unit × Mem) :=
  stp (up2 C c 32 ((C c 32) + x1)) fun C1 =>
  if (C1 c 32) ≤ (C1 (c + 9) 13) then
    fc_Core_grows_44 c (C1 (c + 9) 13) 13 C1
  else
    fc_Core_grows_44 c (C1 c 32) 13 C1
set_option maxHeartbeats 4000000 in
theorem bc_Core_grows {g : gC} {X : Cxt} {r : Unit} {C' : Mem} {c : Nat} (hc : cC c) (O : OkC g X cX4_grows 2 none RX4 0 0 (cQv g r C')) (x1 : Int32) (C : Mem) (h : fc_Core_grows c x1 C = some (r, C')) : V X 2 0 (WdC g C) 0 [(0, .ref (gCa g c)), (1, .int x1)] [] := by
  unfold fc_Core_grows at h
  refine v_aload_n O.1 dX4_grows_0 rfl (q := 1) rfl ?_
  refine v_dup O.1 dX4_grows_1 rfl (q := 2) rfl ?_
  refine c_getC O hc 32 (v := .int (C c 32)) (by decide) (O.lk q893) rfl (fun _ => rfl) dX4_grows_2 (q := 5) rfl ?_
  refine v_iload_n O.1 dX4_grows_5 rfl (q := 6) rfl ?_
  refine v_iadd O.1 dX4_grows_6 (q := 7) rfl ?_
  obtain ⟨C1, e1, h⟩ := stp_some h
  refine c_putC O hc 32 (u := ((C c 32) + x1)) (ty := .int) (by decide) (by decide) (O.lk q893) rfl rfl rfl rfl rfl (fun _ => rfl) dX4_grows_7 (q := 10) rfl e1 ?_
  refine v_aload_n O.1 dX4_grows_10 rfl (q := 11) rfl ?_
  refine c_getC O hc 11 (v := .ref (gCa g (c + 9))) (by decide) (O.lk q858) rfl (fun _ => rfl) dX4_grows_11 (q := 14) rfl ?_
  refine v_bipush O.1 dX4_grows_14 (v := 13) (by decide) (q := 16) rfl ?_
  refine v_aload_n O.1 dX4_grows_16 rfl (q := 17) rfl ?_
  refine c_getC O hc 32 (v := .int (C1 c 32)) (by decide) (O.lk q893) rfl (fun _ => rfl) dX4_grows_17 (q := 20) rfl ?_
  refine v_aload_n O.1 dX4_grows_20 rfl (q := 21) rfl ?_
  refine c_getC O hc 11 (v := .ref (gCa g (c + 9))) (by decide) (O.lk q858) rfl (fun _ => rfl) dX4_grows_21 (q := 24) rfl ?_
  refine v_bipush O.1 dX4_grows_24 (v := 13) (by decide) (q := 26) rfl ?_
  refine c_iald O (cIA_counts hc) (by decide) (by decide) (j := 13) dX4_grows_26 (q := 27) rfl ?_
  refine v_icmp_le O.1 dX4_grows_27 (t := 37) (by decide) (q := 30) rfl (fun c2 => ?_) (fun c2 => ?_)
  · rw [if_pos c2] at h
    refine v_aload_n O.1 dX4_grows_37 rfl (q := 38) rfl ?_
    refine c_getC O hc 11 (v := .ref (gCa g (c + 9))) (by decide) (O.lk q858) rfl (fun _ => rfl) dX4_grows_38 (q := 41) rfl ?_
    refine v_bipush O.1 dX4_grows_41 (v := 13) (by decide) (q := 43) rfl ?_
    refine c_iald O (cIA_counts hc) (by decide) (by decide) (j := 13) dX4_grows_43 (q := 44) rfl ?_
    exact v_sub [] rfl (bc_Core_grows_44 hc O (C1 (c + 9) 13) 13 C1 h)
  · rw [if_neg c2] at h
    refine v_aload_n O.1 dX4_grows_30 rfl (q := 31) rfl ?_
    refine c_getC O hc 32 (v := .int (C1 c 32)) (by decide) (O.lk q893) rfl (fun _ => rfl) dX4_grows_31 (q := 34) rfl ?_
    refine v_goto O.1 dX4_grows_34 (t := 44) (by decide) ?_
    exact v_sub [] rfl (bc_Core_grows_44 hc O (C1 c 32) 13 C1 h)
theorem metc_Core_grows (l : Launch) (g : gC) (c : Nat) (hc : cC c) (x1 : Int32) (C C' : Mem) (r : Unit) (h : fc_Core_grows c x1 C = some (r, C')) : MetC l g yX4_grows cX4_grows 2 none 0 0 [.ref (gCa g c), .int x1] C (cQv g r C') :=
  c_met (by decide) rfl (Nat.le_of_ble_eq_true rfl) (fun X O => bc_Core_grows hc O x1 C h)
/-! RankEntry$Core.pushes(I)Z -/
def fc_Core_pushes (c : Nat) (x1 : Int32) (C : Mem) : Option (Int32 × Mem) :=
  if (C c 32) = 96 then
    some (0, C)
  else
    gd (inb (C c 32) 96) <|
    stp (up2 C (c + 4) (C c 32).toNatClampNeg x1) fun C3 =>
    bnd (fc_Core_grows c 1 C3) fun r4 C4 =>
    some (1, C4)
set_option maxHeartbeats 4000000 in
theorem bc_Core_pushes {g : gC} {X : Cxt} {r : Int32} {C' : Mem} {c : Nat} (hc : cC c) (O : OkC g X cX4_pushes 2 (some .boolean) RX4 1 0 (cQi g r C')) (x1 : Int32) (C : Mem) (h : fc_Core_pushes c x1 C = some (r, C')) : V X 2 0 (WdC g C) 0 [(0, .ref (gCa g c)), (1, .int x1)] [] := by
  unfold fc_Core_pushes at h
  refine v_aload_n O.1 dX4_pushes_0 rfl (q := 1) rfl ?_
  refine c_getC O hc 32 (v := .int (C c 32)) (by decide) (O.lk q893) rfl (fun _ => rfl) dX4_pushes_1 (q := 4) rfl ?_
  refine v_bipush O.1 dX4_pushes_4 (v := 96) (by decide) (q := 6) rfl ?_
  refine v_icmp_ne O.1 dX4_pushes_6 (t := 11) (by decide) (q := 9) rfl (fun c1 => ?_) (fun c1 => ?_)
  · rw [if_neg c1] at h
    refine v_aload_n O.1 dX4_pushes_11 rfl (q := 12) rfl ?_
    refine c_getC O hc 6 (v := .ref (gCa g (c + 4))) (by decide) (O.lk q844) rfl (fun _ => rfl) dX4_pushes_12 (q := 15) rfl ?_
    refine v_aload_n O.1 dX4_pushes_15 rfl (q := 16) rfl ?_
    refine c_getC O hc 32 (v := .int (C c 32)) (by decide) (O.lk q893) rfl (fun _ => rfl) dX4_pushes_16 (q := 19) rfl ?_
    refine v_iload_n O.1 dX4_pushes_19 rfl (q := 20) rfl ?_
    obtain ⟨g2, h⟩ := gd_some h
    obtain ⟨C3, e3, h⟩ := stp_some h
    refine c_iast O (cIA_stack hc) g2 rfl (j := (C c 32).toNatClampNeg) dX4_pushes_20 (q := 21) rfl e3 ?_
    refine v_aload_n O.1 dX4_pushes_21 rfl (q := 22) rfl ?_
    refine v_iconst O.1 dX4_pushes_22 (v := 1) rfl (q := 23) rfl ?_
    obtain ⟨r4, C4, e4, h⟩ := bnd_some h
    refine c_callVv (As := [.int 1]) (rest := []) (n := 1) (ci := 2) (p := (RX4, TX4, 55)) O (cC_lt (j := 0) hc (by decide)) rfl (fun _ _ => ⟨_, cCell_core hc⟩) (metc_Core_grows _ g c hc 1 C3 C4 r4 e4) (lw_V q299 q300 q301 q63 q302) (by decide +kernel) (by decide) (by decide) rfl rfl (Nat.le_of_ble_eq_true rfl) dX4_pushes_23 (q := 26) rfl (b' := 0) rfl ?_
    refine v_iconst O.1 dX4_pushes_26 (v := 1) rfl (q := 27) rfl ?_
    exact c_zret O (by decide) h dX4_pushes_27
  · rw [if_pos c1] at h
    refine v_iconst O.1 dX4_pushes_9 (v := 0) rfl (q := 10) rfl ?_
    exact c_zret O (by decide) h dX4_pushes_10
theorem metc_Core_pushes (l : Launch) (g : gC) (c : Nat) (hc : cC c) (x1 : Int32) (C C' : Mem) (r : Int32) (h : fc_Core_pushes c x1 C = some (r, C')) : MetC l g yX4_pushes cX4_pushes 2 (some .boolean) 1 0 [.ref (gCa g c), .int x1] C (cQi g r C') :=
  c_met (by decide) rfl (Nat.le_of_ble_eq_true rfl) (fun X O => bc_Core_pushes hc O x1 C h)
/-! RankEntry$Core.setsFloat(IF)V -/
def fc_Core_setsFloat (c : Nat) (x1 : Int32) (x2 : UInt32) (C : Mem) : Option (Unit × Mem) :=
  gd (inb (x1 &&& 3) 4) <|
  stp (up2 C (c + 2) (x1 &&& 3).toNatClampNeg x2.toInt32) fun C2 =>
  some ((), C2)
set_option maxHeartbeats 4000000 in
theorem bc_Core_setsFloat {g : gC} {X : Cxt} {r : Unit} {C' : Mem} {c : Nat} (hc : cC c) (O : OkC g X cX4_setsFloat 3 none RX4 0 0 (cQv g r C')) (x1 : Int32) (x2 : UInt32) (C : Mem) (h : fc_Core_setsFloat c x1 x2 C = some (r, C')) : V X 3 0 (WdC g C) 0 [(0, .ref (gCa g c)), (1, .int x1), (2, .float x2)] [] := by
  unfold fc_Core_setsFloat at h
  refine v_aload_n O.1 dX4_setsFloat_0 rfl (q := 1) rfl ?_
  refine c_getC O hc 4 (v := .ref (gCa g (c + 2))) (by decide) (O.lk q835) rfl (fun _ => rfl) dX4_setsFloat_1 (q := 4) rfl ?_
  refine v_iload_n O.1 dX4_setsFloat_4 rfl (q := 5) rfl ?_
  refine v_iconst O.1 dX4_setsFloat_5 (v := 3) rfl (q := 6) rfl ?_
  refine v_iand O.1 dX4_setsFloat_6 (q := 7) rfl ?_
  refine v_fload_n O.1 dX4_setsFloat_7 rfl (q := 8) rfl ?_
  obtain ⟨g1, h⟩ := gd_some h
  obtain ⟨C2, e2, h⟩ := stp_some h
  refine c_fast O hc g1 rfl (j := (x1 &&& 3).toNatClampNeg) dX4_setsFloat_8 (q := 9) rfl e2 ?_
  exact c_vret O h dX4_setsFloat_9
theorem metc_Core_setsFloat (l : Launch) (g : gC) (c : Nat) (hc : cC c) (x1 : Int32) (x2 : UInt32) (C C' : Mem) (r : Unit) (h : fc_Core_setsFloat c x1 x2 C = some (r, C')) : MetC l g yX4_setsFloat cX4_setsFloat 3 none 0 0 [.ref (gCa g c), .int x1, .float x2] C (cQv g r C') :=
  c_met (by decide) rfl (Nat.le_of_ble_eq_true rfl) (fun X O => bc_Core_setsFloat hc O x1 x2 C h)
/-! RankEntry$Core.tells(I)V -/
def fc_Core_tells_19 (c : Nat)  (C : Mem) : Option (Unit × Mem) :=
  stp (up2 C c 50 ((C c 50) + 1)) fun C1 =>
  some ((), C1)
set_option maxHeartbeats 4000000 in
theorem bc_Core_tells_19 {g : gC} {X : Cxt} {r : Unit} {C' : Mem} {c : Nat} (hc : cC c) (O : OkC g X cX4_tells 2 none RX4 0 0 (cQv g r C'))  (C : Mem) (h : fc_Core_tells_19 c  C = some (r, C')) : V X 2 0 (WdC g C) 19 [(0, .ref (gCa g c))] [] := by
  unfold fc_Core_tells_19 at h
  refine v_aload_n O.1 dX4_tells_19 rfl (q := 20) rfl ?_
  refine v_dup O.1 dX4_tells_20 rfl (q := 21) rfl ?_
  refine c_getC O hc 50 (v := .int (C c 50)) (by decide) (O.lk q929) rfl (fun _ => rfl) dX4_tells_21 (q := 24) rfl ?_
  refine v_iconst O.1 dX4_tells_24 (v := 1) rfl (q := 25) rfl ?_
  refine v_iadd O.1 dX4_tells_25 (q := 26) rfl ?_
  obtain ⟨C1, e1, h⟩ := stp_some h
  refine c_putC O hc 50 (u := ((C c 50) + 1)) (ty := .int) (by decide) (by decide) (O.lk q929) rfl rfl rfl rfl rfl (fun _ => rfl) dX4_tells_26 (q := 29) rfl e1 ?_
  exact c_vret O h dX4_tells_29
def fc_Core_tells (c : Nat) (x1 : Int32) (C : Mem) : Option (Unit × Mem) :=
  if 64 ≤ (C c 50) then
    fc_Core_tells_19 c C
  else
    gd (inb (C c 50) 64) <|
    stp (up2 C (c + 10) (C c 50).toNatClampNeg x1) fun C3 =>
    fc_Core_tells_19 c C3
set_option maxHeartbeats 4000000 in
theorem bc_Core_tells {g : gC} {X : Cxt} {r : Unit} {C' : Mem} {c : Nat} (hc : cC c) (O : OkC g X cX4_tells 2 none RX4 0 0 (cQv g r C')) (x1 : Int32) (C : Mem) (h : fc_Core_tells c x1 C = some (r, C')) : V X 2 0 (WdC g C) 0 [(0, .ref (gCa g c)), (1, .int x1)] [] := by
  unfold fc_Core_tells at h
  refine v_aload_n O.1 dX4_tells_0 rfl (q := 1) rfl ?_
  refine c_getC O hc 50 (v := .int (C c 50)) (by decide) (O.lk q929) rfl (fun _ => rfl) dX4_tells_1 (q := 4) rfl ?_
  refine v_bipush O.1 dX4_tells_4 (v := 64) (by decide) (q := 6) rfl ?_
  refine v_icmp_ge O.1 dX4_tells_6 (t := 19) (by decide) (q := 9) rfl (fun c1 => ?_) (fun c1 => ?_)
  · rw [if_pos c1] at h
    exact v_sub [0] rfl (bc_Core_tells_19 hc O C h)
  · rw [if_neg c1] at h
    refine v_aload_n O.1 dX4_tells_9 rfl (q := 10) rfl ?_
    refine c_getC O hc 12 (v := .ref (gCa g (c + 10))) (by decide) (O.lk q860) rfl (fun _ => rfl) dX4_tells_10 (q := 13) rfl ?_
    refine v_aload_n O.1 dX4_tells_13 rfl (q := 14) rfl ?_
    refine c_getC O hc 50 (v := .int (C c 50)) (by decide) (O.lk q929) rfl (fun _ => rfl) dX4_tells_14 (q := 17) rfl ?_
    refine v_iload_n O.1 dX4_tells_17 rfl (q := 18) rfl ?_
    obtain ⟨g2, h⟩ := gd_some h
    obtain ⟨C3, e3, h⟩ := stp_some h
    refine c_iast O (cIA_out hc) g2 rfl (j := (C c 50).toNatClampNeg) dX4_tells_18 (q := 19) rfl e3 ?_
    exact v_sub [0] rfl (bc_Core_tells_19 hc O C3 h)
theorem metc_Core_tells (l : Launch) (g : gC) (c : Nat) (hc : cC c) (x1 : Int32) (C C' : Mem) (r : Unit) (h : fc_Core_tells c x1 C = some (r, C')) : MetC l g yX4_tells cX4_tells 2 none 0 0 [.ref (gCa g c), .int x1] C (cQv g r C') :=
  c_met (by decide) rfl (Nat.le_of_ble_eq_true rfl) (fun X O => bc_Core_tells hc O x1 C h)
/-! RankEntry$Core.turns(I)V -/
def fc_Core_turns_74 (c : Nat) (y1 : Int32) (C : Mem) : Option (Unit × Mem) :=
  stp (up2 C c 24 y1) fun C1 =>
  some ((), C1)
set_option maxHeartbeats 4000000 in
theorem bc_Core_turns_74 {g : gC} {X : Cxt} {r : Unit} {C' : Mem} {c : Nat} (hc : cC c) (O : OkC g X cX4_turns 2 none RX4 0 0 (cQv g r C')) (y1 : Int32) (C : Mem) (h : fc_Core_turns_74 c y1 C = some (r, C')) : V X 2 0 (WdC g C) 74 [] [.ref (gCa g (c + 13 + (y1 : Int32).toNatClampNeg)), .ref (gCa g c)] := by
  unfold fc_Core_turns_74 at h
  obtain ⟨C1, e1, h⟩ := stp_some h
  refine c_putC O hc 24 (u := y1) (ty := .object "RankEntry$Phase") (by decide) (by decide) (O.lk q874) rfl rfl rfl rfl rfl (fun _ => rfl) dX4_turns_74 (q := 77) rfl e1 ?_
  exact c_vret O h dX4_turns_77
def fc_Core_turns (c : Nat) (x1 : Int32) (C : Mem) : Option (Unit × Mem) :=
  stp (up2 C c 41 x1) fun C1 =>
  stp (up2 C1 c 42 0) fun C2 =>
  if x1 = 0 then
    fc_Core_turns_74 c 0 C2
  else
    if x1 = 1 then
      fc_Core_turns_74 c 1 C2
    else
      if x1 = 2 then
        fc_Core_turns_74 c 2 C2
      else
        if x1 = 3 then
          fc_Core_turns_74 c 3 C2
        else
          if x1 = 4 then
            fc_Core_turns_74 c 4 C2
          else
            fc_Core_turns_74 c 5 C2
set_option maxHeartbeats 4000000 in
theorem bc_Core_turns {g : gC} {X : Cxt} {r : Unit} {C' : Mem} {c : Nat} (hc : cC c) (O : OkC g X cX4_turns 2 none RX4 0 0 (cQv g r C')) (x1 : Int32) (C : Mem) (h : fc_Core_turns c x1 C = some (r, C')) : V X 2 0 (WdC g C) 0 [(0, .ref (gCa g c)), (1, .int x1)] [] := by
  unfold fc_Core_turns at h
  refine v_aload_n O.1 dX4_turns_0 rfl (q := 1) rfl ?_
  refine v_iload_n O.1 dX4_turns_1 rfl (q := 2) rfl ?_
  obtain ⟨C1, e1, h⟩ := stp_some h
  refine c_putC O hc 41 (u := x1) (ty := .int) (by decide) (by decide) (O.lk q913) rfl rfl rfl rfl rfl (fun _ => rfl) dX4_turns_2 (q := 5) rfl e1 ?_
  refine v_aload_n O.1 dX4_turns_5 rfl (q := 6) rfl ?_
  refine v_iconst O.1 dX4_turns_6 (v := 0) rfl (q := 7) rfl ?_
  obtain ⟨C2, e2, h⟩ := stp_some h
  refine c_putC O hc 42 (u := 0) (ty := .int) (by decide) (by decide) (O.lk q915) rfl rfl rfl rfl rfl (fun _ => rfl) dX4_turns_7 (q := 10) rfl e2 ?_
  refine v_aload_n O.1 dX4_turns_10 rfl (q := 11) rfl ?_
  refine v_iload_n O.1 dX4_turns_11 rfl (q := 12) rfl ?_
  refine v_if_ne O.1 dX4_turns_12 (t := 22) (by decide) (q := 15) rfl (fun c3 => ?_) (fun c3 => ?_)
  · rw [if_neg c3] at h
    refine v_iload_n O.1 dX4_turns_22 rfl (q := 23) rfl ?_
    refine v_iconst O.1 dX4_turns_23 (v := 1) rfl (q := 24) rfl ?_
    refine v_icmp_ne O.1 dX4_turns_24 (t := 34) (by decide) (q := 27) rfl (fun c4 => ?_) (fun c4 => ?_)
    · rw [if_neg c4] at h
      refine v_iload_n O.1 dX4_turns_34 rfl (q := 35) rfl ?_
      refine v_iconst O.1 dX4_turns_35 (v := 2) rfl (q := 36) rfl ?_
      refine v_icmp_ne O.1 dX4_turns_36 (t := 46) (by decide) (q := 39) rfl (fun c5 => ?_) (fun c5 => ?_)
      · rw [if_neg c5] at h
        refine v_iload_n O.1 dX4_turns_46 rfl (q := 47) rfl ?_
        refine v_iconst O.1 dX4_turns_47 (v := 3) rfl (q := 48) rfl ?_
        refine v_icmp_ne O.1 dX4_turns_48 (t := 58) (by decide) (q := 51) rfl (fun c6 => ?_) (fun c6 => ?_)
        · rw [if_neg c6] at h
          refine v_iload_n O.1 dX4_turns_58 rfl (q := 59) rfl ?_
          refine v_iconst O.1 dX4_turns_59 (v := 4) rfl (q := 60) rfl ?_
          refine v_icmp_ne O.1 dX4_turns_60 (t := 70) (by decide) (q := 63) rfl (fun c7 => ?_) (fun c7 => ?_)
          · rw [if_neg c7] at h
            refine v_aload_n O.1 dX4_turns_70 rfl (q := 71) rfl ?_
            refine c_getC O hc 19 (v := .ref (gCa g (c + 13 + (5 : Int32).toNatClampNeg))) (by decide) (O.lk q869) rfl (fun _ => rfl) dX4_turns_71 (q := 74) rfl ?_
            exact v_sub [] rfl (bc_Core_turns_74 hc O 5 C2 h)
          · rw [if_pos c7] at h
            refine v_aload_n O.1 dX4_turns_63 rfl (q := 64) rfl ?_
            refine c_getC O hc 18 (v := .ref (gCa g (c + 13 + (4 : Int32).toNatClampNeg))) (by decide) (O.lk q868) rfl (fun _ => rfl) dX4_turns_64 (q := 67) rfl ?_
            refine v_goto O.1 dX4_turns_67 (t := 74) (by decide) ?_
            exact v_sub [] rfl (bc_Core_turns_74 hc O 4 C2 h)
        · rw [if_pos c6] at h
          refine v_aload_n O.1 dX4_turns_51 rfl (q := 52) rfl ?_
          refine c_getC O hc 17 (v := .ref (gCa g (c + 13 + (3 : Int32).toNatClampNeg))) (by decide) (O.lk q867) rfl (fun _ => rfl) dX4_turns_52 (q := 55) rfl ?_
          refine v_goto O.1 dX4_turns_55 (t := 74) (by decide) ?_
          exact v_sub [] rfl (bc_Core_turns_74 hc O 3 C2 h)
      · rw [if_pos c5] at h
        refine v_aload_n O.1 dX4_turns_39 rfl (q := 40) rfl ?_
        refine c_getC O hc 16 (v := .ref (gCa g (c + 13 + (2 : Int32).toNatClampNeg))) (by decide) (O.lk q866) rfl (fun _ => rfl) dX4_turns_40 (q := 43) rfl ?_
        refine v_goto O.1 dX4_turns_43 (t := 74) (by decide) ?_
        exact v_sub [] rfl (bc_Core_turns_74 hc O 2 C2 h)
    · rw [if_pos c4] at h
      refine v_aload_n O.1 dX4_turns_27 rfl (q := 28) rfl ?_
      refine c_getC O hc 15 (v := .ref (gCa g (c + 13 + (1 : Int32).toNatClampNeg))) (by decide) (O.lk q865) rfl (fun _ => rfl) dX4_turns_28 (q := 31) rfl ?_
      refine v_goto O.1 dX4_turns_31 (t := 74) (by decide) ?_
      exact v_sub [] rfl (bc_Core_turns_74 hc O 1 C2 h)
  · rw [if_pos c3] at h
    refine v_aload_n O.1 dX4_turns_15 rfl (q := 16) rfl ?_
    refine c_getC O hc 14 (v := .ref (gCa g (c + 13 + (0 : Int32).toNatClampNeg))) (by decide) (O.lk q864) rfl (fun _ => rfl) dX4_turns_16 (q := 19) rfl ?_
    refine v_goto O.1 dX4_turns_19 (t := 74) (by decide) ?_
    exact v_sub [] rfl (bc_Core_turns_74 hc O 0 C2 h)
theorem metc_Core_turns (l : Launch) (g : gC) (c : Nat) (hc : cC c) (x1 : Int32) (C C' : Mem) (r : Unit) (h : fc_Core_turns c x1 C = some (r, C')) : MetC l g yX4_turns cX4_turns 2 none 0 0 [.ref (gCa g c), .int x1] C (cQv g r C') :=
  c_met (by decide) rfl (Nat.le_of_ble_eq_true rfl) (fun X O => bc_Core_turns hc O x1 C h)
/-! RankEntry$Core.framed(I)I -/
def fc_Core_framed_54 (c : Nat) (y0 : Int32) (C : Mem) : Option (Int32 × Mem) :=
  some (y0, C)
set_option maxHeartbeats 4000000 in
theorem bc_Core_framed_54 {g : gC} {X : Cxt} {r : Int32} {C' : Mem} {c : Nat} (hc : cC c) (O : OkC g X cX4_framed 2 (some .int) RX4 0 0 (cQi g r C')) (y0 : Int32) (C : Mem) (h : fc_Core_framed_54 c y0 C = some (r, C')) : V X 2 0 (WdC g C) 54 [] [.int y0] := by
  unfold fc_Core_framed_54 at h
  exact c_iret O h dX4_framed_54
def fc_Core_framed_53 (c : Nat) (y1 : Int32) (y0 : Int32) (C : Mem) : Option (Int32 × Mem) :=
  fc_Core_framed_54 c (y0 + y1) C
set_option maxHeartbeats 4000000 in
theorem bc_Core_framed_53 {g : gC} {X : Cxt} {r : Int32} {C' : Mem} {c : Nat} (hc : cC c) (O : OkC g X cX4_framed 2 (some .int) RX4 0 0 (cQi g r C')) (y1 : Int32) (y0 : Int32) (C : Mem) (h : fc_Core_framed_53 c y1 y0 C = some (r, C')) : V X 2 0 (WdC g C) 53 [] [.int y1, .int y0] := by
  unfold fc_Core_framed_53 at h
  refine v_iadd O.1 dX4_framed_53 (q := 54) rfl ?_
  exact v_sub [] rfl (bc_Core_framed_54 hc O (y0 + y1) C h)
def fc_Core_framed (c : Nat) (x1 : Int32) (C : Mem) : Option (Int32 × Mem) :=
  if 4 ≤ x1 then
    if x1 = 4 then
      fc_Core_framed_54 c (C c 31) C
    else
      if (C c 49) = 0 then
        fc_Core_framed_53 c 0 ((23040 + (C c 29)) + (2 * (C c 30))) C
      else
        fc_Core_framed_53 c 4 ((23040 + (C c 29)) + (2 * (C c 30))) C
  else
    gd (inb x1 8) <|
    fc_Core_framed_54 c (C (c + 1) x1.toNatClampNeg) C
set_option maxHeartbeats 4000000 in
theorem bc_Core_framed {g : gC} {X : Cxt} {r : Int32} {C' : Mem} {c : Nat} (hc : cC c) (O : OkC g X cX4_framed 2 (some .int) RX4 0 0 (cQi g r C')) (x1 : Int32) (C : Mem) (h : fc_Core_framed c x1 C = some (r, C')) : V X 2 0 (WdC g C) 0 [(0, .ref (gCa g c)), (1, .int x1)] [] := by
  unfold fc_Core_framed at h
  refine v_iload_n O.1 dX4_framed_0 rfl (q := 1) rfl ?_
  refine v_iconst O.1 dX4_framed_1 (v := 4) rfl (q := 2) rfl ?_
  refine v_icmp_ge O.1 dX4_framed_2 (t := 14) (by decide) (q := 5) rfl (fun c1 => ?_) (fun c1 => ?_)
  · rw [if_pos c1] at h
    refine v_iload_n O.1 dX4_framed_14 rfl (q := 15) rfl ?_
    refine v_iconst O.1 dX4_framed_15 (v := 4) rfl (q := 16) rfl ?_
    refine v_icmp_ne O.1 dX4_framed_16 (t := 26) (by decide) (q := 19) rfl (fun c2 => ?_) (fun c2 => ?_)
    · rw [if_neg c2] at h
      refine v_sipush O.1 dX4_framed_26 (v := 23040) (by decide) (q := 29) rfl ?_
      refine v_aload_n O.1 dX4_framed_29 rfl (q := 30) rfl ?_
      refine c_getC O hc 29 (v := .int (C c 29)) (by decide) (O.lk q881) rfl (fun _ => rfl) dX4_framed_30 (q := 33) rfl ?_
      refine v_iadd O.1 dX4_framed_33 (q := 34) rfl ?_
      refine v_iconst O.1 dX4_framed_34 (v := 2) rfl (q := 35) rfl ?_
      refine v_aload_n O.1 dX4_framed_35 rfl (q := 36) rfl ?_
      refine c_getC O hc 30 (v := .int (C c 30)) (by decide) (O.lk q884) rfl (fun _ => rfl) dX4_framed_36 (q := 39) rfl ?_
      refine v_imul O.1 dX4_framed_39 (q := 40) rfl ?_
      refine v_iadd O.1 dX4_framed_40 (q := 41) rfl ?_
      refine v_aload_n O.1 dX4_framed_41 rfl (q := 42) rfl ?_
      refine c_getC O hc 49 (v := .int (C c 49)) (by decide) (O.lk q928) rfl (fun _ => rfl) dX4_framed_42 (q := 45) rfl ?_
      refine v_if_eq O.1 dX4_framed_45 (t := 52) (by decide) (q := 48) rfl (fun c3 => ?_) (fun c3 => ?_)
      · rw [if_pos c3] at h
        refine v_iconst O.1 dX4_framed_52 (v := 0) rfl (q := 53) rfl ?_
        exact v_sub [] rfl (bc_Core_framed_53 hc O 0 ((23040 + (C c 29)) + (2 * (C c 30))) C h)
      · rw [if_neg c3] at h
        refine v_iconst O.1 dX4_framed_48 (v := 4) rfl (q := 49) rfl ?_
        refine v_goto O.1 dX4_framed_49 (t := 53) (by decide) ?_
        exact v_sub [] rfl (bc_Core_framed_53 hc O 4 ((23040 + (C c 29)) + (2 * (C c 30))) C h)
    · rw [if_pos c2] at h
      refine v_aload_n O.1 dX4_framed_19 rfl (q := 20) rfl ?_
      refine c_getC O hc 31 (v := .int (C c 31)) (by decide) (O.lk q889) rfl (fun _ => rfl) dX4_framed_20 (q := 23) rfl ?_
      refine v_goto O.1 dX4_framed_23 (t := 54) (by decide) ?_
      exact v_sub [] rfl (bc_Core_framed_54 hc O (C c 31) C h)
  · rw [if_neg c1] at h
    refine v_aload_n O.1 dX4_framed_5 rfl (q := 6) rfl ?_
    refine c_getC O hc 3 (v := .ref (gCa g (c + 1))) (by decide) (O.lk q833) rfl (fun _ => rfl) dX4_framed_6 (q := 9) rfl ?_
    refine v_iload_n O.1 dX4_framed_9 rfl (q := 10) rfl ?_
    obtain ⟨g4, h⟩ := gd_some h
    refine c_iald O (cIA_r hc) g4 rfl (j := x1.toNatClampNeg) dX4_framed_10 (q := 11) rfl ?_
    refine v_goto O.1 dX4_framed_11 (t := 54) (by decide) ?_
    exact v_sub [] rfl (bc_Core_framed_54 hc O (C (c + 1) x1.toNatClampNeg) C h)
theorem metc_Core_framed (l : Launch) (g : gC) (c : Nat) (hc : cC c) (x1 : Int32) (C C' : Mem) (r : Int32) (h : fc_Core_framed c x1 C = some (r, C')) : MetC l g yX4_framed cX4_framed 2 (some .int) 0 0 [.ref (gCa g c), .int x1] C (cQi g r C') :=
  c_met (by decide) rfl (Nat.le_of_ble_eq_true rfl) (fun X O => bc_Core_framed hc O x1 C h)
/-! RankEntry$Core.isSaved()Z -/
def fc_Core_isSaved_26 (c : Nat) (y0 : Int32) (C : Mem) : Option (Int32 × Mem) :=
  gd (isB y0) <|
  some (y0, C)
set_option maxHeartbeats 4000000 in
theorem bc_Core_isSaved_26 {g : gC} {X : Cxt} {r : Int32} {C' : Mem} {c : Nat} (hc : cC c) (O : OkC g X cX4_isSaved 1 (some .boolean) RX4 0 0 (cQi g r C')) (y0 : Int32) (C : Mem) (h : fc_Core_isSaved_26 c y0 C = some (r, C')) : V X 1 0 (WdC g C) 26 [] [.int y0] := by
  unfold fc_Core_isSaved_26 at h
  obtain ⟨g1, h⟩ := gd_some h
  exact c_zret O g1 h dX4_isSaved_26
def fc_Core_isSaved_25 (c : Nat)  (C : Mem) : Option (Int32 × Mem) :=
  fc_Core_isSaved_26 c 0 C
set_option maxHeartbeats 4000000 in
theorem bc_Core_isSaved_25 {g : gC} {X : Cxt} {r : Int32} {C' : Mem} {c : Nat} (hc : cC c) (O : OkC g X cX4_isSaved 1 (some .boolean) RX4 0 0 (cQi g r C'))  (C : Mem) (h : fc_Core_isSaved_25 c  C = some (r, C')) : V X 1 0 (WdC g C) 25 [] [] := by
  unfold fc_Core_isSaved_25 at h
  refine v_iconst O.1 dX4_isSaved_25 (v := 0) rfl (q := 26) rfl ?_
  exact v_sub [] rfl (bc_Core_isSaved_26 hc O 0 C h)
def fc_Core_isSaved (c : Nat)  (C : Mem) : Option (Int32 × Mem) :=
  if (C c 49) = 0 then
    fc_Core_isSaved_25 c C
  else
    if (C c 46) = ((C c 32) - 10) then
      fc_Core_isSaved_25 c C
    else
      fc_Core_isSaved_26 c 1 C
set_option maxHeartbeats 4000000 in
theorem bc_Core_isSaved {g : gC} {X : Cxt} {r : Int32} {C' : Mem} {c : Nat} (hc : cC c) (O : OkC g X cX4_isSaved 1 (some .boolean) RX4 0 0 (cQi g r C'))  (C : Mem) (h : fc_Core_isSaved c  C = some (r, C')) : V X 1 0 (WdC g C) 0 [(0, .ref (gCa g c))] [] := by
  unfold fc_Core_isSaved at h
  refine v_aload_n O.1 dX4_isSaved_0 rfl (q := 1) rfl ?_
  refine c_getC O hc 49 (v := .int (C c 49)) (by decide) (O.lk q928) rfl (fun _ => rfl) dX4_isSaved_1 (q := 4) rfl ?_
  refine v_if_eq O.1 dX4_isSaved_4 (t := 25) (by decide) (q := 7) rfl (fun c1 => ?_) (fun c1 => ?_)
  · rw [if_pos c1] at h
    exact v_sub [] rfl (bc_Core_isSaved_25 hc O C h)
  · rw [if_neg c1] at h
    refine v_aload_n O.1 dX4_isSaved_7 rfl (q := 8) rfl ?_
    refine c_getC O hc 46 (v := .int (C c 46)) (by decide) (O.lk q924) rfl (fun _ => rfl) dX4_isSaved_8 (q := 11) rfl ?_
    refine v_aload_n O.1 dX4_isSaved_11 rfl (q := 12) rfl ?_
    refine c_getC O hc 32 (v := .int (C c 32)) (by decide) (O.lk q893) rfl (fun _ => rfl) dX4_isSaved_12 (q := 15) rfl ?_
    refine v_bipush O.1 dX4_isSaved_15 (v := 10) (by decide) (q := 17) rfl ?_
    refine v_isub O.1 dX4_isSaved_17 (q := 18) rfl ?_
    refine v_icmp_eq O.1 dX4_isSaved_18 (t := 25) (by decide) (q := 21) rfl (fun c2 => ?_) (fun c2 => ?_)
    · rw [if_pos c2] at h
      exact v_sub [] rfl (bc_Core_isSaved_25 hc O C h)
    · rw [if_neg c2] at h
      refine v_iconst O.1 dX4_isSaved_21 (v := 1) rfl (q := 22) rfl ?_
      refine v_goto O.1 dX4_isSaved_22 (t := 26) (by decide) ?_
      exact v_sub [] rfl (bc_Core_isSaved_26 hc O 1 C h)
theorem metc_Core_isSaved (l : Launch) (g : gC) (c : Nat) (hc : cC c) (C C' : Mem) (r : Int32) (h : fc_Core_isSaved c C = some (r, C')) : MetC l g yX4_isSaved cX4_isSaved 1 (some .boolean) 0 0 [.ref (gCa g c)] C (cQi g r C') :=
  c_met (by decide) rfl (Nat.le_of_ble_eq_true rfl) (fun X O => bc_Core_isSaved hc O C h)
/-! RankEntry$Core.locked()V -/
def fc_Core_locked (c : Nat)  (C : Mem) : Option (Unit × Mem) :=
  stp (up2 C c 43 0) fun C1 =>
  some ((), C1)
set_option maxHeartbeats 4000000 in
theorem bc_Core_locked {g : gC} {X : Cxt} {r : Unit} {C' : Mem} {c : Nat} (hc : cC c) (O : OkC g X cX4_locked 1 none RX4 0 0 (cQv g r C'))  (C : Mem) (h : fc_Core_locked c  C = some (r, C')) : V X 1 0 (WdC g C) 0 [(0, .ref (gCa g c))] [] := by
  unfold fc_Core_locked at h
  refine v_aload_n O.1 dX4_locked_0 rfl (q := 1) rfl ?_
  refine v_iconst O.1 dX4_locked_1 (v := 0) rfl (q := 2) rfl ?_
  obtain ⟨C1, e1, h⟩ := stp_some h
  refine c_putC O hc 43 (u := 0) (ty := .int) (by decide) (by decide) (O.lk q917) rfl rfl rfl rfl rfl (fun _ => rfl) dX4_locked_2 (q := 5) rfl e1 ?_
  exact c_vret O h dX4_locked_5
theorem metc_Core_locked (l : Launch) (g : gC) (c : Nat) (hc : cC c) (C C' : Mem) (r : Unit) (h : fc_Core_locked c C = some (r, C')) : MetC l g yX4_locked cX4_locked 1 none 0 0 [.ref (gCa g c)] C (cQv g r C') :=
  c_met (by decide) rfl (Nat.le_of_ble_eq_true rfl) (fun X O => bc_Core_locked hc O C h)
/-! RankEntry$Core.plays(Z)V -/
def fc_Core_plays_40 (c : Nat) (y1 : Int32) (C : Mem) : Option (Unit × Mem) :=
  stp (up2 C c 26 y1) fun C1 =>
  stp (up2 C1 c 53 0) fun C2 =>
  some ((), C2)
set_option maxHeartbeats 4000000 in
theorem bc_Core_plays_40 {g : gC} {X : Cxt} {r : Unit} {C' : Mem} {c : Nat} (hc : cC c) (O : OkC g X cX4_plays 2 none RX4 0 0 (cQv g r C')) (y1 : Int32) (C : Mem) (h : fc_Core_plays_40 c y1 C = some (r, C')) : V X 2 0 (WdC g C) 40 [(0, .ref (gCa g c))] [.ref (cMc g y1), .ref (gCa g c)] := by
  unfold fc_Core_plays_40 at h
  obtain ⟨C1, e1, h⟩ := stp_some h
  refine c_putC O hc 26 (u := y1) (ty := .object "RankEntry$Chains") (by decide) (by decide) (O.lk q876) rfl rfl rfl rfl rfl (fun _ => rfl) dX4_plays_40 (q := 43) rfl e1 ?_
  refine v_aload_n O.1 dX4_plays_43 rfl (q := 44) rfl ?_
  refine v_iconst O.1 dX4_plays_44 (v := 0) rfl (q := 45) rfl ?_
  obtain ⟨C2, e2, h⟩ := stp_some h
  refine c_putC O hc 53 (u := 0) (ty := .int) (by decide) (by decide) (O.lk q935) rfl rfl rfl rfl rfl (fun _ => rfl) dX4_plays_45 (q := 48) rfl e2 ?_
  exact c_vret O h dX4_plays_48
def fc_Core_plays_21 (c : Nat) (x1 : Int32) (y1 : Int32) (C : Mem) : Option (Unit × Mem) :=
  stp (up2 C c 25 y1) fun C1 =>
  if x1 = 0 then
    fc_Core_plays_40 c 0 C1
  else
    fc_Core_plays_40 c 1 C1
set_option maxHeartbeats 4000000 in
theorem bc_Core_plays_21 {g : gC} {X : Cxt} {r : Unit} {C' : Mem} {c : Nat} (hc : cC c) (O : OkC g X cX4_plays 2 none RX4 0 0 (cQv g r C')) (x1 : Int32) (y1 : Int32) (C : Mem) (h : fc_Core_plays_21 c x1 y1 C = some (r, C')) : V X 2 0 (WdC g C) 21 [(0, .ref (gCa g c)), (1, .int x1)] [.ref (cCh g c y1), .ref (gCa g c)] := by
  unfold fc_Core_plays_21 at h
  obtain ⟨C1, e1, h⟩ := stp_some h
  refine c_putC O hc 25 (u := y1) (ty := .object "RankEntry$Choice") (by decide) (by decide) (O.lk q875) rfl rfl rfl rfl rfl (fun _ => rfl) dX4_plays_21 (q := 24) rfl e1 ?_
  refine v_aload_n O.1 dX4_plays_24 rfl (q := 25) rfl ?_
  refine v_iload_n O.1 dX4_plays_25 rfl (q := 26) rfl ?_
  refine v_if_eq O.1 dX4_plays_26 (t := 36) (by decide) (q := 29) rfl (fun c2 => ?_) (fun c2 => ?_)
  · rw [if_pos c2] at h
    refine v_aload_n O.1 dX4_plays_36 rfl (q := 37) rfl ?_
    refine c_getC O hc 22 (v := .ref (cMc g 0)) (by decide) (O.lk q872) rfl (fun _ => rfl) dX4_plays_37 (q := 40) rfl ?_
    exact v_sub [0] rfl (bc_Core_plays_40 hc O 0 C1 h)
  · rw [if_neg c2] at h
    refine v_aload_n O.1 dX4_plays_29 rfl (q := 30) rfl ?_
    refine c_getC O hc 23 (v := .ref (cMc g 1)) (by decide) (O.lk q873) rfl (fun _ => rfl) dX4_plays_30 (q := 33) rfl ?_
    refine v_goto O.1 dX4_plays_33 (t := 40) (by decide) ?_
    exact v_sub [0] rfl (bc_Core_plays_40 hc O 1 C1 h)
def fc_Core_plays (c : Nat) (x1 : Int32) (C : Mem) : Option (Unit × Mem) :=
  stp (up2 C c 28 1) fun C1 =>
  if x1 = 0 then
    fc_Core_plays_21 c x1 0 C1
  else
    fc_Core_plays_21 c x1 1 C1
set_option maxHeartbeats 4000000 in
theorem bc_Core_plays {g : gC} {X : Cxt} {r : Unit} {C' : Mem} {c : Nat} (hc : cC c) (O : OkC g X cX4_plays 2 none RX4 0 0 (cQv g r C')) (x1 : Int32) (C : Mem) (h : fc_Core_plays c x1 C = some (r, C')) : V X 2 0 (WdC g C) 0 [(0, .ref (gCa g c)), (1, .int x1)] [] := by
  unfold fc_Core_plays at h
  refine v_aload_n O.1 dX4_plays_0 rfl (q := 1) rfl ?_
  refine v_iconst O.1 dX4_plays_1 (v := 1) rfl (q := 2) rfl ?_
  obtain ⟨C1, e1, h⟩ := stp_some h
  refine c_putC O hc 28 (u := 1) (ty := .boolean) (by decide) (by decide) (O.lk q879) rfl rfl rfl rfl rfl (fun _ => rfl) dX4_plays_2 (q := 5) rfl e1 ?_
  refine v_aload_n O.1 dX4_plays_5 rfl (q := 6) rfl ?_
  refine v_iload_n O.1 dX4_plays_6 rfl (q := 7) rfl ?_
  refine v_if_eq O.1 dX4_plays_7 (t := 17) (by decide) (q := 10) rfl (fun c2 => ?_) (fun c2 => ?_)
  · rw [if_pos c2] at h
    refine v_aload_n O.1 dX4_plays_17 rfl (q := 18) rfl ?_
    refine c_getC O hc 20 (v := .ref (cCh g c 0)) (by decide) (O.lk q870) rfl (fun _ => rfl) dX4_plays_18 (q := 21) rfl ?_
    exact v_sub [0, 1] rfl (bc_Core_plays_21 hc O x1 0 C1 h)
  · rw [if_neg c2] at h
    refine v_aload_n O.1 dX4_plays_10 rfl (q := 11) rfl ?_
    refine c_getC O hc 21 (v := .ref (cCh g c 1)) (by decide) (O.lk q871) rfl (fun _ => rfl) dX4_plays_11 (q := 14) rfl ?_
    refine v_goto O.1 dX4_plays_14 (t := 21) (by decide) ?_
    exact v_sub [0, 1] rfl (bc_Core_plays_21 hc O x1 1 C1 h)
theorem metc_Core_plays (l : Launch) (g : gC) (c : Nat) (hc : cC c) (x1 : Int32) (C C' : Mem) (r : Unit) (h : fc_Core_plays c x1 C = some (r, C')) : MetC l g yX4_plays cX4_plays 2 none 0 0 [.ref (gCa g c), .int x1] C (cQv g r C') :=
  c_met (by decide) rfl (Nat.le_of_ble_eq_true rfl) (fun X O => bc_Core_plays hc O x1 C h)
/-! RankEntry.within(III)Z -/
def fc_RE_within_15 (y0 : Int32) (C : Mem) : Option (Int32 × Mem) :=
  gd (isB y0) <|
  some (y0, C)
set_option maxHeartbeats 4000000 in
theorem bc_RE_within_15 {g : gC} {X : Cxt} {r : Int32} {C' : Mem} (O : OkC g X cX1_within 3 (some .boolean) RX1 0 0 (cQi g r C')) (y0 : Int32) (C : Mem) (h : fc_RE_within_15 y0 C = some (r, C')) : V X 3 0 (WdC g C) 15 [] [.int y0] := by
  unfold fc_RE_within_15 at h
  obtain ⟨g1, h⟩ := gd_some h
  exact c_zret O g1 h dX1_within_15
def fc_RE_within_14  (C : Mem) : Option (Int32 × Mem) :=
  fc_RE_within_15 0 C
set_option maxHeartbeats 4000000 in
theorem bc_RE_within_14 {g : gC} {X : Cxt} {r : Int32} {C' : Mem} (O : OkC g X cX1_within 3 (some .boolean) RX1 0 0 (cQi g r C'))  (C : Mem) (h : fc_RE_within_14  C = some (r, C')) : V X 3 0 (WdC g C) 14 [] [] := by
  unfold fc_RE_within_14 at h
  refine v_iconst O.1 dX1_within_14 (v := 0) rfl (q := 15) rfl ?_
  exact v_sub [] rfl (bc_RE_within_15 O 0 C h)
def fc_RE_within (x0 : Int32) (x1 : Int32) (x2 : Int32) (C : Mem) : Option (Int32 × Mem) :=
  if x0 < x1 then
    fc_RE_within_14 C
  else
    if x2 < x0 then
      fc_RE_within_14 C
    else
      fc_RE_within_15 1 C
set_option maxHeartbeats 4000000 in
theorem bc_RE_within {g : gC} {X : Cxt} {r : Int32} {C' : Mem} (O : OkC g X cX1_within 3 (some .boolean) RX1 0 0 (cQi g r C')) (x0 : Int32) (x1 : Int32) (x2 : Int32) (C : Mem) (h : fc_RE_within x0 x1 x2 C = some (r, C')) : V X 3 0 (WdC g C) 0 [(0, .int x0), (1, .int x1), (2, .int x2)] [] := by
  unfold fc_RE_within at h
  refine v_iload_n O.1 dX1_within_0 rfl (q := 1) rfl ?_
  refine v_iload_n O.1 dX1_within_1 rfl (q := 2) rfl ?_
  refine v_icmp_lt O.1 dX1_within_2 (t := 14) (by decide) (q := 5) rfl (fun c1 => ?_) (fun c1 => ?_)
  · rw [if_pos c1] at h
    exact v_sub [] rfl (bc_RE_within_14 O C h)
  · rw [if_neg c1] at h
    refine v_iload_n O.1 dX1_within_5 rfl (q := 6) rfl ?_
    refine v_iload_n O.1 dX1_within_6 rfl (q := 7) rfl ?_
    refine v_icmp_gt O.1 dX1_within_7 (t := 14) (by decide) (q := 10) rfl (fun c2 => ?_) (fun c2 => ?_)
    · rw [if_pos c2] at h
      exact v_sub [] rfl (bc_RE_within_14 O C h)
    · rw [if_neg c2] at h
      refine v_iconst O.1 dX1_within_10 (v := 1) rfl (q := 11) rfl ?_
      refine v_goto O.1 dX1_within_11 (t := 15) (by decide) ?_
      exact v_sub [] rfl (bc_RE_within_15 O 1 C h)
theorem metc_RE_within (l : Launch) (g : gC) (x0 : Int32) (x1 : Int32) (x2 : Int32) (C C' : Mem) (r : Int32) (h : fc_RE_within x0 x1 x2 C = some (r, C')) : MetC l g yX1_within cX1_within 3 (some .boolean) 0 0 [.int x0, .int x1, .int x2] C (cQi g r C') :=
  c_met (by decide) rfl (Nat.le_of_ble_eq_true rfl) (fun X O => bc_RE_within O x0 x1 x2 C h)
/-! RankEntry$Op.target(II)I -/
def fc_Op_target (x0 : Int32) (x1 : Int32) (C : Mem) : Option (Int32 × Mem) :=
  some ((((256 * x0) + x1) &&& 511), C)
set_option maxHeartbeats 4000000 in
theorem bc_Op_target {g : gC} {X : Cxt} {r : Int32} {C' : Mem} (O : OkC g X cX3_target 2 (some .int) RX3 0 0 (cQi g r C')) (x0 : Int32) (x1 : Int32) (C : Mem) (h : fc_Op_target x0 x1 C = some (r, C')) : V X 2 0 (WdC g C) 0 [(0, .int x0), (1, .int x1)] [] := by
  unfold fc_Op_target at h
  refine v_sipush O.1 dX3_target_0 (v := 256) (by decide) (q := 3) rfl ?_
  refine v_iload_n O.1 dX3_target_3 rfl (q := 4) rfl ?_
  refine v_imul O.1 dX3_target_4 (q := 5) rfl ?_
  refine v_iload_n O.1 dX3_target_5 rfl (q := 6) rfl ?_
  refine v_iadd O.1 dX3_target_6 (q := 7) rfl ?_
  refine v_sipush O.1 dX3_target_7 (v := 511) (by decide) (q := 10) rfl ?_
  refine v_iand O.1 dX3_target_10 (q := 11) rfl ?_
  exact c_iret O h dX3_target_11
theorem metc_Op_target (l : Launch) (g : gC) (x0 : Int32) (x1 : Int32) (C C' : Mem) (r : Int32) (h : fc_Op_target x0 x1 C = some (r, C')) : MetC l g yX3_target cX3_target 2 (some .int) 0 0 [.int x0, .int x1] C (cQi g r C') :=
  c_met (by decide) rfl (Nat.le_of_ble_eq_true rfl) (fun X O => bc_Op_target O x0 x1 C h)
/-! RankEntry$Code.at(I)I -/
def fc_Code_at (x1 : Int32) (C : Mem) : Option (Int32 × Mem) :=
  gd (inb (x1 &&& 511) 512) <|
  some (((C 2 (x1 &&& 511).toNatClampNeg) &&& 255), C)
set_option maxHeartbeats 4000000 in
theorem bc_Code_at {g : gC} {X : Cxt} {r : Int32} {C' : Mem} (O : OkC g X cX2_at 2 (some .int) RX2 0 0 (cQi g r C')) (x1 : Int32) (C : Mem) (h : fc_Code_at x1 C = some (r, C')) : V X 2 0 (WdC g C) 0 [(0, .ref (gCa g 1)), (1, .int x1)] [] := by
  unfold fc_Code_at at h
  refine v_aload_n O.1 dX2_at_0 rfl (q := 1) rfl ?_
  refine c_getK O 0 (v := .ref (gCa g 2)) (by decide) (O.lk q118) rfl (fun _ _ => ⟨_, rfl, rfl⟩) dX2_at_1 (q := 4) rfl ?_
  refine v_iload_n O.1 dX2_at_4 rfl (q := 5) rfl ?_
  refine v_sipush O.1 dX2_at_5 (v := 511) (by decide) (q := 8) rfl ?_
  refine v_iand O.1 dX2_at_8 (q := 9) rfl ?_
  obtain ⟨g1, h⟩ := gd_some h
  refine c_bald O g1 rfl (j := (x1 &&& 511).toNatClampNeg) dX2_at_9 (q := 10) rfl ?_
  refine v_sipush O.1 dX2_at_10 (v := 255) (by decide) (q := 13) rfl ?_
  refine v_iand O.1 dX2_at_13 (q := 14) rfl ?_
  exact c_iret O h dX2_at_14
theorem metc_Code_at (l : Launch) (g : gC) (x1 : Int32) (C C' : Mem) (r : Int32) (h : fc_Code_at x1 C = some (r, C')) : MetC l g yX2_at cX2_at 2 (some .int) 0 0 [.ref (gCa g 1), .int x1] C (cQi g r C') :=
  c_met (by decide) rfl (Nat.le_of_ble_eq_true rfl) (fun X O => bc_Code_at O x1 C h)
