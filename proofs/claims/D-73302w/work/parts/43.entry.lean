/-! RankEntry.ahead(II)Z -/
def fc_RE_ahead_63 (y0 : Int32) (C : Mem) : Option (Int32 × Mem) :=
  gd (isB y0) <|
  some (y0, C)
set_option maxHeartbeats 4000000 in
theorem bc_RE_ahead_63 {g : gC} {X : Cxt} {r : Int32} {C' : Mem} (O : OkC g X cX1_ahead 3 (some .boolean) RX1 4 0 (cQi g r C')) (y0 : Int32) (C : Mem) (h : fc_RE_ahead_63 y0 C = some (r, C')) : V X 3 0 (WdC g C) 63 [] [.int y0] := by
  unfold fc_RE_ahead_63 at h
  obtain ⟨g1, h⟩ := gd_some h
  exact c_zret O g1 h dX1_ahead_63
def fc_RE_ahead_62  (C : Mem) : Option (Int32 × Mem) :=
  fc_RE_ahead_63 0 C
set_option maxHeartbeats 4000000 in
theorem bc_RE_ahead_62 {g : gC} {X : Cxt} {r : Int32} {C' : Mem} (O : OkC g X cX1_ahead 3 (some .boolean) RX1 4 0 (cQi g r C'))  (C : Mem) (h : fc_RE_ahead_62  C = some (r, C')) : V X 3 0 (WdC g C) 62 [] [] := by
  unfold fc_RE_ahead_62 at h
  refine v_iconst O.1 dX1_ahead_62 (v := 0) rfl (q := 63) rfl ?_
  exact v_sub [] rfl (bc_RE_ahead_63 O 0 C h)
def fc_RE_ahead (x1 : Int32) (x2 : Int32) (C : Mem) : Option (Int32 × Mem) :=
  bnd (fc_RE_within x1 0 20 C) fun r1 C1 =>
  if r1 = 0 then
    fc_RE_ahead_62 C1
  else
    bnd (fc_RE_within x2 0 20 C1) fun r3 C3 =>
    if r3 = 0 then
      fc_RE_ahead_62 C3
    else
      if x1 = x2 then
        fc_RE_ahead_62 C3
      else
        gd (inb x1 21) <|
        gd (inb x2 21) <|
        bnd (fv_is (9 + 22 + x1.toNatClampNeg) (9 + 22 + x2.toNatClampNeg) (C3 9 27) C3) fun r8 C8 =>
        if r8 = 0 then
          fc_RE_ahead_62 C8
        else
          fc_RE_ahead_63 1 C8
set_option maxHeartbeats 4000000 in
theorem bc_RE_ahead {g : gC} {X : Cxt} {r : Int32} {C' : Mem} (O : OkC g X cX1_ahead 3 (some .boolean) RX1 4 0 (cQi g r C')) (x1 : Int32) (x2 : Int32) (C : Mem) (h : fc_RE_ahead x1 x2 C = some (r, C')) : V X 3 0 (WdC g C) 0 [(0, .ref (gCa g 0)), (1, .int x1), (2, .int x2)] [] := by
  unfold fc_RE_ahead at h
  refine v_iload_n O.1 dX1_ahead_0 rfl (q := 1) rfl ?_
  refine v_iconst O.1 dX1_ahead_1 (v := 0) rfl (q := 2) rfl ?_
  refine v_bipush O.1 dX1_ahead_2 (v := 20) (by decide) (q := 4) rfl ?_
  obtain ⟨r1, C1, e1, h⟩ := bnd_some h
  refine c_callSi (As := [.int x1, .int 0, .int 20]) (rest := []) (n := 3) O (metc_RE_within _ g x1 0 20 C C1 r1 e1) (lw_S q1094 q656 q59 q657) (by decide +kernel) (by decide) (by decide) rfl rfl (Nat.le_of_ble_eq_true rfl) dX1_ahead_4 (q := 7) rfl (b' := 0) rfl ?_
  refine v_if_eq O.1 dX1_ahead_7 (t := 62) (by decide) (q := 10) rfl (fun c2 => ?_) (fun c2 => ?_)
  · rw [if_pos c2] at h
    exact v_sub [] rfl (bc_RE_ahead_62 O C1 h)
  · rw [if_neg c2] at h
    refine v_iload_n O.1 dX1_ahead_10 rfl (q := 11) rfl ?_
    refine v_iconst O.1 dX1_ahead_11 (v := 0) rfl (q := 12) rfl ?_
    refine v_bipush O.1 dX1_ahead_12 (v := 20) (by decide) (q := 14) rfl ?_
    obtain ⟨r3, C3, e3, h⟩ := bnd_some h
    refine c_callSi (As := [.int x2, .int 0, .int 20]) (rest := []) (n := 3) O (metc_RE_within _ g x2 0 20 C1 C3 r3 e3) (lw_S q1094 q656 q59 q657) (by decide +kernel) (by decide) (by decide) rfl rfl (Nat.le_of_ble_eq_true rfl) dX1_ahead_14 (q := 17) rfl (b' := 0) rfl ?_
    refine v_if_eq O.1 dX1_ahead_17 (t := 62) (by decide) (q := 20) rfl (fun c4 => ?_) (fun c4 => ?_)
    · rw [if_pos c4] at h
      exact v_sub [] rfl (bc_RE_ahead_62 O C3 h)
    · rw [if_neg c4] at h
      refine v_iload_n O.1 dX1_ahead_20 rfl (q := 21) rfl ?_
      refine v_iload_n O.1 dX1_ahead_21 rfl (q := 22) rfl ?_
      refine v_icmp_eq O.1 dX1_ahead_22 (t := 62) (by decide) (q := 25) rfl (fun c5 => ?_) (fun c5 => ?_)
      · rw [if_pos c5] at h
        exact v_sub [] rfl (bc_RE_ahead_62 O C3 h)
      · rw [if_neg c5] at h
        refine v_aload_n O.1 dX1_ahead_25 rfl (q := 26) rfl ?_
        refine c_getR O 1 (v := .ref (gCa g 9)) (by decide) (O.lk q1078) rfl (fun _ _ => ⟨_, rfl, rfl⟩) dX1_ahead_26 (q := 29) rfl ?_
        refine c_getA O cC_9 (O.lkn q878) dX1_ahead_29 (q := 32) rfl (fun a => ?_)
        refine v_aload_n O.1 dX1_ahead_32 rfl (q := 33) rfl ?_
        refine c_getRP O (C := C3) (fun _ h => h.1) 1 (v := .ref (gCa g 9)) (by decide) (O.lk q1078) rfl (fun _ _ => ⟨_, rfl, rfl⟩) dX1_ahead_33 (q := 36) rfl ?_
        refine c_getCP O (C := C3) (fun _ h => h.1) cC_9 7 (v := .ref (gCa g (9 + 5))) (by decide) (O.lkn q851) rfl (fun _ => rfl) dX1_ahead_36 (q := 39) rfl ?_
        refine v_iload_n O.1 dX1_ahead_39 rfl (q := 40) rfl ?_
        obtain ⟨g6, h⟩ := gd_some h
        refine c_allP O (C := C3) (fun _ h => h.1) cC_9 g6 rfl (j := x1.toNatClampNeg) dX1_ahead_40 (q := 41) rfl ?_
        refine v_aload_n O.1 dX1_ahead_41 rfl (q := 42) rfl ?_
        refine c_getRP O (C := C3) (fun _ h => h.1) 1 (v := .ref (gCa g 9)) (by decide) (O.lk q1078) rfl (fun _ _ => ⟨_, rfl, rfl⟩) dX1_ahead_42 (q := 45) rfl ?_
        refine c_getCP O (C := C3) (fun _ h => h.1) cC_9 7 (v := .ref (gCa g (9 + 5))) (by decide) (O.lkn q851) rfl (fun _ => rfl) dX1_ahead_45 (q := 48) rfl ?_
        refine v_iload_n O.1 dX1_ahead_48 rfl (q := 49) rfl ?_
        obtain ⟨g7, h⟩ := gd_some h
        refine c_allP O (C := C3) (fun _ h => h.1) cC_9 g7 rfl (j := x2.toNatClampNeg) dX1_ahead_49 (q := 50) rfl ?_
        obtain ⟨r8, C8, e8, h⟩ := bnd_some h
        refine c_is (rest := []) O (c := 9) (cS_of cC_9 (inb_lt g6)) (cS_of cC_9 (inb_lt g7)) e8 q1233 (by decide) rfl (Nat.le_of_ble_eq_true rfl) dX1_ahead_50 (q := 55) rfl ?_
        refine v_if_eq O.1 dX1_ahead_55 (t := 62) (by decide) (q := 58) rfl (fun c9 => ?_) (fun c9 => ?_)
        · rw [if_pos c9] at h
          exact v_sub [] rfl (bc_RE_ahead_62 O C8 h)
        · rw [if_neg c9] at h
          refine v_iconst O.1 dX1_ahead_58 (v := 1) rfl (q := 59) rfl ?_
          refine v_goto O.1 dX1_ahead_59 (t := 63) (by decide) ?_
          exact v_sub [] rfl (bc_RE_ahead_63 O 1 C8 h)
theorem metc_RE_ahead (l : Launch) (g : gC) (x1 : Int32) (x2 : Int32) (C C' : Mem) (r : Int32) (h : fc_RE_ahead x1 x2 C = some (r, C')) : MetC l g yX1_ahead cX1_ahead 3 (some .boolean) 4 0 [.ref (gCa g 0), .int x1, .int x2] C (cQi g r C') :=
  c_met (by decide) rfl (Nat.le_of_ble_eq_true rfl) (fun X O => bc_RE_ahead O x1 x2 C h)
/-! RankEntry.arrive(II)Z -/
def fc_RE_arrive_33  (C : Mem) : Option (Int32 × Mem) :=
  some (0, C)
set_option maxHeartbeats 4000000 in
theorem bc_RE_arrive_33 {g : gC} {X : Cxt} {r : Int32} {C' : Mem} (O : OkC g X cX1_arrive 3 (some .boolean) RX1 1 0 (cQi g r C'))  (C : Mem) (h : fc_RE_arrive_33  C = some (r, C')) : V X 3 0 (WdC g C) 33 [] [] := by
  unfold fc_RE_arrive_33 at h
  refine v_iconst O.1 dX1_arrive_33 (v := 0) rfl (q := 34) rfl ?_
  exact c_zret O (by decide) h dX1_arrive_34
def fc_RE_arrive (x1 : Int32) (x2 : Int32) (C : Mem) : Option (Int32 × Mem) :=
  bnd (fc_RE_within x1 0 17 C) fun r1 C1 =>
  if r1 = 0 then
    fc_RE_arrive_33 C1
  else
    bnd (fc_RE_within x2 1 999 C1) fun r3 C3 =>
    if r3 = 0 then
      fc_RE_arrive_33 C3
    else
      if (C3 9 40) = 32 then
        fc_RE_arrive_33 C3
      else
        gd (inb (C3 9 40) 32) <|
        stp (up2 C3 (9 + 7) (C3 9 40).toNatClampNeg ((C3 9 37) + x2)) fun C7 =>
        gd (inb (C7 9 40) 32) <|
        stp (up2 C7 (9 + 8) (C7 9 40).toNatClampNeg x1) fun C9 =>
        stp (up2 C9 9 40 ((C9 9 40) + 1)) fun C10 =>
        some (1, C10)
set_option maxHeartbeats 4000000 in
theorem bc_RE_arrive {g : gC} {X : Cxt} {r : Int32} {C' : Mem} (O : OkC g X cX1_arrive 3 (some .boolean) RX1 1 0 (cQi g r C')) (x1 : Int32) (x2 : Int32) (C : Mem) (h : fc_RE_arrive x1 x2 C = some (r, C')) : V X 3 0 (WdC g C) 0 [(0, .ref (gCa g 0)), (1, .int x1), (2, .int x2)] [] := by
  unfold fc_RE_arrive at h
  refine v_iload_n O.1 dX1_arrive_0 rfl (q := 1) rfl ?_
  refine v_iconst O.1 dX1_arrive_1 (v := 0) rfl (q := 2) rfl ?_
  refine v_bipush O.1 dX1_arrive_2 (v := 17) (by decide) (q := 4) rfl ?_
  obtain ⟨r1, C1, e1, h⟩ := bnd_some h
  refine c_callSi (As := [.int x1, .int 0, .int 17]) (rest := []) (n := 3) O (metc_RE_within _ g x1 0 17 C C1 r1 e1) (lw_S q1094 q656 q59 q657) (by decide +kernel) (by decide) (by decide) rfl rfl (Nat.le_of_ble_eq_true rfl) dX1_arrive_4 (q := 7) rfl (b' := 0) rfl ?_
  refine v_if_eq O.1 dX1_arrive_7 (t := 33) (by decide) (q := 10) rfl (fun c2 => ?_) (fun c2 => ?_)
  · rw [if_pos c2] at h
    exact v_sub [] rfl (bc_RE_arrive_33 O C1 h)
  · rw [if_neg c2] at h
    refine v_iload_n O.1 dX1_arrive_10 rfl (q := 11) rfl ?_
    refine v_iconst O.1 dX1_arrive_11 (v := 1) rfl (q := 12) rfl ?_
    refine v_sipush O.1 dX1_arrive_12 (v := 999) (by decide) (q := 15) rfl ?_
    obtain ⟨r3, C3, e3, h⟩ := bnd_some h
    refine c_callSi (As := [.int x2, .int 1, .int 999]) (rest := []) (n := 3) O (metc_RE_within _ g x2 1 999 C1 C3 r3 e3) (lw_S q1094 q656 q59 q657) (by decide +kernel) (by decide) (by decide) rfl rfl (Nat.le_of_ble_eq_true rfl) dX1_arrive_15 (q := 18) rfl (b' := 0) rfl ?_
    refine v_if_eq O.1 dX1_arrive_18 (t := 33) (by decide) (q := 21) rfl (fun c4 => ?_) (fun c4 => ?_)
    · rw [if_pos c4] at h
      exact v_sub [] rfl (bc_RE_arrive_33 O C3 h)
    · rw [if_neg c4] at h
      refine v_aload_n O.1 dX1_arrive_21 rfl (q := 22) rfl ?_
      refine c_getR O 1 (v := .ref (gCa g 9)) (by decide) (O.lk q1078) rfl (fun _ _ => ⟨_, rfl, rfl⟩) dX1_arrive_22 (q := 25) rfl ?_
      refine c_getC O cC_9 40 (v := .int (C3 9 40)) (by decide) (O.lkn q912) rfl (fun _ => rfl) dX1_arrive_25 (q := 28) rfl ?_
      refine v_bipush O.1 dX1_arrive_28 (v := 32) (by decide) (q := 30) rfl ?_
      refine v_icmp_ne O.1 dX1_arrive_30 (t := 35) (by decide) (q := 33) rfl (fun c5 => ?_) (fun c5 => ?_)
      · rw [if_neg c5] at h
        refine v_aload_n O.1 dX1_arrive_35 rfl (q := 36) rfl ?_
        refine c_getR O 1 (v := .ref (gCa g 9)) (by decide) (O.lk q1078) rfl (fun _ _ => ⟨_, rfl, rfl⟩) dX1_arrive_36 (q := 39) rfl ?_
        refine c_getC O cC_9 9 (v := .ref (gCa g (9 + 7))) (by decide) (O.lkn q855) rfl (fun _ => rfl) dX1_arrive_39 (q := 42) rfl ?_
        refine v_aload_n O.1 dX1_arrive_42 rfl (q := 43) rfl ?_
        refine c_getR O 1 (v := .ref (gCa g 9)) (by decide) (O.lk q1078) rfl (fun _ _ => ⟨_, rfl, rfl⟩) dX1_arrive_43 (q := 46) rfl ?_
        refine c_getC O cC_9 40 (v := .int (C3 9 40)) (by decide) (O.lkn q912) rfl (fun _ => rfl) dX1_arrive_46 (q := 49) rfl ?_
        refine v_aload_n O.1 dX1_arrive_49 rfl (q := 50) rfl ?_
        refine c_getR O 1 (v := .ref (gCa g 9)) (by decide) (O.lk q1078) rfl (fun _ _ => ⟨_, rfl, rfl⟩) dX1_arrive_50 (q := 53) rfl ?_
        refine c_getC O cC_9 37 (v := .int (C3 9 37)) (by decide) (O.lkn q906) rfl (fun _ => rfl) dX1_arrive_53 (q := 56) rfl ?_
        refine v_iload_n O.1 dX1_arrive_56 rfl (q := 57) rfl ?_
        refine v_iadd O.1 dX1_arrive_57 (q := 58) rfl ?_
        obtain ⟨g6, h⟩ := gd_some h
        obtain ⟨C7, e7, h⟩ := stp_some h
        refine c_iast O (cIA_due cC_9) g6 rfl (j := (C3 9 40).toNatClampNeg) dX1_arrive_58 (q := 59) rfl e7 ?_
        refine v_aload_n O.1 dX1_arrive_59 rfl (q := 60) rfl ?_
        refine c_getR O 1 (v := .ref (gCa g 9)) (by decide) (O.lk q1078) rfl (fun _ _ => ⟨_, rfl, rfl⟩) dX1_arrive_60 (q := 63) rfl ?_
        refine c_getC O cC_9 10 (v := .ref (gCa g (9 + 8))) (by decide) (O.lkn q857) rfl (fun _ => rfl) dX1_arrive_63 (q := 66) rfl ?_
        refine v_aload_n O.1 dX1_arrive_66 rfl (q := 67) rfl ?_
        refine c_getR O 1 (v := .ref (gCa g 9)) (by decide) (O.lk q1078) rfl (fun _ _ => ⟨_, rfl, rfl⟩) dX1_arrive_67 (q := 70) rfl ?_
        refine c_getC O cC_9 40 (v := .int (C7 9 40)) (by decide) (O.lkn q912) rfl (fun _ => rfl) dX1_arrive_70 (q := 73) rfl ?_
        refine v_iload_n O.1 dX1_arrive_73 rfl (q := 74) rfl ?_
        obtain ⟨g8, h⟩ := gd_some h
        obtain ⟨C9, e9, h⟩ := stp_some h
        refine c_iast O (cIA_dueOf cC_9) g8 rfl (j := (C7 9 40).toNatClampNeg) dX1_arrive_74 (q := 75) rfl e9 ?_
        refine v_aload_n O.1 dX1_arrive_75 rfl (q := 76) rfl ?_
        refine c_getR O 1 (v := .ref (gCa g 9)) (by decide) (O.lk q1078) rfl (fun _ _ => ⟨_, rfl, rfl⟩) dX1_arrive_76 (q := 79) rfl ?_
        refine v_dup O.1 dX1_arrive_79 rfl (q := 80) rfl ?_
        refine c_getC O cC_9 40 (v := .int (C9 9 40)) (by decide) (O.lkn q912) rfl (fun _ => rfl) dX1_arrive_80 (q := 83) rfl ?_
        refine v_iconst O.1 dX1_arrive_83 (v := 1) rfl (q := 84) rfl ?_
        refine v_iadd O.1 dX1_arrive_84 (q := 85) rfl ?_
        obtain ⟨C10, e10, h⟩ := stp_some h
        refine c_putC O cC_9 40 (u := ((C9 9 40) + 1)) (ty := .int) (by decide) (by decide) (O.lkn q912) rfl rfl rfl rfl rfl (fun _ => rfl) dX1_arrive_85 (q := 88) rfl e10 ?_
        refine v_iconst O.1 dX1_arrive_88 (v := 1) rfl (q := 89) rfl ?_
        exact c_zret O (by decide) h dX1_arrive_89
      · rw [if_pos c5] at h
        exact v_sub [] rfl (bc_RE_arrive_33 O C3 h)
theorem metc_RE_arrive (l : Launch) (g : gC) (x1 : Int32) (x2 : Int32) (C C' : Mem) (r : Int32) (h : fc_RE_arrive x1 x2 C = some (r, C')) : MetC l g yX1_arrive cX1_arrive 3 (some .boolean) 1 0 [.ref (gCa g 0), .int x1, .int x2] C (cQi g r C') :=
  c_met (by decide) rfl (Nat.le_of_ble_eq_true rfl) (fun X O => bc_RE_arrive O x1 x2 C h)
/-! RankEntry.clear(I)Z -/
def fc_RE_clear_30 (y0 : Int32) (C : Mem) : Option (Int32 × Mem) :=
  gd (isB y0) <|
  some (y0, C)
set_option maxHeartbeats 4000000 in
theorem bc_RE_clear_30 {g : gC} {X : Cxt} {r : Int32} {C' : Mem} (O : OkC g X cX1_clear 2 (some .boolean) RX1 2 0 (cQi g r C')) (y0 : Int32) (C : Mem) (h : fc_RE_clear_30 y0 C = some (r, C')) : V X 2 0 (WdC g C) 30 [] [.int y0] := by
  unfold fc_RE_clear_30 at h
  obtain ⟨g1, h⟩ := gd_some h
  exact c_zret O g1 h dX1_clear_30
def fc_RE_clear_29  (C : Mem) : Option (Int32 × Mem) :=
  fc_RE_clear_30 0 C
set_option maxHeartbeats 4000000 in
theorem bc_RE_clear_29 {g : gC} {X : Cxt} {r : Int32} {C' : Mem} (O : OkC g X cX1_clear 2 (some .boolean) RX1 2 0 (cQi g r C'))  (C : Mem) (h : fc_RE_clear_29  C = some (r, C')) : V X 2 0 (WdC g C) 29 [] [] := by
  unfold fc_RE_clear_29 at h
  refine v_iconst O.1 dX1_clear_29 (v := 0) rfl (q := 30) rfl ?_
  exact v_sub [] rfl (bc_RE_clear_30 O 0 C h)
def fc_RE_clear (x1 : Int32) (C : Mem) : Option (Int32 × Mem) :=
  bnd (fc_RE_within x1 0 20 C) fun r1 C1 =>
  if r1 = 0 then
    fc_RE_clear_29 C1
  else
    gd (inb x1 21) <|
    bnd (fv_drops (9 + 22 + x1.toNatClampNeg) C1) fun r4 C4 =>
    if r4 = 0 then
      fc_RE_clear_29 C4
    else
      fc_RE_clear_30 1 C4
set_option maxHeartbeats 4000000 in
theorem bc_RE_clear {g : gC} {X : Cxt} {r : Int32} {C' : Mem} (O : OkC g X cX1_clear 2 (some .boolean) RX1 2 0 (cQi g r C')) (x1 : Int32) (C : Mem) (h : fc_RE_clear x1 C = some (r, C')) : V X 2 0 (WdC g C) 0 [(0, .ref (gCa g 0)), (1, .int x1)] [] := by
  unfold fc_RE_clear at h
  refine v_iload_n O.1 dX1_clear_0 rfl (q := 1) rfl ?_
  refine v_iconst O.1 dX1_clear_1 (v := 0) rfl (q := 2) rfl ?_
  refine v_bipush O.1 dX1_clear_2 (v := 20) (by decide) (q := 4) rfl ?_
  obtain ⟨r1, C1, e1, h⟩ := bnd_some h
  refine c_callSi (As := [.int x1, .int 0, .int 20]) (rest := []) (n := 3) O (metc_RE_within _ g x1 0 20 C C1 r1 e1) (lw_S q1094 q656 q59 q657) (by decide +kernel) (by decide) (by decide) rfl rfl (Nat.le_of_ble_eq_true rfl) dX1_clear_4 (q := 7) rfl (b' := 0) rfl ?_
  refine v_if_eq O.1 dX1_clear_7 (t := 29) (by decide) (q := 10) rfl (fun c2 => ?_) (fun c2 => ?_)
  · rw [if_pos c2] at h
    exact v_sub [] rfl (bc_RE_clear_29 O C1 h)
  · rw [if_neg c2] at h
    refine v_aload_n O.1 dX1_clear_10 rfl (q := 11) rfl ?_
    refine c_getR O 1 (v := .ref (gCa g 9)) (by decide) (O.lk q1078) rfl (fun _ _ => ⟨_, rfl, rfl⟩) dX1_clear_11 (q := 14) rfl ?_
    refine c_getC O cC_9 7 (v := .ref (gCa g (9 + 5))) (by decide) (O.lkn q851) rfl (fun _ => rfl) dX1_clear_14 (q := 17) rfl ?_
    refine v_iload_n O.1 dX1_clear_17 rfl (q := 18) rfl ?_
    obtain ⟨g3, h⟩ := gd_some h
    refine c_all O cC_9 g3 rfl (j := x1.toNatClampNeg) dX1_clear_18 (q := 19) rfl ?_
    obtain ⟨r4, C4, e4, h⟩ := bnd_some h
    refine c_v_drops (rest := []) O (cS_of cC_9 (inb_lt g3)) e4 q1137 (by decide) rfl (Nat.le_of_ble_eq_true rfl) dX1_clear_19 (q := 22) rfl ?_
    refine v_if_eq O.1 dX1_clear_22 (t := 29) (by decide) (q := 25) rfl (fun c5 => ?_) (fun c5 => ?_)
    · rw [if_pos c5] at h
      exact v_sub [] rfl (bc_RE_clear_29 O C4 h)
    · rw [if_neg c5] at h
      refine v_iconst O.1 dX1_clear_25 (v := 1) rfl (q := 26) rfl ?_
      refine v_goto O.1 dX1_clear_26 (t := 30) (by decide) ?_
      exact v_sub [] rfl (bc_RE_clear_30 O 1 C4 h)
theorem metc_RE_clear (l : Launch) (g : gC) (x1 : Int32) (C C' : Mem) (r : Int32) (h : fc_RE_clear x1 C = some (r, C')) : MetC l g yX1_clear cX1_clear 2 (some .boolean) 2 0 [.ref (gCa g 0), .int x1] C (cQi g r C') :=
  c_met (by decide) rfl (Nat.le_of_ble_eq_true rfl) (fun X O => bc_RE_clear O x1 C h)
/-! RankEntry.code(I)I -/
def fc_RE_code_23 (y0 : Int32) (C : Mem) : Option (Int32 × Mem) :=
  some (y0, C)
set_option maxHeartbeats 4000000 in
theorem bc_RE_code_23 {g : gC} {X : Cxt} {r : Int32} {C' : Mem} (O : OkC g X cX1_code 2 (some .int) RX1 1 0 (cQi g r C')) (y0 : Int32) (C : Mem) (h : fc_RE_code_23 y0 C = some (r, C')) : V X 2 0 (WdC g C) 23 [] [.int y0] := by
  unfold fc_RE_code_23 at h
  exact c_iret O h dX1_code_23
def fc_RE_code (x1 : Int32) (C : Mem) : Option (Int32 × Mem) :=
  bnd (fc_RE_within x1 0 511 C) fun r1 C1 =>
  if r1 = 0 then
    fc_RE_code_23 (-1) C1
  else
    bnd (fc_Code_at x1 C1) fun r3 C3 =>
    fc_RE_code_23 r3 C3
set_option maxHeartbeats 4000000 in
theorem bc_RE_code {g : gC} {X : Cxt} {r : Int32} {C' : Mem} (O : OkC g X cX1_code 2 (some .int) RX1 1 0 (cQi g r C')) (x1 : Int32) (C : Mem) (h : fc_RE_code x1 C = some (r, C')) : V X 2 0 (WdC g C) 0 [(0, .ref (gCa g 0)), (1, .int x1)] [] := by
  unfold fc_RE_code at h
  refine v_iload_n O.1 dX1_code_0 rfl (q := 1) rfl ?_
  refine v_iconst O.1 dX1_code_1 (v := 0) rfl (q := 2) rfl ?_
  refine v_sipush O.1 dX1_code_2 (v := 511) (by decide) (q := 5) rfl ?_
  obtain ⟨r1, C1, e1, h⟩ := bnd_some h
  refine c_callSi (As := [.int x1, .int 0, .int 511]) (rest := []) (n := 3) O (metc_RE_within _ g x1 0 511 C C1 r1 e1) (lw_S q1094 q656 q59 q657) (by decide +kernel) (by decide) (by decide) rfl rfl (Nat.le_of_ble_eq_true rfl) dX1_code_5 (q := 8) rfl (b' := 0) rfl ?_
  refine v_if_eq O.1 dX1_code_8 (t := 22) (by decide) (q := 11) rfl (fun c2 => ?_) (fun c2 => ?_)
  · rw [if_pos c2] at h
    refine v_iconst O.1 dX1_code_22 (v := (-1)) rfl (q := 23) rfl ?_
    exact v_sub [] rfl (bc_RE_code_23 O (-1) C1 h)
  · rw [if_neg c2] at h
    refine v_aload_n O.1 dX1_code_11 rfl (q := 12) rfl ?_
    refine c_getR O 0 (v := .ref (gCa g 1)) (by decide) (O.lk q1077) rfl (fun _ _ => ⟨_, rfl, rfl⟩) dX1_code_12 (q := 15) rfl ?_
    refine v_iload_n O.1 dX1_code_15 rfl (q := 16) rfl ?_
    obtain ⟨r3, C3, e3, h⟩ := bnd_some h
    refine c_callVi (As := [.int x1]) (rest := []) (n := 1) (ci := 1) (p := (RX2, TX2, 2)) O (by decide) rfl (fun _ _ => ⟨_, rfl⟩) (metc_Code_at _ g  x1 C1 C3 r3 e3) (lw_V q1099 q359 q360 q60 q361) (by decide +kernel) (by decide) (by decide) rfl rfl (Nat.le_of_ble_eq_true rfl) dX1_code_16 (q := 19) rfl (b' := 0) rfl ?_
    refine v_goto O.1 dX1_code_19 (t := 23) (by decide) ?_
    exact v_sub [] rfl (bc_RE_code_23 O r3 C3 h)
theorem metc_RE_code (l : Launch) (g : gC) (x1 : Int32) (C C' : Mem) (r : Int32) (h : fc_RE_code x1 C = some (r, C')) : MetC l g yX1_code cX1_code 2 (some .int) 1 0 [.ref (gCa g 0), .int x1] C (cQi g r C') :=
  c_met (by decide) rfl (Nat.le_of_ble_eq_true rfl) (fun X O => bc_RE_code O x1 C h)
/-! RankEntry.cost(I)I -/
def fc_RE_cost_49 (y0 : Int32) (C : Mem) : Option (Int32 × Mem) :=
  some (y0, C)
set_option maxHeartbeats 4000000 in
theorem bc_RE_cost_49 {g : gC} {X : Cxt} {r : Int32} {C' : Mem} (O : OkC g X cX1_cost 3 (some .int) RX1 5 0 (cQi g r C')) (y0 : Int32) (C : Mem) (h : fc_RE_cost_49 y0 C = some (r, C')) : V X 3 0 (WdC g C) 49 [] [.int y0] := by
  unfold fc_RE_cost_49 at h
  exact c_iret O h dX1_cost_49
def fc_RE_cost (x1 : Int32) (C : Mem) : Option (Int32 × Mem) :=
  bnd (fc_RE_within x1 0 20 C) fun r1 C1 =>
  if r1 = 0 then
    some ((-1), C1)
  else
    gd (inb x1 21) <|
    bnd (fc_Ways_end (C1 (9 + 22 + x1.toNatClampNeg) 2) C1) fun r4 C4 =>
    if r4 = 0 then
      fc_RE_cost_49 (-1) C4
    else
      gd (inb (C1 (9 + 22 + x1.toNatClampNeg) 2) 512) <|
      fc_RE_cost_49 (C4 5 (C1 (9 + 22 + x1.toNatClampNeg) 2).toNatClampNeg) C4
set_option maxHeartbeats 4000000 in
theorem bc_RE_cost {g : gC} {X : Cxt} {r : Int32} {C' : Mem} (O : OkC g X cX1_cost 3 (some .int) RX1 5 0 (cQi g r C')) (x1 : Int32) (C : Mem) (h : fc_RE_cost x1 C = some (r, C')) : V X 3 0 (WdC g C) 0 [(0, .ref (gCa g 0)), (1, .int x1)] [] := by
  unfold fc_RE_cost at h
  refine v_iload_n O.1 dX1_cost_0 rfl (q := 1) rfl ?_
  refine v_iconst O.1 dX1_cost_1 (v := 0) rfl (q := 2) rfl ?_
  refine v_bipush O.1 dX1_cost_2 (v := 20) (by decide) (q := 4) rfl ?_
  obtain ⟨r1, C1, e1, h⟩ := bnd_some h
  refine c_callSi (As := [.int x1, .int 0, .int 20]) (rest := []) (n := 3) O (metc_RE_within _ g x1 0 20 C C1 r1 e1) (lw_S q1094 q656 q59 q657) (by decide +kernel) (by decide) (by decide) rfl rfl (Nat.le_of_ble_eq_true rfl) dX1_cost_4 (q := 7) rfl (b' := 0) rfl ?_
  refine v_if_ne O.1 dX1_cost_7 (t := 12) (by decide) (q := 10) rfl (fun c2 => ?_) (fun c2 => ?_)
  · rw [if_neg c2] at h
    refine v_aload_n O.1 dX1_cost_12 rfl (q := 13) rfl ?_
    refine c_getR O 1 (v := .ref (gCa g 9)) (by decide) (O.lk q1078) rfl (fun _ _ => ⟨_, rfl, rfl⟩) dX1_cost_13 (q := 16) rfl ?_
    refine c_getC O cC_9 7 (v := .ref (gCa g (9 + 5))) (by decide) (O.lkn q851) rfl (fun _ => rfl) dX1_cost_16 (q := 19) rfl ?_
    refine v_iload_n O.1 dX1_cost_19 rfl (q := 20) rfl ?_
    obtain ⟨g3, h⟩ := gd_some h
    refine c_all O cC_9 g3 rfl (j := x1.toNatClampNeg) dX1_cost_20 (q := 21) rfl ?_
    refine c_getS O (cS_of cC_9 (inb_lt g3)) 2 (by decide) (O.lk q739) rfl rfl rfl rfl (v := .int (C1 (9 + 22 + x1.toNatClampNeg) 2)) rfl dX1_cost_21 (q := 24) rfl ?_
    refine v_istore_n (lv' := [(2, .int (C1 (9 + 22 + x1.toNatClampNeg) 2)), (0, .ref (gCa g 0)), (1, .int x1)]) O.1 dX1_cost_24 (by decide) rfl (q := 25) rfl ?_
    refine v_aload_n O.1 dX1_cost_25 rfl (q := 26) rfl ?_
    refine c_getR O 3 (v := .ref (gCa g 4)) (by decide) (O.lk q1080) rfl (fun _ _ => ⟨_, rfl, rfl⟩) dX1_cost_26 (q := 29) rfl ?_
    refine v_iload_n O.1 dX1_cost_29 rfl (q := 30) rfl ?_
    obtain ⟨r4, C4, e4, h⟩ := bnd_some h
    refine c_callVi (As := [.int (C1 (9 + 22 + x1.toNatClampNeg) 2)]) (rest := []) (n := 1) (ci := 3) (p := (RX19, TX19, 6)) O (by decide) rfl (fun _ _ => ⟨_, rfl⟩) (metc_Ways_end _ g  (C1 (9 + 22 + x1.toNatClampNeg) 2) C1 C4 r4 e4) (lw_V q1304 q1305 q1306 q83 q1307) (by decide +kernel) (by decide) (by decide) rfl rfl (Nat.le_of_ble_eq_true rfl) dX1_cost_30 (q := 33) rfl (b' := 0) rfl ?_
    refine v_if_eq O.1 dX1_cost_33 (t := 48) (by decide) (q := 36) rfl (fun c5 => ?_) (fun c5 => ?_)
    · rw [if_pos c5] at h
      refine v_iconst O.1 dX1_cost_48 (v := (-1)) rfl (q := 49) rfl ?_
      exact v_sub [] rfl (bc_RE_cost_49 O (-1) C4 h)
    · rw [if_neg c5] at h
      refine v_aload_n O.1 dX1_cost_36 rfl (q := 37) rfl ?_
      refine c_getR O 3 (v := .ref (gCa g 4)) (by decide) (O.lk q1080) rfl (fun _ _ => ⟨_, rfl, rfl⟩) dX1_cost_37 (q := 40) rfl ?_
      refine c_getW O 1 (v := .ref (gCa g 5)) (by decide) (O.lkn q1058) rfl (fun _ _ => ⟨_, rfl, rfl⟩) dX1_cost_40 (q := 43) rfl ?_
      refine v_iload_n O.1 dX1_cost_43 rfl (q := 44) rfl ?_
      obtain ⟨g6, h⟩ := gd_some h
      refine c_iald O (cIA_w (by decide)) g6 rfl (j := (C1 (9 + 22 + x1.toNatClampNeg) 2).toNatClampNeg) dX1_cost_44 (q := 45) rfl ?_
      refine v_goto O.1 dX1_cost_45 (t := 49) (by decide) ?_
      exact v_sub [] rfl (bc_RE_cost_49 O (C4 5 (C1 (9 + 22 + x1.toNatClampNeg) 2).toNatClampNeg) C4 h)
  · rw [if_pos c2] at h
    refine v_iconst O.1 dX1_cost_10 (v := (-1)) rfl (q := 11) rfl ?_
    exact c_iret O h dX1_cost_11
theorem metc_RE_cost (l : Launch) (g : gC) (x1 : Int32) (C C' : Mem) (r : Int32) (h : fc_RE_cost x1 C = some (r, C')) : MetC l g yX1_cost cX1_cost 3 (some .int) 5 0 [.ref (gCa g 0), .int x1] C (cQi g r C') :=
  c_met (by decide) rfl (Nat.le_of_ble_eq_true rfl) (fun X O => bc_RE_cost O x1 C h)
/-! RankEntry.count(I)I -/
def fc_RE_count_120 (y0 : Int32) (C : Mem) : Option (Int32 × Mem) :=
  some (y0, C)
set_option maxHeartbeats 4000000 in
theorem bc_RE_count_120 {g : gC} {X : Cxt} {r : Int32} {C' : Mem} (O : OkC g X cX1_count 2 (some .int) RX1 1 0 (cQi g r C')) (y0 : Int32) (C : Mem) (h : fc_RE_count_120 y0 C = some (r, C')) : V X 2 0 (WdC g C) 120 [] [.int y0] := by
  unfold fc_RE_count_120 at h
  exact c_iret O h dX1_count_120
def fc_RE_count (x1 : Int32) (C : Mem) : Option (Int32 × Mem) :=
  bnd (fc_RE_within x1 0 16 C) fun r1 C1 =>
  if r1 = 0 then
    some ((-1), C1)
  else
    if x1 = 0 then
      some ((C1 9 37), C1)
    else
    if x1 = 11 then
      some ((C1 9 33), C1)
    else
    if x1 = 14 then
      some ((C1 9 40), C1)
    else
    if x1 = 15 then
      some ((C1 9 50), C1)
    else
    if x1 = 16 then
      if 24 ≤ (C1 9 51) then
        fc_RE_count_120 24 C1
      else
        fc_RE_count_120 (C1 9 51) C1
    else
      gd (inb x1 14) <|
      some ((C1 (9 + 9) x1.toNatClampNeg), C1)
set_option maxHeartbeats 4000000 in
theorem bc_RE_count {g : gC} {X : Cxt} {r : Int32} {C' : Mem} (O : OkC g X cX1_count 2 (some .int) RX1 1 0 (cQi g r C')) (x1 : Int32) (C : Mem) (h : fc_RE_count x1 C = some (r, C')) : V X 2 0 (WdC g C) 0 [(0, .ref (gCa g 0)), (1, .int x1)] [] := by
  unfold fc_RE_count at h
  refine v_iload_n O.1 dX1_count_0 rfl (q := 1) rfl ?_
  refine v_iconst O.1 dX1_count_1 (v := 0) rfl (q := 2) rfl ?_
  refine v_bipush O.1 dX1_count_2 (v := 16) (by decide) (q := 4) rfl ?_
  obtain ⟨r1, C1, e1, h⟩ := bnd_some h
  refine c_callSi (As := [.int x1, .int 0, .int 16]) (rest := []) (n := 3) O (metc_RE_within _ g x1 0 16 C C1 r1 e1) (lw_S q1094 q656 q59 q657) (by decide +kernel) (by decide) (by decide) rfl rfl (Nat.le_of_ble_eq_true rfl) dX1_count_4 (q := 7) rfl (b' := 0) rfl ?_
  refine v_if_ne O.1 dX1_count_7 (t := 12) (by decide) (q := 10) rfl (fun c2 => ?_) (fun c2 => ?_)
  · rw [if_neg c2] at h
    refine v_iload_n O.1 dX1_count_12 rfl (q := 13) rfl ?_
    by_cases c3 : x1 = 0
    · rw [if_pos c3] at h
      refine v_lookup O.1 dX1_count_13 (off := 51) (t := 64) (by decide) (by rw [c3]; decide) (by decide) ?_
      refine v_aload_n O.1 dX1_count_64 rfl (q := 65) rfl ?_
      refine c_getR O 1 (v := .ref (gCa g 9)) (by decide) (O.lk q1078) rfl (fun _ _ => ⟨_, rfl, rfl⟩) dX1_count_65 (q := 68) rfl ?_
      refine c_getC O cC_9 37 (v := .int (C1 9 37)) (by decide) (O.lkn q906) rfl (fun _ => rfl) dX1_count_68 (q := 71) rfl ?_
      exact c_iret O h dX1_count_71
    rw [if_neg c3] at h
    by_cases c4 : x1 = 11
    · rw [if_pos c4] at h
      refine v_lookup O.1 dX1_count_13 (off := 59) (t := 72) (by decide) (by rw [c4]; decide) (by decide) ?_
      refine v_aload_n O.1 dX1_count_72 rfl (q := 73) rfl ?_
      refine c_getR O 1 (v := .ref (gCa g 9)) (by decide) (O.lk q1078) rfl (fun _ _ => ⟨_, rfl, rfl⟩) dX1_count_73 (q := 76) rfl ?_
      refine c_getC O cC_9 33 (v := .int (C1 9 33)) (by decide) (O.lkn q896) rfl (fun _ => rfl) dX1_count_76 (q := 79) rfl ?_
      exact c_iret O h dX1_count_79
    rw [if_neg c4] at h
    by_cases c5 : x1 = 14
    · rw [if_pos c5] at h
      refine v_lookup O.1 dX1_count_13 (off := 67) (t := 80) (by decide) (by rw [c5]; decide) (by decide) ?_
      refine v_aload_n O.1 dX1_count_80 rfl (q := 81) rfl ?_
      refine c_getR O 1 (v := .ref (gCa g 9)) (by decide) (O.lk q1078) rfl (fun _ _ => ⟨_, rfl, rfl⟩) dX1_count_81 (q := 84) rfl ?_
      refine c_getC O cC_9 40 (v := .int (C1 9 40)) (by decide) (O.lkn q912) rfl (fun _ => rfl) dX1_count_84 (q := 87) rfl ?_
      exact c_iret O h dX1_count_87
    rw [if_neg c5] at h
    by_cases c6 : x1 = 15
    · rw [if_pos c6] at h
      refine v_lookup O.1 dX1_count_13 (off := 75) (t := 88) (by decide) (by rw [c6]; decide) (by decide) ?_
      refine v_aload_n O.1 dX1_count_88 rfl (q := 89) rfl ?_
      refine c_getR O 1 (v := .ref (gCa g 9)) (by decide) (O.lk q1078) rfl (fun _ _ => ⟨_, rfl, rfl⟩) dX1_count_89 (q := 92) rfl ?_
      refine c_getC O cC_9 50 (v := .int (C1 9 50)) (by decide) (O.lkn q930) rfl (fun _ => rfl) dX1_count_92 (q := 95) rfl ?_
      exact c_iret O h dX1_count_95
    rw [if_neg c6] at h
    by_cases c8 : x1 = 16
    · rw [if_pos c8] at h
      refine v_lookup O.1 dX1_count_13 (off := 83) (t := 96) (by decide) (by rw [c8]; decide) (by decide) ?_
      refine v_aload_n O.1 dX1_count_96 rfl (q := 97) rfl ?_
      refine c_getR O 1 (v := .ref (gCa g 9)) (by decide) (O.lk q1078) rfl (fun _ _ => ⟨_, rfl, rfl⟩) dX1_count_97 (q := 100) rfl ?_
      refine c_getC O cC_9 51 (v := .int (C1 9 51)) (by decide) (O.lkn q932) rfl (fun _ => rfl) dX1_count_100 (q := 103) rfl ?_
      refine v_bipush O.1 dX1_count_103 (v := 24) (by decide) (q := 105) rfl ?_
      refine v_icmp_ge O.1 dX1_count_105 (t := 118) (by decide) (q := 108) rfl (fun c7 => ?_) (fun c7 => ?_)
      · rw [if_pos c7] at h
        refine v_bipush O.1 dX1_count_118 (v := 24) (by decide) (q := 120) rfl ?_
        exact v_sub [] rfl (bc_RE_count_120 O 24 C1 h)
      · rw [if_neg c7] at h
        refine v_aload_n O.1 dX1_count_108 rfl (q := 109) rfl ?_
        refine c_getR O 1 (v := .ref (gCa g 9)) (by decide) (O.lk q1078) rfl (fun _ _ => ⟨_, rfl, rfl⟩) dX1_count_109 (q := 112) rfl ?_
        refine c_getC O cC_9 51 (v := .int (C1 9 51)) (by decide) (O.lkn q932) rfl (fun _ => rfl) dX1_count_112 (q := 115) rfl ?_
        refine v_goto O.1 dX1_count_115 (t := 120) (by decide) ?_
        exact v_sub [] rfl (bc_RE_count_120 O (C1 9 51) C1 h)
    rw [if_neg c8] at h
    refine v_lookup O.1 dX1_count_13 (off := 108) (t := 121) (by decide) (by show Op.lookupswitch.offset [(0, 51), (11, 59), (14, 67), (15, 75), (16, 83)] 108 _ = _; rw [lv_osw (a := 0) c3 rfl, lv_osw (a := 11) c4 rfl, lv_osw (a := 14) c5 rfl, lv_osw (a := 15) c6 rfl, lv_osw (a := 16) c8 rfl]; rfl) (by decide) ?_
    refine v_aload_n O.1 dX1_count_121 rfl (q := 122) rfl ?_
    refine c_getR O 1 (v := .ref (gCa g 9)) (by decide) (O.lk q1078) rfl (fun _ _ => ⟨_, rfl, rfl⟩) dX1_count_122 (q := 125) rfl ?_
    refine c_getC O cC_9 11 (v := .ref (gCa g (9 + 9))) (by decide) (O.lkn q859) rfl (fun _ => rfl) dX1_count_125 (q := 128) rfl ?_
    refine v_iload_n O.1 dX1_count_128 rfl (q := 129) rfl ?_
    obtain ⟨g9, h⟩ := gd_some h
    refine c_iald O (cIA_counts cC_9) g9 rfl (j := x1.toNatClampNeg) dX1_count_129 (q := 130) rfl ?_
    exact c_iret O h dX1_count_130
  · rw [if_pos c2] at h
    refine v_iconst O.1 dX1_count_10 (v := (-1)) rfl (q := 11) rfl ?_
    exact c_iret O h dX1_count_11
theorem metc_RE_count (l : Launch) (g : gC) (x1 : Int32) (C C' : Mem) (r : Int32) (h : fc_RE_count x1 C = some (r, C')) : MetC l g yX1_count cX1_count 2 (some .int) 1 0 [.ref (gCa g 0), .int x1] C (cQi g r C') :=
  c_met (by decide) rfl (Nat.le_of_ble_eq_true rfl) (fun X O => bc_RE_count O x1 C h)
/-! RankEntry.enable(IZ)Z -/
def fc_RE_enable (x1 : Int32) (x2 : Int32) (C : Mem) : Option (Int32 × Mem) :=
  bnd (fc_RE_within x1 0 19 C) fun r1 C1 =>
  if r1 = 0 then
    some (0, C1)
  else
    gd (inb x1 21) <|
    gd (isB x2) <|
    stp (up2 C1 (9 + 22 + x1.toNatClampNeg) 3 x2) fun C5 =>
    some (1, C5)
set_option maxHeartbeats 4000000 in
theorem bc_RE_enable {g : gC} {X : Cxt} {r : Int32} {C' : Mem} (O : OkC g X cX1_enable 3 (some .boolean) RX1 1 0 (cQi g r C')) (x1 : Int32) (x2 : Int32) (C : Mem) (h : fc_RE_enable x1 x2 C = some (r, C')) : V X 3 0 (WdC g C) 0 [(0, .ref (gCa g 0)), (1, .int x1), (2, .int x2)] [] := by
  unfold fc_RE_enable at h
  refine v_iload_n O.1 dX1_enable_0 rfl (q := 1) rfl ?_
  refine v_iconst O.1 dX1_enable_1 (v := 0) rfl (q := 2) rfl ?_
  refine v_bipush O.1 dX1_enable_2 (v := 19) (by decide) (q := 4) rfl ?_
  obtain ⟨r1, C1, e1, h⟩ := bnd_some h
  refine c_callSi (As := [.int x1, .int 0, .int 19]) (rest := []) (n := 3) O (metc_RE_within _ g x1 0 19 C C1 r1 e1) (lw_S q1094 q656 q59 q657) (by decide +kernel) (by decide) (by decide) rfl rfl (Nat.le_of_ble_eq_true rfl) dX1_enable_4 (q := 7) rfl (b' := 0) rfl ?_
  refine v_if_ne O.1 dX1_enable_7 (t := 12) (by decide) (q := 10) rfl (fun c2 => ?_) (fun c2 => ?_)
  · rw [if_neg c2] at h
    refine v_aload_n O.1 dX1_enable_12 rfl (q := 13) rfl ?_
    refine c_getR O 1 (v := .ref (gCa g 9)) (by decide) (O.lk q1078) rfl (fun _ _ => ⟨_, rfl, rfl⟩) dX1_enable_13 (q := 16) rfl ?_
    refine c_getC O cC_9 7 (v := .ref (gCa g (9 + 5))) (by decide) (O.lkn q851) rfl (fun _ => rfl) dX1_enable_16 (q := 19) rfl ?_
    refine v_iload_n O.1 dX1_enable_19 rfl (q := 20) rfl ?_
    obtain ⟨g3, h⟩ := gd_some h
    refine c_all O cC_9 g3 rfl (j := x1.toNatClampNeg) dX1_enable_20 (q := 21) rfl ?_
    refine v_iload_n O.1 dX1_enable_21 rfl (q := 22) rfl ?_
    obtain ⟨g4, h⟩ := gd_some h
    obtain ⟨C5, e5, h⟩ := stp_some h
    refine c_putS O (cS_of cC_9 (inb_lt g3)) 3 (ty := .boolean) (by decide) (by decide) (O.lk q744) rfl rfl rfl rfl rfl rfl (isB_nar g4) (isB_fit g4) dX1_enable_22 (q := 25) rfl e5 ?_
    refine v_iconst O.1 dX1_enable_25 (v := 1) rfl (q := 26) rfl ?_
    exact c_zret O (by decide) h dX1_enable_26
  · rw [if_pos c2] at h
    refine v_iconst O.1 dX1_enable_10 (v := 0) rfl (q := 11) rfl ?_
    exact c_zret O (by decide) h dX1_enable_11
theorem metc_RE_enable (l : Launch) (g : gC) (x1 : Int32) (x2 : Int32) (C C' : Mem) (r : Int32) (h : fc_RE_enable x1 x2 C = some (r, C')) : MetC l g yX1_enable cX1_enable 3 (some .boolean) 1 0 [.ref (gCa g 0), .int x1, .int x2] C (cQi g r C') :=
  c_met (by decide) rfl (Nat.le_of_ble_eq_true rfl) (fun X O => bc_RE_enable O x1 x2 C h)
/-! RankEntry.escalates(I)I -/
def fc_RE_escalates_39 (y0 : Int32) (C : Mem) : Option (Int32 × Mem) :=
  some (y0, C)
set_option maxHeartbeats 4000000 in
theorem bc_RE_escalates_39 {g : gC} {X : Cxt} {r : Int32} {C' : Mem} (O : OkC g X cX1_escalates 2 (some .int) RX1 4 0 (cQi g r C')) (y0 : Int32) (C : Mem) (h : fc_RE_escalates_39 y0 C = some (r, C')) : V X 2 0 (WdC g C) 39 [] [.int y0] := by
  unfold fc_RE_escalates_39 at h
  exact c_iret O h dX1_escalates_39
def fc_RE_escalates (x1 : Int32) (C : Mem) : Option (Int32 × Mem) :=
  bnd (fc_RE_within x1 18 19 C) fun r1 C1 =>
  if r1 = 0 then
    fc_RE_escalates_39 (-1) C1
  else
    if (C1 9 41) = 5 then
      fc_RE_escalates_39 (-2) C1
    else
      bnd (fc_Core_becoming 9 x1 C1) fun r4 C4 =>
      fc_RE_escalates_39 r4 C4
set_option maxHeartbeats 4000000 in
theorem bc_RE_escalates {g : gC} {X : Cxt} {r : Int32} {C' : Mem} (O : OkC g X cX1_escalates 2 (some .int) RX1 4 0 (cQi g r C')) (x1 : Int32) (C : Mem) (h : fc_RE_escalates x1 C = some (r, C')) : V X 2 0 (WdC g C) 0 [(0, .ref (gCa g 0)), (1, .int x1)] [] := by
  unfold fc_RE_escalates at h
  refine v_iload_n O.1 dX1_escalates_0 rfl (q := 1) rfl ?_
  refine v_bipush O.1 dX1_escalates_1 (v := 18) (by decide) (q := 3) rfl ?_
  refine v_bipush O.1 dX1_escalates_3 (v := 19) (by decide) (q := 5) rfl ?_
  obtain ⟨r1, C1, e1, h⟩ := bnd_some h
  refine c_callSi (As := [.int x1, .int 18, .int 19]) (rest := []) (n := 3) O (metc_RE_within _ g x1 18 19 C C1 r1 e1) (lw_S q1094 q656 q59 q657) (by decide +kernel) (by decide) (by decide) rfl rfl (Nat.le_of_ble_eq_true rfl) dX1_escalates_5 (q := 8) rfl (b' := 0) rfl ?_
  refine v_if_eq O.1 dX1_escalates_8 (t := 38) (by decide) (q := 11) rfl (fun c2 => ?_) (fun c2 => ?_)
  · rw [if_pos c2] at h
    refine v_iconst O.1 dX1_escalates_38 (v := (-1)) rfl (q := 39) rfl ?_
    exact v_sub [] rfl (bc_RE_escalates_39 O (-1) C1 h)
  · rw [if_neg c2] at h
    refine v_aload_n O.1 dX1_escalates_11 rfl (q := 12) rfl ?_
    refine c_getR O 1 (v := .ref (gCa g 9)) (by decide) (O.lk q1078) rfl (fun _ _ => ⟨_, rfl, rfl⟩) dX1_escalates_12 (q := 15) rfl ?_
    refine c_getC O cC_9 41 (v := .int (C1 9 41)) (by decide) (O.lkn q914) rfl (fun _ => rfl) dX1_escalates_15 (q := 18) rfl ?_
    refine v_iconst O.1 dX1_escalates_18 (v := 5) rfl (q := 19) rfl ?_
    refine v_icmp_ne O.1 dX1_escalates_19 (t := 27) (by decide) (q := 22) rfl (fun c3 => ?_) (fun c3 => ?_)
    · rw [if_neg c3] at h
      refine v_aload_n O.1 dX1_escalates_27 rfl (q := 28) rfl ?_
      refine c_getR O 1 (v := .ref (gCa g 9)) (by decide) (O.lk q1078) rfl (fun _ _ => ⟨_, rfl, rfl⟩) dX1_escalates_28 (q := 31) rfl ?_
      refine v_iload_n O.1 dX1_escalates_31 rfl (q := 32) rfl ?_
      obtain ⟨r4, C4, e4, h⟩ := bnd_some h
      refine c_callVi (As := [.int x1]) (rest := []) (n := 1) (ci := 2) (p := (RX4, TX4, 55)) O (cC_lt (j := 0) cC_9 (by decide)) rfl (fun _ _ => ⟨_, cCell_core cC_9⟩) (metc_Core_becoming _ g 9 cC_9 x1 C1 C4 r4 e4) (lw_V q1271 q259 q260 q63 q261) (by decide +kernel) (by decide) (by decide) rfl rfl (Nat.le_of_ble_eq_true rfl) dX1_escalates_32 (q := 35) rfl (b' := 0) rfl ?_
      refine v_goto O.1 dX1_escalates_35 (t := 39) (by decide) ?_
      exact v_sub [] rfl (bc_RE_escalates_39 O r4 C4 h)
    · rw [if_pos c3] at h
      refine v_bipush O.1 dX1_escalates_22 (v := (-2)) (by decide) (q := 24) rfl ?_
      refine v_goto O.1 dX1_escalates_24 (t := 39) (by decide) ?_
      exact v_sub [] rfl (bc_RE_escalates_39 O (-2) C1 h)
theorem metc_RE_escalates (l : Launch) (g : gC) (x1 : Int32) (C C' : Mem) (r : Int32) (h : fc_RE_escalates x1 C = some (r, C')) : MetC l g yX1_escalates cX1_escalates 2 (some .int) 4 0 [.ref (gCa g 0), .int x1] C (cQi g r C') :=
  c_met (by decide) rfl (Nat.le_of_ble_eq_true rfl) (fun X O => bc_RE_escalates O x1 C h)
/-! RankEntry.goes(LRankEntry$Core;I)I -/
def fc_RE_goes_37 (ka0 : Nat)  (C : Mem) : Option (Int32 × Mem) :=
  some ((-1), C)
set_option maxHeartbeats 4000000 in
theorem bc_RE_goes_37 {g : gC} {X : Cxt} {r : Int32} {C' : Mem} {ka0 : Nat} (hka0 : cC ka0) (O : OkC g X cX1_goes 3 (some .int) RX1 13 915 (cQi g r C'))  (C : Mem) (h : fc_RE_goes_37 ka0  C = some (r, C')) : V X 3 0 (WdC g C) 37 [] [] := by
  unfold fc_RE_goes_37 at h
  refine v_iconst O.1 dX1_goes_37 (v := (-1)) rfl (q := 38) rfl ?_
  exact c_iret O h dX1_goes_38
def fc_RE_goes_2b (ka0 : Nat) (K2 : Int32 → Int32 → Mem → Option (Int32 × Mem)) (x1 : Int32) (x2 : Int32) (C : Mem) : Option (Int32 × Mem) :=
  if 300 < x2 then
    fc_RE_goes_37 ka0 C
  else
    if (C ka0 41) = 5 then
      fc_RE_goes_37 ka0 C
    else
      bnd (fc_Core_cycle ka0 C) fun r3 C3 =>
      if (C3 ka0 52) = x1 then
        some (x2, C3)
      else
        K2 x1 (x2 + 1) C3
set_option maxHeartbeats 4000000 in
theorem bc_RE_goes_2b {g : gC} {X : Cxt} {r : Int32} {C' : Mem} {n2 : Nat} {ka0 : Nat} (hka0 : cC ka0) (O : OkC g X cX1_goes 3 (some .int) RX1 13 915 (cQi g r C')) {K2 : Int32 → Int32 → Mem → Option (Int32 × Mem)} (hK2 : ∀ (x1 : Int32) (x2 : Int32) (C : Mem), K2 x1 x2 C = some (r, C') → V X 3 (3 * n2 + 0) (WdC g C) 2 [(0, .ref (gCa g ka0)), (1, .int x1), (2, .int x2)] []) (x1 : Int32) (x2 : Int32) (C : Mem) (h : fc_RE_goes_2b ka0 K2 x1 x2 C = some (r, C')) : V X 3 (3 * n2 + 3) (WdC g C) 2 [(0, .ref (gCa g ka0)), (1, .int x1), (2, .int x2)] [] := by
  unfold fc_RE_goes_2b at h
  refine v_iload_n O.1 dX1_goes_2 rfl (q := 3) rfl ?_
  refine v_sipush O.1 dX1_goes_3 (v := 300) (by decide) (q := 6) rfl ?_
  refine v_icmp_gt O.1 dX1_goes_6 (t := 37) (by decide) (q := 9) rfl (fun c1 => ?_) (fun c1 => ?_)
  · rw [if_pos c1] at h
    exact v_less (b' := 0) (by omega) (v_sub [] rfl (bc_RE_goes_37 hka0 O C h))
  · rw [if_neg c1] at h
    refine v_aload_n O.1 dX1_goes_9 rfl (q := 10) rfl ?_
    refine c_getC O hka0 41 (v := .int (C ka0 41)) (by decide) (O.lkn q914) rfl (fun _ => rfl) dX1_goes_10 (q := 13) rfl ?_
    refine v_iconst O.1 dX1_goes_13 (v := 5) rfl (q := 14) rfl ?_
    refine v_icmp_eq O.1 dX1_goes_14 (t := 37) (by decide) (q := 17) rfl (fun c2 => ?_) (fun c2 => ?_)
    · rw [if_pos c2] at h
      exact v_less (b' := 0) (by omega) (v_sub [] rfl (bc_RE_goes_37 hka0 O C h))
    · rw [if_neg c2] at h
      refine v_aload_n O.1 dX1_goes_17 rfl (q := 18) rfl ?_
      obtain ⟨r3, C3, e3, h⟩ := bnd_some h
      refine c_callVv (As := []) (rest := []) (n := 0) (ci := 2) (p := (RX4, TX4, 55)) O (cC_lt (j := 0) hka0 (by decide)) rfl (fun _ _ => ⟨_, cCell_core hka0⟩) (metc_Core_cycle _ g ka0 hka0 C C3 r3 e3) (lw_V q1150 q1151 q1152 q63 q1153) (by decide +kernel) (by decide) (by decide) rfl rfl (Nat.le_of_ble_eq_true rfl) dX1_goes_18 (q := 21) rfl (b' := (3 * n2 + 0)) (by omega) ?_
      refine v_aload_n O.1 dX1_goes_21 rfl (q := 22) rfl ?_
      refine c_getC O hka0 52 (v := .int (C3 ka0 52)) (by decide) (O.lkn q934) rfl (fun _ => rfl) dX1_goes_22 (q := 25) rfl ?_
      refine v_iload_n O.1 dX1_goes_25 rfl (q := 26) rfl ?_
      refine v_icmp_ne O.1 dX1_goes_26 (t := 31) (by decide) (q := 29) rfl (fun c4 => ?_) (fun c4 => ?_)
      · rw [if_neg c4] at h
        refine v_iinc (lv' := [(2, .int (x2 + 1)), (0, .ref (gCa g ka0)), (1, .int x1)]) (v := (x2 + 1)) O.1 dX1_goes_31 rfl rfl (by decide) rfl (q := 34) rfl ?_
        refine v_goto O.1 dX1_goes_34 (t := 2) (by decide) ?_
        exact v_sub [1, 2, 0] rfl (hK2 x1 (x2 + 1) C3 h)
      · rw [if_pos c4] at h
        refine v_iload_n O.1 dX1_goes_29 rfl (q := 30) rfl ?_
        exact c_iret O h dX1_goes_30
def fc_RE_goes_2 (ka0 : Nat) (n : Nat) : Int32 → Int32 → Mem → Option (Int32 × Mem) := lpc (fc_RE_goes_2b ka0) (fun _ _ _ => none) n
theorem bc_RE_goes_2 {g : gC} {X : Cxt} {r : Int32} {C' : Mem} {ka0 : Nat} (hka0 : cC ka0) (O : OkC g X cX1_goes 3 (some .int) RX1 13 915 (cQi g r C')) : ∀ (n : Nat) (x1 : Int32) (x2 : Int32) (C : Mem), fc_RE_goes_2 ka0 n x1 x2 C = some (r, C') → V X 3 (3 * n + 0) (WdC g C) 2 [(0, .ref (gCa g ka0)), (1, .int x1), (2, .int x2)] [] := by
  intro n
  induction n with
  | zero =>
    intro x1 x2 C h
    cases h
  | succ n ih =>
    intro x1 x2 C h
    exact v_less (by omega) (bc_RE_goes_2b hka0 O ih x1 x2 C h)
def fc_RE_goes (ka0 : Nat) (x1 : Int32) (C : Mem) : Option (Int32 × Mem) :=
  fc_RE_goes_2 ka0 305 x1 1 C
set_option maxHeartbeats 4000000 in
theorem bc_RE_goes {g : gC} {X : Cxt} {r : Int32} {C' : Mem} {ka0 : Nat} (hka0 : cC ka0) (O : OkC g X cX1_goes 3 (some .int) RX1 13 915 (cQi g r C')) (x1 : Int32) (C : Mem) (h : fc_RE_goes ka0 x1 C = some (r, C')) : V X 3 915 (WdC g C) 0 [(0, .ref (gCa g ka0)), (1, .int x1)] [] := by
  unfold fc_RE_goes at h
  refine v_iconst O.1 dX1_goes_0 (v := 1) rfl (q := 1) rfl ?_
  refine v_istore_n (lv' := [(2, .int 1), (0, .ref (gCa g ka0)), (1, .int x1)]) O.1 dX1_goes_1 (by decide) rfl (q := 2) rfl ?_
  exact v_sub [1, 2, 0] rfl (bc_RE_goes_2 hka0 O 305 x1 1 C h)
theorem metc_RE_goes (l : Launch) (g : gC) (ka0 : Nat) (hka0 : cC ka0) (x1 : Int32) (C C' : Mem) (r : Int32) (h : fc_RE_goes ka0 x1 C = some (r, C')) : MetC l g yX1_goes cX1_goes 3 (some .int) 13 915 [.ref (gCa g ka0), .int x1] C (cQi g r C') :=
  c_met (by decide) rfl (Nat.le_of_ble_eq_true rfl) (fun X O => bc_RE_goes hka0 O x1 C h)
/-! RankEntry.keeps()I -/
def fc_RE_keeps_30  (C : Mem) : Option (Int32 × Mem) :=
  some ((-1), C)
set_option maxHeartbeats 4000000 in
theorem bc_RE_keeps_30 {g : gC} {X : Cxt} {r : Int32} {C' : Mem} (O : OkC g X cX1_keeps 4 (some .int) RX1 13 915 (cQi g r C'))  (C : Mem) (h : fc_RE_keeps_30  C = some (r, C')) : V X 4 0 (WdC g C) 30 [] [] := by
  unfold fc_RE_keeps_30 at h
  refine v_iconst O.1 dX1_keeps_30 (v := (-1)) rfl (q := 31) rfl ?_
  exact c_iret O h dX1_keeps_31
def fc_RE_keeps_119 (K42 : Int32 → Int32 → Mem → Option (Int32 × Mem)) (x2 : Int32) (x3 : Int32) (C : Mem) : Option (Int32 × Mem) :=
  K42 x2 (x3 + 1) C
set_option maxHeartbeats 4000000 in
theorem bc_RE_keeps_119 {g : gC} {X : Cxt} {r : Int32} {C' : Mem} {n42 : Nat} (O : OkC g X cX1_keeps 4 (some .int) RX1 13 915 (cQi g r C')) {K42 : Int32 → Int32 → Mem → Option (Int32 × Mem)} (hK42 : ∀ (x2 : Int32) (x3 : Int32) (C : Mem), K42 x2 x3 C = some (r, C') → V X 4 (3 * n42 + 0) (WdC g C) 42 [(0, .ref (gCa g 0)), (1, .ref (gCa g 52)), (2, .int x2), (3, .int x3)] []) (x2 : Int32) (x3 : Int32) (C : Mem) (h : fc_RE_keeps_119 K42 x2 x3 C = some (r, C')) : V X 4 (3 * n42 + 0) (WdC g C) 119 [(0, .ref (gCa g 0)), (1, .ref (gCa g 52)), (2, .int x2), (3, .int x3)] [] := by
  unfold fc_RE_keeps_119 at h
  refine v_iinc (lv' := [(3, .int (x3 + 1)), (0, .ref (gCa g 0)), (1, .ref (gCa g 52)), (2, .int x2)]) (v := (x3 + 1)) O.1 dX1_keeps_119 rfl rfl (by decide) rfl (q := 122) rfl ?_
  refine v_goto O.1 dX1_keeps_122 (t := 42) (by decide) ?_
  exact v_sub [1, 2, 3, 0] rfl (hK42 x2 (x3 + 1) C h)
def fc_RE_keeps_118 (y0 : Int32) (C : Mem) : Option (Int32 × Mem) :=
  some (y0, C)
set_option maxHeartbeats 4000000 in
theorem bc_RE_keeps_118 {g : gC} {X : Cxt} {r : Int32} {C' : Mem} (O : OkC g X cX1_keeps 4 (some .int) RX1 13 915 (cQi g r C')) (y0 : Int32) (C : Mem) (h : fc_RE_keeps_118 y0 C = some (r, C')) : V X 4 0 (WdC g C) 118 [] [.int y0] := by
  unfold fc_RE_keeps_118 at h
  exact c_iret O h dX1_keeps_118
def fc_RE_keeps_76 (K42 : Int32 → Int32 → Mem → Option (Int32 × Mem)) (x3 : Int32) (y0 : Int32) (C : Mem) : Option (Int32 × Mem) :=
  if y0 = 0 then
    fc_RE_keeps_119 K42 y0 x3 C
  else
    if (C 52 41) = 0 then
      if (C 52 33) = (C 9 33) then
        bnd (fc_Core_isAs 52 9 C) fun r4 C4 =>
        if r4 = 0 then
          fc_RE_keeps_118 0 C4
        else
          fc_RE_keeps_118 1 C4
      else
        fc_RE_keeps_119 K42 y0 x3 C
    else
      fc_RE_keeps_119 K42 y0 x3 C
set_option maxHeartbeats 4000000 in
theorem bc_RE_keeps_76 {g : gC} {X : Cxt} {r : Int32} {C' : Mem} {n42 : Nat} (O : OkC g X cX1_keeps 4 (some .int) RX1 13 915 (cQi g r C')) {K42 : Int32 → Int32 → Mem → Option (Int32 × Mem)} (hK42 : ∀ (x2 : Int32) (x3 : Int32) (C : Mem), K42 x2 x3 C = some (r, C') → V X 4 (3 * n42 + 0) (WdC g C) 42 [(0, .ref (gCa g 0)), (1, .ref (gCa g 52)), (2, .int x2), (3, .int x3)] []) (x3 : Int32) (y0 : Int32) (C : Mem) (h : fc_RE_keeps_76 K42 x3 y0 C = some (r, C')) : V X 4 (3 * n42 + 0) (WdC g C) 76 [(0, .ref (gCa g 0)), (1, .ref (gCa g 52)), (3, .int x3)] [.int y0] := by
  unfold fc_RE_keeps_76 at h
  refine v_istore_n (lv' := [(2, .int y0), (0, .ref (gCa g 0)), (1, .ref (gCa g 52)), (3, .int x3)]) O.1 dX1_keeps_76 (by decide) rfl (q := 77) rfl ?_
  refine v_iload_n O.1 dX1_keeps_77 rfl (q := 78) rfl ?_
  refine v_if_eq O.1 dX1_keeps_78 (t := 119) (by decide) (q := 81) rfl (fun c1 => ?_) (fun c1 => ?_)
  · rw [if_pos c1] at h
    exact v_sub [1, 2, 0, 3] rfl (bc_RE_keeps_119 O hK42 y0 x3 C h)
  · rw [if_neg c1] at h
    refine v_aload_n O.1 dX1_keeps_81 rfl (q := 82) rfl ?_
    refine c_getC O cC_52 41 (v := .int (C 52 41)) (by decide) (O.lkn q914) rfl (fun _ => rfl) dX1_keeps_82 (q := 85) rfl ?_
    refine v_if_ne O.1 dX1_keeps_85 (t := 119) (by decide) (q := 88) rfl (fun c2 => ?_) (fun c2 => ?_)
    · rw [if_neg c2] at h
      exact v_sub [1, 2, 0, 3] rfl (bc_RE_keeps_119 O hK42 y0 x3 C h)
    · rw [if_pos c2] at h
      refine v_aload_n O.1 dX1_keeps_88 rfl (q := 89) rfl ?_
      refine c_getC O cC_52 33 (v := .int (C 52 33)) (by decide) (O.lkn q896) rfl (fun _ => rfl) dX1_keeps_89 (q := 92) rfl ?_
      refine v_aload_n O.1 dX1_keeps_92 rfl (q := 93) rfl ?_
      refine c_getR O 1 (v := .ref (gCa g 9)) (by decide) (O.lk q1078) rfl (fun _ _ => ⟨_, rfl, rfl⟩) dX1_keeps_93 (q := 96) rfl ?_
      refine c_getC O cC_9 33 (v := .int (C 9 33)) (by decide) (O.lkn q896) rfl (fun _ => rfl) dX1_keeps_96 (q := 99) rfl ?_
      refine v_icmp_ne O.1 dX1_keeps_99 (t := 119) (by decide) (q := 102) rfl (fun c3 => ?_) (fun c3 => ?_)
      · rw [if_neg c3] at h
        exact v_sub [1, 2, 0, 3] rfl (bc_RE_keeps_119 O hK42 y0 x3 C h)
      · rw [if_pos c3] at h
        refine v_aload_n O.1 dX1_keeps_102 rfl (q := 103) rfl ?_
        refine v_aload_n O.1 dX1_keeps_103 rfl (q := 104) rfl ?_
        refine c_getR O 1 (v := .ref (gCa g 9)) (by decide) (O.lk q1078) rfl (fun _ _ => ⟨_, rfl, rfl⟩) dX1_keeps_104 (q := 107) rfl ?_
        obtain ⟨r4, C4, e4, h⟩ := bnd_some h
        refine c_callVi (As := [.ref (gCa g 9)]) (rest := []) (n := 1) (ci := 2) (p := (RX4, TX4, 55)) O (cC_lt (j := 0) cC_52 (by decide)) rfl (fun _ _ => ⟨_, cCell_core cC_52⟩) (metc_Core_isAs _ g 52 cC_52 9 cC_9 C C4 r4 e4) (lw_V q1296 q1297 q1298 q63 q1299) (by decide +kernel) (by decide) (by decide) rfl rfl (Nat.le_of_ble_eq_true rfl) dX1_keeps_107 (q := 110) rfl (b' := (3 * n42 + 0)) (by omega) ?_
        refine v_if_eq O.1 dX1_keeps_110 (t := 117) (by decide) (q := 113) rfl (fun c5 => ?_) (fun c5 => ?_)
        · rw [if_pos c5] at h
          refine v_iconst O.1 dX1_keeps_117 (v := 0) rfl (q := 118) rfl ?_
          exact v_less (b' := 0) (by omega) (v_sub [] rfl (bc_RE_keeps_118 O 0 C4 h))
        · rw [if_neg c5] at h
          refine v_iconst O.1 dX1_keeps_113 (v := 1) rfl (q := 114) rfl ?_
          refine v_goto O.1 dX1_keeps_114 (t := 118) (by decide) ?_
          exact v_less (b' := 0) (by omega) (v_sub [] rfl (bc_RE_keeps_118 O 1 C4 h))
def fc_RE_keeps_71 (K42 : Int32 → Int32 → Mem → Option (Int32 × Mem)) (x3 : Int32) (C : Mem) : Option (Int32 × Mem) :=
  fc_RE_keeps_76 K42 x3 1 C
set_option maxHeartbeats 4000000 in
theorem bc_RE_keeps_71 {g : gC} {X : Cxt} {r : Int32} {C' : Mem} {n42 : Nat} (O : OkC g X cX1_keeps 4 (some .int) RX1 13 915 (cQi g r C')) {K42 : Int32 → Int32 → Mem → Option (Int32 × Mem)} (hK42 : ∀ (x2 : Int32) (x3 : Int32) (C : Mem), K42 x2 x3 C = some (r, C') → V X 4 (3 * n42 + 0) (WdC g C) 42 [(0, .ref (gCa g 0)), (1, .ref (gCa g 52)), (2, .int x2), (3, .int x3)] []) (x3 : Int32) (C : Mem) (h : fc_RE_keeps_71 K42 x3 C = some (r, C')) : V X 4 (3 * n42 + 0) (WdC g C) 71 [(0, .ref (gCa g 0)), (1, .ref (gCa g 52)), (3, .int x3)] [] := by
  unfold fc_RE_keeps_71 at h
  refine v_iconst O.1 dX1_keeps_71 (v := 1) rfl (q := 72) rfl ?_
  refine v_goto O.1 dX1_keeps_72 (t := 76) (by decide) ?_
  exact v_sub [0, 1, 2] rfl (bc_RE_keeps_76 O hK42 x3 1 C h)
def fc_RE_keeps_42b (K42 : Int32 → Int32 → Mem → Option (Int32 × Mem)) (x2 : Int32) (x3 : Int32) (C : Mem) : Option (Int32 × Mem) :=
  if 300 ≤ x3 then
    some ((-1), C)
  else
    bnd (fc_Core_cycle 52 C) fun r2 C2 =>
    if x2 = 0 then
      if (C2 52 33) ≤ (C2 9 33) then
        fc_RE_keeps_76 K42 x3 0 C2
      else
        fc_RE_keeps_71 K42 x3 C2
    else
      fc_RE_keeps_71 K42 x3 C2
set_option maxHeartbeats 4000000 in
theorem bc_RE_keeps_42b {g : gC} {X : Cxt} {r : Int32} {C' : Mem} {n42 : Nat} (O : OkC g X cX1_keeps 4 (some .int) RX1 13 915 (cQi g r C')) {K42 : Int32 → Int32 → Mem → Option (Int32 × Mem)} (hK42 : ∀ (x2 : Int32) (x3 : Int32) (C : Mem), K42 x2 x3 C = some (r, C') → V X 4 (3 * n42 + 0) (WdC g C) 42 [(0, .ref (gCa g 0)), (1, .ref (gCa g 52)), (2, .int x2), (3, .int x3)] []) (x2 : Int32) (x3 : Int32) (C : Mem) (h : fc_RE_keeps_42b K42 x2 x3 C = some (r, C')) : V X 4 (3 * n42 + 3) (WdC g C) 42 [(0, .ref (gCa g 0)), (1, .ref (gCa g 52)), (2, .int x2), (3, .int x3)] [] := by
  unfold fc_RE_keeps_42b at h
  refine v_iload_n O.1 dX1_keeps_42 rfl (q := 43) rfl ?_
  refine v_sipush O.1 dX1_keeps_43 (v := 300) (by decide) (q := 46) rfl ?_
  refine v_icmp_ge O.1 dX1_keeps_46 (t := 125) (by decide) (q := 49) rfl (fun c1 => ?_) (fun c1 => ?_)
  · rw [if_pos c1] at h
    refine v_iconst O.1 dX1_keeps_125 (v := (-1)) rfl (q := 126) rfl ?_
    exact c_iret O h dX1_keeps_126
  · rw [if_neg c1] at h
    refine v_aload_n O.1 dX1_keeps_49 rfl (q := 50) rfl ?_
    obtain ⟨r2, C2, e2, h⟩ := bnd_some h
    refine c_callVv (As := []) (rest := []) (n := 0) (ci := 2) (p := (RX4, TX4, 55)) O (cC_lt (j := 0) cC_52 (by decide)) rfl (fun _ _ => ⟨_, cCell_core cC_52⟩) (metc_Core_cycle _ g 52 cC_52 C C2 r2 e2) (lw_V q1150 q1151 q1152 q63 q1153) (by decide +kernel) (by decide) (by decide) rfl rfl (Nat.le_of_ble_eq_true rfl) dX1_keeps_50 (q := 53) rfl (b' := (3 * n42 + 0)) (by omega) ?_
    refine v_iload_n O.1 dX1_keeps_53 rfl (q := 54) rfl ?_
    refine v_if_ne O.1 dX1_keeps_54 (t := 71) (by decide) (q := 57) rfl (fun c3 => ?_) (fun c3 => ?_)
    · rw [if_neg c3] at h
      exact v_sub [0, 1, 3] rfl (bc_RE_keeps_71 O hK42 x3 C2 h)
    · rw [if_pos c3] at h
      refine v_aload_n O.1 dX1_keeps_57 rfl (q := 58) rfl ?_
      refine c_getC O cC_52 33 (v := .int (C2 52 33)) (by decide) (O.lkn q896) rfl (fun _ => rfl) dX1_keeps_58 (q := 61) rfl ?_
      refine v_aload_n O.1 dX1_keeps_61 rfl (q := 62) rfl ?_
      refine c_getR O 1 (v := .ref (gCa g 9)) (by decide) (O.lk q1078) rfl (fun _ _ => ⟨_, rfl, rfl⟩) dX1_keeps_62 (q := 65) rfl ?_
      refine c_getC O cC_9 33 (v := .int (C2 9 33)) (by decide) (O.lkn q896) rfl (fun _ => rfl) dX1_keeps_65 (q := 68) rfl ?_
      refine v_icmp_le O.1 dX1_keeps_68 (t := 75) (by decide) (q := 71) rfl (fun c4 => ?_) (fun c4 => ?_)
      · rw [if_pos c4] at h
        refine v_iconst O.1 dX1_keeps_75 (v := 0) rfl (q := 76) rfl ?_
        exact v_sub [0, 1, 3] rfl (bc_RE_keeps_76 O hK42 x3 0 C2 h)
      · rw [if_neg c4] at h
        exact v_sub [0, 1, 3] rfl (bc_RE_keeps_71 O hK42 x3 C2 h)
def fc_RE_keeps_42 (n : Nat) : Int32 → Int32 → Mem → Option (Int32 × Mem) := lpc (fc_RE_keeps_42b) (fun _ _ _ => none) n
theorem bc_RE_keeps_42 {g : gC} {X : Cxt} {r : Int32} {C' : Mem} (O : OkC g X cX1_keeps 4 (some .int) RX1 13 915 (cQi g r C')) : ∀ (n : Nat) (x2 : Int32) (x3 : Int32) (C : Mem), fc_RE_keeps_42 n x2 x3 C = some (r, C') → V X 4 (3 * n + 0) (WdC g C) 42 [(0, .ref (gCa g 0)), (1, .ref (gCa g 52)), (2, .int x2), (3, .int x3)] [] := by
  intro n
  induction n with
  | zero =>
    intro x2 x3 C h
    cases h
  | succ n ih =>
    intro x2 x3 C h
    exact v_less (by omega) (bc_RE_keeps_42b O ih x2 x3 C h)
def fc_RE_keeps  (C : Mem) : Option (Int32 × Mem) :=
  if (C 9 41) = 0 then
    if 0 < (C 9 43) then
      fc_RE_keeps_30 C
    else
      bnd (fc_Core_next 9 C) fun r3 C3 =>
      if 0 ≤ r3 then
        bnd (fc_RE_tried 0 C3) fun r5 C5 =>
        fc_RE_keeps_42 305 0 0 C5
      else
        fc_RE_keeps_30 C3
  else
    fc_RE_keeps_30 C
set_option maxHeartbeats 4000000 in
theorem bc_RE_keeps {g : gC} {X : Cxt} {r : Int32} {C' : Mem} (O : OkC g X cX1_keeps 4 (some .int) RX1 13 915 (cQi g r C'))  (C : Mem) (h : fc_RE_keeps  C = some (r, C')) : V X 4 915 (WdC g C) 0 [(0, .ref (gCa g 0))] [] := by
  unfold fc_RE_keeps at h
  refine v_aload_n O.1 dX1_keeps_0 rfl (q := 1) rfl ?_
  refine c_getR O 1 (v := .ref (gCa g 9)) (by decide) (O.lk q1078) rfl (fun _ _ => ⟨_, rfl, rfl⟩) dX1_keeps_1 (q := 4) rfl ?_
  refine c_getC O cC_9 41 (v := .int (C 9 41)) (by decide) (O.lkn q914) rfl (fun _ => rfl) dX1_keeps_4 (q := 7) rfl ?_
  refine v_if_ne O.1 dX1_keeps_7 (t := 30) (by decide) (q := 10) rfl (fun c1 => ?_) (fun c1 => ?_)
  · rw [if_neg c1] at h
    exact v_less (b' := 0) (by decide) (v_sub [] rfl (bc_RE_keeps_30 O C h))
  · rw [if_pos c1] at h
    refine v_aload_n O.1 dX1_keeps_10 rfl (q := 11) rfl ?_
    refine c_getR O 1 (v := .ref (gCa g 9)) (by decide) (O.lk q1078) rfl (fun _ _ => ⟨_, rfl, rfl⟩) dX1_keeps_11 (q := 14) rfl ?_
    refine c_getC O cC_9 43 (v := .int (C 9 43)) (by decide) (O.lkn q918) rfl (fun _ => rfl) dX1_keeps_14 (q := 17) rfl ?_
    refine v_if_gt O.1 dX1_keeps_17 (t := 30) (by decide) (q := 20) rfl (fun c2 => ?_) (fun c2 => ?_)
    · rw [if_pos c2] at h
      exact v_less (b' := 0) (by decide) (v_sub [] rfl (bc_RE_keeps_30 O C h))
    · rw [if_neg c2] at h
      refine v_aload_n O.1 dX1_keeps_20 rfl (q := 21) rfl ?_
      refine c_getR O 1 (v := .ref (gCa g 9)) (by decide) (O.lk q1078) rfl (fun _ _ => ⟨_, rfl, rfl⟩) dX1_keeps_21 (q := 24) rfl ?_
      obtain ⟨r3, C3, e3, h⟩ := bnd_some h
      refine c_callVi (As := []) (rest := []) (n := 0) (ci := 2) (p := (RX4, TX4, 55)) O (cC_lt (j := 0) cC_9 (by decide)) rfl (fun _ _ => ⟨_, cCell_core cC_9⟩) (metc_Core_next _ g 9 cC_9 C C3 r3 e3) (lw_V q1219 q205 q206 q63 q207) (by decide +kernel) (by decide) (by decide) rfl rfl (Nat.le_of_ble_eq_true rfl) dX1_keeps_24 (q := 27) rfl (b' := 915) rfl ?_
      refine v_if_ge O.1 dX1_keeps_27 (t := 32) (by decide) (q := 30) rfl (fun c4 => ?_) (fun c4 => ?_)
      · rw [if_pos c4] at h
        refine v_aload_n O.1 dX1_keeps_32 rfl (q := 33) rfl ?_
        refine v_iconst O.1 dX1_keeps_33 (v := 0) rfl (q := 34) rfl ?_
        obtain ⟨r5, C5, e5, h⟩ := bnd_some h
        refine c_callVr (As := [.int 0]) (rest := []) (n := 1) (ci := 0) (p := (RX1, TX1, 4)) O (by decide) rfl (fun _ _ => ⟨_, rfl⟩) (metc_RE_tried _ g  0 C3 C5 r5 e5) (lw_V q1238 q1240 qs18 q59 q1241) (by decide +kernel) (by decide) (by decide) rfl rfl (Nat.le_of_ble_eq_true rfl) dX1_keeps_34 (q := 37) rfl (b' := 915) rfl ?_
        refine v_astore_n (lv' := [(1, .ref (gCa g 52)), (0, .ref (gCa g 0))]) O.1 dX1_keeps_37 (by decide) rfl (q := 38) rfl ?_
        refine v_iconst O.1 dX1_keeps_38 (v := 0) rfl (q := 39) rfl ?_
        refine v_istore_n (lv' := [(2, .int 0), (1, .ref (gCa g 52)), (0, .ref (gCa g 0))]) O.1 dX1_keeps_39 (by decide) rfl (q := 40) rfl ?_
        refine v_iconst O.1 dX1_keeps_40 (v := 0) rfl (q := 41) rfl ?_
        refine v_istore_n (lv' := [(3, .int 0), (2, .int 0), (1, .ref (gCa g 52)), (0, .ref (gCa g 0))]) O.1 dX1_keeps_41 (by decide) rfl (q := 42) rfl ?_
        exact v_sub [3, 2, 1, 0] rfl (bc_RE_keeps_42 O 305 0 0 C5 h)
      · rw [if_neg c4] at h
        exact v_less (b' := 0) (by decide) (v_sub [] rfl (bc_RE_keeps_30 O C3 h))
theorem metc_RE_keeps (l : Launch) (g : gC)  (C C' : Mem) (r : Int32) (h : fc_RE_keeps C = some (r, C')) : MetC l g yX1_keeps cX1_keeps 4 (some .int) 13 915 [.ref (gCa g 0)] C (cQi g r C') :=
  c_met (by decide) rfl (Nat.le_of_ble_eq_true rfl) (fun X O => bc_RE_keeps O C h)
/-! RankEntry.load(IJ)Z -/
def fc_RE_load_16b (K16 : Int32 → Int64 → Int32 → Mem → Option (Int32 × Mem)) (x1 : Int32) (x2 : Int64) (x4 : Int32) (C : Mem) : Option (Int32 × Mem) :=
  if 8 ≤ x4 then
    some (1, C)
  else
    gd (inb (x1 + x4) 512) <|
    stp (up2 C 2 (x1 + x4).toNatClampNeg (vp_nar .byte (((x2 >>> ((56 - (8 * x4)).toInt64 &&& 63)).toInt32).toInt8.toInt32))) fun C3 =>
    K16 x1 x2 (x4 + 1) C3
set_option maxHeartbeats 4000000 in
theorem bc_RE_load_16b {g : gC} {X : Cxt} {r : Int32} {C' : Mem} (O : OkC g X cX1_load 5 (some .boolean) RX1 1 0 (cQi g r C')) {K16 : Int32 → Int64 → Int32 → Mem → Option (Int32 × Mem)} (hK16 : ∀ (x1 : Int32) (x2 : Int64) (x4 : Int32) (C : Mem), K16 x1 x2 x4 C = some (r, C') → V X 5 0 (WdC g C) 16 [(0, .ref (gCa g 0)), (1, .int x1), (2, .long x2), (4, .int x4)] []) (x1 : Int32) (x2 : Int64) (x4 : Int32) (C : Mem) (h : fc_RE_load_16b K16 x1 x2 x4 C = some (r, C')) : V X 5 0 (WdC g C) 16 [(0, .ref (gCa g 0)), (1, .int x1), (2, .long x2), (4, .int x4)] [] := by
  unfold fc_RE_load_16b at h
  refine v_iload O.1 dX1_load_16 rfl (q := 18) rfl ?_
  refine v_bipush O.1 dX1_load_18 (v := 8) (by decide) (q := 20) rfl ?_
  refine v_icmp_ge O.1 dX1_load_20 (t := 53) (by decide) (q := 23) rfl (fun c1 => ?_) (fun c1 => ?_)
  · rw [if_pos c1] at h
    refine v_iconst O.1 dX1_load_53 (v := 1) rfl (q := 54) rfl ?_
    exact c_zret O (by decide) h dX1_load_54
  · rw [if_neg c1] at h
    refine v_aload_n O.1 dX1_load_23 rfl (q := 24) rfl ?_
    refine c_getR O 0 (v := .ref (gCa g 1)) (by decide) (O.lk q1077) rfl (fun _ _ => ⟨_, rfl, rfl⟩) dX1_load_24 (q := 27) rfl ?_
    refine c_getK O 0 (v := .ref (gCa g 2)) (by decide) (O.lkn q119) rfl (fun _ _ => ⟨_, rfl, rfl⟩) dX1_load_27 (q := 30) rfl ?_
    refine v_iload_n O.1 dX1_load_30 rfl (q := 31) rfl ?_
    refine v_iload O.1 dX1_load_31 rfl (q := 33) rfl ?_
    refine v_iadd O.1 dX1_load_33 (q := 34) rfl ?_
    refine v_lload_n O.1 dX1_load_34 rfl (q := 35) rfl ?_
    refine v_bipush O.1 dX1_load_35 (v := 56) (by decide) (q := 37) rfl ?_
    refine v_bipush O.1 dX1_load_37 (v := 8) (by decide) (q := 39) rfl ?_
    refine v_iload O.1 dX1_load_39 rfl (q := 41) rfl ?_
    refine v_imul O.1 dX1_load_41 (q := 42) rfl ?_
    refine v_isub O.1 dX1_load_42 (q := 43) rfl ?_
    refine v_lshr O.1 dX1_load_43 (q := 44) rfl ?_
    refine v_l2i O.1 dX1_load_44 (q := 45) rfl ?_
    refine v_i2b O.1 dX1_load_45 (q := 46) rfl ?_
    obtain ⟨g2, h⟩ := gd_some h
    obtain ⟨C3, e3, h⟩ := stp_some h
    refine c_bast O g2 rfl (j := (x1 + x4).toNatClampNeg) dX1_load_46 (q := 47) rfl e3 ?_
    refine v_iinc (lv' := [(4, .int (x4 + 1)), (0, .ref (gCa g 0)), (1, .int x1), (2, .long x2)]) (v := (x4 + 1)) O.1 dX1_load_47 rfl rfl (by decide) rfl (q := 50) rfl ?_
    refine v_goto O.1 dX1_load_50 (t := 16) (by decide) ?_
    exact v_sub [1, 2, 3, 0] rfl (hK16 x1 x2 (x4 + 1) C3 h)
def fc_RE_load_16 (n : Nat) : Int32 → Int64 → Int32 → Mem → Option (Int32 × Mem) := lpc (fc_RE_load_16b) (fun _ _ _ _ => none) n
theorem bc_RE_load_16 {g : gC} {X : Cxt} {r : Int32} {C' : Mem} (O : OkC g X cX1_load 5 (some .boolean) RX1 1 0 (cQi g r C')) : ∀ (n : Nat) (x1 : Int32) (x2 : Int64) (x4 : Int32) (C : Mem), fc_RE_load_16 n x1 x2 x4 C = some (r, C') → V X 5 0 (WdC g C) 16 [(0, .ref (gCa g 0)), (1, .int x1), (2, .long x2), (4, .int x4)] [] := by
  intro n
  induction n with
  | zero =>
    intro x1 x2 x4 C h
    cases h
  | succ n ih =>
    intro x1 x2 x4 C h
    exact bc_RE_load_16b O ih x1 x2 x4 C h
def fc_RE_load (x1 : Int32) (x2 : Int64) (C : Mem) : Option (Int32 × Mem) :=
  bnd (fc_RE_within x1 0 504 C) fun r1 C1 =>
  if r1 = 0 then
    some (0, C1)
  else
    fc_RE_load_16 600 x1 x2 0 C1
set_option maxHeartbeats 4000000 in
theorem bc_RE_load {g : gC} {X : Cxt} {r : Int32} {C' : Mem} (O : OkC g X cX1_load 5 (some .boolean) RX1 1 0 (cQi g r C')) (x1 : Int32) (x2 : Int64) (C : Mem) (h : fc_RE_load x1 x2 C = some (r, C')) : V X 5 0 (WdC g C) 0 [(0, .ref (gCa g 0)), (1, .int x1), (2, .long x2)] [] := by
  unfold fc_RE_load at h
  refine v_iload_n O.1 dX1_load_0 rfl (q := 1) rfl ?_
  refine v_iconst O.1 dX1_load_1 (v := 0) rfl (q := 2) rfl ?_
  refine v_sipush O.1 dX1_load_2 (v := 504) (by decide) (q := 5) rfl ?_
  obtain ⟨r1, C1, e1, h⟩ := bnd_some h
  refine c_callSi (As := [.int x1, .int 0, .int 504]) (rest := []) (n := 3) O (metc_RE_within _ g x1 0 504 C C1 r1 e1) (lw_S q1094 q656 q59 q657) (by decide +kernel) (by decide) (by decide) rfl rfl (Nat.le_of_ble_eq_true rfl) dX1_load_5 (q := 8) rfl (b' := 0) rfl ?_
  refine v_if_ne O.1 dX1_load_8 (t := 13) (by decide) (q := 11) rfl (fun c2 => ?_) (fun c2 => ?_)
  · rw [if_neg c2] at h
    refine v_iconst O.1 dX1_load_13 (v := 0) rfl (q := 14) rfl ?_
    refine v_istore (lv' := [(4, .int 0), (0, .ref (gCa g 0)), (1, .int x1), (2, .long x2)]) O.1 dX1_load_14 (by decide) rfl (q := 16) rfl ?_
    exact v_sub [1, 2, 3, 0] rfl (bc_RE_load_16 O 600 x1 x2 0 C1 h)
  · rw [if_pos c2] at h
    refine v_iconst O.1 dX1_load_11 (v := 0) rfl (q := 12) rfl ?_
    exact c_zret O (by decide) h dX1_load_12
theorem metc_RE_load (l : Launch) (g : gC) (x1 : Int32) (x2 : Int64) (C C' : Mem) (r : Int32) (h : fc_RE_load x1 x2 C = some (r, C')) : MetC l g yX1_load cX1_load 5 (some .boolean) 1 0 [.ref (gCa g 0), .int x1, .long x2] C (cQi g r C') :=
  c_met (by decide) rfl (Nat.le_of_ble_eq_true rfl) (fun X O => bc_RE_load O x1 x2 C h)
/-! RankEntry.nest(I)I -/
def fc_RE_nest_30 (y0 : Int32) (C : Mem) : Option (Int32 × Mem) :=
  some (y0, C)
set_option maxHeartbeats 4000000 in
theorem bc_RE_nest_30 {g : gC} {X : Cxt} {r : Int32} {C' : Mem} (O : OkC g X cX1_nest 2 (some .int) RX1 1 0 (cQi g r C')) (y0 : Int32) (C : Mem) (h : fc_RE_nest_30 y0 C = some (r, C')) : V X 2 0 (WdC g C) 30 [] [.int y0] := by
  unfold fc_RE_nest_30 at h
  exact c_iret O h dX1_nest_30
def fc_RE_nest (x1 : Int32) (C : Mem) : Option (Int32 × Mem) :=
  bnd (fc_RE_within x1 0 ((C 9 33) - 1) C) fun r1 C1 =>
  if r1 = 0 then
    fc_RE_nest_30 (-1) C1
  else
    gd (inb x1 21) <|
    fc_RE_nest_30 (C1 (9 + 6) x1.toNatClampNeg) C1
set_option maxHeartbeats 4000000 in
theorem bc_RE_nest {g : gC} {X : Cxt} {r : Int32} {C' : Mem} (O : OkC g X cX1_nest 2 (some .int) RX1 1 0 (cQi g r C')) (x1 : Int32) (C : Mem) (h : fc_RE_nest x1 C = some (r, C')) : V X 2 0 (WdC g C) 0 [(0, .ref (gCa g 0)), (1, .int x1)] [] := by
  unfold fc_RE_nest at h
  refine v_iload_n O.1 dX1_nest_0 rfl (q := 1) rfl ?_
  refine v_iconst O.1 dX1_nest_1 (v := 0) rfl (q := 2) rfl ?_
  refine v_aload_n O.1 dX1_nest_2 rfl (q := 3) rfl ?_
  refine c_getR O 1 (v := .ref (gCa g 9)) (by decide) (O.lk q1078) rfl (fun _ _ => ⟨_, rfl, rfl⟩) dX1_nest_3 (q := 6) rfl ?_
  refine c_getC O cC_9 33 (v := .int (C 9 33)) (by decide) (O.lkn q896) rfl (fun _ => rfl) dX1_nest_6 (q := 9) rfl ?_
  refine v_iconst O.1 dX1_nest_9 (v := 1) rfl (q := 10) rfl ?_
  refine v_isub O.1 dX1_nest_10 (q := 11) rfl ?_
  obtain ⟨r1, C1, e1, h⟩ := bnd_some h
  refine c_callSi (As := [.int x1, .int 0, .int ((C 9 33) - 1)]) (rest := []) (n := 3) O (metc_RE_within _ g x1 0 ((C 9 33) - 1) C C1 r1 e1) (lw_S q1094 q656 q59 q657) (by decide +kernel) (by decide) (by decide) rfl rfl (Nat.le_of_ble_eq_true rfl) dX1_nest_11 (q := 14) rfl (b' := 0) rfl ?_
  refine v_if_eq O.1 dX1_nest_14 (t := 29) (by decide) (q := 17) rfl (fun c2 => ?_) (fun c2 => ?_)
  · rw [if_pos c2] at h
    refine v_iconst O.1 dX1_nest_29 (v := (-1)) rfl (q := 30) rfl ?_
    exact v_sub [] rfl (bc_RE_nest_30 O (-1) C1 h)
  · rw [if_neg c2] at h
    refine v_aload_n O.1 dX1_nest_17 rfl (q := 18) rfl ?_
    refine c_getR O 1 (v := .ref (gCa g 9)) (by decide) (O.lk q1078) rfl (fun _ _ => ⟨_, rfl, rfl⟩) dX1_nest_18 (q := 21) rfl ?_
    refine c_getC O cC_9 8 (v := .ref (gCa g (9 + 6))) (by decide) (O.lkn q853) rfl (fun _ => rfl) dX1_nest_21 (q := 24) rfl ?_
    refine v_iload_n O.1 dX1_nest_24 rfl (q := 25) rfl ?_
    obtain ⟨g3, h⟩ := gd_some h
    refine c_iald O (cIA_nest cC_9) g3 rfl (j := x1.toNatClampNeg) dX1_nest_25 (q := 26) rfl ?_
    refine v_goto O.1 dX1_nest_26 (t := 30) (by decide) ?_
    exact v_sub [] rfl (bc_RE_nest_30 O (C1 (9 + 6) x1.toNatClampNeg) C1 h)
theorem metc_RE_nest (l : Launch) (g : gC) (x1 : Int32) (C C' : Mem) (r : Int32) (h : fc_RE_nest x1 C = some (r, C')) : MetC l g yX1_nest cX1_nest 2 (some .int) 1 0 [.ref (gCa g 0), .int x1] C (cQi g r C') :=
  c_met (by decide) rfl (Nat.le_of_ble_eq_true rfl) (fun X O => bc_RE_nest O x1 C h)
/-! RankEntry.order(IZ)I -/
def fc_RE_order_67 (y0 : Int32) (C : Mem) : Option (Int32 × Mem) :=
  some (y0, C)
set_option maxHeartbeats 4000000 in
theorem bc_RE_order_67 {g : gC} {X : Cxt} {r : Int32} {C' : Mem} (O : OkC g X cX1_order 5 (some .int) RX1 13 915 (cQi g r C')) (y0 : Int32) (C : Mem) (h : fc_RE_order_67 y0 C = some (r, C')) : V X 5 0 (WdC g C) 67 [] [.int y0] := by
  unfold fc_RE_order_67 at h
  exact c_iret O h dX1_order_67
def fc_RE_order_49 (x1 : Int32) (C : Mem) : Option (Int32 × Mem) :=
  if (C 52 53) ≤ x1 then
    fc_RE_order_67 (-1) C
  else
    gd (inb x1 300) <|
    fc_RE_order_67 (C (52 + 12) x1.toNatClampNeg) C
set_option maxHeartbeats 4000000 in
theorem bc_RE_order_49 {g : gC} {X : Cxt} {r : Int32} {C' : Mem} (O : OkC g X cX1_order 5 (some .int) RX1 13 915 (cQi g r C')) (x1 : Int32) (C : Mem) (h : fc_RE_order_49 x1 C = some (r, C')) : V X 5 0 (WdC g C) 49 [(1, .int x1), (3, .ref (gCa g 52))] [] := by
  unfold fc_RE_order_49 at h
  refine v_aload_n O.1 dX1_order_49 rfl (q := 50) rfl ?_
  refine c_getC O cC_52 53 (v := .int (C 52 53)) (by decide) (O.lkn q936) rfl (fun _ => rfl) dX1_order_50 (q := 53) rfl ?_
  refine v_iload_n O.1 dX1_order_53 rfl (q := 54) rfl ?_
  refine v_icmp_le O.1 dX1_order_54 (t := 66) (by decide) (q := 57) rfl (fun c1 => ?_) (fun c1 => ?_)
  · rw [if_pos c1] at h
    refine v_iconst O.1 dX1_order_66 (v := (-1)) rfl (q := 67) rfl ?_
    exact v_sub [] rfl (bc_RE_order_67 O (-1) C h)
  · rw [if_neg c1] at h
    refine v_aload_n O.1 dX1_order_57 rfl (q := 58) rfl ?_
    refine c_getC O cC_52 54 (v := .ref (gCa g (52 + 12))) (by decide) (O.lkn q938) rfl (fun _ => rfl) dX1_order_58 (q := 61) rfl ?_
    refine v_iload_n O.1 dX1_order_61 rfl (q := 62) rfl ?_
    obtain ⟨g2, h⟩ := gd_some h
    refine c_iald O (cIA_order cC_52) g2 rfl (j := x1.toNatClampNeg) dX1_order_62 (q := 63) rfl ?_
    refine v_goto O.1 dX1_order_63 (t := 67) (by decide) ?_
    exact v_sub [] rfl (bc_RE_order_67 O (C (52 + 12) x1.toNatClampNeg) C h)
def fc_RE_order_15b (K15 : Int32 → Int32 → Mem → Option (Int32 × Mem)) (x1 : Int32) (x4 : Int32) (C : Mem) : Option (Int32 × Mem) :=
  if 300 ≤ x4 then
    fc_RE_order_49 x1 C
  else
    if x1 < (C 52 53) then
      fc_RE_order_49 x1 C
    else
      if (C 52 41) = 5 then
        fc_RE_order_49 x1 C
      else
        bnd (fc_Core_cycle 52 C) fun r4 C4 =>
        K15 x1 (x4 + 1) C4
set_option maxHeartbeats 4000000 in
theorem bc_RE_order_15b {g : gC} {X : Cxt} {r : Int32} {C' : Mem} {n15 : Nat} (O : OkC g X cX1_order 5 (some .int) RX1 13 915 (cQi g r C')) {K15 : Int32 → Int32 → Mem → Option (Int32 × Mem)} (hK15 : ∀ (x1 : Int32) (x4 : Int32) (C : Mem), K15 x1 x4 C = some (r, C') → V X 5 (3 * n15 + 0) (WdC g C) 15 [(1, .int x1), (3, .ref (gCa g 52)), (4, .int x4)] []) (x1 : Int32) (x4 : Int32) (C : Mem) (h : fc_RE_order_15b K15 x1 x4 C = some (r, C')) : V X 5 (3 * n15 + 3) (WdC g C) 15 [(1, .int x1), (3, .ref (gCa g 52)), (4, .int x4)] [] := by
  unfold fc_RE_order_15b at h
  refine v_iload O.1 dX1_order_15 rfl (q := 17) rfl ?_
  refine v_sipush O.1 dX1_order_17 (v := 300) (by decide) (q := 20) rfl ?_
  refine v_icmp_ge O.1 dX1_order_20 (t := 49) (by decide) (q := 23) rfl (fun c1 => ?_) (fun c1 => ?_)
  · rw [if_pos c1] at h
    exact v_less (b' := 0) (by omega) (v_sub [0, 1] rfl (bc_RE_order_49 O x1 C h))
  · rw [if_neg c1] at h
    refine v_aload_n O.1 dX1_order_23 rfl (q := 24) rfl ?_
    refine c_getC O cC_52 53 (v := .int (C 52 53)) (by decide) (O.lkn q936) rfl (fun _ => rfl) dX1_order_24 (q := 27) rfl ?_
    refine v_iload_n O.1 dX1_order_27 rfl (q := 28) rfl ?_
    refine v_icmp_gt O.1 dX1_order_28 (t := 49) (by decide) (q := 31) rfl (fun c2 => ?_) (fun c2 => ?_)
    · rw [if_pos c2] at h
      exact v_less (b' := 0) (by omega) (v_sub [0, 1] rfl (bc_RE_order_49 O x1 C h))
    · rw [if_neg c2] at h
      refine v_aload_n O.1 dX1_order_31 rfl (q := 32) rfl ?_
      refine c_getC O cC_52 41 (v := .int (C 52 41)) (by decide) (O.lkn q914) rfl (fun _ => rfl) dX1_order_32 (q := 35) rfl ?_
      refine v_iconst O.1 dX1_order_35 (v := 5) rfl (q := 36) rfl ?_
      refine v_icmp_eq O.1 dX1_order_36 (t := 49) (by decide) (q := 39) rfl (fun c3 => ?_) (fun c3 => ?_)
      · rw [if_pos c3] at h
        exact v_less (b' := 0) (by omega) (v_sub [0, 1] rfl (bc_RE_order_49 O x1 C h))
      · rw [if_neg c3] at h
        refine v_aload_n O.1 dX1_order_39 rfl (q := 40) rfl ?_
        obtain ⟨r4, C4, e4, h⟩ := bnd_some h
        refine c_callVv (As := []) (rest := []) (n := 0) (ci := 2) (p := (RX4, TX4, 55)) O (cC_lt (j := 0) cC_52 (by decide)) rfl (fun _ _ => ⟨_, cCell_core cC_52⟩) (metc_Core_cycle _ g 52 cC_52 C C4 r4 e4) (lw_V q1150 q1151 q1152 q63 q1153) (by decide +kernel) (by decide) (by decide) rfl rfl (Nat.le_of_ble_eq_true rfl) dX1_order_40 (q := 43) rfl (b' := (3 * n15 + 0)) (by omega) ?_
        refine v_iinc (lv' := [(4, .int (x4 + 1)), (1, .int x1), (3, .ref (gCa g 52))]) (v := (x4 + 1)) O.1 dX1_order_43 rfl rfl (by decide) rfl (q := 46) rfl ?_
        refine v_goto O.1 dX1_order_46 (t := 15) (by decide) ?_
        exact v_sub [1, 2, 0] rfl (hK15 x1 (x4 + 1) C4 h)
def fc_RE_order_15 (n : Nat) : Int32 → Int32 → Mem → Option (Int32 × Mem) := lpc (fc_RE_order_15b) (fun _ _ _ => none) n
theorem bc_RE_order_15 {g : gC} {X : Cxt} {r : Int32} {C' : Mem} (O : OkC g X cX1_order 5 (some .int) RX1 13 915 (cQi g r C')) : ∀ (n : Nat) (x1 : Int32) (x4 : Int32) (C : Mem), fc_RE_order_15 n x1 x4 C = some (r, C') → V X 5 (3 * n + 0) (WdC g C) 15 [(1, .int x1), (3, .ref (gCa g 52)), (4, .int x4)] [] := by
  intro n
  induction n with
  | zero =>
    intro x1 x4 C h
    cases h
  | succ n ih =>
    intro x1 x4 C h
    exact v_less (by omega) (bc_RE_order_15b O ih x1 x4 C h)
def fc_RE_order (x1 : Int32) (x2 : Int32) (C : Mem) : Option (Int32 × Mem) :=
  if 0 ≤ x1 then
    bnd (fc_RE_tried x2 C) fun r2 C2 =>
    fc_RE_order_15 305 x1 0 C2
  else
    some ((-1), C)
set_option maxHeartbeats 4000000 in
theorem bc_RE_order {g : gC} {X : Cxt} {r : Int32} {C' : Mem} (O : OkC g X cX1_order 5 (some .int) RX1 13 915 (cQi g r C')) (x1 : Int32) (x2 : Int32) (C : Mem) (h : fc_RE_order x1 x2 C = some (r, C')) : V X 5 915 (WdC g C) 0 [(0, .ref (gCa g 0)), (1, .int x1), (2, .int x2)] [] := by
  unfold fc_RE_order at h
  refine v_iload_n O.1 dX1_order_0 rfl (q := 1) rfl ?_
  refine v_if_ge O.1 dX1_order_1 (t := 6) (by decide) (q := 4) rfl (fun c1 => ?_) (fun c1 => ?_)
  · rw [if_pos c1] at h
    refine v_aload_n O.1 dX1_order_6 rfl (q := 7) rfl ?_
    refine v_iload_n O.1 dX1_order_7 rfl (q := 8) rfl ?_
    obtain ⟨r2, C2, e2, h⟩ := bnd_some h
    refine c_callVr (As := [.int x2]) (rest := []) (n := 1) (ci := 0) (p := (RX1, TX1, 4)) O (by decide) rfl (fun _ _ => ⟨_, rfl⟩) (metc_RE_tried _ g  x2 C C2 r2 e2) (lw_V q1238 q1240 qs18 q59 q1241) (by decide +kernel) (by decide) (by decide) rfl rfl (Nat.le_of_ble_eq_true rfl) dX1_order_8 (q := 11) rfl (b' := 915) rfl ?_
    refine v_astore_n (lv' := [(3, .ref (gCa g 52)), (0, .ref (gCa g 0)), (1, .int x1), (2, .int x2)]) O.1 dX1_order_11 (by decide) rfl (q := 12) rfl ?_
    refine v_iconst O.1 dX1_order_12 (v := 0) rfl (q := 13) rfl ?_
    refine v_istore (lv' := [(4, .int 0), (3, .ref (gCa g 52)), (0, .ref (gCa g 0)), (1, .int x1), (2, .int x2)]) O.1 dX1_order_13 (by decide) rfl (q := 15) rfl ?_
    exact v_sub [3, 1, 0] rfl (bc_RE_order_15 O 305 x1 0 C2 h)
  · rw [if_neg c1] at h
    refine v_iconst O.1 dX1_order_4 (v := (-1)) rfl (q := 5) rfl ?_
    exact c_iret O h dX1_order_5
theorem metc_RE_order (l : Launch) (g : gC) (x1 : Int32) (x2 : Int32) (C C' : Mem) (r : Int32) (h : fc_RE_order x1 x2 C = some (r, C')) : MetC l g yX1_order cX1_order 5 (some .int) 13 915 [.ref (gCa g 0), .int x1, .int x2] C (cQi g r C') :=
  c_met (by decide) rfl (Nat.le_of_ble_eq_true rfl) (fun X O => bc_RE_order O x1 x2 C h)
/-! RankEntry.pend(I)Z -/
def fc_RE_pend_26 (y0 : Int32) (C : Mem) : Option (Int32 × Mem) :=
  gd (isB y0) <|
  some (y0, C)
set_option maxHeartbeats 4000000 in
theorem bc_RE_pend_26 {g : gC} {X : Cxt} {r : Int32} {C' : Mem} (O : OkC g X cX1_pend 2 (some .boolean) RX1 2 0 (cQi g r C')) (y0 : Int32) (C : Mem) (h : fc_RE_pend_26 y0 C = some (r, C')) : V X 2 0 (WdC g C) 26 [] [.int y0] := by
  unfold fc_RE_pend_26 at h
  obtain ⟨g1, h⟩ := gd_some h
  exact c_zret O g1 h dX1_pend_26
def fc_RE_pend_25  (C : Mem) : Option (Int32 × Mem) :=
  fc_RE_pend_26 0 C
set_option maxHeartbeats 4000000 in
theorem bc_RE_pend_25 {g : gC} {X : Cxt} {r : Int32} {C' : Mem} (O : OkC g X cX1_pend 2 (some .boolean) RX1 2 0 (cQi g r C'))  (C : Mem) (h : fc_RE_pend_25  C = some (r, C')) : V X 2 0 (WdC g C) 25 [] [] := by
  unfold fc_RE_pend_25 at h
  refine v_iconst O.1 dX1_pend_25 (v := 0) rfl (q := 26) rfl ?_
  exact v_sub [] rfl (bc_RE_pend_26 O 0 C h)
def fc_RE_pend (x1 : Int32) (C : Mem) : Option (Int32 × Mem) :=
  bnd (fc_RE_within x1 0 19 C) fun r1 C1 =>
  if r1 = 0 then
    fc_RE_pend_25 C1
  else
    bnd (fc_Core_becomes 9 x1 C1) fun r3 C3 =>
    if r3 = 0 then
      fc_RE_pend_25 C3
    else
      fc_RE_pend_26 1 C3
set_option maxHeartbeats 4000000 in
theorem bc_RE_pend {g : gC} {X : Cxt} {r : Int32} {C' : Mem} (O : OkC g X cX1_pend 2 (some .boolean) RX1 2 0 (cQi g r C')) (x1 : Int32) (C : Mem) (h : fc_RE_pend x1 C = some (r, C')) : V X 2 0 (WdC g C) 0 [(0, .ref (gCa g 0)), (1, .int x1)] [] := by
  unfold fc_RE_pend at h
  refine v_iload_n O.1 dX1_pend_0 rfl (q := 1) rfl ?_
  refine v_iconst O.1 dX1_pend_1 (v := 0) rfl (q := 2) rfl ?_
  refine v_bipush O.1 dX1_pend_2 (v := 19) (by decide) (q := 4) rfl ?_
  obtain ⟨r1, C1, e1, h⟩ := bnd_some h
  refine c_callSi (As := [.int x1, .int 0, .int 19]) (rest := []) (n := 3) O (metc_RE_within _ g x1 0 19 C C1 r1 e1) (lw_S q1094 q656 q59 q657) (by decide +kernel) (by decide) (by decide) rfl rfl (Nat.le_of_ble_eq_true rfl) dX1_pend_4 (q := 7) rfl (b' := 0) rfl ?_
  refine v_if_eq O.1 dX1_pend_7 (t := 25) (by decide) (q := 10) rfl (fun c2 => ?_) (fun c2 => ?_)
  · rw [if_pos c2] at h
    exact v_sub [] rfl (bc_RE_pend_25 O C1 h)
  · rw [if_neg c2] at h
    refine v_aload_n O.1 dX1_pend_10 rfl (q := 11) rfl ?_
    refine c_getR O 1 (v := .ref (gCa g 9)) (by decide) (O.lk q1078) rfl (fun _ _ => ⟨_, rfl, rfl⟩) dX1_pend_11 (q := 14) rfl ?_
    refine v_iload_n O.1 dX1_pend_14 rfl (q := 15) rfl ?_
    obtain ⟨r3, C3, e3, h⟩ := bnd_some h
    refine c_callVi (As := [.int x1]) (rest := []) (n := 1) (ci := 2) (p := (RX4, TX4, 55)) O (cC_lt (j := 0) cC_9 (by decide)) rfl (fun _ _ => ⟨_, cCell_core cC_9⟩) (metc_Core_becomes _ g 9 cC_9 x1 C1 C3 r3 e3) (lw_V q1128 q288 q289 q63 q290) (by decide +kernel) (by decide) (by decide) rfl rfl (Nat.le_of_ble_eq_true rfl) dX1_pend_15 (q := 18) rfl (b' := 0) rfl ?_
    refine v_if_eq O.1 dX1_pend_18 (t := 25) (by decide) (q := 21) rfl (fun c4 => ?_) (fun c4 => ?_)
    · rw [if_pos c4] at h
      exact v_sub [] rfl (bc_RE_pend_25 O C3 h)
    · rw [if_neg c4] at h
      refine v_iconst O.1 dX1_pend_21 (v := 1) rfl (q := 22) rfl ?_
      refine v_goto O.1 dX1_pend_22 (t := 26) (by decide) ?_
      exact v_sub [] rfl (bc_RE_pend_26 O 1 C3 h)
theorem metc_RE_pend (l : Launch) (g : gC) (x1 : Int32) (C C' : Mem) (r : Int32) (h : fc_RE_pend x1 C = some (r, C')) : MetC l g yX1_pend cX1_pend 2 (some .boolean) 2 0 [.ref (gCa g 0), .int x1] C (cQi g r C') :=
  c_met (by decide) rfl (Nat.le_of_ble_eq_true rfl) (fun X O => bc_RE_pend O x1 C h)
/-! RankEntry.pushes(I)I -/
def fc_RE_pushes_49 (y0 : Int32) (C : Mem) : Option (Int32 × Mem) :=
  some (y0, C)
set_option maxHeartbeats 4000000 in
theorem bc_RE_pushes_49 {g : gC} {X : Cxt} {r : Int32} {C' : Mem} (O : OkC g X cX1_pushes 3 (some .int) RX1 5 0 (cQi g r C')) (y0 : Int32) (C : Mem) (h : fc_RE_pushes_49 y0 C = some (r, C')) : V X 3 0 (WdC g C) 49 [] [.int y0] := by
  unfold fc_RE_pushes_49 at h
  exact c_iret O h dX1_pushes_49
def fc_RE_pushes (x1 : Int32) (C : Mem) : Option (Int32 × Mem) :=
  bnd (fc_RE_within x1 0 20 C) fun r1 C1 =>
  if r1 = 0 then
    some ((-1), C1)
  else
    gd (inb x1 21) <|
    bnd (fc_Ways_end (C1 (9 + 22 + x1.toNatClampNeg) 2) C1) fun r4 C4 =>
    if r4 = 0 then
      fc_RE_pushes_49 (-1) C4
    else
      gd (inb (C1 (9 + 22 + x1.toNatClampNeg) 2) 512) <|
      fc_RE_pushes_49 (C4 6 (C1 (9 + 22 + x1.toNatClampNeg) 2).toNatClampNeg) C4
set_option maxHeartbeats 4000000 in
theorem bc_RE_pushes {g : gC} {X : Cxt} {r : Int32} {C' : Mem} (O : OkC g X cX1_pushes 3 (some .int) RX1 5 0 (cQi g r C')) (x1 : Int32) (C : Mem) (h : fc_RE_pushes x1 C = some (r, C')) : V X 3 0 (WdC g C) 0 [(0, .ref (gCa g 0)), (1, .int x1)] [] := by
  unfold fc_RE_pushes at h
  refine v_iload_n O.1 dX1_pushes_0 rfl (q := 1) rfl ?_
  refine v_iconst O.1 dX1_pushes_1 (v := 0) rfl (q := 2) rfl ?_
  refine v_bipush O.1 dX1_pushes_2 (v := 20) (by decide) (q := 4) rfl ?_
  obtain ⟨r1, C1, e1, h⟩ := bnd_some h
  refine c_callSi (As := [.int x1, .int 0, .int 20]) (rest := []) (n := 3) O (metc_RE_within _ g x1 0 20 C C1 r1 e1) (lw_S q1094 q656 q59 q657) (by decide +kernel) (by decide) (by decide) rfl rfl (Nat.le_of_ble_eq_true rfl) dX1_pushes_4 (q := 7) rfl (b' := 0) rfl ?_
  refine v_if_ne O.1 dX1_pushes_7 (t := 12) (by decide) (q := 10) rfl (fun c2 => ?_) (fun c2 => ?_)
  · rw [if_neg c2] at h
    refine v_aload_n O.1 dX1_pushes_12 rfl (q := 13) rfl ?_
    refine c_getR O 1 (v := .ref (gCa g 9)) (by decide) (O.lk q1078) rfl (fun _ _ => ⟨_, rfl, rfl⟩) dX1_pushes_13 (q := 16) rfl ?_
    refine c_getC O cC_9 7 (v := .ref (gCa g (9 + 5))) (by decide) (O.lkn q851) rfl (fun _ => rfl) dX1_pushes_16 (q := 19) rfl ?_
    refine v_iload_n O.1 dX1_pushes_19 rfl (q := 20) rfl ?_
    obtain ⟨g3, h⟩ := gd_some h
    refine c_all O cC_9 g3 rfl (j := x1.toNatClampNeg) dX1_pushes_20 (q := 21) rfl ?_
    refine c_getS O (cS_of cC_9 (inb_lt g3)) 2 (by decide) (O.lk q739) rfl rfl rfl rfl (v := .int (C1 (9 + 22 + x1.toNatClampNeg) 2)) rfl dX1_pushes_21 (q := 24) rfl ?_
    refine v_istore_n (lv' := [(2, .int (C1 (9 + 22 + x1.toNatClampNeg) 2)), (0, .ref (gCa g 0)), (1, .int x1)]) O.1 dX1_pushes_24 (by decide) rfl (q := 25) rfl ?_
    refine v_aload_n O.1 dX1_pushes_25 rfl (q := 26) rfl ?_
    refine c_getR O 3 (v := .ref (gCa g 4)) (by decide) (O.lk q1080) rfl (fun _ _ => ⟨_, rfl, rfl⟩) dX1_pushes_26 (q := 29) rfl ?_
    refine v_iload_n O.1 dX1_pushes_29 rfl (q := 30) rfl ?_
    obtain ⟨r4, C4, e4, h⟩ := bnd_some h
    refine c_callVi (As := [.int (C1 (9 + 22 + x1.toNatClampNeg) 2)]) (rest := []) (n := 1) (ci := 3) (p := (RX19, TX19, 6)) O (by decide) rfl (fun _ _ => ⟨_, rfl⟩) (metc_Ways_end _ g  (C1 (9 + 22 + x1.toNatClampNeg) 2) C1 C4 r4 e4) (lw_V q1304 q1305 q1306 q83 q1307) (by decide +kernel) (by decide) (by decide) rfl rfl (Nat.le_of_ble_eq_true rfl) dX1_pushes_30 (q := 33) rfl (b' := 0) rfl ?_
    refine v_if_eq O.1 dX1_pushes_33 (t := 48) (by decide) (q := 36) rfl (fun c5 => ?_) (fun c5 => ?_)
    · rw [if_pos c5] at h
      refine v_iconst O.1 dX1_pushes_48 (v := (-1)) rfl (q := 49) rfl ?_
      exact v_sub [] rfl (bc_RE_pushes_49 O (-1) C4 h)
    · rw [if_neg c5] at h
      refine v_aload_n O.1 dX1_pushes_36 rfl (q := 37) rfl ?_
      refine c_getR O 3 (v := .ref (gCa g 4)) (by decide) (O.lk q1080) rfl (fun _ _ => ⟨_, rfl, rfl⟩) dX1_pushes_37 (q := 40) rfl ?_
      refine c_getW O 2 (v := .ref (gCa g 6)) (by decide) (O.lkn q1060) rfl (fun _ _ => ⟨_, rfl, rfl⟩) dX1_pushes_40 (q := 43) rfl ?_
      refine v_iload_n O.1 dX1_pushes_43 rfl (q := 44) rfl ?_
      obtain ⟨g6, h⟩ := gd_some h
      refine c_iald O (cIA_w (by decide)) g6 rfl (j := (C1 (9 + 22 + x1.toNatClampNeg) 2).toNatClampNeg) dX1_pushes_44 (q := 45) rfl ?_
      refine v_goto O.1 dX1_pushes_45 (t := 49) (by decide) ?_
      exact v_sub [] rfl (bc_RE_pushes_49 O (C4 6 (C1 (9 + 22 + x1.toNatClampNeg) 2).toNatClampNeg) C4 h)
  · rw [if_pos c2] at h
    refine v_iconst O.1 dX1_pushes_10 (v := (-1)) rfl (q := 11) rfl ?_
    exact c_iret O h dX1_pushes_11
theorem metc_RE_pushes (l : Launch) (g : gC) (x1 : Int32) (C C' : Mem) (r : Int32) (h : fc_RE_pushes x1 C = some (r, C')) : MetC l g yX1_pushes cX1_pushes 3 (some .int) 5 0 [.ref (gCa g 0), .int x1] C (cQi g r C') :=
  c_met (by decide) rfl (Nat.le_of_ble_eq_true rfl) (fun X O => bc_RE_pushes O x1 C h)
/-! RankEntry.quiet(Z)I -/
def fc_RE_quiet_8b (K8 : Int32 → Mem → Option (Int32 × Mem)) (x3 : Int32) (C : Mem) : Option (Int32 × Mem) :=
  if 300 < x3 then
    some ((-1), C)
  else
    bnd (fc_Core_isQuiet 52 C) fun r2 C2 =>
    if r2 = 0 then
      bnd (fc_Core_cycle 52 C2) fun r4 C4 =>
      K8 (x3 + 1) C4
    else
      some (x3, C2)
set_option maxHeartbeats 4000000 in
theorem bc_RE_quiet_8b {g : gC} {X : Cxt} {r : Int32} {C' : Mem} {n8 : Nat} (O : OkC g X cX1_quiet 4 (some .int) RX1 13 915 (cQi g r C')) {K8 : Int32 → Mem → Option (Int32 × Mem)} (hK8 : ∀ (x3 : Int32) (C : Mem), K8 x3 C = some (r, C') → V X 4 (3 * n8 + 0) (WdC g C) 8 [(2, .ref (gCa g 52)), (3, .int x3)] []) (x3 : Int32) (C : Mem) (h : fc_RE_quiet_8b K8 x3 C = some (r, C')) : V X 4 (3 * n8 + 3) (WdC g C) 8 [(2, .ref (gCa g 52)), (3, .int x3)] [] := by
  unfold fc_RE_quiet_8b at h
  refine v_iload_n O.1 dX1_quiet_8 rfl (q := 9) rfl ?_
  refine v_sipush O.1 dX1_quiet_9 (v := 300) (by decide) (q := 12) rfl ?_
  refine v_icmp_gt O.1 dX1_quiet_12 (t := 34) (by decide) (q := 15) rfl (fun c1 => ?_) (fun c1 => ?_)
  · rw [if_pos c1] at h
    refine v_iconst O.1 dX1_quiet_34 (v := (-1)) rfl (q := 35) rfl ?_
    exact c_iret O h dX1_quiet_35
  · rw [if_neg c1] at h
    refine v_aload_n O.1 dX1_quiet_15 rfl (q := 16) rfl ?_
    obtain ⟨r2, C2, e2, h⟩ := bnd_some h
    refine c_callVi (As := []) (rest := []) (n := 0) (ci := 2) (p := (RX4, TX4, 55)) O (cC_lt (j := 0) cC_52 (by decide)) rfl (fun _ _ => ⟨_, cCell_core cC_52⟩) (metc_Core_isQuiet _ g 52 cC_52 C C2 r2 e2) (lw_V q1284 q1285 q1286 q63 q1287) (by decide +kernel) (by decide) (by decide) rfl rfl (Nat.le_of_ble_eq_true rfl) dX1_quiet_16 (q := 19) rfl (b' := (3 * n8 + 3)) (by omega) ?_
    refine v_if_eq O.1 dX1_quiet_19 (t := 24) (by decide) (q := 22) rfl (fun c3 => ?_) (fun c3 => ?_)
    · rw [if_pos c3] at h
      refine v_aload_n O.1 dX1_quiet_24 rfl (q := 25) rfl ?_
      obtain ⟨r4, C4, e4, h⟩ := bnd_some h
      refine c_callVv (As := []) (rest := []) (n := 0) (ci := 2) (p := (RX4, TX4, 55)) O (cC_lt (j := 0) cC_52 (by decide)) rfl (fun _ _ => ⟨_, cCell_core cC_52⟩) (metc_Core_cycle _ g 52 cC_52 C2 C4 r4 e4) (lw_V q1150 q1151 q1152 q63 q1153) (by decide +kernel) (by decide) (by decide) rfl rfl (Nat.le_of_ble_eq_true rfl) dX1_quiet_25 (q := 28) rfl (b' := (3 * n8 + 0)) (by omega) ?_
      refine v_iinc (lv' := [(3, .int (x3 + 1)), (2, .ref (gCa g 52))]) (v := (x3 + 1)) O.1 dX1_quiet_28 rfl rfl (by decide) rfl (q := 31) rfl ?_
      refine v_goto O.1 dX1_quiet_31 (t := 8) (by decide) ?_
      exact v_sub [1, 0] rfl (hK8 (x3 + 1) C4 h)
    · rw [if_neg c3] at h
      refine v_iload_n O.1 dX1_quiet_22 rfl (q := 23) rfl ?_
      exact c_iret O h dX1_quiet_23
def fc_RE_quiet_8 (n : Nat) : Int32 → Mem → Option (Int32 × Mem) := lpc (fc_RE_quiet_8b) (fun _ _ => none) n
theorem bc_RE_quiet_8 {g : gC} {X : Cxt} {r : Int32} {C' : Mem} (O : OkC g X cX1_quiet 4 (some .int) RX1 13 915 (cQi g r C')) : ∀ (n : Nat) (x3 : Int32) (C : Mem), fc_RE_quiet_8 n x3 C = some (r, C') → V X 4 (3 * n + 0) (WdC g C) 8 [(2, .ref (gCa g 52)), (3, .int x3)] [] := by
  intro n
  induction n with
  | zero =>
    intro x3 C h
    cases h
  | succ n ih =>
    intro x3 C h
    exact v_less (by omega) (bc_RE_quiet_8b O ih x3 C h)
def fc_RE_quiet (x1 : Int32) (C : Mem) : Option (Int32 × Mem) :=
  bnd (fc_RE_tried x1 C) fun r1 C1 =>
  fc_RE_quiet_8 305 0 C1
set_option maxHeartbeats 4000000 in
theorem bc_RE_quiet {g : gC} {X : Cxt} {r : Int32} {C' : Mem} (O : OkC g X cX1_quiet 4 (some .int) RX1 13 915 (cQi g r C')) (x1 : Int32) (C : Mem) (h : fc_RE_quiet x1 C = some (r, C')) : V X 4 915 (WdC g C) 0 [(0, .ref (gCa g 0)), (1, .int x1)] [] := by
  unfold fc_RE_quiet at h
  refine v_aload_n O.1 dX1_quiet_0 rfl (q := 1) rfl ?_
  refine v_iload_n O.1 dX1_quiet_1 rfl (q := 2) rfl ?_
  obtain ⟨r1, C1, e1, h⟩ := bnd_some h
  refine c_callVr (As := [.int x1]) (rest := []) (n := 1) (ci := 0) (p := (RX1, TX1, 4)) O (by decide) rfl (fun _ _ => ⟨_, rfl⟩) (metc_RE_tried _ g  x1 C C1 r1 e1) (lw_V q1238 q1240 qs18 q59 q1241) (by decide +kernel) (by decide) (by decide) rfl rfl (Nat.le_of_ble_eq_true rfl) dX1_quiet_2 (q := 5) rfl (b' := 915) rfl ?_
  refine v_astore_n (lv' := [(2, .ref (gCa g 52)), (0, .ref (gCa g 0)), (1, .int x1)]) O.1 dX1_quiet_5 (by decide) rfl (q := 6) rfl ?_
  refine v_iconst O.1 dX1_quiet_6 (v := 0) rfl (q := 7) rfl ?_
  refine v_istore_n (lv' := [(3, .int 0), (2, .ref (gCa g 52)), (0, .ref (gCa g 0)), (1, .int x1)]) O.1 dX1_quiet_7 (by decide) rfl (q := 8) rfl ?_
  exact v_sub [1, 0] rfl (bc_RE_quiet_8 O 305 0 C1 h)
theorem metc_RE_quiet (l : Launch) (g : gC) (x1 : Int32) (C C' : Mem) (r : Int32) (h : fc_RE_quiet x1 C = some (r, C')) : MetC l g yX1_quiet cX1_quiet 4 (some .int) 13 915 [.ref (gCa g 0), .int x1] C (cQi g r C') :=
  c_met (by decide) rfl (Nat.le_of_ble_eq_true rfl) (fun X O => bc_RE_quiet O x1 C h)
/-! RankEntry.rank(II)Z -/
def fc_RE_rank_36  (C : Mem) : Option (Int32 × Mem) :=
  some (0, C)
set_option maxHeartbeats 4000000 in
theorem bc_RE_rank_36 {g : gC} {X : Cxt} {r : Int32} {C' : Mem} (O : OkC g X cX1_rank 3 (some .boolean) RX1 1 0 (cQi g r C'))  (C : Mem) (h : fc_RE_rank_36  C = some (r, C')) : V X 3 0 (WdC g C) 36 [] [] := by
  unfold fc_RE_rank_36 at h
  refine v_iconst O.1 dX1_rank_36 (v := 0) rfl (q := 37) rfl ?_
  exact c_zret O (by decide) h dX1_rank_37
def fc_RE_rank (x1 : Int32) (x2 : Int32) (C : Mem) : Option (Int32 × Mem) :=
  bnd (fc_RE_within x1 0 19 C) fun r1 C1 =>
  if r1 = 0 then
    fc_RE_rank_36 C1
  else
    bnd (fc_RE_within x2 0 255 C1) fun r3 C3 =>
    if r3 = 0 then
      fc_RE_rank_36 C3
    else
      gd (inb x1 21) <|
      if (C3 (9 + 22 + x1.toNatClampNeg) 5) = 0 then
        gd (inb x1 21) <|
        stp (up2 C3 (9 + 22 + x1.toNatClampNeg) 1 x2) fun C8 =>
        some (1, C8)
      else
        fc_RE_rank_36 C3
set_option maxHeartbeats 4000000 in
theorem bc_RE_rank {g : gC} {X : Cxt} {r : Int32} {C' : Mem} (O : OkC g X cX1_rank 3 (some .boolean) RX1 1 0 (cQi g r C')) (x1 : Int32) (x2 : Int32) (C : Mem) (h : fc_RE_rank x1 x2 C = some (r, C')) : V X 3 0 (WdC g C) 0 [(0, .ref (gCa g 0)), (1, .int x1), (2, .int x2)] [] := by
  unfold fc_RE_rank at h
  refine v_iload_n O.1 dX1_rank_0 rfl (q := 1) rfl ?_
  refine v_iconst O.1 dX1_rank_1 (v := 0) rfl (q := 2) rfl ?_
  refine v_bipush O.1 dX1_rank_2 (v := 19) (by decide) (q := 4) rfl ?_
  obtain ⟨r1, C1, e1, h⟩ := bnd_some h
  refine c_callSi (As := [.int x1, .int 0, .int 19]) (rest := []) (n := 3) O (metc_RE_within _ g x1 0 19 C C1 r1 e1) (lw_S q1094 q656 q59 q657) (by decide +kernel) (by decide) (by decide) rfl rfl (Nat.le_of_ble_eq_true rfl) dX1_rank_4 (q := 7) rfl (b' := 0) rfl ?_
  refine v_if_eq O.1 dX1_rank_7 (t := 36) (by decide) (q := 10) rfl (fun c2 => ?_) (fun c2 => ?_)
  · rw [if_pos c2] at h
    exact v_sub [] rfl (bc_RE_rank_36 O C1 h)
  · rw [if_neg c2] at h
    refine v_iload_n O.1 dX1_rank_10 rfl (q := 11) rfl ?_
    refine v_iconst O.1 dX1_rank_11 (v := 0) rfl (q := 12) rfl ?_
    refine v_sipush O.1 dX1_rank_12 (v := 255) (by decide) (q := 15) rfl ?_
    obtain ⟨r3, C3, e3, h⟩ := bnd_some h
    refine c_callSi (As := [.int x2, .int 0, .int 255]) (rest := []) (n := 3) O (metc_RE_within _ g x2 0 255 C1 C3 r3 e3) (lw_S q1094 q656 q59 q657) (by decide +kernel) (by decide) (by decide) rfl rfl (Nat.le_of_ble_eq_true rfl) dX1_rank_15 (q := 18) rfl (b' := 0) rfl ?_
    refine v_if_eq O.1 dX1_rank_18 (t := 36) (by decide) (q := 21) rfl (fun c4 => ?_) (fun c4 => ?_)
    · rw [if_pos c4] at h
      exact v_sub [] rfl (bc_RE_rank_36 O C3 h)
    · rw [if_neg c4] at h
      refine v_aload_n O.1 dX1_rank_21 rfl (q := 22) rfl ?_
      refine c_getR O 1 (v := .ref (gCa g 9)) (by decide) (O.lk q1078) rfl (fun _ _ => ⟨_, rfl, rfl⟩) dX1_rank_22 (q := 25) rfl ?_
      refine c_getC O cC_9 7 (v := .ref (gCa g (9 + 5))) (by decide) (O.lkn q851) rfl (fun _ => rfl) dX1_rank_25 (q := 28) rfl ?_
      refine v_iload_n O.1 dX1_rank_28 rfl (q := 29) rfl ?_
      obtain ⟨g5, h⟩ := gd_some h
      refine c_all O cC_9 g5 rfl (j := x1.toNatClampNeg) dX1_rank_29 (q := 30) rfl ?_
      refine c_getS O (cS_of cC_9 (inb_lt g5)) 5 (by decide) (O.lk q751) rfl rfl rfl rfl (v := .int (C3 (9 + 22 + x1.toNatClampNeg) 5)) rfl dX1_rank_30 (q := 33) rfl ?_
      refine v_if_eq O.1 dX1_rank_33 (t := 38) (by decide) (q := 36) rfl (fun c6 => ?_) (fun c6 => ?_)
      · rw [if_pos c6] at h
        refine v_aload_n O.1 dX1_rank_38 rfl (q := 39) rfl ?_
        refine c_getR O 1 (v := .ref (gCa g 9)) (by decide) (O.lk q1078) rfl (fun _ _ => ⟨_, rfl, rfl⟩) dX1_rank_39 (q := 42) rfl ?_
        refine c_getC O cC_9 7 (v := .ref (gCa g (9 + 5))) (by decide) (O.lkn q851) rfl (fun _ => rfl) dX1_rank_42 (q := 45) rfl ?_
        refine v_iload_n O.1 dX1_rank_45 rfl (q := 46) rfl ?_
        obtain ⟨g7, h⟩ := gd_some h
        refine c_all O cC_9 g7 rfl (j := x1.toNatClampNeg) dX1_rank_46 (q := 47) rfl ?_
        refine v_iload_n O.1 dX1_rank_47 rfl (q := 48) rfl ?_
        obtain ⟨C8, e8, h⟩ := stp_some h
        refine c_putS O (cS_of cC_9 (inb_lt g7)) 1 (ty := .int) (by decide) (by decide) (O.lk q737) rfl rfl rfl rfl rfl rfl rfl rfl dX1_rank_48 (q := 51) rfl e8 ?_
        refine v_iconst O.1 dX1_rank_51 (v := 1) rfl (q := 52) rfl ?_
        exact c_zret O (by decide) h dX1_rank_52
      · rw [if_neg c6] at h
        exact v_sub [] rfl (bc_RE_rank_36 O C3 h)
theorem metc_RE_rank (l : Launch) (g : gC) (x1 : Int32) (x2 : Int32) (C C' : Mem) (r : Int32) (h : fc_RE_rank x1 x2 C = some (r, C')) : MetC l g yX1_rank cX1_rank 3 (some .boolean) 1 0 [.ref (gCa g 0), .int x1, .int x2] C (cQi g r C') :=
  c_met (by decide) rfl (Nat.le_of_ble_eq_true rfl) (fun X O => bc_RE_rank O x1 x2 C h)
/-! RankEntry.reset()I -/
def fc_RE_reset  (C : Mem) : Option (Int32 × Mem) :=
  bnd (fc_Core_forgets 9 C) fun r1 C1 =>
  some ((C 9 33), C1)
set_option maxHeartbeats 4000000 in
theorem bc_RE_reset {g : gC} {X : Cxt} {r : Int32} {C' : Mem} (O : OkC g X cX1_reset 2 (some .int) RX1 3 0 (cQi g r C'))  (C : Mem) (h : fc_RE_reset  C = some (r, C')) : V X 2 0 (WdC g C) 0 [(0, .ref (gCa g 0))] [] := by
  unfold fc_RE_reset at h
  refine v_aload_n O.1 dX1_reset_0 rfl (q := 1) rfl ?_
  refine c_getR O 1 (v := .ref (gCa g 9)) (by decide) (O.lk q1078) rfl (fun _ _ => ⟨_, rfl, rfl⟩) dX1_reset_1 (q := 4) rfl ?_
  refine c_getC O cC_9 33 (v := .int (C 9 33)) (by decide) (O.lkn q896) rfl (fun _ => rfl) dX1_reset_4 (q := 7) rfl ?_
  refine v_istore_n (lv' := [(1, .int (C 9 33)), (0, .ref (gCa g 0))]) O.1 dX1_reset_7 (by decide) rfl (q := 8) rfl ?_
  refine v_aload_n O.1 dX1_reset_8 rfl (q := 9) rfl ?_
  refine c_getR O 1 (v := .ref (gCa g 9)) (by decide) (O.lk q1078) rfl (fun _ _ => ⟨_, rfl, rfl⟩) dX1_reset_9 (q := 12) rfl ?_
  obtain ⟨r1, C1, e1, h⟩ := bnd_some h
  refine c_callVv (As := []) (rest := []) (n := 0) (ci := 2) (p := (RX4, TX4, 55)) O (cC_lt (j := 0) cC_9 (by decide)) rfl (fun _ _ => ⟨_, cCell_core cC_9⟩) (metc_Core_forgets _ g 9 cC_9 C C1 r1 e1) (lw_V q1169 q1170 q1171 q63 q1172) (by decide +kernel) (by decide) (by decide) rfl rfl (Nat.le_of_ble_eq_true rfl) dX1_reset_12 (q := 15) rfl (b' := 0) rfl ?_
  refine v_iload_n O.1 dX1_reset_15 rfl (q := 16) rfl ?_
  exact c_iret O h dX1_reset_16
theorem metc_RE_reset (l : Launch) (g : gC)  (C C' : Mem) (r : Int32) (h : fc_RE_reset C = some (r, C')) : MetC l g yX1_reset cX1_reset 2 (some .int) 3 0 [.ref (gCa g 0)] C (cQi g r C') :=
  c_met (by decide) rfl (Nat.le_of_ble_eq_true rfl) (fun X O => bc_RE_reset O C h)
/-! RankEntry.run(I)I -/
def fc_RE_run_44 (x2 : Int32) (C : Mem) : Option (Int32 × Mem) :=
  some (x2, C)
set_option maxHeartbeats 4000000 in
theorem bc_RE_run_44 {g : gC} {X : Cxt} {r : Int32} {C' : Mem} (O : OkC g X cX1_run 3 (some .int) RX1 13 915 (cQi g r C')) (x2 : Int32) (C : Mem) (h : fc_RE_run_44 x2 C = some (r, C')) : V X 3 0 (WdC g C) 44 [(2, .int x2)] [] := by
  unfold fc_RE_run_44 at h
  refine v_iload_n O.1 dX1_run_44 rfl (q := 45) rfl ?_
  exact c_iret O h dX1_run_45
def fc_RE_run_15b (K15 : Int32 → Int32 → Mem → Option (Int32 × Mem)) (x1 : Int32) (x2 : Int32) (C : Mem) : Option (Int32 × Mem) :=
  if x1 ≤ x2 then
    fc_RE_run_44 x2 C
  else
    if (C 9 41) = 5 then
      fc_RE_run_44 x2 C
    else
      bnd (fc_Core_cycle 9 C) fun r3 C3 =>
      K15 x1 (x2 + 1) C3
set_option maxHeartbeats 4000000 in
theorem bc_RE_run_15b {g : gC} {X : Cxt} {r : Int32} {C' : Mem} {n15 : Nat} (O : OkC g X cX1_run 3 (some .int) RX1 13 915 (cQi g r C')) {K15 : Int32 → Int32 → Mem → Option (Int32 × Mem)} (hK15 : ∀ (x1 : Int32) (x2 : Int32) (C : Mem), K15 x1 x2 C = some (r, C') → V X 3 (3 * n15 + 0) (WdC g C) 15 [(0, .ref (gCa g 0)), (1, .int x1), (2, .int x2)] []) (x1 : Int32) (x2 : Int32) (C : Mem) (h : fc_RE_run_15b K15 x1 x2 C = some (r, C')) : V X 3 (3 * n15 + 3) (WdC g C) 15 [(0, .ref (gCa g 0)), (1, .int x1), (2, .int x2)] [] := by
  unfold fc_RE_run_15b at h
  refine v_iload_n O.1 dX1_run_15 rfl (q := 16) rfl ?_
  refine v_iload_n O.1 dX1_run_16 rfl (q := 17) rfl ?_
  refine v_icmp_ge O.1 dX1_run_17 (t := 44) (by decide) (q := 20) rfl (fun c1 => ?_) (fun c1 => ?_)
  · rw [if_pos c1] at h
    exact v_less (b' := 0) (by omega) (v_sub [2] rfl (bc_RE_run_44 O x2 C h))
  · rw [if_neg c1] at h
    refine v_aload_n O.1 dX1_run_20 rfl (q := 21) rfl ?_
    refine c_getR O 1 (v := .ref (gCa g 9)) (by decide) (O.lk q1078) rfl (fun _ _ => ⟨_, rfl, rfl⟩) dX1_run_21 (q := 24) rfl ?_
    refine c_getC O cC_9 41 (v := .int (C 9 41)) (by decide) (O.lkn q914) rfl (fun _ => rfl) dX1_run_24 (q := 27) rfl ?_
    refine v_iconst O.1 dX1_run_27 (v := 5) rfl (q := 28) rfl ?_
    refine v_icmp_eq O.1 dX1_run_28 (t := 44) (by decide) (q := 31) rfl (fun c2 => ?_) (fun c2 => ?_)
    · rw [if_pos c2] at h
      exact v_less (b' := 0) (by omega) (v_sub [2] rfl (bc_RE_run_44 O x2 C h))
    · rw [if_neg c2] at h
      refine v_aload_n O.1 dX1_run_31 rfl (q := 32) rfl ?_
      refine c_getR O 1 (v := .ref (gCa g 9)) (by decide) (O.lk q1078) rfl (fun _ _ => ⟨_, rfl, rfl⟩) dX1_run_32 (q := 35) rfl ?_
      obtain ⟨r3, C3, e3, h⟩ := bnd_some h
      refine c_callVv (As := []) (rest := []) (n := 0) (ci := 2) (p := (RX4, TX4, 55)) O (cC_lt (j := 0) cC_9 (by decide)) rfl (fun _ _ => ⟨_, cCell_core cC_9⟩) (metc_Core_cycle _ g 9 cC_9 C C3 r3 e3) (lw_V q1150 q1151 q1152 q63 q1153) (by decide +kernel) (by decide) (by decide) rfl rfl (Nat.le_of_ble_eq_true rfl) dX1_run_35 (q := 38) rfl (b' := (3 * n15 + 0)) (by omega) ?_
      refine v_iinc (lv' := [(2, .int (x2 + 1)), (0, .ref (gCa g 0)), (1, .int x1)]) (v := (x2 + 1)) O.1 dX1_run_38 rfl rfl (by decide) rfl (q := 41) rfl ?_
      refine v_goto O.1 dX1_run_41 (t := 15) (by decide) ?_
      exact v_sub [1, 2, 0] rfl (hK15 x1 (x2 + 1) C3 h)
def fc_RE_run_15 (n : Nat) : Int32 → Int32 → Mem → Option (Int32 × Mem) := lpc (fc_RE_run_15b) (fun _ _ _ => none) n
theorem bc_RE_run_15 {g : gC} {X : Cxt} {r : Int32} {C' : Mem} (O : OkC g X cX1_run 3 (some .int) RX1 13 915 (cQi g r C')) : ∀ (n : Nat) (x1 : Int32) (x2 : Int32) (C : Mem), fc_RE_run_15 n x1 x2 C = some (r, C') → V X 3 (3 * n + 0) (WdC g C) 15 [(0, .ref (gCa g 0)), (1, .int x1), (2, .int x2)] [] := by
  intro n
  induction n with
  | zero =>
    intro x1 x2 C h
    cases h
  | succ n ih =>
    intro x1 x2 C h
    exact v_less (by omega) (bc_RE_run_15b O ih x1 x2 C h)
def fc_RE_run (x1 : Int32) (C : Mem) : Option (Int32 × Mem) :=
  bnd (fc_RE_within x1 1 200 C) fun r1 C1 =>
  if r1 = 0 then
    some ((-1), C1)
  else
    fc_RE_run_15 305 x1 0 C1
set_option maxHeartbeats 4000000 in
theorem bc_RE_run {g : gC} {X : Cxt} {r : Int32} {C' : Mem} (O : OkC g X cX1_run 3 (some .int) RX1 13 915 (cQi g r C')) (x1 : Int32) (C : Mem) (h : fc_RE_run x1 C = some (r, C')) : V X 3 915 (WdC g C) 0 [(0, .ref (gCa g 0)), (1, .int x1)] [] := by
  unfold fc_RE_run at h
  refine v_iload_n O.1 dX1_run_0 rfl (q := 1) rfl ?_
  refine v_iconst O.1 dX1_run_1 (v := 1) rfl (q := 2) rfl ?_
  refine v_sipush O.1 dX1_run_2 (v := 200) (by decide) (q := 5) rfl ?_
  obtain ⟨r1, C1, e1, h⟩ := bnd_some h
  refine c_callSi (As := [.int x1, .int 1, .int 200]) (rest := []) (n := 3) O (metc_RE_within _ g x1 1 200 C C1 r1 e1) (lw_S q1094 q656 q59 q657) (by decide +kernel) (by decide) (by decide) rfl rfl (Nat.le_of_ble_eq_true rfl) dX1_run_5 (q := 8) rfl (b' := 915) rfl ?_
  refine v_if_ne O.1 dX1_run_8 (t := 13) (by decide) (q := 11) rfl (fun c2 => ?_) (fun c2 => ?_)
  · rw [if_neg c2] at h
    refine v_iconst O.1 dX1_run_13 (v := 0) rfl (q := 14) rfl ?_
    refine v_istore_n (lv' := [(2, .int 0), (0, .ref (gCa g 0)), (1, .int x1)]) O.1 dX1_run_14 (by decide) rfl (q := 15) rfl ?_
    exact v_sub [1, 2, 0] rfl (bc_RE_run_15 O 305 x1 0 C1 h)
  · rw [if_pos c2] at h
    refine v_iconst O.1 dX1_run_11 (v := (-1)) rfl (q := 12) rfl ?_
    exact c_iret O h dX1_run_12
theorem metc_RE_run (l : Launch) (g : gC) (x1 : Int32) (C C' : Mem) (r : Int32) (h : fc_RE_run x1 C = some (r, C')) : MetC l g yX1_run cX1_run 3 (some .int) 13 915 [.ref (gCa g 0), .int x1] C (cQi g r C') :=
  c_met (by decide) rfl (Nat.le_of_ble_eq_true rfl) (fun X O => bc_RE_run O x1 C h)
/-! RankEntry.soon(I)I -/
def fc_RE_soon_23 (y0 : Int32) (C : Mem) : Option (Int32 × Mem) :=
  some (y0, C)
set_option maxHeartbeats 4000000 in
theorem bc_RE_soon_23 {g : gC} {X : Cxt} {r : Int32} {C' : Mem} (O : OkC g X cX1_soon 2 (some .int) RX1 14 915 (cQi g r C')) (y0 : Int32) (C : Mem) (h : fc_RE_soon_23 y0 C = some (r, C')) : V X 2 0 (WdC g C) 23 [] [.int y0] := by
  unfold fc_RE_soon_23 at h
  exact c_iret O h dX1_soon_23
def fc_RE_soon (x1 : Int32) (C : Mem) : Option (Int32 × Mem) :=
  bnd (fc_RE_within x1 0 20 C) fun r1 C1 =>
  if r1 = 0 then
    fc_RE_soon_23 (-1) C1
  else
    bnd (fc_RE_tried 0 C1) fun r3 C3 =>
    bnd (fc_RE_goes 52 x1 C3) fun r4 C4 =>
    fc_RE_soon_23 r4 C4
set_option maxHeartbeats 4000000 in
theorem bc_RE_soon {g : gC} {X : Cxt} {r : Int32} {C' : Mem} (O : OkC g X cX1_soon 2 (some .int) RX1 14 915 (cQi g r C')) (x1 : Int32) (C : Mem) (h : fc_RE_soon x1 C = some (r, C')) : V X 2 915 (WdC g C) 0 [(0, .ref (gCa g 0)), (1, .int x1)] [] := by
  unfold fc_RE_soon at h
  refine v_iload_n O.1 dX1_soon_0 rfl (q := 1) rfl ?_
  refine v_iconst O.1 dX1_soon_1 (v := 0) rfl (q := 2) rfl ?_
  refine v_bipush O.1 dX1_soon_2 (v := 20) (by decide) (q := 4) rfl ?_
  obtain ⟨r1, C1, e1, h⟩ := bnd_some h
  refine c_callSi (As := [.int x1, .int 0, .int 20]) (rest := []) (n := 3) O (metc_RE_within _ g x1 0 20 C C1 r1 e1) (lw_S q1094 q656 q59 q657) (by decide +kernel) (by decide) (by decide) rfl rfl (Nat.le_of_ble_eq_true rfl) dX1_soon_4 (q := 7) rfl (b' := 915) rfl ?_
  refine v_if_eq O.1 dX1_soon_7 (t := 22) (by decide) (q := 10) rfl (fun c2 => ?_) (fun c2 => ?_)
  · rw [if_pos c2] at h
    refine v_iconst O.1 dX1_soon_22 (v := (-1)) rfl (q := 23) rfl ?_
    exact v_less (b' := 0) (by decide) (v_sub [] rfl (bc_RE_soon_23 O (-1) C1 h))
  · rw [if_neg c2] at h
    refine v_aload_n O.1 dX1_soon_10 rfl (q := 11) rfl ?_
    refine v_iconst O.1 dX1_soon_11 (v := 0) rfl (q := 12) rfl ?_
    obtain ⟨r3, C3, e3, h⟩ := bnd_some h
    refine c_callVr (As := [.int 0]) (rest := []) (n := 1) (ci := 0) (p := (RX1, TX1, 4)) O (by decide) rfl (fun _ _ => ⟨_, rfl⟩) (metc_RE_tried _ g  0 C1 C3 r3 e3) (lw_V q1238 q1240 qs18 q59 q1241) (by decide +kernel) (by decide) (by decide) rfl rfl (Nat.le_of_ble_eq_true rfl) dX1_soon_12 (q := 15) rfl (b' := 915) rfl ?_
    refine v_iload_n O.1 dX1_soon_15 rfl (q := 16) rfl ?_
    obtain ⟨r4, C4, e4, h⟩ := bnd_some h
    refine c_callSi (As := [.ref (gCa g 52), .int x1]) (rest := []) (n := 2) O (metc_RE_goes _ g 52 cC_52 x1 C3 C4 r4 e4) (lw_S q1162 q1163 q59 q1164) (by decide +kernel) (by decide) (by decide) rfl rfl (Nat.le_of_ble_eq_true rfl) dX1_soon_16 (q := 19) rfl (b' := 0) rfl ?_
    refine v_goto O.1 dX1_soon_19 (t := 23) (by decide) ?_
    exact v_sub [] rfl (bc_RE_soon_23 O r4 C4 h)
theorem metc_RE_soon (l : Launch) (g : gC) (x1 : Int32) (C C' : Mem) (r : Int32) (h : fc_RE_soon x1 C = some (r, C')) : MetC l g yX1_soon cX1_soon 2 (some .int) 14 915 [.ref (gCa g 0), .int x1] C (cQi g r C') :=
  c_met (by decide) rfl (Nat.le_of_ble_eq_true rfl) (fun X O => bc_RE_soon O x1 C h)
/-! RankEntry.source(II)I -/
def fc_RE_source_133 (y0 : Int32) (C : Mem) : Option (Int32 × Mem) :=
  some (y0, C)
set_option maxHeartbeats 4000000 in
theorem bc_RE_source_133 {g : gC} {X : Cxt} {r : Int32} {C' : Mem} (O : OkC g X cX1_source 4 (some .int) RX1 2 0 (cQi g r C')) (y0 : Int32) (C : Mem) (h : fc_RE_source_133 y0 C = some (r, C')) : V X 4 0 (WdC g C) 133 [] [.int y0] := by
  unfold fc_RE_source_133 at h
  exact c_iret O h dX1_source_133
def fc_RE_source_120 (y0 : Int32) (C : Mem) : Option (Int32 × Mem) :=
  some (y0, C)
set_option maxHeartbeats 4000000 in
theorem bc_RE_source_120 {g : gC} {X : Cxt} {r : Int32} {C' : Mem} (O : OkC g X cX1_source 4 (some .int) RX1 2 0 (cQi g r C')) (y0 : Int32) (C : Mem) (h : fc_RE_source_120 y0 C = some (r, C')) : V X 4 0 (WdC g C) 120 [] [.int y0] := by
  unfold fc_RE_source_120 at h
  exact c_iret O h dX1_source_120
def fc_RE_source_107 (y0 : Int32) (C : Mem) : Option (Int32 × Mem) :=
  some (y0, C)
set_option maxHeartbeats 4000000 in
theorem bc_RE_source_107 {g : gC} {X : Cxt} {r : Int32} {C' : Mem} (O : OkC g X cX1_source 4 (some .int) RX1 2 0 (cQi g r C')) (y0 : Int32) (C : Mem) (h : fc_RE_source_107 y0 C = some (r, C')) : V X 4 0 (WdC g C) 107 [] [.int y0] := by
  unfold fc_RE_source_107 at h
  exact c_iret O h dX1_source_107
def fc_RE_source_94 (y0 : Int32) (C : Mem) : Option (Int32 × Mem) :=
  some (y0, C)
set_option maxHeartbeats 4000000 in
theorem bc_RE_source_94 {g : gC} {X : Cxt} {r : Int32} {C' : Mem} (O : OkC g X cX1_source 4 (some .int) RX1 2 0 (cQi g r C')) (y0 : Int32) (C : Mem) (h : fc_RE_source_94 y0 C = some (r, C')) : V X 4 0 (WdC g C) 94 [] [.int y0] := by
  unfold fc_RE_source_94 at h
  exact c_iret O h dX1_source_94
def fc_RE_source (x1 : Int32) (x2 : Int32) (C : Mem) : Option (Int32 × Mem) :=
  bnd (fc_RE_within x1 0 20 C) fun r1 C1 =>
  if r1 = 0 then
    some ((-2), C1)
  else
    gd (inb x1 21) <|
    if x2 = 0 then
      bnd (fv_told (9 + 22 + x1.toNatClampNeg) C1) fun r4 C4 =>
      some (r4, C4)
    else
    if x2 = 1 then
      some ((C1 (9 + 22 + x1.toNatClampNeg) 2), C1)
    else
    if x2 = 2 then
      if (C1 (9 + 22 + x1.toNatClampNeg) 3) = 0 then
        fc_RE_source_94 0 C1
      else
        fc_RE_source_94 1 C1
    else
    if x2 = 3 then
      if (C1 (9 + 22 + x1.toNatClampNeg) 4) = 0 then
        fc_RE_source_107 0 C1
      else
        fc_RE_source_107 1 C1
    else
    if x2 = 4 then
      if (C1 (9 + 22 + x1.toNatClampNeg) 5) = 0 then
        fc_RE_source_120 0 C1
      else
        fc_RE_source_120 1 C1
    else
    if x2 = 5 then
      bnd (fv_isHeld (9 + 22 + x1.toNatClampNeg) C1) fun r13 C13 =>
      if r13 = 0 then
        fc_RE_source_133 0 C13
      else
        fc_RE_source_133 1 C13
    else
    if x2 = 6 then
      bnd (fv_group (9 + 22 + x1.toNatClampNeg) (C1 9 34) C1) fun r16 C16 =>
      some (r16, C16)
    else
    if x2 = 7 then
      bnd (fv_sub (9 + 22 + x1.toNatClampNeg) (C1 9 34) C1) fun r18 C18 =>
      some (r18, C18)
    else
      some ((-2), C1)
set_option maxHeartbeats 4000000 in
theorem bc_RE_source {g : gC} {X : Cxt} {r : Int32} {C' : Mem} (O : OkC g X cX1_source 4 (some .int) RX1 2 0 (cQi g r C')) (x1 : Int32) (x2 : Int32) (C : Mem) (h : fc_RE_source x1 x2 C = some (r, C')) : V X 4 0 (WdC g C) 0 [(0, .ref (gCa g 0)), (1, .int x1), (2, .int x2)] [] := by
  unfold fc_RE_source at h
  refine v_iload_n O.1 dX1_source_0 rfl (q := 1) rfl ?_
  refine v_iconst O.1 dX1_source_1 (v := 0) rfl (q := 2) rfl ?_
  refine v_bipush O.1 dX1_source_2 (v := 20) (by decide) (q := 4) rfl ?_
  obtain ⟨r1, C1, e1, h⟩ := bnd_some h
  refine c_callSi (As := [.int x1, .int 0, .int 20]) (rest := []) (n := 3) O (metc_RE_within _ g x1 0 20 C C1 r1 e1) (lw_S q1094 q656 q59 q657) (by decide +kernel) (by decide) (by decide) rfl rfl (Nat.le_of_ble_eq_true rfl) dX1_source_4 (q := 7) rfl (b' := 0) rfl ?_
  refine v_if_ne O.1 dX1_source_7 (t := 13) (by decide) (q := 10) rfl (fun c2 => ?_) (fun c2 => ?_)
  · rw [if_neg c2] at h
    refine v_aload_n O.1 dX1_source_13 rfl (q := 14) rfl ?_
    refine c_getR O 1 (v := .ref (gCa g 9)) (by decide) (O.lk q1078) rfl (fun _ _ => ⟨_, rfl, rfl⟩) dX1_source_14 (q := 17) rfl ?_
    refine c_getC O cC_9 7 (v := .ref (gCa g (9 + 5))) (by decide) (O.lkn q851) rfl (fun _ => rfl) dX1_source_17 (q := 20) rfl ?_
    refine v_iload_n O.1 dX1_source_20 rfl (q := 21) rfl ?_
    obtain ⟨g3, h⟩ := gd_some h
    refine c_all O cC_9 g3 rfl (j := x1.toNatClampNeg) dX1_source_21 (q := 22) rfl ?_
    refine v_astore_n (lv' := [(3, .ref (gCa g (9 + 22 + x1.toNatClampNeg))), (0, .ref (gCa g 0)), (1, .int x1), (2, .int x2)]) O.1 dX1_source_22 (by decide) rfl (q := 23) rfl ?_
    refine v_iload_n O.1 dX1_source_23 rfl (q := 24) rfl ?_
    by_cases c5 : x2 = 0
    · rw [if_pos c5] at h
      refine v_tableIn O.1 dX1_source_24 (off := 48) (t := 72) (by rw [c5]; decide) (by rw [c5]; decide) (by rw [c5]; rfl) (by decide) ?_
      refine v_aload_n O.1 dX1_source_72 rfl (q := 73) rfl ?_
      obtain ⟨r4, C4, e4, h⟩ := bnd_some h
      refine c_v_told (rest := []) O (cS_of cC_9 (inb_lt g3)) e4 q1190 (by decide) rfl (Nat.le_of_ble_eq_true rfl) dX1_source_73 (q := 76) rfl ?_
      exact c_iret O h dX1_source_76
    rw [if_neg c5] at h
    by_cases c6 : x2 = 1
    · rw [if_pos c6] at h
      refine v_tableIn O.1 dX1_source_24 (off := 53) (t := 77) (by rw [c6]; decide) (by rw [c6]; decide) (by rw [c6]; rfl) (by decide) ?_
      refine v_aload_n O.1 dX1_source_77 rfl (q := 78) rfl ?_
      refine c_getS O (cS_of cC_9 (inb_lt g3)) 2 (by decide) (O.lk q739) rfl rfl rfl rfl (v := .int (C1 (9 + 22 + x1.toNatClampNeg) 2)) rfl dX1_source_78 (q := 81) rfl ?_
      exact c_iret O h dX1_source_81
    rw [if_neg c6] at h
    by_cases c8 : x2 = 2
    · rw [if_pos c8] at h
      refine v_tableIn O.1 dX1_source_24 (off := 58) (t := 82) (by rw [c8]; decide) (by rw [c8]; decide) (by rw [c8]; rfl) (by decide) ?_
      refine v_aload_n O.1 dX1_source_82 rfl (q := 83) rfl ?_
      refine c_getS O (cS_of cC_9 (inb_lt g3)) 3 (by decide) (O.lk q744) rfl rfl rfl rfl (v := .int (C1 (9 + 22 + x1.toNatClampNeg) 3)) rfl dX1_source_83 (q := 86) rfl ?_
      refine v_if_eq O.1 dX1_source_86 (t := 93) (by decide) (q := 89) rfl (fun c7 => ?_) (fun c7 => ?_)
      · rw [if_pos c7] at h
        refine v_iconst O.1 dX1_source_93 (v := 0) rfl (q := 94) rfl ?_
        exact v_sub [] rfl (bc_RE_source_94 O 0 C1 h)
      · rw [if_neg c7] at h
        refine v_iconst O.1 dX1_source_89 (v := 1) rfl (q := 90) rfl ?_
        refine v_goto O.1 dX1_source_90 (t := 94) (by decide) ?_
        exact v_sub [] rfl (bc_RE_source_94 O 1 C1 h)
    rw [if_neg c8] at h
    by_cases c10 : x2 = 3
    · rw [if_pos c10] at h
      refine v_tableIn O.1 dX1_source_24 (off := 71) (t := 95) (by rw [c10]; decide) (by rw [c10]; decide) (by rw [c10]; rfl) (by decide) ?_
      refine v_aload_n O.1 dX1_source_95 rfl (q := 96) rfl ?_
      refine c_getS O (cS_of cC_9 (inb_lt g3)) 4 (by decide) (O.lk q748) rfl rfl rfl rfl (v := .int (C1 (9 + 22 + x1.toNatClampNeg) 4)) rfl dX1_source_96 (q := 99) rfl ?_
      refine v_if_eq O.1 dX1_source_99 (t := 106) (by decide) (q := 102) rfl (fun c9 => ?_) (fun c9 => ?_)
      · rw [if_pos c9] at h
        refine v_iconst O.1 dX1_source_106 (v := 0) rfl (q := 107) rfl ?_
        exact v_sub [] rfl (bc_RE_source_107 O 0 C1 h)
      · rw [if_neg c9] at h
        refine v_iconst O.1 dX1_source_102 (v := 1) rfl (q := 103) rfl ?_
        refine v_goto O.1 dX1_source_103 (t := 107) (by decide) ?_
        exact v_sub [] rfl (bc_RE_source_107 O 1 C1 h)
    rw [if_neg c10] at h
    by_cases c12 : x2 = 4
    · rw [if_pos c12] at h
      refine v_tableIn O.1 dX1_source_24 (off := 84) (t := 108) (by rw [c12]; decide) (by rw [c12]; decide) (by rw [c12]; rfl) (by decide) ?_
      refine v_aload_n O.1 dX1_source_108 rfl (q := 109) rfl ?_
      refine c_getS O (cS_of cC_9 (inb_lt g3)) 5 (by decide) (O.lk q751) rfl rfl rfl rfl (v := .int (C1 (9 + 22 + x1.toNatClampNeg) 5)) rfl dX1_source_109 (q := 112) rfl ?_
      refine v_if_eq O.1 dX1_source_112 (t := 119) (by decide) (q := 115) rfl (fun c11 => ?_) (fun c11 => ?_)
      · rw [if_pos c11] at h
        refine v_iconst O.1 dX1_source_119 (v := 0) rfl (q := 120) rfl ?_
        exact v_sub [] rfl (bc_RE_source_120 O 0 C1 h)
      · rw [if_neg c11] at h
        refine v_iconst O.1 dX1_source_115 (v := 1) rfl (q := 116) rfl ?_
        refine v_goto O.1 dX1_source_116 (t := 120) (by decide) ?_
        exact v_sub [] rfl (bc_RE_source_120 O 1 C1 h)
    rw [if_neg c12] at h
    by_cases c15 : x2 = 5
    · rw [if_pos c15] at h
      refine v_tableIn O.1 dX1_source_24 (off := 97) (t := 121) (by rw [c15]; decide) (by rw [c15]; decide) (by rw [c15]; rfl) (by decide) ?_
      refine v_aload_n O.1 dX1_source_121 rfl (q := 122) rfl ?_
      obtain ⟨r13, C13, e13, h⟩ := bnd_some h
      refine c_v_isHeld (rest := []) O (cS_of cC_9 (inb_lt g3)) e13 q1200 (by decide) rfl (Nat.le_of_ble_eq_true rfl) dX1_source_122 (q := 125) rfl ?_
      refine v_if_eq O.1 dX1_source_125 (t := 132) (by decide) (q := 128) rfl (fun c14 => ?_) (fun c14 => ?_)
      · rw [if_pos c14] at h
        refine v_iconst O.1 dX1_source_132 (v := 0) rfl (q := 133) rfl ?_
        exact v_sub [] rfl (bc_RE_source_133 O 0 C13 h)
      · rw [if_neg c14] at h
        refine v_iconst O.1 dX1_source_128 (v := 1) rfl (q := 129) rfl ?_
        refine v_goto O.1 dX1_source_129 (t := 133) (by decide) ?_
        exact v_sub [] rfl (bc_RE_source_133 O 1 C13 h)
    rw [if_neg c15] at h
    by_cases c17 : x2 = 6
    · rw [if_pos c17] at h
      refine v_tableIn O.1 dX1_source_24 (off := 110) (t := 134) (by rw [c17]; decide) (by rw [c17]; decide) (by rw [c17]; rfl) (by decide) ?_
      refine v_aload_n O.1 dX1_source_134 rfl (q := 135) rfl ?_
      refine v_aload_n O.1 dX1_source_135 rfl (q := 136) rfl ?_
      refine c_getR O 1 (v := .ref (gCa g 9)) (by decide) (O.lk q1078) rfl (fun _ _ => ⟨_, rfl, rfl⟩) dX1_source_136 (q := 139) rfl ?_
      refine c_getC O cC_9 34 (v := .int (C1 9 34)) (by decide) (O.lkn q898) rfl (fun _ => rfl) dX1_source_139 (q := 142) rfl ?_
      obtain ⟨r16, C16, e16, h⟩ := bnd_some h
      refine c_v_group (rest := []) O (cS_of cC_9 (inb_lt g3)) e16 q708 (by decide) rfl (Nat.le_of_ble_eq_true rfl) dX1_source_142 (q := 145) rfl ?_
      exact c_iret O h dX1_source_145
    rw [if_neg c17] at h
    by_cases c19 : x2 = 7
    · rw [if_pos c19] at h
      refine v_tableIn O.1 dX1_source_24 (off := 122) (t := 146) (by rw [c19]; decide) (by rw [c19]; decide) (by rw [c19]; rfl) (by decide) ?_
      refine v_aload_n O.1 dX1_source_146 rfl (q := 147) rfl ?_
      refine v_aload_n O.1 dX1_source_147 rfl (q := 148) rfl ?_
      refine c_getR O 1 (v := .ref (gCa g 9)) (by decide) (O.lk q1078) rfl (fun _ _ => ⟨_, rfl, rfl⟩) dX1_source_148 (q := 151) rfl ?_
      refine c_getC O cC_9 34 (v := .int (C1 9 34)) (by decide) (O.lkn q898) rfl (fun _ => rfl) dX1_source_151 (q := 154) rfl ?_
      obtain ⟨r18, C18, e18, h⟩ := bnd_some h
      refine c_v_sub (rest := []) O (cS_of cC_9 (inb_lt g3)) e18 q709 (by decide) rfl (Nat.le_of_ble_eq_true rfl) dX1_source_154 (q := 157) rfl ?_
      exact c_iret O h dX1_source_157
    rw [if_neg c19] at h
    refine v_tableOut O.1 dX1_source_24 (t := 158) (tbl_out 8 (by decide) (fun i hi => by match i, hi with | 0, _ => exact c5 | 1, _ => exact c6 | 2, _ => exact c8 | 3, _ => exact c10 | 4, _ => exact c12 | 5, _ => exact c15 | 6, _ => exact c17 | 7, _ => exact c19 | i + 8, hi => omega)) (by decide) ?_
    refine v_bipush O.1 dX1_source_158 (v := (-2)) (by decide) (q := 160) rfl ?_
    exact c_iret O h dX1_source_160
  · rw [if_pos c2] at h
    refine v_bipush O.1 dX1_source_10 (v := (-2)) (by decide) (q := 12) rfl ?_
    exact c_iret O h dX1_source_12
theorem metc_RE_source (l : Launch) (g : gC) (x1 : Int32) (x2 : Int32) (C C' : Mem) (r : Int32) (h : fc_RE_source x1 x2 C = some (r, C')) : MetC l g yX1_source cX1_source 4 (some .int) 2 0 [.ref (gCa g 0), .int x1, .int x2] C (cQi g r C') :=
  c_met (by decide) rfl (Nat.le_of_ble_eq_true rfl) (fun X O => bc_RE_source O x1 x2 C h)
/-! RankEntry.splits(I)I -/
def fc_RE_splits_63 (K23 : Int32 → Int32 → Int32 → Mem → Option (Int32 × Mem)) (x1 : Int32) (x4 : Int32) (y1 : Int32) (y0 : Int32) (C : Mem) : Option (Int32 × Mem) :=
  K23 x1 (y0 ||| y1) (x4 + 1) C
set_option maxHeartbeats 4000000 in
theorem bc_RE_splits_63 {g : gC} {X : Cxt} {r : Int32} {C' : Mem} (O : OkC g X cX1_splits 5 (some .int) RX1 4 0 (cQi g r C')) {K23 : Int32 → Int32 → Int32 → Mem → Option (Int32 × Mem)} (hK23 : ∀ (x1 : Int32) (x3 : Int32) (x4 : Int32) (C : Mem), K23 x1 x3 x4 C = some (r, C') → V X 5 0 (WdC g C) 23 [(1, .int x1), (2, .ref (gCa g 52)), (3, .int x3), (4, .int x4)] []) (x1 : Int32) (x4 : Int32) (y1 : Int32) (y0 : Int32) (C : Mem) (h : fc_RE_splits_63 K23 x1 x4 y1 y0 C = some (r, C')) : V X 5 0 (WdC g C) 63 [(1, .int x1), (2, .ref (gCa g 52)), (4, .int x4)] [.int y1, .int y0] := by
  unfold fc_RE_splits_63 at h
  refine v_ior O.1 dX1_splits_63 (q := 64) rfl ?_
  refine v_istore_n (lv' := [(3, .int (y0 ||| y1)), (1, .int x1), (2, .ref (gCa g 52)), (4, .int x4)]) O.1 dX1_splits_64 (by decide) rfl (q := 65) rfl ?_
  refine v_iinc (lv' := [(4, .int (x4 + 1)), (3, .int (y0 ||| y1)), (1, .int x1), (2, .ref (gCa g 52))]) (v := (x4 + 1)) O.1 dX1_splits_65 rfl rfl (by decide) rfl (q := 68) rfl ?_
  refine v_goto O.1 dX1_splits_68 (t := 23) (by decide) ?_
  exact v_sub [2, 3, 1, 0] rfl (hK23 x1 (y0 ||| y1) (x4 + 1) C h)
def fc_RE_splits_23b (K23 : Int32 → Int32 → Int32 → Mem → Option (Int32 × Mem)) (x1 : Int32) (x3 : Int32) (x4 : Int32) (C : Mem) : Option (Int32 × Mem) :=
  if 7 < x4 then
    some (x3, C)
  else
    stp (up2 C 52 34 x4) fun C2 =>
    gd (inb x1 21) <|
    bnd (fv_group (52 + 22 + x1.toNatClampNeg) x4 C2) fun r4 C4 =>
    bnd (fc_Core_limit 52 C4) fun r5 C5 =>
    if r5 ≤ r4 then
      fc_RE_splits_63 K23 x1 x4 0 x3 C5
    else
      fc_RE_splits_63 K23 x1 x4 ((1 : Int32) <<< (x4 &&& 31)) x3 C5
set_option maxHeartbeats 4000000 in
theorem bc_RE_splits_23b {g : gC} {X : Cxt} {r : Int32} {C' : Mem} (O : OkC g X cX1_splits 5 (some .int) RX1 4 0 (cQi g r C')) {K23 : Int32 → Int32 → Int32 → Mem → Option (Int32 × Mem)} (hK23 : ∀ (x1 : Int32) (x3 : Int32) (x4 : Int32) (C : Mem), K23 x1 x3 x4 C = some (r, C') → V X 5 0 (WdC g C) 23 [(1, .int x1), (2, .ref (gCa g 52)), (3, .int x3), (4, .int x4)] []) (x1 : Int32) (x3 : Int32) (x4 : Int32) (C : Mem) (h : fc_RE_splits_23b K23 x1 x3 x4 C = some (r, C')) : V X 5 0 (WdC g C) 23 [(1, .int x1), (2, .ref (gCa g 52)), (3, .int x3), (4, .int x4)] [] := by
  unfold fc_RE_splits_23b at h
  refine v_iload O.1 dX1_splits_23 rfl (q := 25) rfl ?_
  refine v_bipush O.1 dX1_splits_25 (v := 7) (by decide) (q := 27) rfl ?_
  refine v_icmp_gt O.1 dX1_splits_27 (t := 71) (by decide) (q := 30) rfl (fun c1 => ?_) (fun c1 => ?_)
  · rw [if_pos c1] at h
    refine v_iload_n O.1 dX1_splits_71 rfl (q := 72) rfl ?_
    exact c_iret O h dX1_splits_72
  · rw [if_neg c1] at h
    refine v_aload_n O.1 dX1_splits_30 rfl (q := 31) rfl ?_
    refine v_iload O.1 dX1_splits_31 rfl (q := 33) rfl ?_
    obtain ⟨C2, e2, h⟩ := stp_some h
    refine c_putC O cC_52 34 (u := x4) (ty := .int) (by decide) (by decide) (O.lkn q898) rfl rfl rfl rfl rfl (fun _ => rfl) dX1_splits_33 (q := 36) rfl e2 ?_
    refine v_iload_n O.1 dX1_splits_36 rfl (q := 37) rfl ?_
    refine v_aload_n O.1 dX1_splits_37 rfl (q := 38) rfl ?_
    refine c_getC O cC_52 7 (v := .ref (gCa g (52 + 5))) (by decide) (O.lkn q851) rfl (fun _ => rfl) dX1_splits_38 (q := 41) rfl ?_
    refine v_iload_n O.1 dX1_splits_41 rfl (q := 42) rfl ?_
    obtain ⟨g3, h⟩ := gd_some h
    refine c_all O cC_52 g3 rfl (j := x1.toNatClampNeg) dX1_splits_42 (q := 43) rfl ?_
    refine v_iload O.1 dX1_splits_43 rfl (q := 45) rfl ?_
    obtain ⟨r4, C4, e4, h⟩ := bnd_some h
    refine c_v_group (rest := [.int x3]) O (cS_of cC_52 (inb_lt g3)) e4 q708 (by decide) rfl (Nat.le_of_ble_eq_true rfl) dX1_splits_45 (q := 48) rfl ?_
    refine v_aload_n O.1 dX1_splits_48 rfl (q := 49) rfl ?_
    obtain ⟨r5, C5, e5, h⟩ := bnd_some h
    refine c_callVi (As := []) (rest := [.int r4, .int x3]) (n := 0) (ci := 2) (p := (RX4, TX4, 55)) O (cC_lt (j := 0) cC_52 (by decide)) rfl (fun _ _ => ⟨_, cCell_core cC_52⟩) (metc_Core_limit _ g 52 cC_52 C4 C5 r5 e5) (lw_V q1218 q209 q210 q63 q211) (by decide +kernel) (by decide) (by decide) rfl rfl (Nat.le_of_ble_eq_true rfl) dX1_splits_49 (q := 52) rfl (b' := 0) rfl ?_
    refine v_icmp_ge O.1 dX1_splits_52 (t := 62) (by decide) (q := 55) rfl (fun c6 => ?_) (fun c6 => ?_)
    · rw [if_pos c6] at h
      refine v_iconst O.1 dX1_splits_62 (v := 0) rfl (q := 63) rfl ?_
      exact v_sub [0, 1, 3] rfl (bc_RE_splits_63 O hK23 x1 x4 0 x3 C5 h)
    · rw [if_neg c6] at h
      refine v_iconst O.1 dX1_splits_55 (v := 1) rfl (q := 56) rfl ?_
      refine v_iload O.1 dX1_splits_56 rfl (q := 58) rfl ?_
      refine v_ishl O.1 dX1_splits_58 (q := 59) rfl ?_
      refine v_goto O.1 dX1_splits_59 (t := 63) (by decide) ?_
      exact v_sub [0, 1, 3] rfl (bc_RE_splits_63 O hK23 x1 x4 ((1 : Int32) <<< (x4 &&& 31)) x3 C5 h)
def fc_RE_splits_23 (n : Nat) : Int32 → Int32 → Int32 → Mem → Option (Int32 × Mem) := lpc (fc_RE_splits_23b) (fun _ _ _ _ => none) n
theorem bc_RE_splits_23 {g : gC} {X : Cxt} {r : Int32} {C' : Mem} (O : OkC g X cX1_splits 5 (some .int) RX1 4 0 (cQi g r C')) : ∀ (n : Nat) (x1 : Int32) (x3 : Int32) (x4 : Int32) (C : Mem), fc_RE_splits_23 n x1 x3 x4 C = some (r, C') → V X 5 0 (WdC g C) 23 [(1, .int x1), (2, .ref (gCa g 52)), (3, .int x3), (4, .int x4)] [] := by
  intro n
  induction n with
  | zero =>
    intro x1 x3 x4 C h
    cases h
  | succ n ih =>
    intro x1 x3 x4 C h
    exact bc_RE_splits_23b O ih x1 x3 x4 C h
def fc_RE_splits (x1 : Int32) (C : Mem) : Option (Int32 × Mem) :=
  bnd (fc_RE_within x1 0 20 C) fun r1 C1 =>
  if r1 = 0 then
    some ((-1), C1)
  else
    bnd (fc_RE_tried 0 C1) fun r3 C3 =>
    fc_RE_splits_23 600 x1 0 0 C3
set_option maxHeartbeats 4000000 in
theorem bc_RE_splits {g : gC} {X : Cxt} {r : Int32} {C' : Mem} (O : OkC g X cX1_splits 5 (some .int) RX1 4 0 (cQi g r C')) (x1 : Int32) (C : Mem) (h : fc_RE_splits x1 C = some (r, C')) : V X 5 0 (WdC g C) 0 [(0, .ref (gCa g 0)), (1, .int x1)] [] := by
  unfold fc_RE_splits at h
  refine v_iload_n O.1 dX1_splits_0 rfl (q := 1) rfl ?_
  refine v_iconst O.1 dX1_splits_1 (v := 0) rfl (q := 2) rfl ?_
  refine v_bipush O.1 dX1_splits_2 (v := 20) (by decide) (q := 4) rfl ?_
  obtain ⟨r1, C1, e1, h⟩ := bnd_some h
  refine c_callSi (As := [.int x1, .int 0, .int 20]) (rest := []) (n := 3) O (metc_RE_within _ g x1 0 20 C C1 r1 e1) (lw_S q1094 q656 q59 q657) (by decide +kernel) (by decide) (by decide) rfl rfl (Nat.le_of_ble_eq_true rfl) dX1_splits_4 (q := 7) rfl (b' := 0) rfl ?_
  refine v_if_ne O.1 dX1_splits_7 (t := 12) (by decide) (q := 10) rfl (fun c2 => ?_) (fun c2 => ?_)
  · rw [if_neg c2] at h
    refine v_aload_n O.1 dX1_splits_12 rfl (q := 13) rfl ?_
    refine v_iconst O.1 dX1_splits_13 (v := 0) rfl (q := 14) rfl ?_
    obtain ⟨r3, C3, e3, h⟩ := bnd_some h
    refine c_callVr (As := [.int 0]) (rest := []) (n := 1) (ci := 0) (p := (RX1, TX1, 4)) O (by decide) rfl (fun _ _ => ⟨_, rfl⟩) (metc_RE_tried _ g  0 C1 C3 r3 e3) (lw_V q1238 q1240 qs18 q59 q1241) (by decide +kernel) (by decide) (by decide) rfl rfl (Nat.le_of_ble_eq_true rfl) dX1_splits_14 (q := 17) rfl (b' := 0) rfl ?_
    refine v_astore_n (lv' := [(2, .ref (gCa g 52)), (0, .ref (gCa g 0)), (1, .int x1)]) O.1 dX1_splits_17 (by decide) rfl (q := 18) rfl ?_
    refine v_iconst O.1 dX1_splits_18 (v := 0) rfl (q := 19) rfl ?_
    refine v_istore_n (lv' := [(3, .int 0), (2, .ref (gCa g 52)), (0, .ref (gCa g 0)), (1, .int x1)]) O.1 dX1_splits_19 (by decide) rfl (q := 20) rfl ?_
    refine v_iconst O.1 dX1_splits_20 (v := 0) rfl (q := 21) rfl ?_
    refine v_istore (lv' := [(4, .int 0), (3, .int 0), (2, .ref (gCa g 52)), (0, .ref (gCa g 0)), (1, .int x1)]) O.1 dX1_splits_21 (by decide) rfl (q := 23) rfl ?_
    exact v_sub [4, 2, 1, 0] rfl (bc_RE_splits_23 O 600 x1 0 0 C3 h)
  · rw [if_pos c2] at h
    refine v_iconst O.1 dX1_splits_10 (v := (-1)) rfl (q := 11) rfl ?_
    exact c_iret O h dX1_splits_11
theorem metc_RE_splits (l : Launch) (g : gC) (x1 : Int32) (C C' : Mem) (r : Int32) (h : fc_RE_splits x1 C = some (r, C')) : MetC l g yX1_splits cX1_splits 5 (some .int) 4 0 [.ref (gCa g 0), .int x1] C (cQi g r C') :=
  c_met (by decide) rfl (Nat.le_of_ble_eq_true rfl) (fun X O => bc_RE_splits O x1 C h)
/-! RankEntry.state(I)I -/
def fc_RE_state_119 (y0 : Int32) (C : Mem) : Option (Int32 × Mem) :=
  some (y0, C)
set_option maxHeartbeats 4000000 in
theorem bc_RE_state_119 {g : gC} {X : Cxt} {r : Int32} {C' : Mem} (O : OkC g X cX1_state 2 (some .int) RX1 6 0 (cQi g r C')) (y0 : Int32) (C : Mem) (h : fc_RE_state_119 y0 C = some (r, C')) : V X 2 0 (WdC g C) 119 [] [.int y0] := by
  unfold fc_RE_state_119 at h
  exact c_iret O h dX1_state_119
def fc_RE_state (x1 : Int32) (C : Mem) : Option (Int32 × Mem) :=
  if x1 = 0 then
    some ((C 9 41), C)
  else
  if x1 = 1 then
    some ((C 9 42), C)
  else
  if x1 = 2 then
    some ((C 9 43), C)
  else
  if x1 = 3 then
    if (C 9 44) = 0 then
      fc_RE_state_119 0 C
    else
      fc_RE_state_119 1 C
  else
  if x1 = 4 then
    some ((C 9 31), C)
  else
  if x1 = 5 then
    some ((C 9 32), C)
  else
  if x1 = 6 then
    some ((C 9 29), C)
  else
  if x1 = 7 then
    some ((C 9 30), C)
  else
  if x1 = 8 then
    some ((C 9 36), C)
  else
  if x1 = 9 then
    some ((C 9 35), C)
  else
  if x1 = 10 then
    some ((C 9 45), C)
  else
  if x1 = 11 then
    some ((C 9 46), C)
  else
  if x1 = 12 then
    bnd (fc_Core_limit 9 C) fun r14 C14 =>
    some (r14, C14)
  else
  if x1 = 13 then
    bnd (fc_Core_next 9 C) fun r16 C16 =>
    some (r16, C16)
  else
  if x1 = 14 then
    some ((C 9 34), C)
  else
  if x1 = 15 then
    some ((C 9 39), C)
  else
    some ((-2), C)
set_option maxHeartbeats 4000000 in
theorem bc_RE_state {g : gC} {X : Cxt} {r : Int32} {C' : Mem} (O : OkC g X cX1_state 2 (some .int) RX1 6 0 (cQi g r C')) (x1 : Int32) (C : Mem) (h : fc_RE_state x1 C = some (r, C')) : V X 2 0 (WdC g C) 0 [(0, .ref (gCa g 0)), (1, .int x1)] [] := by
  unfold fc_RE_state at h
  refine v_iload_n O.1 dX1_state_0 rfl (q := 1) rfl ?_
  by_cases c1 : x1 = 0
  · rw [if_pos c1] at h
    refine v_tableIn O.1 dX1_state_1 (off := 79) (t := 80) (by rw [c1]; decide) (by rw [c1]; decide) (by rw [c1]; rfl) (by decide) ?_
    refine v_aload_n O.1 dX1_state_80 rfl (q := 81) rfl ?_
    refine c_getR O 1 (v := .ref (gCa g 9)) (by decide) (O.lk q1078) rfl (fun _ _ => ⟨_, rfl, rfl⟩) dX1_state_81 (q := 84) rfl ?_
    refine c_getC O cC_9 41 (v := .int (C 9 41)) (by decide) (O.lkn q914) rfl (fun _ => rfl) dX1_state_84 (q := 87) rfl ?_
    exact c_iret O h dX1_state_87
  rw [if_neg c1] at h
  by_cases c2 : x1 = 1
  · rw [if_pos c2] at h
    refine v_tableIn O.1 dX1_state_1 (off := 87) (t := 88) (by rw [c2]; decide) (by rw [c2]; decide) (by rw [c2]; rfl) (by decide) ?_
    refine v_aload_n O.1 dX1_state_88 rfl (q := 89) rfl ?_
    refine c_getR O 1 (v := .ref (gCa g 9)) (by decide) (O.lk q1078) rfl (fun _ _ => ⟨_, rfl, rfl⟩) dX1_state_89 (q := 92) rfl ?_
    refine c_getC O cC_9 42 (v := .int (C 9 42)) (by decide) (O.lkn q916) rfl (fun _ => rfl) dX1_state_92 (q := 95) rfl ?_
    exact c_iret O h dX1_state_95
  rw [if_neg c2] at h
  by_cases c3 : x1 = 2
  · rw [if_pos c3] at h
    refine v_tableIn O.1 dX1_state_1 (off := 95) (t := 96) (by rw [c3]; decide) (by rw [c3]; decide) (by rw [c3]; rfl) (by decide) ?_
    refine v_aload_n O.1 dX1_state_96 rfl (q := 97) rfl ?_
    refine c_getR O 1 (v := .ref (gCa g 9)) (by decide) (O.lk q1078) rfl (fun _ _ => ⟨_, rfl, rfl⟩) dX1_state_97 (q := 100) rfl ?_
    refine c_getC O cC_9 43 (v := .int (C 9 43)) (by decide) (O.lkn q918) rfl (fun _ => rfl) dX1_state_100 (q := 103) rfl ?_
    exact c_iret O h dX1_state_103
  rw [if_neg c3] at h
  by_cases c5 : x1 = 3
  · rw [if_pos c5] at h
    refine v_tableIn O.1 dX1_state_1 (off := 103) (t := 104) (by rw [c5]; decide) (by rw [c5]; decide) (by rw [c5]; rfl) (by decide) ?_
    refine v_aload_n O.1 dX1_state_104 rfl (q := 105) rfl ?_
    refine c_getR O 1 (v := .ref (gCa g 9)) (by decide) (O.lk q1078) rfl (fun _ _ => ⟨_, rfl, rfl⟩) dX1_state_105 (q := 108) rfl ?_
    refine c_getC O cC_9 44 (v := .int (C 9 44)) (by decide) (O.lkn q921) rfl (fun _ => rfl) dX1_state_108 (q := 111) rfl ?_
    refine v_if_eq O.1 dX1_state_111 (t := 118) (by decide) (q := 114) rfl (fun c4 => ?_) (fun c4 => ?_)
    · rw [if_pos c4] at h
      refine v_iconst O.1 dX1_state_118 (v := 0) rfl (q := 119) rfl ?_
      exact v_sub [] rfl (bc_RE_state_119 O 0 C h)
    · rw [if_neg c4] at h
      refine v_iconst O.1 dX1_state_114 (v := 1) rfl (q := 115) rfl ?_
      refine v_goto O.1 dX1_state_115 (t := 119) (by decide) ?_
      exact v_sub [] rfl (bc_RE_state_119 O 1 C h)
  rw [if_neg c5] at h
  by_cases c6 : x1 = 4
  · rw [if_pos c6] at h
    refine v_tableIn O.1 dX1_state_1 (off := 119) (t := 120) (by rw [c6]; decide) (by rw [c6]; decide) (by rw [c6]; rfl) (by decide) ?_
    refine v_aload_n O.1 dX1_state_120 rfl (q := 121) rfl ?_
    refine c_getR O 1 (v := .ref (gCa g 9)) (by decide) (O.lk q1078) rfl (fun _ _ => ⟨_, rfl, rfl⟩) dX1_state_121 (q := 124) rfl ?_
    refine c_getC O cC_9 31 (v := .int (C 9 31)) (by decide) (O.lkn q890) rfl (fun _ => rfl) dX1_state_124 (q := 127) rfl ?_
    exact c_iret O h dX1_state_127
  rw [if_neg c6] at h
  by_cases c7 : x1 = 5
  · rw [if_pos c7] at h
    refine v_tableIn O.1 dX1_state_1 (off := 127) (t := 128) (by rw [c7]; decide) (by rw [c7]; decide) (by rw [c7]; rfl) (by decide) ?_
    refine v_aload_n O.1 dX1_state_128 rfl (q := 129) rfl ?_
    refine c_getR O 1 (v := .ref (gCa g 9)) (by decide) (O.lk q1078) rfl (fun _ _ => ⟨_, rfl, rfl⟩) dX1_state_129 (q := 132) rfl ?_
    refine c_getC O cC_9 32 (v := .int (C 9 32)) (by decide) (O.lkn q894) rfl (fun _ => rfl) dX1_state_132 (q := 135) rfl ?_
    exact c_iret O h dX1_state_135
  rw [if_neg c7] at h
  by_cases c8 : x1 = 6
  · rw [if_pos c8] at h
    refine v_tableIn O.1 dX1_state_1 (off := 135) (t := 136) (by rw [c8]; decide) (by rw [c8]; decide) (by rw [c8]; rfl) (by decide) ?_
    refine v_aload_n O.1 dX1_state_136 rfl (q := 137) rfl ?_
    refine c_getR O 1 (v := .ref (gCa g 9)) (by decide) (O.lk q1078) rfl (fun _ _ => ⟨_, rfl, rfl⟩) dX1_state_137 (q := 140) rfl ?_
    refine c_getC O cC_9 29 (v := .int (C 9 29)) (by decide) (O.lkn q882) rfl (fun _ => rfl) dX1_state_140 (q := 143) rfl ?_
    exact c_iret O h dX1_state_143
  rw [if_neg c8] at h
  by_cases c9 : x1 = 7
  · rw [if_pos c9] at h
    refine v_tableIn O.1 dX1_state_1 (off := 143) (t := 144) (by rw [c9]; decide) (by rw [c9]; decide) (by rw [c9]; rfl) (by decide) ?_
    refine v_aload_n O.1 dX1_state_144 rfl (q := 145) rfl ?_
    refine c_getR O 1 (v := .ref (gCa g 9)) (by decide) (O.lk q1078) rfl (fun _ _ => ⟨_, rfl, rfl⟩) dX1_state_145 (q := 148) rfl ?_
    refine c_getC O cC_9 30 (v := .int (C 9 30)) (by decide) (O.lkn q885) rfl (fun _ => rfl) dX1_state_148 (q := 151) rfl ?_
    exact c_iret O h dX1_state_151
  rw [if_neg c9] at h
  by_cases c10 : x1 = 8
  · rw [if_pos c10] at h
    refine v_tableIn O.1 dX1_state_1 (off := 151) (t := 152) (by rw [c10]; decide) (by rw [c10]; decide) (by rw [c10]; rfl) (by decide) ?_
    refine v_aload_n O.1 dX1_state_152 rfl (q := 153) rfl ?_
    refine c_getR O 1 (v := .ref (gCa g 9)) (by decide) (O.lk q1078) rfl (fun _ _ => ⟨_, rfl, rfl⟩) dX1_state_153 (q := 156) rfl ?_
    refine c_getC O cC_9 36 (v := .int (C 9 36)) (by decide) (O.lkn q904) rfl (fun _ => rfl) dX1_state_156 (q := 159) rfl ?_
    exact c_iret O h dX1_state_159
  rw [if_neg c10] at h
  by_cases c11 : x1 = 9
  · rw [if_pos c11] at h
    refine v_tableIn O.1 dX1_state_1 (off := 159) (t := 160) (by rw [c11]; decide) (by rw [c11]; decide) (by rw [c11]; rfl) (by decide) ?_
    refine v_aload_n O.1 dX1_state_160 rfl (q := 161) rfl ?_
    refine c_getR O 1 (v := .ref (gCa g 9)) (by decide) (O.lk q1078) rfl (fun _ _ => ⟨_, rfl, rfl⟩) dX1_state_161 (q := 164) rfl ?_
    refine c_getC O cC_9 35 (v := .int (C 9 35)) (by decide) (O.lkn q901) rfl (fun _ => rfl) dX1_state_164 (q := 167) rfl ?_
    exact c_iret O h dX1_state_167
  rw [if_neg c11] at h
  by_cases c12 : x1 = 10
  · rw [if_pos c12] at h
    refine v_tableIn O.1 dX1_state_1 (off := 167) (t := 168) (by rw [c12]; decide) (by rw [c12]; decide) (by rw [c12]; rfl) (by decide) ?_
    refine v_aload_n O.1 dX1_state_168 rfl (q := 169) rfl ?_
    refine c_getR O 1 (v := .ref (gCa g 9)) (by decide) (O.lk q1078) rfl (fun _ _ => ⟨_, rfl, rfl⟩) dX1_state_169 (q := 172) rfl ?_
    refine c_getC O cC_9 45 (v := .int (C 9 45)) (by decide) (O.lkn q923) rfl (fun _ => rfl) dX1_state_172 (q := 175) rfl ?_
    exact c_iret O h dX1_state_175
  rw [if_neg c12] at h
  by_cases c13 : x1 = 11
  · rw [if_pos c13] at h
    refine v_tableIn O.1 dX1_state_1 (off := 175) (t := 176) (by rw [c13]; decide) (by rw [c13]; decide) (by rw [c13]; rfl) (by decide) ?_
    refine v_aload_n O.1 dX1_state_176 rfl (q := 177) rfl ?_
    refine c_getR O 1 (v := .ref (gCa g 9)) (by decide) (O.lk q1078) rfl (fun _ _ => ⟨_, rfl, rfl⟩) dX1_state_177 (q := 180) rfl ?_
    refine c_getC O cC_9 46 (v := .int (C 9 46)) (by decide) (O.lkn q925) rfl (fun _ => rfl) dX1_state_180 (q := 183) rfl ?_
    exact c_iret O h dX1_state_183
  rw [if_neg c13] at h
  by_cases c15 : x1 = 12
  · rw [if_pos c15] at h
    refine v_tableIn O.1 dX1_state_1 (off := 183) (t := 184) (by rw [c15]; decide) (by rw [c15]; decide) (by rw [c15]; rfl) (by decide) ?_
    refine v_aload_n O.1 dX1_state_184 rfl (q := 185) rfl ?_
    refine c_getR O 1 (v := .ref (gCa g 9)) (by decide) (O.lk q1078) rfl (fun _ _ => ⟨_, rfl, rfl⟩) dX1_state_185 (q := 188) rfl ?_
    obtain ⟨r14, C14, e14, h⟩ := bnd_some h
    refine c_callVi (As := []) (rest := []) (n := 0) (ci := 2) (p := (RX4, TX4, 55)) O (cC_lt (j := 0) cC_9 (by decide)) rfl (fun _ _ => ⟨_, cCell_core cC_9⟩) (metc_Core_limit _ g 9 cC_9 C C14 r14 e14) (lw_V q1218 q209 q210 q63 q211) (by decide +kernel) (by decide) (by decide) rfl rfl (Nat.le_of_ble_eq_true rfl) dX1_state_188 (q := 191) rfl (b' := 0) rfl ?_
    exact c_iret O h dX1_state_191
  rw [if_neg c15] at h
  by_cases c17 : x1 = 13
  · rw [if_pos c17] at h
    refine v_tableIn O.1 dX1_state_1 (off := 191) (t := 192) (by rw [c17]; decide) (by rw [c17]; decide) (by rw [c17]; rfl) (by decide) ?_
    refine v_aload_n O.1 dX1_state_192 rfl (q := 193) rfl ?_
    refine c_getR O 1 (v := .ref (gCa g 9)) (by decide) (O.lk q1078) rfl (fun _ _ => ⟨_, rfl, rfl⟩) dX1_state_193 (q := 196) rfl ?_
    obtain ⟨r16, C16, e16, h⟩ := bnd_some h
    refine c_callVi (As := []) (rest := []) (n := 0) (ci := 2) (p := (RX4, TX4, 55)) O (cC_lt (j := 0) cC_9 (by decide)) rfl (fun _ _ => ⟨_, cCell_core cC_9⟩) (metc_Core_next _ g 9 cC_9 C C16 r16 e16) (lw_V q1219 q205 q206 q63 q207) (by decide +kernel) (by decide) (by decide) rfl rfl (Nat.le_of_ble_eq_true rfl) dX1_state_196 (q := 199) rfl (b' := 0) rfl ?_
    exact c_iret O h dX1_state_199
  rw [if_neg c17] at h
  by_cases c18 : x1 = 14
  · rw [if_pos c18] at h
    refine v_tableIn O.1 dX1_state_1 (off := 199) (t := 200) (by rw [c18]; decide) (by rw [c18]; decide) (by rw [c18]; rfl) (by decide) ?_
    refine v_aload_n O.1 dX1_state_200 rfl (q := 201) rfl ?_
    refine c_getR O 1 (v := .ref (gCa g 9)) (by decide) (O.lk q1078) rfl (fun _ _ => ⟨_, rfl, rfl⟩) dX1_state_201 (q := 204) rfl ?_
    refine c_getC O cC_9 34 (v := .int (C 9 34)) (by decide) (O.lkn q898) rfl (fun _ => rfl) dX1_state_204 (q := 207) rfl ?_
    exact c_iret O h dX1_state_207
  rw [if_neg c18] at h
  by_cases c19 : x1 = 15
  · rw [if_pos c19] at h
    refine v_tableIn O.1 dX1_state_1 (off := 207) (t := 208) (by rw [c19]; decide) (by rw [c19]; decide) (by rw [c19]; rfl) (by decide) ?_
    refine v_aload_n O.1 dX1_state_208 rfl (q := 209) rfl ?_
    refine c_getR O 1 (v := .ref (gCa g 9)) (by decide) (O.lk q1078) rfl (fun _ _ => ⟨_, rfl, rfl⟩) dX1_state_209 (q := 212) rfl ?_
    refine c_getC O cC_9 39 (v := .int (C 9 39)) (by decide) (O.lkn q910) rfl (fun _ => rfl) dX1_state_212 (q := 215) rfl ?_
    exact c_iret O h dX1_state_215
  rw [if_neg c19] at h
  refine v_tableOut O.1 dX1_state_1 (t := 216) (tbl_out 16 (by decide) (fun i hi => by match i, hi with | 0, _ => exact c1 | 1, _ => exact c2 | 2, _ => exact c3 | 3, _ => exact c5 | 4, _ => exact c6 | 5, _ => exact c7 | 6, _ => exact c8 | 7, _ => exact c9 | 8, _ => exact c10 | 9, _ => exact c11 | 10, _ => exact c12 | 11, _ => exact c13 | 12, _ => exact c15 | 13, _ => exact c17 | 14, _ => exact c18 | 15, _ => exact c19 | i + 16, hi => omega)) (by decide) ?_
  refine v_bipush O.1 dX1_state_216 (v := (-2)) (by decide) (q := 218) rfl ?_
  exact c_iret O h dX1_state_218
theorem metc_RE_state (l : Launch) (g : gC) (x1 : Int32) (C C' : Mem) (r : Int32) (h : fc_RE_state x1 C = some (r, C')) : MetC l g yX1_state cX1_state 2 (some .int) 6 0 [.ref (gCa g 0), .int x1] C (cQi g r C') :=
  c_met (by decide) rfl (Nat.le_of_ble_eq_true rfl) (fun X O => bc_RE_state O x1 C h)
/-! RankEntry.till(I)I -/
def fc_RE_till_22 (y0 : Int32) (C : Mem) : Option (Int32 × Mem) :=
  some (y0, C)
set_option maxHeartbeats 4000000 in
theorem bc_RE_till_22 {g : gC} {X : Cxt} {r : Int32} {C' : Mem} (O : OkC g X cX1_till 2 (some .int) RX1 14 915 (cQi g r C')) (y0 : Int32) (C : Mem) (h : fc_RE_till_22 y0 C = some (r, C')) : V X 2 0 (WdC g C) 22 [] [.int y0] := by
  unfold fc_RE_till_22 at h
  exact c_iret O h dX1_till_22
def fc_RE_till (x1 : Int32) (C : Mem) : Option (Int32 × Mem) :=
  bnd (fc_RE_within x1 0 20 C) fun r1 C1 =>
  if r1 = 0 then
    fc_RE_till_22 (-1) C1
  else
    bnd (fc_RE_goes 9 x1 C1) fun r3 C3 =>
    fc_RE_till_22 r3 C3
set_option maxHeartbeats 4000000 in
theorem bc_RE_till {g : gC} {X : Cxt} {r : Int32} {C' : Mem} (O : OkC g X cX1_till 2 (some .int) RX1 14 915 (cQi g r C')) (x1 : Int32) (C : Mem) (h : fc_RE_till x1 C = some (r, C')) : V X 2 915 (WdC g C) 0 [(0, .ref (gCa g 0)), (1, .int x1)] [] := by
  unfold fc_RE_till at h
  refine v_iload_n O.1 dX1_till_0 rfl (q := 1) rfl ?_
  refine v_iconst O.1 dX1_till_1 (v := 0) rfl (q := 2) rfl ?_
  refine v_bipush O.1 dX1_till_2 (v := 20) (by decide) (q := 4) rfl ?_
  obtain ⟨r1, C1, e1, h⟩ := bnd_some h
  refine c_callSi (As := [.int x1, .int 0, .int 20]) (rest := []) (n := 3) O (metc_RE_within _ g x1 0 20 C C1 r1 e1) (lw_S q1094 q656 q59 q657) (by decide +kernel) (by decide) (by decide) rfl rfl (Nat.le_of_ble_eq_true rfl) dX1_till_4 (q := 7) rfl (b' := 915) rfl ?_
  refine v_if_eq O.1 dX1_till_7 (t := 21) (by decide) (q := 10) rfl (fun c2 => ?_) (fun c2 => ?_)
  · rw [if_pos c2] at h
    refine v_iconst O.1 dX1_till_21 (v := (-1)) rfl (q := 22) rfl ?_
    exact v_less (b' := 0) (by decide) (v_sub [] rfl (bc_RE_till_22 O (-1) C1 h))
  · rw [if_neg c2] at h
    refine v_aload_n O.1 dX1_till_10 rfl (q := 11) rfl ?_
    refine c_getR O 1 (v := .ref (gCa g 9)) (by decide) (O.lk q1078) rfl (fun _ _ => ⟨_, rfl, rfl⟩) dX1_till_11 (q := 14) rfl ?_
    refine v_iload_n O.1 dX1_till_14 rfl (q := 15) rfl ?_
    obtain ⟨r3, C3, e3, h⟩ := bnd_some h
    refine c_callSi (As := [.ref (gCa g 9), .int x1]) (rest := []) (n := 2) O (metc_RE_goes _ g 9 cC_9 x1 C1 C3 r3 e3) (lw_S q1162 q1163 q59 q1164) (by decide +kernel) (by decide) (by decide) rfl rfl (Nat.le_of_ble_eq_true rfl) dX1_till_15 (q := 18) rfl (b' := 0) rfl ?_
    refine v_goto O.1 dX1_till_18 (t := 22) (by decide) ?_
    exact v_sub [] rfl (bc_RE_till_22 O r3 C3 h)
theorem metc_RE_till (l : Launch) (g : gC) (x1 : Int32) (C C' : Mem) (r : Int32) (h : fc_RE_till x1 C = some (r, C')) : MetC l g yX1_till cX1_till 2 (some .int) 14 915 [.ref (gCa g 0), .int x1] C (cQi g r C') :=
  c_met (by decide) rfl (Nat.le_of_ble_eq_true rfl) (fun X O => bc_RE_till O x1 C h)
/-! RankEntry.timer(I)Z -/
def fc_RE_timer (x1 : Int32) (C : Mem) : Option (Int32 × Mem) :=
  bnd (fc_RE_within x1 0 999 C) fun r1 C1 =>
  if r1 = 0 then
    some (0, C1)
  else
    stp (up2 C1 9 38 x1) fun C3 =>
    stp (up2 C3 9 39 x1) fun C4 =>
    some (1, C4)
set_option maxHeartbeats 4000000 in
theorem bc_RE_timer {g : gC} {X : Cxt} {r : Int32} {C' : Mem} (O : OkC g X cX1_timer 2 (some .boolean) RX1 1 0 (cQi g r C')) (x1 : Int32) (C : Mem) (h : fc_RE_timer x1 C = some (r, C')) : V X 2 0 (WdC g C) 0 [(0, .ref (gCa g 0)), (1, .int x1)] [] := by
  unfold fc_RE_timer at h
  refine v_iload_n O.1 dX1_timer_0 rfl (q := 1) rfl ?_
  refine v_iconst O.1 dX1_timer_1 (v := 0) rfl (q := 2) rfl ?_
  refine v_sipush O.1 dX1_timer_2 (v := 999) (by decide) (q := 5) rfl ?_
  obtain ⟨r1, C1, e1, h⟩ := bnd_some h
  refine c_callSi (As := [.int x1, .int 0, .int 999]) (rest := []) (n := 3) O (metc_RE_within _ g x1 0 999 C C1 r1 e1) (lw_S q1094 q656 q59 q657) (by decide +kernel) (by decide) (by decide) rfl rfl (Nat.le_of_ble_eq_true rfl) dX1_timer_5 (q := 8) rfl (b' := 0) rfl ?_
  refine v_if_ne O.1 dX1_timer_8 (t := 13) (by decide) (q := 11) rfl (fun c2 => ?_) (fun c2 => ?_)
  · rw [if_neg c2] at h
    refine v_aload_n O.1 dX1_timer_13 rfl (q := 14) rfl ?_
    refine c_getR O 1 (v := .ref (gCa g 9)) (by decide) (O.lk q1078) rfl (fun _ _ => ⟨_, rfl, rfl⟩) dX1_timer_14 (q := 17) rfl ?_
    refine v_iload_n O.1 dX1_timer_17 rfl (q := 18) rfl ?_
    obtain ⟨C3, e3, h⟩ := stp_some h
    refine c_putC O cC_9 38 (u := x1) (ty := .int) (by decide) (by decide) (O.lkn q908) rfl rfl rfl rfl rfl (fun _ => rfl) dX1_timer_18 (q := 21) rfl e3 ?_
    refine v_aload_n O.1 dX1_timer_21 rfl (q := 22) rfl ?_
    refine c_getR O 1 (v := .ref (gCa g 9)) (by decide) (O.lk q1078) rfl (fun _ _ => ⟨_, rfl, rfl⟩) dX1_timer_22 (q := 25) rfl ?_
    refine v_iload_n O.1 dX1_timer_25 rfl (q := 26) rfl ?_
    obtain ⟨C4, e4, h⟩ := stp_some h
    refine c_putC O cC_9 39 (u := x1) (ty := .int) (by decide) (by decide) (O.lkn q910) rfl rfl rfl rfl rfl (fun _ => rfl) dX1_timer_26 (q := 29) rfl e4 ?_
    refine v_iconst O.1 dX1_timer_29 (v := 1) rfl (q := 30) rfl ?_
    exact c_zret O (by decide) h dX1_timer_30
  · rw [if_pos c2] at h
    refine v_iconst O.1 dX1_timer_11 (v := 0) rfl (q := 12) rfl ?_
    exact c_zret O (by decide) h dX1_timer_12
theorem metc_RE_timer (l : Launch) (g : gC) (x1 : Int32) (C C' : Mem) (r : Int32) (h : fc_RE_timer x1 C = some (r, C')) : MetC l g yX1_timer cX1_timer 2 (some .boolean) 1 0 [.ref (gCa g 0), .int x1] C (cQi g r C') :=
  c_met (by decide) rfl (Nat.le_of_ble_eq_true rfl) (fun X O => bc_RE_timer O x1 C h)
/-! RankEntry.vector(II)Z -/
def fc_RE_vector_21  (C : Mem) : Option (Int32 × Mem) :=
  some (0, C)
set_option maxHeartbeats 4000000 in
theorem bc_RE_vector_21 {g : gC} {X : Cxt} {r : Int32} {C' : Mem} (O : OkC g X cX1_vector 3 (some .boolean) RX1 1 0 (cQi g r C'))  (C : Mem) (h : fc_RE_vector_21  C = some (r, C')) : V X 3 0 (WdC g C) 21 [] [] := by
  unfold fc_RE_vector_21 at h
  refine v_iconst O.1 dX1_vector_21 (v := 0) rfl (q := 22) rfl ?_
  exact c_zret O (by decide) h dX1_vector_22
def fc_RE_vector (x1 : Int32) (x2 : Int32) (C : Mem) : Option (Int32 × Mem) :=
  bnd (fc_RE_within x1 0 20 C) fun r1 C1 =>
  if r1 = 0 then
    fc_RE_vector_21 C1
  else
    bnd (fc_RE_within x2 0 511 C1) fun r3 C3 =>
    if r3 = 0 then
      fc_RE_vector_21 C3
    else
      gd (inb x1 21) <|
      stp (up2 C3 (9 + 22 + x1.toNatClampNeg) 2 x2) fun C6 =>
      some (1, C6)
set_option maxHeartbeats 4000000 in
theorem bc_RE_vector {g : gC} {X : Cxt} {r : Int32} {C' : Mem} (O : OkC g X cX1_vector 3 (some .boolean) RX1 1 0 (cQi g r C')) (x1 : Int32) (x2 : Int32) (C : Mem) (h : fc_RE_vector x1 x2 C = some (r, C')) : V X 3 0 (WdC g C) 0 [(0, .ref (gCa g 0)), (1, .int x1), (2, .int x2)] [] := by
  unfold fc_RE_vector at h
  refine v_iload_n O.1 dX1_vector_0 rfl (q := 1) rfl ?_
  refine v_iconst O.1 dX1_vector_1 (v := 0) rfl (q := 2) rfl ?_
  refine v_bipush O.1 dX1_vector_2 (v := 20) (by decide) (q := 4) rfl ?_
  obtain ⟨r1, C1, e1, h⟩ := bnd_some h
  refine c_callSi (As := [.int x1, .int 0, .int 20]) (rest := []) (n := 3) O (metc_RE_within _ g x1 0 20 C C1 r1 e1) (lw_S q1094 q656 q59 q657) (by decide +kernel) (by decide) (by decide) rfl rfl (Nat.le_of_ble_eq_true rfl) dX1_vector_4 (q := 7) rfl (b' := 0) rfl ?_
  refine v_if_eq O.1 dX1_vector_7 (t := 21) (by decide) (q := 10) rfl (fun c2 => ?_) (fun c2 => ?_)
  · rw [if_pos c2] at h
    exact v_sub [] rfl (bc_RE_vector_21 O C1 h)
  · rw [if_neg c2] at h
    refine v_iload_n O.1 dX1_vector_10 rfl (q := 11) rfl ?_
    refine v_iconst O.1 dX1_vector_11 (v := 0) rfl (q := 12) rfl ?_
    refine v_sipush O.1 dX1_vector_12 (v := 511) (by decide) (q := 15) rfl ?_
    obtain ⟨r3, C3, e3, h⟩ := bnd_some h
    refine c_callSi (As := [.int x2, .int 0, .int 511]) (rest := []) (n := 3) O (metc_RE_within _ g x2 0 511 C1 C3 r3 e3) (lw_S q1094 q656 q59 q657) (by decide +kernel) (by decide) (by decide) rfl rfl (Nat.le_of_ble_eq_true rfl) dX1_vector_15 (q := 18) rfl (b' := 0) rfl ?_
    refine v_if_ne O.1 dX1_vector_18 (t := 23) (by decide) (q := 21) rfl (fun c4 => ?_) (fun c4 => ?_)
    · rw [if_neg c4] at h
      refine v_aload_n O.1 dX1_vector_23 rfl (q := 24) rfl ?_
      refine c_getR O 1 (v := .ref (gCa g 9)) (by decide) (O.lk q1078) rfl (fun _ _ => ⟨_, rfl, rfl⟩) dX1_vector_24 (q := 27) rfl ?_
      refine c_getC O cC_9 7 (v := .ref (gCa g (9 + 5))) (by decide) (O.lkn q851) rfl (fun _ => rfl) dX1_vector_27 (q := 30) rfl ?_
      refine v_iload_n O.1 dX1_vector_30 rfl (q := 31) rfl ?_
      obtain ⟨g5, h⟩ := gd_some h
      refine c_all O cC_9 g5 rfl (j := x1.toNatClampNeg) dX1_vector_31 (q := 32) rfl ?_
      refine v_iload_n O.1 dX1_vector_32 rfl (q := 33) rfl ?_
      obtain ⟨C6, e6, h⟩ := stp_some h
      refine c_putS O (cS_of cC_9 (inb_lt g5)) 2 (ty := .int) (by decide) (by decide) (O.lk q739) rfl rfl rfl rfl rfl rfl rfl rfl dX1_vector_33 (q := 36) rfl e6 ?_
      refine v_iconst O.1 dX1_vector_36 (v := 1) rfl (q := 37) rfl ?_
      exact c_zret O (by decide) h dX1_vector_37
    · rw [if_pos c4] at h
      exact v_sub [] rfl (bc_RE_vector_21 O C3 h)
theorem metc_RE_vector (l : Launch) (g : gC) (x1 : Int32) (x2 : Int32) (C C' : Mem) (r : Int32) (h : fc_RE_vector x1 x2 C = some (r, C')) : MetC l g yX1_vector cX1_vector 3 (some .boolean) 1 0 [.ref (gCa g 0), .int x1, .int x2] C (cQi g r C') :=
  c_met (by decide) rfl (Nat.le_of_ble_eq_true rfl) (fun X O => bc_RE_vector O x1 x2 C h)
/-! RankEntry.waited(I)I -/
def fc_RE_waited_26 (y0 : Int32) (C : Mem) : Option (Int32 × Mem) :=
  some (y0, C)
set_option maxHeartbeats 4000000 in
theorem bc_RE_waited_26 {g : gC} {X : Cxt} {r : Int32} {C' : Mem} (O : OkC g X cX1_waited 2 (some .int) RX1 1 0 (cQi g r C')) (y0 : Int32) (C : Mem) (h : fc_RE_waited_26 y0 C = some (r, C')) : V X 2 0 (WdC g C) 26 [] [.int y0] := by
  unfold fc_RE_waited_26 at h
  exact c_iret O h dX1_waited_26
def fc_RE_waited (x1 : Int32) (C : Mem) : Option (Int32 × Mem) :=
  bnd (fc_RE_within x1 0 20 C) fun r1 C1 =>
  if r1 = 0 then
    fc_RE_waited_26 (-1) C1
  else
    gd (inb x1 21) <|
    fc_RE_waited_26 (C1 (9 + 22 + x1.toNatClampNeg) 8) C1
set_option maxHeartbeats 4000000 in
theorem bc_RE_waited {g : gC} {X : Cxt} {r : Int32} {C' : Mem} (O : OkC g X cX1_waited 2 (some .int) RX1 1 0 (cQi g r C')) (x1 : Int32) (C : Mem) (h : fc_RE_waited x1 C = some (r, C')) : V X 2 0 (WdC g C) 0 [(0, .ref (gCa g 0)), (1, .int x1)] [] := by
  unfold fc_RE_waited at h
  refine v_iload_n O.1 dX1_waited_0 rfl (q := 1) rfl ?_
  refine v_iconst O.1 dX1_waited_1 (v := 0) rfl (q := 2) rfl ?_
  refine v_bipush O.1 dX1_waited_2 (v := 20) (by decide) (q := 4) rfl ?_
  obtain ⟨r1, C1, e1, h⟩ := bnd_some h
  refine c_callSi (As := [.int x1, .int 0, .int 20]) (rest := []) (n := 3) O (metc_RE_within _ g x1 0 20 C C1 r1 e1) (lw_S q1094 q656 q59 q657) (by decide +kernel) (by decide) (by decide) rfl rfl (Nat.le_of_ble_eq_true rfl) dX1_waited_4 (q := 7) rfl (b' := 0) rfl ?_
  refine v_if_eq O.1 dX1_waited_7 (t := 25) (by decide) (q := 10) rfl (fun c2 => ?_) (fun c2 => ?_)
  · rw [if_pos c2] at h
    refine v_iconst O.1 dX1_waited_25 (v := (-1)) rfl (q := 26) rfl ?_
    exact v_sub [] rfl (bc_RE_waited_26 O (-1) C1 h)
  · rw [if_neg c2] at h
    refine v_aload_n O.1 dX1_waited_10 rfl (q := 11) rfl ?_
    refine c_getR O 1 (v := .ref (gCa g 9)) (by decide) (O.lk q1078) rfl (fun _ _ => ⟨_, rfl, rfl⟩) dX1_waited_11 (q := 14) rfl ?_
    refine c_getC O cC_9 7 (v := .ref (gCa g (9 + 5))) (by decide) (O.lkn q851) rfl (fun _ => rfl) dX1_waited_14 (q := 17) rfl ?_
    refine v_iload_n O.1 dX1_waited_17 rfl (q := 18) rfl ?_
    obtain ⟨g3, h⟩ := gd_some h
    refine c_all O cC_9 g3 rfl (j := x1.toNatClampNeg) dX1_waited_18 (q := 19) rfl ?_
    refine c_getS O (cS_of cC_9 (inb_lt g3)) 8 (by decide) (O.lk q758) rfl rfl rfl rfl (v := .int (C1 (9 + 22 + x1.toNatClampNeg) 8)) rfl dX1_waited_19 (q := 22) rfl ?_
    refine v_goto O.1 dX1_waited_22 (t := 26) (by decide) ?_
    exact v_sub [] rfl (bc_RE_waited_26 O (C1 (9 + 22 + x1.toNatClampNeg) 8) C1 h)
theorem metc_RE_waited (l : Launch) (g : gC) (x1 : Int32) (C C' : Mem) (r : Int32) (h : fc_RE_waited x1 C = some (r, C')) : MetC l g yX1_waited cX1_waited 2 (some .int) 1 0 [.ref (gCa g 0), .int x1] C (cQi g r C') :=
  c_met (by decide) rfl (Nat.le_of_ble_eq_true rfl) (fun X O => bc_RE_waited O x1 C h)
/-! RankEntry.window(I)I -/
def fc_RE_window_108 (K16 : Int32 → Int32 → Int32 → Mem → Option (Int32 × Mem)) (x1 : Int32) (x3 : Int32) (y1 : Int32) (y0 : Int32) (C : Mem) : Option (Int32 × Mem) :=
  K16 x1 (y0 ||| y1) (x3 + 1) C
set_option maxHeartbeats 4000000 in
theorem bc_RE_window_108 {g : gC} {X : Cxt} {r : Int32} {C' : Mem} {n16 : Nat} (O : OkC g X cX1_window 6 (some .int) RX1 13 3969 (cQi g r C')) {K16 : Int32 → Int32 → Int32 → Mem → Option (Int32 × Mem)} (hK16 : ∀ (x1 : Int32) (x2 : Int32) (x3 : Int32) (C : Mem), K16 x1 x2 x3 C = some (r, C') → V X 6 (189 * n16 + 0) (WdC g C) 16 [(0, .ref (gCa g 0)), (1, .int x1), (2, .int x2), (3, .int x3)] []) (x1 : Int32) (x3 : Int32) (y1 : Int32) (y0 : Int32) (C : Mem) (h : fc_RE_window_108 K16 x1 x3 y1 y0 C = some (r, C')) : V X 6 (189 * n16 + 0) (WdC g C) 108 [(0, .ref (gCa g 0)), (1, .int x1), (3, .int x3)] [.int y1, .int y0] := by
  unfold fc_RE_window_108 at h
  refine v_ior O.1 dX1_window_108 (q := 109) rfl ?_
  refine v_istore_n (lv' := [(2, .int (y0 ||| y1)), (0, .ref (gCa g 0)), (1, .int x1), (3, .int x3)]) O.1 dX1_window_109 (by decide) rfl (q := 110) rfl ?_
  refine v_iinc (lv' := [(3, .int (x3 + 1)), (2, .int (y0 ||| y1)), (0, .ref (gCa g 0)), (1, .int x1)]) (v := (x3 + 1)) O.1 dX1_window_110 rfl rfl (by decide) rfl (q := 113) rfl ?_
  refine v_goto O.1 dX1_window_113 (t := 16) (by decide) ?_
  exact v_sub [2, 3, 1, 0] rfl (hK16 x1 (y0 ||| y1) (x3 + 1) C h)
def fc_RE_window_91 (K16 : Int32 → Int32 → Int32 → Mem → Option (Int32 × Mem)) (x1 : Int32) (x2 : Int32) (x3 : Int32) (C : Mem) : Option (Int32 × Mem) :=
  if (C 52 52) = x1 then
    fc_RE_window_108 K16 x1 x3 ((1 : Int32) <<< (x3 &&& 31)) x2 C
  else
    fc_RE_window_108 K16 x1 x3 0 x2 C
set_option maxHeartbeats 4000000 in
theorem bc_RE_window_91 {g : gC} {X : Cxt} {r : Int32} {C' : Mem} {n16 : Nat} (O : OkC g X cX1_window 6 (some .int) RX1 13 3969 (cQi g r C')) {K16 : Int32 → Int32 → Int32 → Mem → Option (Int32 × Mem)} (hK16 : ∀ (x1 : Int32) (x2 : Int32) (x3 : Int32) (C : Mem), K16 x1 x2 x3 C = some (r, C') → V X 6 (189 * n16 + 0) (WdC g C) 16 [(0, .ref (gCa g 0)), (1, .int x1), (2, .int x2), (3, .int x3)] []) (x1 : Int32) (x2 : Int32) (x3 : Int32) (C : Mem) (h : fc_RE_window_91 K16 x1 x2 x3 C = some (r, C')) : V X 6 (189 * n16 + 0) (WdC g C) 91 [(0, .ref (gCa g 0)), (1, .int x1), (2, .int x2), (3, .int x3), (4, .ref (gCa g 52))] [] := by
  unfold fc_RE_window_91 at h
  refine v_iload_n O.1 dX1_window_91 rfl (q := 92) rfl ?_
  refine v_aload O.1 dX1_window_92 rfl (q := 94) rfl ?_
  refine c_getC O cC_52 52 (v := .int (C 52 52)) (by decide) (O.lkn q934) rfl (fun _ => rfl) dX1_window_94 (q := 97) rfl ?_
  refine v_iload_n O.1 dX1_window_97 rfl (q := 98) rfl ?_
  refine v_icmp_ne O.1 dX1_window_98 (t := 107) (by decide) (q := 101) rfl (fun c1 => ?_) (fun c1 => ?_)
  · rw [if_neg c1] at h
    refine v_iconst O.1 dX1_window_107 (v := 0) rfl (q := 108) rfl ?_
    exact v_sub [0, 1, 3] rfl (bc_RE_window_108 O hK16 x1 x3 0 x2 C h)
  · rw [if_pos c1] at h
    refine v_iconst O.1 dX1_window_101 (v := 1) rfl (q := 102) rfl ?_
    refine v_iload_n O.1 dX1_window_102 rfl (q := 103) rfl ?_
    refine v_ishl O.1 dX1_window_103 (q := 104) rfl ?_
    refine v_goto O.1 dX1_window_104 (t := 108) (by decide) ?_
    exact v_sub [0, 1, 3] rfl (bc_RE_window_108 O hK16 x1 x3 ((1 : Int32) <<< (x3 &&& 31)) x2 C h)
def fc_RE_window_65b (K16 : Int32 → Int32 → Int32 → Mem → Option (Int32 × Mem)) (K65 : Int32 → Int32 → Int32 → Int32 → Mem → Option (Int32 × Mem)) (x1 : Int32) (x2 : Int32) (x3 : Int32) (x5 : Int32) (C : Mem) : Option (Int32 × Mem) :=
  if 40 ≤ x5 then
    fc_RE_window_91 K16 x1 x2 x3 C
  else
    if 0 ≤ (C 52 52) then
      fc_RE_window_91 K16 x1 x2 x3 C
    else
      bnd (fc_Core_cycle 52 C) fun r3 C3 =>
      K65 x1 x2 x3 (x5 + 1) C3
set_option maxHeartbeats 4000000 in
theorem bc_RE_window_65b {g : gC} {X : Cxt} {r : Int32} {C' : Mem} {n16 : Nat} {n65 : Nat} (O : OkC g X cX1_window 6 (some .int) RX1 13 3969 (cQi g r C')) {K16 : Int32 → Int32 → Int32 → Mem → Option (Int32 × Mem)} (hK16 : ∀ (x1 : Int32) (x2 : Int32) (x3 : Int32) (C : Mem), K16 x1 x2 x3 C = some (r, C') → V X 6 (189 * n16 + 0) (WdC g C) 16 [(0, .ref (gCa g 0)), (1, .int x1), (2, .int x2), (3, .int x3)] []) {K65 : Int32 → Int32 → Int32 → Int32 → Mem → Option (Int32 × Mem)} (hK65 : ∀ (x1 : Int32) (x2 : Int32) (x3 : Int32) (x5 : Int32) (C : Mem), K65 x1 x2 x3 x5 C = some (r, C') → V X 6 (189 * n16 + 3 * n65 + 0) (WdC g C) 65 [(0, .ref (gCa g 0)), (1, .int x1), (2, .int x2), (3, .int x3), (4, .ref (gCa g 52)), (5, .int x5)] []) (x1 : Int32) (x2 : Int32) (x3 : Int32) (x5 : Int32) (C : Mem) (h : fc_RE_window_65b K16 K65 x1 x2 x3 x5 C = some (r, C')) : V X 6 (189 * n16 + 3 * n65 + 3) (WdC g C) 65 [(0, .ref (gCa g 0)), (1, .int x1), (2, .int x2), (3, .int x3), (4, .ref (gCa g 52)), (5, .int x5)] [] := by
  unfold fc_RE_window_65b at h
  refine v_iload O.1 dX1_window_65 rfl (q := 67) rfl ?_
  refine v_bipush O.1 dX1_window_67 (v := 40) (by decide) (q := 69) rfl ?_
  refine v_icmp_ge O.1 dX1_window_69 (t := 91) (by decide) (q := 72) rfl (fun c1 => ?_) (fun c1 => ?_)
  · rw [if_pos c1] at h
    exact v_less (b' := (189 * n16 + 0)) (by omega) (v_sub [0, 1, 2, 3, 4] rfl (bc_RE_window_91 O hK16 x1 x2 x3 C h))
  · rw [if_neg c1] at h
    refine v_aload O.1 dX1_window_72 rfl (q := 74) rfl ?_
    refine c_getC O cC_52 52 (v := .int (C 52 52)) (by decide) (O.lkn q934) rfl (fun _ => rfl) dX1_window_74 (q := 77) rfl ?_
    refine v_if_ge O.1 dX1_window_77 (t := 91) (by decide) (q := 80) rfl (fun c2 => ?_) (fun c2 => ?_)
    · rw [if_pos c2] at h
      exact v_less (b' := (189 * n16 + 0)) (by omega) (v_sub [0, 1, 2, 3, 4] rfl (bc_RE_window_91 O hK16 x1 x2 x3 C h))
    · rw [if_neg c2] at h
      refine v_aload O.1 dX1_window_80 rfl (q := 82) rfl ?_
      obtain ⟨r3, C3, e3, h⟩ := bnd_some h
      refine c_callVv (As := []) (rest := []) (n := 0) (ci := 2) (p := (RX4, TX4, 55)) O (cC_lt (j := 0) cC_52 (by decide)) rfl (fun _ _ => ⟨_, cCell_core cC_52⟩) (metc_Core_cycle _ g 52 cC_52 C C3 r3 e3) (lw_V q1150 q1151 q1152 q63 q1153) (by decide +kernel) (by decide) (by decide) rfl rfl (Nat.le_of_ble_eq_true rfl) dX1_window_82 (q := 85) rfl (b' := (189 * n16 + 3 * n65 + 0)) (by omega) ?_
      refine v_iinc (lv' := [(5, .int (x5 + 1)), (0, .ref (gCa g 0)), (1, .int x1), (2, .int x2), (3, .int x3), (4, .ref (gCa g 52))]) (v := (x5 + 1)) O.1 dX1_window_85 rfl rfl (by decide) rfl (q := 88) rfl ?_
      refine v_goto O.1 dX1_window_88 (t := 65) (by decide) ?_
      exact v_sub [1, 2, 3, 4, 5, 0] rfl (hK65 x1 x2 x3 (x5 + 1) C3 h)
def fc_RE_window_65 (K16 : Int32 → Int32 → Int32 → Mem → Option (Int32 × Mem)) (n : Nat) : Int32 → Int32 → Int32 → Int32 → Mem → Option (Int32 × Mem) := lpc (fc_RE_window_65b K16) (fun _ _ _ _ _ => none) n
theorem bc_RE_window_65 {g : gC} {X : Cxt} {r : Int32} {C' : Mem} {n16 : Nat} (O : OkC g X cX1_window 6 (some .int) RX1 13 3969 (cQi g r C')) {K16 : Int32 → Int32 → Int32 → Mem → Option (Int32 × Mem)} (hK16 : ∀ (x1 : Int32) (x2 : Int32) (x3 : Int32) (C : Mem), K16 x1 x2 x3 C = some (r, C') → V X 6 (189 * n16 + 0) (WdC g C) 16 [(0, .ref (gCa g 0)), (1, .int x1), (2, .int x2), (3, .int x3)] []) : ∀ (n : Nat) (x1 : Int32) (x2 : Int32) (x3 : Int32) (x5 : Int32) (C : Mem), fc_RE_window_65 K16 n x1 x2 x3 x5 C = some (r, C') → V X 6 (189 * n16 + 3 * n + 0) (WdC g C) 65 [(0, .ref (gCa g 0)), (1, .int x1), (2, .int x2), (3, .int x3), (4, .ref (gCa g 52)), (5, .int x5)] [] := by
  intro n
  induction n with
  | zero =>
    intro x1 x2 x3 x5 C h
    cases h
  | succ n ih =>
    intro x1 x2 x3 x5 C h
    exact v_less (by omega) (bc_RE_window_65b O hK16 ih x1 x2 x3 x5 C h)
def fc_RE_window_32b (K16 : Int32 → Int32 → Int32 → Mem → Option (Int32 × Mem)) (K32 : Int32 → Int32 → Int32 → Int32 → Mem → Option (Int32 × Mem)) (x1 : Int32) (x2 : Int32) (x3 : Int32) (x5 : Int32) (C : Mem) : Option (Int32 × Mem) :=
  if x3 ≤ x5 then
    bnd (fc_Core_becomes 52 x1 C) fun r2 C2 =>
    stp (up2 C2 52 52 (-1)) fun C3 =>
    fc_RE_window_65 K16 42 x1 x2 x3 0 C3
  else
    bnd (fc_Core_cycle 52 C) fun r4 C4 =>
    K32 x1 x2 x3 (x5 + 1) C4
set_option maxHeartbeats 4000000 in
theorem bc_RE_window_32b {g : gC} {X : Cxt} {r : Int32} {C' : Mem} {n16 : Nat} {n32 : Nat} (O : OkC g X cX1_window 6 (some .int) RX1 13 3969 (cQi g r C')) {K16 : Int32 → Int32 → Int32 → Mem → Option (Int32 × Mem)} (hK16 : ∀ (x1 : Int32) (x2 : Int32) (x3 : Int32) (C : Mem), K16 x1 x2 x3 C = some (r, C') → V X 6 (189 * n16 + 0) (WdC g C) 16 [(0, .ref (gCa g 0)), (1, .int x1), (2, .int x2), (3, .int x3)] []) {K32 : Int32 → Int32 → Int32 → Int32 → Mem → Option (Int32 × Mem)} (hK32 : ∀ (x1 : Int32) (x2 : Int32) (x3 : Int32) (x5 : Int32) (C : Mem), K32 x1 x2 x3 x5 C = some (r, C') → V X 6 (189 * n16 + 3 * n32 + 126) (WdC g C) 32 [(0, .ref (gCa g 0)), (1, .int x1), (2, .int x2), (3, .int x3), (4, .ref (gCa g 52)), (5, .int x5)] []) (x1 : Int32) (x2 : Int32) (x3 : Int32) (x5 : Int32) (C : Mem) (h : fc_RE_window_32b K16 K32 x1 x2 x3 x5 C = some (r, C')) : V X 6 (189 * n16 + 3 * n32 + 129) (WdC g C) 32 [(0, .ref (gCa g 0)), (1, .int x1), (2, .int x2), (3, .int x3), (4, .ref (gCa g 52)), (5, .int x5)] [] := by
  unfold fc_RE_window_32b at h
  refine v_iload O.1 dX1_window_32 rfl (q := 34) rfl ?_
  refine v_iload_n O.1 dX1_window_34 rfl (q := 35) rfl ?_
  refine v_icmp_ge O.1 dX1_window_35 (t := 49) (by decide) (q := 38) rfl (fun c1 => ?_) (fun c1 => ?_)
  · rw [if_pos c1] at h
    refine v_aload O.1 dX1_window_49 rfl (q := 51) rfl ?_
    refine v_iload_n O.1 dX1_window_51 rfl (q := 52) rfl ?_
    obtain ⟨r2, C2, e2, h⟩ := bnd_some h
    refine c_callVi (As := [.int x1]) (rest := []) (n := 1) (ci := 2) (p := (RX4, TX4, 55)) O (cC_lt (j := 0) cC_52 (by decide)) rfl (fun _ _ => ⟨_, cCell_core cC_52⟩) (metc_Core_becomes _ g 52 cC_52 x1 C C2 r2 e2) (lw_V q1128 q288 q289 q63 q290) (by decide +kernel) (by decide) (by decide) rfl rfl (Nat.le_of_ble_eq_true rfl) dX1_window_52 (q := 55) rfl (b' := (189 * n16 + 3 * n32 + 129)) (by omega) ?_
    refine v_pop O.1 dX1_window_55 rfl (q := 56) rfl ?_
    refine v_aload O.1 dX1_window_56 rfl (q := 58) rfl ?_
    refine v_iconst O.1 dX1_window_58 (v := (-1)) rfl (q := 59) rfl ?_
    obtain ⟨C3, e3, h⟩ := stp_some h
    refine c_putC O cC_52 52 (u := (-1)) (ty := .int) (by decide) (by decide) (O.lkn q934) rfl rfl rfl rfl rfl (fun _ => rfl) dX1_window_59 (q := 62) rfl e3 ?_
    refine v_iconst O.1 dX1_window_62 (v := 0) rfl (q := 63) rfl ?_
    refine v_istore (lv' := [(5, .int 0), (0, .ref (gCa g 0)), (1, .int x1), (2, .int x2), (3, .int x3), (4, .ref (gCa g 52))]) O.1 dX1_window_63 (by decide) rfl (q := 65) rfl ?_
    exact v_less (b' := (189 * n16 + 126)) (by omega) (v_sub [1, 2, 3, 4, 5, 0] rfl (bc_RE_window_65 O hK16 42 x1 x2 x3 0 C3 h))
  · rw [if_neg c1] at h
    refine v_aload O.1 dX1_window_38 rfl (q := 40) rfl ?_
    obtain ⟨r4, C4, e4, h⟩ := bnd_some h
    refine c_callVv (As := []) (rest := []) (n := 0) (ci := 2) (p := (RX4, TX4, 55)) O (cC_lt (j := 0) cC_52 (by decide)) rfl (fun _ _ => ⟨_, cCell_core cC_52⟩) (metc_Core_cycle _ g 52 cC_52 C C4 r4 e4) (lw_V q1150 q1151 q1152 q63 q1153) (by decide +kernel) (by decide) (by decide) rfl rfl (Nat.le_of_ble_eq_true rfl) dX1_window_40 (q := 43) rfl (b' := (189 * n16 + 3 * n32 + 126)) (by omega) ?_
    refine v_iinc (lv' := [(5, .int (x5 + 1)), (0, .ref (gCa g 0)), (1, .int x1), (2, .int x2), (3, .int x3), (4, .ref (gCa g 52))]) (v := (x5 + 1)) O.1 dX1_window_43 rfl rfl (by decide) rfl (q := 46) rfl ?_
    refine v_goto O.1 dX1_window_46 (t := 32) (by decide) ?_
    exact v_sub [1, 2, 3, 4, 5, 0] rfl (hK32 x1 x2 x3 (x5 + 1) C4 h)
def fc_RE_window_32 (K16 : Int32 → Int32 → Int32 → Mem → Option (Int32 × Mem)) (n : Nat) : Int32 → Int32 → Int32 → Int32 → Mem → Option (Int32 × Mem) := lpc (fc_RE_window_32b K16) (fun _ _ _ _ _ => none) n
theorem bc_RE_window_32 {g : gC} {X : Cxt} {r : Int32} {C' : Mem} {n16 : Nat} (O : OkC g X cX1_window 6 (some .int) RX1 13 3969 (cQi g r C')) {K16 : Int32 → Int32 → Int32 → Mem → Option (Int32 × Mem)} (hK16 : ∀ (x1 : Int32) (x2 : Int32) (x3 : Int32) (C : Mem), K16 x1 x2 x3 C = some (r, C') → V X 6 (189 * n16 + 0) (WdC g C) 16 [(0, .ref (gCa g 0)), (1, .int x1), (2, .int x2), (3, .int x3)] []) : ∀ (n : Nat) (x1 : Int32) (x2 : Int32) (x3 : Int32) (x5 : Int32) (C : Mem), fc_RE_window_32 K16 n x1 x2 x3 x5 C = some (r, C') → V X 6 (189 * n16 + 3 * n + 126) (WdC g C) 32 [(0, .ref (gCa g 0)), (1, .int x1), (2, .int x2), (3, .int x3), (4, .ref (gCa g 52)), (5, .int x5)] [] := by
  intro n
  induction n with
  | zero =>
    intro x1 x2 x3 x5 C h
    cases h
  | succ n ih =>
    intro x1 x2 x3 x5 C h
    exact v_less (by omega) (bc_RE_window_32b O hK16 ih x1 x2 x3 x5 C h)
def fc_RE_window_16b (K16 : Int32 → Int32 → Int32 → Mem → Option (Int32 × Mem)) (x1 : Int32) (x2 : Int32) (x3 : Int32) (C : Mem) : Option (Int32 × Mem) :=
  if 20 ≤ x3 then
    some (x2, C)
  else
    bnd (fc_RE_tried 0 C) fun r2 C2 =>
    fc_RE_window_32 K16 21 x1 x2 x3 0 C2
set_option maxHeartbeats 4000000 in
theorem bc_RE_window_16b {g : gC} {X : Cxt} {r : Int32} {C' : Mem} {n16 : Nat} (O : OkC g X cX1_window 6 (some .int) RX1 13 3969 (cQi g r C')) {K16 : Int32 → Int32 → Int32 → Mem → Option (Int32 × Mem)} (hK16 : ∀ (x1 : Int32) (x2 : Int32) (x3 : Int32) (C : Mem), K16 x1 x2 x3 C = some (r, C') → V X 6 (189 * n16 + 0) (WdC g C) 16 [(0, .ref (gCa g 0)), (1, .int x1), (2, .int x2), (3, .int x3)] []) (x1 : Int32) (x2 : Int32) (x3 : Int32) (C : Mem) (h : fc_RE_window_16b K16 x1 x2 x3 C = some (r, C')) : V X 6 (189 * n16 + 189) (WdC g C) 16 [(0, .ref (gCa g 0)), (1, .int x1), (2, .int x2), (3, .int x3)] [] := by
  unfold fc_RE_window_16b at h
  refine v_iload_n O.1 dX1_window_16 rfl (q := 17) rfl ?_
  refine v_bipush O.1 dX1_window_17 (v := 20) (by decide) (q := 19) rfl ?_
  refine v_icmp_ge O.1 dX1_window_19 (t := 116) (by decide) (q := 22) rfl (fun c1 => ?_) (fun c1 => ?_)
  · rw [if_pos c1] at h
    refine v_iload_n O.1 dX1_window_116 rfl (q := 117) rfl ?_
    exact c_iret O h dX1_window_117
  · rw [if_neg c1] at h
    refine v_aload_n O.1 dX1_window_22 rfl (q := 23) rfl ?_
    refine v_iconst O.1 dX1_window_23 (v := 0) rfl (q := 24) rfl ?_
    obtain ⟨r2, C2, e2, h⟩ := bnd_some h
    refine c_callVr (As := [.int 0]) (rest := []) (n := 1) (ci := 0) (p := (RX1, TX1, 4)) O (by decide) rfl (fun _ _ => ⟨_, rfl⟩) (metc_RE_tried _ g  0 C C2 r2 e2) (lw_V q1238 q1240 qs18 q59 q1241) (by decide +kernel) (by decide) (by decide) rfl rfl (Nat.le_of_ble_eq_true rfl) dX1_window_24 (q := 27) rfl (b' := (189 * n16 + 189)) (by omega) ?_
    refine v_astore (lv' := [(4, .ref (gCa g 52)), (0, .ref (gCa g 0)), (1, .int x1), (2, .int x2), (3, .int x3)]) O.1 dX1_window_27 (by decide) rfl (q := 29) rfl ?_
    refine v_iconst O.1 dX1_window_29 (v := 0) rfl (q := 30) rfl ?_
    refine v_istore (lv' := [(5, .int 0), (4, .ref (gCa g 52)), (0, .ref (gCa g 0)), (1, .int x1), (2, .int x2), (3, .int x3)]) O.1 dX1_window_30 (by decide) rfl (q := 32) rfl ?_
    exact v_sub [2, 3, 4, 5, 1, 0] rfl (bc_RE_window_32 O hK16 21 x1 x2 x3 0 C2 h)
def fc_RE_window_16 (n : Nat) : Int32 → Int32 → Int32 → Mem → Option (Int32 × Mem) := lpc (fc_RE_window_16b) (fun _ _ _ _ => none) n
theorem bc_RE_window_16 {g : gC} {X : Cxt} {r : Int32} {C' : Mem} (O : OkC g X cX1_window 6 (some .int) RX1 13 3969 (cQi g r C')) : ∀ (n : Nat) (x1 : Int32) (x2 : Int32) (x3 : Int32) (C : Mem), fc_RE_window_16 n x1 x2 x3 C = some (r, C') → V X 6 (189 * n + 0) (WdC g C) 16 [(0, .ref (gCa g 0)), (1, .int x1), (2, .int x2), (3, .int x3)] [] := by
  intro n
  induction n with
  | zero =>
    intro x1 x2 x3 C h
    cases h
  | succ n ih =>
    intro x1 x2 x3 C h
    exact v_less (by omega) (bc_RE_window_16b O ih x1 x2 x3 C h)
def fc_RE_window (x1 : Int32) (C : Mem) : Option (Int32 × Mem) :=
  bnd (fc_RE_within x1 0 17 C) fun r1 C1 =>
  if r1 = 0 then
    some ((-1), C1)
  else
    fc_RE_window_16 21 x1 0 0 C1
set_option maxHeartbeats 4000000 in
theorem bc_RE_window {g : gC} {X : Cxt} {r : Int32} {C' : Mem} (O : OkC g X cX1_window 6 (some .int) RX1 13 3969 (cQi g r C')) (x1 : Int32) (C : Mem) (h : fc_RE_window x1 C = some (r, C')) : V X 6 3969 (WdC g C) 0 [(0, .ref (gCa g 0)), (1, .int x1)] [] := by
  unfold fc_RE_window at h
  refine v_iload_n O.1 dX1_window_0 rfl (q := 1) rfl ?_
  refine v_iconst O.1 dX1_window_1 (v := 0) rfl (q := 2) rfl ?_
  refine v_bipush O.1 dX1_window_2 (v := 17) (by decide) (q := 4) rfl ?_
  obtain ⟨r1, C1, e1, h⟩ := bnd_some h
  refine c_callSi (As := [.int x1, .int 0, .int 17]) (rest := []) (n := 3) O (metc_RE_within _ g x1 0 17 C C1 r1 e1) (lw_S q1094 q656 q59 q657) (by decide +kernel) (by decide) (by decide) rfl rfl (Nat.le_of_ble_eq_true rfl) dX1_window_4 (q := 7) rfl (b' := 3969) rfl ?_
  refine v_if_ne O.1 dX1_window_7 (t := 12) (by decide) (q := 10) rfl (fun c2 => ?_) (fun c2 => ?_)
  · rw [if_neg c2] at h
    refine v_iconst O.1 dX1_window_12 (v := 0) rfl (q := 13) rfl ?_
    refine v_istore_n (lv' := [(2, .int 0), (0, .ref (gCa g 0)), (1, .int x1)]) O.1 dX1_window_13 (by decide) rfl (q := 14) rfl ?_
    refine v_iconst O.1 dX1_window_14 (v := 0) rfl (q := 15) rfl ?_
    refine v_istore_n (lv' := [(3, .int 0), (2, .int 0), (0, .ref (gCa g 0)), (1, .int x1)]) O.1 dX1_window_15 (by decide) rfl (q := 16) rfl ?_
    exact v_sub [2, 3, 1, 0] rfl (bc_RE_window_16 O 21 x1 0 0 C1 h)
  · rw [if_pos c2] at h
    refine v_iconst O.1 dX1_window_10 (v := (-1)) rfl (q := 11) rfl ?_
    exact c_iret O h dX1_window_11
theorem metc_RE_window (l : Launch) (g : gC) (x1 : Int32) (C C' : Mem) (r : Int32) (h : fc_RE_window x1 C = some (r, C')) : MetC l g yX1_window cX1_window 6 (some .int) 13 3969 [.ref (gCa g 0), .int x1] C (cQi g r C') :=
  c_met (by decide) rfl (Nat.le_of_ble_eq_true rfl) (fun X O => bc_RE_window O x1 C h)
