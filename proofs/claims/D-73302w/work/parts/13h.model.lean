/-! waited(I)I -/
def fm_waited_25 (y0 : Int32) (M : Mem) : Option (Int32 × Mem) :=
  some (y0, M)
set_option maxHeartbeats 4000000 in
theorem bm_waited_25 {g : gM} {X : Cxt} {r : Int32} {M' : Mem} (O : OkM g X cX20_waited 2 (some .int) 1 (mQi g r M')) (y0 : Int32) (M : Mem) (h : fm_waited_25 y0 M = some (r, M')) : V X 2 0 (WdM g M) 25 [] [.int y0] := by
  unfold fm_waited_25 at h
  exact m_iret O h dX20_waited_25
def fm_waited (x1 : Int32) (M : Mem) : Option (Int32 × Mem) :=
  stp (up2 M 0 17 0) fun M1 =>
  bnd (fm_within x1 0 20 M1) fun r2 M2 =>
  if r2 = 0 then
    fm_waited_25 (-1) M2
  else
    gd (inb x1 21) <|
    fm_waited_25 (M2 12 x1.toNatClampNeg) M2
set_option maxHeartbeats 4000000 in
theorem bm_waited {g : gM} {X : Cxt} {r : Int32} {M' : Mem} (O : OkM g X cX20_waited 2 (some .int) 1 (mQi g r M')) (x1 : Int32) (M : Mem) (h : fm_waited x1 M = some (r, M')) : V X 2 0 (WdM g M) 0 [(0, .ref (gMa g 0)), (1, .int x1)] [] := by
  unfold fm_waited at h
  refine v_aload_n O.1 dX20_waited_0 rfl (q := 1) rfl ?_
  refine v_iconst O.1 dX20_waited_1 (v := 0) rfl (q := 2) rfl ?_
  obtain ⟨M1, e1, h⟩ := stp_some h
  refine m_put O 17 (ty := .int) (by decide) q1749 rfl rfl rfl rfl rfl rfl dX20_waited_2 (q := 5) rfl e1 ?_
  refine v_iload_n O.1 dX20_waited_5 rfl (q := 6) rfl ?_
  refine v_iconst O.1 dX20_waited_6 (v := 0) rfl (q := 7) rfl ?_
  refine v_bipush O.1 dX20_waited_7 (v := 20) (by decide) (q := 9) rfl ?_
  obtain ⟨r2, M2, e2, h⟩ := bnd_some h
  refine m_callSi (As := [.int x1, .int 0, .int 20]) (rest := []) (n := 3) O (met_within _ g x1 0 20 M1 M2 r2 e2) (lw_S q1817 q1818 q84 q1819) (by decide +kernel) (by decide) (by decide) rfl rfl (Nat.le_of_ble_eq_true rfl) dX20_waited_9 (q := 12) rfl ?_
  refine v_if_eq O.1 dX20_waited_12 (t := 24) (by decide) (q := 15) rfl (fun c3 => ?_) (fun c3 => ?_)
  · rw [if_pos c3] at h
    refine v_iconst O.1 dX20_waited_24 (v := (-1)) rfl (q := 25) rfl ?_
    exact v_sub [] rfl (bm_waited_25 O (-1) M2 h)
  · rw [if_neg c3] at h
    refine v_aload_n O.1 dX20_waited_15 rfl (q := 16) rfl ?_
    refine m_get O 13 (v := .ref (gMa g 12)) (by decide) q1745 rfl rfl dX20_waited_16 (q := 19) rfl ?_
    refine v_iload_n O.1 dX20_waited_19 rfl (q := 20) rfl ?_
    obtain ⟨g4, h⟩ := gd_some h
    refine m_iald O rfl rfl (n := 21) g4 rfl (j := x1.toNatClampNeg) dX20_waited_20 (q := 21) rfl ?_
    refine v_goto O.1 dX20_waited_21 (t := 25) (by decide) ?_
    exact v_sub [] rfl (bm_waited_25 O (M2 12 x1.toNatClampNeg) M2 h)
theorem met_waited (l : Launch) (g : gM) (x1 : Int32) (M M' : Mem) (r : Int32) (h : fm_waited x1 M = some (r, M')) : MetM l g yX20_waited cX20_waited 2 (some .int) 1 [.ref (gMa g 0), .int x1] M (mQi g r M') :=
  m_met (by decide) rfl (Nat.le_of_ble_eq_true rfl) (fun X O => bm_waited O x1 M h)
/-! ahead(II)Z -/
def fm_ahead_48 (y0 : Int32) (M : Mem) : Option (Int32 × Mem) :=
  gd (isB y0) <|
  some (y0, M)
set_option maxHeartbeats 4000000 in
theorem bm_ahead_48 {g : gM} {X : Cxt} {r : Int32} {M' : Mem} (O : OkM g X cX20_ahead 3 (some .boolean) 2 (mQi g r M')) (y0 : Int32) (M : Mem) (h : fm_ahead_48 y0 M = some (r, M')) : V X 3 0 (WdM g M) 48 [] [.int y0] := by
  unfold fm_ahead_48 at h
  obtain ⟨g1, h⟩ := gd_some h
  exact m_zret O g1 h dX20_ahead_48
def fm_ahead_47  (M : Mem) : Option (Int32 × Mem) :=
  fm_ahead_48 0 M
set_option maxHeartbeats 4000000 in
theorem bm_ahead_47 {g : gM} {X : Cxt} {r : Int32} {M' : Mem} (O : OkM g X cX20_ahead 3 (some .boolean) 2 (mQi g r M'))  (M : Mem) (h : fm_ahead_47  M = some (r, M')) : V X 3 0 (WdM g M) 47 [] [] := by
  unfold fm_ahead_47 at h
  refine v_iconst O.1 dX20_ahead_47 (v := 0) rfl (q := 48) rfl ?_
  exact v_sub [] rfl (bm_ahead_48 O 0 M h)
def fm_ahead (x1 : Int32) (x2 : Int32) (M : Mem) : Option (Int32 × Mem) :=
  stp (up2 M 0 17 0) fun M1 =>
  bnd (fm_within x1 0 20 M1) fun r2 M2 =>
  if r2 = 0 then
    fm_ahead_47 M2
  else
    bnd (fm_within x2 0 20 M2) fun r4 M4 =>
    if r4 = 0 then
      fm_ahead_47 M4
    else
      if x1 = x2 then
        fm_ahead_47 M4
      else
        bnd (fm_isLess 4 x1 x2 M4) fun r7 M7 =>
        if r7 = 0 then
          fm_ahead_47 M7
        else
          fm_ahead_48 1 M7
set_option maxHeartbeats 4000000 in
theorem bm_ahead {g : gM} {X : Cxt} {r : Int32} {M' : Mem} (O : OkM g X cX20_ahead 3 (some .boolean) 2 (mQi g r M')) (x1 : Int32) (x2 : Int32) (M : Mem) (h : fm_ahead x1 x2 M = some (r, M')) : V X 3 0 (WdM g M) 0 [(0, .ref (gMa g 0)), (1, .int x1), (2, .int x2)] [] := by
  unfold fm_ahead at h
  refine v_aload_n O.1 dX20_ahead_0 rfl (q := 1) rfl ?_
  refine v_iconst O.1 dX20_ahead_1 (v := 0) rfl (q := 2) rfl ?_
  obtain ⟨M1, e1, h⟩ := stp_some h
  refine m_put O 17 (ty := .int) (by decide) q1749 rfl rfl rfl rfl rfl rfl dX20_ahead_2 (q := 5) rfl e1 ?_
  refine v_iload_n O.1 dX20_ahead_5 rfl (q := 6) rfl ?_
  refine v_iconst O.1 dX20_ahead_6 (v := 0) rfl (q := 7) rfl ?_
  refine v_bipush O.1 dX20_ahead_7 (v := 20) (by decide) (q := 9) rfl ?_
  obtain ⟨r2, M2, e2, h⟩ := bnd_some h
  refine m_callSi (As := [.int x1, .int 0, .int 20]) (rest := []) (n := 3) O (met_within _ g x1 0 20 M1 M2 r2 e2) (lw_S q1817 q1818 q84 q1819) (by decide +kernel) (by decide) (by decide) rfl rfl (Nat.le_of_ble_eq_true rfl) dX20_ahead_9 (q := 12) rfl ?_
  refine v_if_eq O.1 dX20_ahead_12 (t := 47) (by decide) (q := 15) rfl (fun c3 => ?_) (fun c3 => ?_)
  · rw [if_pos c3] at h
    exact v_sub [] rfl (bm_ahead_47 O M2 h)
  · rw [if_neg c3] at h
    refine v_iload_n O.1 dX20_ahead_15 rfl (q := 16) rfl ?_
    refine v_iconst O.1 dX20_ahead_16 (v := 0) rfl (q := 17) rfl ?_
    refine v_bipush O.1 dX20_ahead_17 (v := 20) (by decide) (q := 19) rfl ?_
    obtain ⟨r4, M4, e4, h⟩ := bnd_some h
    refine m_callSi (As := [.int x2, .int 0, .int 20]) (rest := []) (n := 3) O (met_within _ g x2 0 20 M2 M4 r4 e4) (lw_S q1817 q1818 q84 q1819) (by decide +kernel) (by decide) (by decide) rfl rfl (Nat.le_of_ble_eq_true rfl) dX20_ahead_19 (q := 22) rfl ?_
    refine v_if_eq O.1 dX20_ahead_22 (t := 47) (by decide) (q := 25) rfl (fun c5 => ?_) (fun c5 => ?_)
    · rw [if_pos c5] at h
      exact v_sub [] rfl (bm_ahead_47 O M4 h)
    · rw [if_neg c5] at h
      refine v_iload_n O.1 dX20_ahead_25 rfl (q := 26) rfl ?_
      refine v_iload_n O.1 dX20_ahead_26 rfl (q := 27) rfl ?_
      refine v_icmp_eq O.1 dX20_ahead_27 (t := 47) (by decide) (q := 30) rfl (fun c6 => ?_) (fun c6 => ?_)
      · rw [if_pos c6] at h
        exact v_sub [] rfl (bm_ahead_47 O M4 h)
      · rw [if_neg c6] at h
        refine v_aload_n O.1 dX20_ahead_30 rfl (q := 31) rfl ?_
        refine v_aload_n O.1 dX20_ahead_31 rfl (q := 32) rfl ?_
        refine m_get O 4 (v := .ref (gMa g 4)) (by decide) q1736 rfl rfl dX20_ahead_32 (q := 35) rfl ?_
        refine v_iload_n O.1 dX20_ahead_35 rfl (q := 36) rfl ?_
        refine v_iload_n O.1 dX20_ahead_36 rfl (q := 37) rfl ?_
        obtain ⟨r7, M7, e7, h⟩ := bnd_some h
        refine m_callVi (As := [.ref (gMa g 4), .int x1, .int x2]) (rest := []) (n := 3) O (met_isLess _ g 4 mS_4 x1 x2 M4 M7 r7 e7) (lw_V q1899 q1901 qs29 q84 q1902) (by decide +kernel) (by decide) (by decide) rfl rfl (Nat.le_of_ble_eq_true rfl) dX20_ahead_37 (q := 40) rfl ?_
        refine v_if_eq O.1 dX20_ahead_40 (t := 47) (by decide) (q := 43) rfl (fun c8 => ?_) (fun c8 => ?_)
        · rw [if_pos c8] at h
          exact v_sub [] rfl (bm_ahead_47 O M7 h)
        · rw [if_neg c8] at h
          refine v_iconst O.1 dX20_ahead_43 (v := 1) rfl (q := 44) rfl ?_
          refine v_goto O.1 dX20_ahead_44 (t := 48) (by decide) ?_
          exact v_sub [] rfl (bm_ahead_48 O 1 M7 h)
theorem met_ahead (l : Launch) (g : gM) (x1 : Int32) (x2 : Int32) (M M' : Mem) (r : Int32) (h : fm_ahead x1 x2 M = some (r, M')) : MetM l g yX20_ahead cX20_ahead 3 (some .boolean) 2 [.ref (gMa g 0), .int x1, .int x2] M (mQi g r M') :=
  m_met (by decide) rfl (Nat.le_of_ble_eq_true rfl) (fun X O => bm_ahead O x1 x2 M h)
/-! splits(I)I -/
def fm_splits_70 (K22 : Int32 → Int32 → Int32 → Mem → Option (Int32 × Mem)) (x1 : Int32) (x3 : Int32) (y1 : Int32) (y0 : Int32) (M : Mem) : Option (Int32 × Mem) :=
  K22 x1 (y0 + y1) (x3 + (-1)) M
set_option maxHeartbeats 4000000 in
theorem bm_splits_70 {g : gM} {X : Cxt} {r : Int32} {M' : Mem} (O : OkM g X cX20_splits 4 (some .int) 2 (mQi g r M')) {K22 : Int32 → Int32 → Int32 → Mem → Option (Int32 × Mem)} (hK22 : ∀ (x1 : Int32) (x2 : Int32) (x3 : Int32) (M : Mem), K22 x1 x2 x3 M = some (r, M') → V X 4 0 (WdM g M) 22 [(0, .ref (gMa g 0)), (1, .int x1), (2, .int x2), (3, .int x3)] []) (x1 : Int32) (x3 : Int32) (y1 : Int32) (y0 : Int32) (M : Mem) (h : fm_splits_70 K22 x1 x3 y1 y0 M = some (r, M')) : V X 4 0 (WdM g M) 70 [(0, .ref (gMa g 0)), (1, .int x1), (3, .int x3)] [.int y1, .int y0] := by
  unfold fm_splits_70 at h
  refine v_iadd O.1 dX20_splits_70 (q := 71) rfl ?_
  refine v_istore_n (lv' := [(2, .int (y0 + y1)), (0, .ref (gMa g 0)), (1, .int x1), (3, .int x3)]) O.1 dX20_splits_71 (by decide) rfl (q := 72) rfl ?_
  refine v_iinc (lv' := [(3, .int (x3 + (-1))), (2, .int (y0 + y1)), (0, .ref (gMa g 0)), (1, .int x1)]) (v := (x3 + (-1))) O.1 dX20_splits_72 rfl rfl (by decide) rfl (q := 75) rfl ?_
  refine v_goto O.1 dX20_splits_75 (t := 22) (by decide) ?_
  exact v_sub [2, 3, 1, 0] rfl (hK22 x1 (y0 + y1) (x3 + (-1)) M h)
def fm_splits_59 (K22 : Int32 → Int32 → Int32 → Mem → Option (Int32 × Mem)) (x1 : Int32) (x3 : Int32) (y4 : Int32) (y3 : Int32) (y1 : Int32) (y0 : Int32) (M : Mem) : Option (Int32 × Mem) :=
  bnd (fm_limitOf 4 y3 y4 M) fun r1 M1 =>
  if r1 ≤ y1 then
    fm_splits_70 K22 x1 x3 0 y0 M1
  else
    fm_splits_70 K22 x1 x3 1 y0 M1
set_option maxHeartbeats 4000000 in
theorem bm_splits_59 {g : gM} {X : Cxt} {r : Int32} {M' : Mem} (O : OkM g X cX20_splits 4 (some .int) 2 (mQi g r M')) {K22 : Int32 → Int32 → Int32 → Mem → Option (Int32 × Mem)} (hK22 : ∀ (x1 : Int32) (x2 : Int32) (x3 : Int32) (M : Mem), K22 x1 x2 x3 M = some (r, M') → V X 4 0 (WdM g M) 22 [(0, .ref (gMa g 0)), (1, .int x1), (2, .int x2), (3, .int x3)] []) (x1 : Int32) (x3 : Int32) (y4 : Int32) (y3 : Int32) (y1 : Int32) (y0 : Int32) (M : Mem) (h : fm_splits_59 K22 x1 x3 y4 y3 y1 y0 M = some (r, M')) : V X 4 0 (WdM g M) 59 [(0, .ref (gMa g 0)), (1, .int x1), (3, .int x3)] [.int y4, .int y3, .ref (gMa g 4), .int y1, .int y0] := by
  unfold fm_splits_59 at h
  obtain ⟨r1, M1, e1, h⟩ := bnd_some h
  refine m_callSi (As := [.ref (gMa g 4), .int y3, .int y4]) (rest := [.int y1, .int y0]) (n := 3) O (met_limitOf _ g 4 mS_4 y3 y4 M M1 r1 e1) (lw_S q1893 q1894 q84 q1895) (by decide +kernel) (by decide) (by decide) rfl rfl (Nat.le_of_ble_eq_true rfl) dX20_splits_59 (q := 62) rfl ?_
  refine v_icmp_ge O.1 dX20_splits_62 (t := 69) (by decide) (q := 65) rfl (fun c2 => ?_) (fun c2 => ?_)
  · rw [if_pos c2] at h
    refine v_iconst O.1 dX20_splits_69 (v := 0) rfl (q := 70) rfl ?_
    exact v_sub [0, 1, 2] rfl (bm_splits_70 O hK22 x1 x3 0 y0 M1 h)
  · rw [if_neg c2] at h
    refine v_iconst O.1 dX20_splits_65 (v := 1) rfl (q := 66) rfl ?_
    refine v_goto O.1 dX20_splits_66 (t := 70) (by decide) ?_
    exact v_sub [0, 1, 2] rfl (bm_splits_70 O hK22 x1 x3 1 y0 M1 h)
def fm_splits_22b (K22 : Int32 → Int32 → Int32 → Mem → Option (Int32 × Mem)) (x1 : Int32) (x2 : Int32) (x3 : Int32) (M : Mem) : Option (Int32 × Mem) :=
  if x3 < 0 then
    some (x2, M)
  else
    bnd (fm_groupOf 4 x1 x3 M) fun r2 M2 =>
    if (M2 4 16) = 1 then
      fm_splits_59 K22 x1 x3 1 x3 r2 (2 * x2) M2
    else
      fm_splits_59 K22 x1 x3 0 x3 r2 (2 * x2) M2
set_option maxHeartbeats 4000000 in
theorem bm_splits_22b {g : gM} {X : Cxt} {r : Int32} {M' : Mem} (O : OkM g X cX20_splits 4 (some .int) 2 (mQi g r M')) {K22 : Int32 → Int32 → Int32 → Mem → Option (Int32 × Mem)} (hK22 : ∀ (x1 : Int32) (x2 : Int32) (x3 : Int32) (M : Mem), K22 x1 x2 x3 M = some (r, M') → V X 4 0 (WdM g M) 22 [(0, .ref (gMa g 0)), (1, .int x1), (2, .int x2), (3, .int x3)] []) (x1 : Int32) (x2 : Int32) (x3 : Int32) (M : Mem) (h : fm_splits_22b K22 x1 x2 x3 M = some (r, M')) : V X 4 0 (WdM g M) 22 [(0, .ref (gMa g 0)), (1, .int x1), (2, .int x2), (3, .int x3)] [] := by
  unfold fm_splits_22b at h
  refine v_iload_n O.1 dX20_splits_22 rfl (q := 23) rfl ?_
  refine v_if_lt O.1 dX20_splits_23 (t := 78) (by decide) (q := 26) rfl (fun c1 => ?_) (fun c1 => ?_)
  · rw [if_pos c1] at h
    refine v_iload_n O.1 dX20_splits_78 rfl (q := 79) rfl ?_
    exact m_iret O h dX20_splits_79
  · rw [if_neg c1] at h
    refine v_iconst O.1 dX20_splits_26 (v := 2) rfl (q := 27) rfl ?_
    refine v_iload_n O.1 dX20_splits_27 rfl (q := 28) rfl ?_
    refine v_imul O.1 dX20_splits_28 (q := 29) rfl ?_
    refine v_aload_n O.1 dX20_splits_29 rfl (q := 30) rfl ?_
    refine m_get O 4 (v := .ref (gMa g 4)) (by decide) q1736 rfl rfl dX20_splits_30 (q := 33) rfl ?_
    refine v_iload_n O.1 dX20_splits_33 rfl (q := 34) rfl ?_
    refine v_iload_n O.1 dX20_splits_34 rfl (q := 35) rfl ?_
    obtain ⟨r2, M2, e2, h⟩ := bnd_some h
    refine m_callSi (As := [.ref (gMa g 4), .int x1, .int x3]) (rest := [.int (2 * x2)]) (n := 3) O (met_groupOf _ g 4 mS_4 x1 x3 M M2 r2 e2) (lw_S q1896 q1897 q84 q1898) (by decide +kernel) (by decide) (by decide) rfl rfl (Nat.le_of_ble_eq_true rfl) dX20_splits_35 (q := 38) rfl ?_
    refine v_aload_n O.1 dX20_splits_38 rfl (q := 39) rfl ?_
    refine m_get O 4 (v := .ref (gMa g 4)) (by decide) q1736 rfl rfl dX20_splits_39 (q := 42) rfl ?_
    refine v_iload_n O.1 dX20_splits_42 rfl (q := 43) rfl ?_
    refine v_aload_n O.1 dX20_splits_43 rfl (q := 44) rfl ?_
    refine m_get O 4 (v := .ref (gMa g 4)) (by decide) q1736 rfl rfl dX20_splits_44 (q := 47) rfl ?_
    refine v_bipush O.1 dX20_splits_47 (v := 16) (by decide) (q := 49) rfl ?_
    refine m_iald O rfl rfl (n := 342) (by decide) (by decide) (j := 16) dX20_splits_49 (q := 50) rfl ?_
    refine v_iconst O.1 dX20_splits_50 (v := 1) rfl (q := 51) rfl ?_
    refine v_icmp_ne O.1 dX20_splits_51 (t := 58) (by decide) (q := 54) rfl (fun c3 => ?_) (fun c3 => ?_)
    · rw [if_neg c3] at h
      refine v_iconst O.1 dX20_splits_58 (v := 0) rfl (q := 59) rfl ?_
      exact v_sub [0, 1, 3] rfl (bm_splits_59 O hK22 x1 x3 0 x3 r2 (2 * x2) M2 h)
    · rw [if_pos c3] at h
      refine v_iconst O.1 dX20_splits_54 (v := 1) rfl (q := 55) rfl ?_
      refine v_goto O.1 dX20_splits_55 (t := 59) (by decide) ?_
      exact v_sub [0, 1, 3] rfl (bm_splits_59 O hK22 x1 x3 1 x3 r2 (2 * x2) M2 h)
def fm_splits_22 (n : Nat) : Int32 → Int32 → Int32 → Mem → Option (Int32 × Mem) := lpc (fm_splits_22b) (fun _ _ _ _ => none) n
theorem bm_splits_22 {g : gM} {X : Cxt} {r : Int32} {M' : Mem} (O : OkM g X cX20_splits 4 (some .int) 2 (mQi g r M')) : ∀ (n : Nat) (x1 : Int32) (x2 : Int32) (x3 : Int32) (M : Mem), fm_splits_22 n x1 x2 x3 M = some (r, M') → V X 4 0 (WdM g M) 22 [(0, .ref (gMa g 0)), (1, .int x1), (2, .int x2), (3, .int x3)] [] := by
  intro n
  induction n with
  | zero =>
    intro x1 x2 x3 M h
    cases h
  | succ n ih =>
    intro x1 x2 x3 M h
    exact bm_splits_22b O ih x1 x2 x3 M h
def fm_splits (x1 : Int32) (M : Mem) : Option (Int32 × Mem) :=
  stp (up2 M 0 17 0) fun M1 =>
  bnd (fm_within x1 0 20 M1) fun r2 M2 =>
  if r2 = 0 then
    some ((-1), M2)
  else
    fm_splits_22 600 x1 0 7 M2
set_option maxHeartbeats 4000000 in
theorem bm_splits {g : gM} {X : Cxt} {r : Int32} {M' : Mem} (O : OkM g X cX20_splits 4 (some .int) 2 (mQi g r M')) (x1 : Int32) (M : Mem) (h : fm_splits x1 M = some (r, M')) : V X 4 0 (WdM g M) 0 [(0, .ref (gMa g 0)), (1, .int x1)] [] := by
  unfold fm_splits at h
  refine v_aload_n O.1 dX20_splits_0 rfl (q := 1) rfl ?_
  refine v_iconst O.1 dX20_splits_1 (v := 0) rfl (q := 2) rfl ?_
  obtain ⟨M1, e1, h⟩ := stp_some h
  refine m_put O 17 (ty := .int) (by decide) q1749 rfl rfl rfl rfl rfl rfl dX20_splits_2 (q := 5) rfl e1 ?_
  refine v_iload_n O.1 dX20_splits_5 rfl (q := 6) rfl ?_
  refine v_iconst O.1 dX20_splits_6 (v := 0) rfl (q := 7) rfl ?_
  refine v_bipush O.1 dX20_splits_7 (v := 20) (by decide) (q := 9) rfl ?_
  obtain ⟨r2, M2, e2, h⟩ := bnd_some h
  refine m_callSi (As := [.int x1, .int 0, .int 20]) (rest := []) (n := 3) O (met_within _ g x1 0 20 M1 M2 r2 e2) (lw_S q1817 q1818 q84 q1819) (by decide +kernel) (by decide) (by decide) rfl rfl (Nat.le_of_ble_eq_true rfl) dX20_splits_9 (q := 12) rfl ?_
  refine v_if_ne O.1 dX20_splits_12 (t := 17) (by decide) (q := 15) rfl (fun c3 => ?_) (fun c3 => ?_)
  · rw [if_neg c3] at h
    refine v_iconst O.1 dX20_splits_17 (v := 0) rfl (q := 18) rfl ?_
    refine v_istore_n (lv' := [(2, .int 0), (0, .ref (gMa g 0)), (1, .int x1)]) O.1 dX20_splits_18 (by decide) rfl (q := 19) rfl ?_
    refine v_bipush O.1 dX20_splits_19 (v := 7) (by decide) (q := 21) rfl ?_
    refine v_istore_n (lv' := [(3, .int 7), (2, .int 0), (0, .ref (gMa g 0)), (1, .int x1)]) O.1 dX20_splits_21 (by decide) rfl (q := 22) rfl ?_
    exact v_sub [2, 3, 1, 0] rfl (bm_splits_22 O 600 x1 0 7 M2 h)
  · rw [if_pos c3] at h
    refine v_iconst O.1 dX20_splits_15 (v := (-1)) rfl (q := 16) rfl ?_
    exact m_iret O h dX20_splits_16
theorem met_splits (l : Launch) (g : gM) (x1 : Int32) (M M' : Mem) (r : Int32) (h : fm_splits x1 M = some (r, M')) : MetM l g yX20_splits cX20_splits 4 (some .int) 2 [.ref (gMa g 0), .int x1] M (mQi g r M') :=
  m_met (by decide) rfl (Nat.le_of_ble_eq_true rfl) (fun X O => bm_splits O x1 M h)
/-! escalates(I)I -/
def fm_escalates_54 (y0 : Int32) (M : Mem) : Option (Int32 × Mem) :=
  some (y0, M)
set_option maxHeartbeats 4000000 in
theorem bm_escalates_54 {g : gM} {X : Cxt} {r : Int32} {M' : Mem} (O : OkM g X cX20_escalates 3 (some .int) 4 (mQi g r M')) (y0 : Int32) (M : Mem) (h : fm_escalates_54 y0 M = some (r, M')) : V X 3 0 (WdM g M) 54 [] [.int y0] := by
  unfold fm_escalates_54 at h
  exact m_iret O h dX20_escalates_54
def fm_escalates_43 (y0 : Int32) (M : Mem) : Option (Int32 × Mem) :=
  if 0 ≤ y0 then
    fm_escalates_54 y0 M
  else
    fm_escalates_54 (-2) M
set_option maxHeartbeats 4000000 in
theorem bm_escalates_43 {g : gM} {X : Cxt} {r : Int32} {M' : Mem} (O : OkM g X cX20_escalates 3 (some .int) 4 (mQi g r M')) (y0 : Int32) (M : Mem) (h : fm_escalates_43 y0 M = some (r, M')) : V X 3 0 (WdM g M) 43 [] [.int y0] := by
  unfold fm_escalates_43 at h
  refine v_istore_n (lv' := [(2, .int y0)]) O.1 dX20_escalates_43 (by decide) rfl (q := 44) rfl ?_
  refine v_iload_n O.1 dX20_escalates_44 rfl (q := 45) rfl ?_
  refine v_if_ge O.1 dX20_escalates_45 (t := 53) (by decide) (q := 48) rfl (fun c1 => ?_) (fun c1 => ?_)
  · rw [if_pos c1] at h
    refine v_iload_n O.1 dX20_escalates_53 rfl (q := 54) rfl ?_
    exact v_sub [] rfl (bm_escalates_54 O y0 M h)
  · rw [if_neg c1] at h
    refine v_bipush O.1 dX20_escalates_48 (v := (-2)) (by decide) (q := 50) rfl ?_
    refine v_goto O.1 dX20_escalates_50 (t := 54) (by decide) ?_
    exact v_sub [] rfl (bm_escalates_54 O (-2) M h)
def fm_escalates_19 (x1 : Int32) (M : Mem) : Option (Int32 × Mem) :=
  if (M 4 20) = 5 then
    fm_escalates_43 (-1) M
  else
    bnd (fm_targetOf 4 x1 M) fun r2 M2 =>
    fm_escalates_43 r2 M2
set_option maxHeartbeats 4000000 in
theorem bm_escalates_19 {g : gM} {X : Cxt} {r : Int32} {M' : Mem} (O : OkM g X cX20_escalates 3 (some .int) 4 (mQi g r M')) (x1 : Int32) (M : Mem) (h : fm_escalates_19 x1 M = some (r, M')) : V X 3 0 (WdM g M) 19 [(0, .ref (gMa g 0)), (1, .int x1)] [] := by
  unfold fm_escalates_19 at h
  refine v_aload_n O.1 dX20_escalates_19 rfl (q := 20) rfl ?_
  refine m_get O 4 (v := .ref (gMa g 4)) (by decide) q1736 rfl rfl dX20_escalates_20 (q := 23) rfl ?_
  refine v_bipush O.1 dX20_escalates_23 (v := 20) (by decide) (q := 25) rfl ?_
  refine m_iald O rfl rfl (n := 342) (by decide) (by decide) (j := 20) dX20_escalates_25 (q := 26) rfl ?_
  refine v_iconst O.1 dX20_escalates_26 (v := 5) rfl (q := 27) rfl ?_
  refine v_icmp_ne O.1 dX20_escalates_27 (t := 34) (by decide) (q := 30) rfl (fun c1 => ?_) (fun c1 => ?_)
  · rw [if_neg c1] at h
    refine v_aload_n O.1 dX20_escalates_34 rfl (q := 35) rfl ?_
    refine v_aload_n O.1 dX20_escalates_35 rfl (q := 36) rfl ?_
    refine m_get O 4 (v := .ref (gMa g 4)) (by decide) q1736 rfl rfl dX20_escalates_36 (q := 39) rfl ?_
    refine v_iload_n O.1 dX20_escalates_39 rfl (q := 40) rfl ?_
    obtain ⟨r2, M2, e2, h⟩ := bnd_some h
    refine m_callVi (As := [.ref (gMa g 4), .int x1]) (rest := []) (n := 2) O (met_targetOf _ g 4 mS_4 x1 M M2 r2 e2) (lw_V q1922 q1924 qs34 q84 q1925) (by decide +kernel) (by decide) (by decide) rfl rfl (Nat.le_of_ble_eq_true rfl) dX20_escalates_40 (q := 43) rfl ?_
    exact v_sub [] rfl (bm_escalates_43 O r2 M2 h)
  · rw [if_pos c1] at h
    refine v_iconst O.1 dX20_escalates_30 (v := (-1)) rfl (q := 31) rfl ?_
    refine v_goto O.1 dX20_escalates_31 (t := 43) (by decide) ?_
    exact v_sub [] rfl (bm_escalates_43 O (-1) M h)
def fm_escalates (x1 : Int32) (M : Mem) : Option (Int32 × Mem) :=
  stp (up2 M 0 17 0) fun M1 =>
  if x1 = 18 then
    fm_escalates_19 x1 M1
  else
    if x1 = 19 then
      fm_escalates_19 x1 M1
    else
      some ((-1), M1)
set_option maxHeartbeats 4000000 in
theorem bm_escalates {g : gM} {X : Cxt} {r : Int32} {M' : Mem} (O : OkM g X cX20_escalates 3 (some .int) 4 (mQi g r M')) (x1 : Int32) (M : Mem) (h : fm_escalates x1 M = some (r, M')) : V X 3 0 (WdM g M) 0 [(0, .ref (gMa g 0)), (1, .int x1)] [] := by
  unfold fm_escalates at h
  refine v_aload_n O.1 dX20_escalates_0 rfl (q := 1) rfl ?_
  refine v_iconst O.1 dX20_escalates_1 (v := 0) rfl (q := 2) rfl ?_
  obtain ⟨M1, e1, h⟩ := stp_some h
  refine m_put O 17 (ty := .int) (by decide) q1749 rfl rfl rfl rfl rfl rfl dX20_escalates_2 (q := 5) rfl e1 ?_
  refine v_iload_n O.1 dX20_escalates_5 rfl (q := 6) rfl ?_
  refine v_bipush O.1 dX20_escalates_6 (v := 18) (by decide) (q := 8) rfl ?_
  refine v_icmp_eq O.1 dX20_escalates_8 (t := 19) (by decide) (q := 11) rfl (fun c2 => ?_) (fun c2 => ?_)
  · rw [if_pos c2] at h
    exact v_sub [0, 1] rfl (bm_escalates_19 O x1 M1 h)
  · rw [if_neg c2] at h
    refine v_iload_n O.1 dX20_escalates_11 rfl (q := 12) rfl ?_
    refine v_bipush O.1 dX20_escalates_12 (v := 19) (by decide) (q := 14) rfl ?_
    refine v_icmp_eq O.1 dX20_escalates_14 (t := 19) (by decide) (q := 17) rfl (fun c3 => ?_) (fun c3 => ?_)
    · rw [if_pos c3] at h
      exact v_sub [0, 1] rfl (bm_escalates_19 O x1 M1 h)
    · rw [if_neg c3] at h
      refine v_iconst O.1 dX20_escalates_17 (v := (-1)) rfl (q := 18) rfl ?_
      exact m_iret O h dX20_escalates_18
theorem met_escalates (l : Launch) (g : gM) (x1 : Int32) (M M' : Mem) (r : Int32) (h : fm_escalates x1 M = some (r, M')) : MetM l g yX20_escalates cX20_escalates 3 (some .int) 4 [.ref (gMa g 0), .int x1] M (mQi g r M') :=
  m_met (by decide) rfl (Nat.le_of_ble_eq_true rfl) (fun X O => bm_escalates O x1 M h)
/-! likeNow(Z)V -/
def fm_likeNow_2b (K2 : Int32 → Int32 → Mem → Option (Unit × Mem)) (x1 : Int32) (x2 : Int32) (M : Mem) : Option (Unit × Mem) :=
  if 342 ≤ x2 then
    stp (up2 M 0 14 0) fun M2 =>
    gd (isB x1) <|
    stp (up2 M2 0 15 x1) fun M3 =>
    some ((), M3)
  else
    gd (inb x2 342) <|
    gd (inb x2 342) <|
    stp (up2 M 5 x2.toNatClampNeg (M 4 x2.toNatClampNeg)) fun M6 =>
    K2 x1 (x2 + 1) M6
set_option maxHeartbeats 4000000 in
theorem bm_likeNow_2b {g : gM} {X : Cxt} {r : Unit} {M' : Mem} (O : OkM g X cX20_likeNow 3 none 0 (mQv g r M')) {K2 : Int32 → Int32 → Mem → Option (Unit × Mem)} (hK2 : ∀ (x1 : Int32) (x2 : Int32) (M : Mem), K2 x1 x2 M = some (r, M') → V X 3 0 (WdM g M) 2 [(0, .ref (gMa g 0)), (1, .int x1), (2, .int x2)] []) (x1 : Int32) (x2 : Int32) (M : Mem) (h : fm_likeNow_2b K2 x1 x2 M = some (r, M')) : V X 3 0 (WdM g M) 2 [(0, .ref (gMa g 0)), (1, .int x1), (2, .int x2)] [] := by
  unfold fm_likeNow_2b at h
  refine v_iload_n O.1 dX20_likeNow_2 rfl (q := 3) rfl ?_
  refine v_sipush O.1 dX20_likeNow_3 (v := 342) (by decide) (q := 6) rfl ?_
  refine v_icmp_ge O.1 dX20_likeNow_6 (t := 27) (by decide) (q := 9) rfl (fun c1 => ?_) (fun c1 => ?_)
  · rw [if_pos c1] at h
    refine v_aload_n O.1 dX20_likeNow_27 rfl (q := 28) rfl ?_
    refine v_iconst O.1 dX20_likeNow_28 (v := 0) rfl (q := 29) rfl ?_
    obtain ⟨M2, e2, h⟩ := stp_some h
    refine m_put O 14 (ty := .boolean) (by decide) q1746 rfl rfl rfl rfl rfl rfl dX20_likeNow_29 (q := 32) rfl e2 ?_
    refine v_aload_n O.1 dX20_likeNow_32 rfl (q := 33) rfl ?_
    refine v_iload_n O.1 dX20_likeNow_33 rfl (q := 34) rfl ?_
    obtain ⟨g3, h⟩ := gd_some h
    obtain ⟨M3, e3, h⟩ := stp_some h
    refine m_put O 15 (ty := .boolean) (by decide) q1747 rfl rfl rfl (isB_nar g3) (isB_fit g3) rfl dX20_likeNow_34 (q := 37) rfl e3 ?_
    exact m_vret O h dX20_likeNow_37
  · rw [if_neg c1] at h
    refine v_aload_n O.1 dX20_likeNow_9 rfl (q := 10) rfl ?_
    refine m_get O 5 (v := .ref (gMa g 5)) (by decide) q1737 rfl rfl dX20_likeNow_10 (q := 13) rfl ?_
    refine v_iload_n O.1 dX20_likeNow_13 rfl (q := 14) rfl ?_
    refine v_aload_n O.1 dX20_likeNow_14 rfl (q := 15) rfl ?_
    refine m_get O 4 (v := .ref (gMa g 4)) (by decide) q1736 rfl rfl dX20_likeNow_15 (q := 18) rfl ?_
    refine v_iload_n O.1 dX20_likeNow_18 rfl (q := 19) rfl ?_
    obtain ⟨g4, h⟩ := gd_some h
    refine m_iald O rfl rfl (n := 342) g4 rfl (j := x2.toNatClampNeg) dX20_likeNow_19 (q := 20) rfl ?_
    obtain ⟨g5, h⟩ := gd_some h
    obtain ⟨M6, e6, h⟩ := stp_some h
    refine m_iast O rfl rfl (n := 342) g5 rfl (j := x2.toNatClampNeg) dX20_likeNow_20 (q := 21) rfl e6 ?_
    refine v_iinc (lv' := [(2, .int (x2 + 1)), (0, .ref (gMa g 0)), (1, .int x1)]) (v := (x2 + 1)) O.1 dX20_likeNow_21 rfl rfl (by decide) rfl (q := 24) rfl ?_
    refine v_goto O.1 dX20_likeNow_24 (t := 2) (by decide) ?_
    exact v_sub [1, 2, 0] rfl (hK2 x1 (x2 + 1) M6 h)
def fm_likeNow_2 (n : Nat) : Int32 → Int32 → Mem → Option (Unit × Mem) := lpc (fm_likeNow_2b) (fun _ _ _ => none) n
theorem bm_likeNow_2 {g : gM} {X : Cxt} {r : Unit} {M' : Mem} (O : OkM g X cX20_likeNow 3 none 0 (mQv g r M')) : ∀ (n : Nat) (x1 : Int32) (x2 : Int32) (M : Mem), fm_likeNow_2 n x1 x2 M = some (r, M') → V X 3 0 (WdM g M) 2 [(0, .ref (gMa g 0)), (1, .int x1), (2, .int x2)] [] := by
  intro n
  induction n with
  | zero =>
    intro x1 x2 M h
    cases h
  | succ n ih =>
    intro x1 x2 M h
    exact bm_likeNow_2b O ih x1 x2 M h
def fm_likeNow (x1 : Int32) (M : Mem) : Option (Unit × Mem) :=
  fm_likeNow_2 600 x1 0 M
set_option maxHeartbeats 4000000 in
theorem bm_likeNow {g : gM} {X : Cxt} {r : Unit} {M' : Mem} (O : OkM g X cX20_likeNow 3 none 0 (mQv g r M')) (x1 : Int32) (M : Mem) (h : fm_likeNow x1 M = some (r, M')) : V X 3 0 (WdM g M) 0 [(0, .ref (gMa g 0)), (1, .int x1)] [] := by
  unfold fm_likeNow at h
  refine v_iconst O.1 dX20_likeNow_0 (v := 0) rfl (q := 1) rfl ?_
  refine v_istore_n (lv' := [(2, .int 0), (0, .ref (gMa g 0)), (1, .int x1)]) O.1 dX20_likeNow_1 (by decide) rfl (q := 2) rfl ?_
  exact v_sub [1, 2, 0] rfl (bm_likeNow_2 O 600 x1 0 M h)
theorem met_likeNow (l : Launch) (g : gM) (x1 : Int32) (M M' : Mem) (r : Unit) (h : fm_likeNow x1 M = some (r, M')) : MetM l g yX20_likeNow cX20_likeNow 3 none 0 [.ref (gMa g 0), .int x1] M (mQv g r M') :=
  m_met (by decide) rfl (Nat.le_of_ble_eq_true rfl) (fun X O => bm_likeNow O x1 M h)
/-! soon(I)I -/
def fm_soon_24b (K24 : Int32 → Int32 → Mem → Option (Int32 × Mem)) (x1 : Int32) (x2 : Int32) (M : Mem) : Option (Int32 × Mem) :=
  if 300 < x2 then
    some ((-1), M)
  else
    bnd (fm_cycle 5 M) fun r2 M2 =>
    if (M2 0 16) = x1 then
      some (x2, M2)
    else
      K24 x1 (x2 + 1) M2
set_option maxHeartbeats 4000000 in
theorem bm_soon_24b {g : gM} {X : Cxt} {r : Int32} {M' : Mem} (O : OkM g X cX20_soon 3 (some .int) 9 (mQi g r M')) {K24 : Int32 → Int32 → Mem → Option (Int32 × Mem)} (hK24 : ∀ (x1 : Int32) (x2 : Int32) (M : Mem), K24 x1 x2 M = some (r, M') → V X 3 0 (WdM g M) 24 [(0, .ref (gMa g 0)), (1, .int x1), (2, .int x2)] []) (x1 : Int32) (x2 : Int32) (M : Mem) (h : fm_soon_24b K24 x1 x2 M = some (r, M')) : V X 3 0 (WdM g M) 24 [(0, .ref (gMa g 0)), (1, .int x1), (2, .int x2)] [] := by
  unfold fm_soon_24b at h
  refine v_iload_n O.1 dX20_soon_24 rfl (q := 25) rfl ?_
  refine v_sipush O.1 dX20_soon_25 (v := 300) (by decide) (q := 28) rfl ?_
  refine v_icmp_gt O.1 dX20_soon_28 (t := 55) (by decide) (q := 31) rfl (fun c1 => ?_) (fun c1 => ?_)
  · rw [if_pos c1] at h
    refine v_iconst O.1 dX20_soon_55 (v := (-1)) rfl (q := 56) rfl ?_
    exact m_iret O h dX20_soon_56
  · rw [if_neg c1] at h
    refine v_aload_n O.1 dX20_soon_31 rfl (q := 32) rfl ?_
    refine v_aload_n O.1 dX20_soon_32 rfl (q := 33) rfl ?_
    refine m_get O 5 (v := .ref (gMa g 5)) (by decide) q1737 rfl rfl dX20_soon_33 (q := 36) rfl ?_
    obtain ⟨r2, M2, e2, h⟩ := bnd_some h
    refine m_callVv (As := [.ref (gMa g 5)]) (rest := []) (n := 1) O (met_cycle _ g 5 mS_5 M M2 r2 e2) (lw_V q1877 q1879 qs25 q84 q1880) (by decide +kernel) (by decide) (by decide) rfl rfl (Nat.le_of_ble_eq_true rfl) dX20_soon_36 (q := 39) rfl ?_
    refine v_aload_n O.1 dX20_soon_39 rfl (q := 40) rfl ?_
    refine m_get O 16 (v := .int (M2 0 16)) (by decide) q1748 rfl rfl dX20_soon_40 (q := 43) rfl ?_
    refine v_iload_n O.1 dX20_soon_43 rfl (q := 44) rfl ?_
    refine v_icmp_ne O.1 dX20_soon_44 (t := 49) (by decide) (q := 47) rfl (fun c3 => ?_) (fun c3 => ?_)
    · rw [if_neg c3] at h
      refine v_iinc (lv' := [(2, .int (x2 + 1)), (0, .ref (gMa g 0)), (1, .int x1)]) (v := (x2 + 1)) O.1 dX20_soon_49 rfl rfl (by decide) rfl (q := 52) rfl ?_
      refine v_goto O.1 dX20_soon_52 (t := 24) (by decide) ?_
      exact v_sub [1, 2, 0] rfl (hK24 x1 (x2 + 1) M2 h)
    · rw [if_pos c3] at h
      refine v_iload_n O.1 dX20_soon_47 rfl (q := 48) rfl ?_
      exact m_iret O h dX20_soon_48
def fm_soon_24 (n : Nat) : Int32 → Int32 → Mem → Option (Int32 × Mem) := lpc (fm_soon_24b) (fun _ _ _ => none) n
theorem bm_soon_24 {g : gM} {X : Cxt} {r : Int32} {M' : Mem} (O : OkM g X cX20_soon 3 (some .int) 9 (mQi g r M')) : ∀ (n : Nat) (x1 : Int32) (x2 : Int32) (M : Mem), fm_soon_24 n x1 x2 M = some (r, M') → V X 3 0 (WdM g M) 24 [(0, .ref (gMa g 0)), (1, .int x1), (2, .int x2)] [] := by
  intro n
  induction n with
  | zero =>
    intro x1 x2 M h
    cases h
  | succ n ih =>
    intro x1 x2 M h
    exact bm_soon_24b O ih x1 x2 M h
def fm_soon (x1 : Int32) (M : Mem) : Option (Int32 × Mem) :=
  stp (up2 M 0 17 0) fun M1 =>
  bnd (fm_within x1 0 20 M1) fun r2 M2 =>
  if r2 = 0 then
    some ((-1), M2)
  else
    bnd (fm_likeNow 0 M2) fun r4 M4 =>
    fm_soon_24 600 x1 1 M4
set_option maxHeartbeats 4000000 in
theorem bm_soon {g : gM} {X : Cxt} {r : Int32} {M' : Mem} (O : OkM g X cX20_soon 3 (some .int) 9 (mQi g r M')) (x1 : Int32) (M : Mem) (h : fm_soon x1 M = some (r, M')) : V X 3 0 (WdM g M) 0 [(0, .ref (gMa g 0)), (1, .int x1)] [] := by
  unfold fm_soon at h
  refine v_aload_n O.1 dX20_soon_0 rfl (q := 1) rfl ?_
  refine v_iconst O.1 dX20_soon_1 (v := 0) rfl (q := 2) rfl ?_
  obtain ⟨M1, e1, h⟩ := stp_some h
  refine m_put O 17 (ty := .int) (by decide) q1749 rfl rfl rfl rfl rfl rfl dX20_soon_2 (q := 5) rfl e1 ?_
  refine v_iload_n O.1 dX20_soon_5 rfl (q := 6) rfl ?_
  refine v_iconst O.1 dX20_soon_6 (v := 0) rfl (q := 7) rfl ?_
  refine v_bipush O.1 dX20_soon_7 (v := 20) (by decide) (q := 9) rfl ?_
  obtain ⟨r2, M2, e2, h⟩ := bnd_some h
  refine m_callSi (As := [.int x1, .int 0, .int 20]) (rest := []) (n := 3) O (met_within _ g x1 0 20 M1 M2 r2 e2) (lw_S q1817 q1818 q84 q1819) (by decide +kernel) (by decide) (by decide) rfl rfl (Nat.le_of_ble_eq_true rfl) dX20_soon_9 (q := 12) rfl ?_
  refine v_if_ne O.1 dX20_soon_12 (t := 17) (by decide) (q := 15) rfl (fun c3 => ?_) (fun c3 => ?_)
  · rw [if_neg c3] at h
    refine v_aload_n O.1 dX20_soon_17 rfl (q := 18) rfl ?_
    refine v_iconst O.1 dX20_soon_18 (v := 0) rfl (q := 19) rfl ?_
    obtain ⟨r4, M4, e4, h⟩ := bnd_some h
    refine m_callVv (As := [.int 0]) (rest := []) (n := 1) O (met_likeNow _ g 0 M2 M4 r4 e4) (lw_V q2106 q2108 qs52 q84 q2109) (by decide +kernel) (by decide) (by decide) rfl rfl (Nat.le_of_ble_eq_true rfl) dX20_soon_19 (q := 22) rfl ?_
    refine v_iconst O.1 dX20_soon_22 (v := 1) rfl (q := 23) rfl ?_
    refine v_istore_n (lv' := [(2, .int 1), (0, .ref (gMa g 0)), (1, .int x1)]) O.1 dX20_soon_23 (by decide) rfl (q := 24) rfl ?_
    exact v_sub [1, 2, 0] rfl (bm_soon_24 O 600 x1 1 M4 h)
  · rw [if_pos c3] at h
    refine v_iconst O.1 dX20_soon_15 (v := (-1)) rfl (q := 16) rfl ?_
    exact m_iret O h dX20_soon_16
theorem met_soon (l : Launch) (g : gM) (x1 : Int32) (M M' : Mem) (r : Int32) (h : fm_soon x1 M = some (r, M')) : MetM l g yX20_soon cX20_soon 3 (some .int) 9 [.ref (gMa g 0), .int x1] M (mQi g r M') :=
  m_met (by decide) rfl (Nat.le_of_ble_eq_true rfl) (fun X O => bm_soon O x1 M h)
/-! order(IZ)I -/
def fm_order_59 (K21 : Int32 → Int32 → Mem → Option (Int32 × Mem)) (x3 : Int32) (x4 : Int32) (M : Mem) : Option (Int32 × Mem) :=
  K21 x3 (x4 + 1) M
set_option maxHeartbeats 4000000 in
theorem bm_order_59 {g : gM} {X : Cxt} {r : Int32} {M' : Mem} (O : OkM g X cX20_order 5 (some .int) 9 (mQi g r M')) {K21 : Int32 → Int32 → Mem → Option (Int32 × Mem)} (hK21 : ∀ (x3 : Int32) (x4 : Int32) (M : Mem), K21 x3 x4 M = some (r, M') → V X 5 0 (WdM g M) 21 [(0, .ref (gMa g 0)), (3, .int x3), (4, .int x4)] []) (x3 : Int32) (x4 : Int32) (M : Mem) (h : fm_order_59 K21 x3 x4 M = some (r, M')) : V X 5 0 (WdM g M) 59 [(0, .ref (gMa g 0)), (3, .int x3), (4, .int x4)] [] := by
  unfold fm_order_59 at h
  refine v_iinc (lv' := [(4, .int (x4 + 1)), (0, .ref (gMa g 0)), (3, .int x3)]) (v := (x4 + 1)) O.1 dX20_order_59 rfl rfl (by decide) rfl (q := 62) rfl ?_
  refine v_goto O.1 dX20_order_62 (t := 21) (by decide) ?_
  exact v_sub [1, 2, 0] rfl (hK21 x3 (x4 + 1) M h)
def fm_order_21b (K21 : Int32 → Int32 → Mem → Option (Int32 × Mem)) (x3 : Int32) (x4 : Int32) (M : Mem) : Option (Int32 × Mem) :=
  if 300 < x4 then
    some ((-1), M)
  else
    bnd (fm_cycle 5 M) fun r2 M2 =>
    if 0 ≤ (M2 0 16) then
      if x3 = 0 then
        some ((M2 0 16), M2)
      else
        fm_order_59 K21 (x3 + (-1)) x4 M2
    else
      fm_order_59 K21 x3 x4 M2
set_option maxHeartbeats 4000000 in
theorem bm_order_21b {g : gM} {X : Cxt} {r : Int32} {M' : Mem} (O : OkM g X cX20_order 5 (some .int) 9 (mQi g r M')) {K21 : Int32 → Int32 → Mem → Option (Int32 × Mem)} (hK21 : ∀ (x3 : Int32) (x4 : Int32) (M : Mem), K21 x3 x4 M = some (r, M') → V X 5 0 (WdM g M) 21 [(0, .ref (gMa g 0)), (3, .int x3), (4, .int x4)] []) (x3 : Int32) (x4 : Int32) (M : Mem) (h : fm_order_21b K21 x3 x4 M = some (r, M')) : V X 5 0 (WdM g M) 21 [(0, .ref (gMa g 0)), (3, .int x3), (4, .int x4)] [] := by
  unfold fm_order_21b at h
  refine v_iload O.1 dX20_order_21 rfl (q := 23) rfl ?_
  refine v_sipush O.1 dX20_order_23 (v := 300) (by decide) (q := 26) rfl ?_
  refine v_icmp_gt O.1 dX20_order_26 (t := 65) (by decide) (q := 29) rfl (fun c1 => ?_) (fun c1 => ?_)
  · rw [if_pos c1] at h
    refine v_iconst O.1 dX20_order_65 (v := (-1)) rfl (q := 66) rfl ?_
    exact m_iret O h dX20_order_66
  · rw [if_neg c1] at h
    refine v_aload_n O.1 dX20_order_29 rfl (q := 30) rfl ?_
    refine v_aload_n O.1 dX20_order_30 rfl (q := 31) rfl ?_
    refine m_get O 5 (v := .ref (gMa g 5)) (by decide) q1737 rfl rfl dX20_order_31 (q := 34) rfl ?_
    obtain ⟨r2, M2, e2, h⟩ := bnd_some h
    refine m_callVv (As := [.ref (gMa g 5)]) (rest := []) (n := 1) O (met_cycle _ g 5 mS_5 M M2 r2 e2) (lw_V q1877 q1879 qs25 q84 q1880) (by decide +kernel) (by decide) (by decide) rfl rfl (Nat.le_of_ble_eq_true rfl) dX20_order_34 (q := 37) rfl ?_
    refine v_aload_n O.1 dX20_order_37 rfl (q := 38) rfl ?_
    refine m_get O 16 (v := .int (M2 0 16)) (by decide) q1748 rfl rfl dX20_order_38 (q := 41) rfl ?_
    refine v_if_ge O.1 dX20_order_41 (t := 47) (by decide) (q := 44) rfl (fun c3 => ?_) (fun c3 => ?_)
    · rw [if_pos c3] at h
      refine v_iload_n O.1 dX20_order_47 rfl (q := 48) rfl ?_
      refine v_if_ne O.1 dX20_order_48 (t := 56) (by decide) (q := 51) rfl (fun c4 => ?_) (fun c4 => ?_)
      · rw [if_neg c4] at h
        refine v_iinc (lv' := [(3, .int (x3 + (-1))), (0, .ref (gMa g 0)), (4, .int x4)]) (v := (x3 + (-1))) O.1 dX20_order_56 rfl rfl (by decide) rfl (q := 59) rfl ?_
        exact v_sub [1, 0, 2] rfl (bm_order_59 O hK21 (x3 + (-1)) x4 M2 h)
      · rw [if_pos c4] at h
        refine v_aload_n O.1 dX20_order_51 rfl (q := 52) rfl ?_
        refine m_get O 16 (v := .int (M2 0 16)) (by decide) q1748 rfl rfl dX20_order_52 (q := 55) rfl ?_
        exact m_iret O h dX20_order_55
    · rw [if_neg c3] at h
      refine v_goto O.1 dX20_order_44 (t := 59) (by decide) ?_
      exact v_sub [0, 1, 2] rfl (bm_order_59 O hK21 x3 x4 M2 h)
def fm_order_21 (n : Nat) : Int32 → Int32 → Mem → Option (Int32 × Mem) := lpc (fm_order_21b) (fun _ _ _ => none) n
theorem bm_order_21 {g : gM} {X : Cxt} {r : Int32} {M' : Mem} (O : OkM g X cX20_order 5 (some .int) 9 (mQi g r M')) : ∀ (n : Nat) (x3 : Int32) (x4 : Int32) (M : Mem), fm_order_21 n x3 x4 M = some (r, M') → V X 5 0 (WdM g M) 21 [(0, .ref (gMa g 0)), (3, .int x3), (4, .int x4)] [] := by
  intro n
  induction n with
  | zero =>
    intro x3 x4 M h
    cases h
  | succ n ih =>
    intro x3 x4 M h
    exact bm_order_21b O ih x3 x4 M h
def fm_order (x1 : Int32) (x2 : Int32) (M : Mem) : Option (Int32 × Mem) :=
  stp (up2 M 0 17 0) fun M1 =>
  if 0 ≤ x1 then
    bnd (fm_likeNow x2 M1) fun r3 M3 =>
    fm_order_21 600 x1 1 M3
  else
    some ((-1), M1)
set_option maxHeartbeats 4000000 in
theorem bm_order {g : gM} {X : Cxt} {r : Int32} {M' : Mem} (O : OkM g X cX20_order 5 (some .int) 9 (mQi g r M')) (x1 : Int32) (x2 : Int32) (M : Mem) (h : fm_order x1 x2 M = some (r, M')) : V X 5 0 (WdM g M) 0 [(0, .ref (gMa g 0)), (1, .int x1), (2, .int x2)] [] := by
  unfold fm_order at h
  refine v_aload_n O.1 dX20_order_0 rfl (q := 1) rfl ?_
  refine v_iconst O.1 dX20_order_1 (v := 0) rfl (q := 2) rfl ?_
  obtain ⟨M1, e1, h⟩ := stp_some h
  refine m_put O 17 (ty := .int) (by decide) q1749 rfl rfl rfl rfl rfl rfl dX20_order_2 (q := 5) rfl e1 ?_
  refine v_iload_n O.1 dX20_order_5 rfl (q := 6) rfl ?_
  refine v_if_ge O.1 dX20_order_6 (t := 11) (by decide) (q := 9) rfl (fun c2 => ?_) (fun c2 => ?_)
  · rw [if_pos c2] at h
    refine v_aload_n O.1 dX20_order_11 rfl (q := 12) rfl ?_
    refine v_iload_n O.1 dX20_order_12 rfl (q := 13) rfl ?_
    obtain ⟨r3, M3, e3, h⟩ := bnd_some h
    refine m_callVv (As := [.int x2]) (rest := []) (n := 1) O (met_likeNow _ g x2 M1 M3 r3 e3) (lw_V q2106 q2108 qs52 q84 q2109) (by decide +kernel) (by decide) (by decide) rfl rfl (Nat.le_of_ble_eq_true rfl) dX20_order_13 (q := 16) rfl ?_
    refine v_iload_n O.1 dX20_order_16 rfl (q := 17) rfl ?_
    refine v_istore_n (lv' := [(3, .int x1), (0, .ref (gMa g 0)), (1, .int x1), (2, .int x2)]) O.1 dX20_order_17 (by decide) rfl (q := 18) rfl ?_
    refine v_iconst O.1 dX20_order_18 (v := 1) rfl (q := 19) rfl ?_
    refine v_istore (lv' := [(4, .int 1), (3, .int x1), (0, .ref (gMa g 0)), (1, .int x1), (2, .int x2)]) O.1 dX20_order_19 (by decide) rfl (q := 21) rfl ?_
    exact v_sub [2, 1, 0] rfl (bm_order_21 O 600 x1 1 M3 h)
  · rw [if_neg c2] at h
    refine v_iconst O.1 dX20_order_9 (v := (-1)) rfl (q := 10) rfl ?_
    exact m_iret O h dX20_order_10
theorem met_order (l : Launch) (g : gM) (x1 : Int32) (x2 : Int32) (M M' : Mem) (r : Int32) (h : fm_order x1 x2 M = some (r, M')) : MetM l g yX20_order cX20_order 5 (some .int) 9 [.ref (gMa g 0), .int x1, .int x2] M (mQi g r M') :=
  m_met (by decide) rfl (Nat.le_of_ble_eq_true rfl) (fun X O => bm_order O x1 x2 M h)
/-! quiet(Z)I -/
def fm_quiet_52 (K12 : Int32 → Mem → Option (Int32 × Mem)) (x2 : Int32) (M : Mem) : Option (Int32 × Mem) :=
  bnd (fm_cycle 5 M) fun r1 M1 =>
  K12 (x2 + 1) M1
set_option maxHeartbeats 4000000 in
theorem bm_quiet_52 {g : gM} {X : Cxt} {r : Int32} {M' : Mem} (O : OkM g X cX20_quiet 3 (some .int) 9 (mQi g r M')) {K12 : Int32 → Mem → Option (Int32 × Mem)} (hK12 : ∀ (x2 : Int32) (M : Mem), K12 x2 M = some (r, M') → V X 3 0 (WdM g M) 12 [(0, .ref (gMa g 0)), (2, .int x2)] []) (x2 : Int32) (M : Mem) (h : fm_quiet_52 K12 x2 M = some (r, M')) : V X 3 0 (WdM g M) 52 [(0, .ref (gMa g 0)), (2, .int x2)] [] := by
  unfold fm_quiet_52 at h
  refine v_aload_n O.1 dX20_quiet_52 rfl (q := 53) rfl ?_
  refine v_aload_n O.1 dX20_quiet_53 rfl (q := 54) rfl ?_
  refine m_get O 5 (v := .ref (gMa g 5)) (by decide) q1737 rfl rfl dX20_quiet_54 (q := 57) rfl ?_
  obtain ⟨r1, M1, e1, h⟩ := bnd_some h
  refine m_callVv (As := [.ref (gMa g 5)]) (rest := []) (n := 1) O (met_cycle _ g 5 mS_5 M M1 r1 e1) (lw_V q1877 q1879 qs25 q84 q1880) (by decide +kernel) (by decide) (by decide) rfl rfl (Nat.le_of_ble_eq_true rfl) dX20_quiet_57 (q := 60) rfl ?_
  refine v_iinc (lv' := [(2, .int (x2 + 1)), (0, .ref (gMa g 0))]) (v := (x2 + 1)) O.1 dX20_quiet_60 rfl rfl (by decide) rfl (q := 63) rfl ?_
  refine v_goto O.1 dX20_quiet_63 (t := 12) (by decide) ?_
  exact v_sub [1, 0] rfl (hK12 (x2 + 1) M1 h)
def fm_quiet_12b (K12 : Int32 → Mem → Option (Int32 × Mem)) (x2 : Int32) (M : Mem) : Option (Int32 × Mem) :=
  if 300 < x2 then
    some ((-1), M)
  else
    if (M 5 20) = 0 then
      if (M 5 30) = 0 then
        bnd (fm_nextOf 5 M) fun r4 M4 =>
        if 0 ≤ r4 then
          fm_quiet_52 K12 x2 M4
        else
          some (x2, M4)
      else
        fm_quiet_52 K12 x2 M
    else
      fm_quiet_52 K12 x2 M
set_option maxHeartbeats 4000000 in
theorem bm_quiet_12b {g : gM} {X : Cxt} {r : Int32} {M' : Mem} (O : OkM g X cX20_quiet 3 (some .int) 9 (mQi g r M')) {K12 : Int32 → Mem → Option (Int32 × Mem)} (hK12 : ∀ (x2 : Int32) (M : Mem), K12 x2 M = some (r, M') → V X 3 0 (WdM g M) 12 [(0, .ref (gMa g 0)), (2, .int x2)] []) (x2 : Int32) (M : Mem) (h : fm_quiet_12b K12 x2 M = some (r, M')) : V X 3 0 (WdM g M) 12 [(0, .ref (gMa g 0)), (2, .int x2)] [] := by
  unfold fm_quiet_12b at h
  refine v_iload_n O.1 dX20_quiet_12 rfl (q := 13) rfl ?_
  refine v_sipush O.1 dX20_quiet_13 (v := 300) (by decide) (q := 16) rfl ?_
  refine v_icmp_gt O.1 dX20_quiet_16 (t := 66) (by decide) (q := 19) rfl (fun c1 => ?_) (fun c1 => ?_)
  · rw [if_pos c1] at h
    refine v_iconst O.1 dX20_quiet_66 (v := (-1)) rfl (q := 67) rfl ?_
    exact m_iret O h dX20_quiet_67
  · rw [if_neg c1] at h
    refine v_aload_n O.1 dX20_quiet_19 rfl (q := 20) rfl ?_
    refine m_get O 5 (v := .ref (gMa g 5)) (by decide) q1737 rfl rfl dX20_quiet_20 (q := 23) rfl ?_
    refine v_bipush O.1 dX20_quiet_23 (v := 20) (by decide) (q := 25) rfl ?_
    refine m_iald O rfl rfl (n := 342) (by decide) (by decide) (j := 20) dX20_quiet_25 (q := 26) rfl ?_
    refine v_if_ne O.1 dX20_quiet_26 (t := 52) (by decide) (q := 29) rfl (fun c2 => ?_) (fun c2 => ?_)
    · rw [if_neg c2] at h
      exact v_sub [0, 1] rfl (bm_quiet_52 O hK12 x2 M h)
    · rw [if_pos c2] at h
      refine v_aload_n O.1 dX20_quiet_29 rfl (q := 30) rfl ?_
      refine m_get O 5 (v := .ref (gMa g 5)) (by decide) q1737 rfl rfl dX20_quiet_30 (q := 33) rfl ?_
      refine v_bipush O.1 dX20_quiet_33 (v := 30) (by decide) (q := 35) rfl ?_
      refine m_iald O rfl rfl (n := 342) (by decide) (by decide) (j := 30) dX20_quiet_35 (q := 36) rfl ?_
      refine v_if_ne O.1 dX20_quiet_36 (t := 52) (by decide) (q := 39) rfl (fun c3 => ?_) (fun c3 => ?_)
      · rw [if_neg c3] at h
        exact v_sub [0, 1] rfl (bm_quiet_52 O hK12 x2 M h)
      · rw [if_pos c3] at h
        refine v_aload_n O.1 dX20_quiet_39 rfl (q := 40) rfl ?_
        refine v_aload_n O.1 dX20_quiet_40 rfl (q := 41) rfl ?_
        refine m_get O 5 (v := .ref (gMa g 5)) (by decide) q1737 rfl rfl dX20_quiet_41 (q := 44) rfl ?_
        obtain ⟨r4, M4, e4, h⟩ := bnd_some h
        refine m_callVi (As := [.ref (gMa g 5)]) (rest := []) (n := 1) O (met_nextOf _ g 5 mS_5 M M4 r4 e4) (lw_V q1885 q1887 qs27 q84 q1888) (by decide +kernel) (by decide) (by decide) rfl rfl (Nat.le_of_ble_eq_true rfl) dX20_quiet_44 (q := 47) rfl ?_
        refine v_if_ge O.1 dX20_quiet_47 (t := 52) (by decide) (q := 50) rfl (fun c5 => ?_) (fun c5 => ?_)
        · rw [if_pos c5] at h
          exact v_sub [0, 1] rfl (bm_quiet_52 O hK12 x2 M4 h)
        · rw [if_neg c5] at h
          refine v_iload_n O.1 dX20_quiet_50 rfl (q := 51) rfl ?_
          exact m_iret O h dX20_quiet_51
def fm_quiet_12 (n : Nat) : Int32 → Mem → Option (Int32 × Mem) := lpc (fm_quiet_12b) (fun _ _ => none) n
theorem bm_quiet_12 {g : gM} {X : Cxt} {r : Int32} {M' : Mem} (O : OkM g X cX20_quiet 3 (some .int) 9 (mQi g r M')) : ∀ (n : Nat) (x2 : Int32) (M : Mem), fm_quiet_12 n x2 M = some (r, M') → V X 3 0 (WdM g M) 12 [(0, .ref (gMa g 0)), (2, .int x2)] [] := by
  intro n
  induction n with
  | zero =>
    intro x2 M h
    cases h
  | succ n ih =>
    intro x2 M h
    exact bm_quiet_12b O ih x2 M h
def fm_quiet (x1 : Int32) (M : Mem) : Option (Int32 × Mem) :=
  stp (up2 M 0 17 0) fun M1 =>
  bnd (fm_likeNow x1 M1) fun r2 M2 =>
  fm_quiet_12 600 0 M2
set_option maxHeartbeats 4000000 in
theorem bm_quiet {g : gM} {X : Cxt} {r : Int32} {M' : Mem} (O : OkM g X cX20_quiet 3 (some .int) 9 (mQi g r M')) (x1 : Int32) (M : Mem) (h : fm_quiet x1 M = some (r, M')) : V X 3 0 (WdM g M) 0 [(0, .ref (gMa g 0)), (1, .int x1)] [] := by
  unfold fm_quiet at h
  refine v_aload_n O.1 dX20_quiet_0 rfl (q := 1) rfl ?_
  refine v_iconst O.1 dX20_quiet_1 (v := 0) rfl (q := 2) rfl ?_
  obtain ⟨M1, e1, h⟩ := stp_some h
  refine m_put O 17 (ty := .int) (by decide) q1749 rfl rfl rfl rfl rfl rfl dX20_quiet_2 (q := 5) rfl e1 ?_
  refine v_aload_n O.1 dX20_quiet_5 rfl (q := 6) rfl ?_
  refine v_iload_n O.1 dX20_quiet_6 rfl (q := 7) rfl ?_
  obtain ⟨r2, M2, e2, h⟩ := bnd_some h
  refine m_callVv (As := [.int x1]) (rest := []) (n := 1) O (met_likeNow _ g x1 M1 M2 r2 e2) (lw_V q2106 q2108 qs52 q84 q2109) (by decide +kernel) (by decide) (by decide) rfl rfl (Nat.le_of_ble_eq_true rfl) dX20_quiet_7 (q := 10) rfl ?_
  refine v_iconst O.1 dX20_quiet_10 (v := 0) rfl (q := 11) rfl ?_
  refine v_istore_n (lv' := [(2, .int 0), (0, .ref (gMa g 0)), (1, .int x1)]) O.1 dX20_quiet_11 (by decide) rfl (q := 12) rfl ?_
  exact v_sub [1, 0] rfl (bm_quiet_12 O 600 0 M2 h)
theorem met_quiet (l : Launch) (g : gM) (x1 : Int32) (M M' : Mem) (r : Int32) (h : fm_quiet x1 M = some (r, M')) : MetM l g yX20_quiet cX20_quiet 3 (some .int) 9 [.ref (gMa g 0), .int x1] M (mQi g r M') :=
  m_met (by decide) rfl (Nat.le_of_ble_eq_true rfl) (fun X O => bm_quiet O x1 M h)
/-! window(I)I -/
def fm_window_114 (K21 : Int32 → Int32 → Int32 → Mem → Option (Int32 × Mem)) (x1 : Int32) (x2 : Int32) (x3 : Int32) (M : Mem) : Option (Int32 × Mem) :=
  K21 x1 x2 (x3 + 1) M
set_option maxHeartbeats 4000000 in
theorem bm_window_114 {g : gM} {X : Cxt} {r : Int32} {M' : Mem} (O : OkM g X cX20_window 5 (some .int) 9 (mQi g r M')) {K21 : Int32 → Int32 → Int32 → Mem → Option (Int32 × Mem)} (hK21 : ∀ (x1 : Int32) (x2 : Int32) (x3 : Int32) (M : Mem), K21 x1 x2 x3 M = some (r, M') → V X 5 0 (WdM g M) 21 [(0, .ref (gMa g 0)), (1, .int x1), (2, .int x2), (3, .int x3)] []) (x1 : Int32) (x2 : Int32) (x3 : Int32) (M : Mem) (h : fm_window_114 K21 x1 x2 x3 M = some (r, M')) : V X 5 0 (WdM g M) 114 [(0, .ref (gMa g 0)), (1, .int x1), (2, .int x2), (3, .int x3)] [] := by
  unfold fm_window_114 at h
  refine v_iinc (lv' := [(3, .int (x3 + 1)), (0, .ref (gMa g 0)), (1, .int x1), (2, .int x2)]) (v := (x3 + 1)) O.1 dX20_window_114 rfl rfl (by decide) rfl (q := 117) rfl ?_
  refine v_goto O.1 dX20_window_117 (t := 21) (by decide) ?_
  exact v_sub [1, 2, 3, 0] rfl (hK21 x1 x2 (x3 + 1) M h)
def fm_window_100 (K21 : Int32 → Int32 → Int32 → Mem → Option (Int32 × Mem)) (x1 : Int32) (x2 : Int32) (x3 : Int32) (M : Mem) : Option (Int32 × Mem) :=
  if (M 0 16) = x1 then
    fm_window_114 K21 x1 (x2 ||| ((1 : Int32) <<< (x3 &&& 31))) x3 M
  else
    fm_window_114 K21 x1 x2 x3 M
set_option maxHeartbeats 4000000 in
theorem bm_window_100 {g : gM} {X : Cxt} {r : Int32} {M' : Mem} (O : OkM g X cX20_window 5 (some .int) 9 (mQi g r M')) {K21 : Int32 → Int32 → Int32 → Mem → Option (Int32 × Mem)} (hK21 : ∀ (x1 : Int32) (x2 : Int32) (x3 : Int32) (M : Mem), K21 x1 x2 x3 M = some (r, M') → V X 5 0 (WdM g M) 21 [(0, .ref (gMa g 0)), (1, .int x1), (2, .int x2), (3, .int x3)] []) (x1 : Int32) (x2 : Int32) (x3 : Int32) (M : Mem) (h : fm_window_100 K21 x1 x2 x3 M = some (r, M')) : V X 5 0 (WdM g M) 100 [(0, .ref (gMa g 0)), (1, .int x1), (2, .int x2), (3, .int x3)] [] := by
  unfold fm_window_100 at h
  refine v_aload_n O.1 dX20_window_100 rfl (q := 101) rfl ?_
  refine m_get O 16 (v := .int (M 0 16)) (by decide) q1748 rfl rfl dX20_window_101 (q := 104) rfl ?_
  refine v_iload_n O.1 dX20_window_104 rfl (q := 105) rfl ?_
  refine v_icmp_ne O.1 dX20_window_105 (t := 114) (by decide) (q := 108) rfl (fun c1 => ?_) (fun c1 => ?_)
  · rw [if_neg c1] at h
    exact v_sub [0, 1, 2, 3] rfl (bm_window_114 O hK21 x1 x2 x3 M h)
  · rw [if_pos c1] at h
    refine v_iload_n O.1 dX20_window_108 rfl (q := 109) rfl ?_
    refine v_iconst O.1 dX20_window_109 (v := 1) rfl (q := 110) rfl ?_
    refine v_iload_n O.1 dX20_window_110 rfl (q := 111) rfl ?_
    refine v_ishl O.1 dX20_window_111 (q := 112) rfl ?_
    refine v_ior O.1 dX20_window_112 (q := 113) rfl ?_
    refine v_istore_n (lv' := [(2, .int (x2 ||| ((1 : Int32) <<< (x3 &&& 31)))), (0, .ref (gMa g 0)), (1, .int x1), (3, .int x3)]) O.1 dX20_window_113 (by decide) rfl (q := 114) rfl ?_
    exact v_sub [1, 2, 0, 3] rfl (bm_window_114 O hK21 x1 (x2 ||| ((1 : Int32) <<< (x3 &&& 31))) x3 M h)
def fm_window_72b (K21 : Int32 → Int32 → Int32 → Mem → Option (Int32 × Mem)) (K72 : Int32 → Int32 → Int32 → Int32 → Mem → Option (Int32 × Mem)) (x1 : Int32) (x2 : Int32) (x3 : Int32) (x4 : Int32) (M : Mem) : Option (Int32 × Mem) :=
  if 40 ≤ x4 then
    fm_window_100 K21 x1 x2 x3 M
  else
    if 0 ≤ (M 0 16) then
      fm_window_100 K21 x1 x2 x3 M
    else
      bnd (fm_cycle 5 M) fun r3 M3 =>
      K72 x1 x2 x3 (x4 + 1) M3
set_option maxHeartbeats 4000000 in
theorem bm_window_72b {g : gM} {X : Cxt} {r : Int32} {M' : Mem} (O : OkM g X cX20_window 5 (some .int) 9 (mQi g r M')) {K21 : Int32 → Int32 → Int32 → Mem → Option (Int32 × Mem)} (hK21 : ∀ (x1 : Int32) (x2 : Int32) (x3 : Int32) (M : Mem), K21 x1 x2 x3 M = some (r, M') → V X 5 0 (WdM g M) 21 [(0, .ref (gMa g 0)), (1, .int x1), (2, .int x2), (3, .int x3)] []) {K72 : Int32 → Int32 → Int32 → Int32 → Mem → Option (Int32 × Mem)} (hK72 : ∀ (x1 : Int32) (x2 : Int32) (x3 : Int32) (x4 : Int32) (M : Mem), K72 x1 x2 x3 x4 M = some (r, M') → V X 5 0 (WdM g M) 72 [(0, .ref (gMa g 0)), (1, .int x1), (2, .int x2), (3, .int x3), (4, .int x4)] []) (x1 : Int32) (x2 : Int32) (x3 : Int32) (x4 : Int32) (M : Mem) (h : fm_window_72b K21 K72 x1 x2 x3 x4 M = some (r, M')) : V X 5 0 (WdM g M) 72 [(0, .ref (gMa g 0)), (1, .int x1), (2, .int x2), (3, .int x3), (4, .int x4)] [] := by
  unfold fm_window_72b at h
  refine v_iload O.1 dX20_window_72 rfl (q := 74) rfl ?_
  refine v_bipush O.1 dX20_window_74 (v := 40) (by decide) (q := 76) rfl ?_
  refine v_icmp_ge O.1 dX20_window_76 (t := 100) (by decide) (q := 79) rfl (fun c1 => ?_) (fun c1 => ?_)
  · rw [if_pos c1] at h
    exact v_sub [0, 1, 2, 3] rfl (bm_window_100 O hK21 x1 x2 x3 M h)
  · rw [if_neg c1] at h
    refine v_aload_n O.1 dX20_window_79 rfl (q := 80) rfl ?_
    refine m_get O 16 (v := .int (M 0 16)) (by decide) q1748 rfl rfl dX20_window_80 (q := 83) rfl ?_
    refine v_if_ge O.1 dX20_window_83 (t := 100) (by decide) (q := 86) rfl (fun c2 => ?_) (fun c2 => ?_)
    · rw [if_pos c2] at h
      exact v_sub [0, 1, 2, 3] rfl (bm_window_100 O hK21 x1 x2 x3 M h)
    · rw [if_neg c2] at h
      refine v_aload_n O.1 dX20_window_86 rfl (q := 87) rfl ?_
      refine v_aload_n O.1 dX20_window_87 rfl (q := 88) rfl ?_
      refine m_get O 5 (v := .ref (gMa g 5)) (by decide) q1737 rfl rfl dX20_window_88 (q := 91) rfl ?_
      obtain ⟨r3, M3, e3, h⟩ := bnd_some h
      refine m_callVv (As := [.ref (gMa g 5)]) (rest := []) (n := 1) O (met_cycle _ g 5 mS_5 M M3 r3 e3) (lw_V q1877 q1879 qs25 q84 q1880) (by decide +kernel) (by decide) (by decide) rfl rfl (Nat.le_of_ble_eq_true rfl) dX20_window_91 (q := 94) rfl ?_
      refine v_iinc (lv' := [(4, .int (x4 + 1)), (0, .ref (gMa g 0)), (1, .int x1), (2, .int x2), (3, .int x3)]) (v := (x4 + 1)) O.1 dX20_window_94 rfl rfl (by decide) rfl (q := 97) rfl ?_
      refine v_goto O.1 dX20_window_97 (t := 72) (by decide) ?_
      exact v_sub [1, 2, 3, 4, 0] rfl (hK72 x1 x2 x3 (x4 + 1) M3 h)
def fm_window_72 (K21 : Int32 → Int32 → Int32 → Mem → Option (Int32 × Mem)) (n : Nat) : Int32 → Int32 → Int32 → Int32 → Mem → Option (Int32 × Mem) := lpc (fm_window_72b K21) (fun _ _ _ _ _ => none) n
theorem bm_window_72 {g : gM} {X : Cxt} {r : Int32} {M' : Mem} (O : OkM g X cX20_window 5 (some .int) 9 (mQi g r M')) {K21 : Int32 → Int32 → Int32 → Mem → Option (Int32 × Mem)} (hK21 : ∀ (x1 : Int32) (x2 : Int32) (x3 : Int32) (M : Mem), K21 x1 x2 x3 M = some (r, M') → V X 5 0 (WdM g M) 21 [(0, .ref (gMa g 0)), (1, .int x1), (2, .int x2), (3, .int x3)] []) : ∀ (n : Nat) (x1 : Int32) (x2 : Int32) (x3 : Int32) (x4 : Int32) (M : Mem), fm_window_72 K21 n x1 x2 x3 x4 M = some (r, M') → V X 5 0 (WdM g M) 72 [(0, .ref (gMa g 0)), (1, .int x1), (2, .int x2), (3, .int x3), (4, .int x4)] [] := by
  intro n
  induction n with
  | zero =>
    intro x1 x2 x3 x4 M h
    cases h
  | succ n ih =>
    intro x1 x2 x3 x4 M h
    exact bm_window_72b O hK21 ih x1 x2 x3 x4 M h
def fm_window_35b (K21 : Int32 → Int32 → Int32 → Mem → Option (Int32 × Mem)) (K35 : Int32 → Int32 → Int32 → Int32 → Mem → Option (Int32 × Mem)) (x1 : Int32) (x2 : Int32) (x3 : Int32) (x4 : Int32) (M : Mem) : Option (Int32 × Mem) :=
  if x3 ≤ x4 then
    bnd (fm_pends 5 x1 M) fun r2 M2 =>
    stp (up2 M2 0 16 (-1)) fun M3 =>
    fm_window_72 K21 600 x1 x2 x3 0 M3
  else
    bnd (fm_cycle 5 M) fun r4 M4 =>
    K35 x1 x2 x3 (x4 + 1) M4
set_option maxHeartbeats 4000000 in
theorem bm_window_35b {g : gM} {X : Cxt} {r : Int32} {M' : Mem} (O : OkM g X cX20_window 5 (some .int) 9 (mQi g r M')) {K21 : Int32 → Int32 → Int32 → Mem → Option (Int32 × Mem)} (hK21 : ∀ (x1 : Int32) (x2 : Int32) (x3 : Int32) (M : Mem), K21 x1 x2 x3 M = some (r, M') → V X 5 0 (WdM g M) 21 [(0, .ref (gMa g 0)), (1, .int x1), (2, .int x2), (3, .int x3)] []) {K35 : Int32 → Int32 → Int32 → Int32 → Mem → Option (Int32 × Mem)} (hK35 : ∀ (x1 : Int32) (x2 : Int32) (x3 : Int32) (x4 : Int32) (M : Mem), K35 x1 x2 x3 x4 M = some (r, M') → V X 5 0 (WdM g M) 35 [(0, .ref (gMa g 0)), (1, .int x1), (2, .int x2), (3, .int x3), (4, .int x4)] []) (x1 : Int32) (x2 : Int32) (x3 : Int32) (x4 : Int32) (M : Mem) (h : fm_window_35b K21 K35 x1 x2 x3 x4 M = some (r, M')) : V X 5 0 (WdM g M) 35 [(0, .ref (gMa g 0)), (1, .int x1), (2, .int x2), (3, .int x3), (4, .int x4)] [] := by
  unfold fm_window_35b at h
  refine v_iload O.1 dX20_window_35 rfl (q := 37) rfl ?_
  refine v_iload_n O.1 dX20_window_37 rfl (q := 38) rfl ?_
  refine v_icmp_ge O.1 dX20_window_38 (t := 55) (by decide) (q := 41) rfl (fun c1 => ?_) (fun c1 => ?_)
  · rw [if_pos c1] at h
    refine v_aload_n O.1 dX20_window_55 rfl (q := 56) rfl ?_
    refine v_aload_n O.1 dX20_window_56 rfl (q := 57) rfl ?_
    refine m_get O 5 (v := .ref (gMa g 5)) (by decide) q1737 rfl rfl dX20_window_57 (q := 60) rfl ?_
    refine v_iload_n O.1 dX20_window_60 rfl (q := 61) rfl ?_
    obtain ⟨r2, M2, e2, h⟩ := bnd_some h
    refine m_callVv (As := [.ref (gMa g 5), .int x1]) (rest := []) (n := 2) O (met_pends _ g 5 mS_5 x1 M M2 r2 e2) (lw_V q1845 q1847 qs22 q84 q1848) (by decide +kernel) (by decide) (by decide) rfl rfl (Nat.le_of_ble_eq_true rfl) dX20_window_61 (q := 64) rfl ?_
    refine v_aload_n O.1 dX20_window_64 rfl (q := 65) rfl ?_
    refine v_iconst O.1 dX20_window_65 (v := (-1)) rfl (q := 66) rfl ?_
    obtain ⟨M3, e3, h⟩ := stp_some h
    refine m_put O 16 (ty := .int) (by decide) q1748 rfl rfl rfl rfl rfl rfl dX20_window_66 (q := 69) rfl e3 ?_
    refine v_iconst O.1 dX20_window_69 (v := 0) rfl (q := 70) rfl ?_
    refine v_istore (lv' := [(4, .int 0), (0, .ref (gMa g 0)), (1, .int x1), (2, .int x2), (3, .int x3)]) O.1 dX20_window_70 (by decide) rfl (q := 72) rfl ?_
    exact v_sub [1, 2, 3, 4, 0] rfl (bm_window_72 O hK21 600 x1 x2 x3 0 M3 h)
  · rw [if_neg c1] at h
    refine v_aload_n O.1 dX20_window_41 rfl (q := 42) rfl ?_
    refine v_aload_n O.1 dX20_window_42 rfl (q := 43) rfl ?_
    refine m_get O 5 (v := .ref (gMa g 5)) (by decide) q1737 rfl rfl dX20_window_43 (q := 46) rfl ?_
    obtain ⟨r4, M4, e4, h⟩ := bnd_some h
    refine m_callVv (As := [.ref (gMa g 5)]) (rest := []) (n := 1) O (met_cycle _ g 5 mS_5 M M4 r4 e4) (lw_V q1877 q1879 qs25 q84 q1880) (by decide +kernel) (by decide) (by decide) rfl rfl (Nat.le_of_ble_eq_true rfl) dX20_window_46 (q := 49) rfl ?_
    refine v_iinc (lv' := [(4, .int (x4 + 1)), (0, .ref (gMa g 0)), (1, .int x1), (2, .int x2), (3, .int x3)]) (v := (x4 + 1)) O.1 dX20_window_49 rfl rfl (by decide) rfl (q := 52) rfl ?_
    refine v_goto O.1 dX20_window_52 (t := 35) (by decide) ?_
    exact v_sub [1, 2, 3, 4, 0] rfl (hK35 x1 x2 x3 (x4 + 1) M4 h)
def fm_window_35 (K21 : Int32 → Int32 → Int32 → Mem → Option (Int32 × Mem)) (n : Nat) : Int32 → Int32 → Int32 → Int32 → Mem → Option (Int32 × Mem) := lpc (fm_window_35b K21) (fun _ _ _ _ _ => none) n
theorem bm_window_35 {g : gM} {X : Cxt} {r : Int32} {M' : Mem} (O : OkM g X cX20_window 5 (some .int) 9 (mQi g r M')) {K21 : Int32 → Int32 → Int32 → Mem → Option (Int32 × Mem)} (hK21 : ∀ (x1 : Int32) (x2 : Int32) (x3 : Int32) (M : Mem), K21 x1 x2 x3 M = some (r, M') → V X 5 0 (WdM g M) 21 [(0, .ref (gMa g 0)), (1, .int x1), (2, .int x2), (3, .int x3)] []) : ∀ (n : Nat) (x1 : Int32) (x2 : Int32) (x3 : Int32) (x4 : Int32) (M : Mem), fm_window_35 K21 n x1 x2 x3 x4 M = some (r, M') → V X 5 0 (WdM g M) 35 [(0, .ref (gMa g 0)), (1, .int x1), (2, .int x2), (3, .int x3), (4, .int x4)] [] := by
  intro n
  induction n with
  | zero =>
    intro x1 x2 x3 x4 M h
    cases h
  | succ n ih =>
    intro x1 x2 x3 x4 M h
    exact bm_window_35b O hK21 ih x1 x2 x3 x4 M h
def fm_window_21b (K21 : Int32 → Int32 → Int32 → Mem → Option (Int32 × Mem)) (x1 : Int32) (x2 : Int32) (x3 : Int32) (M : Mem) : Option (Int32 × Mem) :=
  if 20 ≤ x3 then
    some (x2, M)
  else
    bnd (fm_likeNow 0 M) fun r2 M2 =>
    fm_window_35 K21 600 x1 x2 x3 0 M2
set_option maxHeartbeats 4000000 in
theorem bm_window_21b {g : gM} {X : Cxt} {r : Int32} {M' : Mem} (O : OkM g X cX20_window 5 (some .int) 9 (mQi g r M')) {K21 : Int32 → Int32 → Int32 → Mem → Option (Int32 × Mem)} (hK21 : ∀ (x1 : Int32) (x2 : Int32) (x3 : Int32) (M : Mem), K21 x1 x2 x3 M = some (r, M') → V X 5 0 (WdM g M) 21 [(0, .ref (gMa g 0)), (1, .int x1), (2, .int x2), (3, .int x3)] []) (x1 : Int32) (x2 : Int32) (x3 : Int32) (M : Mem) (h : fm_window_21b K21 x1 x2 x3 M = some (r, M')) : V X 5 0 (WdM g M) 21 [(0, .ref (gMa g 0)), (1, .int x1), (2, .int x2), (3, .int x3)] [] := by
  unfold fm_window_21b at h
  refine v_iload_n O.1 dX20_window_21 rfl (q := 22) rfl ?_
  refine v_bipush O.1 dX20_window_22 (v := 20) (by decide) (q := 24) rfl ?_
  refine v_icmp_ge O.1 dX20_window_24 (t := 120) (by decide) (q := 27) rfl (fun c1 => ?_) (fun c1 => ?_)
  · rw [if_pos c1] at h
    refine v_iload_n O.1 dX20_window_120 rfl (q := 121) rfl ?_
    exact m_iret O h dX20_window_121
  · rw [if_neg c1] at h
    refine v_aload_n O.1 dX20_window_27 rfl (q := 28) rfl ?_
    refine v_iconst O.1 dX20_window_28 (v := 0) rfl (q := 29) rfl ?_
    obtain ⟨r2, M2, e2, h⟩ := bnd_some h
    refine m_callVv (As := [.int 0]) (rest := []) (n := 1) O (met_likeNow _ g 0 M M2 r2 e2) (lw_V q2106 q2108 qs52 q84 q2109) (by decide +kernel) (by decide) (by decide) rfl rfl (Nat.le_of_ble_eq_true rfl) dX20_window_29 (q := 32) rfl ?_
    refine v_iconst O.1 dX20_window_32 (v := 0) rfl (q := 33) rfl ?_
    refine v_istore (lv' := [(4, .int 0), (0, .ref (gMa g 0)), (1, .int x1), (2, .int x2), (3, .int x3)]) O.1 dX20_window_33 (by decide) rfl (q := 35) rfl ?_
    exact v_sub [1, 2, 3, 4, 0] rfl (bm_window_35 O hK21 600 x1 x2 x3 0 M2 h)
def fm_window_21 (n : Nat) : Int32 → Int32 → Int32 → Mem → Option (Int32 × Mem) := lpc (fm_window_21b) (fun _ _ _ _ => none) n
theorem bm_window_21 {g : gM} {X : Cxt} {r : Int32} {M' : Mem} (O : OkM g X cX20_window 5 (some .int) 9 (mQi g r M')) : ∀ (n : Nat) (x1 : Int32) (x2 : Int32) (x3 : Int32) (M : Mem), fm_window_21 n x1 x2 x3 M = some (r, M') → V X 5 0 (WdM g M) 21 [(0, .ref (gMa g 0)), (1, .int x1), (2, .int x2), (3, .int x3)] [] := by
  intro n
  induction n with
  | zero =>
    intro x1 x2 x3 M h
    cases h
  | succ n ih =>
    intro x1 x2 x3 M h
    exact bm_window_21b O ih x1 x2 x3 M h
def fm_window (x1 : Int32) (M : Mem) : Option (Int32 × Mem) :=
  stp (up2 M 0 17 0) fun M1 =>
  bnd (fm_within x1 0 17 M1) fun r2 M2 =>
  if r2 = 0 then
    some ((-1), M2)
  else
    fm_window_21 600 x1 0 0 M2
set_option maxHeartbeats 4000000 in
theorem bm_window {g : gM} {X : Cxt} {r : Int32} {M' : Mem} (O : OkM g X cX20_window 5 (some .int) 9 (mQi g r M')) (x1 : Int32) (M : Mem) (h : fm_window x1 M = some (r, M')) : V X 5 0 (WdM g M) 0 [(0, .ref (gMa g 0)), (1, .int x1)] [] := by
  unfold fm_window at h
  refine v_aload_n O.1 dX20_window_0 rfl (q := 1) rfl ?_
  refine v_iconst O.1 dX20_window_1 (v := 0) rfl (q := 2) rfl ?_
  obtain ⟨M1, e1, h⟩ := stp_some h
  refine m_put O 17 (ty := .int) (by decide) q1749 rfl rfl rfl rfl rfl rfl dX20_window_2 (q := 5) rfl e1 ?_
  refine v_iload_n O.1 dX20_window_5 rfl (q := 6) rfl ?_
  refine v_iconst O.1 dX20_window_6 (v := 0) rfl (q := 7) rfl ?_
  refine v_bipush O.1 dX20_window_7 (v := 17) (by decide) (q := 9) rfl ?_
  obtain ⟨r2, M2, e2, h⟩ := bnd_some h
  refine m_callSi (As := [.int x1, .int 0, .int 17]) (rest := []) (n := 3) O (met_within _ g x1 0 17 M1 M2 r2 e2) (lw_S q1817 q1818 q84 q1819) (by decide +kernel) (by decide) (by decide) rfl rfl (Nat.le_of_ble_eq_true rfl) dX20_window_9 (q := 12) rfl ?_
  refine v_if_ne O.1 dX20_window_12 (t := 17) (by decide) (q := 15) rfl (fun c3 => ?_) (fun c3 => ?_)
  · rw [if_neg c3] at h
    refine v_iconst O.1 dX20_window_17 (v := 0) rfl (q := 18) rfl ?_
    refine v_istore_n (lv' := [(2, .int 0), (0, .ref (gMa g 0)), (1, .int x1)]) O.1 dX20_window_18 (by decide) rfl (q := 19) rfl ?_
    refine v_iconst O.1 dX20_window_19 (v := 0) rfl (q := 20) rfl ?_
    refine v_istore_n (lv' := [(3, .int 0), (2, .int 0), (0, .ref (gMa g 0)), (1, .int x1)]) O.1 dX20_window_20 (by decide) rfl (q := 21) rfl ?_
    exact v_sub [2, 3, 1, 0] rfl (bm_window_21 O 600 x1 0 0 M2 h)
  · rw [if_pos c3] at h
    refine v_iconst O.1 dX20_window_15 (v := (-1)) rfl (q := 16) rfl ?_
    exact m_iret O h dX20_window_16
theorem met_window (l : Launch) (g : gM) (x1 : Int32) (M M' : Mem) (r : Int32) (h : fm_window x1 M = some (r, M')) : MetM l g yX20_window cX20_window 5 (some .int) 9 [.ref (gMa g 0), .int x1] M (mQi g r M') :=
  m_met (by decide) rfl (Nat.le_of_ble_eq_true rfl) (fun X O => bm_window O x1 M h)
/-! isLikeNow()Z -/
def fm_isLikeNow_47  (M : Mem) : Option (Int32 × Mem) :=
  some (0, M)
set_option maxHeartbeats 4000000 in
theorem bm_isLikeNow_47 {g : gM} {X : Cxt} {r : Int32} {M' : Mem} (O : OkM g X cX20_isLikeNow 2 (some .boolean) 0 (mQi g r M'))  (M : Mem) (h : fm_isLikeNow_47  M = some (r, M')) : V X 2 0 (WdM g M) 47 [] [] := by
  unfold fm_isLikeNow_47 at h
  refine v_iconst O.1 dX20_isLikeNow_47 (v := 0) rfl (q := 48) rfl ?_
  exact m_zret O (by decide) h dX20_isLikeNow_48
def fm_isLikeNow_128 (y0 : Int32) (M : Mem) : Option (Int32 × Mem) :=
  gd (isB y0) <|
  some (y0, M)
set_option maxHeartbeats 4000000 in
theorem bm_isLikeNow_128 {g : gM} {X : Cxt} {r : Int32} {M' : Mem} (O : OkM g X cX20_isLikeNow 2 (some .boolean) 0 (mQi g r M')) (y0 : Int32) (M : Mem) (h : fm_isLikeNow_128 y0 M = some (r, M')) : V X 2 0 (WdM g M) 128 [] [.int y0] := by
  unfold fm_isLikeNow_128 at h
  obtain ⟨g1, h⟩ := gd_some h
  exact m_zret O g1 h dX20_isLikeNow_128
def fm_isLikeNow_127  (M : Mem) : Option (Int32 × Mem) :=
  fm_isLikeNow_128 0 M
set_option maxHeartbeats 4000000 in
theorem bm_isLikeNow_127 {g : gM} {X : Cxt} {r : Int32} {M' : Mem} (O : OkM g X cX20_isLikeNow 2 (some .boolean) 0 (mQi g r M'))  (M : Mem) (h : fm_isLikeNow_127  M = some (r, M')) : V X 2 0 (WdM g M) 127 [] [] := by
  unfold fm_isLikeNow_127 at h
  refine v_iconst O.1 dX20_isLikeNow_127 (v := 0) rfl (q := 128) rfl ?_
  exact v_sub [] rfl (bm_isLikeNow_128 O 0 M h)
def fm_isLikeNow_2b (K2 : Int32 → Mem → Option (Int32 × Mem)) (x1 : Int32) (M : Mem) : Option (Int32 × Mem) :=
  if 4 ≤ x1 then
    if (M 5 12) = (M 4 12) then
      if (M 5 13) = (M 4 13) then
        if (M 5 14) = (M 4 14) then
          if (M 5 15) = (M 4 15) then
            fm_isLikeNow_128 1 M
          else
            fm_isLikeNow_127 M
        else
          fm_isLikeNow_127 M
      else
        fm_isLikeNow_127 M
    else
      fm_isLikeNow_127 M
  else
    gd (inb (0 + x1) 342) <|
    gd (inb (0 + x1) 342) <|
    if (M 5 (0 + x1).toNatClampNeg) = (M 4 (0 + x1).toNatClampNeg) then
      gd (inb (8 + x1) 342) <|
      gd (inb (8 + x1) 342) <|
      if (M 5 (8 + x1).toNatClampNeg) = (M 4 (8 + x1).toNatClampNeg) then
        K2 (x1 + 1) M
      else
        fm_isLikeNow_47 M
    else
      fm_isLikeNow_47 M
set_option maxHeartbeats 4000000 in
theorem bm_isLikeNow_2b {g : gM} {X : Cxt} {r : Int32} {M' : Mem} (O : OkM g X cX20_isLikeNow 2 (some .boolean) 0 (mQi g r M')) {K2 : Int32 → Mem → Option (Int32 × Mem)} (hK2 : ∀ (x1 : Int32) (M : Mem), K2 x1 M = some (r, M') → V X 2 0 (WdM g M) 2 [(0, .ref (gMa g 0)), (1, .int x1)] []) (x1 : Int32) (M : Mem) (h : fm_isLikeNow_2b K2 x1 M = some (r, M')) : V X 2 0 (WdM g M) 2 [(0, .ref (gMa g 0)), (1, .int x1)] [] := by
  unfold fm_isLikeNow_2b at h
  refine v_iload_n O.1 dX20_isLikeNow_2 rfl (q := 3) rfl ?_
  refine v_iconst O.1 dX20_isLikeNow_3 (v := 4) rfl (q := 4) rfl ?_
  refine v_icmp_ge O.1 dX20_isLikeNow_4 (t := 55) (by decide) (q := 7) rfl (fun c1 => ?_) (fun c1 => ?_)
  · rw [if_pos c1] at h
    refine v_aload_n O.1 dX20_isLikeNow_55 rfl (q := 56) rfl ?_
    refine m_get O 5 (v := .ref (gMa g 5)) (by decide) q1737 rfl rfl dX20_isLikeNow_56 (q := 59) rfl ?_
    refine v_bipush O.1 dX20_isLikeNow_59 (v := 12) (by decide) (q := 61) rfl ?_
    refine m_iald O rfl rfl (n := 342) (by decide) (by decide) (j := 12) dX20_isLikeNow_61 (q := 62) rfl ?_
    refine v_aload_n O.1 dX20_isLikeNow_62 rfl (q := 63) rfl ?_
    refine m_get O 4 (v := .ref (gMa g 4)) (by decide) q1736 rfl rfl dX20_isLikeNow_63 (q := 66) rfl ?_
    refine v_bipush O.1 dX20_isLikeNow_66 (v := 12) (by decide) (q := 68) rfl ?_
    refine m_iald O rfl rfl (n := 342) (by decide) (by decide) (j := 12) dX20_isLikeNow_68 (q := 69) rfl ?_
    refine v_icmp_ne O.1 dX20_isLikeNow_69 (t := 127) (by decide) (q := 72) rfl (fun c2 => ?_) (fun c2 => ?_)
    · rw [if_neg c2] at h
      exact v_sub [] rfl (bm_isLikeNow_127 O M h)
    · rw [if_pos c2] at h
      refine v_aload_n O.1 dX20_isLikeNow_72 rfl (q := 73) rfl ?_
      refine m_get O 5 (v := .ref (gMa g 5)) (by decide) q1737 rfl rfl dX20_isLikeNow_73 (q := 76) rfl ?_
      refine v_bipush O.1 dX20_isLikeNow_76 (v := 13) (by decide) (q := 78) rfl ?_
      refine m_iald O rfl rfl (n := 342) (by decide) (by decide) (j := 13) dX20_isLikeNow_78 (q := 79) rfl ?_
      refine v_aload_n O.1 dX20_isLikeNow_79 rfl (q := 80) rfl ?_
      refine m_get O 4 (v := .ref (gMa g 4)) (by decide) q1736 rfl rfl dX20_isLikeNow_80 (q := 83) rfl ?_
      refine v_bipush O.1 dX20_isLikeNow_83 (v := 13) (by decide) (q := 85) rfl ?_
      refine m_iald O rfl rfl (n := 342) (by decide) (by decide) (j := 13) dX20_isLikeNow_85 (q := 86) rfl ?_
      refine v_icmp_ne O.1 dX20_isLikeNow_86 (t := 127) (by decide) (q := 89) rfl (fun c3 => ?_) (fun c3 => ?_)
      · rw [if_neg c3] at h
        exact v_sub [] rfl (bm_isLikeNow_127 O M h)
      · rw [if_pos c3] at h
        refine v_aload_n O.1 dX20_isLikeNow_89 rfl (q := 90) rfl ?_
        refine m_get O 5 (v := .ref (gMa g 5)) (by decide) q1737 rfl rfl dX20_isLikeNow_90 (q := 93) rfl ?_
        refine v_bipush O.1 dX20_isLikeNow_93 (v := 14) (by decide) (q := 95) rfl ?_
        refine m_iald O rfl rfl (n := 342) (by decide) (by decide) (j := 14) dX20_isLikeNow_95 (q := 96) rfl ?_
        refine v_aload_n O.1 dX20_isLikeNow_96 rfl (q := 97) rfl ?_
        refine m_get O 4 (v := .ref (gMa g 4)) (by decide) q1736 rfl rfl dX20_isLikeNow_97 (q := 100) rfl ?_
        refine v_bipush O.1 dX20_isLikeNow_100 (v := 14) (by decide) (q := 102) rfl ?_
        refine m_iald O rfl rfl (n := 342) (by decide) (by decide) (j := 14) dX20_isLikeNow_102 (q := 103) rfl ?_
        refine v_icmp_ne O.1 dX20_isLikeNow_103 (t := 127) (by decide) (q := 106) rfl (fun c4 => ?_) (fun c4 => ?_)
        · rw [if_neg c4] at h
          exact v_sub [] rfl (bm_isLikeNow_127 O M h)
        · rw [if_pos c4] at h
          refine v_aload_n O.1 dX20_isLikeNow_106 rfl (q := 107) rfl ?_
          refine m_get O 5 (v := .ref (gMa g 5)) (by decide) q1737 rfl rfl dX20_isLikeNow_107 (q := 110) rfl ?_
          refine v_bipush O.1 dX20_isLikeNow_110 (v := 15) (by decide) (q := 112) rfl ?_
          refine m_iald O rfl rfl (n := 342) (by decide) (by decide) (j := 15) dX20_isLikeNow_112 (q := 113) rfl ?_
          refine v_aload_n O.1 dX20_isLikeNow_113 rfl (q := 114) rfl ?_
          refine m_get O 4 (v := .ref (gMa g 4)) (by decide) q1736 rfl rfl dX20_isLikeNow_114 (q := 117) rfl ?_
          refine v_bipush O.1 dX20_isLikeNow_117 (v := 15) (by decide) (q := 119) rfl ?_
          refine m_iald O rfl rfl (n := 342) (by decide) (by decide) (j := 15) dX20_isLikeNow_119 (q := 120) rfl ?_
          refine v_icmp_ne O.1 dX20_isLikeNow_120 (t := 127) (by decide) (q := 123) rfl (fun c5 => ?_) (fun c5 => ?_)
          · rw [if_neg c5] at h
            exact v_sub [] rfl (bm_isLikeNow_127 O M h)
          · rw [if_pos c5] at h
            refine v_iconst O.1 dX20_isLikeNow_123 (v := 1) rfl (q := 124) rfl ?_
            refine v_goto O.1 dX20_isLikeNow_124 (t := 128) (by decide) ?_
            exact v_sub [] rfl (bm_isLikeNow_128 O 1 M h)
  · rw [if_neg c1] at h
    refine v_aload_n O.1 dX20_isLikeNow_7 rfl (q := 8) rfl ?_
    refine m_get O 5 (v := .ref (gMa g 5)) (by decide) q1737 rfl rfl dX20_isLikeNow_8 (q := 11) rfl ?_
    refine v_iconst O.1 dX20_isLikeNow_11 (v := 0) rfl (q := 12) rfl ?_
    refine v_iload_n O.1 dX20_isLikeNow_12 rfl (q := 13) rfl ?_
    refine v_iadd O.1 dX20_isLikeNow_13 (q := 14) rfl ?_
    obtain ⟨g6, h⟩ := gd_some h
    refine m_iald O rfl rfl (n := 342) g6 rfl (j := (0 + x1).toNatClampNeg) dX20_isLikeNow_14 (q := 15) rfl ?_
    refine v_aload_n O.1 dX20_isLikeNow_15 rfl (q := 16) rfl ?_
    refine m_get O 4 (v := .ref (gMa g 4)) (by decide) q1736 rfl rfl dX20_isLikeNow_16 (q := 19) rfl ?_
    refine v_iconst O.1 dX20_isLikeNow_19 (v := 0) rfl (q := 20) rfl ?_
    refine v_iload_n O.1 dX20_isLikeNow_20 rfl (q := 21) rfl ?_
    refine v_iadd O.1 dX20_isLikeNow_21 (q := 22) rfl ?_
    obtain ⟨g7, h⟩ := gd_some h
    refine m_iald O rfl rfl (n := 342) g7 rfl (j := (0 + x1).toNatClampNeg) dX20_isLikeNow_22 (q := 23) rfl ?_
    refine v_icmp_ne O.1 dX20_isLikeNow_23 (t := 47) (by decide) (q := 26) rfl (fun c8 => ?_) (fun c8 => ?_)
    · rw [if_neg c8] at h
      exact v_sub [] rfl (bm_isLikeNow_47 O M h)
    · rw [if_pos c8] at h
      refine v_aload_n O.1 dX20_isLikeNow_26 rfl (q := 27) rfl ?_
      refine m_get O 5 (v := .ref (gMa g 5)) (by decide) q1737 rfl rfl dX20_isLikeNow_27 (q := 30) rfl ?_
      refine v_bipush O.1 dX20_isLikeNow_30 (v := 8) (by decide) (q := 32) rfl ?_
      refine v_iload_n O.1 dX20_isLikeNow_32 rfl (q := 33) rfl ?_
      refine v_iadd O.1 dX20_isLikeNow_33 (q := 34) rfl ?_
      obtain ⟨g9, h⟩ := gd_some h
      refine m_iald O rfl rfl (n := 342) g9 rfl (j := (8 + x1).toNatClampNeg) dX20_isLikeNow_34 (q := 35) rfl ?_
      refine v_aload_n O.1 dX20_isLikeNow_35 rfl (q := 36) rfl ?_
      refine m_get O 4 (v := .ref (gMa g 4)) (by decide) q1736 rfl rfl dX20_isLikeNow_36 (q := 39) rfl ?_
      refine v_bipush O.1 dX20_isLikeNow_39 (v := 8) (by decide) (q := 41) rfl ?_
      refine v_iload_n O.1 dX20_isLikeNow_41 rfl (q := 42) rfl ?_
      refine v_iadd O.1 dX20_isLikeNow_42 (q := 43) rfl ?_
      obtain ⟨g10, h⟩ := gd_some h
      refine m_iald O rfl rfl (n := 342) g10 rfl (j := (8 + x1).toNatClampNeg) dX20_isLikeNow_43 (q := 44) rfl ?_
      refine v_icmp_eq O.1 dX20_isLikeNow_44 (t := 49) (by decide) (q := 47) rfl (fun c11 => ?_) (fun c11 => ?_)
      · rw [if_pos c11] at h
        refine v_iinc (lv' := [(1, .int (x1 + 1)), (0, .ref (gMa g 0))]) (v := (x1 + 1)) O.1 dX20_isLikeNow_49 rfl rfl (by decide) rfl (q := 52) rfl ?_
        refine v_goto O.1 dX20_isLikeNow_52 (t := 2) (by decide) ?_
        exact v_sub [1, 0] rfl (hK2 (x1 + 1) M h)
      · rw [if_neg c11] at h
        exact v_sub [] rfl (bm_isLikeNow_47 O M h)
def fm_isLikeNow_2 (n : Nat) : Int32 → Mem → Option (Int32 × Mem) := lpc (fm_isLikeNow_2b) (fun _ _ => none) n
theorem bm_isLikeNow_2 {g : gM} {X : Cxt} {r : Int32} {M' : Mem} (O : OkM g X cX20_isLikeNow 2 (some .boolean) 0 (mQi g r M')) : ∀ (n : Nat) (x1 : Int32) (M : Mem), fm_isLikeNow_2 n x1 M = some (r, M') → V X 2 0 (WdM g M) 2 [(0, .ref (gMa g 0)), (1, .int x1)] [] := by
  intro n
  induction n with
  | zero =>
    intro x1 M h
    cases h
  | succ n ih =>
    intro x1 M h
    exact bm_isLikeNow_2b O ih x1 M h
def fm_isLikeNow  (M : Mem) : Option (Int32 × Mem) :=
  fm_isLikeNow_2 600 0 M
set_option maxHeartbeats 4000000 in
theorem bm_isLikeNow {g : gM} {X : Cxt} {r : Int32} {M' : Mem} (O : OkM g X cX20_isLikeNow 2 (some .boolean) 0 (mQi g r M'))  (M : Mem) (h : fm_isLikeNow  M = some (r, M')) : V X 2 0 (WdM g M) 0 [(0, .ref (gMa g 0))] [] := by
  unfold fm_isLikeNow at h
  refine v_iconst O.1 dX20_isLikeNow_0 (v := 0) rfl (q := 1) rfl ?_
  refine v_istore_n (lv' := [(1, .int 0), (0, .ref (gMa g 0))]) O.1 dX20_isLikeNow_1 (by decide) rfl (q := 2) rfl ?_
  exact v_sub [1, 0] rfl (bm_isLikeNow_2 O 600 0 M h)
theorem met_isLikeNow (l : Launch) (g : gM)  (M M' : Mem) (r : Int32) (h : fm_isLikeNow  M = some (r, M')) : MetM l g yX20_isLikeNow cX20_isLikeNow 2 (some .boolean) 0 [.ref (gMa g 0)] M (mQi g r M') :=
  m_met (by decide) rfl (Nat.le_of_ble_eq_true rfl) (fun X O => bm_isLikeNow O  M h)
/-! keeps()I -/
def fm_keeps_36  (M : Mem) : Option (Int32 × Mem) :=
  some ((-1), M)
set_option maxHeartbeats 4000000 in
theorem bm_keeps_36 {g : gM} {X : Cxt} {r : Int32} {M' : Mem} (O : OkM g X cX20_keeps 3 (some .int) 9 (mQi g r M'))  (M : Mem) (h : fm_keeps_36  M = some (r, M')) : V X 3 0 (WdM g M) 36 [] [] := by
  unfold fm_keeps_36 at h
  refine v_iconst O.1 dX20_keeps_36 (v := (-1)) rfl (q := 37) rfl ?_
  exact m_iret O h dX20_keeps_37
def fm_keeps_125 (K47 : Int32 → Int32 → Mem → Option (Int32 × Mem)) (x1 : Int32) (x2 : Int32) (M : Mem) : Option (Int32 × Mem) :=
  K47 x1 (x2 + 1) M
set_option maxHeartbeats 4000000 in
theorem bm_keeps_125 {g : gM} {X : Cxt} {r : Int32} {M' : Mem} (O : OkM g X cX20_keeps 3 (some .int) 9 (mQi g r M')) {K47 : Int32 → Int32 → Mem → Option (Int32 × Mem)} (hK47 : ∀ (x1 : Int32) (x2 : Int32) (M : Mem), K47 x1 x2 M = some (r, M') → V X 3 0 (WdM g M) 47 [(0, .ref (gMa g 0)), (1, .int x1), (2, .int x2)] []) (x1 : Int32) (x2 : Int32) (M : Mem) (h : fm_keeps_125 K47 x1 x2 M = some (r, M')) : V X 3 0 (WdM g M) 125 [(0, .ref (gMa g 0)), (1, .int x1), (2, .int x2)] [] := by
  unfold fm_keeps_125 at h
  refine v_iinc (lv' := [(2, .int (x2 + 1)), (0, .ref (gMa g 0)), (1, .int x1)]) (v := (x2 + 1)) O.1 dX20_keeps_125 rfl rfl (by decide) rfl (q := 128) rfl ?_
  refine v_goto O.1 dX20_keeps_128 (t := 47) (by decide) ?_
  exact v_sub [1, 2, 0] rfl (hK47 x1 (x2 + 1) M h)
def fm_keeps_124 (y0 : Int32) (M : Mem) : Option (Int32 × Mem) :=
  some (y0, M)
set_option maxHeartbeats 4000000 in
theorem bm_keeps_124 {g : gM} {X : Cxt} {r : Int32} {M' : Mem} (O : OkM g X cX20_keeps 3 (some .int) 9 (mQi g r M')) (y0 : Int32) (M : Mem) (h : fm_keeps_124 y0 M = some (r, M')) : V X 3 0 (WdM g M) 124 [] [.int y0] := by
  unfold fm_keeps_124 at h
  exact m_iret O h dX20_keeps_124
def fm_keeps_81 (K47 : Int32 → Int32 → Mem → Option (Int32 × Mem)) (x1 : Int32) (x2 : Int32) (M : Mem) : Option (Int32 × Mem) :=
  if x1 = 0 then
    fm_keeps_125 K47 x1 x2 M
  else
    if (M 5 30) = (M 4 30) then
      if (M 5 20) = 0 then
        bnd (fm_isLikeNow M) fun r4 M4 =>
        if r4 = 0 then
          fm_keeps_124 0 M4
        else
          fm_keeps_124 1 M4
      else
        fm_keeps_125 K47 x1 x2 M
    else
      fm_keeps_125 K47 x1 x2 M
set_option maxHeartbeats 4000000 in
theorem bm_keeps_81 {g : gM} {X : Cxt} {r : Int32} {M' : Mem} (O : OkM g X cX20_keeps 3 (some .int) 9 (mQi g r M')) {K47 : Int32 → Int32 → Mem → Option (Int32 × Mem)} (hK47 : ∀ (x1 : Int32) (x2 : Int32) (M : Mem), K47 x1 x2 M = some (r, M') → V X 3 0 (WdM g M) 47 [(0, .ref (gMa g 0)), (1, .int x1), (2, .int x2)] []) (x1 : Int32) (x2 : Int32) (M : Mem) (h : fm_keeps_81 K47 x1 x2 M = some (r, M')) : V X 3 0 (WdM g M) 81 [(0, .ref (gMa g 0)), (1, .int x1), (2, .int x2)] [] := by
  unfold fm_keeps_81 at h
  refine v_iload_n O.1 dX20_keeps_81 rfl (q := 82) rfl ?_
  refine v_if_eq O.1 dX20_keeps_82 (t := 125) (by decide) (q := 85) rfl (fun c1 => ?_) (fun c1 => ?_)
  · rw [if_pos c1] at h
    exact v_sub [0, 1, 2] rfl (bm_keeps_125 O hK47 x1 x2 M h)
  · rw [if_neg c1] at h
    refine v_aload_n O.1 dX20_keeps_85 rfl (q := 86) rfl ?_
    refine m_get O 5 (v := .ref (gMa g 5)) (by decide) q1737 rfl rfl dX20_keeps_86 (q := 89) rfl ?_
    refine v_bipush O.1 dX20_keeps_89 (v := 30) (by decide) (q := 91) rfl ?_
    refine m_iald O rfl rfl (n := 342) (by decide) (by decide) (j := 30) dX20_keeps_91 (q := 92) rfl ?_
    refine v_aload_n O.1 dX20_keeps_92 rfl (q := 93) rfl ?_
    refine m_get O 4 (v := .ref (gMa g 4)) (by decide) q1736 rfl rfl dX20_keeps_93 (q := 96) rfl ?_
    refine v_bipush O.1 dX20_keeps_96 (v := 30) (by decide) (q := 98) rfl ?_
    refine m_iald O rfl rfl (n := 342) (by decide) (by decide) (j := 30) dX20_keeps_98 (q := 99) rfl ?_
    refine v_icmp_ne O.1 dX20_keeps_99 (t := 125) (by decide) (q := 102) rfl (fun c2 => ?_) (fun c2 => ?_)
    · rw [if_neg c2] at h
      exact v_sub [0, 1, 2] rfl (bm_keeps_125 O hK47 x1 x2 M h)
    · rw [if_pos c2] at h
      refine v_aload_n O.1 dX20_keeps_102 rfl (q := 103) rfl ?_
      refine m_get O 5 (v := .ref (gMa g 5)) (by decide) q1737 rfl rfl dX20_keeps_103 (q := 106) rfl ?_
      refine v_bipush O.1 dX20_keeps_106 (v := 20) (by decide) (q := 108) rfl ?_
      refine m_iald O rfl rfl (n := 342) (by decide) (by decide) (j := 20) dX20_keeps_108 (q := 109) rfl ?_
      refine v_if_ne O.1 dX20_keeps_109 (t := 125) (by decide) (q := 112) rfl (fun c3 => ?_) (fun c3 => ?_)
      · rw [if_neg c3] at h
        exact v_sub [0, 1, 2] rfl (bm_keeps_125 O hK47 x1 x2 M h)
      · rw [if_pos c3] at h
        refine v_aload_n O.1 dX20_keeps_112 rfl (q := 113) rfl ?_
        obtain ⟨r4, M4, e4, h⟩ := bnd_some h
        refine m_callVi (As := []) (rest := []) (n := 0) O (met_isLikeNow _ g M M4 r4 e4) (lw_V q2126 q2128 qs53 q84 q2129) (by decide +kernel) (by decide) (by decide) rfl rfl (Nat.le_of_ble_eq_true rfl) dX20_keeps_113 (q := 116) rfl ?_
        refine v_if_eq O.1 dX20_keeps_116 (t := 123) (by decide) (q := 119) rfl (fun c5 => ?_) (fun c5 => ?_)
        · rw [if_pos c5] at h
          refine v_iconst O.1 dX20_keeps_123 (v := 0) rfl (q := 124) rfl ?_
          exact v_sub [] rfl (bm_keeps_124 O 0 M4 h)
        · rw [if_neg c5] at h
          refine v_iconst O.1 dX20_keeps_119 (v := 1) rfl (q := 120) rfl ?_
          refine v_goto O.1 dX20_keeps_120 (t := 124) (by decide) ?_
          exact v_sub [] rfl (bm_keeps_124 O 1 M4 h)
def fm_keeps_47b (K47 : Int32 → Int32 → Mem → Option (Int32 × Mem)) (x1 : Int32) (x2 : Int32) (M : Mem) : Option (Int32 × Mem) :=
  if 300 ≤ x2 then
    some ((-1), M)
  else
    bnd (fm_cycle 5 M) fun r2 M2 =>
    if (M2 5 30) ≤ (M2 4 30) then
      fm_keeps_81 K47 x1 x2 M2
    else
      fm_keeps_81 K47 1 x2 M2
set_option maxHeartbeats 4000000 in
theorem bm_keeps_47b {g : gM} {X : Cxt} {r : Int32} {M' : Mem} (O : OkM g X cX20_keeps 3 (some .int) 9 (mQi g r M')) {K47 : Int32 → Int32 → Mem → Option (Int32 × Mem)} (hK47 : ∀ (x1 : Int32) (x2 : Int32) (M : Mem), K47 x1 x2 M = some (r, M') → V X 3 0 (WdM g M) 47 [(0, .ref (gMa g 0)), (1, .int x1), (2, .int x2)] []) (x1 : Int32) (x2 : Int32) (M : Mem) (h : fm_keeps_47b K47 x1 x2 M = some (r, M')) : V X 3 0 (WdM g M) 47 [(0, .ref (gMa g 0)), (1, .int x1), (2, .int x2)] [] := by
  unfold fm_keeps_47b at h
  refine v_iload_n O.1 dX20_keeps_47 rfl (q := 48) rfl ?_
  refine v_sipush O.1 dX20_keeps_48 (v := 300) (by decide) (q := 51) rfl ?_
  refine v_icmp_ge O.1 dX20_keeps_51 (t := 131) (by decide) (q := 54) rfl (fun c1 => ?_) (fun c1 => ?_)
  · rw [if_pos c1] at h
    refine v_iconst O.1 dX20_keeps_131 (v := (-1)) rfl (q := 132) rfl ?_
    exact m_iret O h dX20_keeps_132
  · rw [if_neg c1] at h
    refine v_aload_n O.1 dX20_keeps_54 rfl (q := 55) rfl ?_
    refine v_aload_n O.1 dX20_keeps_55 rfl (q := 56) rfl ?_
    refine m_get O 5 (v := .ref (gMa g 5)) (by decide) q1737 rfl rfl dX20_keeps_56 (q := 59) rfl ?_
    obtain ⟨r2, M2, e2, h⟩ := bnd_some h
    refine m_callVv (As := [.ref (gMa g 5)]) (rest := []) (n := 1) O (met_cycle _ g 5 mS_5 M M2 r2 e2) (lw_V q1877 q1879 qs25 q84 q1880) (by decide +kernel) (by decide) (by decide) rfl rfl (Nat.le_of_ble_eq_true rfl) dX20_keeps_59 (q := 62) rfl ?_
    refine v_aload_n O.1 dX20_keeps_62 rfl (q := 63) rfl ?_
    refine m_get O 5 (v := .ref (gMa g 5)) (by decide) q1737 rfl rfl dX20_keeps_63 (q := 66) rfl ?_
    refine v_bipush O.1 dX20_keeps_66 (v := 30) (by decide) (q := 68) rfl ?_
    refine m_iald O rfl rfl (n := 342) (by decide) (by decide) (j := 30) dX20_keeps_68 (q := 69) rfl ?_
    refine v_aload_n O.1 dX20_keeps_69 rfl (q := 70) rfl ?_
    refine m_get O 4 (v := .ref (gMa g 4)) (by decide) q1736 rfl rfl dX20_keeps_70 (q := 73) rfl ?_
    refine v_bipush O.1 dX20_keeps_73 (v := 30) (by decide) (q := 75) rfl ?_
    refine m_iald O rfl rfl (n := 342) (by decide) (by decide) (j := 30) dX20_keeps_75 (q := 76) rfl ?_
    refine v_icmp_le O.1 dX20_keeps_76 (t := 81) (by decide) (q := 79) rfl (fun c3 => ?_) (fun c3 => ?_)
    · rw [if_pos c3] at h
      exact v_sub [0, 1, 2] rfl (bm_keeps_81 O hK47 x1 x2 M2 h)
    · rw [if_neg c3] at h
      refine v_iconst O.1 dX20_keeps_79 (v := 1) rfl (q := 80) rfl ?_
      refine v_istore_n (lv' := [(1, .int 1), (0, .ref (gMa g 0)), (2, .int x2)]) O.1 dX20_keeps_80 (by decide) rfl (q := 81) rfl ?_
      exact v_sub [1, 0, 2] rfl (bm_keeps_81 O hK47 1 x2 M2 h)
def fm_keeps_47 (n : Nat) : Int32 → Int32 → Mem → Option (Int32 × Mem) := lpc (fm_keeps_47b) (fun _ _ _ => none) n
theorem bm_keeps_47 {g : gM} {X : Cxt} {r : Int32} {M' : Mem} (O : OkM g X cX20_keeps 3 (some .int) 9 (mQi g r M')) : ∀ (n : Nat) (x1 : Int32) (x2 : Int32) (M : Mem), fm_keeps_47 n x1 x2 M = some (r, M') → V X 3 0 (WdM g M) 47 [(0, .ref (gMa g 0)), (1, .int x1), (2, .int x2)] [] := by
  intro n
  induction n with
  | zero =>
    intro x1 x2 M h
    cases h
  | succ n ih =>
    intro x1 x2 M h
    exact bm_keeps_47b O ih x1 x2 M h
def fm_keeps  (M : Mem) : Option (Int32 × Mem) :=
  stp (up2 M 0 17 0) fun M1 =>
  if (M1 4 20) = 0 then
    if (M1 4 22) = 0 then
      bnd (fm_nextOf 4 M1) fun r4 M4 =>
      if 0 ≤ r4 then
        bnd (fm_likeNow 0 M4) fun r6 M6 =>
        fm_keeps_47 600 0 0 M6
      else
        fm_keeps_36 M4
    else
      fm_keeps_36 M1
  else
    fm_keeps_36 M1
set_option maxHeartbeats 4000000 in
theorem bm_keeps {g : gM} {X : Cxt} {r : Int32} {M' : Mem} (O : OkM g X cX20_keeps 3 (some .int) 9 (mQi g r M'))  (M : Mem) (h : fm_keeps  M = some (r, M')) : V X 3 0 (WdM g M) 0 [(0, .ref (gMa g 0))] [] := by
  unfold fm_keeps at h
  refine v_aload_n O.1 dX20_keeps_0 rfl (q := 1) rfl ?_
  refine v_iconst O.1 dX20_keeps_1 (v := 0) rfl (q := 2) rfl ?_
  obtain ⟨M1, e1, h⟩ := stp_some h
  refine m_put O 17 (ty := .int) (by decide) q1749 rfl rfl rfl rfl rfl rfl dX20_keeps_2 (q := 5) rfl e1 ?_
  refine v_aload_n O.1 dX20_keeps_5 rfl (q := 6) rfl ?_
  refine m_get O 4 (v := .ref (gMa g 4)) (by decide) q1736 rfl rfl dX20_keeps_6 (q := 9) rfl ?_
  refine v_bipush O.1 dX20_keeps_9 (v := 20) (by decide) (q := 11) rfl ?_
  refine m_iald O rfl rfl (n := 342) (by decide) (by decide) (j := 20) dX20_keeps_11 (q := 12) rfl ?_
  refine v_if_ne O.1 dX20_keeps_12 (t := 36) (by decide) (q := 15) rfl (fun c2 => ?_) (fun c2 => ?_)
  · rw [if_neg c2] at h
    exact v_sub [] rfl (bm_keeps_36 O M1 h)
  · rw [if_pos c2] at h
    refine v_aload_n O.1 dX20_keeps_15 rfl (q := 16) rfl ?_
    refine m_get O 4 (v := .ref (gMa g 4)) (by decide) q1736 rfl rfl dX20_keeps_16 (q := 19) rfl ?_
    refine v_bipush O.1 dX20_keeps_19 (v := 22) (by decide) (q := 21) rfl ?_
    refine m_iald O rfl rfl (n := 342) (by decide) (by decide) (j := 22) dX20_keeps_21 (q := 22) rfl ?_
    refine v_if_ne O.1 dX20_keeps_22 (t := 36) (by decide) (q := 25) rfl (fun c3 => ?_) (fun c3 => ?_)
    · rw [if_neg c3] at h
      exact v_sub [] rfl (bm_keeps_36 O M1 h)
    · rw [if_pos c3] at h
      refine v_aload_n O.1 dX20_keeps_25 rfl (q := 26) rfl ?_
      refine v_aload_n O.1 dX20_keeps_26 rfl (q := 27) rfl ?_
      refine m_get O 4 (v := .ref (gMa g 4)) (by decide) q1736 rfl rfl dX20_keeps_27 (q := 30) rfl ?_
      obtain ⟨r4, M4, e4, h⟩ := bnd_some h
      refine m_callVi (As := [.ref (gMa g 4)]) (rest := []) (n := 1) O (met_nextOf _ g 4 mS_4 M1 M4 r4 e4) (lw_V q1885 q1887 qs27 q84 q1888) (by decide +kernel) (by decide) (by decide) rfl rfl (Nat.le_of_ble_eq_true rfl) dX20_keeps_30 (q := 33) rfl ?_
      refine v_if_ge O.1 dX20_keeps_33 (t := 38) (by decide) (q := 36) rfl (fun c5 => ?_) (fun c5 => ?_)
      · rw [if_pos c5] at h
        refine v_aload_n O.1 dX20_keeps_38 rfl (q := 39) rfl ?_
        refine v_iconst O.1 dX20_keeps_39 (v := 0) rfl (q := 40) rfl ?_
        obtain ⟨r6, M6, e6, h⟩ := bnd_some h
        refine m_callVv (As := [.int 0]) (rest := []) (n := 1) O (met_likeNow _ g 0 M4 M6 r6 e6) (lw_V q2106 q2108 qs52 q84 q2109) (by decide +kernel) (by decide) (by decide) rfl rfl (Nat.le_of_ble_eq_true rfl) dX20_keeps_40 (q := 43) rfl ?_
        refine v_iconst O.1 dX20_keeps_43 (v := 0) rfl (q := 44) rfl ?_
        refine v_istore_n (lv' := [(1, .int 0), (0, .ref (gMa g 0))]) O.1 dX20_keeps_44 (by decide) rfl (q := 45) rfl ?_
        refine v_iconst O.1 dX20_keeps_45 (v := 0) rfl (q := 46) rfl ?_
        refine v_istore_n (lv' := [(2, .int 0), (1, .int 0), (0, .ref (gMa g 0))]) O.1 dX20_keeps_46 (by decide) rfl (q := 47) rfl ?_
        exact v_sub [2, 1, 0] rfl (bm_keeps_47 O 600 0 0 M6 h)
      · rw [if_neg c5] at h
        exact v_sub [] rfl (bm_keeps_36 O M4 h)
theorem met_keeps (l : Launch) (g : gM)  (M M' : Mem) (r : Int32) (h : fm_keeps  M = some (r, M')) : MetM l g yX20_keeps cX20_keeps 3 (some .int) 9 [.ref (gMa g 0)] M (mQi g r M') :=
  m_met (by decide) rfl (Nat.le_of_ble_eq_true rfl) (fun X O => bm_keeps O  M h)
