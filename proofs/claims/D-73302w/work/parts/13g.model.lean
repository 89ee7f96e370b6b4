/-! goesOn()V -/
def fm_goesOn  (M : Mem) : Option (Unit × Mem) :=
  stp (up2 M 0 14 1) fun M1 =>
  stp (up2 M1 0 15 0) fun M2 =>
  bnd (fm_cycle 4 M2) fun r3 M3 =>
  some ((), M3)
set_option maxHeartbeats 4000000 in
theorem bm_goesOn {g : gM} {X : Cxt} {r : Unit} {M' : Mem} (O : OkM g X cX20_goesOn 1 none 9 (mQv g r M'))  (M : Mem) (h : fm_goesOn  M = some (r, M')) : V X 1 0 (WdM g M) 0 [(0, .ref (gMa g 0))] [] := by
  unfold fm_goesOn at h
  refine v_aload_n O.1 dX20_goesOn_0 rfl (q := 1) rfl ?_
  refine v_iconst O.1 dX20_goesOn_1 (v := 1) rfl (q := 2) rfl ?_
  obtain ⟨M1, e1, h⟩ := stp_some h
  refine m_put O 14 (ty := .boolean) (by decide) q1746 rfl rfl rfl rfl rfl rfl dX20_goesOn_2 (q := 5) rfl e1 ?_
  refine v_aload_n O.1 dX20_goesOn_5 rfl (q := 6) rfl ?_
  refine v_iconst O.1 dX20_goesOn_6 (v := 0) rfl (q := 7) rfl ?_
  obtain ⟨M2, e2, h⟩ := stp_some h
  refine m_put O 15 (ty := .boolean) (by decide) q1747 rfl rfl rfl rfl rfl rfl dX20_goesOn_7 (q := 10) rfl e2 ?_
  refine v_aload_n O.1 dX20_goesOn_10 rfl (q := 11) rfl ?_
  refine v_aload_n O.1 dX20_goesOn_11 rfl (q := 12) rfl ?_
  refine m_get O 4 (v := .ref (gMa g 4)) (by decide) q1736 rfl rfl dX20_goesOn_12 (q := 15) rfl ?_
  obtain ⟨r3, M3, e3, h⟩ := bnd_some h
  refine m_callVv (As := [.ref (gMa g 4)]) (rest := []) (n := 1) O (met_cycle _ g 4 mS_4 M2 M3 r3 e3) (lw_V q1877 q1879 qs25 q84 q1880) (by decide +kernel) (by decide) (by decide) rfl rfl (Nat.le_of_ble_eq_true rfl) dX20_goesOn_15 (q := 18) rfl ?_
  exact m_vret O h dX20_goesOn_18
theorem met_goesOn (l : Launch) (g : gM)  (M M' : Mem) (r : Unit) (h : fm_goesOn  M = some (r, M')) : MetM l g yX20_goesOn cX20_goesOn 1 none 9 [.ref (gMa g 0)] M (mQv g r M') :=
  m_met (by decide) rfl (Nat.le_of_ble_eq_true rfl) (fun X O => bm_goesOn O  M h)
/-! run(I)I -/
def fm_run_46 (x2 : Int32) (M : Mem) : Option (Int32 × Mem) :=
  some (x2, M)
set_option maxHeartbeats 4000000 in
theorem bm_run_46 {g : gM} {X : Cxt} {r : Int32} {M' : Mem} (O : OkM g X cX20_run 3 (some .int) 10 (mQi g r M')) (x2 : Int32) (M : Mem) (h : fm_run_46 x2 M = some (r, M')) : V X 3 0 (WdM g M) 46 [(2, .int x2)] [] := by
  unfold fm_run_46 at h
  refine v_iload_n O.1 dX20_run_46 rfl (q := 47) rfl ?_
  exact m_iret O h dX20_run_47
def fm_run_20b (K20 : Int32 → Int32 → Mem → Option (Int32 × Mem)) (x1 : Int32) (x2 : Int32) (M : Mem) : Option (Int32 × Mem) :=
  if x1 ≤ x2 then
    fm_run_46 x2 M
  else
    if (M 4 20) = 5 then
      fm_run_46 x2 M
    else
      bnd (fm_goesOn M) fun r3 M3 =>
      K20 x1 (x2 + 1) M3
set_option maxHeartbeats 4000000 in
theorem bm_run_20b {g : gM} {X : Cxt} {r : Int32} {M' : Mem} (O : OkM g X cX20_run 3 (some .int) 10 (mQi g r M')) {K20 : Int32 → Int32 → Mem → Option (Int32 × Mem)} (hK20 : ∀ (x1 : Int32) (x2 : Int32) (M : Mem), K20 x1 x2 M = some (r, M') → V X 3 0 (WdM g M) 20 [(0, .ref (gMa g 0)), (1, .int x1), (2, .int x2)] []) (x1 : Int32) (x2 : Int32) (M : Mem) (h : fm_run_20b K20 x1 x2 M = some (r, M')) : V X 3 0 (WdM g M) 20 [(0, .ref (gMa g 0)), (1, .int x1), (2, .int x2)] [] := by
  unfold fm_run_20b at h
  refine v_iload_n O.1 dX20_run_20 rfl (q := 21) rfl ?_
  refine v_iload_n O.1 dX20_run_21 rfl (q := 22) rfl ?_
  refine v_icmp_ge O.1 dX20_run_22 (t := 46) (by decide) (q := 25) rfl (fun c1 => ?_) (fun c1 => ?_)
  · rw [if_pos c1] at h
    exact v_sub [2] rfl (bm_run_46 O x2 M h)
  · rw [if_neg c1] at h
    refine v_aload_n O.1 dX20_run_25 rfl (q := 26) rfl ?_
    refine m_get O 4 (v := .ref (gMa g 4)) (by decide) q1736 rfl rfl dX20_run_26 (q := 29) rfl ?_
    refine v_bipush O.1 dX20_run_29 (v := 20) (by decide) (q := 31) rfl ?_
    refine m_iald O rfl rfl (n := 342) (by decide) (by decide) (j := 20) dX20_run_31 (q := 32) rfl ?_
    refine v_iconst O.1 dX20_run_32 (v := 5) rfl (q := 33) rfl ?_
    refine v_icmp_eq O.1 dX20_run_33 (t := 46) (by decide) (q := 36) rfl (fun c2 => ?_) (fun c2 => ?_)
    · rw [if_pos c2] at h
      exact v_sub [2] rfl (bm_run_46 O x2 M h)
    · rw [if_neg c2] at h
      refine v_aload_n O.1 dX20_run_36 rfl (q := 37) rfl ?_
      obtain ⟨r3, M3, e3, h⟩ := bnd_some h
      refine m_callVv (As := []) (rest := []) (n := 0) O (met_goesOn _ g M M3 r3 e3) (lw_V q1873 q1875 qs24 q84 q1876) (by decide +kernel) (by decide) (by decide) rfl rfl (Nat.le_of_ble_eq_true rfl) dX20_run_37 (q := 40) rfl ?_
      refine v_iinc (lv' := [(2, .int (x2 + 1)), (0, .ref (gMa g 0)), (1, .int x1)]) (v := (x2 + 1)) O.1 dX20_run_40 rfl rfl (by decide) rfl (q := 43) rfl ?_
      refine v_goto O.1 dX20_run_43 (t := 20) (by decide) ?_
      exact v_sub [1, 2, 0] rfl (hK20 x1 (x2 + 1) M3 h)
def fm_run_20 (n : Nat) : Int32 → Int32 → Mem → Option (Int32 × Mem) := lpc (fm_run_20b) (fun _ _ _ => none) n
theorem bm_run_20 {g : gM} {X : Cxt} {r : Int32} {M' : Mem} (O : OkM g X cX20_run 3 (some .int) 10 (mQi g r M')) : ∀ (n : Nat) (x1 : Int32) (x2 : Int32) (M : Mem), fm_run_20 n x1 x2 M = some (r, M') → V X 3 0 (WdM g M) 20 [(0, .ref (gMa g 0)), (1, .int x1), (2, .int x2)] [] := by
  intro n
  induction n with
  | zero =>
    intro x1 x2 M h
    cases h
  | succ n ih =>
    intro x1 x2 M h
    exact bm_run_20b O ih x1 x2 M h
def fm_run (x1 : Int32) (M : Mem) : Option (Int32 × Mem) :=
  stp (up2 M 0 17 0) fun M1 =>
  bnd (fm_within x1 1 200 M1) fun r2 M2 =>
  if r2 = 0 then
    some ((-1), M2)
  else
    fm_run_20 600 x1 0 M2
set_option maxHeartbeats 4000000 in
theorem bm_run {g : gM} {X : Cxt} {r : Int32} {M' : Mem} (O : OkM g X cX20_run 3 (some .int) 10 (mQi g r M')) (x1 : Int32) (M : Mem) (h : fm_run x1 M = some (r, M')) : V X 3 0 (WdM g M) 0 [(0, .ref (gMa g 0)), (1, .int x1)] [] := by
  unfold fm_run at h
  refine v_aload_n O.1 dX20_run_0 rfl (q := 1) rfl ?_
  refine v_iconst O.1 dX20_run_1 (v := 0) rfl (q := 2) rfl ?_
  obtain ⟨M1, e1, h⟩ := stp_some h
  refine m_put O 17 (ty := .int) (by decide) q1749 rfl rfl rfl rfl rfl rfl dX20_run_2 (q := 5) rfl e1 ?_
  refine v_iload_n O.1 dX20_run_5 rfl (q := 6) rfl ?_
  refine v_iconst O.1 dX20_run_6 (v := 1) rfl (q := 7) rfl ?_
  refine v_sipush O.1 dX20_run_7 (v := 200) (by decide) (q := 10) rfl ?_
  obtain ⟨r2, M2, e2, h⟩ := bnd_some h
  refine m_callSi (As := [.int x1, .int 1, .int 200]) (rest := []) (n := 3) O (met_within _ g x1 1 200 M1 M2 r2 e2) (lw_S q1817 q1818 q84 q1819) (by decide +kernel) (by decide) (by decide) rfl rfl (Nat.le_of_ble_eq_true rfl) dX20_run_10 (q := 13) rfl ?_
  refine v_if_ne O.1 dX20_run_13 (t := 18) (by decide) (q := 16) rfl (fun c3 => ?_) (fun c3 => ?_)
  · rw [if_neg c3] at h
    refine v_iconst O.1 dX20_run_18 (v := 0) rfl (q := 19) rfl ?_
    refine v_istore_n (lv' := [(2, .int 0), (0, .ref (gMa g 0)), (1, .int x1)]) O.1 dX20_run_19 (by decide) rfl (q := 20) rfl ?_
    exact v_sub [1, 2, 0] rfl (bm_run_20 O 600 x1 0 M2 h)
  · rw [if_pos c3] at h
    refine v_iconst O.1 dX20_run_16 (v := (-1)) rfl (q := 17) rfl ?_
    exact m_iret O h dX20_run_17
theorem met_run (l : Launch) (g : gM) (x1 : Int32) (M M' : Mem) (r : Int32) (h : fm_run x1 M = some (r, M')) : MetM l g yX20_run cX20_run 3 (some .int) 10 [.ref (gMa g 0), .int x1] M (mQi g r M') :=
  m_met (by decide) rfl (Nat.le_of_ble_eq_true rfl) (fun X O => bm_run O x1 M h)
/-! till(I)I -/
def fm_till_57  (M : Mem) : Option (Int32 × Mem) :=
  some ((-1), M)
set_option maxHeartbeats 4000000 in
theorem bm_till_57 {g : gM} {X : Cxt} {r : Int32} {M' : Mem} (O : OkM g X cX20_till 3 (some .int) 10 (mQi g r M'))  (M : Mem) (h : fm_till_57  M = some (r, M')) : V X 3 0 (WdM g M) 57 [] [] := by
  unfold fm_till_57 at h
  refine v_iconst O.1 dX20_till_57 (v := (-1)) rfl (q := 58) rfl ?_
  exact m_iret O h dX20_till_58
def fm_till_19b (K19 : Int32 → Int32 → Mem → Option (Int32 × Mem)) (x1 : Int32) (x2 : Int32) (M : Mem) : Option (Int32 × Mem) :=
  if 300 < x2 then
    fm_till_57 M
  else
    if (M 4 20) = 5 then
      fm_till_57 M
    else
      bnd (fm_goesOn M) fun r3 M3 =>
      if (M3 0 16) = x1 then
        some (x2, M3)
      else
        K19 x1 (x2 + 1) M3
set_option maxHeartbeats 4000000 in
theorem bm_till_19b {g : gM} {X : Cxt} {r : Int32} {M' : Mem} (O : OkM g X cX20_till 3 (some .int) 10 (mQi g r M')) {K19 : Int32 → Int32 → Mem → Option (Int32 × Mem)} (hK19 : ∀ (x1 : Int32) (x2 : Int32) (M : Mem), K19 x1 x2 M = some (r, M') → V X 3 0 (WdM g M) 19 [(0, .ref (gMa g 0)), (1, .int x1), (2, .int x2)] []) (x1 : Int32) (x2 : Int32) (M : Mem) (h : fm_till_19b K19 x1 x2 M = some (r, M')) : V X 3 0 (WdM g M) 19 [(0, .ref (gMa g 0)), (1, .int x1), (2, .int x2)] [] := by
  unfold fm_till_19b at h
  refine v_iload_n O.1 dX20_till_19 rfl (q := 20) rfl ?_
  refine v_sipush O.1 dX20_till_20 (v := 300) (by decide) (q := 23) rfl ?_
  refine v_icmp_gt O.1 dX20_till_23 (t := 57) (by decide) (q := 26) rfl (fun c1 => ?_) (fun c1 => ?_)
  · rw [if_pos c1] at h
    exact v_sub [] rfl (bm_till_57 O M h)
  · rw [if_neg c1] at h
    refine v_aload_n O.1 dX20_till_26 rfl (q := 27) rfl ?_
    refine m_get O 4 (v := .ref (gMa g 4)) (by decide) q1736 rfl rfl dX20_till_27 (q := 30) rfl ?_
    refine v_bipush O.1 dX20_till_30 (v := 20) (by decide) (q := 32) rfl ?_
    refine m_iald O rfl rfl (n := 342) (by decide) (by decide) (j := 20) dX20_till_32 (q := 33) rfl ?_
    refine v_iconst O.1 dX20_till_33 (v := 5) rfl (q := 34) rfl ?_
    refine v_icmp_eq O.1 dX20_till_34 (t := 57) (by decide) (q := 37) rfl (fun c2 => ?_) (fun c2 => ?_)
    · rw [if_pos c2] at h
      exact v_sub [] rfl (bm_till_57 O M h)
    · rw [if_neg c2] at h
      refine v_aload_n O.1 dX20_till_37 rfl (q := 38) rfl ?_
      obtain ⟨r3, M3, e3, h⟩ := bnd_some h
      refine m_callVv (As := []) (rest := []) (n := 0) O (met_goesOn _ g M M3 r3 e3) (lw_V q1873 q1875 qs24 q84 q1876) (by decide +kernel) (by decide) (by decide) rfl rfl (Nat.le_of_ble_eq_true rfl) dX20_till_38 (q := 41) rfl ?_
      refine v_aload_n O.1 dX20_till_41 rfl (q := 42) rfl ?_
      refine m_get O 16 (v := .int (M3 0 16)) (by decide) q1748 rfl rfl dX20_till_42 (q := 45) rfl ?_
      refine v_iload_n O.1 dX20_till_45 rfl (q := 46) rfl ?_
      refine v_icmp_ne O.1 dX20_till_46 (t := 51) (by decide) (q := 49) rfl (fun c4 => ?_) (fun c4 => ?_)
      · rw [if_neg c4] at h
        refine v_iinc (lv' := [(2, .int (x2 + 1)), (0, .ref (gMa g 0)), (1, .int x1)]) (v := (x2 + 1)) O.1 dX20_till_51 rfl rfl (by decide) rfl (q := 54) rfl ?_
        refine v_goto O.1 dX20_till_54 (t := 19) (by decide) ?_
        exact v_sub [1, 2, 0] rfl (hK19 x1 (x2 + 1) M3 h)
      · rw [if_pos c4] at h
        refine v_iload_n O.1 dX20_till_49 rfl (q := 50) rfl ?_
        exact m_iret O h dX20_till_50
def fm_till_19 (n : Nat) : Int32 → Int32 → Mem → Option (Int32 × Mem) := lpc (fm_till_19b) (fun _ _ _ => none) n
theorem bm_till_19 {g : gM} {X : Cxt} {r : Int32} {M' : Mem} (O : OkM g X cX20_till 3 (some .int) 10 (mQi g r M')) : ∀ (n : Nat) (x1 : Int32) (x2 : Int32) (M : Mem), fm_till_19 n x1 x2 M = some (r, M') → V X 3 0 (WdM g M) 19 [(0, .ref (gMa g 0)), (1, .int x1), (2, .int x2)] [] := by
  intro n
  induction n with
  | zero =>
    intro x1 x2 M h
    cases h
  | succ n ih =>
    intro x1 x2 M h
    exact bm_till_19b O ih x1 x2 M h
def fm_till (x1 : Int32) (M : Mem) : Option (Int32 × Mem) :=
  stp (up2 M 0 17 0) fun M1 =>
  bnd (fm_within x1 0 20 M1) fun r2 M2 =>
  if r2 = 0 then
    some ((-1), M2)
  else
    fm_till_19 600 x1 1 M2
set_option maxHeartbeats 4000000 in
theorem bm_till {g : gM} {X : Cxt} {r : Int32} {M' : Mem} (O : OkM g X cX20_till 3 (some .int) 10 (mQi g r M')) (x1 : Int32) (M : Mem) (h : fm_till x1 M = some (r, M')) : V X 3 0 (WdM g M) 0 [(0, .ref (gMa g 0)), (1, .int x1)] [] := by
  unfold fm_till at h
  refine v_aload_n O.1 dX20_till_0 rfl (q := 1) rfl ?_
  refine v_iconst O.1 dX20_till_1 (v := 0) rfl (q := 2) rfl ?_
  obtain ⟨M1, e1, h⟩ := stp_some h
  refine m_put O 17 (ty := .int) (by decide) q1749 rfl rfl rfl rfl rfl rfl dX20_till_2 (q := 5) rfl e1 ?_
  refine v_iload_n O.1 dX20_till_5 rfl (q := 6) rfl ?_
  refine v_iconst O.1 dX20_till_6 (v := 0) rfl (q := 7) rfl ?_
  refine v_bipush O.1 dX20_till_7 (v := 20) (by decide) (q := 9) rfl ?_
  obtain ⟨r2, M2, e2, h⟩ := bnd_some h
  refine m_callSi (As := [.int x1, .int 0, .int 20]) (rest := []) (n := 3) O (met_within _ g x1 0 20 M1 M2 r2 e2) (lw_S q1817 q1818 q84 q1819) (by decide +kernel) (by decide) (by decide) rfl rfl (Nat.le_of_ble_eq_true rfl) dX20_till_9 (q := 12) rfl ?_
  refine v_if_ne O.1 dX20_till_12 (t := 17) (by decide) (q := 15) rfl (fun c3 => ?_) (fun c3 => ?_)
  · rw [if_neg c3] at h
    refine v_iconst O.1 dX20_till_17 (v := 1) rfl (q := 18) rfl ?_
    refine v_istore_n (lv' := [(2, .int 1), (0, .ref (gMa g 0)), (1, .int x1)]) O.1 dX20_till_18 (by decide) rfl (q := 19) rfl ?_
    exact v_sub [1, 2, 0] rfl (bm_till_19 O 600 x1 1 M2 h)
  · rw [if_pos c3] at h
    refine v_iconst O.1 dX20_till_15 (v := (-1)) rfl (q := 16) rfl ?_
    exact m_iret O h dX20_till_16
theorem met_till (l : Launch) (g : gM) (x1 : Int32) (M M' : Mem) (r : Int32) (h : fm_till x1 M = some (r, M')) : MetM l g yX20_till cX20_till 3 (some .int) 10 [.ref (gMa g 0), .int x1] M (mQi g r M') :=
  m_met (by decide) rfl (Nat.le_of_ble_eq_true rfl) (fun X O => bm_till O x1 M h)
/-! reset()I -/
def fm_reset  (M : Mem) : Option (Int32 × Mem) :=
  stp (up2 M 0 17 0) fun M1 =>
  bnd (fm_fresh M1) fun r2 M2 =>
  some ((M1 4 30), M2)
set_option maxHeartbeats 4000000 in
theorem bm_reset {g : gM} {X : Cxt} {r : Int32} {M' : Mem} (O : OkM g X cX20_reset 2 (some .int) 1 (mQi g r M'))  (M : Mem) (h : fm_reset  M = some (r, M')) : V X 2 0 (WdM g M) 0 [(0, .ref (gMa g 0))] [] := by
  unfold fm_reset at h
  refine v_aload_n O.1 dX20_reset_0 rfl (q := 1) rfl ?_
  refine v_iconst O.1 dX20_reset_1 (v := 0) rfl (q := 2) rfl ?_
  obtain ⟨M1, e1, h⟩ := stp_some h
  refine m_put O 17 (ty := .int) (by decide) q1749 rfl rfl rfl rfl rfl rfl dX20_reset_2 (q := 5) rfl e1 ?_
  refine v_aload_n O.1 dX20_reset_5 rfl (q := 6) rfl ?_
  refine m_get O 4 (v := .ref (gMa g 4)) (by decide) q1736 rfl rfl dX20_reset_6 (q := 9) rfl ?_
  refine v_bipush O.1 dX20_reset_9 (v := 30) (by decide) (q := 11) rfl ?_
  refine m_iald O rfl rfl (n := 342) (by decide) (by decide) (j := 30) dX20_reset_11 (q := 12) rfl ?_
  refine v_istore_n (lv' := [(1, .int (M1 4 30)), (0, .ref (gMa g 0))]) O.1 dX20_reset_12 (by decide) rfl (q := 13) rfl ?_
  refine v_aload_n O.1 dX20_reset_13 rfl (q := 14) rfl ?_
  obtain ⟨r2, M2, e2, h⟩ := bnd_some h
  refine m_callVv (As := []) (rest := []) (n := 0) O (met_fresh _ g M1 M2 r2 e2) (lw_V q1728 q1730 qs21 q84 q1731) (by decide +kernel) (by decide) (by decide) rfl rfl (Nat.le_of_ble_eq_true rfl) dX20_reset_14 (q := 17) rfl ?_
  refine v_iload_n O.1 dX20_reset_17 rfl (q := 18) rfl ?_
  exact m_iret O h dX20_reset_18
theorem met_reset (l : Launch) (g : gM)  (M M' : Mem) (r : Int32) (h : fm_reset  M = some (r, M')) : MetM l g yX20_reset cX20_reset 2 (some .int) 1 [.ref (gMa g 0)] M (mQi g r M') :=
  m_met (by decide) rfl (Nat.le_of_ble_eq_true rfl) (fun X O => bm_reset O  M h)
/-! reg(I)I -/
def fm_reg_39 (y0 : Int32) (M : Mem) : Option (Int32 × Mem) :=
  some (y0, M)
set_option maxHeartbeats 4000000 in
theorem bm_reg_39 {g : gM} {X : Cxt} {r : Int32} {M' : Mem} (O : OkM g X cX20_reg 2 (some .int) 1 (mQi g r M')) (y0 : Int32) (M : Mem) (h : fm_reg_39 y0 M = some (r, M')) : V X 2 0 (WdM g M) 39 [] [.int y0] := by
  unfold fm_reg_39 at h
  exact m_iret O h dX20_reg_39
def fm_reg_16 (x1 : Int32) (y1 : Int32) (M : Mem) : Option (Int32 × Mem) :=
  stp (up2 M 0 17 y1) fun M1 =>
  if (M1 0 17) = 1 then
    fm_reg_39 0 M1
  else
    gd (inb (0 + x1) 342) <|
    fm_reg_39 (M1 4 (0 + x1).toNatClampNeg) M1
set_option maxHeartbeats 4000000 in
theorem bm_reg_16 {g : gM} {X : Cxt} {r : Int32} {M' : Mem} (O : OkM g X cX20_reg 2 (some .int) 1 (mQi g r M')) (x1 : Int32) (y1 : Int32) (M : Mem) (h : fm_reg_16 x1 y1 M = some (r, M')) : V X 2 0 (WdM g M) 16 [(0, .ref (gMa g 0)), (1, .int x1)] [.int y1, .ref (gMa g 0)] := by
  unfold fm_reg_16 at h
  obtain ⟨M1, e1, h⟩ := stp_some h
  refine m_put O 17 (ty := .int) (by decide) q1749 rfl rfl rfl rfl rfl rfl dX20_reg_16 (q := 19) rfl e1 ?_
  refine v_aload_n O.1 dX20_reg_19 rfl (q := 20) rfl ?_
  refine m_get O 17 (v := .int (M1 0 17)) (by decide) q1749 rfl rfl dX20_reg_20 (q := 23) rfl ?_
  refine v_iconst O.1 dX20_reg_23 (v := 1) rfl (q := 24) rfl ?_
  refine v_icmp_ne O.1 dX20_reg_24 (t := 31) (by decide) (q := 27) rfl (fun c2 => ?_) (fun c2 => ?_)
  · rw [if_neg c2] at h
    refine v_aload_n O.1 dX20_reg_31 rfl (q := 32) rfl ?_
    refine m_get O 4 (v := .ref (gMa g 4)) (by decide) q1736 rfl rfl dX20_reg_32 (q := 35) rfl ?_
    refine v_iconst O.1 dX20_reg_35 (v := 0) rfl (q := 36) rfl ?_
    refine v_iload_n O.1 dX20_reg_36 rfl (q := 37) rfl ?_
    refine v_iadd O.1 dX20_reg_37 (q := 38) rfl ?_
    obtain ⟨g3, h⟩ := gd_some h
    refine m_iald O rfl rfl (n := 342) g3 rfl (j := (0 + x1).toNatClampNeg) dX20_reg_38 (q := 39) rfl ?_
    exact v_sub [] rfl (bm_reg_39 O (M1 4 (0 + x1).toNatClampNeg) M1 h)
  · rw [if_pos c2] at h
    refine v_iconst O.1 dX20_reg_27 (v := 0) rfl (q := 28) rfl ?_
    refine v_goto O.1 dX20_reg_28 (t := 39) (by decide) ?_
    exact v_sub [] rfl (bm_reg_39 O 0 M1 h)
def fm_reg (x1 : Int32) (M : Mem) : Option (Int32 × Mem) :=
  bnd (fm_within x1 0 11 M) fun r1 M1 =>
  if r1 = 0 then
    fm_reg_16 x1 1 M1
  else
    fm_reg_16 x1 0 M1
set_option maxHeartbeats 4000000 in
theorem bm_reg {g : gM} {X : Cxt} {r : Int32} {M' : Mem} (O : OkM g X cX20_reg 2 (some .int) 1 (mQi g r M')) (x1 : Int32) (M : Mem) (h : fm_reg x1 M = some (r, M')) : V X 2 0 (WdM g M) 0 [(0, .ref (gMa g 0)), (1, .int x1)] [] := by
  unfold fm_reg at h
  refine v_aload_n O.1 dX20_reg_0 rfl (q := 1) rfl ?_
  refine v_iload_n O.1 dX20_reg_1 rfl (q := 2) rfl ?_
  refine v_iconst O.1 dX20_reg_2 (v := 0) rfl (q := 3) rfl ?_
  refine v_bipush O.1 dX20_reg_3 (v := 11) (by decide) (q := 5) rfl ?_
  obtain ⟨r1, M1, e1, h⟩ := bnd_some h
  refine m_callSi (As := [.int x1, .int 0, .int 11]) (rest := [.ref (gMa g 0)]) (n := 3) O (met_within _ g x1 0 11 M M1 r1 e1) (lw_S q1817 q1818 q84 q1819) (by decide +kernel) (by decide) (by decide) rfl rfl (Nat.le_of_ble_eq_true rfl) dX20_reg_5 (q := 8) rfl ?_
  refine v_if_eq O.1 dX20_reg_8 (t := 15) (by decide) (q := 11) rfl (fun c2 => ?_) (fun c2 => ?_)
  · rw [if_pos c2] at h
    refine v_iconst O.1 dX20_reg_15 (v := 1) rfl (q := 16) rfl ?_
    exact v_sub [0, 1] rfl (bm_reg_16 O x1 1 M1 h)
  · rw [if_neg c2] at h
    refine v_iconst O.1 dX20_reg_11 (v := 0) rfl (q := 12) rfl ?_
    refine v_goto O.1 dX20_reg_12 (t := 16) (by decide) ?_
    exact v_sub [0, 1] rfl (bm_reg_16 O x1 0 M1 h)
theorem met_reg (l : Launch) (g : gM) (x1 : Int32) (M M' : Mem) (r : Int32) (h : fm_reg x1 M = some (r, M')) : MetM l g yX20_reg cX20_reg 2 (some .int) 1 [.ref (gMa g 0), .int x1] M (mQi g r M') :=
  m_met (by decide) rfl (Nat.le_of_ble_eq_true rfl) (fun X O => bm_reg O x1 M h)
/-! word(I)I -/
def fm_word_40 (y0 : Int32) (M : Mem) : Option (Int32 × Mem) :=
  some (y0, M)
set_option maxHeartbeats 4000000 in
theorem bm_word_40 {g : gM} {X : Cxt} {r : Int32} {M' : Mem} (O : OkM g X cX20_word 2 (some .int) 1 (mQi g r M')) (y0 : Int32) (M : Mem) (h : fm_word_40 y0 M = some (r, M')) : V X 2 0 (WdM g M) 40 [] [.int y0] := by
  unfold fm_word_40 at h
  exact m_iret O h dX20_word_40
def fm_word_16 (x1 : Int32) (y1 : Int32) (M : Mem) : Option (Int32 × Mem) :=
  stp (up2 M 0 17 y1) fun M1 =>
  if (M1 0 17) = 1 then
    fm_word_40 0 M1
  else
    gd (inb (56 + x1) 342) <|
    fm_word_40 (M1 4 (56 + x1).toNatClampNeg) M1
set_option maxHeartbeats 4000000 in
theorem bm_word_16 {g : gM} {X : Cxt} {r : Int32} {M' : Mem} (O : OkM g X cX20_word 2 (some .int) 1 (mQi g r M')) (x1 : Int32) (y1 : Int32) (M : Mem) (h : fm_word_16 x1 y1 M = some (r, M')) : V X 2 0 (WdM g M) 16 [(0, .ref (gMa g 0)), (1, .int x1)] [.int y1, .ref (gMa g 0)] := by
  unfold fm_word_16 at h
  obtain ⟨M1, e1, h⟩ := stp_some h
  refine m_put O 17 (ty := .int) (by decide) q1749 rfl rfl rfl rfl rfl rfl dX20_word_16 (q := 19) rfl e1 ?_
  refine v_aload_n O.1 dX20_word_19 rfl (q := 20) rfl ?_
  refine m_get O 17 (v := .int (M1 0 17)) (by decide) q1749 rfl rfl dX20_word_20 (q := 23) rfl ?_
  refine v_iconst O.1 dX20_word_23 (v := 1) rfl (q := 24) rfl ?_
  refine v_icmp_ne O.1 dX20_word_24 (t := 31) (by decide) (q := 27) rfl (fun c2 => ?_) (fun c2 => ?_)
  · rw [if_neg c2] at h
    refine v_aload_n O.1 dX20_word_31 rfl (q := 32) rfl ?_
    refine m_get O 4 (v := .ref (gMa g 4)) (by decide) q1736 rfl rfl dX20_word_32 (q := 35) rfl ?_
    refine v_bipush O.1 dX20_word_35 (v := 56) (by decide) (q := 37) rfl ?_
    refine v_iload_n O.1 dX20_word_37 rfl (q := 38) rfl ?_
    refine v_iadd O.1 dX20_word_38 (q := 39) rfl ?_
    obtain ⟨g3, h⟩ := gd_some h
    refine m_iald O rfl rfl (n := 342) g3 rfl (j := (56 + x1).toNatClampNeg) dX20_word_39 (q := 40) rfl ?_
    exact v_sub [] rfl (bm_word_40 O (M1 4 (56 + x1).toNatClampNeg) M1 h)
  · rw [if_pos c2] at h
    refine v_iconst O.1 dX20_word_27 (v := 0) rfl (q := 28) rfl ?_
    refine v_goto O.1 dX20_word_28 (t := 40) (by decide) ?_
    exact v_sub [] rfl (bm_word_40 O 0 M1 h)
def fm_word (x1 : Int32) (M : Mem) : Option (Int32 × Mem) :=
  bnd (fm_within x1 0 95 M) fun r1 M1 =>
  if r1 = 0 then
    fm_word_16 x1 1 M1
  else
    fm_word_16 x1 0 M1
set_option maxHeartbeats 4000000 in
theorem bm_word {g : gM} {X : Cxt} {r : Int32} {M' : Mem} (O : OkM g X cX20_word 2 (some .int) 1 (mQi g r M')) (x1 : Int32) (M : Mem) (h : fm_word x1 M = some (r, M')) : V X 2 0 (WdM g M) 0 [(0, .ref (gMa g 0)), (1, .int x1)] [] := by
  unfold fm_word at h
  refine v_aload_n O.1 dX20_word_0 rfl (q := 1) rfl ?_
  refine v_iload_n O.1 dX20_word_1 rfl (q := 2) rfl ?_
  refine v_iconst O.1 dX20_word_2 (v := 0) rfl (q := 3) rfl ?_
  refine v_bipush O.1 dX20_word_3 (v := 95) (by decide) (q := 5) rfl ?_
  obtain ⟨r1, M1, e1, h⟩ := bnd_some h
  refine m_callSi (As := [.int x1, .int 0, .int 95]) (rest := [.ref (gMa g 0)]) (n := 3) O (met_within _ g x1 0 95 M M1 r1 e1) (lw_S q1817 q1818 q84 q1819) (by decide +kernel) (by decide) (by decide) rfl rfl (Nat.le_of_ble_eq_true rfl) dX20_word_5 (q := 8) rfl ?_
  refine v_if_eq O.1 dX20_word_8 (t := 15) (by decide) (q := 11) rfl (fun c2 => ?_) (fun c2 => ?_)
  · rw [if_pos c2] at h
    refine v_iconst O.1 dX20_word_15 (v := 1) rfl (q := 16) rfl ?_
    exact v_sub [0, 1] rfl (bm_word_16 O x1 1 M1 h)
  · rw [if_neg c2] at h
    refine v_iconst O.1 dX20_word_11 (v := 0) rfl (q := 12) rfl ?_
    refine v_goto O.1 dX20_word_12 (t := 16) (by decide) ?_
    exact v_sub [0, 1] rfl (bm_word_16 O x1 0 M1 h)
theorem met_word (l : Launch) (g : gM) (x1 : Int32) (M M' : Mem) (r : Int32) (h : fm_word x1 M = some (r, M')) : MetM l g yX20_word cX20_word 2 (some .int) 1 [.ref (gMa g 0), .int x1] M (mQi g r M') :=
  m_met (by decide) rfl (Nat.le_of_ble_eq_true rfl) (fun X O => bm_word O x1 M h)
/-! data(I)I -/
def fm_data_40 (y0 : Int32) (M : Mem) : Option (Int32 × Mem) :=
  some (y0, M)
set_option maxHeartbeats 4000000 in
theorem bm_data_40 {g : gM} {X : Cxt} {r : Int32} {M' : Mem} (O : OkM g X cX20_data 2 (some .int) 1 (mQi g r M')) (y0 : Int32) (M : Mem) (h : fm_data_40 y0 M = some (r, M')) : V X 2 0 (WdM g M) 40 [] [.int y0] := by
  unfold fm_data_40 at h
  exact m_iret O h dX20_data_40
def fm_data_16 (x1 : Int32) (y1 : Int32) (M : Mem) : Option (Int32 × Mem) :=
  stp (up2 M 0 17 y1) fun M1 =>
  if (M1 0 17) = 1 then
    fm_data_40 0 M1
  else
    gd (inb (40 + x1) 342) <|
    fm_data_40 (M1 4 (40 + x1).toNatClampNeg) M1
set_option maxHeartbeats 4000000 in
theorem bm_data_16 {g : gM} {X : Cxt} {r : Int32} {M' : Mem} (O : OkM g X cX20_data 2 (some .int) 1 (mQi g r M')) (x1 : Int32) (y1 : Int32) (M : Mem) (h : fm_data_16 x1 y1 M = some (r, M')) : V X 2 0 (WdM g M) 16 [(0, .ref (gMa g 0)), (1, .int x1)] [.int y1, .ref (gMa g 0)] := by
  unfold fm_data_16 at h
  obtain ⟨M1, e1, h⟩ := stp_some h
  refine m_put O 17 (ty := .int) (by decide) q1749 rfl rfl rfl rfl rfl rfl dX20_data_16 (q := 19) rfl e1 ?_
  refine v_aload_n O.1 dX20_data_19 rfl (q := 20) rfl ?_
  refine m_get O 17 (v := .int (M1 0 17)) (by decide) q1749 rfl rfl dX20_data_20 (q := 23) rfl ?_
  refine v_iconst O.1 dX20_data_23 (v := 1) rfl (q := 24) rfl ?_
  refine v_icmp_ne O.1 dX20_data_24 (t := 31) (by decide) (q := 27) rfl (fun c2 => ?_) (fun c2 => ?_)
  · rw [if_neg c2] at h
    refine v_aload_n O.1 dX20_data_31 rfl (q := 32) rfl ?_
    refine m_get O 4 (v := .ref (gMa g 4)) (by decide) q1736 rfl rfl dX20_data_32 (q := 35) rfl ?_
    refine v_bipush O.1 dX20_data_35 (v := 40) (by decide) (q := 37) rfl ?_
    refine v_iload_n O.1 dX20_data_37 rfl (q := 38) rfl ?_
    refine v_iadd O.1 dX20_data_38 (q := 39) rfl ?_
    obtain ⟨g3, h⟩ := gd_some h
    refine m_iald O rfl rfl (n := 342) g3 rfl (j := (40 + x1).toNatClampNeg) dX20_data_39 (q := 40) rfl ?_
    exact v_sub [] rfl (bm_data_40 O (M1 4 (40 + x1).toNatClampNeg) M1 h)
  · rw [if_pos c2] at h
    refine v_iconst O.1 dX20_data_27 (v := 0) rfl (q := 28) rfl ?_
    refine v_goto O.1 dX20_data_28 (t := 40) (by decide) ?_
    exact v_sub [] rfl (bm_data_40 O 0 M1 h)
def fm_data (x1 : Int32) (M : Mem) : Option (Int32 × Mem) :=
  bnd (fm_within x1 0 15 M) fun r1 M1 =>
  if r1 = 0 then
    fm_data_16 x1 1 M1
  else
    fm_data_16 x1 0 M1
set_option maxHeartbeats 4000000 in
theorem bm_data {g : gM} {X : Cxt} {r : Int32} {M' : Mem} (O : OkM g X cX20_data 2 (some .int) 1 (mQi g r M')) (x1 : Int32) (M : Mem) (h : fm_data x1 M = some (r, M')) : V X 2 0 (WdM g M) 0 [(0, .ref (gMa g 0)), (1, .int x1)] [] := by
  unfold fm_data at h
  refine v_aload_n O.1 dX20_data_0 rfl (q := 1) rfl ?_
  refine v_iload_n O.1 dX20_data_1 rfl (q := 2) rfl ?_
  refine v_iconst O.1 dX20_data_2 (v := 0) rfl (q := 3) rfl ?_
  refine v_bipush O.1 dX20_data_3 (v := 15) (by decide) (q := 5) rfl ?_
  obtain ⟨r1, M1, e1, h⟩ := bnd_some h
  refine m_callSi (As := [.int x1, .int 0, .int 15]) (rest := [.ref (gMa g 0)]) (n := 3) O (met_within _ g x1 0 15 M M1 r1 e1) (lw_S q1817 q1818 q84 q1819) (by decide +kernel) (by decide) (by decide) rfl rfl (Nat.le_of_ble_eq_true rfl) dX20_data_5 (q := 8) rfl ?_
  refine v_if_eq O.1 dX20_data_8 (t := 15) (by decide) (q := 11) rfl (fun c2 => ?_) (fun c2 => ?_)
  · rw [if_pos c2] at h
    refine v_iconst O.1 dX20_data_15 (v := 1) rfl (q := 16) rfl ?_
    exact v_sub [0, 1] rfl (bm_data_16 O x1 1 M1 h)
  · rw [if_neg c2] at h
    refine v_iconst O.1 dX20_data_11 (v := 0) rfl (q := 12) rfl ?_
    refine v_goto O.1 dX20_data_12 (t := 16) (by decide) ?_
    exact v_sub [0, 1] rfl (bm_data_16 O x1 0 M1 h)
theorem met_data (l : Launch) (g : gM) (x1 : Int32) (M M' : Mem) (r : Int32) (h : fm_data x1 M = some (r, M')) : MetM l g yX20_data cX20_data 2 (some .int) 1 [.ref (gMa g 0), .int x1] M (mQi g r M') :=
  m_met (by decide) rfl (Nat.le_of_ble_eq_true rfl) (fun X O => bm_data O x1 M h)
/-! out(I)I -/
def fm_out_48 (y0 : Int32) (M : Mem) : Option (Int32 × Mem) :=
  some (y0, M)
set_option maxHeartbeats 4000000 in
theorem bm_out_48 {g : gM} {X : Cxt} {r : Int32} {M' : Mem} (O : OkM g X cX20_out 2 (some .int) 1 (mQi g r M')) (y0 : Int32) (M : Mem) (h : fm_out_48 y0 M = some (r, M')) : V X 2 0 (WdM g M) 48 [] [.int y0] := by
  unfold fm_out_48 at h
  exact m_iret O h dX20_out_48
def fm_out_27 (x1 : Int32) (y1 : Int32) (M : Mem) : Option (Int32 × Mem) :=
  stp (up2 M 0 17 y1) fun M1 =>
  if (M1 0 17) = 1 then
    fm_out_48 0 M1
  else
    gd (inb x1 64) <|
    fm_out_48 (M1 11 x1.toNatClampNeg) M1
set_option maxHeartbeats 4000000 in
theorem bm_out_27 {g : gM} {X : Cxt} {r : Int32} {M' : Mem} (O : OkM g X cX20_out 2 (some .int) 1 (mQi g r M')) (x1 : Int32) (y1 : Int32) (M : Mem) (h : fm_out_27 x1 y1 M = some (r, M')) : V X 2 0 (WdM g M) 27 [(0, .ref (gMa g 0)), (1, .int x1)] [.int y1, .ref (gMa g 0)] := by
  unfold fm_out_27 at h
  obtain ⟨M1, e1, h⟩ := stp_some h
  refine m_put O 17 (ty := .int) (by decide) q1749 rfl rfl rfl rfl rfl rfl dX20_out_27 (q := 30) rfl e1 ?_
  refine v_aload_n O.1 dX20_out_30 rfl (q := 31) rfl ?_
  refine m_get O 17 (v := .int (M1 0 17)) (by decide) q1749 rfl rfl dX20_out_31 (q := 34) rfl ?_
  refine v_iconst O.1 dX20_out_34 (v := 1) rfl (q := 35) rfl ?_
  refine v_icmp_ne O.1 dX20_out_35 (t := 42) (by decide) (q := 38) rfl (fun c2 => ?_) (fun c2 => ?_)
  · rw [if_neg c2] at h
    refine v_aload_n O.1 dX20_out_42 rfl (q := 43) rfl ?_
    refine m_get O 12 (v := .ref (gMa g 11)) (by decide) q1744 rfl rfl dX20_out_43 (q := 46) rfl ?_
    refine v_iload_n O.1 dX20_out_46 rfl (q := 47) rfl ?_
    obtain ⟨g3, h⟩ := gd_some h
    refine m_iald O rfl rfl (n := 64) g3 rfl (j := x1.toNatClampNeg) dX20_out_47 (q := 48) rfl ?_
    exact v_sub [] rfl (bm_out_48 O (M1 11 x1.toNatClampNeg) M1 h)
  · rw [if_pos c2] at h
    refine v_iconst O.1 dX20_out_38 (v := 0) rfl (q := 39) rfl ?_
    refine v_goto O.1 dX20_out_39 (t := 48) (by decide) ?_
    exact v_sub [] rfl (bm_out_48 O 0 M1 h)
def fm_out_26 (x1 : Int32) (M : Mem) : Option (Int32 × Mem) :=
  fm_out_27 x1 1 M
set_option maxHeartbeats 4000000 in
theorem bm_out_26 {g : gM} {X : Cxt} {r : Int32} {M' : Mem} (O : OkM g X cX20_out 2 (some .int) 1 (mQi g r M')) (x1 : Int32) (M : Mem) (h : fm_out_26 x1 M = some (r, M')) : V X 2 0 (WdM g M) 26 [(0, .ref (gMa g 0)), (1, .int x1)] [.ref (gMa g 0)] := by
  unfold fm_out_26 at h
  refine v_iconst O.1 dX20_out_26 (v := 1) rfl (q := 27) rfl ?_
  exact v_sub [0, 1] rfl (bm_out_27 O x1 1 M h)
def fm_out (x1 : Int32) (M : Mem) : Option (Int32 × Mem) :=
  bnd (fm_within x1 0 63 M) fun r1 M1 =>
  if r1 = 0 then
    fm_out_26 x1 M1
  else
    if (M1 6 15) ≤ x1 then
      fm_out_26 x1 M1
    else
      fm_out_27 x1 0 M1
set_option maxHeartbeats 4000000 in
theorem bm_out {g : gM} {X : Cxt} {r : Int32} {M' : Mem} (O : OkM g X cX20_out 2 (some .int) 1 (mQi g r M')) (x1 : Int32) (M : Mem) (h : fm_out x1 M = some (r, M')) : V X 2 0 (WdM g M) 0 [(0, .ref (gMa g 0)), (1, .int x1)] [] := by
  unfold fm_out at h
  refine v_aload_n O.1 dX20_out_0 rfl (q := 1) rfl ?_
  refine v_iload_n O.1 dX20_out_1 rfl (q := 2) rfl ?_
  refine v_iconst O.1 dX20_out_2 (v := 0) rfl (q := 3) rfl ?_
  refine v_bipush O.1 dX20_out_3 (v := 63) (by decide) (q := 5) rfl ?_
  obtain ⟨r1, M1, e1, h⟩ := bnd_some h
  refine m_callSi (As := [.int x1, .int 0, .int 63]) (rest := [.ref (gMa g 0)]) (n := 3) O (met_within _ g x1 0 63 M M1 r1 e1) (lw_S q1817 q1818 q84 q1819) (by decide +kernel) (by decide) (by decide) rfl rfl (Nat.le_of_ble_eq_true rfl) dX20_out_5 (q := 8) rfl ?_
  refine v_if_eq O.1 dX20_out_8 (t := 26) (by decide) (q := 11) rfl (fun c2 => ?_) (fun c2 => ?_)
  · rw [if_pos c2] at h
    exact v_sub [0, 1] rfl (bm_out_26 O x1 M1 h)
  · rw [if_neg c2] at h
    refine v_iload_n O.1 dX20_out_11 rfl (q := 12) rfl ?_
    refine v_aload_n O.1 dX20_out_12 rfl (q := 13) rfl ?_
    refine m_get O 6 (v := .ref (gMa g 6)) (by decide) q1738 rfl rfl dX20_out_13 (q := 16) rfl ?_
    refine v_bipush O.1 dX20_out_16 (v := 15) (by decide) (q := 18) rfl ?_
    refine m_iald O rfl rfl (n := 17) (by decide) (by decide) (j := 15) dX20_out_18 (q := 19) rfl ?_
    refine v_icmp_ge O.1 dX20_out_19 (t := 26) (by decide) (q := 22) rfl (fun c3 => ?_) (fun c3 => ?_)
    · rw [if_pos c3] at h
      exact v_sub [0, 1] rfl (bm_out_26 O x1 M1 h)
    · rw [if_neg c3] at h
      refine v_iconst O.1 dX20_out_22 (v := 0) rfl (q := 23) rfl ?_
      refine v_goto O.1 dX20_out_23 (t := 27) (by decide) ?_
      exact v_sub [0, 1] rfl (bm_out_27 O x1 0 M1 h)
theorem met_out (l : Launch) (g : gM) (x1 : Int32) (M M' : Mem) (r : Int32) (h : fm_out x1 M = some (r, M')) : MetM l g yX20_out cX20_out 2 (some .int) 1 [.ref (gMa g 0), .int x1] M (mQi g r M') :=
  m_met (by decide) rfl (Nat.le_of_ble_eq_true rfl) (fun X O => bm_out O x1 M h)
/-! source(II)I -/
def fm_source_125 (y0 : Int32) (M : Mem) : Option (Int32 × Mem) :=
  some (y0, M)
set_option maxHeartbeats 4000000 in
theorem bm_source_125 {g : gM} {X : Cxt} {r : Int32} {M' : Mem} (O : OkM g X cX20_source 3 (some .int) 1 (mQi g r M')) (y0 : Int32) (M : Mem) (h : fm_source_125 y0 M = some (r, M')) : V X 3 0 (WdM g M) 125 [] [.int y0] := by
  unfold fm_source_125 at h
  exact m_iret O h dX20_source_125
def fm_source_106 (y0 : Int32) (M : Mem) : Option (Int32 × Mem) :=
  some (y0, M)
set_option maxHeartbeats 4000000 in
theorem bm_source_106 {g : gM} {X : Cxt} {r : Int32} {M' : Mem} (O : OkM g X cX20_source 3 (some .int) 1 (mQi g r M')) (y0 : Int32) (M : Mem) (h : fm_source_106 y0 M = some (r, M')) : V X 3 0 (WdM g M) 106 [] [.int y0] := by
  unfold fm_source_106 at h
  exact m_iret O h dX20_source_106
def fm_source_84 (y0 : Int32) (M : Mem) : Option (Int32 × Mem) :=
  some (y0, M)
set_option maxHeartbeats 4000000 in
theorem bm_source_84 {g : gM} {X : Cxt} {r : Int32} {M' : Mem} (O : OkM g X cX20_source 3 (some .int) 1 (mQi g r M')) (y0 : Int32) (M : Mem) (h : fm_source_84 y0 M = some (r, M')) : V X 3 0 (WdM g M) 84 [] [.int y0] := by
  unfold fm_source_84 at h
  exact m_iret O h dX20_source_84
def fm_source (x1 : Int32) (x2 : Int32) (M : Mem) : Option (Int32 × Mem) :=
  stp (up2 M 0 17 0) fun M1 =>
  bnd (fm_within x1 0 20 M1) fun r2 M2 =>
  if r2 = 0 then
    some ((-2), M2)
  else
    if x2 = 0 then
      if x1 = 20 then
        fm_source_84 (-1) M2
      else
        gd (inb (173 + x1) 342) <|
        fm_source_84 (M2 4 (173 + x1).toNatClampNeg) M2
    else
    if x2 = 1 then
      gd (inb x1 21) <|
      some ((M2 2 x1.toNatClampNeg), M2)
    else
    if x2 = 2 then
      gd (inb x1 21) <|
      if (M2 3 x1.toNatClampNeg) = 0 then
        fm_source_106 0 M2
      else
        fm_source_106 1 M2
    else
    if x2 = 3 then
      gd (inb (194 + x1) 342) <|
      if (M2 4 (194 + x1).toNatClampNeg) < 0 then
        fm_source_125 0 M2
      else
        fm_source_125 1 M2
    else
    if x2 = 4 then
      gd (inb (300 + x1) 342) <|
      some ((M2 4 (300 + x1).toNatClampNeg), M2)
    else
    if x2 = 5 then
      gd (inb (215 + x1) 342) <|
      some ((M2 4 (215 + x1).toNatClampNeg), M2)
    else
    if x2 = 6 then
      bnd (fm_groupOf 4 x1 (M2 0 3) M2) fun r19 M19 =>
      some (r19, M19)
    else
    if x2 = 7 then
      bnd (fm_subOf 4 x1 (M2 0 3) M2) fun r21 M21 =>
      some (r21, M21)
    else
      some ((-2), M2)
set_option maxHeartbeats 4000000 in
theorem bm_source {g : gM} {X : Cxt} {r : Int32} {M' : Mem} (O : OkM g X cX20_source 3 (some .int) 1 (mQi g r M')) (x1 : Int32) (x2 : Int32) (M : Mem) (h : fm_source x1 x2 M = some (r, M')) : V X 3 0 (WdM g M) 0 [(0, .ref (gMa g 0)), (1, .int x1), (2, .int x2)] [] := by
  unfold fm_source at h
  refine v_aload_n O.1 dX20_source_0 rfl (q := 1) rfl ?_
  refine v_iconst O.1 dX20_source_1 (v := 0) rfl (q := 2) rfl ?_
  obtain ⟨M1, e1, h⟩ := stp_some h
  refine m_put O 17 (ty := .int) (by decide) q1749 rfl rfl rfl rfl rfl rfl dX20_source_2 (q := 5) rfl e1 ?_
  refine v_iload_n O.1 dX20_source_5 rfl (q := 6) rfl ?_
  refine v_iconst O.1 dX20_source_6 (v := 0) rfl (q := 7) rfl ?_
  refine v_bipush O.1 dX20_source_7 (v := 20) (by decide) (q := 9) rfl ?_
  obtain ⟨r2, M2, e2, h⟩ := bnd_some h
  refine m_callSi (As := [.int x1, .int 0, .int 20]) (rest := []) (n := 3) O (met_within _ g x1 0 20 M1 M2 r2 e2) (lw_S q1817 q1818 q84 q1819) (by decide +kernel) (by decide) (by decide) rfl rfl (Nat.le_of_ble_eq_true rfl) dX20_source_9 (q := 12) rfl ?_
  refine v_if_ne O.1 dX20_source_12 (t := 18) (by decide) (q := 15) rfl (fun c3 => ?_) (fun c3 => ?_)
  · rw [if_neg c3] at h
    refine v_iload_n O.1 dX20_source_18 rfl (q := 19) rfl ?_
    by_cases c6 : x2 = 0
    · rw [if_pos c6] at h
      refine v_tableIn O.1 dX20_source_19 (off := 45) (t := 64) (by rw [c6]; decide) (by rw [c6]; decide) (by rw [c6]; rfl) (by decide) ?_
      refine v_iload_n O.1 dX20_source_64 rfl (q := 65) rfl ?_
      refine v_bipush O.1 dX20_source_65 (v := 20) (by decide) (q := 67) rfl ?_
      refine v_icmp_ne O.1 dX20_source_67 (t := 74) (by decide) (q := 70) rfl (fun c4 => ?_) (fun c4 => ?_)
      · rw [if_neg c4] at h
        refine v_aload_n O.1 dX20_source_74 rfl (q := 75) rfl ?_
        refine m_get O 4 (v := .ref (gMa g 4)) (by decide) q1736 rfl rfl dX20_source_75 (q := 78) rfl ?_
        refine v_sipush O.1 dX20_source_78 (v := 173) (by decide) (q := 81) rfl ?_
        refine v_iload_n O.1 dX20_source_81 rfl (q := 82) rfl ?_
        refine v_iadd O.1 dX20_source_82 (q := 83) rfl ?_
        obtain ⟨g5, h⟩ := gd_some h
        refine m_iald O rfl rfl (n := 342) g5 rfl (j := (173 + x1).toNatClampNeg) dX20_source_83 (q := 84) rfl ?_
        exact v_sub [] rfl (bm_source_84 O (M2 4 (173 + x1).toNatClampNeg) M2 h)
      · rw [if_pos c4] at h
        refine v_iconst O.1 dX20_source_70 (v := (-1)) rfl (q := 71) rfl ?_
        refine v_goto O.1 dX20_source_71 (t := 84) (by decide) ?_
        exact v_sub [] rfl (bm_source_84 O (-1) M2 h)
    rw [if_neg c6] at h
    by_cases c8 : x2 = 1
    · rw [if_pos c8] at h
      refine v_tableIn O.1 dX20_source_19 (off := 66) (t := 85) (by rw [c8]; decide) (by rw [c8]; decide) (by rw [c8]; rfl) (by decide) ?_
      refine v_aload_n O.1 dX20_source_85 rfl (q := 86) rfl ?_
      refine m_get O 1 (v := .ref (gMa g 2)) (by decide) q1733 rfl rfl dX20_source_86 (q := 89) rfl ?_
      refine v_iload_n O.1 dX20_source_89 rfl (q := 90) rfl ?_
      obtain ⟨g7, h⟩ := gd_some h
      refine m_iald O rfl rfl (n := 21) g7 rfl (j := x1.toNatClampNeg) dX20_source_90 (q := 91) rfl ?_
      exact m_iret O h dX20_source_91
    rw [if_neg c8] at h
    by_cases c11 : x2 = 2
    · rw [if_pos c11] at h
      refine v_tableIn O.1 dX20_source_19 (off := 73) (t := 92) (by rw [c11]; decide) (by rw [c11]; decide) (by rw [c11]; rfl) (by decide) ?_
      refine v_aload_n O.1 dX20_source_92 rfl (q := 93) rfl ?_
      refine m_get O 2 (v := .ref (gMa g 3)) (by decide) q1734 rfl rfl dX20_source_93 (q := 96) rfl ?_
      refine v_iload_n O.1 dX20_source_96 rfl (q := 97) rfl ?_
      obtain ⟨g9, h⟩ := gd_some h
      refine m_bald O rfl rfl (n := 21) g9 rfl (j := x1.toNatClampNeg) dX20_source_97 (q := 98) rfl ?_
      refine v_if_eq O.1 dX20_source_98 (t := 105) (by decide) (q := 101) rfl (fun c10 => ?_) (fun c10 => ?_)
      · rw [if_pos c10] at h
        refine v_iconst O.1 dX20_source_105 (v := 0) rfl (q := 106) rfl ?_
        exact v_sub [] rfl (bm_source_106 O 0 M2 h)
      · rw [if_neg c10] at h
        refine v_iconst O.1 dX20_source_101 (v := 1) rfl (q := 102) rfl ?_
        refine v_goto O.1 dX20_source_102 (t := 106) (by decide) ?_
        exact v_sub [] rfl (bm_source_106 O 1 M2 h)
    rw [if_neg c11] at h
    by_cases c14 : x2 = 3
    · rw [if_pos c14] at h
      refine v_tableIn O.1 dX20_source_19 (off := 88) (t := 107) (by rw [c14]; decide) (by rw [c14]; decide) (by rw [c14]; rfl) (by decide) ?_
      refine v_aload_n O.1 dX20_source_107 rfl (q := 108) rfl ?_
      refine m_get O 4 (v := .ref (gMa g 4)) (by decide) q1736 rfl rfl dX20_source_108 (q := 111) rfl ?_
      refine v_sipush O.1 dX20_source_111 (v := 194) (by decide) (q := 114) rfl ?_
      refine v_iload_n O.1 dX20_source_114 rfl (q := 115) rfl ?_
      refine v_iadd O.1 dX20_source_115 (q := 116) rfl ?_
      obtain ⟨g12, h⟩ := gd_some h
      refine m_iald O rfl rfl (n := 342) g12 rfl (j := (194 + x1).toNatClampNeg) dX20_source_116 (q := 117) rfl ?_
      refine v_if_lt O.1 dX20_source_117 (t := 124) (by decide) (q := 120) rfl (fun c13 => ?_) (fun c13 => ?_)
      · rw [if_pos c13] at h
        refine v_iconst O.1 dX20_source_124 (v := 0) rfl (q := 125) rfl ?_
        exact v_sub [] rfl (bm_source_125 O 0 M2 h)
      · rw [if_neg c13] at h
        refine v_iconst O.1 dX20_source_120 (v := 1) rfl (q := 121) rfl ?_
        refine v_goto O.1 dX20_source_121 (t := 125) (by decide) ?_
        exact v_sub [] rfl (bm_source_125 O 1 M2 h)
    rw [if_neg c14] at h
    by_cases c16 : x2 = 4
    · rw [if_pos c16] at h
      refine v_tableIn O.1 dX20_source_19 (off := 107) (t := 126) (by rw [c16]; decide) (by rw [c16]; decide) (by rw [c16]; rfl) (by decide) ?_
      refine v_aload_n O.1 dX20_source_126 rfl (q := 127) rfl ?_
      refine m_get O 4 (v := .ref (gMa g 4)) (by decide) q1736 rfl rfl dX20_source_127 (q := 130) rfl ?_
      refine v_sipush O.1 dX20_source_130 (v := 300) (by decide) (q := 133) rfl ?_
      refine v_iload_n O.1 dX20_source_133 rfl (q := 134) rfl ?_
      refine v_iadd O.1 dX20_source_134 (q := 135) rfl ?_
      obtain ⟨g15, h⟩ := gd_some h
      refine m_iald O rfl rfl (n := 342) g15 rfl (j := (300 + x1).toNatClampNeg) dX20_source_135 (q := 136) rfl ?_
      exact m_iret O h dX20_source_136
    rw [if_neg c16] at h
    by_cases c18 : x2 = 5
    · rw [if_pos c18] at h
      refine v_tableIn O.1 dX20_source_19 (off := 118) (t := 137) (by rw [c18]; decide) (by rw [c18]; decide) (by rw [c18]; rfl) (by decide) ?_
      refine v_aload_n O.1 dX20_source_137 rfl (q := 138) rfl ?_
      refine m_get O 4 (v := .ref (gMa g 4)) (by decide) q1736 rfl rfl dX20_source_138 (q := 141) rfl ?_
      refine v_sipush O.1 dX20_source_141 (v := 215) (by decide) (q := 144) rfl ?_
      refine v_iload_n O.1 dX20_source_144 rfl (q := 145) rfl ?_
      refine v_iadd O.1 dX20_source_145 (q := 146) rfl ?_
      obtain ⟨g17, h⟩ := gd_some h
      refine m_iald O rfl rfl (n := 342) g17 rfl (j := (215 + x1).toNatClampNeg) dX20_source_146 (q := 147) rfl ?_
      exact m_iret O h dX20_source_147
    rw [if_neg c18] at h
    by_cases c20 : x2 = 6
    · rw [if_pos c20] at h
      refine v_tableIn O.1 dX20_source_19 (off := 129) (t := 148) (by rw [c20]; decide) (by rw [c20]; decide) (by rw [c20]; rfl) (by decide) ?_
      refine v_aload_n O.1 dX20_source_148 rfl (q := 149) rfl ?_
      refine m_get O 4 (v := .ref (gMa g 4)) (by decide) q1736 rfl rfl dX20_source_149 (q := 152) rfl ?_
      refine v_iload_n O.1 dX20_source_152 rfl (q := 153) rfl ?_
      refine v_aload_n O.1 dX20_source_153 rfl (q := 154) rfl ?_
      refine m_get O 3 (v := .int (M2 0 3)) (by decide) q1735 rfl rfl dX20_source_154 (q := 157) rfl ?_
      obtain ⟨r19, M19, e19, h⟩ := bnd_some h
      refine m_callSi (As := [.ref (gMa g 4), .int x1, .int (M2 0 3)]) (rest := []) (n := 3) O (met_groupOf _ g 4 mS_4 x1 (M2 0 3) M2 M19 r19 e19) (lw_S q1896 q1897 q84 q1898) (by decide +kernel) (by decide) (by decide) rfl rfl (Nat.le_of_ble_eq_true rfl) dX20_source_157 (q := 160) rfl ?_
      exact m_iret O h dX20_source_160
    rw [if_neg c20] at h
    by_cases c22 : x2 = 7
    · rw [if_pos c22] at h
      refine v_tableIn O.1 dX20_source_19 (off := 142) (t := 161) (by rw [c22]; decide) (by rw [c22]; decide) (by rw [c22]; rfl) (by decide) ?_
      refine v_aload_n O.1 dX20_source_161 rfl (q := 162) rfl ?_
      refine m_get O 4 (v := .ref (gMa g 4)) (by decide) q1736 rfl rfl dX20_source_162 (q := 165) rfl ?_
      refine v_iload_n O.1 dX20_source_165 rfl (q := 166) rfl ?_
      refine v_aload_n O.1 dX20_source_166 rfl (q := 167) rfl ?_
      refine m_get O 3 (v := .int (M2 0 3)) (by decide) q1735 rfl rfl dX20_source_167 (q := 170) rfl ?_
      obtain ⟨r21, M21, e21, h⟩ := bnd_some h
      refine m_callSi (As := [.ref (gMa g 4), .int x1, .int (M2 0 3)]) (rest := []) (n := 3) O (met_subOf _ g 4 mS_4 x1 (M2 0 3) M2 M21 r21 e21) (lw_S q1903 q1904 q84 q1905) (by decide +kernel) (by decide) (by decide) rfl rfl (Nat.le_of_ble_eq_true rfl) dX20_source_170 (q := 173) rfl ?_
      exact m_iret O h dX20_source_173
    rw [if_neg c22] at h
    refine v_tableOut O.1 dX20_source_19 (t := 174) (tbl_out 8 (by decide) (fun i hi => by match i, hi with | 0, _ => exact c6 | 1, _ => exact c8 | 2, _ => exact c11 | 3, _ => exact c14 | 4, _ => exact c16 | 5, _ => exact c18 | 6, _ => exact c20 | 7, _ => exact c22 | i + 8, hi => omega)) (by decide) ?_
    refine v_bipush O.1 dX20_source_174 (v := (-2)) (by decide) (q := 176) rfl ?_
    exact m_iret O h dX20_source_176
  · rw [if_pos c3] at h
    refine v_bipush O.1 dX20_source_15 (v := (-2)) (by decide) (q := 17) rfl ?_
    exact m_iret O h dX20_source_17
theorem met_source (l : Launch) (g : gM) (x1 : Int32) (x2 : Int32) (M M' : Mem) (r : Int32) (h : fm_source x1 x2 M = some (r, M')) : MetM l g yX20_source cX20_source 3 (some .int) 1 [.ref (gMa g 0), .int x1, .int x2] M (mQi g r M') :=
  m_met (by decide) rfl (Nat.le_of_ble_eq_true rfl) (fun X O => bm_source O x1 x2 M h)
/-! nest(I)I -/
def fm_nest_36 (y0 : Int32) (M : Mem) : Option (Int32 × Mem) :=
  some (y0, M)
set_option maxHeartbeats 4000000 in
theorem bm_nest_36 {g : gM} {X : Cxt} {r : Int32} {M' : Mem} (O : OkM g X cX20_nest 2 (some .int) 1 (mQi g r M')) (y0 : Int32) (M : Mem) (h : fm_nest_36 y0 M = some (r, M')) : V X 2 0 (WdM g M) 36 [] [.int y0] := by
  unfold fm_nest_36 at h
  exact m_iret O h dX20_nest_36
def fm_nest (x1 : Int32) (M : Mem) : Option (Int32 × Mem) :=
  stp (up2 M 0 17 0) fun M1 =>
  bnd (fm_within x1 0 ((M1 4 30) - 1) M1) fun r2 M2 =>
  if r2 = 0 then
    fm_nest_36 (-1) M2
  else
    gd (inb (152 + x1) 342) <|
    fm_nest_36 (M2 4 (152 + x1).toNatClampNeg) M2
set_option maxHeartbeats 4000000 in
theorem bm_nest {g : gM} {X : Cxt} {r : Int32} {M' : Mem} (O : OkM g X cX20_nest 2 (some .int) 1 (mQi g r M')) (x1 : Int32) (M : Mem) (h : fm_nest x1 M = some (r, M')) : V X 2 0 (WdM g M) 0 [(0, .ref (gMa g 0)), (1, .int x1)] [] := by
  unfold fm_nest at h
  refine v_aload_n O.1 dX20_nest_0 rfl (q := 1) rfl ?_
  refine v_iconst O.1 dX20_nest_1 (v := 0) rfl (q := 2) rfl ?_
  obtain ⟨M1, e1, h⟩ := stp_some h
  refine m_put O 17 (ty := .int) (by decide) q1749 rfl rfl rfl rfl rfl rfl dX20_nest_2 (q := 5) rfl e1 ?_
  refine v_iload_n O.1 dX20_nest_5 rfl (q := 6) rfl ?_
  refine v_iconst O.1 dX20_nest_6 (v := 0) rfl (q := 7) rfl ?_
  refine v_aload_n O.1 dX20_nest_7 rfl (q := 8) rfl ?_
  refine m_get O 4 (v := .ref (gMa g 4)) (by decide) q1736 rfl rfl dX20_nest_8 (q := 11) rfl ?_
  refine v_bipush O.1 dX20_nest_11 (v := 30) (by decide) (q := 13) rfl ?_
  refine m_iald O rfl rfl (n := 342) (by decide) (by decide) (j := 30) dX20_nest_13 (q := 14) rfl ?_
  refine v_iconst O.1 dX20_nest_14 (v := 1) rfl (q := 15) rfl ?_
  refine v_isub O.1 dX20_nest_15 (q := 16) rfl ?_
  obtain ⟨r2, M2, e2, h⟩ := bnd_some h
  refine m_callSi (As := [.int x1, .int 0, .int ((M1 4 30) - 1)]) (rest := []) (n := 3) O (met_within _ g x1 0 ((M1 4 30) - 1) M1 M2 r2 e2) (lw_S q1817 q1818 q84 q1819) (by decide +kernel) (by decide) (by decide) rfl rfl (Nat.le_of_ble_eq_true rfl) dX20_nest_16 (q := 19) rfl ?_
  refine v_if_eq O.1 dX20_nest_19 (t := 35) (by decide) (q := 22) rfl (fun c3 => ?_) (fun c3 => ?_)
  · rw [if_pos c3] at h
    refine v_iconst O.1 dX20_nest_35 (v := (-1)) rfl (q := 36) rfl ?_
    exact v_sub [] rfl (bm_nest_36 O (-1) M2 h)
  · rw [if_neg c3] at h
    refine v_aload_n O.1 dX20_nest_22 rfl (q := 23) rfl ?_
    refine m_get O 4 (v := .ref (gMa g 4)) (by decide) q1736 rfl rfl dX20_nest_23 (q := 26) rfl ?_
    refine v_sipush O.1 dX20_nest_26 (v := 152) (by decide) (q := 29) rfl ?_
    refine v_iload_n O.1 dX20_nest_29 rfl (q := 30) rfl ?_
    refine v_iadd O.1 dX20_nest_30 (q := 31) rfl ?_
    obtain ⟨g4, h⟩ := gd_some h
    refine m_iald O rfl rfl (n := 342) g4 rfl (j := (152 + x1).toNatClampNeg) dX20_nest_31 (q := 32) rfl ?_
    refine v_goto O.1 dX20_nest_32 (t := 36) (by decide) ?_
    exact v_sub [] rfl (bm_nest_36 O (M2 4 (152 + x1).toNatClampNeg) M2 h)
theorem met_nest (l : Launch) (g : gM) (x1 : Int32) (M M' : Mem) (r : Int32) (h : fm_nest x1 M = some (r, M')) : MetM l g yX20_nest cX20_nest 2 (some .int) 1 [.ref (gMa g 0), .int x1] M (mQi g r M') :=
  m_met (by decide) rfl (Nat.le_of_ble_eq_true rfl) (fun X O => bm_nest O x1 M h)
/-! state(I)I -/
def fm_state_204 (y2 : Int32) (y1 : Int32) (M : Mem) : Option (Int32 × Mem) :=
  bnd (fm_limitOf 4 y1 y2 M) fun r1 M1 =>
  some (r1, M1)
set_option maxHeartbeats 4000000 in
theorem bm_state_204 {g : gM} {X : Cxt} {r : Int32} {M' : Mem} (O : OkM g X cX20_state 2 (some .int) 4 (mQi g r M')) (y2 : Int32) (y1 : Int32) (M : Mem) (h : fm_state_204 y2 y1 M = some (r, M')) : V X 2 0 (WdM g M) 204 [] [.int y2, .int y1, .ref (gMa g 4)] := by
  unfold fm_state_204 at h
  obtain ⟨r1, M1, e1, h⟩ := bnd_some h
  refine m_callSi (As := [.ref (gMa g 4), .int y1, .int y2]) (rest := []) (n := 3) O (met_limitOf _ g 4 mS_4 y1 y2 M M1 r1 e1) (lw_S q1893 q1894 q84 q1895) (by decide +kernel) (by decide) (by decide) rfl rfl (Nat.le_of_ble_eq_true rfl) dX20_state_204 (q := 207) rfl ?_
  exact m_iret O h dX20_state_207
def fm_state (x1 : Int32) (M : Mem) : Option (Int32 × Mem) :=
  stp (up2 M 0 17 0) fun M1 =>
  if x1 = 0 then
    some ((M1 4 20), M1)
  else
  if x1 = 1 then
    some ((M1 4 21), M1)
  else
  if x1 = 2 then
    some ((M1 4 22), M1)
  else
  if x1 = 3 then
    some ((M1 4 23), M1)
  else
  if x1 = 4 then
    some ((M1 4 12), M1)
  else
  if x1 = 5 then
    some ((M1 4 15), M1)
  else
  if x1 = 6 then
    some ((M1 4 13), M1)
  else
  if x1 = 7 then
    some ((M1 4 14), M1)
  else
  if x1 = 8 then
    some ((M1 4 16), M1)
  else
  if x1 = 9 then
    some ((M1 4 17), M1)
  else
  if x1 = 10 then
    some ((M1 4 18), M1)
  else
  if x1 = 11 then
    some ((M1 4 19), M1)
  else
  if x1 = 12 then
    if (M1 4 16) = 1 then
      fm_state_204 1 (M1 0 3) M1
    else
      fm_state_204 0 (M1 0 3) M1
  else
  if x1 = 13 then
    bnd (fm_nextOf 4 M1) fun r16 M16 =>
    some (r16, M16)
  else
  if x1 = 14 then
    some ((M1 0 3), M1)
  else
  if x1 = 15 then
    some ((M1 4 27), M1)
  else
    some ((-2), M1)
set_option maxHeartbeats 4000000 in
theorem bm_state {g : gM} {X : Cxt} {r : Int32} {M' : Mem} (O : OkM g X cX20_state 2 (some .int) 4 (mQi g r M')) (x1 : Int32) (M : Mem) (h : fm_state x1 M = some (r, M')) : V X 2 0 (WdM g M) 0 [(0, .ref (gMa g 0)), (1, .int x1)] [] := by
  unfold fm_state at h
  refine v_aload_n O.1 dX20_state_0 rfl (q := 1) rfl ?_
  refine v_iconst O.1 dX20_state_1 (v := 0) rfl (q := 2) rfl ?_
  obtain ⟨M1, e1, h⟩ := stp_some h
  refine m_put O 17 (ty := .int) (by decide) q1749 rfl rfl rfl rfl rfl rfl dX20_state_2 (q := 5) rfl e1 ?_
  refine v_iload_n O.1 dX20_state_5 rfl (q := 6) rfl ?_
  by_cases c2 : x1 = 0
  · rw [if_pos c2] at h
    refine v_tableIn O.1 dX20_state_6 (off := 78) (t := 84) (by rw [c2]; decide) (by rw [c2]; decide) (by rw [c2]; rfl) (by decide) ?_
    refine v_aload_n O.1 dX20_state_84 rfl (q := 85) rfl ?_
    refine m_get O 4 (v := .ref (gMa g 4)) (by decide) q1736 rfl rfl dX20_state_85 (q := 88) rfl ?_
    refine v_bipush O.1 dX20_state_88 (v := 20) (by decide) (q := 90) rfl ?_
    refine m_iald O rfl rfl (n := 342) (by decide) (by decide) (j := 20) dX20_state_90 (q := 91) rfl ?_
    exact m_iret O h dX20_state_91
  rw [if_neg c2] at h
  by_cases c3 : x1 = 1
  · rw [if_pos c3] at h
    refine v_tableIn O.1 dX20_state_6 (off := 86) (t := 92) (by rw [c3]; decide) (by rw [c3]; decide) (by rw [c3]; rfl) (by decide) ?_
    refine v_aload_n O.1 dX20_state_92 rfl (q := 93) rfl ?_
    refine m_get O 4 (v := .ref (gMa g 4)) (by decide) q1736 rfl rfl dX20_state_93 (q := 96) rfl ?_
    refine v_bipush O.1 dX20_state_96 (v := 21) (by decide) (q := 98) rfl ?_
    refine m_iald O rfl rfl (n := 342) (by decide) (by decide) (j := 21) dX20_state_98 (q := 99) rfl ?_
    exact m_iret O h dX20_state_99
  rw [if_neg c3] at h
  by_cases c4 : x1 = 2
  · rw [if_pos c4] at h
    refine v_tableIn O.1 dX20_state_6 (off := 94) (t := 100) (by rw [c4]; decide) (by rw [c4]; decide) (by rw [c4]; rfl) (by decide) ?_
    refine v_aload_n O.1 dX20_state_100 rfl (q := 101) rfl ?_
    refine m_get O 4 (v := .ref (gMa g 4)) (by decide) q1736 rfl rfl dX20_state_101 (q := 104) rfl ?_
    refine v_bipush O.1 dX20_state_104 (v := 22) (by decide) (q := 106) rfl ?_
    refine m_iald O rfl rfl (n := 342) (by decide) (by decide) (j := 22) dX20_state_106 (q := 107) rfl ?_
    exact m_iret O h dX20_state_107
  rw [if_neg c4] at h
  by_cases c5 : x1 = 3
  · rw [if_pos c5] at h
    refine v_tableIn O.1 dX20_state_6 (off := 102) (t := 108) (by rw [c5]; decide) (by rw [c5]; decide) (by rw [c5]; rfl) (by decide) ?_
    refine v_aload_n O.1 dX20_state_108 rfl (q := 109) rfl ?_
    refine m_get O 4 (v := .ref (gMa g 4)) (by decide) q1736 rfl rfl dX20_state_109 (q := 112) rfl ?_
    refine v_bipush O.1 dX20_state_112 (v := 23) (by decide) (q := 114) rfl ?_
    refine m_iald O rfl rfl (n := 342) (by decide) (by decide) (j := 23) dX20_state_114 (q := 115) rfl ?_
    exact m_iret O h dX20_state_115
  rw [if_neg c5] at h
  by_cases c6 : x1 = 4
  · rw [if_pos c6] at h
    refine v_tableIn O.1 dX20_state_6 (off := 110) (t := 116) (by rw [c6]; decide) (by rw [c6]; decide) (by rw [c6]; rfl) (by decide) ?_
    refine v_aload_n O.1 dX20_state_116 rfl (q := 117) rfl ?_
    refine m_get O 4 (v := .ref (gMa g 4)) (by decide) q1736 rfl rfl dX20_state_117 (q := 120) rfl ?_
    refine v_bipush O.1 dX20_state_120 (v := 12) (by decide) (q := 122) rfl ?_
    refine m_iald O rfl rfl (n := 342) (by decide) (by decide) (j := 12) dX20_state_122 (q := 123) rfl ?_
    exact m_iret O h dX20_state_123
  rw [if_neg c6] at h
  by_cases c7 : x1 = 5
  · rw [if_pos c7] at h
    refine v_tableIn O.1 dX20_state_6 (off := 118) (t := 124) (by rw [c7]; decide) (by rw [c7]; decide) (by rw [c7]; rfl) (by decide) ?_
    refine v_aload_n O.1 dX20_state_124 rfl (q := 125) rfl ?_
    refine m_get O 4 (v := .ref (gMa g 4)) (by decide) q1736 rfl rfl dX20_state_125 (q := 128) rfl ?_
    refine v_bipush O.1 dX20_state_128 (v := 15) (by decide) (q := 130) rfl ?_
    refine m_iald O rfl rfl (n := 342) (by decide) (by decide) (j := 15) dX20_state_130 (q := 131) rfl ?_
    exact m_iret O h dX20_state_131
  rw [if_neg c7] at h
  by_cases c8 : x1 = 6
  · rw [if_pos c8] at h
    refine v_tableIn O.1 dX20_state_6 (off := 126) (t := 132) (by rw [c8]; decide) (by rw [c8]; decide) (by rw [c8]; rfl) (by decide) ?_
    refine v_aload_n O.1 dX20_state_132 rfl (q := 133) rfl ?_
    refine m_get O 4 (v := .ref (gMa g 4)) (by decide) q1736 rfl rfl dX20_state_133 (q := 136) rfl ?_
    refine v_bipush O.1 dX20_state_136 (v := 13) (by decide) (q := 138) rfl ?_
    refine m_iald O rfl rfl (n := 342) (by decide) (by decide) (j := 13) dX20_state_138 (q := 139) rfl ?_
    exact m_iret O h dX20_state_139
  rw [if_neg c8] at h
  by_cases c9 : x1 = 7
  · rw [if_pos c9] at h
    refine v_tableIn O.1 dX20_state_6 (off := 134) (t := 140) (by rw [c9]; decide) (by rw [c9]; decide) (by rw [c9]; rfl) (by decide) ?_
    refine v_aload_n O.1 dX20_state_140 rfl (q := 141) rfl ?_
    refine m_get O 4 (v := .ref (gMa g 4)) (by decide) q1736 rfl rfl dX20_state_141 (q := 144) rfl ?_
    refine v_bipush O.1 dX20_state_144 (v := 14) (by decide) (q := 146) rfl ?_
    refine m_iald O rfl rfl (n := 342) (by decide) (by decide) (j := 14) dX20_state_146 (q := 147) rfl ?_
    exact m_iret O h dX20_state_147
  rw [if_neg c9] at h
  by_cases c10 : x1 = 8
  · rw [if_pos c10] at h
    refine v_tableIn O.1 dX20_state_6 (off := 142) (t := 148) (by rw [c10]; decide) (by rw [c10]; decide) (by rw [c10]; rfl) (by decide) ?_
    refine v_aload_n O.1 dX20_state_148 rfl (q := 149) rfl ?_
    refine m_get O 4 (v := .ref (gMa g 4)) (by decide) q1736 rfl rfl dX20_state_149 (q := 152) rfl ?_
    refine v_bipush O.1 dX20_state_152 (v := 16) (by decide) (q := 154) rfl ?_
    refine m_iald O rfl rfl (n := 342) (by decide) (by decide) (j := 16) dX20_state_154 (q := 155) rfl ?_
    exact m_iret O h dX20_state_155
  rw [if_neg c10] at h
  by_cases c11 : x1 = 9
  · rw [if_pos c11] at h
    refine v_tableIn O.1 dX20_state_6 (off := 150) (t := 156) (by rw [c11]; decide) (by rw [c11]; decide) (by rw [c11]; rfl) (by decide) ?_
    refine v_aload_n O.1 dX20_state_156 rfl (q := 157) rfl ?_
    refine m_get O 4 (v := .ref (gMa g 4)) (by decide) q1736 rfl rfl dX20_state_157 (q := 160) rfl ?_
    refine v_bipush O.1 dX20_state_160 (v := 17) (by decide) (q := 162) rfl ?_
    refine m_iald O rfl rfl (n := 342) (by decide) (by decide) (j := 17) dX20_state_162 (q := 163) rfl ?_
    exact m_iret O h dX20_state_163
  rw [if_neg c11] at h
  by_cases c12 : x1 = 10
  · rw [if_pos c12] at h
    refine v_tableIn O.1 dX20_state_6 (off := 158) (t := 164) (by rw [c12]; decide) (by rw [c12]; decide) (by rw [c12]; rfl) (by decide) ?_
    refine v_aload_n O.1 dX20_state_164 rfl (q := 165) rfl ?_
    refine m_get O 4 (v := .ref (gMa g 4)) (by decide) q1736 rfl rfl dX20_state_165 (q := 168) rfl ?_
    refine v_bipush O.1 dX20_state_168 (v := 18) (by decide) (q := 170) rfl ?_
    refine m_iald O rfl rfl (n := 342) (by decide) (by decide) (j := 18) dX20_state_170 (q := 171) rfl ?_
    exact m_iret O h dX20_state_171
  rw [if_neg c12] at h
  by_cases c13 : x1 = 11
  · rw [if_pos c13] at h
    refine v_tableIn O.1 dX20_state_6 (off := 166) (t := 172) (by rw [c13]; decide) (by rw [c13]; decide) (by rw [c13]; rfl) (by decide) ?_
    refine v_aload_n O.1 dX20_state_172 rfl (q := 173) rfl ?_
    refine m_get O 4 (v := .ref (gMa g 4)) (by decide) q1736 rfl rfl dX20_state_173 (q := 176) rfl ?_
    refine v_bipush O.1 dX20_state_176 (v := 19) (by decide) (q := 178) rfl ?_
    refine m_iald O rfl rfl (n := 342) (by decide) (by decide) (j := 19) dX20_state_178 (q := 179) rfl ?_
    exact m_iret O h dX20_state_179
  rw [if_neg c13] at h
  by_cases c15 : x1 = 12
  · rw [if_pos c15] at h
    refine v_tableIn O.1 dX20_state_6 (off := 174) (t := 180) (by rw [c15]; decide) (by rw [c15]; decide) (by rw [c15]; rfl) (by decide) ?_
    refine v_aload_n O.1 dX20_state_180 rfl (q := 181) rfl ?_
    refine m_get O 4 (v := .ref (gMa g 4)) (by decide) q1736 rfl rfl dX20_state_181 (q := 184) rfl ?_
    refine v_aload_n O.1 dX20_state_184 rfl (q := 185) rfl ?_
    refine m_get O 3 (v := .int (M1 0 3)) (by decide) q1735 rfl rfl dX20_state_185 (q := 188) rfl ?_
    refine v_aload_n O.1 dX20_state_188 rfl (q := 189) rfl ?_
    refine m_get O 4 (v := .ref (gMa g 4)) (by decide) q1736 rfl rfl dX20_state_189 (q := 192) rfl ?_
    refine v_bipush O.1 dX20_state_192 (v := 16) (by decide) (q := 194) rfl ?_
    refine m_iald O rfl rfl (n := 342) (by decide) (by decide) (j := 16) dX20_state_194 (q := 195) rfl ?_
    refine v_iconst O.1 dX20_state_195 (v := 1) rfl (q := 196) rfl ?_
    refine v_icmp_ne O.1 dX20_state_196 (t := 203) (by decide) (q := 199) rfl (fun c14 => ?_) (fun c14 => ?_)
    · rw [if_neg c14] at h
      refine v_iconst O.1 dX20_state_203 (v := 0) rfl (q := 204) rfl ?_
      exact v_sub [] rfl (bm_state_204 O 0 (M1 0 3) M1 h)
    · rw [if_pos c14] at h
      refine v_iconst O.1 dX20_state_199 (v := 1) rfl (q := 200) rfl ?_
      refine v_goto O.1 dX20_state_200 (t := 204) (by decide) ?_
      exact v_sub [] rfl (bm_state_204 O 1 (M1 0 3) M1 h)
  rw [if_neg c15] at h
  by_cases c17 : x1 = 13
  · rw [if_pos c17] at h
    refine v_tableIn O.1 dX20_state_6 (off := 202) (t := 208) (by rw [c17]; decide) (by rw [c17]; decide) (by rw [c17]; rfl) (by decide) ?_
    refine v_aload_n O.1 dX20_state_208 rfl (q := 209) rfl ?_
    refine v_aload_n O.1 dX20_state_209 rfl (q := 210) rfl ?_
    refine m_get O 4 (v := .ref (gMa g 4)) (by decide) q1736 rfl rfl dX20_state_210 (q := 213) rfl ?_
    obtain ⟨r16, M16, e16, h⟩ := bnd_some h
    refine m_callVi (As := [.ref (gMa g 4)]) (rest := []) (n := 1) O (met_nextOf _ g 4 mS_4 M1 M16 r16 e16) (lw_V q1885 q1887 qs27 q84 q1888) (by decide +kernel) (by decide) (by decide) rfl rfl (Nat.le_of_ble_eq_true rfl) dX20_state_213 (q := 216) rfl ?_
    exact m_iret O h dX20_state_216
  rw [if_neg c17] at h
  by_cases c18 : x1 = 14
  · rw [if_pos c18] at h
    refine v_tableIn O.1 dX20_state_6 (off := 211) (t := 217) (by rw [c18]; decide) (by rw [c18]; decide) (by rw [c18]; rfl) (by decide) ?_
    refine v_aload_n O.1 dX20_state_217 rfl (q := 218) rfl ?_
    refine m_get O 3 (v := .int (M1 0 3)) (by decide) q1735 rfl rfl dX20_state_218 (q := 221) rfl ?_
    exact m_iret O h dX20_state_221
  rw [if_neg c18] at h
  by_cases c19 : x1 = 15
  · rw [if_pos c19] at h
    refine v_tableIn O.1 dX20_state_6 (off := 216) (t := 222) (by rw [c19]; decide) (by rw [c19]; decide) (by rw [c19]; rfl) (by decide) ?_
    refine v_aload_n O.1 dX20_state_222 rfl (q := 223) rfl ?_
    refine m_get O 4 (v := .ref (gMa g 4)) (by decide) q1736 rfl rfl dX20_state_223 (q := 226) rfl ?_
    refine v_bipush O.1 dX20_state_226 (v := 27) (by decide) (q := 228) rfl ?_
    refine m_iald O rfl rfl (n := 342) (by decide) (by decide) (j := 27) dX20_state_228 (q := 229) rfl ?_
    exact m_iret O h dX20_state_229
  rw [if_neg c19] at h
  refine v_tableOut O.1 dX20_state_6 (t := 230) (tbl_out 16 (by decide) (fun i hi => by match i, hi with | 0, _ => exact c2 | 1, _ => exact c3 | 2, _ => exact c4 | 3, _ => exact c5 | 4, _ => exact c6 | 5, _ => exact c7 | 6, _ => exact c8 | 7, _ => exact c9 | 8, _ => exact c10 | 9, _ => exact c11 | 10, _ => exact c12 | 11, _ => exact c13 | 12, _ => exact c15 | 13, _ => exact c17 | 14, _ => exact c18 | 15, _ => exact c19 | i + 16, hi => omega)) (by decide) ?_
  refine v_bipush O.1 dX20_state_230 (v := (-2)) (by decide) (q := 232) rfl ?_
  exact m_iret O h dX20_state_232
theorem met_state (l : Launch) (g : gM) (x1 : Int32) (M M' : Mem) (r : Int32) (h : fm_state x1 M = some (r, M')) : MetM l g yX20_state cX20_state 2 (some .int) 4 [.ref (gMa g 0), .int x1] M (mQi g r M') :=
  m_met (by decide) rfl (Nat.le_of_ble_eq_true rfl) (fun X O => bm_state O x1 M h)
/-! count(I)I -/
def fm_count_81 (y0 : Int32) (M : Mem) : Option (Int32 × Mem) :=
  some (y0, M)
set_option maxHeartbeats 4000000 in
theorem bm_count_81 {g : gM} {X : Cxt} {r : Int32} {M' : Mem} (O : OkM g X cX20_count 2 (some .int) 1 (mQi g r M')) (y0 : Int32) (M : Mem) (h : fm_count_81 y0 M = some (r, M')) : V X 2 0 (WdM g M) 81 [] [.int y0] := by
  unfold fm_count_81 at h
  exact m_iret O h dX20_count_81
def fm_count (x1 : Int32) (M : Mem) : Option (Int32 × Mem) :=
  stp (up2 M 0 17 0) fun M1 =>
  bnd (fm_within x1 0 16 M1) fun r2 M2 =>
  if r2 = 0 then
    some ((-1), M2)
  else
    if x1 = 0 then
      some ((M2 4 25), M2)
    else
      if x1 = 11 then
        some ((M2 4 30), M2)
      else
        if x1 = 14 then
          some ((M2 4 31), M2)
        else
          if x1 = 16 then
            if 24 ≤ (M2 0 11) then
              fm_count_81 24 M2
            else
              fm_count_81 (M2 0 11) M2
          else
            gd (inb x1 17) <|
            some ((M2 6 x1.toNatClampNeg), M2)
set_option maxHeartbeats 4000000 in
theorem bm_count {g : gM} {X : Cxt} {r : Int32} {M' : Mem} (O : OkM g X cX20_count 2 (some .int) 1 (mQi g r M')) (x1 : Int32) (M : Mem) (h : fm_count x1 M = some (r, M')) : V X 2 0 (WdM g M) 0 [(0, .ref (gMa g 0)), (1, .int x1)] [] := by
  unfold fm_count at h
  refine v_aload_n O.1 dX20_count_0 rfl (q := 1) rfl ?_
  refine v_iconst O.1 dX20_count_1 (v := 0) rfl (q := 2) rfl ?_
  obtain ⟨M1, e1, h⟩ := stp_some h
  refine m_put O 17 (ty := .int) (by decide) q1749 rfl rfl rfl rfl rfl rfl dX20_count_2 (q := 5) rfl e1 ?_
  refine v_iload_n O.1 dX20_count_5 rfl (q := 6) rfl ?_
  refine v_iconst O.1 dX20_count_6 (v := 0) rfl (q := 7) rfl ?_
  refine v_bipush O.1 dX20_count_7 (v := 16) (by decide) (q := 9) rfl ?_
  obtain ⟨r2, M2, e2, h⟩ := bnd_some h
  refine m_callSi (As := [.int x1, .int 0, .int 16]) (rest := []) (n := 3) O (met_within _ g x1 0 16 M1 M2 r2 e2) (lw_S q1817 q1818 q84 q1819) (by decide +kernel) (by decide) (by decide) rfl rfl (Nat.le_of_ble_eq_true rfl) dX20_count_9 (q := 12) rfl ?_
  refine v_if_ne O.1 dX20_count_12 (t := 17) (by decide) (q := 15) rfl (fun c3 => ?_) (fun c3 => ?_)
  · rw [if_neg c3] at h
    refine v_iload_n O.1 dX20_count_17 rfl (q := 18) rfl ?_
    refine v_if_ne O.1 dX20_count_18 (t := 29) (by decide) (q := 21) rfl (fun c4 => ?_) (fun c4 => ?_)
    · rw [if_neg c4] at h
      refine v_iload_n O.1 dX20_count_29 rfl (q := 30) rfl ?_
      refine v_bipush O.1 dX20_count_30 (v := 11) (by decide) (q := 32) rfl ?_
      refine v_icmp_ne O.1 dX20_count_32 (t := 43) (by decide) (q := 35) rfl (fun c5 => ?_) (fun c5 => ?_)
      · rw [if_neg c5] at h
        refine v_iload_n O.1 dX20_count_43 rfl (q := 44) rfl ?_
        refine v_bipush O.1 dX20_count_44 (v := 14) (by decide) (q := 46) rfl ?_
        refine v_icmp_ne O.1 dX20_count_46 (t := 57) (by decide) (q := 49) rfl (fun c6 => ?_) (fun c6 => ?_)
        · rw [if_neg c6] at h
          refine v_iload_n O.1 dX20_count_57 rfl (q := 58) rfl ?_
          refine v_bipush O.1 dX20_count_58 (v := 16) (by decide) (q := 60) rfl ?_
          refine v_icmp_ne O.1 dX20_count_60 (t := 82) (by decide) (q := 63) rfl (fun c7 => ?_) (fun c7 => ?_)
          · rw [if_neg c7] at h
            refine v_aload_n O.1 dX20_count_82 rfl (q := 83) rfl ?_
            refine m_get O 6 (v := .ref (gMa g 6)) (by decide) q1738 rfl rfl dX20_count_83 (q := 86) rfl ?_
            refine v_iload_n O.1 dX20_count_86 rfl (q := 87) rfl ?_
            obtain ⟨g8, h⟩ := gd_some h
            refine m_iald O rfl rfl (n := 17) g8 rfl (j := x1.toNatClampNeg) dX20_count_87 (q := 88) rfl ?_
            exact m_iret O h dX20_count_88
          · rw [if_pos c7] at h
            refine v_aload_n O.1 dX20_count_63 rfl (q := 64) rfl ?_
            refine m_get O 11 (v := .int (M2 0 11)) (by decide) q1743 rfl rfl dX20_count_64 (q := 67) rfl ?_
            refine v_bipush O.1 dX20_count_67 (v := 24) (by decide) (q := 69) rfl ?_
            refine v_icmp_ge O.1 dX20_count_69 (t := 79) (by decide) (q := 72) rfl (fun c9 => ?_) (fun c9 => ?_)
            · rw [if_pos c9] at h
              refine v_bipush O.1 dX20_count_79 (v := 24) (by decide) (q := 81) rfl ?_
              exact v_sub [] rfl (bm_count_81 O 24 M2 h)
            · rw [if_neg c9] at h
              refine v_aload_n O.1 dX20_count_72 rfl (q := 73) rfl ?_
              refine m_get O 11 (v := .int (M2 0 11)) (by decide) q1743 rfl rfl dX20_count_73 (q := 76) rfl ?_
              refine v_goto O.1 dX20_count_76 (t := 81) (by decide) ?_
              exact v_sub [] rfl (bm_count_81 O (M2 0 11) M2 h)
        · rw [if_pos c6] at h
          refine v_aload_n O.1 dX20_count_49 rfl (q := 50) rfl ?_
          refine m_get O 4 (v := .ref (gMa g 4)) (by decide) q1736 rfl rfl dX20_count_50 (q := 53) rfl ?_
          refine v_bipush O.1 dX20_count_53 (v := 31) (by decide) (q := 55) rfl ?_
          refine m_iald O rfl rfl (n := 342) (by decide) (by decide) (j := 31) dX20_count_55 (q := 56) rfl ?_
          exact m_iret O h dX20_count_56
      · rw [if_pos c5] at h
        refine v_aload_n O.1 dX20_count_35 rfl (q := 36) rfl ?_
        refine m_get O 4 (v := .ref (gMa g 4)) (by decide) q1736 rfl rfl dX20_count_36 (q := 39) rfl ?_
        refine v_bipush O.1 dX20_count_39 (v := 30) (by decide) (q := 41) rfl ?_
        refine m_iald O rfl rfl (n := 342) (by decide) (by decide) (j := 30) dX20_count_41 (q := 42) rfl ?_
        exact m_iret O h dX20_count_42
    · rw [if_pos c4] at h
      refine v_aload_n O.1 dX20_count_21 rfl (q := 22) rfl ?_
      refine m_get O 4 (v := .ref (gMa g 4)) (by decide) q1736 rfl rfl dX20_count_22 (q := 25) rfl ?_
      refine v_bipush O.1 dX20_count_25 (v := 25) (by decide) (q := 27) rfl ?_
      refine m_iald O rfl rfl (n := 342) (by decide) (by decide) (j := 25) dX20_count_27 (q := 28) rfl ?_
      exact m_iret O h dX20_count_28
  · rw [if_pos c3] at h
    refine v_iconst O.1 dX20_count_15 (v := (-1)) rfl (q := 16) rfl ?_
    exact m_iret O h dX20_count_16
theorem met_count (l : Launch) (g : gM) (x1 : Int32) (M M' : Mem) (r : Int32) (h : fm_count x1 M = some (r, M')) : MetM l g yX20_count cX20_count 2 (some .int) 1 [.ref (gMa g 0), .int x1] M (mQi g r M') :=
  m_met (by decide) rfl (Nat.le_of_ble_eq_true rfl) (fun X O => bm_count O x1 M h)
/-! event(II)I -/
def fm_event_122 (y0 : Int32) (M : Mem) : Option (Int32 × Mem) :=
  some (y0, M)
set_option maxHeartbeats 4000000 in
theorem bm_event_122 {g : gM} {X : Cxt} {r : Int32} {M' : Mem} (O : OkM g X cX20_event 5 (some .int) 1 (mQi g r M')) (y0 : Int32) (M : Mem) (h : fm_event_122 y0 M = some (r, M')) : V X 5 0 (WdM g M) 122 [] [.int y0] := by
  unfold fm_event_122 at h
  exact m_iret O h dX20_event_122
def fm_event_45 (x1 : Int32) (x2 : Int32) (y1 : Int32) (M : Mem) : Option (Int32 × Mem) :=
  stp (up2 M 0 17 y1) fun M1 =>
  if (M1 0 17) = 1 then
    some (0, M1)
  else
    if x2 = 0 then
      gd (inb ((((M1 0 11) - 1) - x1) - (((M1 0 11) - 1) - x1) / 24 * 24) 24) <|
      fm_event_122 (M1 7 ((((M1 0 11) - 1) - x1) - (((M1 0 11) - 1) - x1) / 24 * 24).toNatClampNeg) M1
    else
      if x2 = 1 then
        gd (inb ((((M1 0 11) - 1) - x1) - (((M1 0 11) - 1) - x1) / 24 * 24) 24) <|
        fm_event_122 (M1 8 ((((M1 0 11) - 1) - x1) - (((M1 0 11) - 1) - x1) / 24 * 24).toNatClampNeg) M1
      else
        if x2 = 2 then
          gd (inb ((((M1 0 11) - 1) - x1) - (((M1 0 11) - 1) - x1) / 24 * 24) 24) <|
          fm_event_122 (M1 9 ((((M1 0 11) - 1) - x1) - (((M1 0 11) - 1) - x1) / 24 * 24).toNatClampNeg) M1
        else
          gd (inb ((((M1 0 11) - 1) - x1) - (((M1 0 11) - 1) - x1) / 24 * 24) 24) <|
          fm_event_122 (M1 10 ((((M1 0 11) - 1) - x1) - (((M1 0 11) - 1) - x1) / 24 * 24).toNatClampNeg) M1
set_option maxHeartbeats 4000000 in
theorem bm_event_45 {g : gM} {X : Cxt} {r : Int32} {M' : Mem} (O : OkM g X cX20_event 5 (some .int) 1 (mQi g r M')) (x1 : Int32) (x2 : Int32) (y1 : Int32) (M : Mem) (h : fm_event_45 x1 x2 y1 M = some (r, M')) : V X 5 0 (WdM g M) 45 [(0, .ref (gMa g 0)), (1, .int x1), (2, .int x2)] [.int y1, .ref (gMa g 0)] := by
  unfold fm_event_45 at h
  obtain ⟨M1, e1, h⟩ := stp_some h
  refine m_put O 17 (ty := .int) (by decide) q1749 rfl rfl rfl rfl rfl rfl dX20_event_45 (q := 48) rfl e1 ?_
  refine v_aload_n O.1 dX20_event_48 rfl (q := 49) rfl ?_
  refine m_get O 17 (v := .int (M1 0 17)) (by decide) q1749 rfl rfl dX20_event_49 (q := 52) rfl ?_
  refine v_iconst O.1 dX20_event_52 (v := 1) rfl (q := 53) rfl ?_
  refine v_icmp_ne O.1 dX20_event_53 (t := 58) (by decide) (q := 56) rfl (fun c2 => ?_) (fun c2 => ?_)
  · rw [if_neg c2] at h
    refine v_aload_n O.1 dX20_event_58 rfl (q := 59) rfl ?_
    refine m_get O 11 (v := .int (M1 0 11)) (by decide) q1743 rfl rfl dX20_event_59 (q := 62) rfl ?_
    refine v_iconst O.1 dX20_event_62 (v := 1) rfl (q := 63) rfl ?_
    refine v_isub O.1 dX20_event_63 (q := 64) rfl ?_
    refine v_iload_n O.1 dX20_event_64 rfl (q := 65) rfl ?_
    refine v_isub O.1 dX20_event_65 (q := 66) rfl ?_
    refine v_bipush O.1 dX20_event_66 (v := 24) (by decide) (q := 68) rfl ?_
    refine v_irem O.1 dX20_event_68 (by decide) (q := 69) rfl ?_
    refine v_istore (lv' := [(4, .int ((((M1 0 11) - 1) - x1) - (((M1 0 11) - 1) - x1) / 24 * 24)), (0, .ref (gMa g 0)), (1, .int x1), (2, .int x2)]) O.1 dX20_event_69 (by decide) rfl (q := 71) rfl ?_
    refine v_iload_n O.1 dX20_event_71 rfl (q := 72) rfl ?_
    refine v_if_ne O.1 dX20_event_72 (t := 85) (by decide) (q := 75) rfl (fun c3 => ?_) (fun c3 => ?_)
    · rw [if_neg c3] at h
      refine v_iload_n O.1 dX20_event_85 rfl (q := 86) rfl ?_
      refine v_iconst O.1 dX20_event_86 (v := 1) rfl (q := 87) rfl ?_
      refine v_icmp_ne O.1 dX20_event_87 (t := 100) (by decide) (q := 90) rfl (fun c4 => ?_) (fun c4 => ?_)
      · rw [if_neg c4] at h
        refine v_iload_n O.1 dX20_event_100 rfl (q := 101) rfl ?_
        refine v_iconst O.1 dX20_event_101 (v := 2) rfl (q := 102) rfl ?_
        refine v_icmp_ne O.1 dX20_event_102 (t := 115) (by decide) (q := 105) rfl (fun c5 => ?_) (fun c5 => ?_)
        · rw [if_neg c5] at h
          refine v_aload_n O.1 dX20_event_115 rfl (q := 116) rfl ?_
          refine m_get O 10 (v := .ref (gMa g 10)) (by decide) q1742 rfl rfl dX20_event_116 (q := 119) rfl ?_
          refine v_iload O.1 dX20_event_119 rfl (q := 121) rfl ?_
          obtain ⟨g6, h⟩ := gd_some h
          refine m_iald O rfl rfl (n := 24) g6 rfl (j := ((((M1 0 11) - 1) - x1) - (((M1 0 11) - 1) - x1) / 24 * 24).toNatClampNeg) dX20_event_121 (q := 122) rfl ?_
          exact v_sub [] rfl (bm_event_122 O (M1 10 ((((M1 0 11) - 1) - x1) - (((M1 0 11) - 1) - x1) / 24 * 24).toNatClampNeg) M1 h)
        · rw [if_pos c5] at h
          refine v_aload_n O.1 dX20_event_105 rfl (q := 106) rfl ?_
          refine m_get O 9 (v := .ref (gMa g 9)) (by decide) q1741 rfl rfl dX20_event_106 (q := 109) rfl ?_
          refine v_iload O.1 dX20_event_109 rfl (q := 111) rfl ?_
          obtain ⟨g7, h⟩ := gd_some h
          refine m_iald O rfl rfl (n := 24) g7 rfl (j := ((((M1 0 11) - 1) - x1) - (((M1 0 11) - 1) - x1) / 24 * 24).toNatClampNeg) dX20_event_111 (q := 112) rfl ?_
          refine v_goto O.1 dX20_event_112 (t := 122) (by decide) ?_
          exact v_sub [] rfl (bm_event_122 O (M1 9 ((((M1 0 11) - 1) - x1) - (((M1 0 11) - 1) - x1) / 24 * 24).toNatClampNeg) M1 h)
      · rw [if_pos c4] at h
        refine v_aload_n O.1 dX20_event_90 rfl (q := 91) rfl ?_
        refine m_get O 8 (v := .ref (gMa g 8)) (by decide) q1740 rfl rfl dX20_event_91 (q := 94) rfl ?_
        refine v_iload O.1 dX20_event_94 rfl (q := 96) rfl ?_
        obtain ⟨g8, h⟩ := gd_some h
        refine m_iald O rfl rfl (n := 24) g8 rfl (j := ((((M1 0 11) - 1) - x1) - (((M1 0 11) - 1) - x1) / 24 * 24).toNatClampNeg) dX20_event_96 (q := 97) rfl ?_
        refine v_goto O.1 dX20_event_97 (t := 122) (by decide) ?_
        exact v_sub [] rfl (bm_event_122 O (M1 8 ((((M1 0 11) - 1) - x1) - (((M1 0 11) - 1) - x1) / 24 * 24).toNatClampNeg) M1 h)
    · rw [if_pos c3] at h
      refine v_aload_n O.1 dX20_event_75 rfl (q := 76) rfl ?_
      refine m_get O 7 (v := .ref (gMa g 7)) (by decide) q1739 rfl rfl dX20_event_76 (q := 79) rfl ?_
      refine v_iload O.1 dX20_event_79 rfl (q := 81) rfl ?_
      obtain ⟨g9, h⟩ := gd_some h
      refine m_iald O rfl rfl (n := 24) g9 rfl (j := ((((M1 0 11) - 1) - x1) - (((M1 0 11) - 1) - x1) / 24 * 24).toNatClampNeg) dX20_event_81 (q := 82) rfl ?_
      refine v_goto O.1 dX20_event_82 (t := 122) (by decide) ?_
      exact v_sub [] rfl (bm_event_122 O (M1 7 ((((M1 0 11) - 1) - x1) - (((M1 0 11) - 1) - x1) / 24 * 24).toNatClampNeg) M1 h)
  · rw [if_pos c2] at h
    refine v_iconst O.1 dX20_event_56 (v := 0) rfl (q := 57) rfl ?_
    exact m_iret O h dX20_event_57
def fm_event_44 (x1 : Int32) (x2 : Int32) (M : Mem) : Option (Int32 × Mem) :=
  fm_event_45 x1 x2 1 M
set_option maxHeartbeats 4000000 in
theorem bm_event_44 {g : gM} {X : Cxt} {r : Int32} {M' : Mem} (O : OkM g X cX20_event 5 (some .int) 1 (mQi g r M')) (x1 : Int32) (x2 : Int32) (M : Mem) (h : fm_event_44 x1 x2 M = some (r, M')) : V X 5 0 (WdM g M) 44 [(0, .ref (gMa g 0)), (1, .int x1), (2, .int x2)] [.ref (gMa g 0)] := by
  unfold fm_event_44 at h
  refine v_iconst O.1 dX20_event_44 (v := 1) rfl (q := 45) rfl ?_
  exact v_sub [0, 1, 2] rfl (bm_event_45 O x1 x2 1 M h)
def fm_event_18 (x1 : Int32) (x2 : Int32) (y0 : Int32) (M : Mem) : Option (Int32 × Mem) :=
  bnd (fm_within x1 0 (y0 - 1) M) fun r1 M1 =>
  if r1 = 0 then
    fm_event_44 x1 x2 M1
  else
    bnd (fm_within x2 0 3 M1) fun r3 M3 =>
    if r3 = 0 then
      fm_event_44 x1 x2 M3
    else
      fm_event_45 x1 x2 0 M3
set_option maxHeartbeats 4000000 in
theorem bm_event_18 {g : gM} {X : Cxt} {r : Int32} {M' : Mem} (O : OkM g X cX20_event 5 (some .int) 1 (mQi g r M')) (x1 : Int32) (x2 : Int32) (y0 : Int32) (M : Mem) (h : fm_event_18 x1 x2 y0 M = some (r, M')) : V X 5 0 (WdM g M) 18 [(0, .ref (gMa g 0)), (1, .int x1), (2, .int x2)] [.int y0] := by
  unfold fm_event_18 at h
  refine v_istore_n (lv' := [(3, .int y0), (0, .ref (gMa g 0)), (1, .int x1), (2, .int x2)]) O.1 dX20_event_18 (by decide) rfl (q := 19) rfl ?_
  refine v_aload_n O.1 dX20_event_19 rfl (q := 20) rfl ?_
  refine v_iload_n O.1 dX20_event_20 rfl (q := 21) rfl ?_
  refine v_iconst O.1 dX20_event_21 (v := 0) rfl (q := 22) rfl ?_
  refine v_iload_n O.1 dX20_event_22 rfl (q := 23) rfl ?_
  refine v_iconst O.1 dX20_event_23 (v := 1) rfl (q := 24) rfl ?_
  refine v_isub O.1 dX20_event_24 (q := 25) rfl ?_
  obtain ⟨r1, M1, e1, h⟩ := bnd_some h
  refine m_callSi (As := [.int x1, .int 0, .int (y0 - 1)]) (rest := [.ref (gMa g 0)]) (n := 3) O (met_within _ g x1 0 (y0 - 1) M M1 r1 e1) (lw_S q1817 q1818 q84 q1819) (by decide +kernel) (by decide) (by decide) rfl rfl (Nat.le_of_ble_eq_true rfl) dX20_event_25 (q := 28) rfl ?_
  refine v_if_eq O.1 dX20_event_28 (t := 44) (by decide) (q := 31) rfl (fun c2 => ?_) (fun c2 => ?_)
  · rw [if_pos c2] at h
    exact v_sub [1, 2, 3] rfl (bm_event_44 O x1 x2 M1 h)
  · rw [if_neg c2] at h
    refine v_iload_n O.1 dX20_event_31 rfl (q := 32) rfl ?_
    refine v_iconst O.1 dX20_event_32 (v := 0) rfl (q := 33) rfl ?_
    refine v_iconst O.1 dX20_event_33 (v := 3) rfl (q := 34) rfl ?_
    obtain ⟨r3, M3, e3, h⟩ := bnd_some h
    refine m_callSi (As := [.int x2, .int 0, .int 3]) (rest := [.ref (gMa g 0)]) (n := 3) O (met_within _ g x2 0 3 M1 M3 r3 e3) (lw_S q1817 q1818 q84 q1819) (by decide +kernel) (by decide) (by decide) rfl rfl (Nat.le_of_ble_eq_true rfl) dX20_event_34 (q := 37) rfl ?_
    refine v_if_eq O.1 dX20_event_37 (t := 44) (by decide) (q := 40) rfl (fun c4 => ?_) (fun c4 => ?_)
    · rw [if_pos c4] at h
      exact v_sub [1, 2, 3] rfl (bm_event_44 O x1 x2 M3 h)
    · rw [if_neg c4] at h
      refine v_iconst O.1 dX20_event_40 (v := 0) rfl (q := 41) rfl ?_
      refine v_goto O.1 dX20_event_41 (t := 45) (by decide) ?_
      exact v_sub [1, 2, 3] rfl (bm_event_45 O x1 x2 0 M3 h)
def fm_event (x1 : Int32) (x2 : Int32) (M : Mem) : Option (Int32 × Mem) :=
  if 24 ≤ (M 0 11) then
    fm_event_18 x1 x2 24 M
  else
    fm_event_18 x1 x2 (M 0 11) M
set_option maxHeartbeats 4000000 in
theorem bm_event {g : gM} {X : Cxt} {r : Int32} {M' : Mem} (O : OkM g X cX20_event 5 (some .int) 1 (mQi g r M')) (x1 : Int32) (x2 : Int32) (M : Mem) (h : fm_event x1 x2 M = some (r, M')) : V X 5 0 (WdM g M) 0 [(0, .ref (gMa g 0)), (1, .int x1), (2, .int x2)] [] := by
  unfold fm_event at h
  refine v_aload_n O.1 dX20_event_0 rfl (q := 1) rfl ?_
  refine m_get O 11 (v := .int (M 0 11)) (by decide) q1743 rfl rfl dX20_event_1 (q := 4) rfl ?_
  refine v_bipush O.1 dX20_event_4 (v := 24) (by decide) (q := 6) rfl ?_
  refine v_icmp_ge O.1 dX20_event_6 (t := 16) (by decide) (q := 9) rfl (fun c1 => ?_) (fun c1 => ?_)
  · rw [if_pos c1] at h
    refine v_bipush O.1 dX20_event_16 (v := 24) (by decide) (q := 18) rfl ?_
    exact v_sub [0, 1, 2] rfl (bm_event_18 O x1 x2 24 M h)
  · rw [if_neg c1] at h
    refine v_aload_n O.1 dX20_event_9 rfl (q := 10) rfl ?_
    refine m_get O 11 (v := .int (M 0 11)) (by decide) q1743 rfl rfl dX20_event_10 (q := 13) rfl ?_
    refine v_goto O.1 dX20_event_13 (t := 18) (by decide) ?_
    exact v_sub [0, 1, 2] rfl (bm_event_18 O x1 x2 (M 0 11) M h)
theorem met_event (l : Launch) (g : gM) (x1 : Int32) (x2 : Int32) (M M' : Mem) (r : Int32) (h : fm_event x1 x2 M = some (r, M')) : MetM l g yX20_event cX20_event 5 (some .int) 1 [.ref (gMa g 0), .int x1, .int x2] M (mQi g r M') :=
  m_met (by decide) rfl (Nat.le_of_ble_eq_true rfl) (fun X O => bm_event O x1 x2 M h)
