/-! limitOf([IIZ)I -/
def fm_limitOf_40 (s : Nat) (K7 : Int32 → Int32 → Int32 → Int32 → Mem → Option (Int32 × Mem)) (x1 : Int32) (x2 : Int32) (x3 : Int32) (x4 : Int32) (M : Mem) : Option (Int32 × Mem) :=
  K7 x1 x2 x3 (x4 + 1) M
set_option maxHeartbeats 4000000 in
theorem bm_limitOf_40 {g : gM} {X : Cxt} {r : Int32} {M' : Mem} {s : Nat} (hs : mS s) (O : OkM g X cX20_limitOf 6 (some .int) 1 (mQi g r M')) {K7 : Int32 → Int32 → Int32 → Int32 → Mem → Option (Int32 × Mem)} (hK7 : ∀ (x1 : Int32) (x2 : Int32) (x3 : Int32) (x4 : Int32) (M : Mem), K7 x1 x2 x3 x4 M = some (r, M') → V X 6 0 (WdM g M) 7 [(0, .ref (gMa g s)), (1, .int x1), (2, .int x2), (3, .int x3), (4, .int x4)] []) (x1 : Int32) (x2 : Int32) (x3 : Int32) (x4 : Int32) (M : Mem) (h : fm_limitOf_40 s K7 x1 x2 x3 x4 M = some (r, M')) : V X 6 0 (WdM g M) 40 [(0, .ref (gMa g s)), (1, .int x1), (2, .int x2), (3, .int x3), (4, .int x4)] [] := by
  unfold fm_limitOf_40 at h
  refine v_iinc (lv' := [(4, .int (x4 + 1)), (0, .ref (gMa g s)), (1, .int x1), (2, .int x2), (3, .int x3)]) (v := (x4 + 1)) O.1 dX20_limitOf_40 rfl rfl (by decide) rfl (q := 43) rfl ?_
  refine v_goto O.1 dX20_limitOf_43 (t := 7) (by decide) ?_
  exact v_sub [1, 2, 3, 4, 0] rfl (hK7 x1 x2 x3 (x4 + 1) M h)
def fm_limitOf_80 (s : Nat) (x3 : Int32) (M : Mem) : Option (Int32 × Mem) :=
  some (x3, M)
set_option maxHeartbeats 4000000 in
theorem bm_limitOf_80 {g : gM} {X : Cxt} {r : Int32} {M' : Mem} {s : Nat} (hs : mS s) (O : OkM g X cX20_limitOf 6 (some .int) 1 (mQi g r M')) (x3 : Int32) (M : Mem) (h : fm_limitOf_80 s x3 M = some (r, M')) : V X 6 0 (WdM g M) 80 [(3, .int x3)] [] := by
  unfold fm_limitOf_80 at h
  refine v_iload_n O.1 dX20_limitOf_80 rfl (q := 81) rfl ?_
  exact m_iret O h dX20_limitOf_81
def fm_limitOf_70 (s : Nat) (x2 : Int32) (x3 : Int32) (M : Mem) : Option (Int32 × Mem) :=
  if x2 = 0 then
    fm_limitOf_80 s x3 M
  else
    if x3 ≤ 0 then
      fm_limitOf_80 s x3 M
    else
      fm_limitOf_80 s 0 M
set_option maxHeartbeats 4000000 in
theorem bm_limitOf_70 {g : gM} {X : Cxt} {r : Int32} {M' : Mem} {s : Nat} (hs : mS s) (O : OkM g X cX20_limitOf 6 (some .int) 1 (mQi g r M')) (x2 : Int32) (x3 : Int32) (M : Mem) (h : fm_limitOf_70 s x2 x3 M = some (r, M')) : V X 6 0 (WdM g M) 70 [(2, .int x2), (3, .int x3)] [] := by
  unfold fm_limitOf_70 at h
  refine v_iload_n O.1 dX20_limitOf_70 rfl (q := 71) rfl ?_
  refine v_if_eq O.1 dX20_limitOf_71 (t := 80) (by decide) (q := 74) rfl (fun c1 => ?_) (fun c1 => ?_)
  · rw [if_pos c1] at h
    exact v_sub [1] rfl (bm_limitOf_80 hs O x3 M h)
  · rw [if_neg c1] at h
    refine v_iload_n O.1 dX20_limitOf_74 rfl (q := 75) rfl ?_
    refine v_if_le O.1 dX20_limitOf_75 (t := 80) (by decide) (q := 78) rfl (fun c2 => ?_) (fun c2 => ?_)
    · rw [if_pos c2] at h
      exact v_sub [1] rfl (bm_limitOf_80 hs O x3 M h)
    · rw [if_neg c2] at h
      refine v_iconst O.1 dX20_limitOf_78 (v := 0) rfl (q := 79) rfl ?_
      refine v_istore_n (lv' := [(3, .int 0), (2, .int x2)]) O.1 dX20_limitOf_79 (by decide) rfl (q := 80) rfl ?_
      exact v_sub [0] rfl (bm_limitOf_80 hs O 0 M h)
def fm_limitOf_7b (s : Nat) (K7 : Int32 → Int32 → Int32 → Int32 → Mem → Option (Int32 × Mem)) (x1 : Int32) (x2 : Int32) (x3 : Int32) (x4 : Int32) (M : Mem) : Option (Int32 × Mem) :=
  if (M s 30) ≤ x4 then
    if (M s 17) = 0 then
      fm_limitOf_70 s x2 x3 M
    else
      if x3 ≤ ((M s 17) >>> (x1 &&& 31)) then
        fm_limitOf_70 s x2 x3 M
      else
        fm_limitOf_70 s x2 ((M s 17) >>> (x1 &&& 31)) M
  else
    gd (inb (152 + x4) 342) <|
    bnd (fm_groupOf s (M s (152 + x4).toNatClampNeg) x1 M) fun r5 M5 =>
    if x3 ≤ r5 then
      fm_limitOf_40 s K7 x1 x2 x3 x4 M5
    else
      fm_limitOf_40 s K7 x1 x2 r5 x4 M5
set_option maxHeartbeats 4000000 in
theorem bm_limitOf_7b {g : gM} {X : Cxt} {r : Int32} {M' : Mem} {s : Nat} (hs : mS s) (O : OkM g X cX20_limitOf 6 (some .int) 1 (mQi g r M')) {K7 : Int32 → Int32 → Int32 → Int32 → Mem → Option (Int32 × Mem)} (hK7 : ∀ (x1 : Int32) (x2 : Int32) (x3 : Int32) (x4 : Int32) (M : Mem), K7 x1 x2 x3 x4 M = some (r, M') → V X 6 0 (WdM g M) 7 [(0, .ref (gMa g s)), (1, .int x1), (2, .int x2), (3, .int x3), (4, .int x4)] []) (x1 : Int32) (x2 : Int32) (x3 : Int32) (x4 : Int32) (M : Mem) (h : fm_limitOf_7b s K7 x1 x2 x3 x4 M = some (r, M')) : V X 6 0 (WdM g M) 7 [(0, .ref (gMa g s)), (1, .int x1), (2, .int x2), (3, .int x3), (4, .int x4)] [] := by
  unfold fm_limitOf_7b at h
  refine v_iload O.1 dX20_limitOf_7 rfl (q := 9) rfl ?_
  refine v_aload_n O.1 dX20_limitOf_9 rfl (q := 10) rfl ?_
  refine v_bipush O.1 dX20_limitOf_10 (v := 30) (by decide) (q := 12) rfl ?_
  refine m_iald O (mS_i hs) (mS_l hs) (n := 342) (by decide) (by decide) (j := 30) dX20_limitOf_12 (q := 13) rfl ?_
  refine v_icmp_ge O.1 dX20_limitOf_13 (t := 46) (by decide) (q := 16) rfl (fun c1 => ?_) (fun c1 => ?_)
  · rw [if_pos c1] at h
    refine v_aload_n O.1 dX20_limitOf_46 rfl (q := 47) rfl ?_
    refine v_bipush O.1 dX20_limitOf_47 (v := 17) (by decide) (q := 49) rfl ?_
    refine m_iald O (mS_i hs) (mS_l hs) (n := 342) (by decide) (by decide) (j := 17) dX20_limitOf_49 (q := 50) rfl ?_
    refine v_if_eq O.1 dX20_limitOf_50 (t := 70) (by decide) (q := 53) rfl (fun c2 => ?_) (fun c2 => ?_)
    · rw [if_pos c2] at h
      exact v_sub [2, 3] rfl (bm_limitOf_70 hs O x2 x3 M h)
    · rw [if_neg c2] at h
      refine v_aload_n O.1 dX20_limitOf_53 rfl (q := 54) rfl ?_
      refine v_bipush O.1 dX20_limitOf_54 (v := 17) (by decide) (q := 56) rfl ?_
      refine m_iald O (mS_i hs) (mS_l hs) (n := 342) (by decide) (by decide) (j := 17) dX20_limitOf_56 (q := 57) rfl ?_
      refine v_iload_n O.1 dX20_limitOf_57 rfl (q := 58) rfl ?_
      refine v_ishr O.1 dX20_limitOf_58 (q := 59) rfl ?_
      refine v_iload_n O.1 dX20_limitOf_59 rfl (q := 60) rfl ?_
      refine v_icmp_ge O.1 dX20_limitOf_60 (t := 70) (by decide) (q := 63) rfl (fun c3 => ?_) (fun c3 => ?_)
      · rw [if_pos c3] at h
        exact v_sub [2, 3] rfl (bm_limitOf_70 hs O x2 x3 M h)
      · rw [if_neg c3] at h
        refine v_aload_n O.1 dX20_limitOf_63 rfl (q := 64) rfl ?_
        refine v_bipush O.1 dX20_limitOf_64 (v := 17) (by decide) (q := 66) rfl ?_
        refine m_iald O (mS_i hs) (mS_l hs) (n := 342) (by decide) (by decide) (j := 17) dX20_limitOf_66 (q := 67) rfl ?_
        refine v_iload_n O.1 dX20_limitOf_67 rfl (q := 68) rfl ?_
        refine v_ishr O.1 dX20_limitOf_68 (q := 69) rfl ?_
        refine v_istore_n (lv' := [(3, .int ((M s 17) >>> (x1 &&& 31))), (0, .ref (gMa g s)), (1, .int x1), (2, .int x2), (4, .int x4)]) O.1 dX20_limitOf_69 (by decide) rfl (q := 70) rfl ?_
        exact v_sub [3, 0] rfl (bm_limitOf_70 hs O x2 ((M s 17) >>> (x1 &&& 31)) M h)
  · rw [if_neg c1] at h
    refine v_aload_n O.1 dX20_limitOf_16 rfl (q := 17) rfl ?_
    refine v_aload_n O.1 dX20_limitOf_17 rfl (q := 18) rfl ?_
    refine v_sipush O.1 dX20_limitOf_18 (v := 152) (by decide) (q := 21) rfl ?_
    refine v_iload O.1 dX20_limitOf_21 rfl (q := 23) rfl ?_
    refine v_iadd O.1 dX20_limitOf_23 (q := 24) rfl ?_
    obtain ⟨g4, h⟩ := gd_some h
    refine m_iald O (mS_i hs) (mS_l hs) (n := 342) g4 rfl (j := (152 + x4).toNatClampNeg) dX20_limitOf_24 (q := 25) rfl ?_
    refine v_iload_n O.1 dX20_limitOf_25 rfl (q := 26) rfl ?_
    obtain ⟨r5, M5, e5, h⟩ := bnd_some h
    refine m_callSi (As := [.ref (gMa g s), .int (M s (152 + x4).toNatClampNeg), .int x1]) (rest := []) (n := 3) O (met_groupOf _ g s hs (M s (152 + x4).toNatClampNeg) x1 M M5 r5 e5) (lw_S q1896 q1897 q84 q1898) (by decide +kernel) (by decide) (by decide) rfl rfl (Nat.le_of_ble_eq_true rfl) dX20_limitOf_26 (q := 29) rfl ?_
    refine v_istore (lv' := [(5, .int r5), (0, .ref (gMa g s)), (1, .int x1), (2, .int x2), (3, .int x3), (4, .int x4)]) O.1 dX20_limitOf_29 (by decide) rfl (q := 31) rfl ?_
    refine v_iload O.1 dX20_limitOf_31 rfl (q := 33) rfl ?_
    refine v_iload_n O.1 dX20_limitOf_33 rfl (q := 34) rfl ?_
    refine v_icmp_ge O.1 dX20_limitOf_34 (t := 40) (by decide) (q := 37) rfl (fun c6 => ?_) (fun c6 => ?_)
    · rw [if_pos c6] at h
      exact v_sub [1, 2, 3, 4, 5] rfl (bm_limitOf_40 hs O hK7 x1 x2 x3 x4 M5 h)
    · rw [if_neg c6] at h
      refine v_iload O.1 dX20_limitOf_37 rfl (q := 39) rfl ?_
      refine v_istore_n (lv' := [(3, .int r5), (5, .int r5), (0, .ref (gMa g s)), (1, .int x1), (2, .int x2), (4, .int x4)]) O.1 dX20_limitOf_39 (by decide) rfl (q := 40) rfl ?_
      exact v_sub [2, 3, 4, 0, 5] rfl (bm_limitOf_40 hs O hK7 x1 x2 r5 x4 M5 h)
def fm_limitOf_7 (s : Nat) (n : Nat) : Int32 → Int32 → Int32 → Int32 → Mem → Option (Int32 × Mem) := lpc (fm_limitOf_7b s) (fun _ _ _ _ _ => none) n
theorem bm_limitOf_7 {g : gM} {X : Cxt} {r : Int32} {M' : Mem} {s : Nat} (hs : mS s) (O : OkM g X cX20_limitOf 6 (some .int) 1 (mQi g r M')) : ∀ (n : Nat) (x1 : Int32) (x2 : Int32) (x3 : Int32) (x4 : Int32) (M : Mem), fm_limitOf_7 s n x1 x2 x3 x4 M = some (r, M') → V X 6 0 (WdM g M) 7 [(0, .ref (gMa g s)), (1, .int x1), (2, .int x2), (3, .int x3), (4, .int x4)] [] := by
  intro n
  induction n with
  | zero =>
    intro x1 x2 x3 x4 M h
    cases h
  | succ n ih =>
    intro x1 x2 x3 x4 M h
    exact bm_limitOf_7b hs O ih x1 x2 x3 x4 M h
def fm_limitOf (s : Nat) (x1 : Int32) (x2 : Int32) (M : Mem) : Option (Int32 × Mem) :=
  fm_limitOf_7 s 600 x1 x2 256 0 M
set_option maxHeartbeats 4000000 in
theorem bm_limitOf {g : gM} {X : Cxt} {r : Int32} {M' : Mem} {s : Nat} (hs : mS s) (O : OkM g X cX20_limitOf 6 (some .int) 1 (mQi g r M')) (x1 : Int32) (x2 : Int32) (M : Mem) (h : fm_limitOf s x1 x2 M = some (r, M')) : V X 6 0 (WdM g M) 0 [(0, .ref (gMa g s)), (1, .int x1), (2, .int x2)] [] := by
  unfold fm_limitOf at h
  refine v_sipush O.1 dX20_limitOf_0 (v := 256) (by decide) (q := 3) rfl ?_
  refine v_istore_n (lv' := [(3, .int 256), (0, .ref (gMa g s)), (1, .int x1), (2, .int x2)]) O.1 dX20_limitOf_3 (by decide) rfl (q := 4) rfl ?_
  refine v_iconst O.1 dX20_limitOf_4 (v := 0) rfl (q := 5) rfl ?_
  refine v_istore (lv' := [(4, .int 0), (3, .int 256), (0, .ref (gMa g s)), (1, .int x1), (2, .int x2)]) O.1 dX20_limitOf_5 (by decide) rfl (q := 7) rfl ?_
  exact v_sub [2, 3, 4, 1, 0] rfl (bm_limitOf_7 hs O 600 x1 x2 256 0 M h)
theorem met_limitOf (l : Launch) (g : gM) (s : Nat) (hs : mS s) (x1 : Int32) (x2 : Int32) (M M' : Mem) (r : Int32) (h : fm_limitOf s x1 x2 M = some (r, M')) : MetM l g yX20_limitOf cX20_limitOf 6 (some .int) 1 [.ref (gMa g s), .int x1, .int x2] M (mQi g r M') :=
  m_met (by decide) rfl (Nat.le_of_ble_eq_true rfl) (fun X O => bm_limitOf hs O x1 x2 M h)
/-! subOf([III)I -/
def fm_subOf_29 (s : Nat) (y0 : Int32) (M : Mem) : Option (Int32 × Mem) :=
  some (y0, M)
set_option maxHeartbeats 4000000 in
theorem bm_subOf_29 {g : gM} {X : Cxt} {r : Int32} {M' : Mem} {s : Nat} (hs : mS s) (O : OkM g X cX20_subOf 3 (some .int) 0 (mQi g r M')) (y0 : Int32) (M : Mem) (h : fm_subOf_29 s y0 M = some (r, M')) : V X 3 0 (WdM g M) 29 [] [.int y0] := by
  unfold fm_subOf_29 at h
  exact m_iret O h dX20_subOf_29
def fm_subOf (s : Nat) (x1 : Int32) (x2 : Int32) (M : Mem) : Option (Int32 × Mem) :=
  if x1 = 20 then
    fm_subOf_29 s 0 M
  else
    gd (inb (173 + x1) 342) <|
    gd (inb (173 + x1) 342) <|
    fm_subOf_29 s ((M s (173 + x1).toNatClampNeg) - (((M s (173 + x1).toNatClampNeg) >>> (x2 &&& 31)) <<< (x2 &&& 31))) M
set_option maxHeartbeats 4000000 in
theorem bm_subOf {g : gM} {X : Cxt} {r : Int32} {M' : Mem} {s : Nat} (hs : mS s) (O : OkM g X cX20_subOf 3 (some .int) 0 (mQi g r M')) (x1 : Int32) (x2 : Int32) (M : Mem) (h : fm_subOf s x1 x2 M = some (r, M')) : V X 3 0 (WdM g M) 0 [(0, .ref (gMa g s)), (1, .int x1), (2, .int x2)] [] := by
  unfold fm_subOf at h
  refine v_iload_n O.1 dX20_subOf_0 rfl (q := 1) rfl ?_
  refine v_bipush O.1 dX20_subOf_1 (v := 20) (by decide) (q := 3) rfl ?_
  refine v_icmp_ne O.1 dX20_subOf_3 (t := 10) (by decide) (q := 6) rfl (fun c1 => ?_) (fun c1 => ?_)
  · rw [if_neg c1] at h
    refine v_aload_n O.1 dX20_subOf_10 rfl (q := 11) rfl ?_
    refine v_sipush O.1 dX20_subOf_11 (v := 173) (by decide) (q := 14) rfl ?_
    refine v_iload_n O.1 dX20_subOf_14 rfl (q := 15) rfl ?_
    refine v_iadd O.1 dX20_subOf_15 (q := 16) rfl ?_
    obtain ⟨g2, h⟩ := gd_some h
    refine m_iald O (mS_i hs) (mS_l hs) (n := 342) g2 rfl (j := (173 + x1).toNatClampNeg) dX20_subOf_16 (q := 17) rfl ?_
    refine v_aload_n O.1 dX20_subOf_17 rfl (q := 18) rfl ?_
    refine v_sipush O.1 dX20_subOf_18 (v := 173) (by decide) (q := 21) rfl ?_
    refine v_iload_n O.1 dX20_subOf_21 rfl (q := 22) rfl ?_
    refine v_iadd O.1 dX20_subOf_22 (q := 23) rfl ?_
    obtain ⟨g3, h⟩ := gd_some h
    refine m_iald O (mS_i hs) (mS_l hs) (n := 342) g3 rfl (j := (173 + x1).toNatClampNeg) dX20_subOf_23 (q := 24) rfl ?_
    refine v_iload_n O.1 dX20_subOf_24 rfl (q := 25) rfl ?_
    refine v_ishr O.1 dX20_subOf_25 (q := 26) rfl ?_
    refine v_iload_n O.1 dX20_subOf_26 rfl (q := 27) rfl ?_
    refine v_ishl O.1 dX20_subOf_27 (q := 28) rfl ?_
    refine v_isub O.1 dX20_subOf_28 (q := 29) rfl ?_
    exact v_sub [] rfl (bm_subOf_29 hs O ((M s (173 + x1).toNatClampNeg) - (((M s (173 + x1).toNatClampNeg) >>> (x2 &&& 31)) <<< (x2 &&& 31))) M h)
  · rw [if_pos c1] at h
    refine v_iconst O.1 dX20_subOf_6 (v := 0) rfl (q := 7) rfl ?_
    refine v_goto O.1 dX20_subOf_7 (t := 29) (by decide) ?_
    exact v_sub [] rfl (bm_subOf_29 hs O 0 M h)
theorem met_subOf (l : Launch) (g : gM) (s : Nat) (hs : mS s) (x1 : Int32) (x2 : Int32) (M M' : Mem) (r : Int32) (h : fm_subOf s x1 x2 M = some (r, M')) : MetM l g yX20_subOf cX20_subOf 3 (some .int) 0 [.ref (gMa g s), .int x1, .int x2] M (mQi g r M') :=
  m_met (by decide) rfl (Nat.le_of_ble_eq_true rfl) (fun X O => bm_subOf hs O x1 x2 M h)
/-! isLess([III)Z -/
def fm_isLess_36 (s : Nat) (y0 : Int32) (M : Mem) : Option (Int32 × Mem) :=
  gd (isB y0) <|
  some (y0, M)
set_option maxHeartbeats 4000000 in
theorem bm_isLess_36 {g : gM} {X : Cxt} {r : Int32} {M' : Mem} {s : Nat} (hs : mS s) (O : OkM g X cX20_isLess 6 (some .boolean) 1 (mQi g r M')) (y0 : Int32) (M : Mem) (h : fm_isLess_36 s y0 M = some (r, M')) : V X 6 0 (WdM g M) 36 [] [.int y0] := by
  unfold fm_isLess_36 at h
  obtain ⟨g1, h⟩ := gd_some h
  exact m_zret O g1 h dX20_isLess_36
def fm_isLess_86 (s : Nat) (y0 : Int32) (M : Mem) : Option (Int32 × Mem) :=
  gd (isB y0) <|
  some (y0, M)
set_option maxHeartbeats 4000000 in
theorem bm_isLess_86 {g : gM} {X : Cxt} {r : Int32} {M' : Mem} {s : Nat} (hs : mS s) (O : OkM g X cX20_isLess 6 (some .boolean) 1 (mQi g r M')) (y0 : Int32) (M : Mem) (h : fm_isLess_86 s y0 M = some (r, M')) : V X 6 0 (WdM g M) 86 [] [.int y0] := by
  unfold fm_isLess_86 at h
  obtain ⟨g1, h⟩ := gd_some h
  exact m_zret O g1 h dX20_isLess_86
def fm_isLess (s : Nat) (x2 : Int32) (x3 : Int32) (M : Mem) : Option (Int32 × Mem) :=
  bnd (fm_groupOf s x2 (M 0 3) M) fun r1 M1 =>
  bnd (fm_groupOf s x3 (M1 0 3) M1) fun r2 M2 =>
  if (r1 - r2) = 0 then
    bnd (fm_subOf s x2 (M2 0 3) M2) fun r4 M4 =>
    bnd (fm_subOf s x3 (M4 0 3) M4) fun r5 M5 =>
    if (r4 - r5) = 0 then
      if x3 ≤ x2 then
        fm_isLess_86 s 0 M5
      else
        fm_isLess_86 s 1 M5
    else
      if 0 ≤ (r4 - r5) then
        fm_isLess_86 s 0 M5
      else
        fm_isLess_86 s 1 M5
  else
    if 0 ≤ (r1 - r2) then
      fm_isLess_36 s 0 M2
    else
      fm_isLess_36 s 1 M2
set_option maxHeartbeats 4000000 in
theorem bm_isLess {g : gM} {X : Cxt} {r : Int32} {M' : Mem} {s : Nat} (hs : mS s) (O : OkM g X cX20_isLess 6 (some .boolean) 1 (mQi g r M')) (x2 : Int32) (x3 : Int32) (M : Mem) (h : fm_isLess s x2 x3 M = some (r, M')) : V X 6 0 (WdM g M) 0 [(0, .ref (gMa g 0)), (1, .ref (gMa g s)), (2, .int x2), (3, .int x3)] [] := by
  unfold fm_isLess at h
  refine v_aload_n O.1 dX20_isLess_0 rfl (q := 1) rfl ?_
  refine v_iload_n O.1 dX20_isLess_1 rfl (q := 2) rfl ?_
  refine v_aload_n O.1 dX20_isLess_2 rfl (q := 3) rfl ?_
  refine m_get O 3 (v := .int (M 0 3)) (by decide) q1735 rfl rfl dX20_isLess_3 (q := 6) rfl ?_
  obtain ⟨r1, M1, e1, h⟩ := bnd_some h
  refine m_callSi (As := [.ref (gMa g s), .int x2, .int (M 0 3)]) (rest := []) (n := 3) O (met_groupOf _ g s hs x2 (M 0 3) M M1 r1 e1) (lw_S q1896 q1897 q84 q1898) (by decide +kernel) (by decide) (by decide) rfl rfl (Nat.le_of_ble_eq_true rfl) dX20_isLess_6 (q := 9) rfl ?_
  refine v_aload_n O.1 dX20_isLess_9 rfl (q := 10) rfl ?_
  refine v_iload_n O.1 dX20_isLess_10 rfl (q := 11) rfl ?_
  refine v_aload_n O.1 dX20_isLess_11 rfl (q := 12) rfl ?_
  refine m_get O 3 (v := .int (M1 0 3)) (by decide) q1735 rfl rfl dX20_isLess_12 (q := 15) rfl ?_
  obtain ⟨r2, M2, e2, h⟩ := bnd_some h
  refine m_callSi (As := [.ref (gMa g s), .int x3, .int (M1 0 3)]) (rest := [.int r1]) (n := 3) O (met_groupOf _ g s hs x3 (M1 0 3) M1 M2 r2 e2) (lw_S q1896 q1897 q84 q1898) (by decide +kernel) (by decide) (by decide) rfl rfl (Nat.le_of_ble_eq_true rfl) dX20_isLess_15 (q := 18) rfl ?_
  refine v_isub O.1 dX20_isLess_18 (q := 19) rfl ?_
  refine v_istore (lv' := [(4, .int (r1 - r2)), (0, .ref (gMa g 0)), (1, .ref (gMa g s)), (2, .int x2), (3, .int x3)]) O.1 dX20_isLess_19 (by decide) rfl (q := 21) rfl ?_
  refine v_iload O.1 dX20_isLess_21 rfl (q := 23) rfl ?_
  refine v_if_eq O.1 dX20_isLess_23 (t := 37) (by decide) (q := 26) rfl (fun c3 => ?_) (fun c3 => ?_)
  · rw [if_pos c3] at h
    refine v_aload_n O.1 dX20_isLess_37 rfl (q := 38) rfl ?_
    refine v_iload_n O.1 dX20_isLess_38 rfl (q := 39) rfl ?_
    refine v_aload_n O.1 dX20_isLess_39 rfl (q := 40) rfl ?_
    refine m_get O 3 (v := .int (M2 0 3)) (by decide) q1735 rfl rfl dX20_isLess_40 (q := 43) rfl ?_
    obtain ⟨r4, M4, e4, h⟩ := bnd_some h
    refine m_callSi (As := [.ref (gMa g s), .int x2, .int (M2 0 3)]) (rest := []) (n := 3) O (met_subOf _ g s hs x2 (M2 0 3) M2 M4 r4 e4) (lw_S q1903 q1904 q84 q1905) (by decide +kernel) (by decide) (by decide) rfl rfl (Nat.le_of_ble_eq_true rfl) dX20_isLess_43 (q := 46) rfl ?_
    refine v_aload_n O.1 dX20_isLess_46 rfl (q := 47) rfl ?_
    refine v_iload_n O.1 dX20_isLess_47 rfl (q := 48) rfl ?_
    refine v_aload_n O.1 dX20_isLess_48 rfl (q := 49) rfl ?_
    refine m_get O 3 (v := .int (M4 0 3)) (by decide) q1735 rfl rfl dX20_isLess_49 (q := 52) rfl ?_
    obtain ⟨r5, M5, e5, h⟩ := bnd_some h
    refine m_callSi (As := [.ref (gMa g s), .int x3, .int (M4 0 3)]) (rest := [.int r4]) (n := 3) O (met_subOf _ g s hs x3 (M4 0 3) M4 M5 r5 e5) (lw_S q1903 q1904 q84 q1905) (by decide +kernel) (by decide) (by decide) rfl rfl (Nat.le_of_ble_eq_true rfl) dX20_isLess_52 (q := 55) rfl ?_
    refine v_isub O.1 dX20_isLess_55 (q := 56) rfl ?_
    refine v_istore (lv' := [(5, .int (r4 - r5)), (4, .int (r1 - r2)), (0, .ref (gMa g 0)), (1, .ref (gMa g s)), (2, .int x2), (3, .int x3)]) O.1 dX20_isLess_56 (by decide) rfl (q := 58) rfl ?_
    refine v_iload O.1 dX20_isLess_58 rfl (q := 60) rfl ?_
    refine v_if_eq O.1 dX20_isLess_60 (t := 76) (by decide) (q := 63) rfl (fun c6 => ?_) (fun c6 => ?_)
    · rw [if_pos c6] at h
      refine v_iload_n O.1 dX20_isLess_76 rfl (q := 77) rfl ?_
      refine v_iload_n O.1 dX20_isLess_77 rfl (q := 78) rfl ?_
      refine v_icmp_ge O.1 dX20_isLess_78 (t := 85) (by decide) (q := 81) rfl (fun c7 => ?_) (fun c7 => ?_)
      · rw [if_pos c7] at h
        refine v_iconst O.1 dX20_isLess_85 (v := 0) rfl (q := 86) rfl ?_
        exact v_sub [] rfl (bm_isLess_86 hs O 0 M5 h)
      · rw [if_neg c7] at h
        refine v_iconst O.1 dX20_isLess_81 (v := 1) rfl (q := 82) rfl ?_
        refine v_goto O.1 dX20_isLess_82 (t := 86) (by decide) ?_
        exact v_sub [] rfl (bm_isLess_86 hs O 1 M5 h)
    · rw [if_neg c6] at h
      refine v_iload O.1 dX20_isLess_63 rfl (q := 65) rfl ?_
      refine v_if_ge O.1 dX20_isLess_65 (t := 72) (by decide) (q := 68) rfl (fun c8 => ?_) (fun c8 => ?_)
      · rw [if_pos c8] at h
        refine v_iconst O.1 dX20_isLess_72 (v := 0) rfl (q := 73) rfl ?_
        refine v_goto O.1 dX20_isLess_73 (t := 86) (by decide) ?_
        exact v_sub [] rfl (bm_isLess_86 hs O 0 M5 h)
      · rw [if_neg c8] at h
        refine v_iconst O.1 dX20_isLess_68 (v := 1) rfl (q := 69) rfl ?_
        refine v_goto O.1 dX20_isLess_69 (t := 86) (by decide) ?_
        exact v_sub [] rfl (bm_isLess_86 hs O 1 M5 h)
  · rw [if_neg c3] at h
    refine v_iload O.1 dX20_isLess_26 rfl (q := 28) rfl ?_
    refine v_if_ge O.1 dX20_isLess_28 (t := 35) (by decide) (q := 31) rfl (fun c9 => ?_) (fun c9 => ?_)
    · rw [if_pos c9] at h
      refine v_iconst O.1 dX20_isLess_35 (v := 0) rfl (q := 36) rfl ?_
      exact v_sub [] rfl (bm_isLess_36 hs O 0 M2 h)
    · rw [if_neg c9] at h
      refine v_iconst O.1 dX20_isLess_31 (v := 1) rfl (q := 32) rfl ?_
      refine v_goto O.1 dX20_isLess_32 (t := 36) (by decide) ?_
      exact v_sub [] rfl (bm_isLess_36 hs O 1 M2 h)
theorem met_isLess (l : Launch) (g : gM) (s : Nat) (hs : mS s) (x2 : Int32) (x3 : Int32) (M M' : Mem) (r : Int32) (h : fm_isLess s x2 x3 M = some (r, M')) : MetM l g yX20_isLess cX20_isLess 6 (some .boolean) 1 [.ref (gMa g 0), .ref (gMa g s), .int x2, .int x3] M (mQi g r M') :=
  m_met (by decide) rfl (Nat.le_of_ble_eq_true rfl) (fun X O => bm_isLess hs O x2 x3 M h)
/-! nextOf([IZ)I -/
def fm_nextOf_2_79 (s : Nat) (K16 : Int32 → Int32 → Int32 → Mem → Option (Int32 × Mem)) (x3 : Int32) (x4 : Int32) (x5 : Int32) (M : Mem) : Option (Int32 × Mem) :=
  K16 x3 x4 (x5 + 1) M
set_option maxHeartbeats 4000000 in
theorem bm_nextOf_2_79 {g : gM} {X : Cxt} {r : Int32} {M' : Mem} {s : Nat} (hs : mS s) (O : OkM g X cX20_nextOf_2 6 (some .int) 2 (mQi g r M')) {K16 : Int32 → Int32 → Int32 → Mem → Option (Int32 × Mem)} (hK16 : ∀ (x3 : Int32) (x4 : Int32) (x5 : Int32) (M : Mem), K16 x3 x4 x5 M = some (r, M') → V X 6 0 (WdM g M) 16 [(0, .ref (gMa g 0)), (1, .ref (gMa g s)), (3, .int x3), (4, .int x4), (5, .int x5)] []) (x3 : Int32) (x4 : Int32) (x5 : Int32) (M : Mem) (h : fm_nextOf_2_79 s K16 x3 x4 x5 M = some (r, M')) : V X 6 0 (WdM g M) 79 [(0, .ref (gMa g 0)), (1, .ref (gMa g s)), (3, .int x3), (4, .int x4), (5, .int x5)] [] := by
  unfold fm_nextOf_2_79 at h
  refine v_iinc (lv' := [(5, .int (x5 + 1)), (0, .ref (gMa g 0)), (1, .ref (gMa g s)), (3, .int x3), (4, .int x4)]) (v := (x5 + 1)) O.1 dX20_nextOf_2_79 rfl rfl (by decide) rfl (q := 82) rfl ?_
  refine v_goto O.1 dX20_nextOf_2_82 (t := 16) (by decide) ?_
  exact v_sub [1, 2, 3, 4, 0] rfl (hK16 x3 x4 (x5 + 1) M h)
def fm_nextOf_2_75 (s : Nat) (K16 : Int32 → Int32 → Int32 → Mem → Option (Int32 × Mem)) (x3 : Int32) (x5 : Int32) (M : Mem) : Option (Int32 × Mem) :=
  fm_nextOf_2_79 s K16 x3 x5 x5 M
set_option maxHeartbeats 4000000 in
theorem bm_nextOf_2_75 {g : gM} {X : Cxt} {r : Int32} {M' : Mem} {s : Nat} (hs : mS s) (O : OkM g X cX20_nextOf_2 6 (some .int) 2 (mQi g r M')) {K16 : Int32 → Int32 → Int32 → Mem → Option (Int32 × Mem)} (hK16 : ∀ (x3 : Int32) (x4 : Int32) (x5 : Int32) (M : Mem), K16 x3 x4 x5 M = some (r, M') → V X 6 0 (WdM g M) 16 [(0, .ref (gMa g 0)), (1, .ref (gMa g s)), (3, .int x3), (4, .int x4), (5, .int x5)] []) (x3 : Int32) (x5 : Int32) (M : Mem) (h : fm_nextOf_2_75 s K16 x3 x5 M = some (r, M')) : V X 6 0 (WdM g M) 75 [(0, .ref (gMa g 0)), (1, .ref (gMa g s)), (3, .int x3), (5, .int x5)] [] := by
  unfold fm_nextOf_2_75 at h
  refine v_iload O.1 dX20_nextOf_2_75 rfl (q := 77) rfl ?_
  refine v_istore (lv' := [(4, .int x5), (0, .ref (gMa g 0)), (1, .ref (gMa g s)), (3, .int x3), (5, .int x5)]) O.1 dX20_nextOf_2_77 (by decide) rfl (q := 79) rfl ?_
  exact v_sub [1, 2, 3, 0, 4] rfl (bm_nextOf_2_79 hs O hK16 x3 x5 x5 M h)
def fm_nextOf_2_16b (s : Nat) (K16 : Int32 → Int32 → Int32 → Mem → Option (Int32 × Mem)) (x3 : Int32) (x4 : Int32) (x5 : Int32) (M : Mem) : Option (Int32 × Mem) :=
  if 21 ≤ x5 then
    some (x4, M)
  else
    gd (inb (194 + x5) 342) <|
    if (M s (194 + x5).toNatClampNeg) < 0 then
      fm_nextOf_2_79 s K16 x3 x4 x5 M
    else
      gd (inb x5 21) <|
      if (M 3 x5.toNatClampNeg) = 0 then
        fm_nextOf_2_79 s K16 x3 x4 x5 M
      else
        bnd (fm_groupOf s x5 (M 0 3) M) fun r6 M6 =>
        if x3 ≤ r6 then
          fm_nextOf_2_79 s K16 x3 x4 x5 M6
        else
          if x4 < 0 then
            fm_nextOf_2_75 s K16 x3 x5 M6
          else
            bnd (fm_isLess s x5 x4 M6) fun r9 M9 =>
            if r9 = 0 then
              fm_nextOf_2_79 s K16 x3 x4 x5 M9
            else
              fm_nextOf_2_75 s K16 x3 x5 M9
set_option maxHeartbeats 4000000 in
theorem bm_nextOf_2_16b {g : gM} {X : Cxt} {r : Int32} {M' : Mem} {s : Nat} (hs : mS s) (O : OkM g X cX20_nextOf_2 6 (some .int) 2 (mQi g r M')) {K16 : Int32 → Int32 → Int32 → Mem → Option (Int32 × Mem)} (hK16 : ∀ (x3 : Int32) (x4 : Int32) (x5 : Int32) (M : Mem), K16 x3 x4 x5 M = some (r, M') → V X 6 0 (WdM g M) 16 [(0, .ref (gMa g 0)), (1, .ref (gMa g s)), (3, .int x3), (4, .int x4), (5, .int x5)] []) (x3 : Int32) (x4 : Int32) (x5 : Int32) (M : Mem) (h : fm_nextOf_2_16b s K16 x3 x4 x5 M = some (r, M')) : V X 6 0 (WdM g M) 16 [(0, .ref (gMa g 0)), (1, .ref (gMa g s)), (3, .int x3), (4, .int x4), (5, .int x5)] [] := by
  unfold fm_nextOf_2_16b at h
  refine v_iload O.1 dX20_nextOf_2_16 rfl (q := 18) rfl ?_
  refine v_bipush O.1 dX20_nextOf_2_18 (v := 21) (by decide) (q := 20) rfl ?_
  refine v_icmp_ge O.1 dX20_nextOf_2_20 (t := 85) (by decide) (q := 23) rfl (fun c1 => ?_) (fun c1 => ?_)
  · rw [if_pos c1] at h
    refine v_iload O.1 dX20_nextOf_2_85 rfl (q := 87) rfl ?_
    exact m_iret O h dX20_nextOf_2_87
  · rw [if_neg c1] at h
    refine v_aload_n O.1 dX20_nextOf_2_23 rfl (q := 24) rfl ?_
    refine v_sipush O.1 dX20_nextOf_2_24 (v := 194) (by decide) (q := 27) rfl ?_
    refine v_iload O.1 dX20_nextOf_2_27 rfl (q := 29) rfl ?_
    refine v_iadd O.1 dX20_nextOf_2_29 (q := 30) rfl ?_
    obtain ⟨g2, h⟩ := gd_some h
    refine m_iald O (mS_i hs) (mS_l hs) (n := 342) g2 rfl (j := (194 + x5).toNatClampNeg) dX20_nextOf_2_30 (q := 31) rfl ?_
    refine v_if_lt O.1 dX20_nextOf_2_31 (t := 79) (by decide) (q := 34) rfl (fun c3 => ?_) (fun c3 => ?_)
    · rw [if_pos c3] at h
      exact v_sub [0, 1, 2, 3, 4] rfl (bm_nextOf_2_79 hs O hK16 x3 x4 x5 M h)
    · rw [if_neg c3] at h
      refine v_aload_n O.1 dX20_nextOf_2_34 rfl (q := 35) rfl ?_
      refine m_get O 2 (v := .ref (gMa g 3)) (by decide) q1734 rfl rfl dX20_nextOf_2_35 (q := 38) rfl ?_
      refine v_iload O.1 dX20_nextOf_2_38 rfl (q := 40) rfl ?_
      obtain ⟨g4, h⟩ := gd_some h
      refine m_bald O rfl rfl (n := 21) g4 rfl (j := x5.toNatClampNeg) dX20_nextOf_2_40 (q := 41) rfl ?_
      refine v_if_eq O.1 dX20_nextOf_2_41 (t := 79) (by decide) (q := 44) rfl (fun c5 => ?_) (fun c5 => ?_)
      · rw [if_pos c5] at h
        exact v_sub [0, 1, 2, 3, 4] rfl (bm_nextOf_2_79 hs O hK16 x3 x4 x5 M h)
      · rw [if_neg c5] at h
        refine v_aload_n O.1 dX20_nextOf_2_44 rfl (q := 45) rfl ?_
        refine v_iload O.1 dX20_nextOf_2_45 rfl (q := 47) rfl ?_
        refine v_aload_n O.1 dX20_nextOf_2_47 rfl (q := 48) rfl ?_
        refine m_get O 3 (v := .int (M 0 3)) (by decide) q1735 rfl rfl dX20_nextOf_2_48 (q := 51) rfl ?_
        obtain ⟨r6, M6, e6, h⟩ := bnd_some h
        refine m_callSi (As := [.ref (gMa g s), .int x5, .int (M 0 3)]) (rest := []) (n := 3) O (met_groupOf _ g s hs x5 (M 0 3) M M6 r6 e6) (lw_S q1896 q1897 q84 q1898) (by decide +kernel) (by decide) (by decide) rfl rfl (Nat.le_of_ble_eq_true rfl) dX20_nextOf_2_51 (q := 54) rfl ?_
        refine v_iload_n O.1 dX20_nextOf_2_54 rfl (q := 55) rfl ?_
        refine v_icmp_ge O.1 dX20_nextOf_2_55 (t := 79) (by decide) (q := 58) rfl (fun c7 => ?_) (fun c7 => ?_)
        · rw [if_pos c7] at h
          exact v_sub [0, 1, 2, 3, 4] rfl (bm_nextOf_2_79 hs O hK16 x3 x4 x5 M6 h)
        · rw [if_neg c7] at h
          refine v_iload O.1 dX20_nextOf_2_58 rfl (q := 60) rfl ?_
          refine v_if_lt O.1 dX20_nextOf_2_60 (t := 75) (by decide) (q := 63) rfl (fun c8 => ?_) (fun c8 => ?_)
          · rw [if_pos c8] at h
            exact v_sub [0, 1, 2, 4] rfl (bm_nextOf_2_75 hs O hK16 x3 x5 M6 h)
          · rw [if_neg c8] at h
            refine v_aload_n O.1 dX20_nextOf_2_63 rfl (q := 64) rfl ?_
            refine v_aload_n O.1 dX20_nextOf_2_64 rfl (q := 65) rfl ?_
            refine v_iload O.1 dX20_nextOf_2_65 rfl (q := 67) rfl ?_
            refine v_iload O.1 dX20_nextOf_2_67 rfl (q := 69) rfl ?_
            obtain ⟨r9, M9, e9, h⟩ := bnd_some h
            refine m_callVi (As := [.ref (gMa g s), .int x5, .int x4]) (rest := []) (n := 3) O (met_isLess _ g s hs x5 x4 M6 M9 r9 e9) (lw_V q1899 q1901 qs29 q84 q1902) (by decide +kernel) (by decide) (by decide) rfl rfl (Nat.le_of_ble_eq_true rfl) dX20_nextOf_2_69 (q := 72) rfl ?_
            refine v_if_eq O.1 dX20_nextOf_2_72 (t := 79) (by decide) (q := 75) rfl (fun c10 => ?_) (fun c10 => ?_)
            · rw [if_pos c10] at h
              exact v_sub [0, 1, 2, 3, 4] rfl (bm_nextOf_2_79 hs O hK16 x3 x4 x5 M9 h)
            · rw [if_neg c10] at h
              exact v_sub [0, 1, 2, 4] rfl (bm_nextOf_2_75 hs O hK16 x3 x5 M9 h)
def fm_nextOf_2_16 (s : Nat) (n : Nat) : Int32 → Int32 → Int32 → Mem → Option (Int32 × Mem) := lpc (fm_nextOf_2_16b s) (fun _ _ _ _ => none) n
theorem bm_nextOf_2_16 {g : gM} {X : Cxt} {r : Int32} {M' : Mem} {s : Nat} (hs : mS s) (O : OkM g X cX20_nextOf_2 6 (some .int) 2 (mQi g r M')) : ∀ (n : Nat) (x3 : Int32) (x4 : Int32) (x5 : Int32) (M : Mem), fm_nextOf_2_16 s n x3 x4 x5 M = some (r, M') → V X 6 0 (WdM g M) 16 [(0, .ref (gMa g 0)), (1, .ref (gMa g s)), (3, .int x3), (4, .int x4), (5, .int x5)] [] := by
  intro n
  induction n with
  | zero =>
    intro x3 x4 x5 M h
    cases h
  | succ n ih =>
    intro x3 x4 x5 M h
    exact bm_nextOf_2_16b hs O ih x3 x4 x5 M h
def fm_nextOf_2 (s : Nat) (x2 : Int32) (M : Mem) : Option (Int32 × Mem) :=
  bnd (fm_limitOf s (M 0 3) x2 M) fun r1 M1 =>
  fm_nextOf_2_16 s 600 r1 (-1) 0 M1
set_option maxHeartbeats 4000000 in
theorem bm_nextOf_2 {g : gM} {X : Cxt} {r : Int32} {M' : Mem} {s : Nat} (hs : mS s) (O : OkM g X cX20_nextOf_2 6 (some .int) 2 (mQi g r M')) (x2 : Int32) (M : Mem) (h : fm_nextOf_2 s x2 M = some (r, M')) : V X 6 0 (WdM g M) 0 [(0, .ref (gMa g 0)), (1, .ref (gMa g s)), (2, .int x2)] [] := by
  unfold fm_nextOf_2 at h
  refine v_aload_n O.1 dX20_nextOf_2_0 rfl (q := 1) rfl ?_
  refine v_aload_n O.1 dX20_nextOf_2_1 rfl (q := 2) rfl ?_
  refine m_get O 3 (v := .int (M 0 3)) (by decide) q1735 rfl rfl dX20_nextOf_2_2 (q := 5) rfl ?_
  refine v_iload_n O.1 dX20_nextOf_2_5 rfl (q := 6) rfl ?_
  obtain ⟨r1, M1, e1, h⟩ := bnd_some h
  refine m_callSi (As := [.ref (gMa g s), .int (M 0 3), .int x2]) (rest := []) (n := 3) O (met_limitOf _ g s hs (M 0 3) x2 M M1 r1 e1) (lw_S q1893 q1894 q84 q1895) (by decide +kernel) (by decide) (by decide) rfl rfl (Nat.le_of_ble_eq_true rfl) dX20_nextOf_2_6 (q := 9) rfl ?_
  refine v_istore_n (lv' := [(3, .int r1), (0, .ref (gMa g 0)), (1, .ref (gMa g s)), (2, .int x2)]) O.1 dX20_nextOf_2_9 (by decide) rfl (q := 10) rfl ?_
  refine v_iconst O.1 dX20_nextOf_2_10 (v := (-1)) rfl (q := 11) rfl ?_
  refine v_istore (lv' := [(4, .int (-1)), (3, .int r1), (0, .ref (gMa g 0)), (1, .ref (gMa g s)), (2, .int x2)]) O.1 dX20_nextOf_2_11 (by decide) rfl (q := 13) rfl ?_
  refine v_iconst O.1 dX20_nextOf_2_13 (v := 0) rfl (q := 14) rfl ?_
  refine v_istore (lv' := [(5, .int 0), (4, .int (-1)), (3, .int r1), (0, .ref (gMa g 0)), (1, .ref (gMa g s)), (2, .int x2)]) O.1 dX20_nextOf_2_14 (by decide) rfl (q := 16) rfl ?_
  exact v_sub [3, 4, 2, 1, 0] rfl (bm_nextOf_2_16 hs O 600 r1 (-1) 0 M1 h)
theorem met_nextOf_2 (l : Launch) (g : gM) (s : Nat) (hs : mS s) (x2 : Int32) (M M' : Mem) (r : Int32) (h : fm_nextOf_2 s x2 M = some (r, M')) : MetM l g yX20_nextOf_2 cX20_nextOf_2 6 (some .int) 2 [.ref (gMa g 0), .ref (gMa g s), .int x2] M (mQi g r M') :=
  m_met (by decide) rfl (Nat.le_of_ble_eq_true rfl) (fun X O => bm_nextOf_2 hs O x2 M h)
/-! nextOf([I)I -/
def fm_nextOf_15 (s : Nat) (y2 : Int32) (M : Mem) : Option (Int32 × Mem) :=
  bnd (fm_nextOf_2 s y2 M) fun r1 M1 =>
  some (r1, M1)
set_option maxHeartbeats 4000000 in
theorem bm_nextOf_15 {g : gM} {X : Cxt} {r : Int32} {M' : Mem} {s : Nat} (hs : mS s) (O : OkM g X cX20_nextOf 2 (some .int) 3 (mQi g r M')) (y2 : Int32) (M : Mem) (h : fm_nextOf_15 s y2 M = some (r, M')) : V X 2 0 (WdM g M) 15 [] [.int y2, .ref (gMa g s), .ref (gMa g 0)] := by
  unfold fm_nextOf_15 at h
  obtain ⟨r1, M1, e1, h⟩ := bnd_some h
  refine m_callVi (As := [.ref (gMa g s), .int y2]) (rest := []) (n := 2) O (met_nextOf_2 _ g s hs y2 M M1 r1 e1) (lw_V q1889 q1891 qs28 q84 q1892) (by decide +kernel) (by decide) (by decide) rfl rfl (Nat.le_of_ble_eq_true rfl) dX20_nextOf_15 (q := 18) rfl ?_
  exact m_iret O h dX20_nextOf_18
def fm_nextOf (s : Nat)  (M : Mem) : Option (Int32 × Mem) :=
  if (M s 16) = 1 then
    fm_nextOf_15 s 1 M
  else
    fm_nextOf_15 s 0 M
set_option maxHeartbeats 4000000 in
theorem bm_nextOf {g : gM} {X : Cxt} {r : Int32} {M' : Mem} {s : Nat} (hs : mS s) (O : OkM g X cX20_nextOf 2 (some .int) 3 (mQi g r M'))  (M : Mem) (h : fm_nextOf s  M = some (r, M')) : V X 2 0 (WdM g M) 0 [(0, .ref (gMa g 0)), (1, .ref (gMa g s))] [] := by
  unfold fm_nextOf at h
  refine v_aload_n O.1 dX20_nextOf_0 rfl (q := 1) rfl ?_
  refine v_aload_n O.1 dX20_nextOf_1 rfl (q := 2) rfl ?_
  refine v_aload_n O.1 dX20_nextOf_2 rfl (q := 3) rfl ?_
  refine v_bipush O.1 dX20_nextOf_3 (v := 16) (by decide) (q := 5) rfl ?_
  refine m_iald O (mS_i hs) (mS_l hs) (n := 342) (by decide) (by decide) (j := 16) dX20_nextOf_5 (q := 6) rfl ?_
  refine v_iconst O.1 dX20_nextOf_6 (v := 1) rfl (q := 7) rfl ?_
  refine v_icmp_ne O.1 dX20_nextOf_7 (t := 14) (by decide) (q := 10) rfl (fun c1 => ?_) (fun c1 => ?_)
  · rw [if_neg c1] at h
    refine v_iconst O.1 dX20_nextOf_14 (v := 0) rfl (q := 15) rfl ?_
    exact v_sub [] rfl (bm_nextOf_15 hs O 0 M h)
  · rw [if_pos c1] at h
    refine v_iconst O.1 dX20_nextOf_10 (v := 1) rfl (q := 11) rfl ?_
    refine v_goto O.1 dX20_nextOf_11 (t := 15) (by decide) ?_
    exact v_sub [] rfl (bm_nextOf_15 hs O 1 M h)
theorem met_nextOf (l : Launch) (g : gM) (s : Nat) (hs : mS s)  (M M' : Mem) (r : Int32) (h : fm_nextOf s  M = some (r, M')) : MetM l g yX20_nextOf cX20_nextOf 2 (some .int) 3 [.ref (gMa g 0), .ref (gMa g s)] M (mQi g r M') :=
  m_met (by decide) rfl (Nat.le_of_ble_eq_true rfl) (fun X O => bm_nextOf hs O  M h)
/-! turns([III)V -/
def fm_turns (s : Nat) (x2 : Int32) (x3 : Int32) (M : Mem) : Option (Unit × Mem) :=
  stp (up2 M s 20 x2) fun M1 =>
  stp (up2 M1 s 21 x3) fun M2 =>
  some ((), M2)
set_option maxHeartbeats 4000000 in
theorem bm_turns {g : gM} {X : Cxt} {r : Unit} {M' : Mem} {s : Nat} (hs : mS s) (O : OkM g X cX20_turns 4 none 0 (mQv g r M')) (x2 : Int32) (x3 : Int32) (M : Mem) (h : fm_turns s x2 x3 M = some (r, M')) : V X 4 0 (WdM g M) 0 [(0, .ref (gMa g 0)), (1, .ref (gMa g s)), (2, .int x2), (3, .int x3)] [] := by
  unfold fm_turns at h
  refine v_aload_n O.1 dX20_turns_0 rfl (q := 1) rfl ?_
  refine v_bipush O.1 dX20_turns_1 (v := 20) (by decide) (q := 3) rfl ?_
  refine v_iload_n O.1 dX20_turns_3 rfl (q := 4) rfl ?_
  obtain ⟨M1, e1, h⟩ := stp_some h
  refine m_iast O (mS_i hs) (mS_l hs) (n := 342) (by decide) (by decide) (j := 20) dX20_turns_4 (q := 5) rfl e1 ?_
  refine v_aload_n O.1 dX20_turns_5 rfl (q := 6) rfl ?_
  refine v_bipush O.1 dX20_turns_6 (v := 21) (by decide) (q := 8) rfl ?_
  refine v_iload_n O.1 dX20_turns_8 rfl (q := 9) rfl ?_
  obtain ⟨M2, e2, h⟩ := stp_some h
  refine m_iast O (mS_i hs) (mS_l hs) (n := 342) (by decide) (by decide) (j := 21) dX20_turns_9 (q := 10) rfl e2 ?_
  exact m_vret O h dX20_turns_10
theorem met_turns (l : Launch) (g : gM) (s : Nat) (hs : mS s) (x2 : Int32) (x3 : Int32) (M M' : Mem) (r : Unit) (h : fm_turns s x2 x3 M = some (r, M')) : MetM l g yX20_turns cX20_turns 4 none 0 [.ref (gMa g 0), .ref (gMa g s), .int x2, .int x3] M (mQv g r M') :=
  m_met (by decide) rfl (Nat.le_of_ble_eq_true rfl) (fun X O => bm_turns hs O x2 x3 M h)
/-! could([II)Z -/
def fm_could_47 (s : Nat) (y0 : Int32) (M : Mem) : Option (Int32 × Mem) :=
  gd (isB y0) <|
  some (y0, M)
set_option maxHeartbeats 4000000 in
theorem bm_could_47 {g : gM} {X : Cxt} {r : Int32} {M' : Mem} {s : Nat} (hs : mS s) (O : OkM g X cX20_could 3 (some .boolean) 2 (mQi g r M')) (y0 : Int32) (M : Mem) (h : fm_could_47 s y0 M = some (r, M')) : V X 3 0 (WdM g M) 47 [] [.int y0] := by
  unfold fm_could_47 at h
  obtain ⟨g1, h⟩ := gd_some h
  exact m_zret O g1 h dX20_could_47
def fm_could_46 (s : Nat)  (M : Mem) : Option (Int32 × Mem) :=
  fm_could_47 s 0 M
set_option maxHeartbeats 4000000 in
theorem bm_could_46 {g : gM} {X : Cxt} {r : Int32} {M' : Mem} {s : Nat} (hs : mS s) (O : OkM g X cX20_could 3 (some .boolean) 2 (mQi g r M'))  (M : Mem) (h : fm_could_46 s  M = some (r, M')) : V X 3 0 (WdM g M) 46 [] [] := by
  unfold fm_could_46 at h
  refine v_iconst O.1 dX20_could_46 (v := 0) rfl (q := 47) rfl ?_
  exact v_sub [] rfl (bm_could_47 hs O 0 M h)
def fm_could_36 (s : Nat) (y3 : Int32) (y2 : Int32) (y0 : Int32) (M : Mem) : Option (Int32 × Mem) :=
  bnd (fm_limitOf s y2 y3 M) fun r1 M1 =>
  if r1 ≤ y0 then
    fm_could_46 s M1
  else
    fm_could_47 s 1 M1
set_option maxHeartbeats 4000000 in
theorem bm_could_36 {g : gM} {X : Cxt} {r : Int32} {M' : Mem} {s : Nat} (hs : mS s) (O : OkM g X cX20_could 3 (some .boolean) 2 (mQi g r M')) (y3 : Int32) (y2 : Int32) (y0 : Int32) (M : Mem) (h : fm_could_36 s y3 y2 y0 M = some (r, M')) : V X 3 0 (WdM g M) 36 [] [.int y3, .int y2, .ref (gMa g s), .int y0] := by
  unfold fm_could_36 at h
  obtain ⟨r1, M1, e1, h⟩ := bnd_some h
  refine m_callSi (As := [.ref (gMa g s), .int y2, .int y3]) (rest := [.int y0]) (n := 3) O (met_limitOf _ g s hs y2 y3 M M1 r1 e1) (lw_S q1893 q1894 q84 q1895) (by decide +kernel) (by decide) (by decide) rfl rfl (Nat.le_of_ble_eq_true rfl) dX20_could_36 (q := 39) rfl ?_
  refine v_icmp_ge O.1 dX20_could_39 (t := 46) (by decide) (q := 42) rfl (fun c2 => ?_) (fun c2 => ?_)
  · rw [if_pos c2] at h
    exact v_sub [] rfl (bm_could_46 hs O M1 h)
  · rw [if_neg c2] at h
    refine v_iconst O.1 dX20_could_42 (v := 1) rfl (q := 43) rfl ?_
    refine v_goto O.1 dX20_could_43 (t := 47) (by decide) ?_
    exact v_sub [] rfl (bm_could_47 hs O 1 M1 h)
def fm_could (s : Nat) (x2 : Int32) (M : Mem) : Option (Int32 × Mem) :=
  gd (inb x2 21) <|
  if (M 3 x2.toNatClampNeg) = 0 then
    fm_could_46 s M
  else
    bnd (fm_groupOf s x2 (M 0 3) M) fun r3 M3 =>
    if (M3 s 16) = 1 then
      fm_could_36 s 1 (M3 0 3) r3 M3
    else
      fm_could_36 s 0 (M3 0 3) r3 M3
set_option maxHeartbeats 4000000 in
theorem bm_could {g : gM} {X : Cxt} {r : Int32} {M' : Mem} {s : Nat} (hs : mS s) (O : OkM g X cX20_could 3 (some .boolean) 2 (mQi g r M')) (x2 : Int32) (M : Mem) (h : fm_could s x2 M = some (r, M')) : V X 3 0 (WdM g M) 0 [(0, .ref (gMa g 0)), (1, .ref (gMa g s)), (2, .int x2)] [] := by
  unfold fm_could at h
  refine v_aload_n O.1 dX20_could_0 rfl (q := 1) rfl ?_
  refine m_get O 2 (v := .ref (gMa g 3)) (by decide) q1734 rfl rfl dX20_could_1 (q := 4) rfl ?_
  refine v_iload_n O.1 dX20_could_4 rfl (q := 5) rfl ?_
  obtain ⟨g1, h⟩ := gd_some h
  refine m_bald O rfl rfl (n := 21) g1 rfl (j := x2.toNatClampNeg) dX20_could_5 (q := 6) rfl ?_
  refine v_if_eq O.1 dX20_could_6 (t := 46) (by decide) (q := 9) rfl (fun c2 => ?_) (fun c2 => ?_)
  · rw [if_pos c2] at h
    exact v_sub [] rfl (bm_could_46 hs O M h)
  · rw [if_neg c2] at h
    refine v_aload_n O.1 dX20_could_9 rfl (q := 10) rfl ?_
    refine v_iload_n O.1 dX20_could_10 rfl (q := 11) rfl ?_
    refine v_aload_n O.1 dX20_could_11 rfl (q := 12) rfl ?_
    refine m_get O 3 (v := .int (M 0 3)) (by decide) q1735 rfl rfl dX20_could_12 (q := 15) rfl ?_
    obtain ⟨r3, M3, e3, h⟩ := bnd_some h
    refine m_callSi (As := [.ref (gMa g s), .int x2, .int (M 0 3)]) (rest := []) (n := 3) O (met_groupOf _ g s hs x2 (M 0 3) M M3 r3 e3) (lw_S q1896 q1897 q84 q1898) (by decide +kernel) (by decide) (by decide) rfl rfl (Nat.le_of_ble_eq_true rfl) dX20_could_15 (q := 18) rfl ?_
    refine v_aload_n O.1 dX20_could_18 rfl (q := 19) rfl ?_
    refine v_aload_n O.1 dX20_could_19 rfl (q := 20) rfl ?_
    refine m_get O 3 (v := .int (M3 0 3)) (by decide) q1735 rfl rfl dX20_could_20 (q := 23) rfl ?_
    refine v_aload_n O.1 dX20_could_23 rfl (q := 24) rfl ?_
    refine v_bipush O.1 dX20_could_24 (v := 16) (by decide) (q := 26) rfl ?_
    refine m_iald O (mS_i hs) (mS_l hs) (n := 342) (by decide) (by decide) (j := 16) dX20_could_26 (q := 27) rfl ?_
    refine v_iconst O.1 dX20_could_27 (v := 1) rfl (q := 28) rfl ?_
    refine v_icmp_ne O.1 dX20_could_28 (t := 35) (by decide) (q := 31) rfl (fun c4 => ?_) (fun c4 => ?_)
    · rw [if_neg c4] at h
      refine v_iconst O.1 dX20_could_35 (v := 0) rfl (q := 36) rfl ?_
      exact v_sub [] rfl (bm_could_36 hs O 0 (M3 0 3) r3 M3 h)
    · rw [if_pos c4] at h
      refine v_iconst O.1 dX20_could_31 (v := 1) rfl (q := 32) rfl ?_
      refine v_goto O.1 dX20_could_32 (t := 36) (by decide) ?_
      exact v_sub [] rfl (bm_could_36 hs O 1 (M3 0 3) r3 M3 h)
theorem met_could (l : Launch) (g : gM) (s : Nat) (hs : mS s) (x2 : Int32) (M M' : Mem) (r : Int32) (h : fm_could s x2 M = some (r, M')) : MetM l g yX20_could cX20_could 3 (some .boolean) 2 [.ref (gMa g 0), .ref (gMa g s), .int x2] M (mQi g r M') :=
  m_met (by decide) rfl (Nat.le_of_ble_eq_true rfl) (fun X O => bm_could hs O x2 M h)
/-! targetOf([II)I -/
def fm_targetOf_27 (s : Nat) (y0 : Int32) (M : Mem) : Option (Int32 × Mem) :=
  some (y0, M)
set_option maxHeartbeats 4000000 in
theorem bm_targetOf_27 {g : gM} {X : Cxt} {r : Int32} {M' : Mem} {s : Nat} (hs : mS s) (O : OkM g X cX20_targetOf 3 (some .int) 3 (mQi g r M')) (y0 : Int32) (M : Mem) (h : fm_targetOf_27 s y0 M = some (r, M')) : V X 3 0 (WdM g M) 27 [] [.int y0] := by
  unfold fm_targetOf_27 at h
  exact m_iret O h dX20_targetOf_27
def fm_targetOf (s : Nat) (x2 : Int32) (M : Mem) : Option (Int32 × Mem) :=
  bnd (fm_could s x2 M) fun r1 M1 =>
  if r1 = 0 then
    if (M1 s 320) = 0 then
      fm_targetOf_27 s 20 M1
    else
      fm_targetOf_27 s (-1) M1
  else
    fm_targetOf_27 s x2 M1
set_option maxHeartbeats 4000000 in
theorem bm_targetOf {g : gM} {X : Cxt} {r : Int32} {M' : Mem} {s : Nat} (hs : mS s) (O : OkM g X cX20_targetOf 3 (some .int) 3 (mQi g r M')) (x2 : Int32) (M : Mem) (h : fm_targetOf s x2 M = some (r, M')) : V X 3 0 (WdM g M) 0 [(0, .ref (gMa g 0)), (1, .ref (gMa g s)), (2, .int x2)] [] := by
  unfold fm_targetOf at h
  refine v_aload_n O.1 dX20_targetOf_0 rfl (q := 1) rfl ?_
  refine v_aload_n O.1 dX20_targetOf_1 rfl (q := 2) rfl ?_
  refine v_iload_n O.1 dX20_targetOf_2 rfl (q := 3) rfl ?_
  obtain ⟨r1, M1, e1, h⟩ := bnd_some h
  refine m_callVi (As := [.ref (gMa g s), .int x2]) (rest := []) (n := 2) O (met_could _ g s hs x2 M M1 r1 e1) (lw_V q1926 q1928 qs35 q84 q1929) (by decide +kernel) (by decide) (by decide) rfl rfl (Nat.le_of_ble_eq_true rfl) dX20_targetOf_3 (q := 6) rfl ?_
  refine v_if_eq O.1 dX20_targetOf_6 (t := 13) (by decide) (q := 9) rfl (fun c2 => ?_) (fun c2 => ?_)
  · rw [if_pos c2] at h
    refine v_aload_n O.1 dX20_targetOf_13 rfl (q := 14) rfl ?_
    refine v_sipush O.1 dX20_targetOf_14 (v := 320) (by decide) (q := 17) rfl ?_
    refine m_iald O (mS_i hs) (mS_l hs) (n := 342) (by decide) (by decide) (j := 320) dX20_targetOf_17 (q := 18) rfl ?_
    refine v_if_ne O.1 dX20_targetOf_18 (t := 26) (by decide) (q := 21) rfl (fun c3 => ?_) (fun c3 => ?_)
    · rw [if_neg c3] at h
      refine v_iconst O.1 dX20_targetOf_26 (v := (-1)) rfl (q := 27) rfl ?_
      exact v_sub [] rfl (bm_targetOf_27 hs O (-1) M1 h)
    · rw [if_pos c3] at h
      refine v_bipush O.1 dX20_targetOf_21 (v := 20) (by decide) (q := 23) rfl ?_
      refine v_goto O.1 dX20_targetOf_23 (t := 27) (by decide) ?_
      exact v_sub [] rfl (bm_targetOf_27 hs O 20 M1 h)
  · rw [if_neg c2] at h
    refine v_iload_n O.1 dX20_targetOf_9 rfl (q := 10) rfl ?_
    refine v_goto O.1 dX20_targetOf_10 (t := 27) (by decide) ?_
    exact v_sub [] rfl (bm_targetOf_27 hs O x2 M1 h)
theorem met_targetOf (l : Launch) (g : gM) (s : Nat) (hs : mS s) (x2 : Int32) (M M' : Mem) (r : Int32) (h : fm_targetOf s x2 M = some (r, M')) : MetM l g yX20_targetOf cX20_targetOf 3 (some .int) 3 [.ref (gMa g 0), .ref (gMa g s), .int x2] M (mQi g r M') :=
  m_met (by decide) rfl (Nat.le_of_ble_eq_true rfl) (fun X O => bm_targetOf hs O x2 M h)
/-! notes(III)V -/
def fm_notes (x1 : Int32) (x2 : Int32) (x3 : Int32) (M : Mem) : Option (Unit × Mem) :=
  if (M 0 14) = 0 then
    some ((), M)
  else
    gd (inb ((M 0 11) - (M 0 11) / 24 * 24) 24) <|
    stp (up2 M 7 ((M 0 11) - (M 0 11) / 24 * 24).toNatClampNeg x1) fun M3 =>
    gd (inb ((M 0 11) - (M 0 11) / 24 * 24) 24) <|
    stp (up2 M3 8 ((M 0 11) - (M 0 11) / 24 * 24).toNatClampNeg x2) fun M5 =>
    gd (inb ((M 0 11) - (M 0 11) / 24 * 24) 24) <|
    stp (up2 M5 9 ((M 0 11) - (M 0 11) / 24 * 24).toNatClampNeg (M5 4 25)) fun M7 =>
    gd (inb ((M 0 11) - (M 0 11) / 24 * 24) 24) <|
    stp (up2 M7 10 ((M 0 11) - (M 0 11) / 24 * 24).toNatClampNeg x3) fun M9 =>
    stp (up2 M9 0 11 ((M9 0 11) + 1)) fun M10 =>
    some ((), M10)
set_option maxHeartbeats 4000000 in
theorem bm_notes {g : gM} {X : Cxt} {r : Unit} {M' : Mem} (O : OkM g X cX20_notes 5 none 0 (mQv g r M')) (x1 : Int32) (x2 : Int32) (x3 : Int32) (M : Mem) (h : fm_notes x1 x2 x3 M = some (r, M')) : V X 5 0 (WdM g M) 0 [(0, .ref (gMa g 0)), (1, .int x1), (2, .int x2), (3, .int x3)] [] := by
  unfold fm_notes at h
  refine v_aload_n O.1 dX20_notes_0 rfl (q := 1) rfl ?_
  refine m_get O 14 (v := .int (M 0 14)) (by decide) q1746 rfl rfl dX20_notes_1 (q := 4) rfl ?_
  refine v_if_ne O.1 dX20_notes_4 (t := 8) (by decide) (q := 7) rfl (fun c1 => ?_) (fun c1 => ?_)
  · rw [if_neg c1] at h
    refine v_aload_n O.1 dX20_notes_8 rfl (q := 9) rfl ?_
    refine m_get O 11 (v := .int (M 0 11)) (by decide) q1743 rfl rfl dX20_notes_9 (q := 12) rfl ?_
    refine v_bipush O.1 dX20_notes_12 (v := 24) (by decide) (q := 14) rfl ?_
    refine v_irem O.1 dX20_notes_14 (by decide) (q := 15) rfl ?_
    refine v_istore (lv' := [(4, .int ((M 0 11) - (M 0 11) / 24 * 24)), (0, .ref (gMa g 0)), (1, .int x1), (2, .int x2), (3, .int x3)]) O.1 dX20_notes_15 (by decide) rfl (q := 17) rfl ?_
    refine v_aload_n O.1 dX20_notes_17 rfl (q := 18) rfl ?_
    refine m_get O 7 (v := .ref (gMa g 7)) (by decide) q1739 rfl rfl dX20_notes_18 (q := 21) rfl ?_
    refine v_iload O.1 dX20_notes_21 rfl (q := 23) rfl ?_
    refine v_iload_n O.1 dX20_notes_23 rfl (q := 24) rfl ?_
    obtain ⟨g2, h⟩ := gd_some h
    obtain ⟨M3, e3, h⟩ := stp_some h
    refine m_iast O rfl rfl (n := 24) g2 rfl (j := ((M 0 11) - (M 0 11) / 24 * 24).toNatClampNeg) dX20_notes_24 (q := 25) rfl e3 ?_
    refine v_aload_n O.1 dX20_notes_25 rfl (q := 26) rfl ?_
    refine m_get O 8 (v := .ref (gMa g 8)) (by decide) q1740 rfl rfl dX20_notes_26 (q := 29) rfl ?_
    refine v_iload O.1 dX20_notes_29 rfl (q := 31) rfl ?_
    refine v_iload_n O.1 dX20_notes_31 rfl (q := 32) rfl ?_
    obtain ⟨g4, h⟩ := gd_some h
    obtain ⟨M5, e5, h⟩ := stp_some h
    refine m_iast O rfl rfl (n := 24) g4 rfl (j := ((M 0 11) - (M 0 11) / 24 * 24).toNatClampNeg) dX20_notes_32 (q := 33) rfl e5 ?_
    refine v_aload_n O.1 dX20_notes_33 rfl (q := 34) rfl ?_
    refine m_get O 9 (v := .ref (gMa g 9)) (by decide) q1741 rfl rfl dX20_notes_34 (q := 37) rfl ?_
    refine v_iload O.1 dX20_notes_37 rfl (q := 39) rfl ?_
    refine v_aload_n O.1 dX20_notes_39 rfl (q := 40) rfl ?_
    refine m_get O 4 (v := .ref (gMa g 4)) (by decide) q1736 rfl rfl dX20_notes_40 (q := 43) rfl ?_
    refine v_bipush O.1 dX20_notes_43 (v := 25) (by decide) (q := 45) rfl ?_
    refine m_iald O rfl rfl (n := 342) (by decide) (by decide) (j := 25) dX20_notes_45 (q := 46) rfl ?_
    obtain ⟨g6, h⟩ := gd_some h
    obtain ⟨M7, e7, h⟩ := stp_some h
    refine m_iast O rfl rfl (n := 24) g6 rfl (j := ((M 0 11) - (M 0 11) / 24 * 24).toNatClampNeg) dX20_notes_46 (q := 47) rfl e7 ?_
    refine v_aload_n O.1 dX20_notes_47 rfl (q := 48) rfl ?_
    refine m_get O 10 (v := .ref (gMa g 10)) (by decide) q1742 rfl rfl dX20_notes_48 (q := 51) rfl ?_
    refine v_iload O.1 dX20_notes_51 rfl (q := 53) rfl ?_
    refine v_iload_n O.1 dX20_notes_53 rfl (q := 54) rfl ?_
    obtain ⟨g8, h⟩ := gd_some h
    obtain ⟨M9, e9, h⟩ := stp_some h
    refine m_iast O rfl rfl (n := 24) g8 rfl (j := ((M 0 11) - (M 0 11) / 24 * 24).toNatClampNeg) dX20_notes_54 (q := 55) rfl e9 ?_
    refine v_aload_n O.1 dX20_notes_55 rfl (q := 56) rfl ?_
    refine v_dup O.1 dX20_notes_56 rfl (q := 57) rfl ?_
    refine m_get O 11 (v := .int (M9 0 11)) (by decide) q1743 rfl rfl dX20_notes_57 (q := 60) rfl ?_
    refine v_iconst O.1 dX20_notes_60 (v := 1) rfl (q := 61) rfl ?_
    refine v_iadd O.1 dX20_notes_61 (q := 62) rfl ?_
    obtain ⟨M10, e10, h⟩ := stp_some h
    refine m_put O 11 (ty := .int) (by decide) q1743 rfl rfl rfl rfl rfl rfl dX20_notes_62 (q := 65) rfl e10 ?_
    exact m_vret O h dX20_notes_65
  · rw [if_pos c1] at h
    exact m_vret O h dX20_notes_7
theorem met_notes (l : Launch) (g : gM) (x1 : Int32) (x2 : Int32) (x3 : Int32) (M M' : Mem) (r : Unit) (h : fm_notes x1 x2 x3 M = some (r, M')) : MetM l g yX20_notes cX20_notes 5 none 0 [.ref (gMa g 0), .int x1, .int x2, .int x3] M (mQv g r M') :=
  m_met (by decide) rfl (Nat.le_of_ble_eq_true rfl) (fun X O => bm_notes O x1 x2 x3 M h)
/-! raises([II)Z -/
def fm_raises_67 (s : Nat) (y0 : Int32) (M : Mem) : Option (Int32 × Mem) :=
  gd (isB y0) <|
  some (y0, M)
set_option maxHeartbeats 4000000 in
theorem bm_raises_67 {g : gM} {X : Cxt} {r : Int32} {M' : Mem} {s : Nat} (hs : mS s) (O : OkM g X cX20_raises 4 (some .boolean) 4 (mQi g r M')) (y0 : Int32) (M : Mem) (h : fm_raises_67 s y0 M = some (r, M')) : V X 4 0 (WdM g M) 67 [] [.int y0] := by
  unfold fm_raises_67 at h
  obtain ⟨g1, h⟩ := gd_some h
  exact m_zret O g1 h dX20_raises_67
def fm_raises_48 (s : Nat) (x3 : Int32) (M : Mem) : Option (Int32 × Mem) :=
  bnd (fm_notes 3 x3 (M s 12) M) fun r1 M1 =>
  if 0 ≤ x3 then
    fm_raises_67 s 0 M1
  else
    fm_raises_67 s 1 M1
set_option maxHeartbeats 4000000 in
theorem bm_raises_48 {g : gM} {X : Cxt} {r : Int32} {M' : Mem} {s : Nat} (hs : mS s) (O : OkM g X cX20_raises 4 (some .boolean) 4 (mQi g r M')) (x3 : Int32) (M : Mem) (h : fm_raises_48 s x3 M = some (r, M')) : V X 4 0 (WdM g M) 48 [(0, .ref (gMa g 0)), (1, .ref (gMa g s)), (3, .int x3)] [] := by
  unfold fm_raises_48 at h
  refine v_aload_n O.1 dX20_raises_48 rfl (q := 49) rfl ?_
  refine v_iconst O.1 dX20_raises_49 (v := 3) rfl (q := 50) rfl ?_
  refine v_iload_n O.1 dX20_raises_50 rfl (q := 51) rfl ?_
  refine v_aload_n O.1 dX20_raises_51 rfl (q := 52) rfl ?_
  refine v_bipush O.1 dX20_raises_52 (v := 12) (by decide) (q := 54) rfl ?_
  refine m_iald O (mS_i hs) (mS_l hs) (n := 342) (by decide) (by decide) (j := 12) dX20_raises_54 (q := 55) rfl ?_
  obtain ⟨r1, M1, e1, h⟩ := bnd_some h
  refine m_callVv (As := [.int 3, .int x3, .int (M s 12)]) (rest := []) (n := 3) O (met_notes _ g 3 x3 (M s 12) M M1 r1 e1) (lw_V q1930 q1932 qs36 q84 q1933) (by decide +kernel) (by decide) (by decide) rfl rfl (Nat.le_of_ble_eq_true rfl) dX20_raises_55 (q := 58) rfl ?_
  refine v_iload_n O.1 dX20_raises_58 rfl (q := 59) rfl ?_
  refine v_if_ge O.1 dX20_raises_59 (t := 66) (by decide) (q := 62) rfl (fun c2 => ?_) (fun c2 => ?_)
  · rw [if_pos c2] at h
    refine v_iconst O.1 dX20_raises_66 (v := 0) rfl (q := 67) rfl ?_
    exact v_sub [] rfl (bm_raises_67 hs O 0 M1 h)
  · rw [if_neg c2] at h
    refine v_iconst O.1 dX20_raises_62 (v := 1) rfl (q := 63) rfl ?_
    refine v_goto O.1 dX20_raises_63 (t := 67) (by decide) ?_
    exact v_sub [] rfl (bm_raises_67 hs O 1 M1 h)
def fm_raises_25 (s : Nat) (x3 : Int32) (M : Mem) : Option (Int32 × Mem) :=
  if x3 < 0 then
    stp (up2 M s 20 5) fun M2 =>
    stp (up2 M2 s 21 0) fun M3 =>
    fm_raises_48 s x3 M3
  else
    bnd (fm_pends s x3 M) fun r4 M4 =>
    fm_raises_48 s x3 M4
set_option maxHeartbeats 4000000 in
theorem bm_raises_25 {g : gM} {X : Cxt} {r : Int32} {M' : Mem} {s : Nat} (hs : mS s) (O : OkM g X cX20_raises 4 (some .boolean) 4 (mQi g r M')) (x3 : Int32) (M : Mem) (h : fm_raises_25 s x3 M = some (r, M')) : V X 4 0 (WdM g M) 25 [(0, .ref (gMa g 0)), (1, .ref (gMa g s)), (3, .int x3)] [] := by
  unfold fm_raises_25 at h
  refine v_iload_n O.1 dX20_raises_25 rfl (q := 26) rfl ?_
  refine v_if_lt O.1 dX20_raises_26 (t := 38) (by decide) (q := 29) rfl (fun c1 => ?_) (fun c1 => ?_)
  · rw [if_pos c1] at h
    refine v_aload_n O.1 dX20_raises_38 rfl (q := 39) rfl ?_
    refine v_bipush O.1 dX20_raises_39 (v := 20) (by decide) (q := 41) rfl ?_
    refine v_iconst O.1 dX20_raises_41 (v := 5) rfl (q := 42) rfl ?_
    obtain ⟨M2, e2, h⟩ := stp_some h
    refine m_iast O (mS_i hs) (mS_l hs) (n := 342) (by decide) (by decide) (j := 20) dX20_raises_42 (q := 43) rfl e2 ?_
    refine v_aload_n O.1 dX20_raises_43 rfl (q := 44) rfl ?_
    refine v_bipush O.1 dX20_raises_44 (v := 21) (by decide) (q := 46) rfl ?_
    refine v_iconst O.1 dX20_raises_46 (v := 0) rfl (q := 47) rfl ?_
    obtain ⟨M3, e3, h⟩ := stp_some h
    refine m_iast O (mS_i hs) (mS_l hs) (n := 342) (by decide) (by decide) (j := 21) dX20_raises_47 (q := 48) rfl e3 ?_
    exact v_sub [0, 1, 2] rfl (bm_raises_48 hs O x3 M3 h)
  · rw [if_neg c1] at h
    refine v_aload_n O.1 dX20_raises_29 rfl (q := 30) rfl ?_
    refine v_aload_n O.1 dX20_raises_30 rfl (q := 31) rfl ?_
    refine v_iload_n O.1 dX20_raises_31 rfl (q := 32) rfl ?_
    obtain ⟨r4, M4, e4, h⟩ := bnd_some h
    refine m_callVv (As := [.ref (gMa g s), .int x3]) (rest := []) (n := 2) O (met_pends _ g s hs x3 M M4 r4 e4) (lw_V q1845 q1847 qs22 q84 q1848) (by decide +kernel) (by decide) (by decide) rfl rfl (Nat.le_of_ble_eq_true rfl) dX20_raises_32 (q := 35) rfl ?_
    refine v_goto O.1 dX20_raises_35 (t := 48) (by decide) ?_
    exact v_sub [0, 1, 2] rfl (bm_raises_48 hs O x3 M4 h)
def fm_raises (s : Nat) (x2 : Int32) (M : Mem) : Option (Int32 × Mem) :=
  bnd (fm_targetOf s x2 M) fun r1 M1 =>
  bnd (fm_counts 7 M1) fun r2 M2 =>
  if r1 = 20 then
    bnd (fm_counts 8 M2) fun r4 M4 =>
    fm_raises_25 s r1 M4
  else
    fm_raises_25 s r1 M2
set_option maxHeartbeats 4000000 in
theorem bm_raises {g : gM} {X : Cxt} {r : Int32} {M' : Mem} {s : Nat} (hs : mS s) (O : OkM g X cX20_raises 4 (some .boolean) 4 (mQi g r M')) (x2 : Int32) (M : Mem) (h : fm_raises s x2 M = some (r, M')) : V X 4 0 (WdM g M) 0 [(0, .ref (gMa g 0)), (1, .ref (gMa g s)), (2, .int x2)] [] := by
  unfold fm_raises at h
  refine v_aload_n O.1 dX20_raises_0 rfl (q := 1) rfl ?_
  refine v_aload_n O.1 dX20_raises_1 rfl (q := 2) rfl ?_
  refine v_iload_n O.1 dX20_raises_2 rfl (q := 3) rfl ?_
  obtain ⟨r1, M1, e1, h⟩ := bnd_some h
  refine m_callVi (As := [.ref (gMa g s), .int x2]) (rest := []) (n := 2) O (met_targetOf _ g s hs x2 M M1 r1 e1) (lw_V q1922 q1924 qs34 q84 q1925) (by decide +kernel) (by decide) (by decide) rfl rfl (Nat.le_of_ble_eq_true rfl) dX20_raises_3 (q := 6) rfl ?_
  refine v_istore_n (lv' := [(3, .int r1), (0, .ref (gMa g 0)), (1, .ref (gMa g s)), (2, .int x2)]) O.1 dX20_raises_6 (by decide) rfl (q := 7) rfl ?_
  refine v_aload_n O.1 dX20_raises_7 rfl (q := 8) rfl ?_
  refine v_bipush O.1 dX20_raises_8 (v := 7) (by decide) (q := 10) rfl ?_
  obtain ⟨r2, M2, e2, h⟩ := bnd_some h
  refine m_callVv (As := [.int 7]) (rest := []) (n := 1) O (met_counts _ g 7 M1 M2 r2 e2) (lw_V q1849 q1851 qs23 q84 q1852) (by decide +kernel) (by decide) (by decide) rfl rfl (Nat.le_of_ble_eq_true rfl) dX20_raises_10 (q := 13) rfl ?_
  refine v_iload_n O.1 dX20_raises_13 rfl (q := 14) rfl ?_
  refine v_bipush O.1 dX20_raises_14 (v := 20) (by decide) (q := 16) rfl ?_
  refine v_icmp_ne O.1 dX20_raises_16 (t := 25) (by decide) (q := 19) rfl (fun c3 => ?_) (fun c3 => ?_)
  · rw [if_neg c3] at h
    exact v_sub [1, 2, 0] rfl (bm_raises_25 hs O r1 M2 h)
  · rw [if_pos c3] at h
    refine v_aload_n O.1 dX20_raises_19 rfl (q := 20) rfl ?_
    refine v_bipush O.1 dX20_raises_20 (v := 8) (by decide) (q := 22) rfl ?_
    obtain ⟨r4, M4, e4, h⟩ := bnd_some h
    refine m_callVv (As := [.int 8]) (rest := []) (n := 1) O (met_counts _ g 8 M2 M4 r4 e4) (lw_V q1849 q1851 qs23 q84 q1852) (by decide +kernel) (by decide) (by decide) rfl rfl (Nat.le_of_ble_eq_true rfl) dX20_raises_22 (q := 25) rfl ?_
    exact v_sub [1, 2, 0] rfl (bm_raises_25 hs O r1 M4 h)
theorem met_raises (l : Launch) (g : gM) (s : Nat) (hs : mS s) (x2 : Int32) (M M' : Mem) (r : Int32) (h : fm_raises s x2 M = some (r, M')) : MetM l g yX20_raises cX20_raises 4 (some .boolean) 4 [.ref (gMa g 0), .ref (gMa g s), .int x2] M (mQi g r M') :=
  m_met (by decide) rfl (Nat.le_of_ble_eq_true rfl) (fun X O => bm_raises hs O x2 M h)
/-! hasRoom([II)Z -/
def fm_hasRoom (s : Nat) (x2 : Int32) (M : Mem) : Option (Int32 × Mem) :=
  if (M s 28) = 1 then
    some (0, M)
  else
    if 96 < ((M s 15) + x2) then
      stp (up2 M s 28 1) fun M3 =>
      bnd (fm_raises s 19 M3) fun r4 M4 =>
      some (0, M4)
    else
      some (1, M)
set_option maxHeartbeats 4000000 in
theorem bm_hasRoom {g : gM} {X : Cxt} {r : Int32} {M' : Mem} {s : Nat} (hs : mS s) (O : OkM g X cX20_hasRoom 3 (some .boolean) 5 (mQi g r M')) (x2 : Int32) (M : Mem) (h : fm_hasRoom s x2 M = some (r, M')) : V X 3 0 (WdM g M) 0 [(0, .ref (gMa g 0)), (1, .ref (gMa g s)), (2, .int x2)] [] := by
  unfold fm_hasRoom at h
  refine v_aload_n O.1 dX20_hasRoom_0 rfl (q := 1) rfl ?_
  refine v_bipush O.1 dX20_hasRoom_1 (v := 28) (by decide) (q := 3) rfl ?_
  refine m_iald O (mS_i hs) (mS_l hs) (n := 342) (by decide) (by decide) (j := 28) dX20_hasRoom_3 (q := 4) rfl ?_
  refine v_iconst O.1 dX20_hasRoom_4 (v := 1) rfl (q := 5) rfl ?_
  refine v_icmp_ne O.1 dX20_hasRoom_5 (t := 10) (by decide) (q := 8) rfl (fun c1 => ?_) (fun c1 => ?_)
  · rw [if_neg c1] at h
    refine v_aload_n O.1 dX20_hasRoom_10 rfl (q := 11) rfl ?_
    refine v_bipush O.1 dX20_hasRoom_11 (v := 15) (by decide) (q := 13) rfl ?_
    refine m_iald O (mS_i hs) (mS_l hs) (n := 342) (by decide) (by decide) (j := 15) dX20_hasRoom_13 (q := 14) rfl ?_
    refine v_iload_n O.1 dX20_hasRoom_14 rfl (q := 15) rfl ?_
    refine v_iadd O.1 dX20_hasRoom_15 (q := 16) rfl ?_
    refine v_bipush O.1 dX20_hasRoom_16 (v := 96) (by decide) (q := 18) rfl ?_
    refine v_icmp_gt O.1 dX20_hasRoom_18 (t := 23) (by decide) (q := 21) rfl (fun c2 => ?_) (fun c2 => ?_)
    · rw [if_pos c2] at h
      refine v_aload_n O.1 dX20_hasRoom_23 rfl (q := 24) rfl ?_
      refine v_bipush O.1 dX20_hasRoom_24 (v := 28) (by decide) (q := 26) rfl ?_
      refine v_iconst O.1 dX20_hasRoom_26 (v := 1) rfl (q := 27) rfl ?_
      obtain ⟨M3, e3, h⟩ := stp_some h
      refine m_iast O (mS_i hs) (mS_l hs) (n := 342) (by decide) (by decide) (j := 28) dX20_hasRoom_27 (q := 28) rfl e3 ?_
      refine v_aload_n O.1 dX20_hasRoom_28 rfl (q := 29) rfl ?_
      refine v_aload_n O.1 dX20_hasRoom_29 rfl (q := 30) rfl ?_
      refine v_bipush O.1 dX20_hasRoom_30 (v := 19) (by decide) (q := 32) rfl ?_
      obtain ⟨r4, M4, e4, h⟩ := bnd_some h
      refine m_callVi (As := [.ref (gMa g s), .int 19]) (rest := []) (n := 2) O (met_raises _ g s hs 19 M3 M4 r4 e4) (lw_V q1918 q1920 qs33 q84 q1921) (by decide +kernel) (by decide) (by decide) rfl rfl (Nat.le_of_ble_eq_true rfl) dX20_hasRoom_32 (q := 35) rfl ?_
      refine v_pop O.1 dX20_hasRoom_35 rfl (q := 36) rfl ?_
      refine v_iconst O.1 dX20_hasRoom_36 (v := 0) rfl (q := 37) rfl ?_
      exact m_zret O (by decide) h dX20_hasRoom_37
    · rw [if_neg c2] at h
      refine v_iconst O.1 dX20_hasRoom_21 (v := 1) rfl (q := 22) rfl ?_
      exact m_zret O (by decide) h dX20_hasRoom_22
  · rw [if_pos c1] at h
    refine v_iconst O.1 dX20_hasRoom_8 (v := 0) rfl (q := 9) rfl ?_
    exact m_zret O (by decide) h dX20_hasRoom_9
theorem met_hasRoom (l : Launch) (g : gM) (s : Nat) (hs : mS s) (x2 : Int32) (M M' : Mem) (r : Int32) (h : fm_hasRoom s x2 M = some (r, M')) : MetM l g yX20_hasRoom cX20_hasRoom 3 (some .boolean) 5 [.ref (gMa g 0), .ref (gMa g s), .int x2] M (mQi g r M') :=
  m_met (by decide) rfl (Nat.le_of_ble_eq_true rfl) (fun X O => bm_hasRoom hs O x2 M h)
/-! rises([II)V -/
def fm_rises_40 (s : Nat)  (M : Mem) : Option (Unit × Mem) :=
  some ((), M)
set_option maxHeartbeats 4000000 in
theorem bm_rises_40 {g : gM} {X : Cxt} {r : Unit} {M' : Mem} {s : Nat} (hs : mS s) (O : OkM g X cX20_rises 3 none 0 (mQv g r M'))  (M : Mem) (h : fm_rises_40 s  M = some (r, M')) : V X 3 0 (WdM g M) 40 [] [] := by
  unfold fm_rises_40 at h
  exact m_vret O h dX20_rises_40
def fm_rises (s : Nat) (x2 : Int32) (M : Mem) : Option (Unit × Mem) :=
  stp (up2 M s 15 ((M s 15) + x2)) fun M1 =>
  if (M1 0 14) = 0 then
    fm_rises_40 s M1
  else
    if (M1 s 15) ≤ (M1 6 13) then
      fm_rises_40 s M1
    else
      stp (up2 M1 6 13 (M1 s 15)) fun M4 =>
      fm_rises_40 s M4
set_option maxHeartbeats 4000000 in
theorem bm_rises {g : gM} {X : Cxt} {r : Unit} {M' : Mem} {s : Nat} (hs : mS s) (O : OkM g X cX20_rises 3 none 0 (mQv g r M')) (x2 : Int32) (M : Mem) (h : fm_rises s x2 M = some (r, M')) : V X 3 0 (WdM g M) 0 [(0, .ref (gMa g 0)), (1, .ref (gMa g s)), (2, .int x2)] [] := by
  unfold fm_rises at h
  refine v_aload_n O.1 dX20_rises_0 rfl (q := 1) rfl ?_
  refine v_bipush O.1 dX20_rises_1 (v := 15) (by decide) (q := 3) rfl ?_
  refine v_dup2 O.1 dX20_rises_3 rfl rfl (q := 4) rfl ?_
  refine m_iald O (mS_i hs) (mS_l hs) (n := 342) (by decide) (by decide) (j := 15) dX20_rises_4 (q := 5) rfl ?_
  refine v_iload_n O.1 dX20_rises_5 rfl (q := 6) rfl ?_
  refine v_iadd O.1 dX20_rises_6 (q := 7) rfl ?_
  obtain ⟨M1, e1, h⟩ := stp_some h
  refine m_iast O (mS_i hs) (mS_l hs) (n := 342) (by decide) (by decide) (j := 15) dX20_rises_7 (q := 8) rfl e1 ?_
  refine v_aload_n O.1 dX20_rises_8 rfl (q := 9) rfl ?_
  refine m_get O 14 (v := .int (M1 0 14)) (by decide) q1746 rfl rfl dX20_rises_9 (q := 12) rfl ?_
  refine v_if_eq O.1 dX20_rises_12 (t := 40) (by decide) (q := 15) rfl (fun c2 => ?_) (fun c2 => ?_)
  · rw [if_pos c2] at h
    exact v_sub [] rfl (bm_rises_40 hs O M1 h)
  · rw [if_neg c2] at h
    refine v_aload_n O.1 dX20_rises_15 rfl (q := 16) rfl ?_
    refine v_bipush O.1 dX20_rises_16 (v := 15) (by decide) (q := 18) rfl ?_
    refine m_iald O (mS_i hs) (mS_l hs) (n := 342) (by decide) (by decide) (j := 15) dX20_rises_18 (q := 19) rfl ?_
    refine v_aload_n O.1 dX20_rises_19 rfl (q := 20) rfl ?_
    refine m_get O 6 (v := .ref (gMa g 6)) (by decide) q1738 rfl rfl dX20_rises_20 (q := 23) rfl ?_
    refine v_bipush O.1 dX20_rises_23 (v := 13) (by decide) (q := 25) rfl ?_
    refine m_iald O rfl rfl (n := 17) (by decide) (by decide) (j := 13) dX20_rises_25 (q := 26) rfl ?_
    refine v_icmp_le O.1 dX20_rises_26 (t := 40) (by decide) (q := 29) rfl (fun c3 => ?_) (fun c3 => ?_)
    · rw [if_pos c3] at h
      exact v_sub [] rfl (bm_rises_40 hs O M1 h)
    · rw [if_neg c3] at h
      refine v_aload_n O.1 dX20_rises_29 rfl (q := 30) rfl ?_
      refine m_get O 6 (v := .ref (gMa g 6)) (by decide) q1738 rfl rfl dX20_rises_30 (q := 33) rfl ?_
      refine v_bipush O.1 dX20_rises_33 (v := 13) (by decide) (q := 35) rfl ?_
      refine v_aload_n O.1 dX20_rises_35 rfl (q := 36) rfl ?_
      refine v_bipush O.1 dX20_rises_36 (v := 15) (by decide) (q := 38) rfl ?_
      refine m_iald O (mS_i hs) (mS_l hs) (n := 342) (by decide) (by decide) (j := 15) dX20_rises_38 (q := 39) rfl ?_
      obtain ⟨M4, e4, h⟩ := stp_some h
      refine m_iast O rfl rfl (n := 17) (by decide) (by decide) (j := 13) dX20_rises_39 (q := 40) rfl e4 ?_
      exact v_sub [] rfl (bm_rises_40 hs O M4 h)
theorem met_rises (l : Launch) (g : gM) (s : Nat) (hs : mS s) (x2 : Int32) (M M' : Mem) (r : Unit) (h : fm_rises s x2 M = some (r, M')) : MetM l g yX20_rises cX20_rises 3 none 0 [.ref (gMa g 0), .ref (gMa g s), .int x2] M (mQv g r M') :=
  m_met (by decide) rfl (Nat.le_of_ble_eq_true rfl) (fun X O => bm_rises hs O x2 M h)
/-! begins([III)V -/
def fm_begins_153 (s : Nat) (x2 : Int32) (x3 : Int32) (x4 : Int32) (M : Mem) : Option (Unit × Mem) :=
  bnd (fm_notes x3 x2 x4 M) fun r1 M1 =>
  some ((), M1)
set_option maxHeartbeats 4000000 in
theorem bm_begins_153 {g : gM} {X : Cxt} {r : Unit} {M' : Mem} {s : Nat} (hs : mS s) (O : OkM g X cX20_begins 5 none 1 (mQv g r M')) (x2 : Int32) (x3 : Int32) (x4 : Int32) (M : Mem) (h : fm_begins_153 s x2 x3 x4 M = some (r, M')) : V X 5 0 (WdM g M) 153 [(0, .ref (gMa g 0)), (2, .int x2), (3, .int x3), (4, .int x4)] [] := by
  unfold fm_begins_153 at h
  refine v_aload_n O.1 dX20_begins_153 rfl (q := 154) rfl ?_
  refine v_iload_n O.1 dX20_begins_154 rfl (q := 155) rfl ?_
  refine v_iload_n O.1 dX20_begins_155 rfl (q := 156) rfl ?_
  refine v_iload O.1 dX20_begins_156 rfl (q := 158) rfl ?_
  obtain ⟨r1, M1, e1, h⟩ := bnd_some h
  refine m_callVv (As := [.int x3, .int x2, .int x4]) (rest := []) (n := 3) O (met_notes _ g x3 x2 x4 M M1 r1 e1) (lw_V q1930 q1932 qs36 q84 q1933) (by decide +kernel) (by decide) (by decide) rfl rfl (Nat.le_of_ble_eq_true rfl) dX20_begins_158 (q := 161) rfl ?_
  exact m_vret O h dX20_begins_161
def fm_begins_134 (s : Nat) (x2 : Int32) (x3 : Int32) (x4 : Int32) (M : Mem) : Option (Unit × Mem) :=
  gd (inb x2 21) <|
  if x4 ≤ (M 12 x2.toNatClampNeg) then
    fm_begins_153 s x2 x3 x4 M
  else
    gd (inb x2 21) <|
    stp (up2 M 12 x2.toNatClampNeg x4) fun M4 =>
    fm_begins_153 s x2 x3 x4 M4
set_option maxHeartbeats 4000000 in
theorem bm_begins_134 {g : gM} {X : Cxt} {r : Unit} {M' : Mem} {s : Nat} (hs : mS s) (O : OkM g X cX20_begins 5 none 1 (mQv g r M')) (x2 : Int32) (x3 : Int32) (x4 : Int32) (M : Mem) (h : fm_begins_134 s x2 x3 x4 M = some (r, M')) : V X 5 0 (WdM g M) 134 [(0, .ref (gMa g 0)), (2, .int x2), (3, .int x3), (4, .int x4)] [] := by
  unfold fm_begins_134 at h
  refine v_iload O.1 dX20_begins_134 rfl (q := 136) rfl ?_
  refine v_aload_n O.1 dX20_begins_136 rfl (q := 137) rfl ?_
  refine m_get O 13 (v := .ref (gMa g 12)) (by decide) q1745 rfl rfl dX20_begins_137 (q := 140) rfl ?_
  refine v_iload_n O.1 dX20_begins_140 rfl (q := 141) rfl ?_
  obtain ⟨g1, h⟩ := gd_some h
  refine m_iald O rfl rfl (n := 21) g1 rfl (j := x2.toNatClampNeg) dX20_begins_141 (q := 142) rfl ?_
  refine v_icmp_le O.1 dX20_begins_142 (t := 153) (by decide) (q := 145) rfl (fun c2 => ?_) (fun c2 => ?_)
  · rw [if_pos c2] at h
    exact v_sub [0, 1, 2, 3] rfl (bm_begins_153 hs O x2 x3 x4 M h)
  · rw [if_neg c2] at h
    refine v_aload_n O.1 dX20_begins_145 rfl (q := 146) rfl ?_
    refine m_get O 13 (v := .ref (gMa g 12)) (by decide) q1745 rfl rfl dX20_begins_146 (q := 149) rfl ?_
    refine v_iload_n O.1 dX20_begins_149 rfl (q := 150) rfl ?_
    refine v_iload O.1 dX20_begins_150 rfl (q := 152) rfl ?_
    obtain ⟨g3, h⟩ := gd_some h
    obtain ⟨M4, e4, h⟩ := stp_some h
    refine m_iast O rfl rfl (n := 21) g3 rfl (j := x2.toNatClampNeg) dX20_begins_152 (q := 153) rfl e4 ?_
    exact v_sub [0, 1, 2, 3] rfl (bm_begins_153 hs O x2 x3 x4 M4 h)
def fm_begins_102 (s : Nat) (x2 : Int32) (x3 : Int32) (x4 : Int32) (M : Mem) : Option (Unit × Mem) :=
  if (M 0 14) = 0 then
    fm_begins_153 s x2 x3 x4 M
  else
    if (M s 30) ≤ (M 6 12) then
      fm_begins_134 s x2 x3 x4 M
    else
      stp (up2 M 6 12 (M s 30)) fun M3 =>
      fm_begins_134 s x2 x3 x4 M3
set_option maxHeartbeats 4000000 in
theorem bm_begins_102 {g : gM} {X : Cxt} {r : Unit} {M' : Mem} {s : Nat} (hs : mS s) (O : OkM g X cX20_begins 5 none 1 (mQv g r M')) (x2 : Int32) (x3 : Int32) (x4 : Int32) (M : Mem) (h : fm_begins_102 s x2 x3 x4 M = some (r, M')) : V X 5 0 (WdM g M) 102 [(0, .ref (gMa g 0)), (1, .ref (gMa g s)), (2, .int x2), (3, .int x3), (4, .int x4)] [] := by
  unfold fm_begins_102 at h
  refine v_aload_n O.1 dX20_begins_102 rfl (q := 103) rfl ?_
  refine m_get O 14 (v := .int (M 0 14)) (by decide) q1746 rfl rfl dX20_begins_103 (q := 106) rfl ?_
  refine v_if_eq O.1 dX20_begins_106 (t := 153) (by decide) (q := 109) rfl (fun c1 => ?_) (fun c1 => ?_)
  · rw [if_pos c1] at h
    exact v_sub [0, 2, 3, 4] rfl (bm_begins_153 hs O x2 x3 x4 M h)
  · rw [if_neg c1] at h
    refine v_aload_n O.1 dX20_begins_109 rfl (q := 110) rfl ?_
    refine v_bipush O.1 dX20_begins_110 (v := 30) (by decide) (q := 112) rfl ?_
    refine m_iald O (mS_i hs) (mS_l hs) (n := 342) (by decide) (by decide) (j := 30) dX20_begins_112 (q := 113) rfl ?_
    refine v_aload_n O.1 dX20_begins_113 rfl (q := 114) rfl ?_
    refine m_get O 6 (v := .ref (gMa g 6)) (by decide) q1738 rfl rfl dX20_begins_114 (q := 117) rfl ?_
    refine v_bipush O.1 dX20_begins_117 (v := 12) (by decide) (q := 119) rfl ?_
    refine m_iald O rfl rfl (n := 17) (by decide) (by decide) (j := 12) dX20_begins_119 (q := 120) rfl ?_
    refine v_icmp_le O.1 dX20_begins_120 (t := 134) (by decide) (q := 123) rfl (fun c2 => ?_) (fun c2 => ?_)
    · rw [if_pos c2] at h
      exact v_sub [0, 2, 3, 4] rfl (bm_begins_134 hs O x2 x3 x4 M h)
    · rw [if_neg c2] at h
      refine v_aload_n O.1 dX20_begins_123 rfl (q := 124) rfl ?_
      refine m_get O 6 (v := .ref (gMa g 6)) (by decide) q1738 rfl rfl dX20_begins_124 (q := 127) rfl ?_
      refine v_bipush O.1 dX20_begins_127 (v := 12) (by decide) (q := 129) rfl ?_
      refine v_aload_n O.1 dX20_begins_129 rfl (q := 130) rfl ?_
      refine v_bipush O.1 dX20_begins_130 (v := 30) (by decide) (q := 132) rfl ?_
      refine m_iald O (mS_i hs) (mS_l hs) (n := 342) (by decide) (by decide) (j := 30) dX20_begins_132 (q := 133) rfl ?_
      obtain ⟨M3, e3, h⟩ := stp_some h
      refine m_iast O rfl rfl (n := 17) (by decide) (by decide) (j := 12) dX20_begins_133 (q := 134) rfl e3 ?_
      exact v_sub [0, 2, 3, 4] rfl (bm_begins_134 hs O x2 x3 x4 M3 h)
def fm_begins (s : Nat) (x2 : Int32) (x3 : Int32) (M : Mem) : Option (Unit × Mem) :=
  gd (inb (194 + x2) 342) <|
  gd (inb (194 + x2) 342) <|
  stp (up2 M s (194 + x2).toNatClampNeg (-1)) fun M3 =>
  gd (inb (300 + x2) 342) <|
  stp (up2 M3 s (300 + x2).toNatClampNeg 1) fun M5 =>
  gd (inb (321 + x2) 342) <|
  stp (up2 M5 s (321 + x2).toNatClampNeg (M5 s 25)) fun M7 =>
  gd (inb (152 + (M7 s 30)) 342) <|
  stp (up2 M7 s (152 + (M7 s 30)).toNatClampNeg x2) fun M9 =>
  stp (up2 M9 s 30 ((M9 s 30) + 1)) fun M10 =>
  gd (inb x2 21) <|
  stp (up2 M10 s 12 (M10 2 x2.toNatClampNeg)) fun M12 =>
  stp (up2 M12 s 18 0) fun M13 =>
  bnd (fm_turns s 0 0 M13) fun r14 M14 =>
  stp (up2 M14 0 16 x2) fun M15 =>
  bnd (fm_counts 1 M15) fun r16 M16 =>
  if x3 = 1 then
    bnd (fm_counts 2 M16) fun r18 M18 =>
    fm_begins_102 s x2 x3 ((M s 25) - (M s (194 + x2).toNatClampNeg)) M18
  else
    fm_begins_102 s x2 x3 ((M s 25) - (M s (194 + x2).toNatClampNeg)) M16
set_option maxHeartbeats 4000000 in
theorem bm_begins {g : gM} {X : Cxt} {r : Unit} {M' : Mem} {s : Nat} (hs : mS s) (O : OkM g X cX20_begins 5 none 1 (mQv g r M')) (x2 : Int32) (x3 : Int32) (M : Mem) (h : fm_begins s x2 x3 M = some (r, M')) : V X 5 0 (WdM g M) 0 [(0, .ref (gMa g 0)), (1, .ref (gMa g s)), (2, .int x2), (3, .int x3)] [] := by
  unfold fm_begins at h
  refine v_aload_n O.1 dX20_begins_0 rfl (q := 1) rfl ?_
  refine v_bipush O.1 dX20_begins_1 (v := 25) (by decide) (q := 3) rfl ?_
  refine m_iald O (mS_i hs) (mS_l hs) (n := 342) (by decide) (by decide) (j := 25) dX20_begins_3 (q := 4) rfl ?_
  refine v_aload_n O.1 dX20_begins_4 rfl (q := 5) rfl ?_
  refine v_sipush O.1 dX20_begins_5 (v := 194) (by decide) (q := 8) rfl ?_
  refine v_iload_n O.1 dX20_begins_8 rfl (q := 9) rfl ?_
  refine v_iadd O.1 dX20_begins_9 (q := 10) rfl ?_
  obtain ⟨g1, h⟩ := gd_some h
  refine m_iald O (mS_i hs) (mS_l hs) (n := 342) g1 rfl (j := (194 + x2).toNatClampNeg) dX20_begins_10 (q := 11) rfl ?_
  refine v_isub O.1 dX20_begins_11 (q := 12) rfl ?_
  refine v_istore (lv' := [(4, .int ((M s 25) - (M s (194 + x2).toNatClampNeg))), (0, .ref (gMa g 0)), (1, .ref (gMa g s)), (2, .int x2), (3, .int x3)]) O.1 dX20_begins_12 (by decide) rfl (q := 14) rfl ?_
  refine v_aload_n O.1 dX20_begins_14 rfl (q := 15) rfl ?_
  refine v_sipush O.1 dX20_begins_15 (v := 194) (by decide) (q := 18) rfl ?_
  refine v_iload_n O.1 dX20_begins_18 rfl (q := 19) rfl ?_
  refine v_iadd O.1 dX20_begins_19 (q := 20) rfl ?_
  refine v_iconst O.1 dX20_begins_20 (v := (-1)) rfl (q := 21) rfl ?_
  obtain ⟨g2, h⟩ := gd_some h
  obtain ⟨M3, e3, h⟩ := stp_some h
  refine m_iast O (mS_i hs) (mS_l hs) (n := 342) g2 rfl (j := (194 + x2).toNatClampNeg) dX20_begins_21 (q := 22) rfl e3 ?_
  refine v_aload_n O.1 dX20_begins_22 rfl (q := 23) rfl ?_
  refine v_sipush O.1 dX20_begins_23 (v := 300) (by decide) (q := 26) rfl ?_
  refine v_iload_n O.1 dX20_begins_26 rfl (q := 27) rfl ?_
  refine v_iadd O.1 dX20_begins_27 (q := 28) rfl ?_
  refine v_iconst O.1 dX20_begins_28 (v := 1) rfl (q := 29) rfl ?_
  obtain ⟨g4, h⟩ := gd_some h
  obtain ⟨M5, e5, h⟩ := stp_some h
  refine m_iast O (mS_i hs) (mS_l hs) (n := 342) g4 rfl (j := (300 + x2).toNatClampNeg) dX20_begins_29 (q := 30) rfl e5 ?_
  refine v_aload_n O.1 dX20_begins_30 rfl (q := 31) rfl ?_
  refine v_sipush O.1 dX20_begins_31 (v := 321) (by decide) (q := 34) rfl ?_
  refine v_iload_n O.1 dX20_begins_34 rfl (q := 35) rfl ?_
  refine v_iadd O.1 dX20_begins_35 (q := 36) rfl ?_
  refine v_aload_n O.1 dX20_begins_36 rfl (q := 37) rfl ?_
  refine v_bipush O.1 dX20_begins_37 (v := 25) (by decide) (q := 39) rfl ?_
  refine m_iald O (mS_i hs) (mS_l hs) (n := 342) (by decide) (by decide) (j := 25) dX20_begins_39 (q := 40) rfl ?_
  obtain ⟨g6, h⟩ := gd_some h
  obtain ⟨M7, e7, h⟩ := stp_some h
  refine m_iast O (mS_i hs) (mS_l hs) (n := 342) g6 rfl (j := (321 + x2).toNatClampNeg) dX20_begins_40 (q := 41) rfl e7 ?_
  refine v_aload_n O.1 dX20_begins_41 rfl (q := 42) rfl ?_
  refine v_sipush O.1 dX20_begins_42 (v := 152) (by decide) (q := 45) rfl ?_
  refine v_aload_n O.1 dX20_begins_45 rfl (q := 46) rfl ?_
  refine v_bipush O.1 dX20_begins_46 (v := 30) (by decide) (q := 48) rfl ?_
  refine m_iald O (mS_i hs) (mS_l hs) (n := 342) (by decide) (by decide) (j := 30) dX20_begins_48 (q := 49) rfl ?_
  refine v_iadd O.1 dX20_begins_49 (q := 50) rfl ?_
  refine v_iload_n O.1 dX20_begins_50 rfl (q := 51) rfl ?_
  obtain ⟨g8, h⟩ := gd_some h
  obtain ⟨M9, e9, h⟩ := stp_some h
  refine m_iast O (mS_i hs) (mS_l hs) (n := 342) g8 rfl (j := (152 + (M7 s 30)).toNatClampNeg) dX20_begins_51 (q := 52) rfl e9 ?_
  refine v_aload_n O.1 dX20_begins_52 rfl (q := 53) rfl ?_
  refine v_bipush O.1 dX20_begins_53 (v := 30) (by decide) (q := 55) rfl ?_
  refine v_dup2 O.1 dX20_begins_55 rfl rfl (q := 56) rfl ?_
  refine m_iald O (mS_i hs) (mS_l hs) (n := 342) (by decide) (by decide) (j := 30) dX20_begins_56 (q := 57) rfl ?_
  refine v_iconst O.1 dX20_begins_57 (v := 1) rfl (q := 58) rfl ?_
  refine v_iadd O.1 dX20_begins_58 (q := 59) rfl ?_
  obtain ⟨M10, e10, h⟩ := stp_some h
  refine m_iast O (mS_i hs) (mS_l hs) (n := 342) (by decide) (by decide) (j := 30) dX20_begins_59 (q := 60) rfl e10 ?_
  refine v_aload_n O.1 dX20_begins_60 rfl (q := 61) rfl ?_
  refine v_bipush O.1 dX20_begins_61 (v := 12) (by decide) (q := 63) rfl ?_
  refine v_aload_n O.1 dX20_begins_63 rfl (q := 64) rfl ?_
  refine m_get O 1 (v := .ref (gMa g 2)) (by decide) q1733 rfl rfl dX20_begins_64 (q := 67) rfl ?_
  refine v_iload_n O.1 dX20_begins_67 rfl (q := 68) rfl ?_
  obtain ⟨g11, h⟩ := gd_some h
  refine m_iald O rfl rfl (n := 21) g11 rfl (j := x2.toNatClampNeg) dX20_begins_68 (q := 69) rfl ?_
  obtain ⟨M12, e12, h⟩ := stp_some h
  refine m_iast O (mS_i hs) (mS_l hs) (n := 342) (by decide) (by decide) (j := 12) dX20_begins_69 (q := 70) rfl e12 ?_
  refine v_aload_n O.1 dX20_begins_70 rfl (q := 71) rfl ?_
  refine v_bipush O.1 dX20_begins_71 (v := 18) (by decide) (q := 73) rfl ?_
  refine v_iconst O.1 dX20_begins_73 (v := 0) rfl (q := 74) rfl ?_
  obtain ⟨M13, e13, h⟩ := stp_some h
  refine m_iast O (mS_i hs) (mS_l hs) (n := 342) (by decide) (by decide) (j := 18) dX20_begins_74 (q := 75) rfl e13 ?_
  refine v_aload_n O.1 dX20_begins_75 rfl (q := 76) rfl ?_
  refine v_aload_n O.1 dX20_begins_76 rfl (q := 77) rfl ?_
  refine v_iconst O.1 dX20_begins_77 (v := 0) rfl (q := 78) rfl ?_
  refine v_iconst O.1 dX20_begins_78 (v := 0) rfl (q := 79) rfl ?_
  obtain ⟨r14, M14, e14, h⟩ := bnd_some h
  refine m_callVv (As := [.ref (gMa g s), .int 0, .int 0]) (rest := []) (n := 3) O (met_turns _ g s hs 0 0 M13 M14 r14 e14) (lw_V q1906 q1908 qs30 q84 q1909) (by decide +kernel) (by decide) (by decide) rfl rfl (Nat.le_of_ble_eq_true rfl) dX20_begins_79 (q := 82) rfl ?_
  refine v_aload_n O.1 dX20_begins_82 rfl (q := 83) rfl ?_
  refine v_iload_n O.1 dX20_begins_83 rfl (q := 84) rfl ?_
  obtain ⟨M15, e15, h⟩ := stp_some h
  refine m_put O 16 (ty := .int) (by decide) q1748 rfl rfl rfl rfl rfl rfl dX20_begins_84 (q := 87) rfl e15 ?_
  refine v_aload_n O.1 dX20_begins_87 rfl (q := 88) rfl ?_
  refine v_iconst O.1 dX20_begins_88 (v := 1) rfl (q := 89) rfl ?_
  obtain ⟨r16, M16, e16, h⟩ := bnd_some h
  refine m_callVv (As := [.int 1]) (rest := []) (n := 1) O (met_counts _ g 1 M15 M16 r16 e16) (lw_V q1849 q1851 qs23 q84 q1852) (by decide +kernel) (by decide) (by decide) rfl rfl (Nat.le_of_ble_eq_true rfl) dX20_begins_89 (q := 92) rfl ?_
  refine v_iload_n O.1 dX20_begins_92 rfl (q := 93) rfl ?_
  refine v_iconst O.1 dX20_begins_93 (v := 1) rfl (q := 94) rfl ?_
  refine v_icmp_ne O.1 dX20_begins_94 (t := 102) (by decide) (q := 97) rfl (fun c17 => ?_) (fun c17 => ?_)
  · rw [if_neg c17] at h
    exact v_sub [1, 2, 3, 4, 0] rfl (bm_begins_102 hs O x2 x3 ((M s 25) - (M s (194 + x2).toNatClampNeg)) M16 h)
  · rw [if_pos c17] at h
    refine v_aload_n O.1 dX20_begins_97 rfl (q := 98) rfl ?_
    refine v_iconst O.1 dX20_begins_98 (v := 2) rfl (q := 99) rfl ?_
    obtain ⟨r18, M18, e18, h⟩ := bnd_some h
    refine m_callVv (As := [.int 2]) (rest := []) (n := 1) O (met_counts _ g 2 M16 M18 r18 e18) (lw_V q1849 q1851 qs23 q84 q1852) (by decide +kernel) (by decide) (by decide) rfl rfl (Nat.le_of_ble_eq_true rfl) dX20_begins_99 (q := 102) rfl ?_
    exact v_sub [1, 2, 3, 4, 0] rfl (bm_begins_102 hs O x2 x3 ((M s 25) - (M s (194 + x2).toNatClampNeg)) M18 h)
theorem met_begins (l : Launch) (g : gM) (s : Nat) (hs : mS s) (x2 : Int32) (x3 : Int32) (M M' : Mem) (r : Unit) (h : fm_begins s x2 x3 M = some (r, M')) : MetM l g yX20_begins cX20_begins 5 none 1 [.ref (gMa g 0), .ref (gMa g s), .int x2, .int x3] M (mQv g r M') :=
  m_met (by decide) rfl (Nat.le_of_ble_eq_true rfl) (fun X O => bm_begins hs O x2 x3 M h)
