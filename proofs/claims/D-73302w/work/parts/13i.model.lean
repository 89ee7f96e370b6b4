/-! branches(I)Z -/
def fm_branches_27 (y0 : Int32) (M : Mem) : Option (Int32 × Mem) :=
  gd (isB y0) <|
  some (y0, M)
set_option maxHeartbeats 4000000 in
theorem bm_branches_27 {g : gM} {X : Cxt} {r : Int32} {M' : Mem} (O : OkM g X cX20_branches 2 (some .boolean) 0 (mQi g r M')) (y0 : Int32) (M : Mem) (h : fm_branches_27 y0 M = some (r, M')) : V X 2 0 (WdM g M) 27 [] [.int y0] := by
  unfold fm_branches_27 at h
  obtain ⟨g1, h⟩ := gd_some h
  exact m_zret O g1 h dX20_branches_27
def fm_branches_22  (M : Mem) : Option (Int32 × Mem) :=
  fm_branches_27 1 M
set_option maxHeartbeats 4000000 in
theorem bm_branches_22 {g : gM} {X : Cxt} {r : Int32} {M' : Mem} (O : OkM g X cX20_branches 2 (some .boolean) 0 (mQi g r M'))  (M : Mem) (h : fm_branches_22  M = some (r, M')) : V X 2 0 (WdM g M) 22 [] [] := by
  unfold fm_branches_22 at h
  refine v_iconst O.1 dX20_branches_22 (v := 1) rfl (q := 23) rfl ?_
  refine v_goto O.1 dX20_branches_23 (t := 27) (by decide) ?_
  exact v_sub [] rfl (bm_branches_27 O 1 M h)
def fm_branches (x1 : Int32) (M : Mem) : Option (Int32 × Mem) :=
  gd (inb x1 512) <|
  if (M 1 x1.toNatClampNeg) = 12 then
    fm_branches_22 M
  else
    gd (inb x1 512) <|
    if (M 1 x1.toNatClampNeg) = 13 then
      fm_branches_22 M
    else
      fm_branches_27 0 M
set_option maxHeartbeats 4000000 in
theorem bm_branches {g : gM} {X : Cxt} {r : Int32} {M' : Mem} (O : OkM g X cX20_branches 2 (some .boolean) 0 (mQi g r M')) (x1 : Int32) (M : Mem) (h : fm_branches x1 M = some (r, M')) : V X 2 0 (WdM g M) 0 [(0, .ref (gMa g 0)), (1, .int x1)] [] := by
  unfold fm_branches at h
  refine v_aload_n O.1 dX20_branches_0 rfl (q := 1) rfl ?_
  refine m_get O 0 (v := .ref (gMa g 1)) (by decide) q1732 rfl rfl dX20_branches_1 (q := 4) rfl ?_
  refine v_iload_n O.1 dX20_branches_4 rfl (q := 5) rfl ?_
  obtain ⟨g1, h⟩ := gd_some h
  refine m_iald O rfl rfl (n := 512) g1 rfl (j := x1.toNatClampNeg) dX20_branches_5 (q := 6) rfl ?_
  refine v_bipush O.1 dX20_branches_6 (v := 12) (by decide) (q := 8) rfl ?_
  refine v_icmp_eq O.1 dX20_branches_8 (t := 22) (by decide) (q := 11) rfl (fun c2 => ?_) (fun c2 => ?_)
  · rw [if_pos c2] at h
    exact v_sub [] rfl (bm_branches_22 O M h)
  · rw [if_neg c2] at h
    refine v_aload_n O.1 dX20_branches_11 rfl (q := 12) rfl ?_
    refine m_get O 0 (v := .ref (gMa g 1)) (by decide) q1732 rfl rfl dX20_branches_12 (q := 15) rfl ?_
    refine v_iload_n O.1 dX20_branches_15 rfl (q := 16) rfl ?_
    obtain ⟨g3, h⟩ := gd_some h
    refine m_iald O rfl rfl (n := 512) g3 rfl (j := x1.toNatClampNeg) dX20_branches_16 (q := 17) rfl ?_
    refine v_bipush O.1 dX20_branches_17 (v := 13) (by decide) (q := 19) rfl ?_
    refine v_icmp_ne O.1 dX20_branches_19 (t := 26) (by decide) (q := 22) rfl (fun c4 => ?_) (fun c4 => ?_)
    · rw [if_neg c4] at h
      refine v_iconst O.1 dX20_branches_26 (v := 0) rfl (q := 27) rfl ?_
      exact v_sub [] rfl (bm_branches_27 O 0 M h)
    · rw [if_pos c4] at h
      exact v_sub [] rfl (bm_branches_22 O M h)
theorem met_branches (l : Launch) (g : gM) (x1 : Int32) (M M' : Mem) (r : Int32) (h : fm_branches x1 M = some (r, M')) : MetM l g yX20_branches cX20_branches 2 (some .boolean) 0 [.ref (gMa g 0), .int x1] M (mQi g r M') :=
  m_met (by decide) rfl (Nat.le_of_ble_eq_true rfl) (fun X O => bm_branches O x1 M h)
/-! goesTo(II)I -/
def fm_goesTo_68 (y0 : Int32) (M : Mem) : Option (Int32 × Mem) :=
  some (y0, M)
set_option maxHeartbeats 4000000 in
theorem bm_goesTo_68 {g : gM} {X : Cxt} {r : Int32} {M' : Mem} (O : OkM g X cX20_goesTo 3 (some .int) 0 (mQi g r M')) (y0 : Int32) (M : Mem) (h : fm_goesTo_68 y0 M = some (r, M')) : V X 3 0 (WdM g M) 68 [] [.int y0] := by
  unfold fm_goesTo_68 at h
  exact m_iret O h dX20_goesTo_68
def fm_goesTo_16 (x1 : Int32) (M : Mem) : Option (Int32 × Mem) :=
  gd (inb ((x1 + 1) - (x1 + 1) / 512 * 512) 512) <|
  gd (inb ((x1 + 2) - (x1 + 2) / 512 * 512) 512) <|
  fm_goesTo_68 (((256 * (M 1 ((x1 + 1) - (x1 + 1) / 512 * 512).toNatClampNeg)) + (M 1 ((x1 + 2) - (x1 + 2) / 512 * 512).toNatClampNeg)) - ((256 * (M 1 ((x1 + 1) - (x1 + 1) / 512 * 512).toNatClampNeg)) + (M 1 ((x1 + 2) - (x1 + 2) / 512 * 512).toNatClampNeg)) / 512 * 512) M
set_option maxHeartbeats 4000000 in
theorem bm_goesTo_16 {g : gM} {X : Cxt} {r : Int32} {M' : Mem} (O : OkM g X cX20_goesTo 3 (some .int) 0 (mQi g r M')) (x1 : Int32) (M : Mem) (h : fm_goesTo_16 x1 M = some (r, M')) : V X 3 0 (WdM g M) 16 [(0, .ref (gMa g 0)), (1, .int x1)] [] := by
  unfold fm_goesTo_16 at h
  refine v_sipush O.1 dX20_goesTo_16 (v := 256) (by decide) (q := 19) rfl ?_
  refine v_aload_n O.1 dX20_goesTo_19 rfl (q := 20) rfl ?_
  refine m_get O 0 (v := .ref (gMa g 1)) (by decide) q1732 rfl rfl dX20_goesTo_20 (q := 23) rfl ?_
  refine v_iload_n O.1 dX20_goesTo_23 rfl (q := 24) rfl ?_
  refine v_iconst O.1 dX20_goesTo_24 (v := 1) rfl (q := 25) rfl ?_
  refine v_iadd O.1 dX20_goesTo_25 (q := 26) rfl ?_
  refine v_sipush O.1 dX20_goesTo_26 (v := 512) (by decide) (q := 29) rfl ?_
  refine v_irem O.1 dX20_goesTo_29 (by decide) (q := 30) rfl ?_
  obtain ⟨g1, h⟩ := gd_some h
  refine m_iald O rfl rfl (n := 512) g1 rfl (j := ((x1 + 1) - (x1 + 1) / 512 * 512).toNatClampNeg) dX20_goesTo_30 (q := 31) rfl ?_
  refine v_imul O.1 dX20_goesTo_31 (q := 32) rfl ?_
  refine v_aload_n O.1 dX20_goesTo_32 rfl (q := 33) rfl ?_
  refine m_get O 0 (v := .ref (gMa g 1)) (by decide) q1732 rfl rfl dX20_goesTo_33 (q := 36) rfl ?_
  refine v_iload_n O.1 dX20_goesTo_36 rfl (q := 37) rfl ?_
  refine v_iconst O.1 dX20_goesTo_37 (v := 2) rfl (q := 38) rfl ?_
  refine v_iadd O.1 dX20_goesTo_38 (q := 39) rfl ?_
  refine v_sipush O.1 dX20_goesTo_39 (v := 512) (by decide) (q := 42) rfl ?_
  refine v_irem O.1 dX20_goesTo_42 (by decide) (q := 43) rfl ?_
  obtain ⟨g2, h⟩ := gd_some h
  refine m_iald O rfl rfl (n := 512) g2 rfl (j := ((x1 + 2) - (x1 + 2) / 512 * 512).toNatClampNeg) dX20_goesTo_43 (q := 44) rfl ?_
  refine v_iadd O.1 dX20_goesTo_44 (q := 45) rfl ?_
  refine v_sipush O.1 dX20_goesTo_45 (v := 512) (by decide) (q := 48) rfl ?_
  refine v_irem O.1 dX20_goesTo_48 (by decide) (q := 49) rfl ?_
  refine v_goto O.1 dX20_goesTo_49 (t := 68) (by decide) ?_
  exact v_sub [] rfl (bm_goesTo_68 O (((256 * (M 1 ((x1 + 1) - (x1 + 1) / 512 * 512).toNatClampNeg)) + (M 1 ((x1 + 2) - (x1 + 2) / 512 * 512).toNatClampNeg)) - ((256 * (M 1 ((x1 + 1) - (x1 + 1) / 512 * 512).toNatClampNeg)) + (M 1 ((x1 + 2) - (x1 + 2) / 512 * 512).toNatClampNeg)) / 512 * 512) M h)
def fm_goesTo (x1 : Int32) (x2 : Int32) (M : Mem) : Option (Int32 × Mem) :=
  gd (inb x1 512) <|
  if (M 1 x1.toNatClampNeg) = 11 then
    fm_goesTo_16 x1 M
  else
    if x2 = 1 then
      fm_goesTo_16 x1 M
    else
      gd (inb x1 512) <|
      gd (inb (M 1 x1.toNatClampNeg) 30) <|
      fm_goesTo_68 ((x1 + (mLong (M 1 x1.toNatClampNeg).toNatClampNeg)) - (x1 + (mLong (M 1 x1.toNatClampNeg).toNatClampNeg)) / 512 * 512) M
set_option maxHeartbeats 4000000 in
theorem bm_goesTo {g : gM} {X : Cxt} {r : Int32} {M' : Mem} (O : OkM g X cX20_goesTo 3 (some .int) 0 (mQi g r M')) (x1 : Int32) (x2 : Int32) (M : Mem) (h : fm_goesTo x1 x2 M = some (r, M')) : V X 3 0 (WdM g M) 0 [(0, .ref (gMa g 0)), (1, .int x1), (2, .int x2)] [] := by
  unfold fm_goesTo at h
  refine v_aload_n O.1 dX20_goesTo_0 rfl (q := 1) rfl ?_
  refine m_get O 0 (v := .ref (gMa g 1)) (by decide) q1732 rfl rfl dX20_goesTo_1 (q := 4) rfl ?_
  refine v_iload_n O.1 dX20_goesTo_4 rfl (q := 5) rfl ?_
  obtain ⟨g1, h⟩ := gd_some h
  refine m_iald O rfl rfl (n := 512) g1 rfl (j := x1.toNatClampNeg) dX20_goesTo_5 (q := 6) rfl ?_
  refine v_bipush O.1 dX20_goesTo_6 (v := 11) (by decide) (q := 8) rfl ?_
  refine v_icmp_eq O.1 dX20_goesTo_8 (t := 16) (by decide) (q := 11) rfl (fun c2 => ?_) (fun c2 => ?_)
  · rw [if_pos c2] at h
    exact v_sub [0, 1] rfl (bm_goesTo_16 O x1 M h)
  · rw [if_neg c2] at h
    refine v_iload_n O.1 dX20_goesTo_11 rfl (q := 12) rfl ?_
    refine v_iconst O.1 dX20_goesTo_12 (v := 1) rfl (q := 13) rfl ?_
    refine v_icmp_ne O.1 dX20_goesTo_13 (t := 52) (by decide) (q := 16) rfl (fun c3 => ?_) (fun c3 => ?_)
    · rw [if_neg c3] at h
      refine v_iload_n O.1 dX20_goesTo_52 rfl (q := 53) rfl ?_
      refine m_long O q1984 dX20_goesTo_53 (q := 56) rfl ?_
      refine v_aload_n O.1 dX20_goesTo_56 rfl (q := 57) rfl ?_
      refine m_get O 0 (v := .ref (gMa g 1)) (by decide) q1732 rfl rfl dX20_goesTo_57 (q := 60) rfl ?_
      refine v_iload_n O.1 dX20_goesTo_60 rfl (q := 61) rfl ?_
      obtain ⟨g4, h⟩ := gd_some h
      refine m_iald O rfl rfl (n := 512) g4 rfl (j := x1.toNatClampNeg) dX20_goesTo_61 (q := 62) rfl ?_
      obtain ⟨g5, h⟩ := gd_some h
      refine m_longat O g5 dX20_goesTo_62 (q := 63) rfl ?_
      refine v_iadd O.1 dX20_goesTo_63 (q := 64) rfl ?_
      refine v_sipush O.1 dX20_goesTo_64 (v := 512) (by decide) (q := 67) rfl ?_
      refine v_irem O.1 dX20_goesTo_67 (by decide) (q := 68) rfl ?_
      exact v_sub [] rfl (bm_goesTo_68 O ((x1 + (mLong (M 1 x1.toNatClampNeg).toNatClampNeg)) - (x1 + (mLong (M 1 x1.toNatClampNeg).toNatClampNeg)) / 512 * 512) M h)
    · rw [if_pos c3] at h
      exact v_sub [0, 1] rfl (bm_goesTo_16 O x1 M h)
theorem met_goesTo (l : Launch) (g : gM) (x1 : Int32) (x2 : Int32) (M M' : Mem) (r : Int32) (h : fm_goesTo x1 x2 M = some (r, M')) : MetM l g yX20_goesTo cX20_goesTo 3 (some .int) 0 [.ref (gMa g 0), .int x1, .int x2] M (mQi g r M') :=
  m_met (by decide) rfl (Nat.le_of_ble_eq_true rfl) (fun X O => bm_goesTo O x1 x2 M h)
/-! meets(I)Z -/
def fm_meets_108  (M : Mem) : Option (Int32 × Mem) :=
  some (0, M)
set_option maxHeartbeats 4000000 in
theorem bm_meets_108 {g : gM} {X : Cxt} {r : Int32} {M' : Mem} (O : OkM g X cX20_meets 7 (some .boolean) 1 (mQi g r M'))  (M : Mem) (h : fm_meets_108  M = some (r, M')) : V X 7 0 (WdM g M) 108 [] [] := by
  unfold fm_meets_108 at h
  refine v_iconst O.1 dX20_meets_108 (v := 0) rfl (q := 109) rfl ?_
  exact m_zret O (by decide) h dX20_meets_109
def fm_meets_206 (K61 : Int32 → Int32 → Mem → Option (Int32 × Mem)) (x2 : Int32) (x3 : Int32) (M : Mem) : Option (Int32 × Mem) :=
  K61 x2 (x3 + 1) M
set_option maxHeartbeats 4000000 in
theorem bm_meets_206 {g : gM} {X : Cxt} {r : Int32} {M' : Mem} (O : OkM g X cX20_meets 7 (some .boolean) 1 (mQi g r M')) {K61 : Int32 → Int32 → Mem → Option (Int32 × Mem)} (hK61 : ∀ (x2 : Int32) (x3 : Int32) (M : Mem), K61 x2 x3 M = some (r, M') → V X 7 0 (WdM g M) 61 [(0, .ref (gMa g 0)), (2, .int x2), (3, .int x3)] []) (x2 : Int32) (x3 : Int32) (M : Mem) (h : fm_meets_206 K61 x2 x3 M = some (r, M')) : V X 7 0 (WdM g M) 206 [(0, .ref (gMa g 0)), (2, .int x2), (3, .int x3)] [] := by
  unfold fm_meets_206 at h
  refine v_iinc (lv' := [(3, .int (x3 + 1)), (0, .ref (gMa g 0)), (2, .int x2)]) (v := (x3 + 1)) O.1 dX20_meets_206 rfl rfl (by decide) rfl (q := 209) rfl ?_
  refine v_goto O.1 dX20_meets_209 (t := 61) (by decide) ?_
  exact v_sub [1, 2, 0] rfl (hK61 x2 (x3 + 1) M h)
def fm_meets_200 (K61 : Int32 → Int32 → Mem → Option (Int32 × Mem)) (K128 : Int32 → Int32 → Int32 → Int32 → Mem → Option (Int32 × Mem)) (x2 : Int32) (x3 : Int32) (x4 : Int32) (x5 : Int32) (M : Mem) : Option (Int32 × Mem) :=
  K128 x2 x3 x4 (x5 + 1) M
set_option maxHeartbeats 4000000 in
theorem bm_meets_200 {g : gM} {X : Cxt} {r : Int32} {M' : Mem} (O : OkM g X cX20_meets 7 (some .boolean) 1 (mQi g r M')) {K61 : Int32 → Int32 → Mem → Option (Int32 × Mem)} {K128 : Int32 → Int32 → Int32 → Int32 → Mem → Option (Int32 × Mem)} (hK61 : ∀ (x2 : Int32) (x3 : Int32) (M : Mem), K61 x2 x3 M = some (r, M') → V X 7 0 (WdM g M) 61 [(0, .ref (gMa g 0)), (2, .int x2), (3, .int x3)] []) (hK128 : ∀ (x2 : Int32) (x3 : Int32) (x4 : Int32) (x5 : Int32) (M : Mem), K128 x2 x3 x4 x5 M = some (r, M') → V X 7 0 (WdM g M) 128 [(0, .ref (gMa g 0)), (2, .int x2), (3, .int x3), (4, .int x4), (5, .int x5)] []) (x2 : Int32) (x3 : Int32) (x4 : Int32) (x5 : Int32) (M : Mem) (h : fm_meets_200 K61 K128 x2 x3 x4 x5 M = some (r, M')) : V X 7 0 (WdM g M) 200 [(0, .ref (gMa g 0)), (2, .int x2), (3, .int x3), (4, .int x4), (5, .int x5)] [] := by
  unfold fm_meets_200 at h
  refine v_iinc (lv' := [(5, .int (x5 + 1)), (0, .ref (gMa g 0)), (2, .int x2), (3, .int x3), (4, .int x4)]) (v := (x5 + 1)) O.1 dX20_meets_200 rfl rfl (by decide) rfl (q := 203) rfl ?_
  refine v_goto O.1 dX20_meets_203 (t := 128) (by decide) ?_
  exact v_sub [1, 2, 3, 4, 0] rfl (hK128 x2 x3 x4 (x5 + 1) M h)
def fm_meets_144 (K61 : Int32 → Int32 → Mem → Option (Int32 × Mem)) (K128 : Int32 → Int32 → Int32 → Int32 → Mem → Option (Int32 × Mem)) (x2 : Int32) (x3 : Int32) (x4 : Int32) (x5 : Int32) (y1 : Int32) (y0 : Int32) (M : Mem) : Option (Int32 × Mem) :=
  if y1 ≤ y0 then
    fm_meets_206 K61 x2 x3 M
  else
    bnd (fm_goesTo x4 x5 M) fun r2 M2 =>
    gd (inb r2 512) <|
    gd (inb r2 512) <|
    stp (up2 M2 14 r2.toNatClampNeg ((M2 14 r2.toNatClampNeg) + 1)) fun M5 =>
    gd (inb r2 512) <|
    if (M5 13 r2.toNatClampNeg) = 0 then
      gd (inb r2 512) <|
      stp (up2 M5 13 r2.toNatClampNeg 1) fun M9 =>
      gd (inb x2 512) <|
      stp (up2 M9 17 x2.toNatClampNeg r2) fun M11 =>
      fm_meets_200 K61 K128 (x2 + 1) x3 x4 x5 M11
    else
      fm_meets_200 K61 K128 x2 x3 x4 x5 M5
set_option maxHeartbeats 4000000 in
theorem bm_meets_144 {g : gM} {X : Cxt} {r : Int32} {M' : Mem} (O : OkM g X cX20_meets 7 (some .boolean) 1 (mQi g r M')) {K61 : Int32 → Int32 → Mem → Option (Int32 × Mem)} {K128 : Int32 → Int32 → Int32 → Int32 → Mem → Option (Int32 × Mem)} (hK61 : ∀ (x2 : Int32) (x3 : Int32) (M : Mem), K61 x2 x3 M = some (r, M') → V X 7 0 (WdM g M) 61 [(0, .ref (gMa g 0)), (2, .int x2), (3, .int x3)] []) (hK128 : ∀ (x2 : Int32) (x3 : Int32) (x4 : Int32) (x5 : Int32) (M : Mem), K128 x2 x3 x4 x5 M = some (r, M') → V X 7 0 (WdM g M) 128 [(0, .ref (gMa g 0)), (2, .int x2), (3, .int x3), (4, .int x4), (5, .int x5)] []) (x2 : Int32) (x3 : Int32) (x4 : Int32) (x5 : Int32) (y1 : Int32) (y0 : Int32) (M : Mem) (h : fm_meets_144 K61 K128 x2 x3 x4 x5 y1 y0 M = some (r, M')) : V X 7 0 (WdM g M) 144 [(0, .ref (gMa g 0)), (2, .int x2), (3, .int x3), (4, .int x4), (5, .int x5)] [.int y1, .int y0] := by
  unfold fm_meets_144 at h
  refine v_icmp_ge O.1 dX20_meets_144 (t := 206) (by decide) (q := 147) rfl (fun c1 => ?_) (fun c1 => ?_)
  · rw [if_pos c1] at h
    exact v_sub [0, 1, 2] rfl (bm_meets_206 O hK61 x2 x3 M h)
  · rw [if_neg c1] at h
    refine v_aload_n O.1 dX20_meets_147 rfl (q := 148) rfl ?_
    refine v_iload O.1 dX20_meets_148 rfl (q := 150) rfl ?_
    refine v_iload O.1 dX20_meets_150 rfl (q := 152) rfl ?_
    obtain ⟨r2, M2, e2, h⟩ := bnd_some h
    refine m_callVi (As := [.int x4, .int x5]) (rest := []) (n := 2) O (met_goesTo _ g x4 x5 M M2 r2 e2) (lw_V q2146 q2148 qs57 q84 q2149) (by decide +kernel) (by decide) (by decide) rfl rfl (Nat.le_of_ble_eq_true rfl) dX20_meets_152 (q := 155) rfl ?_
    refine v_istore (lv' := [(6, .int r2), (0, .ref (gMa g 0)), (2, .int x2), (3, .int x3), (4, .int x4), (5, .int x5)]) O.1 dX20_meets_155 (by decide) rfl (q := 157) rfl ?_
    refine v_aload_n O.1 dX20_meets_157 rfl (q := 158) rfl ?_
    refine m_get O 19 (v := .ref (gMa g 14)) (by decide) q1751 rfl rfl dX20_meets_158 (q := 161) rfl ?_
    refine v_iload O.1 dX20_meets_161 rfl (q := 163) rfl ?_
    refine v_dup2 O.1 dX20_meets_163 rfl rfl (q := 164) rfl ?_
    obtain ⟨g3, h⟩ := gd_some h
    refine m_iald O rfl rfl (n := 512) g3 rfl (j := r2.toNatClampNeg) dX20_meets_164 (q := 165) rfl ?_
    refine v_iconst O.1 dX20_meets_165 (v := 1) rfl (q := 166) rfl ?_
    refine v_iadd O.1 dX20_meets_166 (q := 167) rfl ?_
    obtain ⟨g4, h⟩ := gd_some h
    obtain ⟨M5, e5, h⟩ := stp_some h
    refine m_iast O rfl rfl (n := 512) g4 rfl (j := r2.toNatClampNeg) dX20_meets_167 (q := 168) rfl e5 ?_
    refine v_aload_n O.1 dX20_meets_168 rfl (q := 169) rfl ?_
    refine m_get O 18 (v := .ref (gMa g 13)) (by decide) q1750 rfl rfl dX20_meets_169 (q := 172) rfl ?_
    refine v_iload O.1 dX20_meets_172 rfl (q := 174) rfl ?_
    obtain ⟨g6, h⟩ := gd_some h
    refine m_bald O rfl rfl (n := 512) g6 rfl (j := r2.toNatClampNeg) dX20_meets_174 (q := 175) rfl ?_
    refine v_if_eq O.1 dX20_meets_175 (t := 181) (by decide) (q := 178) rfl (fun c7 => ?_) (fun c7 => ?_)
    · rw [if_pos c7] at h
      refine v_aload_n O.1 dX20_meets_181 rfl (q := 182) rfl ?_
      refine m_get O 18 (v := .ref (gMa g 13)) (by decide) q1750 rfl rfl dX20_meets_182 (q := 185) rfl ?_
      refine v_iload O.1 dX20_meets_185 rfl (q := 187) rfl ?_
      refine v_iconst O.1 dX20_meets_187 (v := 1) rfl (q := 188) rfl ?_
      obtain ⟨g8, h⟩ := gd_some h
      obtain ⟨M9, e9, h⟩ := stp_some h
      refine m_bast O rfl rfl (n := 512) g8 rfl (j := r2.toNatClampNeg) (by decide) dX20_meets_188 (q := 189) rfl e9 ?_
      refine v_aload_n O.1 dX20_meets_189 rfl (q := 190) rfl ?_
      refine m_get O 22 (v := .ref (gMa g 17)) (by decide) q1754 rfl rfl dX20_meets_190 (q := 193) rfl ?_
      refine v_iload_n O.1 dX20_meets_193 rfl (q := 194) rfl ?_
      refine v_iload O.1 dX20_meets_194 rfl (q := 196) rfl ?_
      obtain ⟨g10, h⟩ := gd_some h
      obtain ⟨M11, e11, h⟩ := stp_some h
      refine m_iast O rfl rfl (n := 512) g10 rfl (j := x2.toNatClampNeg) dX20_meets_196 (q := 197) rfl e11 ?_
      refine v_iinc (lv' := [(2, .int (x2 + 1)), (6, .int r2), (0, .ref (gMa g 0)), (3, .int x3), (4, .int x4), (5, .int x5)]) (v := (x2 + 1)) O.1 dX20_meets_197 rfl rfl (by decide) rfl (q := 200) rfl ?_
      exact v_sub [2, 0, 3, 4, 5] rfl (bm_meets_200 O hK61 hK128 (x2 + 1) x3 x4 x5 M11 h)
    · rw [if_neg c7] at h
      refine v_goto O.1 dX20_meets_178 (t := 200) (by decide) ?_
      exact v_sub [1, 2, 3, 4, 5] rfl (bm_meets_200 O hK61 hK128 x2 x3 x4 x5 M5 h)
def fm_meets_128b (K61 : Int32 → Int32 → Mem → Option (Int32 × Mem)) (K128 : Int32 → Int32 → Int32 → Int32 → Mem → Option (Int32 × Mem)) (x2 : Int32) (x3 : Int32) (x4 : Int32) (x5 : Int32) (M : Mem) : Option (Int32 × Mem) :=
  bnd (fm_branches x4 M) fun r1 M1 =>
  if r1 = 0 then
    fm_meets_144 K61 K128 x2 x3 x4 x5 1 x5 M1
  else
    fm_meets_144 K61 K128 x2 x3 x4 x5 2 x5 M1
set_option maxHeartbeats 4000000 in
theorem bm_meets_128b {g : gM} {X : Cxt} {r : Int32} {M' : Mem} (O : OkM g X cX20_meets 7 (some .boolean) 1 (mQi g r M')) {K61 : Int32 → Int32 → Mem → Option (Int32 × Mem)} (hK61 : ∀ (x2 : Int32) (x3 : Int32) (M : Mem), K61 x2 x3 M = some (r, M') → V X 7 0 (WdM g M) 61 [(0, .ref (gMa g 0)), (2, .int x2), (3, .int x3)] []) {K128 : Int32 → Int32 → Int32 → Int32 → Mem → Option (Int32 × Mem)} (hK128 : ∀ (x2 : Int32) (x3 : Int32) (x4 : Int32) (x5 : Int32) (M : Mem), K128 x2 x3 x4 x5 M = some (r, M') → V X 7 0 (WdM g M) 128 [(0, .ref (gMa g 0)), (2, .int x2), (3, .int x3), (4, .int x4), (5, .int x5)] []) (x2 : Int32) (x3 : Int32) (x4 : Int32) (x5 : Int32) (M : Mem) (h : fm_meets_128b K61 K128 x2 x3 x4 x5 M = some (r, M')) : V X 7 0 (WdM g M) 128 [(0, .ref (gMa g 0)), (2, .int x2), (3, .int x3), (4, .int x4), (5, .int x5)] [] := by
  unfold fm_meets_128b at h
  refine v_iload O.1 dX20_meets_128 rfl (q := 130) rfl ?_
  refine v_aload_n O.1 dX20_meets_130 rfl (q := 131) rfl ?_
  refine v_iload O.1 dX20_meets_131 rfl (q := 133) rfl ?_
  obtain ⟨r1, M1, e1, h⟩ := bnd_some h
  refine m_callVi (As := [.int x4]) (rest := [.int x5]) (n := 1) O (met_branches _ g x4 M M1 r1 e1) (lw_V q2142 q2144 qs56 q84 q2145) (by decide +kernel) (by decide) (by decide) rfl rfl (Nat.le_of_ble_eq_true rfl) dX20_meets_133 (q := 136) rfl ?_
  refine v_if_eq O.1 dX20_meets_136 (t := 143) (by decide) (q := 139) rfl (fun c2 => ?_) (fun c2 => ?_)
  · rw [if_pos c2] at h
    refine v_iconst O.1 dX20_meets_143 (v := 1) rfl (q := 144) rfl ?_
    exact v_sub [0, 1, 2, 3, 4] rfl (bm_meets_144 O hK61 hK128 x2 x3 x4 x5 1 x5 M1 h)
  · rw [if_neg c2] at h
    refine v_iconst O.1 dX20_meets_139 (v := 2) rfl (q := 140) rfl ?_
    refine v_goto O.1 dX20_meets_140 (t := 144) (by decide) ?_
    exact v_sub [0, 1, 2, 3, 4] rfl (bm_meets_144 O hK61 hK128 x2 x3 x4 x5 2 x5 M1 h)
def fm_meets_128 (K61 : Int32 → Int32 → Mem → Option (Int32 × Mem)) (n : Nat) : Int32 → Int32 → Int32 → Int32 → Mem → Option (Int32 × Mem) := lpc (fm_meets_128b K61) (fun _ _ _ _ _ => none) n
theorem bm_meets_128 {g : gM} {X : Cxt} {r : Int32} {M' : Mem} (O : OkM g X cX20_meets 7 (some .boolean) 1 (mQi g r M')) {K61 : Int32 → Int32 → Mem → Option (Int32 × Mem)} (hK61 : ∀ (x2 : Int32) (x3 : Int32) (M : Mem), K61 x2 x3 M = some (r, M') → V X 7 0 (WdM g M) 61 [(0, .ref (gMa g 0)), (2, .int x2), (3, .int x3)] []) : ∀ (n : Nat) (x2 : Int32) (x3 : Int32) (x4 : Int32) (x5 : Int32) (M : Mem), fm_meets_128 K61 n x2 x3 x4 x5 M = some (r, M') → V X 7 0 (WdM g M) 128 [(0, .ref (gMa g 0)), (2, .int x2), (3, .int x3), (4, .int x4), (5, .int x5)] [] := by
  intro n
  induction n with
  | zero =>
    intro x2 x3 x4 x5 M h
    cases h
  | succ n ih =>
    intro x2 x3 x4 x5 M h
    exact bm_meets_128b O hK61 ih x2 x3 x4 x5 M h
def fm_meets_61b (K61 : Int32 → Int32 → Mem → Option (Int32 × Mem)) (x2 : Int32) (x3 : Int32) (M : Mem) : Option (Int32 × Mem) :=
  if x2 ≤ x3 then
    some (1, M)
  else
    gd (inb x3 512) <|
    gd (inb (M 17 x3.toNatClampNeg) 512) <|
    if (M 1 (M 17 x3.toNatClampNeg).toNatClampNeg) = 0 then
      fm_meets_108 M
    else
      gd (inb (M 17 x3.toNatClampNeg) 512) <|
      if (M 1 (M 17 x3.toNatClampNeg).toNatClampNeg) = 19 then
        fm_meets_108 M
      else
        gd (inb (M 17 x3.toNatClampNeg) 512) <|
        if (M 1 (M 17 x3.toNatClampNeg).toNatClampNeg) ≤ 29 then
          gd (inb (M 17 x3.toNatClampNeg) 512) <|
          if (M 1 (M 17 x3.toNatClampNeg).toNatClampNeg) = 18 then
            fm_meets_206 K61 x2 x3 M
          else
            fm_meets_128 K61 600 x2 x3 (M 17 x3.toNatClampNeg) 0 M
        else
          fm_meets_108 M
set_option maxHeartbeats 4000000 in
theorem bm_meets_61b {g : gM} {X : Cxt} {r : Int32} {M' : Mem} (O : OkM g X cX20_meets 7 (some .boolean) 1 (mQi g r M')) {K61 : Int32 → Int32 → Mem → Option (Int32 × Mem)} (hK61 : ∀ (x2 : Int32) (x3 : Int32) (M : Mem), K61 x2 x3 M = some (r, M') → V X 7 0 (WdM g M) 61 [(0, .ref (gMa g 0)), (2, .int x2), (3, .int x3)] []) (x2 : Int32) (x3 : Int32) (M : Mem) (h : fm_meets_61b K61 x2 x3 M = some (r, M')) : V X 7 0 (WdM g M) 61 [(0, .ref (gMa g 0)), (2, .int x2), (3, .int x3)] [] := by
  unfold fm_meets_61b at h
  refine v_iload_n O.1 dX20_meets_61 rfl (q := 62) rfl ?_
  refine v_iload_n O.1 dX20_meets_62 rfl (q := 63) rfl ?_
  refine v_icmp_ge O.1 dX20_meets_63 (t := 212) (by decide) (q := 66) rfl (fun c1 => ?_) (fun c1 => ?_)
  · rw [if_pos c1] at h
    refine v_iconst O.1 dX20_meets_212 (v := 1) rfl (q := 213) rfl ?_
    exact m_zret O (by decide) h dX20_meets_213
  · rw [if_neg c1] at h
    refine v_aload_n O.1 dX20_meets_66 rfl (q := 67) rfl ?_
    refine m_get O 22 (v := .ref (gMa g 17)) (by decide) q1754 rfl rfl dX20_meets_67 (q := 70) rfl ?_
    refine v_iload_n O.1 dX20_meets_70 rfl (q := 71) rfl ?_
    obtain ⟨g2, h⟩ := gd_some h
    refine m_iald O rfl rfl (n := 512) g2 rfl (j := x3.toNatClampNeg) dX20_meets_71 (q := 72) rfl ?_
    refine v_istore (lv' := [(4, .int (M 17 x3.toNatClampNeg)), (0, .ref (gMa g 0)), (2, .int x2), (3, .int x3)]) O.1 dX20_meets_72 (by decide) rfl (q := 74) rfl ?_
    refine v_aload_n O.1 dX20_meets_74 rfl (q := 75) rfl ?_
    refine m_get O 0 (v := .ref (gMa g 1)) (by decide) q1732 rfl rfl dX20_meets_75 (q := 78) rfl ?_
    refine v_iload O.1 dX20_meets_78 rfl (q := 80) rfl ?_
    obtain ⟨g3, h⟩ := gd_some h
    refine m_iald O rfl rfl (n := 512) g3 rfl (j := (M 17 x3.toNatClampNeg).toNatClampNeg) dX20_meets_80 (q := 81) rfl ?_
    refine v_if_eq O.1 dX20_meets_81 (t := 108) (by decide) (q := 84) rfl (fun c4 => ?_) (fun c4 => ?_)
    · rw [if_pos c4] at h
      exact v_sub [] rfl (bm_meets_108 O M h)
    · rw [if_neg c4] at h
      refine v_aload_n O.1 dX20_meets_84 rfl (q := 85) rfl ?_
      refine m_get O 0 (v := .ref (gMa g 1)) (by decide) q1732 rfl rfl dX20_meets_85 (q := 88) rfl ?_
      refine v_iload O.1 dX20_meets_88 rfl (q := 90) rfl ?_
      obtain ⟨g5, h⟩ := gd_some h
      refine m_iald O rfl rfl (n := 512) g5 rfl (j := (M 17 x3.toNatClampNeg).toNatClampNeg) dX20_meets_90 (q := 91) rfl ?_
      refine v_bipush O.1 dX20_meets_91 (v := 19) (by decide) (q := 93) rfl ?_
      refine v_icmp_eq O.1 dX20_meets_93 (t := 108) (by decide) (q := 96) rfl (fun c6 => ?_) (fun c6 => ?_)
      · rw [if_pos c6] at h
        exact v_sub [] rfl (bm_meets_108 O M h)
      · rw [if_neg c6] at h
        refine v_aload_n O.1 dX20_meets_96 rfl (q := 97) rfl ?_
        refine m_get O 0 (v := .ref (gMa g 1)) (by decide) q1732 rfl rfl dX20_meets_97 (q := 100) rfl ?_
        refine v_iload O.1 dX20_meets_100 rfl (q := 102) rfl ?_
        obtain ⟨g7, h⟩ := gd_some h
        refine m_iald O rfl rfl (n := 512) g7 rfl (j := (M 17 x3.toNatClampNeg).toNatClampNeg) dX20_meets_102 (q := 103) rfl ?_
        refine v_bipush O.1 dX20_meets_103 (v := 29) (by decide) (q := 105) rfl ?_
        refine v_icmp_le O.1 dX20_meets_105 (t := 110) (by decide) (q := 108) rfl (fun c8 => ?_) (fun c8 => ?_)
        · rw [if_pos c8] at h
          refine v_aload_n O.1 dX20_meets_110 rfl (q := 111) rfl ?_
          refine m_get O 0 (v := .ref (gMa g 1)) (by decide) q1732 rfl rfl dX20_meets_111 (q := 114) rfl ?_
          refine v_iload O.1 dX20_meets_114 rfl (q := 116) rfl ?_
          obtain ⟨g9, h⟩ := gd_some h
          refine m_iald O rfl rfl (n := 512) g9 rfl (j := (M 17 x3.toNatClampNeg).toNatClampNeg) dX20_meets_116 (q := 117) rfl ?_
          refine v_bipush O.1 dX20_meets_117 (v := 18) (by decide) (q := 119) rfl ?_
          refine v_icmp_ne O.1 dX20_meets_119 (t := 125) (by decide) (q := 122) rfl (fun c10 => ?_) (fun c10 => ?_)
          · rw [if_neg c10] at h
            refine v_iconst O.1 dX20_meets_125 (v := 0) rfl (q := 126) rfl ?_
            refine v_istore (lv' := [(5, .int 0), (4, .int (M 17 x3.toNatClampNeg)), (0, .ref (gMa g 0)), (2, .int x2), (3, .int x3)]) O.1 dX20_meets_126 (by decide) rfl (q := 128) rfl ?_
            exact v_sub [2, 3, 4, 1, 0] rfl (bm_meets_128 O hK61 600 x2 x3 (M 17 x3.toNatClampNeg) 0 M h)
          · rw [if_pos c10] at h
            refine v_goto O.1 dX20_meets_122 (t := 206) (by decide) ?_
            exact v_sub [1, 2, 3] rfl (bm_meets_206 O hK61 x2 x3 M h)
        · rw [if_neg c8] at h
          exact v_sub [] rfl (bm_meets_108 O M h)
def fm_meets_61 (n : Nat) : Int32 → Int32 → Mem → Option (Int32 × Mem) := lpc (fm_meets_61b) (fun _ _ _ => none) n
theorem bm_meets_61 {g : gM} {X : Cxt} {r : Int32} {M' : Mem} (O : OkM g X cX20_meets 7 (some .boolean) 1 (mQi g r M')) : ∀ (n : Nat) (x2 : Int32) (x3 : Int32) (M : Mem), fm_meets_61 n x2 x3 M = some (r, M') → V X 7 0 (WdM g M) 61 [(0, .ref (gMa g 0)), (2, .int x2), (3, .int x3)] [] := by
  intro n
  induction n with
  | zero =>
    intro x2 x3 M h
    cases h
  | succ n ih =>
    intro x2 x3 M h
    exact bm_meets_61b O ih x2 x3 M h
def fm_meets_2b (K2 : Int32 → Int32 → Mem → Option (Int32 × Mem)) (x1 : Int32) (x2 : Int32) (M : Mem) : Option (Int32 × Mem) :=
  if 512 ≤ x2 then
    stp (up2 M 17 0 x1) fun M2 =>
    gd (inb x1 512) <|
    stp (up2 M2 13 x1.toNatClampNeg 1) fun M4 =>
    fm_meets_61 600 1 0 M4
  else
    gd (inb x2 512) <|
    stp (up2 M 13 x2.toNatClampNeg 0) fun M6 =>
    gd (inb x2 512) <|
    stp (up2 M6 14 x2.toNatClampNeg 0) fun M8 =>
    gd (inb x2 512) <|
    stp (up2 M8 15 x2.toNatClampNeg 0) fun M10 =>
    gd (inb x2 512) <|
    stp (up2 M10 16 x2.toNatClampNeg 0) fun M12 =>
    K2 x1 (x2 + 1) M12
set_option maxHeartbeats 4000000 in
theorem bm_meets_2b {g : gM} {X : Cxt} {r : Int32} {M' : Mem} (O : OkM g X cX20_meets 7 (some .boolean) 1 (mQi g r M')) {K2 : Int32 → Int32 → Mem → Option (Int32 × Mem)} (hK2 : ∀ (x1 : Int32) (x2 : Int32) (M : Mem), K2 x1 x2 M = some (r, M') → V X 7 0 (WdM g M) 2 [(0, .ref (gMa g 0)), (1, .int x1), (2, .int x2)] []) (x1 : Int32) (x2 : Int32) (M : Mem) (h : fm_meets_2b K2 x1 x2 M = some (r, M')) : V X 7 0 (WdM g M) 2 [(0, .ref (gMa g 0)), (1, .int x1), (2, .int x2)] [] := by
  unfold fm_meets_2b at h
  refine v_iload_n O.1 dX20_meets_2 rfl (q := 3) rfl ?_
  refine v_sipush O.1 dX20_meets_3 (v := 512) (by decide) (q := 6) rfl ?_
  refine v_icmp_ge O.1 dX20_meets_6 (t := 43) (by decide) (q := 9) rfl (fun c1 => ?_) (fun c1 => ?_)
  · rw [if_pos c1] at h
    refine v_iconst O.1 dX20_meets_43 (v := 1) rfl (q := 44) rfl ?_
    refine v_istore_n (lv' := [(2, .int 1), (0, .ref (gMa g 0)), (1, .int x1)]) O.1 dX20_meets_44 (by decide) rfl (q := 45) rfl ?_
    refine v_aload_n O.1 dX20_meets_45 rfl (q := 46) rfl ?_
    refine m_get O 22 (v := .ref (gMa g 17)) (by decide) q1754 rfl rfl dX20_meets_46 (q := 49) rfl ?_
    refine v_iconst O.1 dX20_meets_49 (v := 0) rfl (q := 50) rfl ?_
    refine v_iload_n O.1 dX20_meets_50 rfl (q := 51) rfl ?_
    obtain ⟨M2, e2, h⟩ := stp_some h
    refine m_iast O rfl rfl (n := 512) (by decide) (by decide) (j := 0) dX20_meets_51 (q := 52) rfl e2 ?_
    refine v_aload_n O.1 dX20_meets_52 rfl (q := 53) rfl ?_
    refine m_get O 18 (v := .ref (gMa g 13)) (by decide) q1750 rfl rfl dX20_meets_53 (q := 56) rfl ?_
    refine v_iload_n O.1 dX20_meets_56 rfl (q := 57) rfl ?_
    refine v_iconst O.1 dX20_meets_57 (v := 1) rfl (q := 58) rfl ?_
    obtain ⟨g3, h⟩ := gd_some h
    obtain ⟨M4, e4, h⟩ := stp_some h
    refine m_bast O rfl rfl (n := 512) g3 rfl (j := x1.toNatClampNeg) (by decide) dX20_meets_58 (q := 59) rfl e4 ?_
    refine v_iconst O.1 dX20_meets_59 (v := 0) rfl (q := 60) rfl ?_
    refine v_istore_n (lv' := [(3, .int 0), (2, .int 1), (0, .ref (gMa g 0)), (1, .int x1)]) O.1 dX20_meets_60 (by decide) rfl (q := 61) rfl ?_
    exact v_sub [2, 1, 0] rfl (bm_meets_61 O 600 1 0 M4 h)
  · rw [if_neg c1] at h
    refine v_aload_n O.1 dX20_meets_9 rfl (q := 10) rfl ?_
    refine m_get O 18 (v := .ref (gMa g 13)) (by decide) q1750 rfl rfl dX20_meets_10 (q := 13) rfl ?_
    refine v_iload_n O.1 dX20_meets_13 rfl (q := 14) rfl ?_
    refine v_iconst O.1 dX20_meets_14 (v := 0) rfl (q := 15) rfl ?_
    obtain ⟨g5, h⟩ := gd_some h
    obtain ⟨M6, e6, h⟩ := stp_some h
    refine m_bast O rfl rfl (n := 512) g5 rfl (j := x2.toNatClampNeg) (by decide) dX20_meets_15 (q := 16) rfl e6 ?_
    refine v_aload_n O.1 dX20_meets_16 rfl (q := 17) rfl ?_
    refine m_get O 19 (v := .ref (gMa g 14)) (by decide) q1751 rfl rfl dX20_meets_17 (q := 20) rfl ?_
    refine v_iload_n O.1 dX20_meets_20 rfl (q := 21) rfl ?_
    refine v_iconst O.1 dX20_meets_21 (v := 0) rfl (q := 22) rfl ?_
    obtain ⟨g7, h⟩ := gd_some h
    obtain ⟨M8, e8, h⟩ := stp_some h
    refine m_iast O rfl rfl (n := 512) g7 rfl (j := x2.toNatClampNeg) dX20_meets_22 (q := 23) rfl e8 ?_
    refine v_aload_n O.1 dX20_meets_23 rfl (q := 24) rfl ?_
    refine m_get O 20 (v := .ref (gMa g 15)) (by decide) q1752 rfl rfl dX20_meets_24 (q := 27) rfl ?_
    refine v_iload_n O.1 dX20_meets_27 rfl (q := 28) rfl ?_
    refine v_iconst O.1 dX20_meets_28 (v := 0) rfl (q := 29) rfl ?_
    obtain ⟨g9, h⟩ := gd_some h
    obtain ⟨M10, e10, h⟩ := stp_some h
    refine m_iast O rfl rfl (n := 512) g9 rfl (j := x2.toNatClampNeg) dX20_meets_29 (q := 30) rfl e10 ?_
    refine v_aload_n O.1 dX20_meets_30 rfl (q := 31) rfl ?_
    refine m_get O 21 (v := .ref (gMa g 16)) (by decide) q1753 rfl rfl dX20_meets_31 (q := 34) rfl ?_
    refine v_iload_n O.1 dX20_meets_34 rfl (q := 35) rfl ?_
    refine v_iconst O.1 dX20_meets_35 (v := 0) rfl (q := 36) rfl ?_
    obtain ⟨g11, h⟩ := gd_some h
    obtain ⟨M12, e12, h⟩ := stp_some h
    refine m_iast O rfl rfl (n := 512) g11 rfl (j := x2.toNatClampNeg) dX20_meets_36 (q := 37) rfl e12 ?_
    refine v_iinc (lv' := [(2, .int (x2 + 1)), (0, .ref (gMa g 0)), (1, .int x1)]) (v := (x2 + 1)) O.1 dX20_meets_37 rfl rfl (by decide) rfl (q := 40) rfl ?_
    refine v_goto O.1 dX20_meets_40 (t := 2) (by decide) ?_
    exact v_sub [1, 2, 0] rfl (hK2 x1 (x2 + 1) M12 h)
def fm_meets_2 (n : Nat) : Int32 → Int32 → Mem → Option (Int32 × Mem) := lpc (fm_meets_2b) (fun _ _ _ => none) n
theorem bm_meets_2 {g : gM} {X : Cxt} {r : Int32} {M' : Mem} (O : OkM g X cX20_meets 7 (some .boolean) 1 (mQi g r M')) : ∀ (n : Nat) (x1 : Int32) (x2 : Int32) (M : Mem), fm_meets_2 n x1 x2 M = some (r, M') → V X 7 0 (WdM g M) 2 [(0, .ref (gMa g 0)), (1, .int x1), (2, .int x2)] [] := by
  intro n
  induction n with
  | zero =>
    intro x1 x2 M h
    cases h
  | succ n ih =>
    intro x1 x2 M h
    exact bm_meets_2b O ih x1 x2 M h
def fm_meets (x1 : Int32) (M : Mem) : Option (Int32 × Mem) :=
  fm_meets_2 600 x1 0 M
set_option maxHeartbeats 4000000 in
theorem bm_meets {g : gM} {X : Cxt} {r : Int32} {M' : Mem} (O : OkM g X cX20_meets 7 (some .boolean) 1 (mQi g r M')) (x1 : Int32) (M : Mem) (h : fm_meets x1 M = some (r, M')) : V X 7 0 (WdM g M) 0 [(0, .ref (gMa g 0)), (1, .int x1)] [] := by
  unfold fm_meets at h
  refine v_iconst O.1 dX20_meets_0 (v := 0) rfl (q := 1) rfl ?_
  refine v_istore_n (lv' := [(2, .int 0), (0, .ref (gMa g 0)), (1, .int x1)]) O.1 dX20_meets_1 (by decide) rfl (q := 2) rfl ?_
  exact v_sub [1, 2, 0] rfl (bm_meets_2 O 600 x1 0 M h)
theorem met_meets (l : Launch) (g : gM) (x1 : Int32) (M M' : Mem) (r : Int32) (h : fm_meets x1 M = some (r, M')) : MetM l g yX20_meets cX20_meets 7 (some .boolean) 1 [.ref (gMa g 0), .int x1] M (mQi g r M') :=
  m_met (by decide) rfl (Nat.le_of_ble_eq_true rfl) (fun X O => bm_meets O x1 M h)
/-! walks(I)Z -/
def fm_walks_27  (M : Mem) : Option (Int32 × Mem) :=
  some (0, M)
set_option maxHeartbeats 4000000 in
theorem bm_walks_27 {g : gM} {X : Cxt} {r : Int32} {M' : Mem} (O : OkM g X cX20_walks 10 (some .boolean) 2 (mQi g r M'))  (M : Mem) (h : fm_walks_27  M = some (r, M')) : V X 10 0 (WdM g M) 27 [] [] := by
  unfold fm_walks_27 at h
  refine v_iconst O.1 dX20_walks_27 (v := 0) rfl (q := 28) rfl ?_
  exact m_zret O (by decide) h dX20_walks_28
def fm_walks_52 (K33 : Int32 → Int32 → Int32 → Mem → Option (Int32 × Mem)) (x1 : Int32) (x2 : Int32) (x3 : Int32) (M : Mem) : Option (Int32 × Mem) :=
  K33 x1 x2 (x3 + 1) M
set_option maxHeartbeats 4000000 in
theorem bm_walks_52 {g : gM} {X : Cxt} {r : Int32} {M' : Mem} (O : OkM g X cX20_walks 10 (some .boolean) 2 (mQi g r M')) {K33 : Int32 → Int32 → Int32 → Mem → Option (Int32 × Mem)} (hK33 : ∀ (x1 : Int32) (x2 : Int32) (x3 : Int32) (M : Mem), K33 x1 x2 x3 M = some (r, M') → V X 10 0 (WdM g M) 33 [(0, .ref (gMa g 0)), (1, .int x1), (2, .int x2), (3, .int x3)] []) (x1 : Int32) (x2 : Int32) (x3 : Int32) (M : Mem) (h : fm_walks_52 K33 x1 x2 x3 M = some (r, M')) : V X 10 0 (WdM g M) 52 [(0, .ref (gMa g 0)), (1, .int x1), (2, .int x2), (3, .int x3)] [] := by
  unfold fm_walks_52 at h
  refine v_iinc (lv' := [(3, .int (x3 + 1)), (0, .ref (gMa g 0)), (1, .int x1), (2, .int x2)]) (v := (x3 + 1)) O.1 dX20_walks_52 rfl rfl (by decide) rfl (q := 55) rfl ?_
  refine v_goto O.1 dX20_walks_55 (t := 33) (by decide) ?_
  exact v_sub [1, 2, 3, 0] rfl (hK33 x1 x2 (x3 + 1) M h)
def fm_walks_322 (K70 : Int32 → Int32 → Int32 → Mem → Option (Int32 × Mem)) (x2 : Int32) (x3 : Int32) (x4 : Int32) (M : Mem) : Option (Int32 × Mem) :=
  K70 x2 x3 (x4 + 1) M
set_option maxHeartbeats 4000000 in
theorem bm_walks_322 {g : gM} {X : Cxt} {r : Int32} {M' : Mem} (O : OkM g X cX20_walks 10 (some .boolean) 2 (mQi g r M')) {K70 : Int32 → Int32 → Int32 → Mem → Option (Int32 × Mem)} (hK70 : ∀ (x2 : Int32) (x3 : Int32) (x4 : Int32) (M : Mem), K70 x2 x3 x4 M = some (r, M') → V X 10 0 (WdM g M) 70 [(0, .ref (gMa g 0)), (2, .int x2), (3, .int x3), (4, .int x4)] []) (x2 : Int32) (x3 : Int32) (x4 : Int32) (M : Mem) (h : fm_walks_322 K70 x2 x3 x4 M = some (r, M')) : V X 10 0 (WdM g M) 322 [(0, .ref (gMa g 0)), (2, .int x2), (3, .int x3), (4, .int x4)] [] := by
  unfold fm_walks_322 at h
  refine v_iinc (lv' := [(4, .int (x4 + 1)), (0, .ref (gMa g 0)), (2, .int x2), (3, .int x3)]) (v := (x4 + 1)) O.1 dX20_walks_322 rfl rfl (by decide) rfl (q := 325) rfl ?_
  refine v_goto O.1 dX20_walks_325 (t := 70) (by decide) ?_
  exact v_sub [1, 2, 3, 0] rfl (hK70 x2 x3 (x4 + 1) M h)
def fm_walks_316 (K70 : Int32 → Int32 → Int32 → Mem → Option (Int32 × Mem)) (K200 : Int32 → Int32 → Int32 → Int32 → Int32 → Int32 → Int32 → Mem → Option (Int32 × Mem)) (x2 : Int32) (x3 : Int32) (x4 : Int32) (x5 : Int32) (x6 : Int32) (x7 : Int32) (x8 : Int32) (M : Mem) : Option (Int32 × Mem) :=
  K200 x2 x3 x4 x5 x6 x7 (x8 + 1) M
set_option maxHeartbeats 4000000 in
theorem bm_walks_316 {g : gM} {X : Cxt} {r : Int32} {M' : Mem} (O : OkM g X cX20_walks 10 (some .boolean) 2 (mQi g r M')) {K70 : Int32 → Int32 → Int32 → Mem → Option (Int32 × Mem)} {K200 : Int32 → Int32 → Int32 → Int32 → Int32 → Int32 → Int32 → Mem → Option (Int32 × Mem)} (hK70 : ∀ (x2 : Int32) (x3 : Int32) (x4 : Int32) (M : Mem), K70 x2 x3 x4 M = some (r, M') → V X 10 0 (WdM g M) 70 [(0, .ref (gMa g 0)), (2, .int x2), (3, .int x3), (4, .int x4)] []) (hK200 : ∀ (x2 : Int32) (x3 : Int32) (x4 : Int32) (x5 : Int32) (x6 : Int32) (x7 : Int32) (x8 : Int32) (M : Mem), K200 x2 x3 x4 x5 x6 x7 x8 M = some (r, M') → V X 10 0 (WdM g M) 200 [(0, .ref (gMa g 0)), (2, .int x2), (3, .int x3), (4, .int x4), (5, .int x5), (6, .int x6), (7, .int x7), (8, .int x8)] []) (x2 : Int32) (x3 : Int32) (x4 : Int32) (x5 : Int32) (x6 : Int32) (x7 : Int32) (x8 : Int32) (M : Mem) (h : fm_walks_316 K70 K200 x2 x3 x4 x5 x6 x7 x8 M = some (r, M')) : V X 10 0 (WdM g M) 316 [(0, .ref (gMa g 0)), (2, .int x2), (3, .int x3), (4, .int x4), (5, .int x5), (6, .int x6), (7, .int x7), (8, .int x8)] [] := by
  unfold fm_walks_316 at h
  refine v_iinc (lv' := [(8, .int (x8 + 1)), (0, .ref (gMa g 0)), (2, .int x2), (3, .int x3), (4, .int x4), (5, .int x5), (6, .int x6), (7, .int x7)]) (v := (x8 + 1)) O.1 dX20_walks_316 rfl rfl (by decide) rfl (q := 319) rfl ?_
  refine v_goto O.1 dX20_walks_319 (t := 200) (by decide) ?_
  exact v_sub [1, 2, 3, 4, 5, 6, 7, 0] rfl (hK200 x2 x3 x4 x5 x6 x7 (x8 + 1) M h)
def fm_walks_281 (K70 : Int32 → Int32 → Int32 → Mem → Option (Int32 × Mem)) (K200 : Int32 → Int32 → Int32 → Int32 → Int32 → Int32 → Int32 → Mem → Option (Int32 × Mem)) (x2 : Int32) (x3 : Int32) (x4 : Int32) (x5 : Int32) (x6 : Int32) (x7 : Int32) (x8 : Int32) (x9 : Int32) (M : Mem) : Option (Int32 × Mem) :=
  gd (inb x9 512) <|
  gd (inb x9 512) <|
  stp (up2 M 14 x9.toNatClampNeg ((M 14 x9.toNatClampNeg) - 1)) fun M3 =>
  gd (inb x9 512) <|
  if (M3 14 x9.toNatClampNeg) ≤ 0 then
    gd (inb x3 512) <|
    stp (up2 M3 17 x3.toNatClampNeg x9) fun M7 =>
    fm_walks_316 K70 K200 x2 (x3 + 1) x4 x5 x6 x7 x8 M7
  else
    fm_walks_316 K70 K200 x2 x3 x4 x5 x6 x7 x8 M3
set_option maxHeartbeats 4000000 in
theorem bm_walks_281 {g : gM} {X : Cxt} {r : Int32} {M' : Mem} (O : OkM g X cX20_walks 10 (some .boolean) 2 (mQi g r M')) {K70 : Int32 → Int32 → Int32 → Mem → Option (Int32 × Mem)} {K200 : Int32 → Int32 → Int32 → Int32 → Int32 → Int32 → Int32 → Mem → Option (Int32 × Mem)} (hK70 : ∀ (x2 : Int32) (x3 : Int32) (x4 : Int32) (M : Mem), K70 x2 x3 x4 M = some (r, M') → V X 10 0 (WdM g M) 70 [(0, .ref (gMa g 0)), (2, .int x2), (3, .int x3), (4, .int x4)] []) (hK200 : ∀ (x2 : Int32) (x3 : Int32) (x4 : Int32) (x5 : Int32) (x6 : Int32) (x7 : Int32) (x8 : Int32) (M : Mem), K200 x2 x3 x4 x5 x6 x7 x8 M = some (r, M') → V X 10 0 (WdM g M) 200 [(0, .ref (gMa g 0)), (2, .int x2), (3, .int x3), (4, .int x4), (5, .int x5), (6, .int x6), (7, .int x7), (8, .int x8)] []) (x2 : Int32) (x3 : Int32) (x4 : Int32) (x5 : Int32) (x6 : Int32) (x7 : Int32) (x8 : Int32) (x9 : Int32) (M : Mem) (h : fm_walks_281 K70 K200 x2 x3 x4 x5 x6 x7 x8 x9 M = some (r, M')) : V X 10 0 (WdM g M) 281 [(0, .ref (gMa g 0)), (2, .int x2), (3, .int x3), (4, .int x4), (5, .int x5), (6, .int x6), (7, .int x7), (8, .int x8), (9, .int x9)] [] := by
  unfold fm_walks_281 at h
  refine v_aload_n O.1 dX20_walks_281 rfl (q := 282) rfl ?_
  refine m_get O 19 (v := .ref (gMa g 14)) (by decide) q1751 rfl rfl dX20_walks_282 (q := 285) rfl ?_
  refine v_iload O.1 dX20_walks_285 rfl (q := 287) rfl ?_
  refine v_dup2 O.1 dX20_walks_287 rfl rfl (q := 288) rfl ?_
  obtain ⟨g1, h⟩ := gd_some h
  refine m_iald O rfl rfl (n := 512) g1 rfl (j := x9.toNatClampNeg) dX20_walks_288 (q := 289) rfl ?_
  refine v_iconst O.1 dX20_walks_289 (v := 1) rfl (q := 290) rfl ?_
  refine v_isub O.1 dX20_walks_290 (q := 291) rfl ?_
  obtain ⟨g2, h⟩ := gd_some h
  obtain ⟨M3, e3, h⟩ := stp_some h
  refine m_iast O rfl rfl (n := 512) g2 rfl (j := x9.toNatClampNeg) dX20_walks_291 (q := 292) rfl e3 ?_
  refine v_aload_n O.1 dX20_walks_292 rfl (q := 293) rfl ?_
  refine m_get O 19 (v := .ref (gMa g 14)) (by decide) q1751 rfl rfl dX20_walks_293 (q := 296) rfl ?_
  refine v_iload O.1 dX20_walks_296 rfl (q := 298) rfl ?_
  obtain ⟨g4, h⟩ := gd_some h
  refine m_iald O rfl rfl (n := 512) g4 rfl (j := x9.toNatClampNeg) dX20_walks_298 (q := 299) rfl ?_
  refine v_if_le O.1 dX20_walks_299 (t := 305) (by decide) (q := 302) rfl (fun c5 => ?_) (fun c5 => ?_)
  · rw [if_pos c5] at h
    refine v_aload_n O.1 dX20_walks_305 rfl (q := 306) rfl ?_
    refine m_get O 22 (v := .ref (gMa g 17)) (by decide) q1754 rfl rfl dX20_walks_306 (q := 309) rfl ?_
    refine v_iload_n O.1 dX20_walks_309 rfl (q := 310) rfl ?_
    refine v_iload O.1 dX20_walks_310 rfl (q := 312) rfl ?_
    obtain ⟨g6, h⟩ := gd_some h
    obtain ⟨M7, e7, h⟩ := stp_some h
    refine m_iast O rfl rfl (n := 512) g6 rfl (j := x3.toNatClampNeg) dX20_walks_312 (q := 313) rfl e7 ?_
    refine v_iinc (lv' := [(3, .int (x3 + 1)), (0, .ref (gMa g 0)), (2, .int x2), (4, .int x4), (5, .int x5), (6, .int x6), (7, .int x7), (8, .int x8), (9, .int x9)]) (v := (x3 + 1)) O.1 dX20_walks_313 rfl rfl (by decide) rfl (q := 316) rfl ?_
    exact v_sub [1, 2, 0, 3, 4, 5, 6, 7] rfl (bm_walks_316 O hK70 hK200 x2 (x3 + 1) x4 x5 x6 x7 x8 M7 h)
  · rw [if_neg c5] at h
    refine v_goto O.1 dX20_walks_302 (t := 316) (by decide) ?_
    exact v_sub [0, 1, 2, 3, 4, 5, 6, 7] rfl (bm_walks_316 O hK70 hK200 x2 x3 x4 x5 x6 x7 x8 M3 h)
def fm_walks_260 (K70 : Int32 → Int32 → Int32 → Mem → Option (Int32 × Mem)) (K200 : Int32 → Int32 → Int32 → Int32 → Int32 → Int32 → Int32 → Mem → Option (Int32 × Mem)) (x2 : Int32) (x3 : Int32) (x4 : Int32) (x5 : Int32) (x6 : Int32) (x7 : Int32) (x8 : Int32) (x9 : Int32) (M : Mem) : Option (Int32 × Mem) :=
  gd (inb x9 512) <|
  if x6 ≤ (M 15 x9.toNatClampNeg) then
    fm_walks_281 K70 K200 x2 x3 x4 x5 x6 x7 x8 x9 M
  else
    gd (inb x9 512) <|
    stp (up2 M 15 x9.toNatClampNeg x6) fun M4 =>
    fm_walks_281 K70 K200 x2 x3 x4 x5 x6 x7 x8 x9 M4
set_option maxHeartbeats 4000000 in
theorem bm_walks_260 {g : gM} {X : Cxt} {r : Int32} {M' : Mem} (O : OkM g X cX20_walks 10 (some .boolean) 2 (mQi g r M')) {K70 : Int32 → Int32 → Int32 → Mem → Option (Int32 × Mem)} {K200 : Int32 → Int32 → Int32 → Int32 → Int32 → Int32 → Int32 → Mem → Option (Int32 × Mem)} (hK70 : ∀ (x2 : Int32) (x3 : Int32) (x4 : Int32) (M : Mem), K70 x2 x3 x4 M = some (r, M') → V X 10 0 (WdM g M) 70 [(0, .ref (gMa g 0)), (2, .int x2), (3, .int x3), (4, .int x4)] []) (hK200 : ∀ (x2 : Int32) (x3 : Int32) (x4 : Int32) (x5 : Int32) (x6 : Int32) (x7 : Int32) (x8 : Int32) (M : Mem), K200 x2 x3 x4 x5 x6 x7 x8 M = some (r, M') → V X 10 0 (WdM g M) 200 [(0, .ref (gMa g 0)), (2, .int x2), (3, .int x3), (4, .int x4), (5, .int x5), (6, .int x6), (7, .int x7), (8, .int x8)] []) (x2 : Int32) (x3 : Int32) (x4 : Int32) (x5 : Int32) (x6 : Int32) (x7 : Int32) (x8 : Int32) (x9 : Int32) (M : Mem) (h : fm_walks_260 K70 K200 x2 x3 x4 x5 x6 x7 x8 x9 M = some (r, M')) : V X 10 0 (WdM g M) 260 [(0, .ref (gMa g 0)), (2, .int x2), (3, .int x3), (4, .int x4), (5, .int x5), (6, .int x6), (7, .int x7), (8, .int x8), (9, .int x9)] [] := by
  unfold fm_walks_260 at h
  refine v_iload O.1 dX20_walks_260 rfl (q := 262) rfl ?_
  refine v_aload_n O.1 dX20_walks_262 rfl (q := 263) rfl ?_
  refine m_get O 20 (v := .ref (gMa g 15)) (by decide) q1752 rfl rfl dX20_walks_263 (q := 266) rfl ?_
  refine v_iload O.1 dX20_walks_266 rfl (q := 268) rfl ?_
  obtain ⟨g1, h⟩ := gd_some h
  refine m_iald O rfl rfl (n := 512) g1 rfl (j := x9.toNatClampNeg) dX20_walks_268 (q := 269) rfl ?_
  refine v_icmp_le O.1 dX20_walks_269 (t := 281) (by decide) (q := 272) rfl (fun c2 => ?_) (fun c2 => ?_)
  · rw [if_pos c2] at h
    exact v_sub [0, 1, 2, 3, 4, 5, 6, 7, 8] rfl (bm_walks_281 O hK70 hK200 x2 x3 x4 x5 x6 x7 x8 x9 M h)
  · rw [if_neg c2] at h
    refine v_aload_n O.1 dX20_walks_272 rfl (q := 273) rfl ?_
    refine m_get O 20 (v := .ref (gMa g 15)) (by decide) q1752 rfl rfl dX20_walks_273 (q := 276) rfl ?_
    refine v_iload O.1 dX20_walks_276 rfl (q := 278) rfl ?_
    refine v_iload O.1 dX20_walks_278 rfl (q := 280) rfl ?_
    obtain ⟨g3, h⟩ := gd_some h
    obtain ⟨M4, e4, h⟩ := stp_some h
    refine m_iast O rfl rfl (n := 512) g3 rfl (j := x9.toNatClampNeg) dX20_walks_280 (q := 281) rfl e4 ?_
    exact v_sub [0, 1, 2, 3, 4, 5, 6, 7, 8] rfl (bm_walks_281 O hK70 hK200 x2 x3 x4 x5 x6 x7 x8 x9 M4 h)
def fm_walks_251 (K70 : Int32 → Int32 → Int32 → Mem → Option (Int32 × Mem)) (K200 : Int32 → Int32 → Int32 → Int32 → Int32 → Int32 → Int32 → Mem → Option (Int32 × Mem)) (x2 : Int32) (x3 : Int32) (x4 : Int32) (x5 : Int32) (x6 : Int32) (x7 : Int32) (x8 : Int32) (x9 : Int32) (M : Mem) : Option (Int32 × Mem) :=
  gd (inb x9 512) <|
  stp (up2 M 16 x9.toNatClampNeg x7) fun M2 =>
  fm_walks_260 K70 K200 x2 x3 x4 x5 x6 x7 x8 x9 M2
set_option maxHeartbeats 4000000 in
theorem bm_walks_251 {g : gM} {X : Cxt} {r : Int32} {M' : Mem} (O : OkM g X cX20_walks 10 (some .boolean) 2 (mQi g r M')) {K70 : Int32 → Int32 → Int32 → Mem → Option (Int32 × Mem)} {K200 : Int32 → Int32 → Int32 → Int32 → Int32 → Int32 → Int32 → Mem → Option (Int32 × Mem)} (hK70 : ∀ (x2 : Int32) (x3 : Int32) (x4 : Int32) (M : Mem), K70 x2 x3 x4 M = some (r, M') → V X 10 0 (WdM g M) 70 [(0, .ref (gMa g 0)), (2, .int x2), (3, .int x3), (4, .int x4)] []) (hK200 : ∀ (x2 : Int32) (x3 : Int32) (x4 : Int32) (x5 : Int32) (x6 : Int32) (x7 : Int32) (x8 : Int32) (M : Mem), K200 x2 x3 x4 x5 x6 x7 x8 M = some (r, M') → V X 10 0 (WdM g M) 200 [(0, .ref (gMa g 0)), (2, .int x2), (3, .int x3), (4, .int x4), (5, .int x5), (6, .int x6), (7, .int x7), (8, .int x8)] []) (x2 : Int32) (x3 : Int32) (x4 : Int32) (x5 : Int32) (x6 : Int32) (x7 : Int32) (x8 : Int32) (x9 : Int32) (M : Mem) (h : fm_walks_251 K70 K200 x2 x3 x4 x5 x6 x7 x8 x9 M = some (r, M')) : V X 10 0 (WdM g M) 251 [(0, .ref (gMa g 0)), (2, .int x2), (3, .int x3), (4, .int x4), (5, .int x5), (6, .int x6), (7, .int x7), (8, .int x8), (9, .int x9)] [] := by
  unfold fm_walks_251 at h
  refine v_aload_n O.1 dX20_walks_251 rfl (q := 252) rfl ?_
  refine m_get O 21 (v := .ref (gMa g 16)) (by decide) q1753 rfl rfl dX20_walks_252 (q := 255) rfl ?_
  refine v_iload O.1 dX20_walks_255 rfl (q := 257) rfl ?_
  refine v_iload O.1 dX20_walks_257 rfl (q := 259) rfl ?_
  obtain ⟨g1, h⟩ := gd_some h
  obtain ⟨M2, e2, h⟩ := stp_some h
  refine m_iast O rfl rfl (n := 512) g1 rfl (j := x9.toNatClampNeg) dX20_walks_259 (q := 260) rfl e2 ?_
  exact v_sub [0, 1, 2, 3, 4, 5, 6, 7, 8] rfl (bm_walks_260 O hK70 hK200 x2 x3 x4 x5 x6 x7 x8 x9 M2 h)
def fm_walks_216 (K70 : Int32 → Int32 → Int32 → Mem → Option (Int32 × Mem)) (K200 : Int32 → Int32 → Int32 → Int32 → Int32 → Int32 → Int32 → Mem → Option (Int32 × Mem)) (x2 : Int32) (x3 : Int32) (x4 : Int32) (x5 : Int32) (x6 : Int32) (x7 : Int32) (x8 : Int32) (y1 : Int32) (y0 : Int32) (M : Mem) : Option (Int32 × Mem) :=
  if y1 ≤ y0 then
    fm_walks_322 K70 x2 x3 x4 M
  else
    bnd (fm_goesTo x5 x8 M) fun r2 M2 =>
    gd (inb r2 512) <|
    if (M2 15 r2.toNatClampNeg) = 0 then
      fm_walks_251 K70 K200 x2 x3 x4 x5 x6 x7 x8 r2 M2
    else
      gd (inb r2 512) <|
      if x7 ≤ (M2 16 r2.toNatClampNeg) then
        fm_walks_260 K70 K200 x2 x3 x4 x5 x6 x7 x8 r2 M2
      else
        fm_walks_251 K70 K200 x2 x3 x4 x5 x6 x7 x8 r2 M2
set_option maxHeartbeats 4000000 in
theorem bm_walks_216 {g : gM} {X : Cxt} {r : Int32} {M' : Mem} (O : OkM g X cX20_walks 10 (some .boolean) 2 (mQi g r M')) {K70 : Int32 → Int32 → Int32 → Mem → Option (Int32 × Mem)} {K200 : Int32 → Int32 → Int32 → Int32 → Int32 → Int32 → Int32 → Mem → Option (Int32 × Mem)} (hK70 : ∀ (x2 : Int32) (x3 : Int32) (x4 : Int32) (M : Mem), K70 x2 x3 x4 M = some (r, M') → V X 10 0 (WdM g M) 70 [(0, .ref (gMa g 0)), (2, .int x2), (3, .int x3), (4, .int x4)] []) (hK200 : ∀ (x2 : Int32) (x3 : Int32) (x4 : Int32) (x5 : Int32) (x6 : Int32) (x7 : Int32) (x8 : Int32) (M : Mem), K200 x2 x3 x4 x5 x6 x7 x8 M = some (r, M') → V X 10 0 (WdM g M) 200 [(0, .ref (gMa g 0)), (2, .int x2), (3, .int x3), (4, .int x4), (5, .int x5), (6, .int x6), (7, .int x7), (8, .int x8)] []) (x2 : Int32) (x3 : Int32) (x4 : Int32) (x5 : Int32) (x6 : Int32) (x7 : Int32) (x8 : Int32) (y1 : Int32) (y0 : Int32) (M : Mem) (h : fm_walks_216 K70 K200 x2 x3 x4 x5 x6 x7 x8 y1 y0 M = some (r, M')) : V X 10 0 (WdM g M) 216 [(0, .ref (gMa g 0)), (2, .int x2), (3, .int x3), (4, .int x4), (5, .int x5), (6, .int x6), (7, .int x7), (8, .int x8)] [.int y1, .int y0] := by
  unfold fm_walks_216 at h
  refine v_icmp_ge O.1 dX20_walks_216 (t := 322) (by decide) (q := 219) rfl (fun c1 => ?_) (fun c1 => ?_)
  · rw [if_pos c1] at h
    exact v_sub [0, 1, 2, 3] rfl (bm_walks_322 O hK70 x2 x3 x4 M h)
  · rw [if_neg c1] at h
    refine v_aload_n O.1 dX20_walks_219 rfl (q := 220) rfl ?_
    refine v_iload O.1 dX20_walks_220 rfl (q := 222) rfl ?_
    refine v_iload O.1 dX20_walks_222 rfl (q := 224) rfl ?_
    obtain ⟨r2, M2, e2, h⟩ := bnd_some h
    refine m_callVi (As := [.int x5, .int x8]) (rest := []) (n := 2) O (met_goesTo _ g x5 x8 M M2 r2 e2) (lw_V q2146 q2148 qs57 q84 q2149) (by decide +kernel) (by decide) (by decide) rfl rfl (Nat.le_of_ble_eq_true rfl) dX20_walks_224 (q := 227) rfl ?_
    refine v_istore (lv' := [(9, .int r2), (0, .ref (gMa g 0)), (2, .int x2), (3, .int x3), (4, .int x4), (5, .int x5), (6, .int x6), (7, .int x7), (8, .int x8)]) O.1 dX20_walks_227 (by decide) rfl (q := 229) rfl ?_
    refine v_aload_n O.1 dX20_walks_229 rfl (q := 230) rfl ?_
    refine m_get O 20 (v := .ref (gMa g 15)) (by decide) q1752 rfl rfl dX20_walks_230 (q := 233) rfl ?_
    refine v_iload O.1 dX20_walks_233 rfl (q := 235) rfl ?_
    obtain ⟨g3, h⟩ := gd_some h
    refine m_iald O rfl rfl (n := 512) g3 rfl (j := r2.toNatClampNeg) dX20_walks_235 (q := 236) rfl ?_
    refine v_if_eq O.1 dX20_walks_236 (t := 251) (by decide) (q := 239) rfl (fun c4 => ?_) (fun c4 => ?_)
    · rw [if_pos c4] at h
      exact v_sub [1, 2, 3, 4, 5, 6, 7, 8, 0] rfl (bm_walks_251 O hK70 hK200 x2 x3 x4 x5 x6 x7 x8 r2 M2 h)
    · rw [if_neg c4] at h
      refine v_iload O.1 dX20_walks_239 rfl (q := 241) rfl ?_
      refine v_aload_n O.1 dX20_walks_241 rfl (q := 242) rfl ?_
      refine m_get O 21 (v := .ref (gMa g 16)) (by decide) q1753 rfl rfl dX20_walks_242 (q := 245) rfl ?_
      refine v_iload O.1 dX20_walks_245 rfl (q := 247) rfl ?_
      obtain ⟨g5, h⟩ := gd_some h
      refine m_iald O rfl rfl (n := 512) g5 rfl (j := r2.toNatClampNeg) dX20_walks_247 (q := 248) rfl ?_
      refine v_icmp_le O.1 dX20_walks_248 (t := 260) (by decide) (q := 251) rfl (fun c6 => ?_) (fun c6 => ?_)
      · rw [if_pos c6] at h
        exact v_sub [1, 2, 3, 4, 5, 6, 7, 8, 0] rfl (bm_walks_260 O hK70 hK200 x2 x3 x4 x5 x6 x7 x8 r2 M2 h)
      · rw [if_neg c6] at h
        exact v_sub [1, 2, 3, 4, 5, 6, 7, 8, 0] rfl (bm_walks_251 O hK70 hK200 x2 x3 x4 x5 x6 x7 x8 r2 M2 h)
def fm_walks_200b (K70 : Int32 → Int32 → Int32 → Mem → Option (Int32 × Mem)) (K200 : Int32 → Int32 → Int32 → Int32 → Int32 → Int32 → Int32 → Mem → Option (Int32 × Mem)) (x2 : Int32) (x3 : Int32) (x4 : Int32) (x5 : Int32) (x6 : Int32) (x7 : Int32) (x8 : Int32) (M : Mem) : Option (Int32 × Mem) :=
  bnd (fm_branches x5 M) fun r1 M1 =>
  if r1 = 0 then
    fm_walks_216 K70 K200 x2 x3 x4 x5 x6 x7 x8 1 x8 M1
  else
    fm_walks_216 K70 K200 x2 x3 x4 x5 x6 x7 x8 2 x8 M1
set_option maxHeartbeats 4000000 in
theorem bm_walks_200b {g : gM} {X : Cxt} {r : Int32} {M' : Mem} (O : OkM g X cX20_walks 10 (some .boolean) 2 (mQi g r M')) {K70 : Int32 → Int32 → Int32 → Mem → Option (Int32 × Mem)} (hK70 : ∀ (x2 : Int32) (x3 : Int32) (x4 : Int32) (M : Mem), K70 x2 x3 x4 M = some (r, M') → V X 10 0 (WdM g M) 70 [(0, .ref (gMa g 0)), (2, .int x2), (3, .int x3), (4, .int x4)] []) {K200 : Int32 → Int32 → Int32 → Int32 → Int32 → Int32 → Int32 → Mem → Option (Int32 × Mem)} (hK200 : ∀ (x2 : Int32) (x3 : Int32) (x4 : Int32) (x5 : Int32) (x6 : Int32) (x7 : Int32) (x8 : Int32) (M : Mem), K200 x2 x3 x4 x5 x6 x7 x8 M = some (r, M') → V X 10 0 (WdM g M) 200 [(0, .ref (gMa g 0)), (2, .int x2), (3, .int x3), (4, .int x4), (5, .int x5), (6, .int x6), (7, .int x7), (8, .int x8)] []) (x2 : Int32) (x3 : Int32) (x4 : Int32) (x5 : Int32) (x6 : Int32) (x7 : Int32) (x8 : Int32) (M : Mem) (h : fm_walks_200b K70 K200 x2 x3 x4 x5 x6 x7 x8 M = some (r, M')) : V X 10 0 (WdM g M) 200 [(0, .ref (gMa g 0)), (2, .int x2), (3, .int x3), (4, .int x4), (5, .int x5), (6, .int x6), (7, .int x7), (8, .int x8)] [] := by
  unfold fm_walks_200b at h
  refine v_iload O.1 dX20_walks_200 rfl (q := 202) rfl ?_
  refine v_aload_n O.1 dX20_walks_202 rfl (q := 203) rfl ?_
  refine v_iload O.1 dX20_walks_203 rfl (q := 205) rfl ?_
  obtain ⟨r1, M1, e1, h⟩ := bnd_some h
  refine m_callVi (As := [.int x5]) (rest := [.int x8]) (n := 1) O (met_branches _ g x5 M M1 r1 e1) (lw_V q2142 q2144 qs56 q84 q2145) (by decide +kernel) (by decide) (by decide) rfl rfl (Nat.le_of_ble_eq_true rfl) dX20_walks_205 (q := 208) rfl ?_
  refine v_if_eq O.1 dX20_walks_208 (t := 215) (by decide) (q := 211) rfl (fun c2 => ?_) (fun c2 => ?_)
  · rw [if_pos c2] at h
    refine v_iconst O.1 dX20_walks_215 (v := 1) rfl (q := 216) rfl ?_
    exact v_sub [0, 1, 2, 3, 4, 5, 6, 7] rfl (bm_walks_216 O hK70 hK200 x2 x3 x4 x5 x6 x7 x8 1 x8 M1 h)
  · rw [if_neg c2] at h
    refine v_iconst O.1 dX20_walks_211 (v := 2) rfl (q := 212) rfl ?_
    refine v_goto O.1 dX20_walks_212 (t := 216) (by decide) ?_
    exact v_sub [0, 1, 2, 3, 4, 5, 6, 7] rfl (bm_walks_216 O hK70 hK200 x2 x3 x4 x5 x6 x7 x8 2 x8 M1 h)
def fm_walks_200 (K70 : Int32 → Int32 → Int32 → Mem → Option (Int32 × Mem)) (n : Nat) : Int32 → Int32 → Int32 → Int32 → Int32 → Int32 → Int32 → Mem → Option (Int32 × Mem) := lpc (fm_walks_200b K70) (fun _ _ _ _ _ _ _ _ => none) n
theorem bm_walks_200 {g : gM} {X : Cxt} {r : Int32} {M' : Mem} (O : OkM g X cX20_walks 10 (some .boolean) 2 (mQi g r M')) {K70 : Int32 → Int32 → Int32 → Mem → Option (Int32 × Mem)} (hK70 : ∀ (x2 : Int32) (x3 : Int32) (x4 : Int32) (M : Mem), K70 x2 x3 x4 M = some (r, M') → V X 10 0 (WdM g M) 70 [(0, .ref (gMa g 0)), (2, .int x2), (3, .int x3), (4, .int x4)] []) : ∀ (n : Nat) (x2 : Int32) (x3 : Int32) (x4 : Int32) (x5 : Int32) (x6 : Int32) (x7 : Int32) (x8 : Int32) (M : Mem), fm_walks_200 K70 n x2 x3 x4 x5 x6 x7 x8 M = some (r, M') → V X 10 0 (WdM g M) 200 [(0, .ref (gMa g 0)), (2, .int x2), (3, .int x3), (4, .int x4), (5, .int x5), (6, .int x6), (7, .int x7), (8, .int x8)] [] := by
  intro n
  induction n with
  | zero =>
    intro x2 x3 x4 x5 x6 x7 x8 M h
    cases h
  | succ n ih =>
    intro x2 x3 x4 x5 x6 x7 x8 M h
    exact bm_walks_200b O hK70 ih x2 x3 x4 x5 x6 x7 x8 M h
def fm_walks_179 (K70 : Int32 → Int32 → Int32 → Mem → Option (Int32 × Mem)) (x2 : Int32) (x3 : Int32) (x4 : Int32) (x5 : Int32) (x6 : Int32) (x7 : Int32) (M : Mem) : Option (Int32 × Mem) :=
  gd (inb x5 512) <|
  if (M 1 x5.toNatClampNeg) = 18 then
    fm_walks_322 K70 (x2 + (-1)) x3 x4 M
  else
    fm_walks_200 K70 600 (x2 + (-1)) x3 x4 x5 x6 x7 0 M
set_option maxHeartbeats 4000000 in
theorem bm_walks_179 {g : gM} {X : Cxt} {r : Int32} {M' : Mem} (O : OkM g X cX20_walks 10 (some .boolean) 2 (mQi g r M')) {K70 : Int32 → Int32 → Int32 → Mem → Option (Int32 × Mem)} (hK70 : ∀ (x2 : Int32) (x3 : Int32) (x4 : Int32) (M : Mem), K70 x2 x3 x4 M = some (r, M') → V X 10 0 (WdM g M) 70 [(0, .ref (gMa g 0)), (2, .int x2), (3, .int x3), (4, .int x4)] []) (x2 : Int32) (x3 : Int32) (x4 : Int32) (x5 : Int32) (x6 : Int32) (x7 : Int32) (M : Mem) (h : fm_walks_179 K70 x2 x3 x4 x5 x6 x7 M = some (r, M')) : V X 10 0 (WdM g M) 179 [(0, .ref (gMa g 0)), (2, .int x2), (3, .int x3), (4, .int x4), (5, .int x5), (6, .int x6), (7, .int x7)] [] := by
  unfold fm_walks_179 at h
  refine v_iinc (lv' := [(2, .int (x2 + (-1))), (0, .ref (gMa g 0)), (3, .int x3), (4, .int x4), (5, .int x5), (6, .int x6), (7, .int x7)]) (v := (x2 + (-1))) O.1 dX20_walks_179 rfl rfl (by decide) rfl (q := 182) rfl ?_
  refine v_aload_n O.1 dX20_walks_182 rfl (q := 183) rfl ?_
  refine m_get O 0 (v := .ref (gMa g 1)) (by decide) q1732 rfl rfl dX20_walks_183 (q := 186) rfl ?_
  refine v_iload O.1 dX20_walks_186 rfl (q := 188) rfl ?_
  obtain ⟨g1, h⟩ := gd_some h
  refine m_iald O rfl rfl (n := 512) g1 rfl (j := x5.toNatClampNeg) dX20_walks_188 (q := 189) rfl ?_
  refine v_bipush O.1 dX20_walks_189 (v := 18) (by decide) (q := 191) rfl ?_
  refine v_icmp_ne O.1 dX20_walks_191 (t := 197) (by decide) (q := 194) rfl (fun c2 => ?_) (fun c2 => ?_)
  · rw [if_neg c2] at h
    refine v_iconst O.1 dX20_walks_197 (v := 0) rfl (q := 198) rfl ?_
    refine v_istore (lv' := [(8, .int 0), (2, .int (x2 + (-1))), (0, .ref (gMa g 0)), (3, .int x3), (4, .int x4), (5, .int x5), (6, .int x6), (7, .int x7)]) O.1 dX20_walks_198 (by decide) rfl (q := 200) rfl ?_
    exact v_sub [2, 1, 3, 4, 5, 6, 7, 0] rfl (bm_walks_200 O hK70 600 (x2 + (-1)) x3 x4 x5 x6 x7 0 M h)
  · rw [if_pos c2] at h
    refine v_goto O.1 dX20_walks_194 (t := 322) (by decide) ?_
    exact v_sub [1, 0, 2, 3] rfl (bm_walks_322 O hK70 (x2 + (-1)) x3 x4 M h)
def fm_walks_164 (K70 : Int32 → Int32 → Int32 → Mem → Option (Int32 × Mem)) (x2 : Int32) (x3 : Int32) (x4 : Int32) (x5 : Int32) (x6 : Int32) (x7 : Int32) (M : Mem) : Option (Int32 × Mem) :=
  if x7 ≤ (M 0 24) then
    fm_walks_179 K70 x2 x3 x4 x5 x6 x7 M
  else
    stp (up2 M 0 24 x7) fun M2 =>
    fm_walks_179 K70 x2 x3 x4 x5 x6 x7 M2
set_option maxHeartbeats 4000000 in
theorem bm_walks_164 {g : gM} {X : Cxt} {r : Int32} {M' : Mem} (O : OkM g X cX20_walks 10 (some .boolean) 2 (mQi g r M')) {K70 : Int32 → Int32 → Int32 → Mem → Option (Int32 × Mem)} (hK70 : ∀ (x2 : Int32) (x3 : Int32) (x4 : Int32) (M : Mem), K70 x2 x3 x4 M = some (r, M') → V X 10 0 (WdM g M) 70 [(0, .ref (gMa g 0)), (2, .int x2), (3, .int x3), (4, .int x4)] []) (x2 : Int32) (x3 : Int32) (x4 : Int32) (x5 : Int32) (x6 : Int32) (x7 : Int32) (M : Mem) (h : fm_walks_164 K70 x2 x3 x4 x5 x6 x7 M = some (r, M')) : V X 10 0 (WdM g M) 164 [(0, .ref (gMa g 0)), (2, .int x2), (3, .int x3), (4, .int x4), (5, .int x5), (6, .int x6), (7, .int x7)] [] := by
  unfold fm_walks_164 at h
  refine v_iload O.1 dX20_walks_164 rfl (q := 166) rfl ?_
  refine v_aload_n O.1 dX20_walks_166 rfl (q := 167) rfl ?_
  refine m_get O 24 (v := .int (M 0 24)) (by decide) q1756 rfl rfl dX20_walks_167 (q := 170) rfl ?_
  refine v_icmp_le O.1 dX20_walks_170 (t := 179) (by decide) (q := 173) rfl (fun c1 => ?_) (fun c1 => ?_)
  · rw [if_pos c1] at h
    exact v_sub [0, 1, 2, 3, 4, 5, 6] rfl (bm_walks_179 O hK70 x2 x3 x4 x5 x6 x7 M h)
  · rw [if_neg c1] at h
    refine v_aload_n O.1 dX20_walks_173 rfl (q := 174) rfl ?_
    refine v_iload O.1 dX20_walks_174 rfl (q := 176) rfl ?_
    obtain ⟨M2, e2, h⟩ := stp_some h
    refine m_put O 24 (ty := .int) (by decide) q1756 rfl rfl rfl rfl rfl rfl dX20_walks_176 (q := 179) rfl e2 ?_
    exact v_sub [0, 1, 2, 3, 4, 5, 6] rfl (bm_walks_179 O hK70 x2 x3 x4 x5 x6 x7 M2 h)
def fm_walks_146 (K70 : Int32 → Int32 → Int32 → Mem → Option (Int32 × Mem)) (x2 : Int32) (x3 : Int32) (x4 : Int32) (x5 : Int32) (x6 : Int32) (y1 : Int32) (y0 : Int32) (M : Mem) : Option (Int32 × Mem) :=
  if x6 ≤ (M 0 23) then
    fm_walks_164 K70 x2 x3 x4 x5 x6 (y0 + y1) M
  else
    stp (up2 M 0 23 x6) fun M2 =>
    fm_walks_164 K70 x2 x3 x4 x5 x6 (y0 + y1) M2
set_option maxHeartbeats 4000000 in
theorem bm_walks_146 {g : gM} {X : Cxt} {r : Int32} {M' : Mem} (O : OkM g X cX20_walks 10 (some .boolean) 2 (mQi g r M')) {K70 : Int32 → Int32 → Int32 → Mem → Option (Int32 × Mem)} (hK70 : ∀ (x2 : Int32) (x3 : Int32) (x4 : Int32) (M : Mem), K70 x2 x3 x4 M = some (r, M') → V X 10 0 (WdM g M) 70 [(0, .ref (gMa g 0)), (2, .int x2), (3, .int x3), (4, .int x4)] []) (x2 : Int32) (x3 : Int32) (x4 : Int32) (x5 : Int32) (x6 : Int32) (y1 : Int32) (y0 : Int32) (M : Mem) (h : fm_walks_146 K70 x2 x3 x4 x5 x6 y1 y0 M = some (r, M')) : V X 10 0 (WdM g M) 146 [(0, .ref (gMa g 0)), (2, .int x2), (3, .int x3), (4, .int x4), (5, .int x5), (6, .int x6)] [.int y1, .int y0] := by
  unfold fm_walks_146 at h
  refine v_iadd O.1 dX20_walks_146 (q := 147) rfl ?_
  refine v_istore (lv' := [(7, .int (y0 + y1)), (0, .ref (gMa g 0)), (2, .int x2), (3, .int x3), (4, .int x4), (5, .int x5), (6, .int x6)]) O.1 dX20_walks_147 (by decide) rfl (q := 149) rfl ?_
  refine v_iload O.1 dX20_walks_149 rfl (q := 151) rfl ?_
  refine v_aload_n O.1 dX20_walks_151 rfl (q := 152) rfl ?_
  refine m_get O 23 (v := .int (M 0 23)) (by decide) q1755 rfl rfl dX20_walks_152 (q := 155) rfl ?_
  refine v_icmp_le O.1 dX20_walks_155 (t := 164) (by decide) (q := 158) rfl (fun c1 => ?_) (fun c1 => ?_)
  · rw [if_pos c1] at h
    exact v_sub [1, 2, 3, 4, 5, 6, 0] rfl (bm_walks_164 O hK70 x2 x3 x4 x5 x6 (y0 + y1) M h)
  · rw [if_neg c1] at h
    refine v_aload_n O.1 dX20_walks_158 rfl (q := 159) rfl ?_
    refine v_iload O.1 dX20_walks_159 rfl (q := 161) rfl ?_
    obtain ⟨M2, e2, h⟩ := stp_some h
    refine m_put O 23 (ty := .int) (by decide) q1755 rfl rfl rfl rfl rfl rfl dX20_walks_161 (q := 164) rfl e2 ?_
    exact v_sub [1, 2, 3, 4, 5, 6, 0] rfl (bm_walks_164 O hK70 x2 x3 x4 x5 x6 (y0 + y1) M2 h)
def fm_walks_337 (y0 : Int32) (M : Mem) : Option (Int32 × Mem) :=
  gd (isB y0) <|
  some (y0, M)
set_option maxHeartbeats 4000000 in
theorem bm_walks_337 {g : gM} {X : Cxt} {r : Int32} {M' : Mem} (O : OkM g X cX20_walks 10 (some .boolean) 2 (mQi g r M')) (y0 : Int32) (M : Mem) (h : fm_walks_337 y0 M = some (r, M')) : V X 10 0 (WdM g M) 337 [] [.int y0] := by
  unfold fm_walks_337 at h
  obtain ⟨g1, h⟩ := gd_some h
  exact m_zret O g1 h dX20_walks_337
def fm_walks_70b (K70 : Int32 → Int32 → Int32 → Mem → Option (Int32 × Mem)) (x2 : Int32) (x3 : Int32) (x4 : Int32) (M : Mem) : Option (Int32 × Mem) :=
  if x3 ≤ x4 then
    if x2 = 0 then
      fm_walks_337 1 M
    else
      fm_walks_337 0 M
  else
    gd (inb x4 512) <|
    gd (inb (M 17 x4.toNatClampNeg) 512) <|
    gd (inb (M 17 x4.toNatClampNeg) 512) <|
    gd (inb (M 1 (M 17 x4.toNatClampNeg).toNatClampNeg) 30) <|
    gd (inb (M 17 x4.toNatClampNeg) 512) <|
    gd (inb (M 17 x4.toNatClampNeg) 512) <|
    if (M 1 (M 17 x4.toNatClampNeg).toNatClampNeg) = 9 then
      fm_walks_146 K70 x2 x3 x4 (M 17 x4.toNatClampNeg) ((M 15 (M 17 x4.toNatClampNeg).toNatClampNeg) + (mTakes (M 1 (M 17 x4.toNatClampNeg).toNatClampNeg).toNatClampNeg)) 1 (M 16 (M 17 x4.toNatClampNeg).toNatClampNeg) M
    else
      gd (inb (M 17 x4.toNatClampNeg) 512) <|
      if (M 1 (M 17 x4.toNatClampNeg).toNatClampNeg) = 10 then
        fm_walks_146 K70 x2 x3 x4 (M 17 x4.toNatClampNeg) ((M 15 (M 17 x4.toNatClampNeg).toNatClampNeg) + (mTakes (M 1 (M 17 x4.toNatClampNeg).toNatClampNeg).toNatClampNeg)) (-1) (M 16 (M 17 x4.toNatClampNeg).toNatClampNeg) M
      else
        fm_walks_146 K70 x2 x3 x4 (M 17 x4.toNatClampNeg) ((M 15 (M 17 x4.toNatClampNeg).toNatClampNeg) + (mTakes (M 1 (M 17 x4.toNatClampNeg).toNatClampNeg).toNatClampNeg)) 0 (M 16 (M 17 x4.toNatClampNeg).toNatClampNeg) M
set_option maxHeartbeats 4000000 in
theorem bm_walks_70b {g : gM} {X : Cxt} {r : Int32} {M' : Mem} (O : OkM g X cX20_walks 10 (some .boolean) 2 (mQi g r M')) {K70 : Int32 → Int32 → Int32 → Mem → Option (Int32 × Mem)} (hK70 : ∀ (x2 : Int32) (x3 : Int32) (x4 : Int32) (M : Mem), K70 x2 x3 x4 M = some (r, M') → V X 10 0 (WdM g M) 70 [(0, .ref (gMa g 0)), (2, .int x2), (3, .int x3), (4, .int x4)] []) (x2 : Int32) (x3 : Int32) (x4 : Int32) (M : Mem) (h : fm_walks_70b K70 x2 x3 x4 M = some (r, M')) : V X 10 0 (WdM g M) 70 [(0, .ref (gMa g 0)), (2, .int x2), (3, .int x3), (4, .int x4)] [] := by
  unfold fm_walks_70b at h
  refine v_iload O.1 dX20_walks_70 rfl (q := 72) rfl ?_
  refine v_iload_n O.1 dX20_walks_72 rfl (q := 73) rfl ?_
  refine v_icmp_ge O.1 dX20_walks_73 (t := 328) (by decide) (q := 76) rfl (fun c1 => ?_) (fun c1 => ?_)
  · rw [if_pos c1] at h
    refine v_iload_n O.1 dX20_walks_328 rfl (q := 329) rfl ?_
    refine v_if_ne O.1 dX20_walks_329 (t := 336) (by decide) (q := 332) rfl (fun c2 => ?_) (fun c2 => ?_)
    · rw [if_neg c2] at h
      refine v_iconst O.1 dX20_walks_336 (v := 0) rfl (q := 337) rfl ?_
      exact v_sub [] rfl (bm_walks_337 O 0 M h)
    · rw [if_pos c2] at h
      refine v_iconst O.1 dX20_walks_332 (v := 1) rfl (q := 333) rfl ?_
      refine v_goto O.1 dX20_walks_333 (t := 337) (by decide) ?_
      exact v_sub [] rfl (bm_walks_337 O 1 M h)
  · rw [if_neg c1] at h
    refine v_aload_n O.1 dX20_walks_76 rfl (q := 77) rfl ?_
    refine m_get O 22 (v := .ref (gMa g 17)) (by decide) q1754 rfl rfl dX20_walks_77 (q := 80) rfl ?_
    refine v_iload O.1 dX20_walks_80 rfl (q := 82) rfl ?_
    obtain ⟨g3, h⟩ := gd_some h
    refine m_iald O rfl rfl (n := 512) g3 rfl (j := x4.toNatClampNeg) dX20_walks_82 (q := 83) rfl ?_
    refine v_istore (lv' := [(5, .int (M 17 x4.toNatClampNeg)), (0, .ref (gMa g 0)), (2, .int x2), (3, .int x3), (4, .int x4)]) O.1 dX20_walks_83 (by decide) rfl (q := 85) rfl ?_
    refine v_aload_n O.1 dX20_walks_85 rfl (q := 86) rfl ?_
    refine m_get O 20 (v := .ref (gMa g 15)) (by decide) q1752 rfl rfl dX20_walks_86 (q := 89) rfl ?_
    refine v_iload O.1 dX20_walks_89 rfl (q := 91) rfl ?_
    obtain ⟨g4, h⟩ := gd_some h
    refine m_iald O rfl rfl (n := 512) g4 rfl (j := (M 17 x4.toNatClampNeg).toNatClampNeg) dX20_walks_91 (q := 92) rfl ?_
    refine m_takes O q1982 dX20_walks_92 (q := 95) rfl ?_
    refine v_aload_n O.1 dX20_walks_95 rfl (q := 96) rfl ?_
    refine m_get O 0 (v := .ref (gMa g 1)) (by decide) q1732 rfl rfl dX20_walks_96 (q := 99) rfl ?_
    refine v_iload O.1 dX20_walks_99 rfl (q := 101) rfl ?_
    obtain ⟨g5, h⟩ := gd_some h
    refine m_iald O rfl rfl (n := 512) g5 rfl (j := (M 17 x4.toNatClampNeg).toNatClampNeg) dX20_walks_101 (q := 102) rfl ?_
    obtain ⟨g6, h⟩ := gd_some h
    refine m_takesat O g6 dX20_walks_102 (q := 103) rfl ?_
    refine v_iadd O.1 dX20_walks_103 (q := 104) rfl ?_
    refine v_istore (lv' := [(6, .int ((M 15 (M 17 x4.toNatClampNeg).toNatClampNeg) + (mTakes (M 1 (M 17 x4.toNatClampNeg).toNatClampNeg).toNatClampNeg))), (5, .int (M 17 x4.toNatClampNeg)), (0, .ref (gMa g 0)), (2, .int x2), (3, .int x3), (4, .int x4)]) O.1 dX20_walks_104 (by decide) rfl (q := 106) rfl ?_
    refine v_aload_n O.1 dX20_walks_106 rfl (q := 107) rfl ?_
    refine m_get O 21 (v := .ref (gMa g 16)) (by decide) q1753 rfl rfl dX20_walks_107 (q := 110) rfl ?_
    refine v_iload O.1 dX20_walks_110 rfl (q := 112) rfl ?_
    obtain ⟨g7, h⟩ := gd_some h
    refine m_iald O rfl rfl (n := 512) g7 rfl (j := (M 17 x4.toNatClampNeg).toNatClampNeg) dX20_walks_112 (q := 113) rfl ?_
    refine v_aload_n O.1 dX20_walks_113 rfl (q := 114) rfl ?_
    refine m_get O 0 (v := .ref (gMa g 1)) (by decide) q1732 rfl rfl dX20_walks_114 (q := 117) rfl ?_
    refine v_iload O.1 dX20_walks_117 rfl (q := 119) rfl ?_
    obtain ⟨g8, h⟩ := gd_some h
    refine m_iald O rfl rfl (n := 512) g8 rfl (j := (M 17 x4.toNatClampNeg).toNatClampNeg) dX20_walks_119 (q := 120) rfl ?_
    refine v_bipush O.1 dX20_walks_120 (v := 9) (by decide) (q := 122) rfl ?_
    refine v_icmp_ne O.1 dX20_walks_122 (t := 129) (by decide) (q := 125) rfl (fun c9 => ?_) (fun c9 => ?_)
    · rw [if_neg c9] at h
      refine v_aload_n O.1 dX20_walks_129 rfl (q := 130) rfl ?_
      refine m_get O 0 (v := .ref (gMa g 1)) (by decide) q1732 rfl rfl dX20_walks_130 (q := 133) rfl ?_
      refine v_iload O.1 dX20_walks_133 rfl (q := 135) rfl ?_
      obtain ⟨g10, h⟩ := gd_some h
      refine m_iald O rfl rfl (n := 512) g10 rfl (j := (M 17 x4.toNatClampNeg).toNatClampNeg) dX20_walks_135 (q := 136) rfl ?_
      refine v_bipush O.1 dX20_walks_136 (v := 10) (by decide) (q := 138) rfl ?_
      refine v_icmp_ne O.1 dX20_walks_138 (t := 145) (by decide) (q := 141) rfl (fun c11 => ?_) (fun c11 => ?_)
      · rw [if_neg c11] at h
        refine v_iconst O.1 dX20_walks_145 (v := 0) rfl (q := 146) rfl ?_
        exact v_sub [2, 3, 4, 5, 1, 0] rfl (bm_walks_146 O hK70 x2 x3 x4 (M 17 x4.toNatClampNeg) ((M 15 (M 17 x4.toNatClampNeg).toNatClampNeg) + (mTakes (M 1 (M 17 x4.toNatClampNeg).toNatClampNeg).toNatClampNeg)) 0 (M 16 (M 17 x4.toNatClampNeg).toNatClampNeg) M h)
      · rw [if_pos c11] at h
        refine v_iconst O.1 dX20_walks_141 (v := (-1)) rfl (q := 142) rfl ?_
        refine v_goto O.1 dX20_walks_142 (t := 146) (by decide) ?_
        exact v_sub [2, 3, 4, 5, 1, 0] rfl (bm_walks_146 O hK70 x2 x3 x4 (M 17 x4.toNatClampNeg) ((M 15 (M 17 x4.toNatClampNeg).toNatClampNeg) + (mTakes (M 1 (M 17 x4.toNatClampNeg).toNatClampNeg).toNatClampNeg)) (-1) (M 16 (M 17 x4.toNatClampNeg).toNatClampNeg) M h)
    · rw [if_pos c9] at h
      refine v_iconst O.1 dX20_walks_125 (v := 1) rfl (q := 126) rfl ?_
      refine v_goto O.1 dX20_walks_126 (t := 146) (by decide) ?_
      exact v_sub [2, 3, 4, 5, 1, 0] rfl (bm_walks_146 O hK70 x2 x3 x4 (M 17 x4.toNatClampNeg) ((M 15 (M 17 x4.toNatClampNeg).toNatClampNeg) + (mTakes (M 1 (M 17 x4.toNatClampNeg).toNatClampNeg).toNatClampNeg)) 1 (M 16 (M 17 x4.toNatClampNeg).toNatClampNeg) M h)
def fm_walks_70 (n : Nat) : Int32 → Int32 → Int32 → Mem → Option (Int32 × Mem) := lpc (fm_walks_70b) (fun _ _ _ _ => none) n
theorem bm_walks_70 {g : gM} {X : Cxt} {r : Int32} {M' : Mem} (O : OkM g X cX20_walks 10 (some .boolean) 2 (mQi g r M')) : ∀ (n : Nat) (x2 : Int32) (x3 : Int32) (x4 : Int32) (M : Mem), fm_walks_70 n x2 x3 x4 M = some (r, M') → V X 10 0 (WdM g M) 70 [(0, .ref (gMa g 0)), (2, .int x2), (3, .int x3), (4, .int x4)] [] := by
  intro n
  induction n with
  | zero =>
    intro x2 x3 x4 M h
    cases h
  | succ n ih =>
    intro x2 x3 x4 M h
    exact bm_walks_70b O ih x2 x3 x4 M h
def fm_walks_33b (K33 : Int32 → Int32 → Int32 → Mem → Option (Int32 × Mem)) (x1 : Int32) (x2 : Int32) (x3 : Int32) (M : Mem) : Option (Int32 × Mem) :=
  if 512 ≤ x3 then
    stp (up2 M 17 0 x1) fun M2 =>
    fm_walks_70 600 x2 1 0 M2
  else
    gd (inb x3 512) <|
    if (M 13 x3.toNatClampNeg) = 0 then
      fm_walks_52 K33 x1 x2 x3 M
    else
      fm_walks_52 K33 x1 (x2 + 1) x3 M
set_option maxHeartbeats 4000000 in
theorem bm_walks_33b {g : gM} {X : Cxt} {r : Int32} {M' : Mem} (O : OkM g X cX20_walks 10 (some .boolean) 2 (mQi g r M')) {K33 : Int32 → Int32 → Int32 → Mem → Option (Int32 × Mem)} (hK33 : ∀ (x1 : Int32) (x2 : Int32) (x3 : Int32) (M : Mem), K33 x1 x2 x3 M = some (r, M') → V X 10 0 (WdM g M) 33 [(0, .ref (gMa g 0)), (1, .int x1), (2, .int x2), (3, .int x3)] []) (x1 : Int32) (x2 : Int32) (x3 : Int32) (M : Mem) (h : fm_walks_33b K33 x1 x2 x3 M = some (r, M')) : V X 10 0 (WdM g M) 33 [(0, .ref (gMa g 0)), (1, .int x1), (2, .int x2), (3, .int x3)] [] := by
  unfold fm_walks_33b at h
  refine v_iload_n O.1 dX20_walks_33 rfl (q := 34) rfl ?_
  refine v_sipush O.1 dX20_walks_34 (v := 512) (by decide) (q := 37) rfl ?_
  refine v_icmp_ge O.1 dX20_walks_37 (t := 58) (by decide) (q := 40) rfl (fun c1 => ?_) (fun c1 => ?_)
  · rw [if_pos c1] at h
    refine v_iconst O.1 dX20_walks_58 (v := 1) rfl (q := 59) rfl ?_
    refine v_istore_n (lv' := [(3, .int 1), (0, .ref (gMa g 0)), (1, .int x1), (2, .int x2)]) O.1 dX20_walks_59 (by decide) rfl (q := 60) rfl ?_
    refine v_aload_n O.1 dX20_walks_60 rfl (q := 61) rfl ?_
    refine m_get O 22 (v := .ref (gMa g 17)) (by decide) q1754 rfl rfl dX20_walks_61 (q := 64) rfl ?_
    refine v_iconst O.1 dX20_walks_64 (v := 0) rfl (q := 65) rfl ?_
    refine v_iload_n O.1 dX20_walks_65 rfl (q := 66) rfl ?_
    obtain ⟨M2, e2, h⟩ := stp_some h
    refine m_iast O rfl rfl (n := 512) (by decide) (by decide) (j := 0) dX20_walks_66 (q := 67) rfl e2 ?_
    refine v_iconst O.1 dX20_walks_67 (v := 0) rfl (q := 68) rfl ?_
    refine v_istore (lv' := [(4, .int 0), (3, .int 1), (0, .ref (gMa g 0)), (1, .int x1), (2, .int x2)]) O.1 dX20_walks_68 (by decide) rfl (q := 70) rfl ?_
    exact v_sub [2, 4, 1, 0] rfl (bm_walks_70 O 600 x2 1 0 M2 h)
  · rw [if_neg c1] at h
    refine v_aload_n O.1 dX20_walks_40 rfl (q := 41) rfl ?_
    refine m_get O 18 (v := .ref (gMa g 13)) (by decide) q1750 rfl rfl dX20_walks_41 (q := 44) rfl ?_
    refine v_iload_n O.1 dX20_walks_44 rfl (q := 45) rfl ?_
    obtain ⟨g3, h⟩ := gd_some h
    refine m_bald O rfl rfl (n := 512) g3 rfl (j := x3.toNatClampNeg) dX20_walks_45 (q := 46) rfl ?_
    refine v_if_eq O.1 dX20_walks_46 (t := 52) (by decide) (q := 49) rfl (fun c4 => ?_) (fun c4 => ?_)
    · rw [if_pos c4] at h
      exact v_sub [0, 1, 2, 3] rfl (bm_walks_52 O hK33 x1 x2 x3 M h)
    · rw [if_neg c4] at h
      refine v_iinc (lv' := [(2, .int (x2 + 1)), (0, .ref (gMa g 0)), (1, .int x1), (3, .int x3)]) (v := (x2 + 1)) O.1 dX20_walks_49 rfl rfl (by decide) rfl (q := 52) rfl ?_
      exact v_sub [1, 2, 0, 3] rfl (bm_walks_52 O hK33 x1 (x2 + 1) x3 M h)
def fm_walks_33 (n : Nat) : Int32 → Int32 → Int32 → Mem → Option (Int32 × Mem) := lpc (fm_walks_33b) (fun _ _ _ _ => none) n
theorem bm_walks_33 {g : gM} {X : Cxt} {r : Int32} {M' : Mem} (O : OkM g X cX20_walks 10 (some .boolean) 2 (mQi g r M')) : ∀ (n : Nat) (x1 : Int32) (x2 : Int32) (x3 : Int32) (M : Mem), fm_walks_33 n x1 x2 x3 M = some (r, M') → V X 10 0 (WdM g M) 33 [(0, .ref (gMa g 0)), (1, .int x1), (2, .int x2), (3, .int x3)] [] := by
  intro n
  induction n with
  | zero =>
    intro x1 x2 x3 M h
    cases h
  | succ n ih =>
    intro x1 x2 x3 M h
    exact bm_walks_33b O ih x1 x2 x3 M h
def fm_walks (x1 : Int32) (M : Mem) : Option (Int32 × Mem) :=
  stp (up2 M 0 23 0) fun M1 =>
  stp (up2 M1 0 24 0) fun M2 =>
  bnd (fm_meets x1 M2) fun r3 M3 =>
  if r3 = 0 then
    fm_walks_27 M3
  else
    gd (inb x1 512) <|
    if (M3 14 x1.toNatClampNeg) ≤ 0 then
      fm_walks_33 600 x1 0 0 M3
    else
      fm_walks_27 M3
set_option maxHeartbeats 4000000 in
theorem bm_walks {g : gM} {X : Cxt} {r : Int32} {M' : Mem} (O : OkM g X cX20_walks 10 (some .boolean) 2 (mQi g r M')) (x1 : Int32) (M : Mem) (h : fm_walks x1 M = some (r, M')) : V X 10 0 (WdM g M) 0 [(0, .ref (gMa g 0)), (1, .int x1)] [] := by
  unfold fm_walks at h
  refine v_aload_n O.1 dX20_walks_0 rfl (q := 1) rfl ?_
  refine v_iconst O.1 dX20_walks_1 (v := 0) rfl (q := 2) rfl ?_
  obtain ⟨M1, e1, h⟩ := stp_some h
  refine m_put O 23 (ty := .int) (by decide) q1755 rfl rfl rfl rfl rfl rfl dX20_walks_2 (q := 5) rfl e1 ?_
  refine v_aload_n O.1 dX20_walks_5 rfl (q := 6) rfl ?_
  refine v_iconst O.1 dX20_walks_6 (v := 0) rfl (q := 7) rfl ?_
  obtain ⟨M2, e2, h⟩ := stp_some h
  refine m_put O 24 (ty := .int) (by decide) q1756 rfl rfl rfl rfl rfl rfl dX20_walks_7 (q := 10) rfl e2 ?_
  refine v_aload_n O.1 dX20_walks_10 rfl (q := 11) rfl ?_
  refine v_iload_n O.1 dX20_walks_11 rfl (q := 12) rfl ?_
  obtain ⟨r3, M3, e3, h⟩ := bnd_some h
  refine m_callVi (As := [.int x1]) (rest := []) (n := 1) O (met_meets _ g x1 M2 M3 r3 e3) (lw_V q2138 q2140 qs55 q84 q2141) (by decide +kernel) (by decide) (by decide) rfl rfl (Nat.le_of_ble_eq_true rfl) dX20_walks_12 (q := 15) rfl ?_
  refine v_if_eq O.1 dX20_walks_15 (t := 27) (by decide) (q := 18) rfl (fun c4 => ?_) (fun c4 => ?_)
  · rw [if_pos c4] at h
    exact v_sub [] rfl (bm_walks_27 O M3 h)
  · rw [if_neg c4] at h
    refine v_aload_n O.1 dX20_walks_18 rfl (q := 19) rfl ?_
    refine m_get O 19 (v := .ref (gMa g 14)) (by decide) q1751 rfl rfl dX20_walks_19 (q := 22) rfl ?_
    refine v_iload_n O.1 dX20_walks_22 rfl (q := 23) rfl ?_
    obtain ⟨g5, h⟩ := gd_some h
    refine m_iald O rfl rfl (n := 512) g5 rfl (j := x1.toNatClampNeg) dX20_walks_23 (q := 24) rfl ?_
    refine v_if_le O.1 dX20_walks_24 (t := 29) (by decide) (q := 27) rfl (fun c6 => ?_) (fun c6 => ?_)
    · rw [if_pos c6] at h
      refine v_iconst O.1 dX20_walks_29 (v := 0) rfl (q := 30) rfl ?_
      refine v_istore_n (lv' := [(2, .int 0), (0, .ref (gMa g 0)), (1, .int x1)]) O.1 dX20_walks_30 (by decide) rfl (q := 31) rfl ?_
      refine v_iconst O.1 dX20_walks_31 (v := 0) rfl (q := 32) rfl ?_
      refine v_istore_n (lv' := [(3, .int 0), (2, .int 0), (0, .ref (gMa g 0)), (1, .int x1)]) O.1 dX20_walks_32 (by decide) rfl (q := 33) rfl ?_
      exact v_sub [2, 3, 1, 0] rfl (bm_walks_33 O 600 x1 0 0 M3 h)
    · rw [if_neg c6] at h
      exact v_sub [] rfl (bm_walks_27 O M3 h)
theorem met_walks (l : Launch) (g : gM) (x1 : Int32) (M M' : Mem) (r : Int32) (h : fm_walks x1 M = some (r, M')) : MetM l g yX20_walks cX20_walks 10 (some .boolean) 2 [.ref (gMa g 0), .int x1] M (mQi g r M') :=
  m_met (by decide) rfl (Nat.le_of_ble_eq_true rfl) (fun X O => bm_walks O x1 M h)
/-! cost(I)I -/
def fm_cost_36 (y0 : Int32) (M : Mem) : Option (Int32 × Mem) :=
  some (y0, M)
set_option maxHeartbeats 4000000 in
theorem bm_cost_36 {g : gM} {X : Cxt} {r : Int32} {M' : Mem} (O : OkM g X cX20_cost 2 (some .int) 3 (mQi g r M')) (y0 : Int32) (M : Mem) (h : fm_cost_36 y0 M = some (r, M')) : V X 2 0 (WdM g M) 36 [] [.int y0] := by
  unfold fm_cost_36 at h
  exact m_iret O h dX20_cost_36
def fm_cost_35  (M : Mem) : Option (Int32 × Mem) :=
  fm_cost_36 (-1) M
set_option maxHeartbeats 4000000 in
theorem bm_cost_35 {g : gM} {X : Cxt} {r : Int32} {M' : Mem} (O : OkM g X cX20_cost 2 (some .int) 3 (mQi g r M'))  (M : Mem) (h : fm_cost_35  M = some (r, M')) : V X 2 0 (WdM g M) 35 [] [] := by
  unfold fm_cost_35 at h
  refine v_iconst O.1 dX20_cost_35 (v := (-1)) rfl (q := 36) rfl ?_
  exact v_sub [] rfl (bm_cost_36 O (-1) M h)
def fm_cost (x1 : Int32) (M : Mem) : Option (Int32 × Mem) :=
  stp (up2 M 0 17 0) fun M1 =>
  bnd (fm_within x1 0 20 M1) fun r2 M2 =>
  if r2 = 0 then
    fm_cost_35 M2
  else
    gd (inb x1 21) <|
    bnd (fm_walks (M2 2 x1.toNatClampNeg) M2) fun r5 M5 =>
    if r5 = 0 then
      fm_cost_35 M5
    else
      fm_cost_36 (M5 0 23) M5
set_option maxHeartbeats 4000000 in
theorem bm_cost {g : gM} {X : Cxt} {r : Int32} {M' : Mem} (O : OkM g X cX20_cost 2 (some .int) 3 (mQi g r M')) (x1 : Int32) (M : Mem) (h : fm_cost x1 M = some (r, M')) : V X 2 0 (WdM g M) 0 [(0, .ref (gMa g 0)), (1, .int x1)] [] := by
  unfold fm_cost at h
  refine v_aload_n O.1 dX20_cost_0 rfl (q := 1) rfl ?_
  refine v_iconst O.1 dX20_cost_1 (v := 0) rfl (q := 2) rfl ?_
  obtain ⟨M1, e1, h⟩ := stp_some h
  refine m_put O 17 (ty := .int) (by decide) q1749 rfl rfl rfl rfl rfl rfl dX20_cost_2 (q := 5) rfl e1 ?_
  refine v_iload_n O.1 dX20_cost_5 rfl (q := 6) rfl ?_
  refine v_iconst O.1 dX20_cost_6 (v := 0) rfl (q := 7) rfl ?_
  refine v_bipush O.1 dX20_cost_7 (v := 20) (by decide) (q := 9) rfl ?_
  obtain ⟨r2, M2, e2, h⟩ := bnd_some h
  refine m_callSi (As := [.int x1, .int 0, .int 20]) (rest := []) (n := 3) O (met_within _ g x1 0 20 M1 M2 r2 e2) (lw_S q1817 q1818 q84 q1819) (by decide +kernel) (by decide) (by decide) rfl rfl (Nat.le_of_ble_eq_true rfl) dX20_cost_9 (q := 12) rfl ?_
  refine v_if_eq O.1 dX20_cost_12 (t := 35) (by decide) (q := 15) rfl (fun c3 => ?_) (fun c3 => ?_)
  · rw [if_pos c3] at h
    exact v_sub [] rfl (bm_cost_35 O M2 h)
  · rw [if_neg c3] at h
    refine v_aload_n O.1 dX20_cost_15 rfl (q := 16) rfl ?_
    refine v_aload_n O.1 dX20_cost_16 rfl (q := 17) rfl ?_
    refine m_get O 1 (v := .ref (gMa g 2)) (by decide) q1733 rfl rfl dX20_cost_17 (q := 20) rfl ?_
    refine v_iload_n O.1 dX20_cost_20 rfl (q := 21) rfl ?_
    obtain ⟨g4, h⟩ := gd_some h
    refine m_iald O rfl rfl (n := 21) g4 rfl (j := x1.toNatClampNeg) dX20_cost_21 (q := 22) rfl ?_
    obtain ⟨r5, M5, e5, h⟩ := bnd_some h
    refine m_callVi (As := [.int (M2 2 x1.toNatClampNeg)]) (rest := []) (n := 1) O (met_walks _ g (M2 2 x1.toNatClampNeg) M2 M5 r5 e5) (lw_V q2134 q2136 qs54 q84 q2137) (by decide +kernel) (by decide) (by decide) rfl rfl (Nat.le_of_ble_eq_true rfl) dX20_cost_22 (q := 25) rfl ?_
    refine v_if_eq O.1 dX20_cost_25 (t := 35) (by decide) (q := 28) rfl (fun c6 => ?_) (fun c6 => ?_)
    · rw [if_pos c6] at h
      exact v_sub [] rfl (bm_cost_35 O M5 h)
    · rw [if_neg c6] at h
      refine v_aload_n O.1 dX20_cost_28 rfl (q := 29) rfl ?_
      refine m_get O 23 (v := .int (M5 0 23)) (by decide) q1755 rfl rfl dX20_cost_29 (q := 32) rfl ?_
      refine v_goto O.1 dX20_cost_32 (t := 36) (by decide) ?_
      exact v_sub [] rfl (bm_cost_36 O (M5 0 23) M5 h)
theorem met_cost (l : Launch) (g : gM) (x1 : Int32) (M M' : Mem) (r : Int32) (h : fm_cost x1 M = some (r, M')) : MetM l g yX20_cost cX20_cost 2 (some .int) 3 [.ref (gMa g 0), .int x1] M (mQi g r M') :=
  m_met (by decide) rfl (Nat.le_of_ble_eq_true rfl) (fun X O => bm_cost O x1 M h)
/-! pushes(I)I -/
def fm_pushes_36 (y0 : Int32) (M : Mem) : Option (Int32 × Mem) :=
  some (y0, M)
set_option maxHeartbeats 4000000 in
theorem bm_pushes_36 {g : gM} {X : Cxt} {r : Int32} {M' : Mem} (O : OkM g X cX20_pushes 2 (some .int) 3 (mQi g r M')) (y0 : Int32) (M : Mem) (h : fm_pushes_36 y0 M = some (r, M')) : V X 2 0 (WdM g M) 36 [] [.int y0] := by
  unfold fm_pushes_36 at h
  exact m_iret O h dX20_pushes_36
def fm_pushes_35  (M : Mem) : Option (Int32 × Mem) :=
  fm_pushes_36 (-1) M
set_option maxHeartbeats 4000000 in
theorem bm_pushes_35 {g : gM} {X : Cxt} {r : Int32} {M' : Mem} (O : OkM g X cX20_pushes 2 (some .int) 3 (mQi g r M'))  (M : Mem) (h : fm_pushes_35  M = some (r, M')) : V X 2 0 (WdM g M) 35 [] [] := by
  unfold fm_pushes_35 at h
  refine v_iconst O.1 dX20_pushes_35 (v := (-1)) rfl (q := 36) rfl ?_
  exact v_sub [] rfl (bm_pushes_36 O (-1) M h)
def fm_pushes (x1 : Int32) (M : Mem) : Option (Int32 × Mem) :=
  stp (up2 M 0 17 0) fun M1 =>
  bnd (fm_within x1 0 20 M1) fun r2 M2 =>
  if r2 = 0 then
    fm_pushes_35 M2
  else
    gd (inb x1 21) <|
    bnd (fm_walks (M2 2 x1.toNatClampNeg) M2) fun r5 M5 =>
    if r5 = 0 then
      fm_pushes_35 M5
    else
      fm_pushes_36 (M5 0 24) M5
set_option maxHeartbeats 4000000 in
theorem bm_pushes {g : gM} {X : Cxt} {r : Int32} {M' : Mem} (O : OkM g X cX20_pushes 2 (some .int) 3 (mQi g r M')) (x1 : Int32) (M : Mem) (h : fm_pushes x1 M = some (r, M')) : V X 2 0 (WdM g M) 0 [(0, .ref (gMa g 0)), (1, .int x1)] [] := by
  unfold fm_pushes at h
  refine v_aload_n O.1 dX20_pushes_0 rfl (q := 1) rfl ?_
  refine v_iconst O.1 dX20_pushes_1 (v := 0) rfl (q := 2) rfl ?_
  obtain ⟨M1, e1, h⟩ := stp_some h
  refine m_put O 17 (ty := .int) (by decide) q1749 rfl rfl rfl rfl rfl rfl dX20_pushes_2 (q := 5) rfl e1 ?_
  refine v_iload_n O.1 dX20_pushes_5 rfl (q := 6) rfl ?_
  refine v_iconst O.1 dX20_pushes_6 (v := 0) rfl (q := 7) rfl ?_
  refine v_bipush O.1 dX20_pushes_7 (v := 20) (by decide) (q := 9) rfl ?_
  obtain ⟨r2, M2, e2, h⟩ := bnd_some h
  refine m_callSi (As := [.int x1, .int 0, .int 20]) (rest := []) (n := 3) O (met_within _ g x1 0 20 M1 M2 r2 e2) (lw_S q1817 q1818 q84 q1819) (by decide +kernel) (by decide) (by decide) rfl rfl (Nat.le_of_ble_eq_true rfl) dX20_pushes_9 (q := 12) rfl ?_
  refine v_if_eq O.1 dX20_pushes_12 (t := 35) (by decide) (q := 15) rfl (fun c3 => ?_) (fun c3 => ?_)
  · rw [if_pos c3] at h
    exact v_sub [] rfl (bm_pushes_35 O M2 h)
  · rw [if_neg c3] at h
    refine v_aload_n O.1 dX20_pushes_15 rfl (q := 16) rfl ?_
    refine v_aload_n O.1 dX20_pushes_16 rfl (q := 17) rfl ?_
    refine m_get O 1 (v := .ref (gMa g 2)) (by decide) q1733 rfl rfl dX20_pushes_17 (q := 20) rfl ?_
    refine v_iload_n O.1 dX20_pushes_20 rfl (q := 21) rfl ?_
    obtain ⟨g4, h⟩ := gd_some h
    refine m_iald O rfl rfl (n := 21) g4 rfl (j := x1.toNatClampNeg) dX20_pushes_21 (q := 22) rfl ?_
    obtain ⟨r5, M5, e5, h⟩ := bnd_some h
    refine m_callVi (As := [.int (M2 2 x1.toNatClampNeg)]) (rest := []) (n := 1) O (met_walks _ g (M2 2 x1.toNatClampNeg) M2 M5 r5 e5) (lw_V q2134 q2136 qs54 q84 q2137) (by decide +kernel) (by decide) (by decide) rfl rfl (Nat.le_of_ble_eq_true rfl) dX20_pushes_22 (q := 25) rfl ?_
    refine v_if_eq O.1 dX20_pushes_25 (t := 35) (by decide) (q := 28) rfl (fun c6 => ?_) (fun c6 => ?_)
    · rw [if_pos c6] at h
      exact v_sub [] rfl (bm_pushes_35 O M5 h)
    · rw [if_neg c6] at h
      refine v_aload_n O.1 dX20_pushes_28 rfl (q := 29) rfl ?_
      refine m_get O 24 (v := .int (M5 0 24)) (by decide) q1756 rfl rfl dX20_pushes_29 (q := 32) rfl ?_
      refine v_goto O.1 dX20_pushes_32 (t := 36) (by decide) ?_
      exact v_sub [] rfl (bm_pushes_36 O (M5 0 24) M5 h)
theorem met_pushes (l : Launch) (g : gM) (x1 : Int32) (M M' : Mem) (r : Int32) (h : fm_pushes x1 M = some (r, M')) : MetM l g yX20_pushes cX20_pushes 2 (some .int) 3 [.ref (gMa g 0), .int x1] M (mQi g r M') :=
  m_met (by decide) rfl (Nat.le_of_ble_eq_true rfl) (fun X O => bm_pushes O x1 M h)
/-! room(Z)I -/
def fm_room_152 (K9 : Int32 → Int32 → Int32 → Mem → Option (Int32 × Mem)) (x1 : Int32) (x2 : Int32) (x3 : Int32) (M : Mem) : Option (Int32 × Mem) :=
  K9 x1 x2 (x3 + 1) M
set_option maxHeartbeats 4000000 in
theorem bm_room_152 {g : gM} {X : Cxt} {r : Int32} {M' : Mem} (O : OkM g X cX20_room 7 (some .int) 3 (mQi g r M')) {K9 : Int32 → Int32 → Int32 → Mem → Option (Int32 × Mem)} (hK9 : ∀ (x1 : Int32) (x2 : Int32) (x3 : Int32) (M : Mem), K9 x1 x2 x3 M = some (r, M') → V X 7 0 (WdM g M) 9 [(0, .ref (gMa g 0)), (1, .int x1), (2, .int x2), (3, .int x3)] []) (x1 : Int32) (x2 : Int32) (x3 : Int32) (M : Mem) (h : fm_room_152 K9 x1 x2 x3 M = some (r, M')) : V X 7 0 (WdM g M) 152 [(0, .ref (gMa g 0)), (1, .int x1), (2, .int x2), (3, .int x3)] [] := by
  unfold fm_room_152 at h
  refine v_iinc (lv' := [(3, .int (x3 + 1)), (0, .ref (gMa g 0)), (1, .int x1), (2, .int x2)]) (v := (x3 + 1)) O.1 dX20_room_152 rfl rfl (by decide) rfl (q := 155) rfl ?_
  refine v_goto O.1 dX20_room_155 (t := 9) (by decide) ?_
  exact v_sub [1, 2, 3, 0] rfl (hK9 x1 x2 (x3 + 1) M h)
def fm_room_124 (K9 : Int32 → Int32 → Int32 → Mem → Option (Int32 × Mem)) (K36 : Int32 → Int32 → Int32 → Int32 → Int32 → Int32 → Mem → Option (Int32 × Mem)) (x1 : Int32) (x2 : Int32) (x3 : Int32) (x4 : Int32) (x5 : Int32) (x6 : Int32) (M : Mem) : Option (Int32 × Mem) :=
  K36 x1 x2 x3 x4 x5 (x6 + 1) M
set_option maxHeartbeats 4000000 in
theorem bm_room_124 {g : gM} {X : Cxt} {r : Int32} {M' : Mem} (O : OkM g X cX20_room 7 (some .int) 3 (mQi g r M')) {K9 : Int32 → Int32 → Int32 → Mem → Option (Int32 × Mem)} {K36 : Int32 → Int32 → Int32 → Int32 → Int32 → Int32 → Mem → Option (Int32 × Mem)} (hK9 : ∀ (x1 : Int32) (x2 : Int32) (x3 : Int32) (M : Mem), K9 x1 x2 x3 M = some (r, M') → V X 7 0 (WdM g M) 9 [(0, .ref (gMa g 0)), (1, .int x1), (2, .int x2), (3, .int x3)] []) (hK36 : ∀ (x1 : Int32) (x2 : Int32) (x3 : Int32) (x4 : Int32) (x5 : Int32) (x6 : Int32) (M : Mem), K36 x1 x2 x3 x4 x5 x6 M = some (r, M') → V X 7 0 (WdM g M) 36 [(0, .ref (gMa g 0)), (1, .int x1), (2, .int x2), (3, .int x3), (4, .int x4), (5, .int x5), (6, .int x6)] []) (x1 : Int32) (x2 : Int32) (x3 : Int32) (x4 : Int32) (x5 : Int32) (x6 : Int32) (M : Mem) (h : fm_room_124 K9 K36 x1 x2 x3 x4 x5 x6 M = some (r, M')) : V X 7 0 (WdM g M) 124 [(0, .ref (gMa g 0)), (1, .int x1), (2, .int x2), (3, .int x3), (4, .int x4), (5, .int x5), (6, .int x6)] [] := by
  unfold fm_room_124 at h
  refine v_iinc (lv' := [(6, .int (x6 + 1)), (0, .ref (gMa g 0)), (1, .int x1), (2, .int x2), (3, .int x3), (4, .int x4), (5, .int x5)]) (v := (x6 + 1)) O.1 dX20_room_124 rfl rfl (by decide) rfl (q := 127) rfl ?_
  refine v_goto O.1 dX20_room_127 (t := 36) (by decide) ?_
  exact v_sub [1, 2, 3, 4, 5, 6, 0] rfl (hK36 x1 x2 x3 x4 x5 (x6 + 1) M h)
def fm_room_93 (K9 : Int32 → Int32 → Int32 → Mem → Option (Int32 × Mem)) (K36 : Int32 → Int32 → Int32 → Int32 → Int32 → Int32 → Mem → Option (Int32 × Mem)) (x1 : Int32) (x2 : Int32) (x3 : Int32) (x4 : Int32) (x5 : Int32) (x6 : Int32) (M : Mem) : Option (Int32 × Mem) :=
  gd (inb x6 21) <|
  bnd (fm_walks (M 2 x6.toNatClampNeg) M) fun r2 M2 =>
  if r2 = 0 then
    some ((-1), M2)
  else
    if (M2 0 24) ≤ x5 then
      fm_room_124 K9 K36 x1 x2 x3 x4 x5 x6 M2
    else
      fm_room_124 K9 K36 x1 x2 x3 x4 (M2 0 24) x6 M2
set_option maxHeartbeats 4000000 in
theorem bm_room_93 {g : gM} {X : Cxt} {r : Int32} {M' : Mem} (O : OkM g X cX20_room 7 (some .int) 3 (mQi g r M')) {K9 : Int32 → Int32 → Int32 → Mem → Option (Int32 × Mem)} {K36 : Int32 → Int32 → Int32 → Int32 → Int32 → Int32 → Mem → Option (Int32 × Mem)} (hK9 : ∀ (x1 : Int32) (x2 : Int32) (x3 : Int32) (M : Mem), K9 x1 x2 x3 M = some (r, M') → V X 7 0 (WdM g M) 9 [(0, .ref (gMa g 0)), (1, .int x1), (2, .int x2), (3, .int x3)] []) (hK36 : ∀ (x1 : Int32) (x2 : Int32) (x3 : Int32) (x4 : Int32) (x5 : Int32) (x6 : Int32) (M : Mem), K36 x1 x2 x3 x4 x5 x6 M = some (r, M') → V X 7 0 (WdM g M) 36 [(0, .ref (gMa g 0)), (1, .int x1), (2, .int x2), (3, .int x3), (4, .int x4), (5, .int x5), (6, .int x6)] []) (x1 : Int32) (x2 : Int32) (x3 : Int32) (x4 : Int32) (x5 : Int32) (x6 : Int32) (M : Mem) (h : fm_room_93 K9 K36 x1 x2 x3 x4 x5 x6 M = some (r, M')) : V X 7 0 (WdM g M) 93 [(0, .ref (gMa g 0)), (1, .int x1), (2, .int x2), (3, .int x3), (4, .int x4), (5, .int x5), (6, .int x6)] [] := by
  unfold fm_room_93 at h
  refine v_aload_n O.1 dX20_room_93 rfl (q := 94) rfl ?_
  refine v_aload_n O.1 dX20_room_94 rfl (q := 95) rfl ?_
  refine m_get O 1 (v := .ref (gMa g 2)) (by decide) q1733 rfl rfl dX20_room_95 (q := 98) rfl ?_
  refine v_iload O.1 dX20_room_98 rfl (q := 100) rfl ?_
  obtain ⟨g1, h⟩ := gd_some h
  refine m_iald O rfl rfl (n := 21) g1 rfl (j := x6.toNatClampNeg) dX20_room_100 (q := 101) rfl ?_
  obtain ⟨r2, M2, e2, h⟩ := bnd_some h
  refine m_callVi (As := [.int (M 2 x6.toNatClampNeg)]) (rest := []) (n := 1) O (met_walks _ g (M 2 x6.toNatClampNeg) M M2 r2 e2) (lw_V q2134 q2136 qs54 q84 q2137) (by decide +kernel) (by decide) (by decide) rfl rfl (Nat.le_of_ble_eq_true rfl) dX20_room_101 (q := 104) rfl ?_
  refine v_if_ne O.1 dX20_room_104 (t := 109) (by decide) (q := 107) rfl (fun c3 => ?_) (fun c3 => ?_)
  · rw [if_neg c3] at h
    refine v_aload_n O.1 dX20_room_109 rfl (q := 110) rfl ?_
    refine m_get O 24 (v := .int (M2 0 24)) (by decide) q1756 rfl rfl dX20_room_110 (q := 113) rfl ?_
    refine v_iload O.1 dX20_room_113 rfl (q := 115) rfl ?_
    refine v_icmp_le O.1 dX20_room_115 (t := 124) (by decide) (q := 118) rfl (fun c4 => ?_) (fun c4 => ?_)
    · rw [if_pos c4] at h
      exact v_sub [0, 1, 2, 3, 4, 5, 6] rfl (bm_room_124 O hK9 hK36 x1 x2 x3 x4 x5 x6 M2 h)
    · rw [if_neg c4] at h
      refine v_aload_n O.1 dX20_room_118 rfl (q := 119) rfl ?_
      refine m_get O 24 (v := .int (M2 0 24)) (by decide) q1756 rfl rfl dX20_room_119 (q := 122) rfl ?_
      refine v_istore (lv' := [(5, .int (M2 0 24)), (0, .ref (gMa g 0)), (1, .int x1), (2, .int x2), (3, .int x3), (4, .int x4), (6, .int x6)]) O.1 dX20_room_122 (by decide) rfl (q := 124) rfl ?_
      exact v_sub [1, 2, 3, 4, 5, 0, 6] rfl (bm_room_124 O hK9 hK36 x1 x2 x3 x4 (M2 0 24) x6 M2 h)
  · rw [if_pos c3] at h
    refine v_iconst O.1 dX20_room_107 (v := (-1)) rfl (q := 108) rfl ?_
    exact m_iret O h dX20_room_108
def fm_room_149 (K9 : Int32 → Int32 → Int32 → Mem → Option (Int32 × Mem)) (x1 : Int32) (x3 : Int32) (y2 : Int32) (y1 : Int32) (y0 : Int32) (M : Mem) : Option (Int32 × Mem) :=
  fm_room_152 K9 x1 (y0 + (y1 + y2)) x3 M
set_option maxHeartbeats 4000000 in
theorem bm_room_149 {g : gM} {X : Cxt} {r : Int32} {M' : Mem} (O : OkM g X cX20_room 7 (some .int) 3 (mQi g r M')) {K9 : Int32 → Int32 → Int32 → Mem → Option (Int32 × Mem)} (hK9 : ∀ (x1 : Int32) (x2 : Int32) (x3 : Int32) (M : Mem), K9 x1 x2 x3 M = some (r, M') → V X 7 0 (WdM g M) 9 [(0, .ref (gMa g 0)), (1, .int x1), (2, .int x2), (3, .int x3)] []) (x1 : Int32) (x3 : Int32) (y2 : Int32) (y1 : Int32) (y0 : Int32) (M : Mem) (h : fm_room_149 K9 x1 x3 y2 y1 y0 M = some (r, M')) : V X 7 0 (WdM g M) 149 [(0, .ref (gMa g 0)), (1, .int x1), (3, .int x3)] [.int y2, .int y1, .int y0] := by
  unfold fm_room_149 at h
  refine v_iadd O.1 dX20_room_149 (q := 150) rfl ?_
  refine v_iadd O.1 dX20_room_150 (q := 151) rfl ?_
  refine v_istore_n (lv' := [(2, .int (y0 + (y1 + y2))), (0, .ref (gMa g 0)), (1, .int x1), (3, .int x3)]) O.1 dX20_room_151 (by decide) rfl (q := 152) rfl ?_
  exact v_sub [1, 2, 0, 3] rfl (bm_room_152 O hK9 x1 (y0 + (y1 + y2)) x3 M h)
def fm_room_36b (K9 : Int32 → Int32 → Int32 → Mem → Option (Int32 × Mem)) (K36 : Int32 → Int32 → Int32 → Int32 → Int32 → Int32 → Mem → Option (Int32 × Mem)) (x1 : Int32) (x2 : Int32) (x3 : Int32) (x4 : Int32) (x5 : Int32) (x6 : Int32) (M : Mem) : Option (Int32 × Mem) :=
  if 21 ≤ x6 then
    if x4 = 0 then
      fm_room_152 K9 x1 x2 x3 M
    else
      if x1 = 0 then
        fm_room_149 K9 x1 x3 6 x5 x2 M
      else
        fm_room_149 K9 x1 x3 10 x5 x2 M
  else
    gd (inb x6 21) <|
    if (M 3 x6.toNatClampNeg) = 0 then
      fm_room_124 K9 K36 x1 x2 x3 x4 x5 x6 M
    else
      bnd (fm_groupOf 4 x6 (M 0 3) M) fun r6 M6 =>
      bnd (fm_groupOf 4 x3 (M6 0 3) M6) fun r7 M7 =>
      if r6 = r7 then
        if x3 ≤ x6 then
          fm_room_93 K9 K36 x1 x2 x3 x4 x5 x6 M7
        else
          fm_room_93 K9 K36 x1 x2 x3 0 x5 x6 M7
      else
        fm_room_124 K9 K36 x1 x2 x3 x4 x5 x6 M7
set_option maxHeartbeats 4000000 in
theorem bm_room_36b {g : gM} {X : Cxt} {r : Int32} {M' : Mem} (O : OkM g X cX20_room 7 (some .int) 3 (mQi g r M')) {K9 : Int32 → Int32 → Int32 → Mem → Option (Int32 × Mem)} (hK9 : ∀ (x1 : Int32) (x2 : Int32) (x3 : Int32) (M : Mem), K9 x1 x2 x3 M = some (r, M') → V X 7 0 (WdM g M) 9 [(0, .ref (gMa g 0)), (1, .int x1), (2, .int x2), (3, .int x3)] []) {K36 : Int32 → Int32 → Int32 → Int32 → Int32 → Int32 → Mem → Option (Int32 × Mem)} (hK36 : ∀ (x1 : Int32) (x2 : Int32) (x3 : Int32) (x4 : Int32) (x5 : Int32) (x6 : Int32) (M : Mem), K36 x1 x2 x3 x4 x5 x6 M = some (r, M') → V X 7 0 (WdM g M) 36 [(0, .ref (gMa g 0)), (1, .int x1), (2, .int x2), (3, .int x3), (4, .int x4), (5, .int x5), (6, .int x6)] []) (x1 : Int32) (x2 : Int32) (x3 : Int32) (x4 : Int32) (x5 : Int32) (x6 : Int32) (M : Mem) (h : fm_room_36b K9 K36 x1 x2 x3 x4 x5 x6 M = some (r, M')) : V X 7 0 (WdM g M) 36 [(0, .ref (gMa g 0)), (1, .int x1), (2, .int x2), (3, .int x3), (4, .int x4), (5, .int x5), (6, .int x6)] [] := by
  unfold fm_room_36b at h
  refine v_iload O.1 dX20_room_36 rfl (q := 38) rfl ?_
  refine v_bipush O.1 dX20_room_38 (v := 21) (by decide) (q := 40) rfl ?_
  refine v_icmp_ge O.1 dX20_room_40 (t := 130) (by decide) (q := 43) rfl (fun c1 => ?_) (fun c1 => ?_)
  · rw [if_pos c1] at h
    refine v_iload O.1 dX20_room_130 rfl (q := 132) rfl ?_
    refine v_if_eq O.1 dX20_room_132 (t := 152) (by decide) (q := 135) rfl (fun c2 => ?_) (fun c2 => ?_)
    · rw [if_pos c2] at h
      exact v_sub [0, 1, 2, 3] rfl (bm_room_152 O hK9 x1 x2 x3 M h)
    · rw [if_neg c2] at h
      refine v_iload_n O.1 dX20_room_135 rfl (q := 136) rfl ?_
      refine v_iload O.1 dX20_room_136 rfl (q := 138) rfl ?_
      refine v_iload_n O.1 dX20_room_138 rfl (q := 139) rfl ?_
      refine v_if_eq O.1 dX20_room_139 (t := 147) (by decide) (q := 142) rfl (fun c3 => ?_) (fun c3 => ?_)
      · rw [if_pos c3] at h
        refine v_bipush O.1 dX20_room_147 (v := 6) (by decide) (q := 149) rfl ?_
        exact v_sub [0, 1, 3] rfl (bm_room_149 O hK9 x1 x3 6 x5 x2 M h)
      · rw [if_neg c3] at h
        refine v_bipush O.1 dX20_room_142 (v := 10) (by decide) (q := 144) rfl ?_
        refine v_goto O.1 dX20_room_144 (t := 149) (by decide) ?_
        exact v_sub [0, 1, 3] rfl (bm_room_149 O hK9 x1 x3 10 x5 x2 M h)
  · rw [if_neg c1] at h
    refine v_aload_n O.1 dX20_room_43 rfl (q := 44) rfl ?_
    refine m_get O 2 (v := .ref (gMa g 3)) (by decide) q1734 rfl rfl dX20_room_44 (q := 47) rfl ?_
    refine v_iload O.1 dX20_room_47 rfl (q := 49) rfl ?_
    obtain ⟨g4, h⟩ := gd_some h
    refine m_bald O rfl rfl (n := 21) g4 rfl (j := x6.toNatClampNeg) dX20_room_49 (q := 50) rfl ?_
    refine v_if_eq O.1 dX20_room_50 (t := 124) (by decide) (q := 53) rfl (fun c5 => ?_) (fun c5 => ?_)
    · rw [if_pos c5] at h
      exact v_sub [0, 1, 2, 3, 4, 5, 6] rfl (bm_room_124 O hK9 hK36 x1 x2 x3 x4 x5 x6 M h)
    · rw [if_neg c5] at h
      refine v_aload_n O.1 dX20_room_53 rfl (q := 54) rfl ?_
      refine m_get O 4 (v := .ref (gMa g 4)) (by decide) q1736 rfl rfl dX20_room_54 (q := 57) rfl ?_
      refine v_iload O.1 dX20_room_57 rfl (q := 59) rfl ?_
      refine v_aload_n O.1 dX20_room_59 rfl (q := 60) rfl ?_
      refine m_get O 3 (v := .int (M 0 3)) (by decide) q1735 rfl rfl dX20_room_60 (q := 63) rfl ?_
      obtain ⟨r6, M6, e6, h⟩ := bnd_some h
      refine m_callSi (As := [.ref (gMa g 4), .int x6, .int (M 0 3)]) (rest := []) (n := 3) O (met_groupOf _ g 4 mS_4 x6 (M 0 3) M M6 r6 e6) (lw_S q1896 q1897 q84 q1898) (by decide +kernel) (by decide) (by decide) rfl rfl (Nat.le_of_ble_eq_true rfl) dX20_room_63 (q := 66) rfl ?_
      refine v_aload_n O.1 dX20_room_66 rfl (q := 67) rfl ?_
      refine m_get O 4 (v := .ref (gMa g 4)) (by decide) q1736 rfl rfl dX20_room_67 (q := 70) rfl ?_
      refine v_iload_n O.1 dX20_room_70 rfl (q := 71) rfl ?_
      refine v_aload_n O.1 dX20_room_71 rfl (q := 72) rfl ?_
      refine m_get O 3 (v := .int (M6 0 3)) (by decide) q1735 rfl rfl dX20_room_72 (q := 75) rfl ?_
      obtain ⟨r7, M7, e7, h⟩ := bnd_some h
      refine m_callSi (As := [.ref (gMa g 4), .int x3, .int (M6 0 3)]) (rest := [.int r6]) (n := 3) O (met_groupOf _ g 4 mS_4 x3 (M6 0 3) M6 M7 r7 e7) (lw_S q1896 q1897 q84 q1898) (by decide +kernel) (by decide) (by decide) rfl rfl (Nat.le_of_ble_eq_true rfl) dX20_room_75 (q := 78) rfl ?_
      refine v_icmp_eq O.1 dX20_room_78 (t := 84) (by decide) (q := 81) rfl (fun c8 => ?_) (fun c8 => ?_)
      · rw [if_pos c8] at h
        refine v_iload O.1 dX20_room_84 rfl (q := 86) rfl ?_
        refine v_iload_n O.1 dX20_room_86 rfl (q := 87) rfl ?_
        refine v_icmp_ge O.1 dX20_room_87 (t := 93) (by decide) (q := 90) rfl (fun c9 => ?_) (fun c9 => ?_)
        · rw [if_pos c9] at h
          exact v_sub [0, 1, 2, 3, 4, 5, 6] rfl (bm_room_93 O hK9 hK36 x1 x2 x3 x4 x5 x6 M7 h)
        · rw [if_neg c9] at h
          refine v_iconst O.1 dX20_room_90 (v := 0) rfl (q := 91) rfl ?_
          refine v_istore (lv' := [(4, .int 0), (0, .ref (gMa g 0)), (1, .int x1), (2, .int x2), (3, .int x3), (5, .int x5), (6, .int x6)]) O.1 dX20_room_91 (by decide) rfl (q := 93) rfl ?_
          exact v_sub [1, 2, 3, 4, 0, 5, 6] rfl (bm_room_93 O hK9 hK36 x1 x2 x3 0 x5 x6 M7 h)
      · rw [if_neg c8] at h
        refine v_goto O.1 dX20_room_81 (t := 124) (by decide) ?_
        exact v_sub [0, 1, 2, 3, 4, 5, 6] rfl (bm_room_124 O hK9 hK36 x1 x2 x3 x4 x5 x6 M7 h)
def fm_room_36 (K9 : Int32 → Int32 → Int32 → Mem → Option (Int32 × Mem)) (n : Nat) : Int32 → Int32 → Int32 → Int32 → Int32 → Int32 → Mem → Option (Int32 × Mem) := lpc (fm_room_36b K9) (fun _ _ _ _ _ _ _ => none) n
theorem bm_room_36 {g : gM} {X : Cxt} {r : Int32} {M' : Mem} (O : OkM g X cX20_room 7 (some .int) 3 (mQi g r M')) {K9 : Int32 → Int32 → Int32 → Mem → Option (Int32 × Mem)} (hK9 : ∀ (x1 : Int32) (x2 : Int32) (x3 : Int32) (M : Mem), K9 x1 x2 x3 M = some (r, M') → V X 7 0 (WdM g M) 9 [(0, .ref (gMa g 0)), (1, .int x1), (2, .int x2), (3, .int x3)] []) : ∀ (n : Nat) (x1 : Int32) (x2 : Int32) (x3 : Int32) (x4 : Int32) (x5 : Int32) (x6 : Int32) (M : Mem), fm_room_36 K9 n x1 x2 x3 x4 x5 x6 M = some (r, M') → V X 7 0 (WdM g M) 36 [(0, .ref (gMa g 0)), (1, .int x1), (2, .int x2), (3, .int x3), (4, .int x4), (5, .int x5), (6, .int x6)] [] := by
  intro n
  induction n with
  | zero =>
    intro x1 x2 x3 x4 x5 x6 M h
    cases h
  | succ n ih =>
    intro x1 x2 x3 x4 x5 x6 M h
    exact bm_room_36b O hK9 ih x1 x2 x3 x4 x5 x6 M h
def fm_room_9b (K9 : Int32 → Int32 → Int32 → Mem → Option (Int32 × Mem)) (x1 : Int32) (x2 : Int32) (x3 : Int32) (M : Mem) : Option (Int32 × Mem) :=
  if 21 ≤ x3 then
    some (x2, M)
  else
    gd (inb x3 21) <|
    if (M 3 x3.toNatClampNeg) = 0 then
      fm_room_152 K9 x1 x2 x3 M
    else
      fm_room_36 K9 600 x1 x2 x3 1 0 0 M
set_option maxHeartbeats 4000000 in
theorem bm_room_9b {g : gM} {X : Cxt} {r : Int32} {M' : Mem} (O : OkM g X cX20_room 7 (some .int) 3 (mQi g r M')) {K9 : Int32 → Int32 → Int32 → Mem → Option (Int32 × Mem)} (hK9 : ∀ (x1 : Int32) (x2 : Int32) (x3 : Int32) (M : Mem), K9 x1 x2 x3 M = some (r, M') → V X 7 0 (WdM g M) 9 [(0, .ref (gMa g 0)), (1, .int x1), (2, .int x2), (3, .int x3)] []) (x1 : Int32) (x2 : Int32) (x3 : Int32) (M : Mem) (h : fm_room_9b K9 x1 x2 x3 M = some (r, M')) : V X 7 0 (WdM g M) 9 [(0, .ref (gMa g 0)), (1, .int x1), (2, .int x2), (3, .int x3)] [] := by
  unfold fm_room_9b at h
  refine v_iload_n O.1 dX20_room_9 rfl (q := 10) rfl ?_
  refine v_bipush O.1 dX20_room_10 (v := 21) (by decide) (q := 12) rfl ?_
  refine v_icmp_ge O.1 dX20_room_12 (t := 158) (by decide) (q := 15) rfl (fun c1 => ?_) (fun c1 => ?_)
  · rw [if_pos c1] at h
    refine v_iload_n O.1 dX20_room_158 rfl (q := 159) rfl ?_
    exact m_iret O h dX20_room_159
  · rw [if_neg c1] at h
    refine v_aload_n O.1 dX20_room_15 rfl (q := 16) rfl ?_
    refine m_get O 2 (v := .ref (gMa g 3)) (by decide) q1734 rfl rfl dX20_room_16 (q := 19) rfl ?_
    refine v_iload_n O.1 dX20_room_19 rfl (q := 20) rfl ?_
    obtain ⟨g2, h⟩ := gd_some h
    refine m_bald O rfl rfl (n := 21) g2 rfl (j := x3.toNatClampNeg) dX20_room_20 (q := 21) rfl ?_
    refine v_if_ne O.1 dX20_room_21 (t := 27) (by decide) (q := 24) rfl (fun c3 => ?_) (fun c3 => ?_)
    · rw [if_neg c3] at h
      refine v_iconst O.1 dX20_room_27 (v := 1) rfl (q := 28) rfl ?_
      refine v_istore (lv' := [(4, .int 1), (0, .ref (gMa g 0)), (1, .int x1), (2, .int x2), (3, .int x3)]) O.1 dX20_room_28 (by decide) rfl (q := 30) rfl ?_
      refine v_iconst O.1 dX20_room_30 (v := 0) rfl (q := 31) rfl ?_
      refine v_istore (lv' := [(5, .int 0), (4, .int 1), (0, .ref (gMa g 0)), (1, .int x1), (2, .int x2), (3, .int x3)]) O.1 dX20_room_31 (by decide) rfl (q := 33) rfl ?_
      refine v_iconst O.1 dX20_room_33 (v := 0) rfl (q := 34) rfl ?_
      refine v_istore (lv' := [(6, .int 0), (5, .int 0), (4, .int 1), (0, .ref (gMa g 0)), (1, .int x1), (2, .int x2), (3, .int x3)]) O.1 dX20_room_34 (by decide) rfl (q := 36) rfl ?_
      exact v_sub [3, 4, 5, 6, 2, 1, 0] rfl (bm_room_36 O hK9 600 x1 x2 x3 1 0 0 M h)
    · rw [if_pos c3] at h
      refine v_goto O.1 dX20_room_24 (t := 152) (by decide) ?_
      exact v_sub [0, 1, 2, 3] rfl (bm_room_152 O hK9 x1 x2 x3 M h)
def fm_room_9 (n : Nat) : Int32 → Int32 → Int32 → Mem → Option (Int32 × Mem) := lpc (fm_room_9b) (fun _ _ _ _ => none) n
theorem bm_room_9 {g : gM} {X : Cxt} {r : Int32} {M' : Mem} (O : OkM g X cX20_room 7 (some .int) 3 (mQi g r M')) : ∀ (n : Nat) (x1 : Int32) (x2 : Int32) (x3 : Int32) (M : Mem), fm_room_9 n x1 x2 x3 M = some (r, M') → V X 7 0 (WdM g M) 9 [(0, .ref (gMa g 0)), (1, .int x1), (2, .int x2), (3, .int x3)] [] := by
  intro n
  induction n with
  | zero =>
    intro x1 x2 x3 M h
    cases h
  | succ n ih =>
    intro x1 x2 x3 M h
    exact bm_room_9b O ih x1 x2 x3 M h
def fm_room (x1 : Int32) (M : Mem) : Option (Int32 × Mem) :=
  stp (up2 M 0 17 0) fun M1 =>
  fm_room_9 600 x1 0 0 M1
set_option maxHeartbeats 4000000 in
theorem bm_room {g : gM} {X : Cxt} {r : Int32} {M' : Mem} (O : OkM g X cX20_room 7 (some .int) 3 (mQi g r M')) (x1 : Int32) (M : Mem) (h : fm_room x1 M = some (r, M')) : V X 7 0 (WdM g M) 0 [(0, .ref (gMa g 0)), (1, .int x1)] [] := by
  unfold fm_room at h
  refine v_aload_n O.1 dX20_room_0 rfl (q := 1) rfl ?_
  refine v_iconst O.1 dX20_room_1 (v := 0) rfl (q := 2) rfl ?_
  obtain ⟨M1, e1, h⟩ := stp_some h
  refine m_put O 17 (ty := .int) (by decide) q1749 rfl rfl rfl rfl rfl rfl dX20_room_2 (q := 5) rfl e1 ?_
  refine v_iconst O.1 dX20_room_5 (v := 0) rfl (q := 6) rfl ?_
  refine v_istore_n (lv' := [(2, .int 0), (0, .ref (gMa g 0)), (1, .int x1)]) O.1 dX20_room_6 (by decide) rfl (q := 7) rfl ?_
  refine v_iconst O.1 dX20_room_7 (v := 0) rfl (q := 8) rfl ?_
  refine v_istore_n (lv' := [(3, .int 0), (2, .int 0), (0, .ref (gMa g 0)), (1, .int x1)]) O.1 dX20_room_8 (by decide) rfl (q := 9) rfl ?_
  exact v_sub [2, 3, 1, 0] rfl (bm_room_9 O 600 x1 0 0 M1 h)
theorem met_room (l : Launch) (g : gM) (x1 : Int32) (M M' : Mem) (r : Int32) (h : fm_room x1 M = some (r, M')) : MetM l g yX20_room cX20_room 7 (some .int) 3 [.ref (gMa g 0), .int x1] M (mQi g r M') :=
  m_met (by decide) rfl (Nat.le_of_ble_eq_true rfl) (fun X O => bm_room O x1 M h)
