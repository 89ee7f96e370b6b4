/-! ofInt(I)I -/
def fm_ofInt_28 (x1 : Int64) (y0 : Int32) (M : Mem) : Option (Int32 × Mem) :=
  bnd (fm_rounded y0 x1 0 0 M) fun r1 M1 =>
  some (r1, M1)
set_option maxHeartbeats 4000000 in
theorem bm_ofInt_28 {g : gM} {X : Cxt} {r : Int32} {M' : Mem} (O : OkM g X cX20_ofInt 3 (some .int) 2 (mQi g r M')) (x1 : Int64) (y0 : Int32) (M : Mem) (h : fm_ofInt_28 x1 y0 M = some (r, M')) : V X 3 0 (WdM g M) 28 [(1, .long x1)] [.int y0] := by
  unfold fm_ofInt_28 at h
  refine v_lload_n O.1 dX20_ofInt_28 rfl (q := 29) rfl ?_
  refine v_iconst O.1 dX20_ofInt_29 (v := 0) rfl (q := 30) rfl ?_
  refine v_iconst O.1 dX20_ofInt_30 (v := 0) rfl (q := 31) rfl ?_
  obtain ⟨r1, M1, e1, h⟩ := bnd_some h
  refine m_callSi (As := [.int y0, .long x1, .int 0, .int 0]) (rest := []) (n := 4) O (met_rounded _ g y0 x1 0 0 M M1 r1 e1) (lw_S q1966 q1967 q84 q1968) (by decide +kernel) (by decide) (by decide) rfl rfl (Nat.le_of_ble_eq_true rfl) dX20_ofInt_31 (q := 34) rfl ?_
  exact m_iret O h dX20_ofInt_34
def fm_ofInt_18 (x0 : Int32) (y0 : Int64) (M : Mem) : Option (Int32 × Mem) :=
  if 0 ≤ x0 then
    fm_ofInt_28 y0 0 M
  else
    fm_ofInt_28 y0 1 M
set_option maxHeartbeats 4000000 in
theorem bm_ofInt_18 {g : gM} {X : Cxt} {r : Int32} {M' : Mem} (O : OkM g X cX20_ofInt 3 (some .int) 2 (mQi g r M')) (x0 : Int32) (y0 : Int64) (M : Mem) (h : fm_ofInt_18 x0 y0 M = some (r, M')) : V X 3 0 (WdM g M) 18 [(0, .int x0)] [.long y0] := by
  unfold fm_ofInt_18 at h
  refine v_lstore_n (lv' := [(1, .long y0), (0, .int x0)]) O.1 dX20_ofInt_18 (by decide) rfl (q := 19) rfl ?_
  refine v_iload_n O.1 dX20_ofInt_19 rfl (q := 20) rfl ?_
  refine v_if_ge O.1 dX20_ofInt_20 (t := 27) (by decide) (q := 23) rfl (fun c1 => ?_) (fun c1 => ?_)
  · rw [if_pos c1] at h
    refine v_iconst O.1 dX20_ofInt_27 (v := 0) rfl (q := 28) rfl ?_
    exact v_sub [0] rfl (bm_ofInt_28 O y0 0 M h)
  · rw [if_neg c1] at h
    refine v_iconst O.1 dX20_ofInt_23 (v := 1) rfl (q := 24) rfl ?_
    refine v_goto O.1 dX20_ofInt_24 (t := 28) (by decide) ?_
    exact v_sub [0] rfl (bm_ofInt_28 O y0 1 M h)
def fm_ofInt (x0 : Int32) (M : Mem) : Option (Int32 × Mem) :=
  if x0 = 0 then
    some (0, M)
  else
    if 0 ≤ x0 then
      fm_ofInt_18 x0 x0.toInt64 M
    else
      fm_ofInt_18 x0 (-x0.toInt64) M
set_option maxHeartbeats 4000000 in
theorem bm_ofInt {g : gM} {X : Cxt} {r : Int32} {M' : Mem} (O : OkM g X cX20_ofInt 3 (some .int) 2 (mQi g r M')) (x0 : Int32) (M : Mem) (h : fm_ofInt x0 M = some (r, M')) : V X 3 0 (WdM g M) 0 [(0, .int x0)] [] := by
  unfold fm_ofInt at h
  refine v_iload_n O.1 dX20_ofInt_0 rfl (q := 1) rfl ?_
  refine v_if_ne O.1 dX20_ofInt_1 (t := 6) (by decide) (q := 4) rfl (fun c1 => ?_) (fun c1 => ?_)
  · rw [if_neg c1] at h
    refine v_iload_n O.1 dX20_ofInt_6 rfl (q := 7) rfl ?_
    refine v_if_ge O.1 dX20_ofInt_7 (t := 16) (by decide) (q := 10) rfl (fun c2 => ?_) (fun c2 => ?_)
    · rw [if_pos c2] at h
      refine v_iload_n O.1 dX20_ofInt_16 rfl (q := 17) rfl ?_
      refine v_i2l O.1 dX20_ofInt_17 (q := 18) rfl ?_
      exact v_sub [0] rfl (bm_ofInt_18 O x0 x0.toInt64 M h)
    · rw [if_neg c2] at h
      refine v_iload_n O.1 dX20_ofInt_10 rfl (q := 11) rfl ?_
      refine v_i2l O.1 dX20_ofInt_11 (q := 12) rfl ?_
      refine v_lneg O.1 dX20_ofInt_12 (q := 13) rfl ?_
      refine v_goto O.1 dX20_ofInt_13 (t := 18) (by decide) ?_
      exact v_sub [0] rfl (bm_ofInt_18 O x0 (-x0.toInt64) M h)
  · rw [if_pos c1] at h
    refine v_iconst O.1 dX20_ofInt_4 (v := 0) rfl (q := 5) rfl ?_
    exact m_iret O h dX20_ofInt_5
theorem met_ofInt (l : Launch) (g : gM) (x0 : Int32) (M M' : Mem) (r : Int32) (h : fm_ofInt x0 M = some (r, M')) : MetM l g yX20_ofInt cX20_ofInt 3 (some .int) 2 [.int x0] M (mQi g r M') :=
  m_met (by decide) rfl (Nat.le_of_ble_eq_true rfl) (fun X O => bm_ofInt O x0 M h)
/-! floats([IIIIIII)V -/
def fm_floats_132 (s : Nat)  (M : Mem) : Option (Unit × Mem) :=
  stp (up2 M s 18 1) fun M1 =>
  some ((), M1)
set_option maxHeartbeats 4000000 in
theorem bm_floats_132 {g : gM} {X : Cxt} {r : Unit} {M' : Mem} {s : Nat} (hs : mS s) (O : OkM g X cX20_floats 8 none 3 (mQv g r M'))  (M : Mem) (h : fm_floats_132 s  M = some (r, M')) : V X 8 0 (WdM g M) 132 [(1, .ref (gMa g s))] [] := by
  unfold fm_floats_132 at h
  refine v_aload_n O.1 dX20_floats_132 rfl (q := 133) rfl ?_
  refine v_bipush O.1 dX20_floats_133 (v := 18) (by decide) (q := 135) rfl ?_
  refine v_iconst O.1 dX20_floats_135 (v := 1) rfl (q := 136) rfl ?_
  obtain ⟨M1, e1, h⟩ := stp_some h
  refine m_iast O (mS_i hs) (mS_l hs) (n := 342) (by decide) (by decide) (j := 18) dX20_floats_136 (q := 137) rfl e1 ?_
  exact m_vret O h dX20_floats_137
def fm_floats_30 (s : Nat) (y2 : Int32) (y1 : Int32) (M : Mem) : Option (Unit × Mem) :=
  gd (inb y1 342) <|
  stp (up2 M s y1.toNatClampNeg y2) fun M2 =>
  fm_floats_132 s M2
set_option maxHeartbeats 4000000 in
theorem bm_floats_30 {g : gM} {X : Cxt} {r : Unit} {M' : Mem} {s : Nat} (hs : mS s) (O : OkM g X cX20_floats 8 none 3 (mQv g r M')) (y2 : Int32) (y1 : Int32) (M : Mem) (h : fm_floats_30 s y2 y1 M = some (r, M')) : V X 8 0 (WdM g M) 30 [(1, .ref (gMa g s))] [.int y2, .int y1, .ref (gMa g s)] := by
  unfold fm_floats_30 at h
  obtain ⟨g1, h⟩ := gd_some h
  obtain ⟨M2, e2, h⟩ := stp_some h
  refine m_iast O (mS_i hs) (mS_l hs) (n := 342) g1 rfl (j := y1.toNatClampNeg) dX20_floats_30 (q := 31) rfl e2 ?_
  refine v_goto O.1 dX20_floats_31 (t := 132) (by decide) ?_
  exact v_sub [0] rfl (bm_floats_132 hs O M2 h)
def fm_floats (s : Nat) (x2 : Int32) (x3 : Int32) (x4 : Int32) (x5 : Int32) (x6 : Int32) (x7 : Int32) (M : Mem) : Option (Unit × Mem) :=
  if x2 = 20 then
    if x7 = 0 then
      fm_floats_30 s 0 (8 + x3) M
    else
      bnd (fm_rounded 0 x7.toInt64 (-4) 0 M) fun r24 M24 =>
      fm_floats_30 s r24 (8 + x3) M24
  else
    if x2 = 21 then
      gd (inb (8 + x3) 342) <|
      gd (inb (8 + x4) 342) <|
      bnd (fm_sum (M s (8 + x3).toNatClampNeg) (M s (8 + x4).toNatClampNeg) M) fun r20 M20 =>
      gd (inb (8 + x3) 342) <|
      stp (up2 M20 s (8 + x3).toNatClampNeg r20) fun M22 =>
      fm_floats_132 s M22
    else
      if x2 = 22 then
        gd (inb (8 + x3) 342) <|
        gd (inb (8 + x4) 342) <|
        bnd (fm_product (M s (8 + x3).toNatClampNeg) (M s (8 + x4).toNatClampNeg) M) fun r15 M15 =>
        gd (inb (8 + x3) 342) <|
        stp (up2 M15 s (8 + x3).toNatClampNeg r15) fun M17 =>
        fm_floats_132 s M17
      else
        if x2 = 23 then
          gd (inb (8 + x4) 342) <|
          bnd (fm_toInt (M s (8 + x4).toNatClampNeg) M) fun r10 M10 =>
          gd (inb x5 342) <|
          stp (up2 M10 s x5.toNatClampNeg r10) fun M12 =>
          fm_floats_132 s M12
        else
          gd (inb x6 342) <|
          bnd (fm_ofInt (M s x6.toNatClampNeg) M) fun r6 M6 =>
          gd (inb (8 + x3) 342) <|
          stp (up2 M6 s (8 + x3).toNatClampNeg r6) fun M8 =>
          fm_floats_132 s M8
set_option maxHeartbeats 4000000 in
theorem bm_floats {g : gM} {X : Cxt} {r : Unit} {M' : Mem} {s : Nat} (hs : mS s) (O : OkM g X cX20_floats 8 none 3 (mQv g r M')) (x2 : Int32) (x3 : Int32) (x4 : Int32) (x5 : Int32) (x6 : Int32) (x7 : Int32) (M : Mem) (h : fm_floats s x2 x3 x4 x5 x6 x7 M = some (r, M')) : V X 8 0 (WdM g M) 0 [(0, .ref (gMa g 0)), (1, .ref (gMa g s)), (2, .int x2), (3, .int x3), (4, .int x4), (5, .int x5), (6, .int x6), (7, .int x7)] [] := by
  unfold fm_floats at h
  refine v_iload_n O.1 dX20_floats_0 rfl (q := 1) rfl ?_
  refine v_bipush O.1 dX20_floats_1 (v := 20) (by decide) (q := 3) rfl ?_
  refine v_icmp_ne O.1 dX20_floats_3 (t := 34) (by decide) (q := 6) rfl (fun c1 => ?_) (fun c1 => ?_)
  · rw [if_neg c1] at h
    refine v_iload_n O.1 dX20_floats_34 rfl (q := 35) rfl ?_
    refine v_bipush O.1 dX20_floats_35 (v := 21) (by decide) (q := 37) rfl ?_
    refine v_icmp_ne O.1 dX20_floats_37 (t := 65) (by decide) (q := 40) rfl (fun c2 => ?_) (fun c2 => ?_)
    · rw [if_neg c2] at h
      refine v_iload_n O.1 dX20_floats_65 rfl (q := 66) rfl ?_
      refine v_bipush O.1 dX20_floats_66 (v := 22) (by decide) (q := 68) rfl ?_
      refine v_icmp_ne O.1 dX20_floats_68 (t := 96) (by decide) (q := 71) rfl (fun c3 => ?_) (fun c3 => ?_)
      · rw [if_neg c3] at h
        refine v_iload_n O.1 dX20_floats_96 rfl (q := 97) rfl ?_
        refine v_bipush O.1 dX20_floats_97 (v := 23) (by decide) (q := 99) rfl ?_
        refine v_icmp_ne O.1 dX20_floats_99 (t := 119) (by decide) (q := 102) rfl (fun c4 => ?_) (fun c4 => ?_)
        · rw [if_neg c4] at h
          refine v_aload_n O.1 dX20_floats_119 rfl (q := 120) rfl ?_
          refine v_bipush O.1 dX20_floats_120 (v := 8) (by decide) (q := 122) rfl ?_
          refine v_iload_n O.1 dX20_floats_122 rfl (q := 123) rfl ?_
          refine v_iadd O.1 dX20_floats_123 (q := 124) rfl ?_
          refine v_aload_n O.1 dX20_floats_124 rfl (q := 125) rfl ?_
          refine v_iload O.1 dX20_floats_125 rfl (q := 127) rfl ?_
          obtain ⟨g5, h⟩ := gd_some h
          refine m_iald O (mS_i hs) (mS_l hs) (n := 342) g5 rfl (j := x6.toNatClampNeg) dX20_floats_127 (q := 128) rfl ?_
          obtain ⟨r6, M6, e6, h⟩ := bnd_some h
          refine m_callSi (As := [.int (M s x6.toNatClampNeg)]) (rest := [.int (8 + x3), .ref (gMa g s)]) (n := 1) O (met_ofInt _ g (M s x6.toNatClampNeg) M M6 r6 e6) (lw_S q2016 q2017 q84 q2018) (by decide +kernel) (by decide) (by decide) rfl rfl (Nat.le_of_ble_eq_true rfl) dX20_floats_128 (q := 131) rfl ?_
          obtain ⟨g7, h⟩ := gd_some h
          obtain ⟨M8, e8, h⟩ := stp_some h
          refine m_iast O (mS_i hs) (mS_l hs) (n := 342) g7 rfl (j := (8 + x3).toNatClampNeg) dX20_floats_131 (q := 132) rfl e8 ?_
          exact v_sub [1] rfl (bm_floats_132 hs O M8 h)
        · rw [if_pos c4] at h
          refine v_aload_n O.1 dX20_floats_102 rfl (q := 103) rfl ?_
          refine v_iload O.1 dX20_floats_103 rfl (q := 105) rfl ?_
          refine v_aload_n O.1 dX20_floats_105 rfl (q := 106) rfl ?_
          refine v_bipush O.1 dX20_floats_106 (v := 8) (by decide) (q := 108) rfl ?_
          refine v_iload O.1 dX20_floats_108 rfl (q := 110) rfl ?_
          refine v_iadd O.1 dX20_floats_110 (q := 111) rfl ?_
          obtain ⟨g9, h⟩ := gd_some h
          refine m_iald O (mS_i hs) (mS_l hs) (n := 342) g9 rfl (j := (8 + x4).toNatClampNeg) dX20_floats_111 (q := 112) rfl ?_
          obtain ⟨r10, M10, e10, h⟩ := bnd_some h
          refine m_callSi (As := [.int (M s (8 + x4).toNatClampNeg)]) (rest := [.int x5, .ref (gMa g s)]) (n := 1) O (met_toInt _ g (M s (8 + x4).toNatClampNeg) M M10 r10 e10) (lw_S q2009 q2010 q84 q2011) (by decide +kernel) (by decide) (by decide) rfl rfl (Nat.le_of_ble_eq_true rfl) dX20_floats_112 (q := 115) rfl ?_
          obtain ⟨g11, h⟩ := gd_some h
          obtain ⟨M12, e12, h⟩ := stp_some h
          refine m_iast O (mS_i hs) (mS_l hs) (n := 342) g11 rfl (j := x5.toNatClampNeg) dX20_floats_115 (q := 116) rfl e12 ?_
          refine v_goto O.1 dX20_floats_116 (t := 132) (by decide) ?_
          exact v_sub [1] rfl (bm_floats_132 hs O M12 h)
      · rw [if_pos c3] at h
        refine v_aload_n O.1 dX20_floats_71 rfl (q := 72) rfl ?_
        refine v_bipush O.1 dX20_floats_72 (v := 8) (by decide) (q := 74) rfl ?_
        refine v_iload_n O.1 dX20_floats_74 rfl (q := 75) rfl ?_
        refine v_iadd O.1 dX20_floats_75 (q := 76) rfl ?_
        refine v_aload_n O.1 dX20_floats_76 rfl (q := 77) rfl ?_
        refine v_bipush O.1 dX20_floats_77 (v := 8) (by decide) (q := 79) rfl ?_
        refine v_iload_n O.1 dX20_floats_79 rfl (q := 80) rfl ?_
        refine v_iadd O.1 dX20_floats_80 (q := 81) rfl ?_
        obtain ⟨g13, h⟩ := gd_some h
        refine m_iald O (mS_i hs) (mS_l hs) (n := 342) g13 rfl (j := (8 + x3).toNatClampNeg) dX20_floats_81 (q := 82) rfl ?_
        refine v_aload_n O.1 dX20_floats_82 rfl (q := 83) rfl ?_
        refine v_bipush O.1 dX20_floats_83 (v := 8) (by decide) (q := 85) rfl ?_
        refine v_iload O.1 dX20_floats_85 rfl (q := 87) rfl ?_
        refine v_iadd O.1 dX20_floats_87 (q := 88) rfl ?_
        obtain ⟨g14, h⟩ := gd_some h
        refine m_iald O (mS_i hs) (mS_l hs) (n := 342) g14 rfl (j := (8 + x4).toNatClampNeg) dX20_floats_88 (q := 89) rfl ?_
        obtain ⟨r15, M15, e15, h⟩ := bnd_some h
        refine m_callSi (As := [.int (M s (8 + x3).toNatClampNeg), .int (M s (8 + x4).toNatClampNeg)]) (rest := [.int (8 + x3), .ref (gMa g s)]) (n := 2) O (met_product _ g (M s (8 + x3).toNatClampNeg) (M s (8 + x4).toNatClampNeg) M M15 r15 e15) (lw_S q1979 q1980 q84 q1981) (by decide +kernel) (by decide) (by decide) rfl rfl (Nat.le_of_ble_eq_true rfl) dX20_floats_89 (q := 92) rfl ?_
        obtain ⟨g16, h⟩ := gd_some h
        obtain ⟨M17, e17, h⟩ := stp_some h
        refine m_iast O (mS_i hs) (mS_l hs) (n := 342) g16 rfl (j := (8 + x3).toNatClampNeg) dX20_floats_92 (q := 93) rfl e17 ?_
        refine v_goto O.1 dX20_floats_93 (t := 132) (by decide) ?_
        exact v_sub [1] rfl (bm_floats_132 hs O M17 h)
    · rw [if_pos c2] at h
      refine v_aload_n O.1 dX20_floats_40 rfl (q := 41) rfl ?_
      refine v_bipush O.1 dX20_floats_41 (v := 8) (by decide) (q := 43) rfl ?_
      refine v_iload_n O.1 dX20_floats_43 rfl (q := 44) rfl ?_
      refine v_iadd O.1 dX20_floats_44 (q := 45) rfl ?_
      refine v_aload_n O.1 dX20_floats_45 rfl (q := 46) rfl ?_
      refine v_bipush O.1 dX20_floats_46 (v := 8) (by decide) (q := 48) rfl ?_
      refine v_iload_n O.1 dX20_floats_48 rfl (q := 49) rfl ?_
      refine v_iadd O.1 dX20_floats_49 (q := 50) rfl ?_
      obtain ⟨g18, h⟩ := gd_some h
      refine m_iald O (mS_i hs) (mS_l hs) (n := 342) g18 rfl (j := (8 + x3).toNatClampNeg) dX20_floats_50 (q := 51) rfl ?_
      refine v_aload_n O.1 dX20_floats_51 rfl (q := 52) rfl ?_
      refine v_bipush O.1 dX20_floats_52 (v := 8) (by decide) (q := 54) rfl ?_
      refine v_iload O.1 dX20_floats_54 rfl (q := 56) rfl ?_
      refine v_iadd O.1 dX20_floats_56 (q := 57) rfl ?_
      obtain ⟨g19, h⟩ := gd_some h
      refine m_iald O (mS_i hs) (mS_l hs) (n := 342) g19 rfl (j := (8 + x4).toNatClampNeg) dX20_floats_57 (q := 58) rfl ?_
      obtain ⟨r20, M20, e20, h⟩ := bnd_some h
      refine m_callSi (As := [.int (M s (8 + x3).toNatClampNeg), .int (M s (8 + x4).toNatClampNeg)]) (rest := [.int (8 + x3), .ref (gMa g s)]) (n := 2) O (met_sum _ g (M s (8 + x3).toNatClampNeg) (M s (8 + x4).toNatClampNeg) M M20 r20 e20) (lw_S q1954 q1955 q84 q1956) (by decide +kernel) (by decide) (by decide) rfl rfl (Nat.le_of_ble_eq_true rfl) dX20_floats_58 (q := 61) rfl ?_
      obtain ⟨g21, h⟩ := gd_some h
      obtain ⟨M22, e22, h⟩ := stp_some h
      refine m_iast O (mS_i hs) (mS_l hs) (n := 342) g21 rfl (j := (8 + x3).toNatClampNeg) dX20_floats_61 (q := 62) rfl e22 ?_
      refine v_goto O.1 dX20_floats_62 (t := 132) (by decide) ?_
      exact v_sub [1] rfl (bm_floats_132 hs O M22 h)
  · rw [if_pos c1] at h
    refine v_aload_n O.1 dX20_floats_6 rfl (q := 7) rfl ?_
    refine v_bipush O.1 dX20_floats_7 (v := 8) (by decide) (q := 9) rfl ?_
    refine v_iload_n O.1 dX20_floats_9 rfl (q := 10) rfl ?_
    refine v_iadd O.1 dX20_floats_10 (q := 11) rfl ?_
    refine v_iload O.1 dX20_floats_11 rfl (q := 13) rfl ?_
    refine v_if_ne O.1 dX20_floats_13 (t := 20) (by decide) (q := 16) rfl (fun c23 => ?_) (fun c23 => ?_)
    · rw [if_neg c23] at h
      refine v_iconst O.1 dX20_floats_20 (v := 0) rfl (q := 21) rfl ?_
      refine v_iload O.1 dX20_floats_21 rfl (q := 23) rfl ?_
      refine v_i2l O.1 dX20_floats_23 (q := 24) rfl ?_
      refine v_bipush O.1 dX20_floats_24 (v := (-4)) (by decide) (q := 26) rfl ?_
      refine v_iconst O.1 dX20_floats_26 (v := 0) rfl (q := 27) rfl ?_
      obtain ⟨r24, M24, e24, h⟩ := bnd_some h
      refine m_callSi (As := [.int 0, .long x7.toInt64, .int (-4), .int 0]) (rest := [.int (8 + x3), .ref (gMa g s)]) (n := 4) O (met_rounded _ g 0 x7.toInt64 (-4) 0 M M24 r24 e24) (lw_S q1966 q1967 q84 q1968) (by decide +kernel) (by decide) (by decide) rfl rfl (Nat.le_of_ble_eq_true rfl) dX20_floats_27 (q := 30) rfl ?_
      exact v_sub [1] rfl (bm_floats_30 hs O r24 (8 + x3) M24 h)
    · rw [if_pos c23] at h
      refine v_iconst O.1 dX20_floats_16 (v := 0) rfl (q := 17) rfl ?_
      refine v_goto O.1 dX20_floats_17 (t := 30) (by decide) ?_
      exact v_sub [1] rfl (bm_floats_30 hs O 0 (8 + x3) M h)
theorem met_floats (l : Launch) (g : gM) (s : Nat) (hs : mS s) (x2 : Int32) (x3 : Int32) (x4 : Int32) (x5 : Int32) (x6 : Int32) (x7 : Int32) (M M' : Mem) (r : Unit) (h : fm_floats s x2 x3 x4 x5 x6 x7 M = some (r, M')) : MetM l g yX20_floats cX20_floats 8 none 3 [.ref (gMa g 0), .ref (gMa g s), .int x2, .int x3, .int x4, .int x5, .int x6, .int x7] M (mQv g r M') :=
  m_met (by decide) rfl (Nat.le_of_ble_eq_true rfl) (fun X O => bm_floats hs O x2 x3 x4 x5 x6 x7 M h)
/-! mod(II)I -/
def fm_mod (x0 : Int32) (x1 : Int32) (M : Mem) : Option (Int32 × Mem) :=
  gd (decide (¬ x1 = 0)) <|
  gd (decide (¬ x1 = 0)) <|
  some ((((x0 - x0 / x1 * x1) + x1) - ((x0 - x0 / x1 * x1) + x1) / x1 * x1), M)
set_option maxHeartbeats 4000000 in
theorem bm_mod {g : gM} {X : Cxt} {r : Int32} {M' : Mem} (O : OkM g X cX20_mod 2 (some .int) 0 (mQi g r M')) (x0 : Int32) (x1 : Int32) (M : Mem) (h : fm_mod x0 x1 M = some (r, M')) : V X 2 0 (WdM g M) 0 [(0, .int x0), (1, .int x1)] [] := by
  unfold fm_mod at h
  refine v_iload_n O.1 dX20_mod_0 rfl (q := 1) rfl ?_
  refine v_iload_n O.1 dX20_mod_1 rfl (q := 2) rfl ?_
  obtain ⟨g1, h⟩ := gd_some h
  refine v_irem O.1 dX20_mod_2 (of_decide_eq_true g1) (q := 3) rfl ?_
  refine v_iload_n O.1 dX20_mod_3 rfl (q := 4) rfl ?_
  refine v_iadd O.1 dX20_mod_4 (q := 5) rfl ?_
  refine v_iload_n O.1 dX20_mod_5 rfl (q := 6) rfl ?_
  obtain ⟨g2, h⟩ := gd_some h
  refine v_irem O.1 dX20_mod_6 (of_decide_eq_true g2) (q := 7) rfl ?_
  exact m_iret O h dX20_mod_7
theorem met_mod (l : Launch) (g : gM) (x0 : Int32) (x1 : Int32) (M M' : Mem) (r : Int32) (h : fm_mod x0 x1 M = some (r, M')) : MetM l g yX20_mod cX20_mod 2 (some .int) 0 [.int x0, .int x1] M (mQi g r M') :=
  m_met (by decide) rfl (Nat.le_of_ble_eq_true rfl) (fun X O => bm_mod O x0 x1 M h)
/-! tells(I)V -/
def fm_tells_33  (M : Mem) : Option (Unit × Mem) :=
  stp (up2 M 6 15 ((M 6 15) + 1)) fun M1 =>
  some ((), M1)
set_option maxHeartbeats 4000000 in
theorem bm_tells_33 {g : gM} {X : Cxt} {r : Unit} {M' : Mem} (O : OkM g X cX20_tells 2 none 0 (mQv g r M'))  (M : Mem) (h : fm_tells_33  M = some (r, M')) : V X 2 0 (WdM g M) 33 [(0, .ref (gMa g 0))] [] := by
  unfold fm_tells_33 at h
  refine v_aload_n O.1 dX20_tells_33 rfl (q := 34) rfl ?_
  refine m_get O 6 (v := .ref (gMa g 6)) (by decide) q1738 rfl rfl dX20_tells_34 (q := 37) rfl ?_
  refine v_bipush O.1 dX20_tells_37 (v := 15) (by decide) (q := 39) rfl ?_
  refine v_dup2 O.1 dX20_tells_39 rfl rfl (q := 40) rfl ?_
  refine m_iald O rfl rfl (n := 17) (by decide) (by decide) (j := 15) dX20_tells_40 (q := 41) rfl ?_
  refine v_iconst O.1 dX20_tells_41 (v := 1) rfl (q := 42) rfl ?_
  refine v_iadd O.1 dX20_tells_42 (q := 43) rfl ?_
  obtain ⟨M1, e1, h⟩ := stp_some h
  refine m_iast O rfl rfl (n := 17) (by decide) (by decide) (j := 15) dX20_tells_43 (q := 44) rfl e1 ?_
  exact m_vret O h dX20_tells_44
def fm_tells (x1 : Int32) (M : Mem) : Option (Unit × Mem) :=
  if (M 0 14) = 0 then
    some ((), M)
  else
    if 64 ≤ (M 6 15) then
      fm_tells_33 M
    else
      gd (inb (M 6 15) 64) <|
      stp (up2 M 11 (M 6 15).toNatClampNeg x1) fun M4 =>
      fm_tells_33 M4
set_option maxHeartbeats 4000000 in
theorem bm_tells {g : gM} {X : Cxt} {r : Unit} {M' : Mem} (O : OkM g X cX20_tells 2 none 0 (mQv g r M')) (x1 : Int32) (M : Mem) (h : fm_tells x1 M = some (r, M')) : V X 2 0 (WdM g M) 0 [(0, .ref (gMa g 0)), (1, .int x1)] [] := by
  unfold fm_tells at h
  refine v_aload_n O.1 dX20_tells_0 rfl (q := 1) rfl ?_
  refine m_get O 14 (v := .int (M 0 14)) (by decide) q1746 rfl rfl dX20_tells_1 (q := 4) rfl ?_
  refine v_if_ne O.1 dX20_tells_4 (t := 8) (by decide) (q := 7) rfl (fun c1 => ?_) (fun c1 => ?_)
  · rw [if_neg c1] at h
    refine v_aload_n O.1 dX20_tells_8 rfl (q := 9) rfl ?_
    refine m_get O 6 (v := .ref (gMa g 6)) (by decide) q1738 rfl rfl dX20_tells_9 (q := 12) rfl ?_
    refine v_bipush O.1 dX20_tells_12 (v := 15) (by decide) (q := 14) rfl ?_
    refine m_iald O rfl rfl (n := 17) (by decide) (by decide) (j := 15) dX20_tells_14 (q := 15) rfl ?_
    refine v_bipush O.1 dX20_tells_15 (v := 64) (by decide) (q := 17) rfl ?_
    refine v_icmp_ge O.1 dX20_tells_17 (t := 33) (by decide) (q := 20) rfl (fun c2 => ?_) (fun c2 => ?_)
    · rw [if_pos c2] at h
      exact v_sub [0] rfl (bm_tells_33 O M h)
    · rw [if_neg c2] at h
      refine v_aload_n O.1 dX20_tells_20 rfl (q := 21) rfl ?_
      refine m_get O 12 (v := .ref (gMa g 11)) (by decide) q1744 rfl rfl dX20_tells_21 (q := 24) rfl ?_
      refine v_aload_n O.1 dX20_tells_24 rfl (q := 25) rfl ?_
      refine m_get O 6 (v := .ref (gMa g 6)) (by decide) q1738 rfl rfl dX20_tells_25 (q := 28) rfl ?_
      refine v_bipush O.1 dX20_tells_28 (v := 15) (by decide) (q := 30) rfl ?_
      refine m_iald O rfl rfl (n := 17) (by decide) (by decide) (j := 15) dX20_tells_30 (q := 31) rfl ?_
      refine v_iload_n O.1 dX20_tells_31 rfl (q := 32) rfl ?_
      obtain ⟨g3, h⟩ := gd_some h
      obtain ⟨M4, e4, h⟩ := stp_some h
      refine m_iast O rfl rfl (n := 64) g3 rfl (j := (M 6 15).toNatClampNeg) dX20_tells_32 (q := 33) rfl e4 ?_
      exact v_sub [0] rfl (bm_tells_33 O M4 h)
  · rw [if_pos c1] at h
    exact m_vret O h dX20_tells_7
theorem met_tells (l : Launch) (g : gM) (x1 : Int32) (M M' : Mem) (r : Unit) (h : fm_tells x1 M = some (r, M')) : MetM l g yX20_tells cX20_tells 2 none 0 [.ref (gMa g 0), .int x1] M (mQv g r M') :=
  m_met (by decide) rfl (Nat.le_of_ble_eq_true rfl) (fun X O => bm_tells O x1 M h)
/-! instructs([I)V -/
def fm_instructs_412 (s : Nat)  (M : Mem) : Option (Unit × Mem) :=
  some ((), M)
set_option maxHeartbeats 4000000 in
theorem bm_instructs_412 {g : gM} {X : Cxt} {r : Unit} {M' : Mem} {s : Nat} (hs : mS s) (O : OkM g X cX20_instructs 9 none 6 (mQv g r M'))  (M : Mem) (h : fm_instructs_412 s  M = some (r, M')) : V X 9 0 (WdM g M) 412 [] [] := by
  unfold fm_instructs_412 at h
  exact m_vret O h dX20_instructs_412
def fm_instructs_72 (s : Nat) (x2 : Int32) (x3 : Int32) (x4 : Int32) (x5 : Int32) (M : Mem) : Option (Unit × Mem) :=
  bnd (fm_faultOf s x3 x4 x5 M) fun r1 M1 =>
  if r1 < 0 then
    bnd (fm_counts 10 M1) fun r3 M3 =>
    gd (inb x3 30) <|
    stp (up2 M3 s 22 ((mTakes x3.toNatClampNeg) - 1)) fun M5 =>
    gd (inb x3 30) <|
    stp (up2 M5 s 12 ((x2 + (mLong x3.toNatClampNeg)) - (x2 + (mLong x3.toNatClampNeg)) / 512 * 512)) fun M7 =>
    if x3 = 1 then
      gd (inb (0 + (x4 &&& 7)) 342) <|
      stp (up2 M7 s (0 + (x4 &&& 7)).toNatClampNeg x5) fun M45 =>
      fm_instructs_412 s M45
    else
      if 8 ≤ x3 then
        if x3 = 8 then
          gd (inb (0 + (x5 &&& 7)) 342) <|
          gd (inb (0 + (x4 &&& 7)) 342) <|
          stp (up2 M7 s (0 + (x4 &&& 7)).toNatClampNeg (M7 s (0 + (x5 &&& 7)).toNatClampNeg)) fun M39 =>
          fm_instructs_412 s M39
        else
          if 14 ≤ x3 then
            if 20 ≤ x3 then
              if 25 ≤ x3 then
                if x3 = 25 then
                  gd (inb (0 + (x5 &&& 7)) 342) <|
                  bnd (fm_mod (M7 s (0 + (x5 &&& 7)).toNatClampNeg) 256 M7) fun r31 M31 =>
                  gd (inb (173 + (x4 - x4 / 20 * 20)) 342) <|
                  stp (up2 M31 s (173 + (x4 - x4 / 20 * 20)).toNatClampNeg r31) fun M33 =>
                  fm_instructs_412 s M33
                else
                  if x3 = 26 then
                    gd (inb ((56 + (M7 s 15)) - 2) 342) <|
                    bnd (fm_mod ((M7 s ((56 + (M7 s 15)) - 2).toNatClampNeg) + x4) 512 M7) fun r27 M27 =>
                    gd (inb ((56 + (M7 s 15)) - 2) 342) <|
                    stp (up2 M27 s ((56 + (M7 s 15)) - 2).toNatClampNeg r27) fun M29 =>
                    fm_instructs_412 s M29
                  else
                    if x3 = 27 then
                      gd (inb (0 + (x4 &&& 7)) 342) <|
                      bnd (fm_tells (M7 s (0 + (x4 &&& 7)).toNatClampNeg) M7) fun r25 M25 =>
                      fm_instructs_412 s M25
                    else
                      if x3 = 28 then
                        gd (inb (40 + (x5 &&& 15)) 342) <|
                        gd (inb (0 + (x4 &&& 7)) 342) <|
                        stp (up2 M7 s (0 + (x4 &&& 7)).toNatClampNeg (M7 s (40 + (x5 &&& 15)).toNatClampNeg)) fun M23 =>
                        fm_instructs_412 s M23
                      else
                        gd (inb (0 + (x4 &&& 7)) 342) <|
                        gd (inb (40 + (x5 &&& 15)) 342) <|
                        stp (up2 M7 s (40 + (x5 &&& 15)).toNatClampNeg (M7 s (0 + (x4 &&& 7)).toNatClampNeg)) fun M20 =>
                        fm_instructs_412 s M20
              else
                bnd (fm_floats s x3 (x4 &&& 3) (x5 &&& 3) (0 + (x4 &&& 7)) (0 + (x5 &&& 7)) x5 M7) fun r34 M34 =>
                fm_instructs_412 s M34
            else
              bnd (fm_rules s x3 x4 M7) fun r35 M35 =>
              fm_instructs_412 s M35
          else
            bnd (fm_moves s x3 (0 + (x4 &&& 7)) (((256 * x4) + x5) - ((256 * x4) + x5) / 512 * 512) M7) fun r36 M36 =>
            fm_instructs_412 s M36
      else
        gd (inb (0 + (x4 &&& 7)) 342) <|
        gd (inb (0 + (x5 &&& 7)) 342) <|
        bnd (fm_made x3 (M7 s (0 + (x4 &&& 7)).toNatClampNeg) (M7 s (0 + (x5 &&& 7)).toNatClampNeg) x5 M7) fun r42 M42 =>
        bnd (fm_comes s (x4 &&& 7) r42 M42) fun r43 M43 =>
        fm_instructs_412 s M43
  else
    bnd (fm_raises s r1 M1) fun r46 M46 =>
    some ((), M46)
set_option maxHeartbeats 4000000 in
theorem bm_instructs_72 {g : gM} {X : Cxt} {r : Unit} {M' : Mem} {s : Nat} (hs : mS s) (O : OkM g X cX20_instructs 9 none 6 (mQv g r M')) (x2 : Int32) (x3 : Int32) (x4 : Int32) (x5 : Int32) (M : Mem) (h : fm_instructs_72 s x2 x3 x4 x5 M = some (r, M')) : V X 9 0 (WdM g M) 72 [(0, .ref (gMa g 0)), (1, .ref (gMa g s)), (2, .int x2), (3, .int x3), (4, .int x4), (5, .int x5)] [] := by
  unfold fm_instructs_72 at h
  refine v_aload_n O.1 dX20_instructs_72 rfl (q := 73) rfl ?_
  refine v_aload_n O.1 dX20_instructs_73 rfl (q := 74) rfl ?_
  refine v_iload_n O.1 dX20_instructs_74 rfl (q := 75) rfl ?_
  refine v_iload O.1 dX20_instructs_75 rfl (q := 77) rfl ?_
  refine v_iload O.1 dX20_instructs_77 rfl (q := 79) rfl ?_
  obtain ⟨r1, M1, e1, h⟩ := bnd_some h
  refine m_callVi (As := [.ref (gMa g s), .int x3, .int x4, .int x5]) (rest := []) (n := 4) O (met_faultOf _ g s hs x3 x4 x5 M M1 r1 e1) (lw_V q1950 q1952 qs41 q84 q1953) (by decide +kernel) (by decide) (by decide) rfl rfl (Nat.le_of_ble_eq_true rfl) dX20_instructs_79 (q := 82) rfl ?_
  refine v_istore (lv' := [(6, .int r1), (0, .ref (gMa g 0)), (1, .ref (gMa g s)), (2, .int x2), (3, .int x3), (4, .int x4), (5, .int x5)]) O.1 dX20_instructs_82 (by decide) rfl (q := 84) rfl ?_
  refine v_iload O.1 dX20_instructs_84 rfl (q := 86) rfl ?_
  refine v_if_lt O.1 dX20_instructs_86 (t := 98) (by decide) (q := 89) rfl (fun c2 => ?_) (fun c2 => ?_)
  · rw [if_pos c2] at h
    refine v_aload_n O.1 dX20_instructs_98 rfl (q := 99) rfl ?_
    refine v_bipush O.1 dX20_instructs_99 (v := 10) (by decide) (q := 101) rfl ?_
    obtain ⟨r3, M3, e3, h⟩ := bnd_some h
    refine m_callVv (As := [.int 10]) (rest := []) (n := 1) O (met_counts _ g 10 M1 M3 r3 e3) (lw_V q1849 q1851 qs23 q84 q1852) (by decide +kernel) (by decide) (by decide) rfl rfl (Nat.le_of_ble_eq_true rfl) dX20_instructs_101 (q := 104) rfl ?_
    refine v_aload_n O.1 dX20_instructs_104 rfl (q := 105) rfl ?_
    refine v_bipush O.1 dX20_instructs_105 (v := 22) (by decide) (q := 107) rfl ?_
    refine m_takes O q1982 dX20_instructs_107 (q := 110) rfl ?_
    refine v_iload_n O.1 dX20_instructs_110 rfl (q := 111) rfl ?_
    obtain ⟨g4, h⟩ := gd_some h
    refine m_takesat O g4 dX20_instructs_111 (q := 112) rfl ?_
    refine v_iconst O.1 dX20_instructs_112 (v := 1) rfl (q := 113) rfl ?_
    refine v_isub O.1 dX20_instructs_113 (q := 114) rfl ?_
    obtain ⟨M5, e5, h⟩ := stp_some h
    refine m_iast O (mS_i hs) (mS_l hs) (n := 342) (by decide) (by decide) (j := 22) dX20_instructs_114 (q := 115) rfl e5 ?_
    refine v_aload_n O.1 dX20_instructs_115 rfl (q := 116) rfl ?_
    refine v_bipush O.1 dX20_instructs_116 (v := 12) (by decide) (q := 118) rfl ?_
    refine v_iload_n O.1 dX20_instructs_118 rfl (q := 119) rfl ?_
    refine m_long O q1984 dX20_instructs_119 (q := 122) rfl ?_
    refine v_iload_n O.1 dX20_instructs_122 rfl (q := 123) rfl ?_
    obtain ⟨g6, h⟩ := gd_some h
    refine m_longat O g6 dX20_instructs_123 (q := 124) rfl ?_
    refine v_iadd O.1 dX20_instructs_124 (q := 125) rfl ?_
    refine v_sipush O.1 dX20_instructs_125 (v := 512) (by decide) (q := 128) rfl ?_
    refine v_irem O.1 dX20_instructs_128 (by decide) (q := 129) rfl ?_
    obtain ⟨M7, e7, h⟩ := stp_some h
    refine m_iast O (mS_i hs) (mS_l hs) (n := 342) (by decide) (by decide) (j := 12) dX20_instructs_129 (q := 130) rfl e7 ?_
    refine v_iconst O.1 dX20_instructs_130 (v := 0) rfl (q := 131) rfl ?_
    refine v_iload O.1 dX20_instructs_131 rfl (q := 133) rfl ?_
    refine v_bipush O.1 dX20_instructs_133 (v := 7) (by decide) (q := 135) rfl ?_
    refine v_iand O.1 dX20_instructs_135 (q := 136) rfl ?_
    refine v_iadd O.1 dX20_instructs_136 (q := 137) rfl ?_
    refine v_istore (lv' := [(7, .int (0 + (x4 &&& 7))), (6, .int r1), (0, .ref (gMa g 0)), (1, .ref (gMa g s)), (2, .int x2), (3, .int x3), (4, .int x4), (5, .int x5)]) O.1 dX20_instructs_137 (by decide) rfl (q := 139) rfl ?_
    refine v_iconst O.1 dX20_instructs_139 (v := 0) rfl (q := 140) rfl ?_
    refine v_iload O.1 dX20_instructs_140 rfl (q := 142) rfl ?_
    refine v_bipush O.1 dX20_instructs_142 (v := 7) (by decide) (q := 144) rfl ?_
    refine v_iand O.1 dX20_instructs_144 (q := 145) rfl ?_
    refine v_iadd O.1 dX20_instructs_145 (q := 146) rfl ?_
    refine v_istore (lv' := [(8, .int (0 + (x5 &&& 7))), (7, .int (0 + (x4 &&& 7))), (6, .int r1), (0, .ref (gMa g 0)), (1, .ref (gMa g s)), (2, .int x2), (3, .int x3), (4, .int x4), (5, .int x5)]) O.1 dX20_instructs_146 (by decide) rfl (q := 148) rfl ?_
    refine v_iload_n O.1 dX20_instructs_148 rfl (q := 149) rfl ?_
    refine v_iconst O.1 dX20_instructs_149 (v := 1) rfl (q := 150) rfl ?_
    refine v_icmp_ne O.1 dX20_instructs_150 (t := 162) (by decide) (q := 153) rfl (fun c8 => ?_) (fun c8 => ?_)
    · rw [if_neg c8] at h
      refine v_iload_n O.1 dX20_instructs_162 rfl (q := 163) rfl ?_
      refine v_bipush O.1 dX20_instructs_163 (v := 8) (by decide) (q := 165) rfl ?_
      refine v_icmp_ge O.1 dX20_instructs_165 (t := 195) (by decide) (q := 168) rfl (fun c9 => ?_) (fun c9 => ?_)
      · rw [if_pos c9] at h
        refine v_iload_n O.1 dX20_instructs_195 rfl (q := 196) rfl ?_
        refine v_bipush O.1 dX20_instructs_196 (v := 8) (by decide) (q := 198) rfl ?_
        refine v_icmp_ne O.1 dX20_instructs_198 (t := 212) (by decide) (q := 201) rfl (fun c10 => ?_) (fun c10 => ?_)
        · rw [if_neg c10] at h
          refine v_iload_n O.1 dX20_instructs_212 rfl (q := 213) rfl ?_
          refine v_bipush O.1 dX20_instructs_213 (v := 14) (by decide) (q := 215) rfl ?_
          refine v_icmp_ge O.1 dX20_instructs_215 (t := 242) (by decide) (q := 218) rfl (fun c11 => ?_) (fun c11 => ?_)
          · rw [if_pos c11] at h
            refine v_iload_n O.1 dX20_instructs_242 rfl (q := 243) rfl ?_
            refine v_bipush O.1 dX20_instructs_243 (v := 20) (by decide) (q := 245) rfl ?_
            refine v_icmp_ge O.1 dX20_instructs_245 (t := 259) (by decide) (q := 248) rfl (fun c12 => ?_) (fun c12 => ?_)
            · rw [if_pos c12] at h
              refine v_iload_n O.1 dX20_instructs_259 rfl (q := 260) rfl ?_
              refine v_bipush O.1 dX20_instructs_260 (v := 25) (by decide) (q := 262) rfl ?_
              refine v_icmp_ge O.1 dX20_instructs_262 (t := 288) (by decide) (q := 265) rfl (fun c13 => ?_) (fun c13 => ?_)
              · rw [if_pos c13] at h
                refine v_iload_n O.1 dX20_instructs_288 rfl (q := 289) rfl ?_
                refine v_bipush O.1 dX20_instructs_289 (v := 25) (by decide) (q := 291) rfl ?_
                refine v_icmp_ne O.1 dX20_instructs_291 (t := 318) (by decide) (q := 294) rfl (fun c14 => ?_) (fun c14 => ?_)
                · rw [if_neg c14] at h
                  refine v_iload_n O.1 dX20_instructs_318 rfl (q := 319) rfl ?_
                  refine v_bipush O.1 dX20_instructs_319 (v := 26) (by decide) (q := 321) rfl ?_
                  refine v_icmp_ne O.1 dX20_instructs_321 (t := 358) (by decide) (q := 324) rfl (fun c15 => ?_) (fun c15 => ?_)
                  · rw [if_neg c15] at h
                    refine v_iload_n O.1 dX20_instructs_358 rfl (q := 359) rfl ?_
                    refine v_bipush O.1 dX20_instructs_359 (v := 27) (by decide) (q := 361) rfl ?_
                    refine v_icmp_ne O.1 dX20_instructs_361 (t := 375) (by decide) (q := 364) rfl (fun c16 => ?_) (fun c16 => ?_)
                    · rw [if_neg c16] at h
                      refine v_iload_n O.1 dX20_instructs_375 rfl (q := 376) rfl ?_
                      refine v_bipush O.1 dX20_instructs_376 (v := 28) (by decide) (q := 378) rfl ?_
                      refine v_icmp_ne O.1 dX20_instructs_378 (t := 398) (by decide) (q := 381) rfl (fun c17 => ?_) (fun c17 => ?_)
                      · rw [if_neg c17] at h
                        refine v_aload_n O.1 dX20_instructs_398 rfl (q := 399) rfl ?_
                        refine v_bipush O.1 dX20_instructs_399 (v := 40) (by decide) (q := 401) rfl ?_
                        refine v_iload O.1 dX20_instructs_401 rfl (q := 403) rfl ?_
                        refine v_bipush O.1 dX20_instructs_403 (v := 15) (by decide) (q := 405) rfl ?_
                        refine v_iand O.1 dX20_instructs_405 (q := 406) rfl ?_
                        refine v_iadd O.1 dX20_instructs_406 (q := 407) rfl ?_
                        refine v_aload_n O.1 dX20_instructs_407 rfl (q := 408) rfl ?_
                        refine v_iload O.1 dX20_instructs_408 rfl (q := 410) rfl ?_
                        obtain ⟨g18, h⟩ := gd_some h
                        refine m_iald O (mS_i hs) (mS_l hs) (n := 342) g18 rfl (j := (0 + (x4 &&& 7)).toNatClampNeg) dX20_instructs_410 (q := 411) rfl ?_
                        obtain ⟨g19, h⟩ := gd_some h
                        obtain ⟨M20, e20, h⟩ := stp_some h
                        refine m_iast O (mS_i hs) (mS_l hs) (n := 342) g19 rfl (j := (40 + (x5 &&& 15)).toNatClampNeg) dX20_instructs_411 (q := 412) rfl e20 ?_
                        exact v_sub [] rfl (bm_instructs_412 hs O M20 h)
                      · rw [if_pos c17] at h
                        refine v_aload_n O.1 dX20_instructs_381 rfl (q := 382) rfl ?_
                        refine v_iload O.1 dX20_instructs_382 rfl (q := 384) rfl ?_
                        refine v_aload_n O.1 dX20_instructs_384 rfl (q := 385) rfl ?_
                        refine v_bipush O.1 dX20_instructs_385 (v := 40) (by decide) (q := 387) rfl ?_
                        refine v_iload O.1 dX20_instructs_387 rfl (q := 389) rfl ?_
                        refine v_bipush O.1 dX20_instructs_389 (v := 15) (by decide) (q := 391) rfl ?_
                        refine v_iand O.1 dX20_instructs_391 (q := 392) rfl ?_
                        refine v_iadd O.1 dX20_instructs_392 (q := 393) rfl ?_
                        obtain ⟨g21, h⟩ := gd_some h
                        refine m_iald O (mS_i hs) (mS_l hs) (n := 342) g21 rfl (j := (40 + (x5 &&& 15)).toNatClampNeg) dX20_instructs_393 (q := 394) rfl ?_
                        obtain ⟨g22, h⟩ := gd_some h
                        obtain ⟨M23, e23, h⟩ := stp_some h
                        refine m_iast O (mS_i hs) (mS_l hs) (n := 342) g22 rfl (j := (0 + (x4 &&& 7)).toNatClampNeg) dX20_instructs_394 (q := 395) rfl e23 ?_
                        refine v_goto O.1 dX20_instructs_395 (t := 412) (by decide) ?_
                        exact v_sub [] rfl (bm_instructs_412 hs O M23 h)
                    · rw [if_pos c16] at h
                      refine v_aload_n O.1 dX20_instructs_364 rfl (q := 365) rfl ?_
                      refine v_aload_n O.1 dX20_instructs_365 rfl (q := 366) rfl ?_
                      refine v_iload O.1 dX20_instructs_366 rfl (q := 368) rfl ?_
                      obtain ⟨g24, h⟩ := gd_some h
                      refine m_iald O (mS_i hs) (mS_l hs) (n := 342) g24 rfl (j := (0 + (x4 &&& 7)).toNatClampNeg) dX20_instructs_368 (q := 369) rfl ?_
                      obtain ⟨r25, M25, e25, h⟩ := bnd_some h
                      refine m_callVv (As := [.int (M7 s (0 + (x4 &&& 7)).toNatClampNeg)]) (rest := []) (n := 1) O (met_tells _ g (M7 s (0 + (x4 &&& 7)).toNatClampNeg) M7 M25 r25 e25) (lw_V q2022 q2024 qs47 q84 q2025) (by decide +kernel) (by decide) (by decide) rfl rfl (Nat.le_of_ble_eq_true rfl) dX20_instructs_369 (q := 372) rfl ?_
                      refine v_goto O.1 dX20_instructs_372 (t := 412) (by decide) ?_
                      exact v_sub [] rfl (bm_instructs_412 hs O M25 h)
                  · rw [if_pos c15] at h
                    refine v_aload_n O.1 dX20_instructs_324 rfl (q := 325) rfl ?_
                    refine v_bipush O.1 dX20_instructs_325 (v := 56) (by decide) (q := 327) rfl ?_
                    refine v_aload_n O.1 dX20_instructs_327 rfl (q := 328) rfl ?_
                    refine v_bipush O.1 dX20_instructs_328 (v := 15) (by decide) (q := 330) rfl ?_
                    refine m_iald O (mS_i hs) (mS_l hs) (n := 342) (by decide) (by decide) (j := 15) dX20_instructs_330 (q := 331) rfl ?_
                    refine v_iadd O.1 dX20_instructs_331 (q := 332) rfl ?_
                    refine v_iconst O.1 dX20_instructs_332 (v := 2) rfl (q := 333) rfl ?_
                    refine v_isub O.1 dX20_instructs_333 (q := 334) rfl ?_
                    refine v_aload_n O.1 dX20_instructs_334 rfl (q := 335) rfl ?_
                    refine v_bipush O.1 dX20_instructs_335 (v := 56) (by decide) (q := 337) rfl ?_
                    refine v_aload_n O.1 dX20_instructs_337 rfl (q := 338) rfl ?_
                    refine v_bipush O.1 dX20_instructs_338 (v := 15) (by decide) (q := 340) rfl ?_
                    refine m_iald O (mS_i hs) (mS_l hs) (n := 342) (by decide) (by decide) (j := 15) dX20_instructs_340 (q := 341) rfl ?_
                    refine v_iadd O.1 dX20_instructs_341 (q := 342) rfl ?_
                    refine v_iconst O.1 dX20_instructs_342 (v := 2) rfl (q := 343) rfl ?_
                    refine v_isub O.1 dX20_instructs_343 (q := 344) rfl ?_
                    obtain ⟨g26, h⟩ := gd_some h
                    refine m_iald O (mS_i hs) (mS_l hs) (n := 342) g26 rfl (j := ((56 + (M7 s 15)) - 2).toNatClampNeg) dX20_instructs_344 (q := 345) rfl ?_
                    refine v_iload O.1 dX20_instructs_345 rfl (q := 347) rfl ?_
                    refine v_iadd O.1 dX20_instructs_347 (q := 348) rfl ?_
                    refine v_sipush O.1 dX20_instructs_348 (v := 512) (by decide) (q := 351) rfl ?_
                    obtain ⟨r27, M27, e27, h⟩ := bnd_some h
                    refine m_callSi (As := [.int ((M7 s ((56 + (M7 s 15)) - 2).toNatClampNeg) + x4), .int 512]) (rest := [.int ((56 + (M7 s 15)) - 2), .ref (gMa g s)]) (n := 2) O (met_mod _ g ((M7 s ((56 + (M7 s 15)) - 2).toNatClampNeg) + x4) 512 M7 M27 r27 e27) (lw_S q2019 q2020 q84 q2021) (by decide +kernel) (by decide) (by decide) rfl rfl (Nat.le_of_ble_eq_true rfl) dX20_instructs_351 (q := 354) rfl ?_
                    obtain ⟨g28, h⟩ := gd_some h
                    obtain ⟨M29, e29, h⟩ := stp_some h
                    refine m_iast O (mS_i hs) (mS_l hs) (n := 342) g28 rfl (j := ((56 + (M7 s 15)) - 2).toNatClampNeg) dX20_instructs_354 (q := 355) rfl e29 ?_
                    refine v_goto O.1 dX20_instructs_355 (t := 412) (by decide) ?_
                    exact v_sub [] rfl (bm_instructs_412 hs O M29 h)
                · rw [if_pos c14] at h
                  refine v_aload_n O.1 dX20_instructs_294 rfl (q := 295) rfl ?_
                  refine v_sipush O.1 dX20_instructs_295 (v := 173) (by decide) (q := 298) rfl ?_
                  refine v_iload O.1 dX20_instructs_298 rfl (q := 300) rfl ?_
                  refine v_bipush O.1 dX20_instructs_300 (v := 20) (by decide) (q := 302) rfl ?_
                  refine v_irem O.1 dX20_instructs_302 (by decide) (q := 303) rfl ?_
                  refine v_iadd O.1 dX20_instructs_303 (q := 304) rfl ?_
                  refine v_aload_n O.1 dX20_instructs_304 rfl (q := 305) rfl ?_
                  refine v_iload O.1 dX20_instructs_305 rfl (q := 307) rfl ?_
                  obtain ⟨g30, h⟩ := gd_some h
                  refine m_iald O (mS_i hs) (mS_l hs) (n := 342) g30 rfl (j := (0 + (x5 &&& 7)).toNatClampNeg) dX20_instructs_307 (q := 308) rfl ?_
                  refine v_sipush O.1 dX20_instructs_308 (v := 256) (by decide) (q := 311) rfl ?_
                  obtain ⟨r31, M31, e31, h⟩ := bnd_some h
                  refine m_callSi (As := [.int (M7 s (0 + (x5 &&& 7)).toNatClampNeg), .int 256]) (rest := [.int (173 + (x4 - x4 / 20 * 20)), .ref (gMa g s)]) (n := 2) O (met_mod _ g (M7 s (0 + (x5 &&& 7)).toNatClampNeg) 256 M7 M31 r31 e31) (lw_S q2019 q2020 q84 q2021) (by decide +kernel) (by decide) (by decide) rfl rfl (Nat.le_of_ble_eq_true rfl) dX20_instructs_311 (q := 314) rfl ?_
                  obtain ⟨g32, h⟩ := gd_some h
                  obtain ⟨M33, e33, h⟩ := stp_some h
                  refine m_iast O (mS_i hs) (mS_l hs) (n := 342) g32 rfl (j := (173 + (x4 - x4 / 20 * 20)).toNatClampNeg) dX20_instructs_314 (q := 315) rfl e33 ?_
                  refine v_goto O.1 dX20_instructs_315 (t := 412) (by decide) ?_
                  exact v_sub [] rfl (bm_instructs_412 hs O M33 h)
              · rw [if_neg c13] at h
                refine v_aload_n O.1 dX20_instructs_265 rfl (q := 266) rfl ?_
                refine v_aload_n O.1 dX20_instructs_266 rfl (q := 267) rfl ?_
                refine v_iload_n O.1 dX20_instructs_267 rfl (q := 268) rfl ?_
                refine v_iload O.1 dX20_instructs_268 rfl (q := 270) rfl ?_
                refine v_iconst O.1 dX20_instructs_270 (v := 3) rfl (q := 271) rfl ?_
                refine v_iand O.1 dX20_instructs_271 (q := 272) rfl ?_
                refine v_iload O.1 dX20_instructs_272 rfl (q := 274) rfl ?_
                refine v_iconst O.1 dX20_instructs_274 (v := 3) rfl (q := 275) rfl ?_
                refine v_iand O.1 dX20_instructs_275 (q := 276) rfl ?_
                refine v_iload O.1 dX20_instructs_276 rfl (q := 278) rfl ?_
                refine v_iload O.1 dX20_instructs_278 rfl (q := 280) rfl ?_
                refine v_iload O.1 dX20_instructs_280 rfl (q := 282) rfl ?_
                obtain ⟨r34, M34, e34, h⟩ := bnd_some h
                refine m_callVv (As := [.ref (gMa g s), .int x3, .int (x4 &&& 3), .int (x5 &&& 3), .int (0 + (x4 &&& 7)), .int (0 + (x5 &&& 7)), .int x5]) (rest := []) (n := 7) O (met_floats _ g s hs x3 (x4 &&& 3) (x5 &&& 3) (0 + (x4 &&& 7)) (0 + (x5 &&& 7)) x5 M7 M34 r34 e34) (lw_V q2005 q2007 qs46 q84 q2008) (by decide +kernel) (by decide) (by decide) rfl rfl (Nat.le_of_ble_eq_true rfl) dX20_instructs_282 (q := 285) rfl ?_
                refine v_goto O.1 dX20_instructs_285 (t := 412) (by decide) ?_
                exact v_sub [] rfl (bm_instructs_412 hs O M34 h)
            · rw [if_neg c12] at h
              refine v_aload_n O.1 dX20_instructs_248 rfl (q := 249) rfl ?_
              refine v_aload_n O.1 dX20_instructs_249 rfl (q := 250) rfl ?_
              refine v_iload_n O.1 dX20_instructs_250 rfl (q := 251) rfl ?_
              refine v_iload O.1 dX20_instructs_251 rfl (q := 253) rfl ?_
              obtain ⟨r35, M35, e35, h⟩ := bnd_some h
              refine m_callVv (As := [.ref (gMa g s), .int x3, .int x4]) (rest := []) (n := 3) O (met_rules _ g s hs x3 x4 M7 M35 r35 e35) (lw_V q1997 q1999 qs44 q84 q2000) (by decide +kernel) (by decide) (by decide) rfl rfl (Nat.le_of_ble_eq_true rfl) dX20_instructs_253 (q := 256) rfl ?_
              refine v_goto O.1 dX20_instructs_256 (t := 412) (by decide) ?_
              exact v_sub [] rfl (bm_instructs_412 hs O M35 h)
          · rw [if_neg c11] at h
            refine v_aload_n O.1 dX20_instructs_218 rfl (q := 219) rfl ?_
            refine v_aload_n O.1 dX20_instructs_219 rfl (q := 220) rfl ?_
            refine v_iload_n O.1 dX20_instructs_220 rfl (q := 221) rfl ?_
            refine v_iload O.1 dX20_instructs_221 rfl (q := 223) rfl ?_
            refine v_sipush O.1 dX20_instructs_223 (v := 256) (by decide) (q := 226) rfl ?_
            refine v_iload O.1 dX20_instructs_226 rfl (q := 228) rfl ?_
            refine v_imul O.1 dX20_instructs_228 (q := 229) rfl ?_
            refine v_iload O.1 dX20_instructs_229 rfl (q := 231) rfl ?_
            refine v_iadd O.1 dX20_instructs_231 (q := 232) rfl ?_
            refine v_sipush O.1 dX20_instructs_232 (v := 512) (by decide) (q := 235) rfl ?_
            refine v_irem O.1 dX20_instructs_235 (by decide) (q := 236) rfl ?_
            obtain ⟨r36, M36, e36, h⟩ := bnd_some h
            refine m_callVv (As := [.ref (gMa g s), .int x3, .int (0 + (x4 &&& 7)), .int (((256 * x4) + x5) - ((256 * x4) + x5) / 512 * 512)]) (rest := []) (n := 4) O (met_moves _ g s hs x3 (0 + (x4 &&& 7)) (((256 * x4) + x5) - ((256 * x4) + x5) / 512 * 512) M7 M36 r36 e36) (lw_V q1993 q1995 qs43 q84 q1996) (by decide +kernel) (by decide) (by decide) rfl rfl (Nat.le_of_ble_eq_true rfl) dX20_instructs_236 (q := 239) rfl ?_
            refine v_goto O.1 dX20_instructs_239 (t := 412) (by decide) ?_
            exact v_sub [] rfl (bm_instructs_412 hs O M36 h)
        · rw [if_pos c10] at h
          refine v_aload_n O.1 dX20_instructs_201 rfl (q := 202) rfl ?_
          refine v_iload O.1 dX20_instructs_202 rfl (q := 204) rfl ?_
          refine v_aload_n O.1 dX20_instructs_204 rfl (q := 205) rfl ?_
          refine v_iload O.1 dX20_instructs_205 rfl (q := 207) rfl ?_
          obtain ⟨g37, h⟩ := gd_some h
          refine m_iald O (mS_i hs) (mS_l hs) (n := 342) g37 rfl (j := (0 + (x5 &&& 7)).toNatClampNeg) dX20_instructs_207 (q := 208) rfl ?_
          obtain ⟨g38, h⟩ := gd_some h
          obtain ⟨M39, e39, h⟩ := stp_some h
          refine m_iast O (mS_i hs) (mS_l hs) (n := 342) g38 rfl (j := (0 + (x4 &&& 7)).toNatClampNeg) dX20_instructs_208 (q := 209) rfl e39 ?_
          refine v_goto O.1 dX20_instructs_209 (t := 412) (by decide) ?_
          exact v_sub [] rfl (bm_instructs_412 hs O M39 h)
      · rw [if_neg c9] at h
        refine v_aload_n O.1 dX20_instructs_168 rfl (q := 169) rfl ?_
        refine v_aload_n O.1 dX20_instructs_169 rfl (q := 170) rfl ?_
        refine v_iload O.1 dX20_instructs_170 rfl (q := 172) rfl ?_
        refine v_bipush O.1 dX20_instructs_172 (v := 7) (by decide) (q := 174) rfl ?_
        refine v_iand O.1 dX20_instructs_174 (q := 175) rfl ?_
        refine v_iload_n O.1 dX20_instructs_175 rfl (q := 176) rfl ?_
        refine v_aload_n O.1 dX20_instructs_176 rfl (q := 177) rfl ?_
        refine v_iload O.1 dX20_instructs_177 rfl (q := 179) rfl ?_
        obtain ⟨g40, h⟩ := gd_some h
        refine m_iald O (mS_i hs) (mS_l hs) (n := 342) g40 rfl (j := (0 + (x4 &&& 7)).toNatClampNeg) dX20_instructs_179 (q := 180) rfl ?_
        refine v_aload_n O.1 dX20_instructs_180 rfl (q := 181) rfl ?_
        refine v_iload O.1 dX20_instructs_181 rfl (q := 183) rfl ?_
        obtain ⟨g41, h⟩ := gd_some h
        refine m_iald O (mS_i hs) (mS_l hs) (n := 342) g41 rfl (j := (0 + (x5 &&& 7)).toNatClampNeg) dX20_instructs_183 (q := 184) rfl ?_
        refine v_iload O.1 dX20_instructs_184 rfl (q := 186) rfl ?_
        obtain ⟨r42, M42, e42, h⟩ := bnd_some h
        refine m_callSi (As := [.int x3, .int (M7 s (0 + (x4 &&& 7)).toNatClampNeg), .int (M7 s (0 + (x5 &&& 7)).toNatClampNeg), .int x5]) (rest := [.int (x4 &&& 7), .ref (gMa g s), .ref (gMa g 0)]) (n := 4) O (met_made _ g x3 (M7 s (0 + (x4 &&& 7)).toNatClampNeg) (M7 s (0 + (x5 &&& 7)).toNatClampNeg) x5 M7 M42 r42 e42) (lw_S q1986 q1987 q84 q1988) (by decide +kernel) (by decide) (by decide) rfl rfl (Nat.le_of_ble_eq_true rfl) dX20_instructs_186 (q := 189) rfl ?_
        obtain ⟨r43, M43, e43, h⟩ := bnd_some h
        refine m_callVv (As := [.ref (gMa g s), .int (x4 &&& 7), .int r42]) (rest := []) (n := 3) O (met_comes _ g s hs (x4 &&& 7) r42 M42 M43 r43 e43) (lw_V q1989 q1991 qs42 q84 q1992) (by decide +kernel) (by decide) (by decide) rfl rfl (Nat.le_of_ble_eq_true rfl) dX20_instructs_189 (q := 192) rfl ?_
        refine v_goto O.1 dX20_instructs_192 (t := 412) (by decide) ?_
        exact v_sub [] rfl (bm_instructs_412 hs O M43 h)
    · rw [if_pos c8] at h
      refine v_aload_n O.1 dX20_instructs_153 rfl (q := 154) rfl ?_
      refine v_iload O.1 dX20_instructs_154 rfl (q := 156) rfl ?_
      refine v_iload O.1 dX20_instructs_156 rfl (q := 158) rfl ?_
      obtain ⟨g44, h⟩ := gd_some h
      obtain ⟨M45, e45, h⟩ := stp_some h
      refine m_iast O (mS_i hs) (mS_l hs) (n := 342) g44 rfl (j := (0 + (x4 &&& 7)).toNatClampNeg) dX20_instructs_158 (q := 159) rfl e45 ?_
      refine v_goto O.1 dX20_instructs_159 (t := 412) (by decide) ?_
      exact v_sub [] rfl (bm_instructs_412 hs O M45 h)
  · rw [if_neg c2] at h
    refine v_aload_n O.1 dX20_instructs_89 rfl (q := 90) rfl ?_
    refine v_aload_n O.1 dX20_instructs_90 rfl (q := 91) rfl ?_
    refine v_iload O.1 dX20_instructs_91 rfl (q := 93) rfl ?_
    obtain ⟨r46, M46, e46, h⟩ := bnd_some h
    refine m_callVi (As := [.ref (gMa g s), .int r1]) (rest := []) (n := 2) O (met_raises _ g s hs r1 M1 M46 r46 e46) (lw_V q1918 q1920 qs33 q84 q1921) (by decide +kernel) (by decide) (by decide) rfl rfl (Nat.le_of_ble_eq_true rfl) dX20_instructs_93 (q := 96) rfl ?_
    refine v_pop O.1 dX20_instructs_96 rfl (q := 97) rfl ?_
    exact m_vret O h dX20_instructs_97
def fm_instructs (s : Nat)  (M : Mem) : Option (Unit × Mem) :=
  gd (inb (M s 12) 512) <|
  gd (inb (((M s 12) + 1) - ((M s 12) + 1) / 512 * 512) 512) <|
  gd (inb (((M s 12) + 2) - ((M s 12) + 2) / 512 * 512) 512) <|
  if (M 1 (M s 12).toNatClampNeg) < 20 then
    fm_instructs_72 s (M s 12) (M 1 (M s 12).toNatClampNeg) (M 1 (((M s 12) + 1) - ((M s 12) + 1) / 512 * 512).toNatClampNeg) (M 1 (((M s 12) + 2) - ((M s 12) + 2) / 512 * 512).toNatClampNeg) M
  else
    if 24 < (M 1 (M s 12).toNatClampNeg) then
      fm_instructs_72 s (M s 12) (M 1 (M s 12).toNatClampNeg) (M 1 (((M s 12) + 1) - ((M s 12) + 1) / 512 * 512).toNatClampNeg) (M 1 (((M s 12) + 2) - ((M s 12) + 2) / 512 * 512).toNatClampNeg) M
    else
      if (M s 19) < 0 then
        fm_instructs_72 s (M s 12) (M 1 (M s 12).toNatClampNeg) (M 1 (((M s 12) + 1) - ((M s 12) + 1) / 512 * 512).toNatClampNeg) (M 1 (((M s 12) + 2) - ((M s 12) + 2) / 512 * 512).toNatClampNeg) M
      else
        bnd (fm_turns s 4 0 M) fun r7 M7 =>
        bnd (fm_saves s M7) fun r8 M8 =>
        some ((), M8)
set_option maxHeartbeats 4000000 in
theorem bm_instructs {g : gM} {X : Cxt} {r : Unit} {M' : Mem} {s : Nat} (hs : mS s) (O : OkM g X cX20_instructs 9 none 6 (mQv g r M'))  (M : Mem) (h : fm_instructs s  M = some (r, M')) : V X 9 0 (WdM g M) 0 [(0, .ref (gMa g 0)), (1, .ref (gMa g s))] [] := by
  unfold fm_instructs at h
  refine v_aload_n O.1 dX20_instructs_0 rfl (q := 1) rfl ?_
  refine v_bipush O.1 dX20_instructs_1 (v := 12) (by decide) (q := 3) rfl ?_
  refine m_iald O (mS_i hs) (mS_l hs) (n := 342) (by decide) (by decide) (j := 12) dX20_instructs_3 (q := 4) rfl ?_
  refine v_istore_n (lv' := [(2, .int (M s 12)), (0, .ref (gMa g 0)), (1, .ref (gMa g s))]) O.1 dX20_instructs_4 (by decide) rfl (q := 5) rfl ?_
  refine v_aload_n O.1 dX20_instructs_5 rfl (q := 6) rfl ?_
  refine m_get O 0 (v := .ref (gMa g 1)) (by decide) q1732 rfl rfl dX20_instructs_6 (q := 9) rfl ?_
  refine v_iload_n O.1 dX20_instructs_9 rfl (q := 10) rfl ?_
  obtain ⟨g1, h⟩ := gd_some h
  refine m_iald O rfl rfl (n := 512) g1 rfl (j := (M s 12).toNatClampNeg) dX20_instructs_10 (q := 11) rfl ?_
  refine v_istore_n (lv' := [(3, .int (M 1 (M s 12).toNatClampNeg)), (2, .int (M s 12)), (0, .ref (gMa g 0)), (1, .ref (gMa g s))]) O.1 dX20_instructs_11 (by decide) rfl (q := 12) rfl ?_
  refine v_aload_n O.1 dX20_instructs_12 rfl (q := 13) rfl ?_
  refine m_get O 0 (v := .ref (gMa g 1)) (by decide) q1732 rfl rfl dX20_instructs_13 (q := 16) rfl ?_
  refine v_iload_n O.1 dX20_instructs_16 rfl (q := 17) rfl ?_
  refine v_iconst O.1 dX20_instructs_17 (v := 1) rfl (q := 18) rfl ?_
  refine v_iadd O.1 dX20_instructs_18 (q := 19) rfl ?_
  refine v_sipush O.1 dX20_instructs_19 (v := 512) (by decide) (q := 22) rfl ?_
  refine v_irem O.1 dX20_instructs_22 (by decide) (q := 23) rfl ?_
  obtain ⟨g2, h⟩ := gd_some h
  refine m_iald O rfl rfl (n := 512) g2 rfl (j := (((M s 12) + 1) - ((M s 12) + 1) / 512 * 512).toNatClampNeg) dX20_instructs_23 (q := 24) rfl ?_
  refine v_istore (lv' := [(4, .int (M 1 (((M s 12) + 1) - ((M s 12) + 1) / 512 * 512).toNatClampNeg)), (3, .int (M 1 (M s 12).toNatClampNeg)), (2, .int (M s 12)), (0, .ref (gMa g 0)), (1, .ref (gMa g s))]) O.1 dX20_instructs_24 (by decide) rfl (q := 26) rfl ?_
  refine v_aload_n O.1 dX20_instructs_26 rfl (q := 27) rfl ?_
  refine m_get O 0 (v := .ref (gMa g 1)) (by decide) q1732 rfl rfl dX20_instructs_27 (q := 30) rfl ?_
  refine v_iload_n O.1 dX20_instructs_30 rfl (q := 31) rfl ?_
  refine v_iconst O.1 dX20_instructs_31 (v := 2) rfl (q := 32) rfl ?_
  refine v_iadd O.1 dX20_instructs_32 (q := 33) rfl ?_
  refine v_sipush O.1 dX20_instructs_33 (v := 512) (by decide) (q := 36) rfl ?_
  refine v_irem O.1 dX20_instructs_36 (by decide) (q := 37) rfl ?_
  obtain ⟨g3, h⟩ := gd_some h
  refine m_iald O rfl rfl (n := 512) g3 rfl (j := (((M s 12) + 2) - ((M s 12) + 2) / 512 * 512).toNatClampNeg) dX20_instructs_37 (q := 38) rfl ?_
  refine v_istore (lv' := [(5, .int (M 1 (((M s 12) + 2) - ((M s 12) + 2) / 512 * 512).toNatClampNeg)), (4, .int (M 1 (((M s 12) + 1) - ((M s 12) + 1) / 512 * 512).toNatClampNeg)), (3, .int (M 1 (M s 12).toNatClampNeg)), (2, .int (M s 12)), (0, .ref (gMa g 0)), (1, .ref (gMa g s))]) O.1 dX20_instructs_38 (by decide) rfl (q := 40) rfl ?_
  refine v_iload_n O.1 dX20_instructs_40 rfl (q := 41) rfl ?_
  refine v_bipush O.1 dX20_instructs_41 (v := 20) (by decide) (q := 43) rfl ?_
  refine v_icmp_lt O.1 dX20_instructs_43 (t := 72) (by decide) (q := 46) rfl (fun c4 => ?_) (fun c4 => ?_)
  · rw [if_pos c4] at h
    exact v_sub [4, 5, 3, 2, 1, 0] rfl (bm_instructs_72 hs O (M s 12) (M 1 (M s 12).toNatClampNeg) (M 1 (((M s 12) + 1) - ((M s 12) + 1) / 512 * 512).toNatClampNeg) (M 1 (((M s 12) + 2) - ((M s 12) + 2) / 512 * 512).toNatClampNeg) M h)
  · rw [if_neg c4] at h
    refine v_iload_n O.1 dX20_instructs_46 rfl (q := 47) rfl ?_
    refine v_bipush O.1 dX20_instructs_47 (v := 24) (by decide) (q := 49) rfl ?_
    refine v_icmp_gt O.1 dX20_instructs_49 (t := 72) (by decide) (q := 52) rfl (fun c5 => ?_) (fun c5 => ?_)
    · rw [if_pos c5] at h
      exact v_sub [4, 5, 3, 2, 1, 0] rfl (bm_instructs_72 hs O (M s 12) (M 1 (M s 12).toNatClampNeg) (M 1 (((M s 12) + 1) - ((M s 12) + 1) / 512 * 512).toNatClampNeg) (M 1 (((M s 12) + 2) - ((M s 12) + 2) / 512 * 512).toNatClampNeg) M h)
    · rw [if_neg c5] at h
      refine v_aload_n O.1 dX20_instructs_52 rfl (q := 53) rfl ?_
      refine v_bipush O.1 dX20_instructs_53 (v := 19) (by decide) (q := 55) rfl ?_
      refine m_iald O (mS_i hs) (mS_l hs) (n := 342) (by decide) (by decide) (j := 19) dX20_instructs_55 (q := 56) rfl ?_
      refine v_if_lt O.1 dX20_instructs_56 (t := 72) (by decide) (q := 59) rfl (fun c6 => ?_) (fun c6 => ?_)
      · rw [if_pos c6] at h
        exact v_sub [4, 5, 3, 2, 1, 0] rfl (bm_instructs_72 hs O (M s 12) (M 1 (M s 12).toNatClampNeg) (M 1 (((M s 12) + 1) - ((M s 12) + 1) / 512 * 512).toNatClampNeg) (M 1 (((M s 12) + 2) - ((M s 12) + 2) / 512 * 512).toNatClampNeg) M h)
      · rw [if_neg c6] at h
        refine v_aload_n O.1 dX20_instructs_59 rfl (q := 60) rfl ?_
        refine v_aload_n O.1 dX20_instructs_60 rfl (q := 61) rfl ?_
        refine v_iconst O.1 dX20_instructs_61 (v := 4) rfl (q := 62) rfl ?_
        refine v_iconst O.1 dX20_instructs_62 (v := 0) rfl (q := 63) rfl ?_
        obtain ⟨r7, M7, e7, h⟩ := bnd_some h
        refine m_callVv (As := [.ref (gMa g s), .int 4, .int 0]) (rest := []) (n := 3) O (met_turns _ g s hs 4 0 M M7 r7 e7) (lw_V q1906 q1908 qs30 q84 q1909) (by decide +kernel) (by decide) (by decide) rfl rfl (Nat.le_of_ble_eq_true rfl) dX20_instructs_63 (q := 66) rfl ?_
        refine v_aload_n O.1 dX20_instructs_66 rfl (q := 67) rfl ?_
        refine v_aload_n O.1 dX20_instructs_67 rfl (q := 68) rfl ?_
        obtain ⟨r8, M8, e8, h⟩ := bnd_some h
        refine m_callVv (As := [.ref (gMa g s)]) (rest := []) (n := 1) O (met_saves _ g s hs M7 M8 r8 e8) (lw_V q1946 q1948 qs40 q84 q1949) (by decide +kernel) (by decide) (by decide) rfl rfl (Nat.le_of_ble_eq_true rfl) dX20_instructs_68 (q := 71) rfl ?_
        exact m_vret O h dX20_instructs_71
theorem met_instructs (l : Launch) (g : gM) (s : Nat) (hs : mS s)  (M M' : Mem) (r : Unit) (h : fm_instructs s  M = some (r, M')) : MetM l g yX20_instructs cX20_instructs 9 none 6 [.ref (gMa g 0), .ref (gMa g s)] M (mQv g r M') :=
  m_met (by decide) rfl (Nat.le_of_ble_eq_true rfl) (fun X O => bm_instructs hs O  M h)
/-! runs([I)V -/
def fm_runs_77 (s : Nat)  (M : Mem) : Option (Unit × Mem) :=
  stp (up2 M s 23 0) fun M1 =>
  bnd (fm_instructs s M1) fun r2 M2 =>
  some ((), M2)
set_option maxHeartbeats 4000000 in
theorem bm_runs_77 {g : gM} {X : Cxt} {r : Unit} {M' : Mem} {s : Nat} (hs : mS s) (O : OkM g X cX20_runs 3 none 7 (mQv g r M'))  (M : Mem) (h : fm_runs_77 s  M = some (r, M')) : V X 3 0 (WdM g M) 77 [(0, .ref (gMa g 0)), (1, .ref (gMa g s))] [] := by
  unfold fm_runs_77 at h
  refine v_aload_n O.1 dX20_runs_77 rfl (q := 78) rfl ?_
  refine v_bipush O.1 dX20_runs_78 (v := 23) (by decide) (q := 80) rfl ?_
  refine v_iconst O.1 dX20_runs_80 (v := 0) rfl (q := 81) rfl ?_
  obtain ⟨M1, e1, h⟩ := stp_some h
  refine m_iast O (mS_i hs) (mS_l hs) (n := 342) (by decide) (by decide) (j := 23) dX20_runs_81 (q := 82) rfl e1 ?_
  refine v_aload_n O.1 dX20_runs_82 rfl (q := 83) rfl ?_
  refine v_aload_n O.1 dX20_runs_83 rfl (q := 84) rfl ?_
  obtain ⟨r2, M2, e2, h⟩ := bnd_some h
  refine m_callVv (As := [.ref (gMa g s)]) (rest := []) (n := 1) O (met_instructs _ g s hs M1 M2 r2 e2) (lw_V q1942 q1944 qs39 q84 q1945) (by decide +kernel) (by decide) (by decide) rfl rfl (Nat.le_of_ble_eq_true rfl) dX20_runs_84 (q := 87) rfl ?_
  exact m_vret O h dX20_runs_87
def fm_runs (s : Nat)  (M : Mem) : Option (Unit × Mem) :=
  if (M s 22) ≤ 0 then
    bnd (fm_nextOf s M) fun r2 M2 =>
    if r2 < 0 then
      if (M2 s 23) = 1 then
        bnd (fm_nextOf_2 s 0 M2) fun r5 M5 =>
        if 0 ≤ r5 then
          fm_runs_77 s M5
        else
          some ((), M5)
      else
        fm_runs_77 s M2
    else
      stp (up2 M2 s 24 r2) fun M7 =>
      stp (up2 M7 s 23 0) fun M8 =>
      stp (up2 M8 s 28 0) fun M9 =>
      stp (up2 M9 s 29 0) fun M10 =>
      bnd (fm_turns s 1 0 M10) fun r11 M11 =>
      bnd (fm_stacks s M11) fun r12 M12 =>
      some ((), M12)
  else
    stp (up2 M s 22 ((M s 22) - 1)) fun M13 =>
    some ((), M13)
set_option maxHeartbeats 4000000 in
theorem bm_runs {g : gM} {X : Cxt} {r : Unit} {M' : Mem} {s : Nat} (hs : mS s) (O : OkM g X cX20_runs 3 none 7 (mQv g r M'))  (M : Mem) (h : fm_runs s  M = some (r, M')) : V X 3 0 (WdM g M) 0 [(0, .ref (gMa g 0)), (1, .ref (gMa g s))] [] := by
  unfold fm_runs at h
  refine v_aload_n O.1 dX20_runs_0 rfl (q := 1) rfl ?_
  refine v_bipush O.1 dX20_runs_1 (v := 22) (by decide) (q := 3) rfl ?_
  refine m_iald O (mS_i hs) (mS_l hs) (n := 342) (by decide) (by decide) (j := 22) dX20_runs_3 (q := 4) rfl ?_
  refine v_if_le O.1 dX20_runs_4 (t := 16) (by decide) (q := 7) rfl (fun c1 => ?_) (fun c1 => ?_)
  · rw [if_pos c1] at h
    refine v_aload_n O.1 dX20_runs_16 rfl (q := 17) rfl ?_
    refine v_aload_n O.1 dX20_runs_17 rfl (q := 18) rfl ?_
    obtain ⟨r2, M2, e2, h⟩ := bnd_some h
    refine m_callVi (As := [.ref (gMa g s)]) (rest := []) (n := 1) O (met_nextOf _ g s hs M M2 r2 e2) (lw_V q1885 q1887 qs27 q84 q1888) (by decide +kernel) (by decide) (by decide) rfl rfl (Nat.le_of_ble_eq_true rfl) dX20_runs_18 (q := 21) rfl ?_
    refine v_istore_n (lv' := [(2, .int r2), (0, .ref (gMa g 0)), (1, .ref (gMa g s))]) O.1 dX20_runs_21 (by decide) rfl (q := 22) rfl ?_
    refine v_iload_n O.1 dX20_runs_22 rfl (q := 23) rfl ?_
    refine v_if_lt O.1 dX20_runs_23 (t := 59) (by decide) (q := 26) rfl (fun c3 => ?_) (fun c3 => ?_)
    · rw [if_pos c3] at h
      refine v_aload_n O.1 dX20_runs_59 rfl (q := 60) rfl ?_
      refine v_bipush O.1 dX20_runs_60 (v := 23) (by decide) (q := 62) rfl ?_
      refine m_iald O (mS_i hs) (mS_l hs) (n := 342) (by decide) (by decide) (j := 23) dX20_runs_62 (q := 63) rfl ?_
      refine v_iconst O.1 dX20_runs_63 (v := 1) rfl (q := 64) rfl ?_
      refine v_icmp_ne O.1 dX20_runs_64 (t := 77) (by decide) (q := 67) rfl (fun c4 => ?_) (fun c4 => ?_)
      · rw [if_neg c4] at h
        exact v_sub [1, 2] rfl (bm_runs_77 hs O M2 h)
      · rw [if_pos c4] at h
        refine v_aload_n O.1 dX20_runs_67 rfl (q := 68) rfl ?_
        refine v_aload_n O.1 dX20_runs_68 rfl (q := 69) rfl ?_
        refine v_iconst O.1 dX20_runs_69 (v := 0) rfl (q := 70) rfl ?_
        obtain ⟨r5, M5, e5, h⟩ := bnd_some h
        refine m_callVi (As := [.ref (gMa g s), .int 0]) (rest := []) (n := 2) O (met_nextOf_2 _ g s hs 0 M2 M5 r5 e5) (lw_V q1889 q1891 qs28 q84 q1892) (by decide +kernel) (by decide) (by decide) rfl rfl (Nat.le_of_ble_eq_true rfl) dX20_runs_70 (q := 73) rfl ?_
        refine v_if_ge O.1 dX20_runs_73 (t := 77) (by decide) (q := 76) rfl (fun c6 => ?_) (fun c6 => ?_)
        · rw [if_pos c6] at h
          exact v_sub [1, 2] rfl (bm_runs_77 hs O M5 h)
        · rw [if_neg c6] at h
          exact m_vret O h dX20_runs_76
    · rw [if_neg c3] at h
      refine v_aload_n O.1 dX20_runs_26 rfl (q := 27) rfl ?_
      refine v_bipush O.1 dX20_runs_27 (v := 24) (by decide) (q := 29) rfl ?_
      refine v_iload_n O.1 dX20_runs_29 rfl (q := 30) rfl ?_
      obtain ⟨M7, e7, h⟩ := stp_some h
      refine m_iast O (mS_i hs) (mS_l hs) (n := 342) (by decide) (by decide) (j := 24) dX20_runs_30 (q := 31) rfl e7 ?_
      refine v_aload_n O.1 dX20_runs_31 rfl (q := 32) rfl ?_
      refine v_bipush O.1 dX20_runs_32 (v := 23) (by decide) (q := 34) rfl ?_
      refine v_iconst O.1 dX20_runs_34 (v := 0) rfl (q := 35) rfl ?_
      obtain ⟨M8, e8, h⟩ := stp_some h
      refine m_iast O (mS_i hs) (mS_l hs) (n := 342) (by decide) (by decide) (j := 23) dX20_runs_35 (q := 36) rfl e8 ?_
      refine v_aload_n O.1 dX20_runs_36 rfl (q := 37) rfl ?_
      refine v_bipush O.1 dX20_runs_37 (v := 28) (by decide) (q := 39) rfl ?_
      refine v_iconst O.1 dX20_runs_39 (v := 0) rfl (q := 40) rfl ?_
      obtain ⟨M9, e9, h⟩ := stp_some h
      refine m_iast O (mS_i hs) (mS_l hs) (n := 342) (by decide) (by decide) (j := 28) dX20_runs_40 (q := 41) rfl e9 ?_
      refine v_aload_n O.1 dX20_runs_41 rfl (q := 42) rfl ?_
      refine v_bipush O.1 dX20_runs_42 (v := 29) (by decide) (q := 44) rfl ?_
      refine v_iconst O.1 dX20_runs_44 (v := 0) rfl (q := 45) rfl ?_
      obtain ⟨M10, e10, h⟩ := stp_some h
      refine m_iast O (mS_i hs) (mS_l hs) (n := 342) (by decide) (by decide) (j := 29) dX20_runs_45 (q := 46) rfl e10 ?_
      refine v_aload_n O.1 dX20_runs_46 rfl (q := 47) rfl ?_
      refine v_aload_n O.1 dX20_runs_47 rfl (q := 48) rfl ?_
      refine v_iconst O.1 dX20_runs_48 (v := 1) rfl (q := 49) rfl ?_
      refine v_iconst O.1 dX20_runs_49 (v := 0) rfl (q := 50) rfl ?_
      obtain ⟨r11, M11, e11, h⟩ := bnd_some h
      refine m_callVv (As := [.ref (gMa g s), .int 1, .int 0]) (rest := []) (n := 3) O (met_turns _ g s hs 1 0 M10 M11 r11 e11) (lw_V q1906 q1908 qs30 q84 q1909) (by decide +kernel) (by decide) (by decide) rfl rfl (Nat.le_of_ble_eq_true rfl) dX20_runs_50 (q := 53) rfl ?_
      refine v_aload_n O.1 dX20_runs_53 rfl (q := 54) rfl ?_
      refine v_aload_n O.1 dX20_runs_54 rfl (q := 55) rfl ?_
      obtain ⟨r12, M12, e12, h⟩ := bnd_some h
      refine m_callVv (As := [.ref (gMa g s)]) (rest := []) (n := 1) O (met_stacks _ g s hs M11 M12 r12 e12) (lw_V q1910 q1912 qs31 q84 q1913) (by decide +kernel) (by decide) (by decide) rfl rfl (Nat.le_of_ble_eq_true rfl) dX20_runs_55 (q := 58) rfl ?_
      exact m_vret O h dX20_runs_58
  · rw [if_neg c1] at h
    refine v_aload_n O.1 dX20_runs_7 rfl (q := 8) rfl ?_
    refine v_bipush O.1 dX20_runs_8 (v := 22) (by decide) (q := 10) rfl ?_
    refine v_dup2 O.1 dX20_runs_10 rfl rfl (q := 11) rfl ?_
    refine m_iald O (mS_i hs) (mS_l hs) (n := 342) (by decide) (by decide) (j := 22) dX20_runs_11 (q := 12) rfl ?_
    refine v_iconst O.1 dX20_runs_12 (v := 1) rfl (q := 13) rfl ?_
    refine v_isub O.1 dX20_runs_13 (q := 14) rfl ?_
    obtain ⟨M13, e13, h⟩ := stp_some h
    refine m_iast O (mS_i hs) (mS_l hs) (n := 342) (by decide) (by decide) (j := 22) dX20_runs_14 (q := 15) rfl e13 ?_
    exact m_vret O h dX20_runs_15
theorem met_runs (l : Launch) (g : gM) (s : Nat) (hs : mS s)  (M M' : Mem) (r : Unit) (h : fm_runs s  M = some (r, M')) : MetM l g yX20_runs cX20_runs 3 none 7 [.ref (gMa g 0), .ref (gMa g s)] M (mQv g r M') :=
  m_met (by decide) rfl (Nat.le_of_ble_eq_true rfl) (fun X O => bm_runs hs O  M h)
