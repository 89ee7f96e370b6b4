/-! chains([I)V -/
def fm_chains_44 (s : Nat)  (M : Mem) : Option (Unit × Mem) :=
  some ((), M)
set_option maxHeartbeats 4000000 in
theorem bm_chains_44 {g : gM} {X : Cxt} {r : Unit} {M' : Mem} {s : Nat} (hs : mS s) (O : OkM g X cX20_chains 3 none 4 (mQv g r M'))  (M : Mem) (h : fm_chains_44 s  M = some (r, M')) : V X 3 0 (WdM g M) 44 [] [] := by
  unfold fm_chains_44 at h
  exact m_vret O h dX20_chains_44
def fm_chains (s : Nat)  (M : Mem) : Option (Unit × Mem) :=
  stp (up2 M s 21 ((M s 21) + 1)) fun M1 =>
  if 2 ≤ (M1 s 21) then
    bnd (fm_nextOf s M1) fun r3 M3 =>
    if r3 < 0 then
      bnd (fm_turns s 3 0 M3) fun r5 M5 =>
      fm_chains_44 s M5
    else
      bnd (fm_begins s r3 1 M3) fun r6 M6 =>
      fm_chains_44 s M6
  else
    some ((), M1)
set_option maxHeartbeats 4000000 in
theorem bm_chains {g : gM} {X : Cxt} {r : Unit} {M' : Mem} {s : Nat} (hs : mS s) (O : OkM g X cX20_chains 3 none 4 (mQv g r M'))  (M : Mem) (h : fm_chains s  M = some (r, M')) : V X 3 0 (WdM g M) 0 [(0, .ref (gMa g 0)), (1, .ref (gMa g s))] [] := by
  unfold fm_chains at h
  refine v_aload_n O.1 dX20_chains_0 rfl (q := 1) rfl ?_
  refine v_bipush O.1 dX20_chains_1 (v := 21) (by decide) (q := 3) rfl ?_
  refine v_dup2 O.1 dX20_chains_3 rfl rfl (q := 4) rfl ?_
  refine m_iald O (mS_i hs) (mS_l hs) (n := 342) (by decide) (by decide) (j := 21) dX20_chains_4 (q := 5) rfl ?_
  refine v_iconst O.1 dX20_chains_5 (v := 1) rfl (q := 6) rfl ?_
  refine v_iadd O.1 dX20_chains_6 (q := 7) rfl ?_
  obtain ⟨M1, e1, h⟩ := stp_some h
  refine m_iast O (mS_i hs) (mS_l hs) (n := 342) (by decide) (by decide) (j := 21) dX20_chains_7 (q := 8) rfl e1 ?_
  refine v_aload_n O.1 dX20_chains_8 rfl (q := 9) rfl ?_
  refine v_bipush O.1 dX20_chains_9 (v := 21) (by decide) (q := 11) rfl ?_
  refine m_iald O (mS_i hs) (mS_l hs) (n := 342) (by decide) (by decide) (j := 21) dX20_chains_11 (q := 12) rfl ?_
  refine v_iconst O.1 dX20_chains_12 (v := 2) rfl (q := 13) rfl ?_
  refine v_icmp_ge O.1 dX20_chains_13 (t := 17) (by decide) (q := 16) rfl (fun c2 => ?_) (fun c2 => ?_)
  · rw [if_pos c2] at h
    refine v_aload_n O.1 dX20_chains_17 rfl (q := 18) rfl ?_
    refine v_aload_n O.1 dX20_chains_18 rfl (q := 19) rfl ?_
    obtain ⟨r3, M3, e3, h⟩ := bnd_some h
    refine m_callVi (As := [.ref (gMa g s)]) (rest := []) (n := 1) O (met_nextOf _ g s hs M1 M3 r3 e3) (lw_V q1885 q1887 qs27 q84 q1888) (by decide +kernel) (by decide) (by decide) rfl rfl (Nat.le_of_ble_eq_true rfl) dX20_chains_19 (q := 22) rfl ?_
    refine v_istore_n (lv' := [(2, .int r3), (0, .ref (gMa g 0)), (1, .ref (gMa g s))]) O.1 dX20_chains_22 (by decide) rfl (q := 23) rfl ?_
    refine v_iload_n O.1 dX20_chains_23 rfl (q := 24) rfl ?_
    refine v_if_lt O.1 dX20_chains_24 (t := 37) (by decide) (q := 27) rfl (fun c4 => ?_) (fun c4 => ?_)
    · rw [if_pos c4] at h
      refine v_aload_n O.1 dX20_chains_37 rfl (q := 38) rfl ?_
      refine v_aload_n O.1 dX20_chains_38 rfl (q := 39) rfl ?_
      refine v_iconst O.1 dX20_chains_39 (v := 3) rfl (q := 40) rfl ?_
      refine v_iconst O.1 dX20_chains_40 (v := 0) rfl (q := 41) rfl ?_
      obtain ⟨r5, M5, e5, h⟩ := bnd_some h
      refine m_callVv (As := [.ref (gMa g s), .int 3, .int 0]) (rest := []) (n := 3) O (met_turns _ g s hs 3 0 M3 M5 r5 e5) (lw_V q1906 q1908 qs30 q84 q1909) (by decide +kernel) (by decide) (by decide) rfl rfl (Nat.le_of_ble_eq_true rfl) dX20_chains_41 (q := 44) rfl ?_
      exact v_sub [] rfl (bm_chains_44 hs O M5 h)
    · rw [if_neg c4] at h
      refine v_aload_n O.1 dX20_chains_27 rfl (q := 28) rfl ?_
      refine v_aload_n O.1 dX20_chains_28 rfl (q := 29) rfl ?_
      refine v_iload_n O.1 dX20_chains_29 rfl (q := 30) rfl ?_
      refine v_iconst O.1 dX20_chains_30 (v := 1) rfl (q := 31) rfl ?_
      obtain ⟨r6, M6, e6, h⟩ := bnd_some h
      refine m_callVv (As := [.ref (gMa g s), .int r3, .int 1]) (rest := []) (n := 3) O (met_begins _ g s hs r3 1 M3 M6 r6 e6) (lw_V q1938 q1940 qs38 q84 q1941) (by decide +kernel) (by decide) (by decide) rfl rfl (Nat.le_of_ble_eq_true rfl) dX20_chains_31 (q := 34) rfl ?_
      refine v_goto O.1 dX20_chains_34 (t := 44) (by decide) ?_
      exact v_sub [] rfl (bm_chains_44 hs O M6 h)
  · rw [if_neg c2] at h
    exact m_vret O h dX20_chains_16
theorem met_chains (l : Launch) (g : gM) (s : Nat) (hs : mS s)  (M M' : Mem) (r : Unit) (h : fm_chains s  M = some (r, M')) : MetM l g yX20_chains cX20_chains 3 none 4 [.ref (gMa g 0), .ref (gMa g s)] M (mQv g r M') :=
  m_met (by decide) rfl (Nat.le_of_ble_eq_true rfl) (fun X O => bm_chains hs O  M h)
/-! wrongWith([I)I -/
def fm_wrongWith_85 (s : Nat) (y0 : Int32) (M : Mem) : Option (Int32 × Mem) :=
  some (y0, M)
set_option maxHeartbeats 4000000 in
theorem bm_wrongWith_85 {g : gM} {X : Cxt} {r : Int32} {M' : Mem} {s : Nat} (hs : mS s) (O : OkM g X cX20_wrongWith 3 (some .int) 1 (mQi g r M')) (y0 : Int32) (M : Mem) (h : fm_wrongWith_85 s y0 M = some (r, M')) : V X 3 0 (WdM g M) 85 [] [.int y0] := by
  unfold fm_wrongWith_85 at h
  exact m_iret O h dX20_wrongWith_85
def fm_wrongWith_58 (s : Nat)  (M : Mem) : Option (Int32 × Mem) :=
  gd (inb ((56 + (M s 15)) - 2) 342) <|
  bnd (fm_within (M s ((56 + (M s 15)) - 2).toNatClampNeg) 0 511 M) fun r2 M2 =>
  if r2 = 0 then
    fm_wrongWith_85 s 18 M2
  else
    fm_wrongWith_85 s (-1) M2
set_option maxHeartbeats 4000000 in
theorem bm_wrongWith_58 {g : gM} {X : Cxt} {r : Int32} {M' : Mem} {s : Nat} (hs : mS s) (O : OkM g X cX20_wrongWith 3 (some .int) 1 (mQi g r M'))  (M : Mem) (h : fm_wrongWith_58 s  M = some (r, M')) : V X 3 0 (WdM g M) 58 [(1, .ref (gMa g s))] [] := by
  unfold fm_wrongWith_58 at h
  refine v_aload_n O.1 dX20_wrongWith_58 rfl (q := 59) rfl ?_
  refine v_bipush O.1 dX20_wrongWith_59 (v := 56) (by decide) (q := 61) rfl ?_
  refine v_aload_n O.1 dX20_wrongWith_61 rfl (q := 62) rfl ?_
  refine v_bipush O.1 dX20_wrongWith_62 (v := 15) (by decide) (q := 64) rfl ?_
  refine m_iald O (mS_i hs) (mS_l hs) (n := 342) (by decide) (by decide) (j := 15) dX20_wrongWith_64 (q := 65) rfl ?_
  refine v_iadd O.1 dX20_wrongWith_65 (q := 66) rfl ?_
  refine v_iconst O.1 dX20_wrongWith_66 (v := 2) rfl (q := 67) rfl ?_
  refine v_isub O.1 dX20_wrongWith_67 (q := 68) rfl ?_
  obtain ⟨g1, h⟩ := gd_some h
  refine m_iald O (mS_i hs) (mS_l hs) (n := 342) g1 rfl (j := ((56 + (M s 15)) - 2).toNatClampNeg) dX20_wrongWith_68 (q := 69) rfl ?_
  refine v_iconst O.1 dX20_wrongWith_69 (v := 0) rfl (q := 70) rfl ?_
  refine v_sipush O.1 dX20_wrongWith_70 (v := 511) (by decide) (q := 73) rfl ?_
  obtain ⟨r2, M2, e2, h⟩ := bnd_some h
  refine m_callSi (As := [.int (M s ((56 + (M s 15)) - 2).toNatClampNeg), .int 0, .int 511]) (rest := []) (n := 3) O (met_within _ g (M s ((56 + (M s 15)) - 2).toNatClampNeg) 0 511 M M2 r2 e2) (lw_S q1817 q1818 q84 q1819) (by decide +kernel) (by decide) (by decide) rfl rfl (Nat.le_of_ble_eq_true rfl) dX20_wrongWith_73 (q := 76) rfl ?_
  refine v_if_eq O.1 dX20_wrongWith_76 (t := 83) (by decide) (q := 79) rfl (fun c3 => ?_) (fun c3 => ?_)
  · rw [if_pos c3] at h
    refine v_bipush O.1 dX20_wrongWith_83 (v := 18) (by decide) (q := 85) rfl ?_
    exact v_sub [] rfl (bm_wrongWith_85 hs O 18 M2 h)
  · rw [if_neg c3] at h
    refine v_iconst O.1 dX20_wrongWith_79 (v := (-1)) rfl (q := 80) rfl ?_
    refine v_goto O.1 dX20_wrongWith_80 (t := 85) (by decide) ?_
    exact v_sub [] rfl (bm_wrongWith_85 hs O (-1) M2 h)
def fm_wrongWith (s : Nat)  (M : Mem) : Option (Int32 × Mem) :=
  if 6 ≤ (M s 15) then
    gd (inb ((56 + (M s 15)) - 1) 342) <|
    bnd (fm_within ((M s ((56 + (M s 15)) - 1).toNatClampNeg) - 23040) 0 7 M) fun r3 M3 =>
    if r3 = 0 then
      some (18, M3)
    else
      if ((M s ((56 + (M s 15)) - 1).toNatClampNeg) - 23040) ≤ 3 then
        fm_wrongWith_58 s M3
      else
        if 10 ≤ (M3 s 15) then
          fm_wrongWith_58 s M3
        else
          some (19, M3)
  else
    some (19, M)
set_option maxHeartbeats 4000000 in
theorem bm_wrongWith {g : gM} {X : Cxt} {r : Int32} {M' : Mem} {s : Nat} (hs : mS s) (O : OkM g X cX20_wrongWith 3 (some .int) 1 (mQi g r M'))  (M : Mem) (h : fm_wrongWith s  M = some (r, M')) : V X 3 0 (WdM g M) 0 [(0, .ref (gMa g 0)), (1, .ref (gMa g s))] [] := by
  unfold fm_wrongWith at h
  refine v_aload_n O.1 dX20_wrongWith_0 rfl (q := 1) rfl ?_
  refine v_bipush O.1 dX20_wrongWith_1 (v := 15) (by decide) (q := 3) rfl ?_
  refine m_iald O (mS_i hs) (mS_l hs) (n := 342) (by decide) (by decide) (j := 15) dX20_wrongWith_3 (q := 4) rfl ?_
  refine v_bipush O.1 dX20_wrongWith_4 (v := 6) (by decide) (q := 6) rfl ?_
  refine v_icmp_ge O.1 dX20_wrongWith_6 (t := 12) (by decide) (q := 9) rfl (fun c1 => ?_) (fun c1 => ?_)
  · rw [if_pos c1] at h
    refine v_aload_n O.1 dX20_wrongWith_12 rfl (q := 13) rfl ?_
    refine v_bipush O.1 dX20_wrongWith_13 (v := 56) (by decide) (q := 15) rfl ?_
    refine v_aload_n O.1 dX20_wrongWith_15 rfl (q := 16) rfl ?_
    refine v_bipush O.1 dX20_wrongWith_16 (v := 15) (by decide) (q := 18) rfl ?_
    refine m_iald O (mS_i hs) (mS_l hs) (n := 342) (by decide) (by decide) (j := 15) dX20_wrongWith_18 (q := 19) rfl ?_
    refine v_iadd O.1 dX20_wrongWith_19 (q := 20) rfl ?_
    refine v_iconst O.1 dX20_wrongWith_20 (v := 1) rfl (q := 21) rfl ?_
    refine v_isub O.1 dX20_wrongWith_21 (q := 22) rfl ?_
    obtain ⟨g2, h⟩ := gd_some h
    refine m_iald O (mS_i hs) (mS_l hs) (n := 342) g2 rfl (j := ((56 + (M s 15)) - 1).toNatClampNeg) dX20_wrongWith_22 (q := 23) rfl ?_
    refine v_sipush O.1 dX20_wrongWith_23 (v := 23040) (by decide) (q := 26) rfl ?_
    refine v_isub O.1 dX20_wrongWith_26 (q := 27) rfl ?_
    refine v_istore_n (lv' := [(2, .int ((M s ((56 + (M s 15)) - 1).toNatClampNeg) - 23040)), (0, .ref (gMa g 0)), (1, .ref (gMa g s))]) O.1 dX20_wrongWith_27 (by decide) rfl (q := 28) rfl ?_
    refine v_iload_n O.1 dX20_wrongWith_28 rfl (q := 29) rfl ?_
    refine v_iconst O.1 dX20_wrongWith_29 (v := 0) rfl (q := 30) rfl ?_
    refine v_bipush O.1 dX20_wrongWith_30 (v := 7) (by decide) (q := 32) rfl ?_
    obtain ⟨r3, M3, e3, h⟩ := bnd_some h
    refine m_callSi (As := [.int ((M s ((56 + (M s 15)) - 1).toNatClampNeg) - 23040), .int 0, .int 7]) (rest := []) (n := 3) O (met_within _ g ((M s ((56 + (M s 15)) - 1).toNatClampNeg) - 23040) 0 7 M M3 r3 e3) (lw_S q1817 q1818 q84 q1819) (by decide +kernel) (by decide) (by decide) rfl rfl (Nat.le_of_ble_eq_true rfl) dX20_wrongWith_32 (q := 35) rfl ?_
    refine v_if_ne O.1 dX20_wrongWith_35 (t := 41) (by decide) (q := 38) rfl (fun c4 => ?_) (fun c4 => ?_)
    · rw [if_neg c4] at h
      refine v_iload_n O.1 dX20_wrongWith_41 rfl (q := 42) rfl ?_
      refine v_iconst O.1 dX20_wrongWith_42 (v := 3) rfl (q := 43) rfl ?_
      refine v_icmp_le O.1 dX20_wrongWith_43 (t := 58) (by decide) (q := 46) rfl (fun c5 => ?_) (fun c5 => ?_)
      · rw [if_pos c5] at h
        exact v_sub [2] rfl (bm_wrongWith_58 hs O M3 h)
      · rw [if_neg c5] at h
        refine v_aload_n O.1 dX20_wrongWith_46 rfl (q := 47) rfl ?_
        refine v_bipush O.1 dX20_wrongWith_47 (v := 15) (by decide) (q := 49) rfl ?_
        refine m_iald O (mS_i hs) (mS_l hs) (n := 342) (by decide) (by decide) (j := 15) dX20_wrongWith_49 (q := 50) rfl ?_
        refine v_bipush O.1 dX20_wrongWith_50 (v := 10) (by decide) (q := 52) rfl ?_
        refine v_icmp_ge O.1 dX20_wrongWith_52 (t := 58) (by decide) (q := 55) rfl (fun c6 => ?_) (fun c6 => ?_)
        · rw [if_pos c6] at h
          exact v_sub [2] rfl (bm_wrongWith_58 hs O M3 h)
        · rw [if_neg c6] at h
          refine v_bipush O.1 dX20_wrongWith_55 (v := 19) (by decide) (q := 57) rfl ?_
          exact m_iret O h dX20_wrongWith_57
    · rw [if_pos c4] at h
      refine v_bipush O.1 dX20_wrongWith_38 (v := 18) (by decide) (q := 40) rfl ?_
      exact m_iret O h dX20_wrongWith_40
  · rw [if_neg c1] at h
    refine v_bipush O.1 dX20_wrongWith_9 (v := 19) (by decide) (q := 11) rfl ?_
    exact m_iret O h dX20_wrongWith_11
theorem met_wrongWith (l : Launch) (g : gM) (s : Nat) (hs : mS s)  (M M' : Mem) (r : Int32) (h : fm_wrongWith s  M = some (r, M')) : MetM l g yX20_wrongWith cX20_wrongWith 3 (some .int) 1 [.ref (gMa g 0), .ref (gMa g s)] M (mQi g r M') :=
  m_met (by decide) rfl (Nat.le_of_ble_eq_true rfl) (fun X O => bm_wrongWith hs O  M h)
/-! returns([I)V -/
def fm_returns_70 (s : Nat) (K30 : Int32 → Int32 → Int32 → Mem → Option (Unit × Mem)) (x2 : Int32) (x3 : Int32) (x4 : Int32) (y2 : Int32) (y1 : Int32) (M : Mem) : Option (Unit × Mem) :=
  gd (inb y1 342) <|
  stp (up2 M s y1.toNatClampNeg y2) fun M2 =>
  K30 x2 x3 (x4 + 1) M2
set_option maxHeartbeats 4000000 in
theorem bm_returns_70 {g : gM} {X : Cxt} {r : Unit} {M' : Mem} {s : Nat} (hs : mS s) (O : OkM g X cX20_returns 5 none 1 (mQv g r M')) {K30 : Int32 → Int32 → Int32 → Mem → Option (Unit × Mem)} (hK30 : ∀ (x2 : Int32) (x3 : Int32) (x4 : Int32) (M : Mem), K30 x2 x3 x4 M = some (r, M') → V X 5 0 (WdM g M) 30 [(0, .ref (gMa g 0)), (1, .ref (gMa g s)), (2, .int x2), (3, .int x3), (4, .int x4)] []) (x2 : Int32) (x3 : Int32) (x4 : Int32) (y2 : Int32) (y1 : Int32) (M : Mem) (h : fm_returns_70 s K30 x2 x3 x4 y2 y1 M = some (r, M')) : V X 5 0 (WdM g M) 70 [(0, .ref (gMa g 0)), (1, .ref (gMa g s)), (2, .int x2), (3, .int x3), (4, .int x4)] [.int y2, .int y1, .ref (gMa g s)] := by
  unfold fm_returns_70 at h
  obtain ⟨g1, h⟩ := gd_some h
  obtain ⟨M2, e2, h⟩ := stp_some h
  refine m_iast O (mS_i hs) (mS_l hs) (n := 342) g1 rfl (j := y1.toNatClampNeg) dX20_returns_70 (q := 71) rfl e2 ?_
  refine v_iinc (lv' := [(4, .int (x4 + 1)), (0, .ref (gMa g 0)), (1, .ref (gMa g s)), (2, .int x2), (3, .int x3)]) (v := (x4 + 1)) O.1 dX20_returns_71 rfl rfl (by decide) rfl (q := 74) rfl ?_
  refine v_goto O.1 dX20_returns_74 (t := 30) (by decide) ?_
  exact v_sub [1, 2, 3, 4, 0] rfl (hK30 x2 x3 (x4 + 1) M2 h)
def fm_returns_216 (s : Nat) (y2 : Int32) (y1 : Int32) (M : Mem) : Option (Unit × Mem) :=
  bnd (fm_notes y1 y2 (M s 15) M) fun r1 M1 =>
  some ((), M1)
set_option maxHeartbeats 4000000 in
theorem bm_returns_216 {g : gM} {X : Cxt} {r : Unit} {M' : Mem} {s : Nat} (hs : mS s) (O : OkM g X cX20_returns 5 none 1 (mQv g r M')) (y2 : Int32) (y1 : Int32) (M : Mem) (h : fm_returns_216 s y2 y1 M = some (r, M')) : V X 5 0 (WdM g M) 216 [(1, .ref (gMa g s))] [.int y2, .int y1, .ref (gMa g 0)] := by
  unfold fm_returns_216 at h
  refine v_aload_n O.1 dX20_returns_216 rfl (q := 217) rfl ?_
  refine v_bipush O.1 dX20_returns_217 (v := 15) (by decide) (q := 219) rfl ?_
  refine m_iald O (mS_i hs) (mS_l hs) (n := 342) (by decide) (by decide) (j := 15) dX20_returns_219 (q := 220) rfl ?_
  obtain ⟨r1, M1, e1, h⟩ := bnd_some h
  refine m_callVv (As := [.int y1, .int y2, .int (M s 15)]) (rest := []) (n := 3) O (met_notes _ g y1 y2 (M s 15) M M1 r1 e1) (lw_V q1930 q1932 qs36 q84 q1933) (by decide +kernel) (by decide) (by decide) rfl rfl (Nat.le_of_ble_eq_true rfl) dX20_returns_220 (q := 223) rfl ?_
  exact m_vret O h dX20_returns_223
def fm_returns_182 (s : Nat) (y3 : Int32) (y2 : Int32) (y1 : Int32) (M : Mem) : Option (Unit × Mem) :=
  gd (inb y1 342) <|
  stp (up2 M s y1.toNatClampNeg (y2 - y3)) fun M2 =>
  bnd (fm_turns s 0 0 M2) fun r3 M3 =>
  if (M3 s 30) = 0 then
    fm_returns_216 s (-1) 5 M3
  else
    gd (inb ((152 + (M3 s 30)) - 1) 342) <|
    fm_returns_216 s (M3 s ((152 + (M3 s 30)) - 1).toNatClampNeg) 5 M3
set_option maxHeartbeats 4000000 in
theorem bm_returns_182 {g : gM} {X : Cxt} {r : Unit} {M' : Mem} {s : Nat} (hs : mS s) (O : OkM g X cX20_returns 5 none 1 (mQv g r M')) (y3 : Int32) (y2 : Int32) (y1 : Int32) (M : Mem) (h : fm_returns_182 s y3 y2 y1 M = some (r, M')) : V X 5 0 (WdM g M) 182 [(0, .ref (gMa g 0)), (1, .ref (gMa g s))] [.int y3, .int y2, .int y1, .ref (gMa g s)] := by
  unfold fm_returns_182 at h
  refine v_isub O.1 dX20_returns_182 (q := 183) rfl ?_
  obtain ⟨g1, h⟩ := gd_some h
  obtain ⟨M2, e2, h⟩ := stp_some h
  refine m_iast O (mS_i hs) (mS_l hs) (n := 342) g1 rfl (j := y1.toNatClampNeg) dX20_returns_183 (q := 184) rfl e2 ?_
  refine v_aload_n O.1 dX20_returns_184 rfl (q := 185) rfl ?_
  refine v_aload_n O.1 dX20_returns_185 rfl (q := 186) rfl ?_
  refine v_iconst O.1 dX20_returns_186 (v := 0) rfl (q := 187) rfl ?_
  refine v_iconst O.1 dX20_returns_187 (v := 0) rfl (q := 188) rfl ?_
  obtain ⟨r3, M3, e3, h⟩ := bnd_some h
  refine m_callVv (As := [.ref (gMa g s), .int 0, .int 0]) (rest := []) (n := 3) O (met_turns _ g s hs 0 0 M2 M3 r3 e3) (lw_V q1906 q1908 qs30 q84 q1909) (by decide +kernel) (by decide) (by decide) rfl rfl (Nat.le_of_ble_eq_true rfl) dX20_returns_188 (q := 191) rfl ?_
  refine v_aload_n O.1 dX20_returns_191 rfl (q := 192) rfl ?_
  refine v_iconst O.1 dX20_returns_192 (v := 5) rfl (q := 193) rfl ?_
  refine v_aload_n O.1 dX20_returns_193 rfl (q := 194) rfl ?_
  refine v_bipush O.1 dX20_returns_194 (v := 30) (by decide) (q := 196) rfl ?_
  refine m_iald O (mS_i hs) (mS_l hs) (n := 342) (by decide) (by decide) (j := 30) dX20_returns_196 (q := 197) rfl ?_
  refine v_if_ne O.1 dX20_returns_197 (t := 204) (by decide) (q := 200) rfl (fun c4 => ?_) (fun c4 => ?_)
  · rw [if_neg c4] at h
    refine v_aload_n O.1 dX20_returns_204 rfl (q := 205) rfl ?_
    refine v_sipush O.1 dX20_returns_205 (v := 152) (by decide) (q := 208) rfl ?_
    refine v_aload_n O.1 dX20_returns_208 rfl (q := 209) rfl ?_
    refine v_bipush O.1 dX20_returns_209 (v := 30) (by decide) (q := 211) rfl ?_
    refine m_iald O (mS_i hs) (mS_l hs) (n := 342) (by decide) (by decide) (j := 30) dX20_returns_211 (q := 212) rfl ?_
    refine v_iadd O.1 dX20_returns_212 (q := 213) rfl ?_
    refine v_iconst O.1 dX20_returns_213 (v := 1) rfl (q := 214) rfl ?_
    refine v_isub O.1 dX20_returns_214 (q := 215) rfl ?_
    obtain ⟨g5, h⟩ := gd_some h
    refine m_iald O (mS_i hs) (mS_l hs) (n := 342) g5 rfl (j := ((152 + (M3 s 30)) - 1).toNatClampNeg) dX20_returns_215 (q := 216) rfl ?_
    exact v_sub [1] rfl (bm_returns_216 hs O (M3 s ((152 + (M3 s 30)) - 1).toNatClampNeg) 5 M3 h)
  · rw [if_pos c4] at h
    refine v_iconst O.1 dX20_returns_200 (v := (-1)) rfl (q := 201) rfl ?_
    refine v_goto O.1 dX20_returns_201 (t := 216) (by decide) ?_
    exact v_sub [1] rfl (bm_returns_216 hs O (-1) 5 M3 h)
def fm_returns_113b (s : Nat) (K113 : Int32 → Int32 → Int32 → Mem → Option (Unit × Mem)) (x2 : Int32) (x3 : Int32) (x4 : Int32) (M : Mem) : Option (Unit × Mem) :=
  if 4 ≤ x4 then
    gd (inb (x2 - 2) 342) <|
    stp (up2 M s 12 (M s (x2 - 2).toNatClampNeg)) fun M3 =>
    stp (up2 M3 s 13 (x3 &&& 1)) fun M4 =>
    stp (up2 M4 s 14 ((x3 >>> (1 &&& 31)) &&& 1)) fun M5 =>
    if x3 ≤ 3 then
      fm_returns_182 s 6 (M5 s 15) 15 M5
    else
      fm_returns_182 s 10 (M5 s 15) 15 M5
  else
    gd (inb ((x2 - 6) + x4) 342) <|
    gd (inb (0 + x4) 342) <|
    stp (up2 M s (0 + x4).toNatClampNeg (M s ((x2 - 6) + x4).toNatClampNeg)) fun M9 =>
    K113 x2 x3 (x4 + 1) M9
set_option maxHeartbeats 4000000 in
theorem bm_returns_113b {g : gM} {X : Cxt} {r : Unit} {M' : Mem} {s : Nat} (hs : mS s) (O : OkM g X cX20_returns 5 none 1 (mQv g r M')) {K113 : Int32 → Int32 → Int32 → Mem → Option (Unit × Mem)} (hK113 : ∀ (x2 : Int32) (x3 : Int32) (x4 : Int32) (M : Mem), K113 x2 x3 x4 M = some (r, M') → V X 5 0 (WdM g M) 113 [(0, .ref (gMa g 0)), (1, .ref (gMa g s)), (2, .int x2), (3, .int x3), (4, .int x4)] []) (x2 : Int32) (x3 : Int32) (x4 : Int32) (M : Mem) (h : fm_returns_113b s K113 x2 x3 x4 M = some (r, M')) : V X 5 0 (WdM g M) 113 [(0, .ref (gMa g 0)), (1, .ref (gMa g s)), (2, .int x2), (3, .int x3), (4, .int x4)] [] := by
  unfold fm_returns_113b at h
  refine v_iload O.1 dX20_returns_113 rfl (q := 115) rfl ?_
  refine v_iconst O.1 dX20_returns_115 (v := 4) rfl (q := 116) rfl ?_
  refine v_icmp_ge O.1 dX20_returns_116 (t := 140) (by decide) (q := 119) rfl (fun c1 => ?_) (fun c1 => ?_)
  · rw [if_pos c1] at h
    refine v_aload_n O.1 dX20_returns_140 rfl (q := 141) rfl ?_
    refine v_bipush O.1 dX20_returns_141 (v := 12) (by decide) (q := 143) rfl ?_
    refine v_aload_n O.1 dX20_returns_143 rfl (q := 144) rfl ?_
    refine v_iload_n O.1 dX20_returns_144 rfl (q := 145) rfl ?_
    refine v_iconst O.1 dX20_returns_145 (v := 2) rfl (q := 146) rfl ?_
    refine v_isub O.1 dX20_returns_146 (q := 147) rfl ?_
    obtain ⟨g2, h⟩ := gd_some h
    refine m_iald O (mS_i hs) (mS_l hs) (n := 342) g2 rfl (j := (x2 - 2).toNatClampNeg) dX20_returns_147 (q := 148) rfl ?_
    obtain ⟨M3, e3, h⟩ := stp_some h
    refine m_iast O (mS_i hs) (mS_l hs) (n := 342) (by decide) (by decide) (j := 12) dX20_returns_148 (q := 149) rfl e3 ?_
    refine v_aload_n O.1 dX20_returns_149 rfl (q := 150) rfl ?_
    refine v_bipush O.1 dX20_returns_150 (v := 13) (by decide) (q := 152) rfl ?_
    refine v_iload_n O.1 dX20_returns_152 rfl (q := 153) rfl ?_
    refine v_iconst O.1 dX20_returns_153 (v := 1) rfl (q := 154) rfl ?_
    refine v_iand O.1 dX20_returns_154 (q := 155) rfl ?_
    obtain ⟨M4, e4, h⟩ := stp_some h
    refine m_iast O (mS_i hs) (mS_l hs) (n := 342) (by decide) (by decide) (j := 13) dX20_returns_155 (q := 156) rfl e4 ?_
    refine v_aload_n O.1 dX20_returns_156 rfl (q := 157) rfl ?_
    refine v_bipush O.1 dX20_returns_157 (v := 14) (by decide) (q := 159) rfl ?_
    refine v_iload_n O.1 dX20_returns_159 rfl (q := 160) rfl ?_
    refine v_iconst O.1 dX20_returns_160 (v := 1) rfl (q := 161) rfl ?_
    refine v_ishr O.1 dX20_returns_161 (q := 162) rfl ?_
    refine v_iconst O.1 dX20_returns_162 (v := 1) rfl (q := 163) rfl ?_
    refine v_iand O.1 dX20_returns_163 (q := 164) rfl ?_
    obtain ⟨M5, e5, h⟩ := stp_some h
    refine m_iast O (mS_i hs) (mS_l hs) (n := 342) (by decide) (by decide) (j := 14) dX20_returns_164 (q := 165) rfl e5 ?_
    refine v_aload_n O.1 dX20_returns_165 rfl (q := 166) rfl ?_
    refine v_bipush O.1 dX20_returns_166 (v := 15) (by decide) (q := 168) rfl ?_
    refine v_dup2 O.1 dX20_returns_168 rfl rfl (q := 169) rfl ?_
    refine m_iald O (mS_i hs) (mS_l hs) (n := 342) (by decide) (by decide) (j := 15) dX20_returns_169 (q := 170) rfl ?_
    refine v_iload_n O.1 dX20_returns_170 rfl (q := 171) rfl ?_
    refine v_iconst O.1 dX20_returns_171 (v := 3) rfl (q := 172) rfl ?_
    refine v_icmp_le O.1 dX20_returns_172 (t := 180) (by decide) (q := 175) rfl (fun c6 => ?_) (fun c6 => ?_)
    · rw [if_pos c6] at h
      refine v_bipush O.1 dX20_returns_180 (v := 6) (by decide) (q := 182) rfl ?_
      exact v_sub [0, 1] rfl (bm_returns_182 hs O 6 (M5 s 15) 15 M5 h)
    · rw [if_neg c6] at h
      refine v_bipush O.1 dX20_returns_175 (v := 10) (by decide) (q := 177) rfl ?_
      refine v_goto O.1 dX20_returns_177 (t := 182) (by decide) ?_
      exact v_sub [0, 1] rfl (bm_returns_182 hs O 10 (M5 s 15) 15 M5 h)
  · rw [if_neg c1] at h
    refine v_aload_n O.1 dX20_returns_119 rfl (q := 120) rfl ?_
    refine v_iconst O.1 dX20_returns_120 (v := 0) rfl (q := 121) rfl ?_
    refine v_iload O.1 dX20_returns_121 rfl (q := 123) rfl ?_
    refine v_iadd O.1 dX20_returns_123 (q := 124) rfl ?_
    refine v_aload_n O.1 dX20_returns_124 rfl (q := 125) rfl ?_
    refine v_iload_n O.1 dX20_returns_125 rfl (q := 126) rfl ?_
    refine v_bipush O.1 dX20_returns_126 (v := 6) (by decide) (q := 128) rfl ?_
    refine v_isub O.1 dX20_returns_128 (q := 129) rfl ?_
    refine v_iload O.1 dX20_returns_129 rfl (q := 131) rfl ?_
    refine v_iadd O.1 dX20_returns_131 (q := 132) rfl ?_
    obtain ⟨g7, h⟩ := gd_some h
    refine m_iald O (mS_i hs) (mS_l hs) (n := 342) g7 rfl (j := ((x2 - 6) + x4).toNatClampNeg) dX20_returns_132 (q := 133) rfl ?_
    obtain ⟨g8, h⟩ := gd_some h
    obtain ⟨M9, e9, h⟩ := stp_some h
    refine m_iast O (mS_i hs) (mS_l hs) (n := 342) g8 rfl (j := (0 + x4).toNatClampNeg) dX20_returns_133 (q := 134) rfl e9 ?_
    refine v_iinc (lv' := [(4, .int (x4 + 1)), (0, .ref (gMa g 0)), (1, .ref (gMa g s)), (2, .int x2), (3, .int x3)]) (v := (x4 + 1)) O.1 dX20_returns_134 rfl rfl (by decide) rfl (q := 137) rfl ?_
    refine v_goto O.1 dX20_returns_137 (t := 113) (by decide) ?_
    exact v_sub [1, 2, 3, 4, 0] rfl (hK113 x2 x3 (x4 + 1) M9 h)
def fm_returns_113 (s : Nat) (n : Nat) : Int32 → Int32 → Int32 → Mem → Option (Unit × Mem) := lpc (fm_returns_113b s) (fun _ _ _ _ => none) n
theorem bm_returns_113 {g : gM} {X : Cxt} {r : Unit} {M' : Mem} {s : Nat} (hs : mS s) (O : OkM g X cX20_returns 5 none 1 (mQv g r M')) : ∀ (n : Nat) (x2 : Int32) (x3 : Int32) (x4 : Int32) (M : Mem), fm_returns_113 s n x2 x3 x4 M = some (r, M') → V X 5 0 (WdM g M) 113 [(0, .ref (gMa g 0)), (1, .ref (gMa g s)), (2, .int x2), (3, .int x3), (4, .int x4)] [] := by
  intro n
  induction n with
  | zero =>
    intro x2 x3 x4 M h
    cases h
  | succ n ih =>
    intro x2 x3 x4 M h
    exact bm_returns_113b hs O ih x2 x3 x4 M h
def fm_returns_109 (s : Nat) (x2 : Int32) (x3 : Int32) (y2 : Int32) (y1 : Int32) (M : Mem) : Option (Unit × Mem) :=
  gd (inb y1 342) <|
  stp (up2 M s y1.toNatClampNeg y2) fun M2 =>
  fm_returns_113 s 600 x2 x3 0 M2
set_option maxHeartbeats 4000000 in
theorem bm_returns_109 {g : gM} {X : Cxt} {r : Unit} {M' : Mem} {s : Nat} (hs : mS s) (O : OkM g X cX20_returns 5 none 1 (mQv g r M')) (x2 : Int32) (x3 : Int32) (y2 : Int32) (y1 : Int32) (M : Mem) (h : fm_returns_109 s x2 x3 y2 y1 M = some (r, M')) : V X 5 0 (WdM g M) 109 [(0, .ref (gMa g 0)), (1, .ref (gMa g s)), (2, .int x2), (3, .int x3)] [.int y2, .int y1, .ref (gMa g s)] := by
  unfold fm_returns_109 at h
  obtain ⟨g1, h⟩ := gd_some h
  obtain ⟨M2, e2, h⟩ := stp_some h
  refine m_iast O (mS_i hs) (mS_l hs) (n := 342) g1 rfl (j := y1.toNatClampNeg) dX20_returns_109 (q := 110) rfl e2 ?_
  refine v_iconst O.1 dX20_returns_110 (v := 0) rfl (q := 111) rfl ?_
  refine v_istore (lv' := [(4, .int 0), (0, .ref (gMa g 0)), (1, .ref (gMa g s)), (2, .int x2), (3, .int x3)]) O.1 dX20_returns_111 (by decide) rfl (q := 113) rfl ?_
  exact v_sub [1, 2, 3, 4, 0] rfl (bm_returns_113 hs O 600 x2 x3 0 M2 h)
def fm_returns_96 (s : Nat) (x2 : Int32) (x3 : Int32) (M : Mem) : Option (Unit × Mem) :=
  if x3 ≤ 3 then
    fm_returns_109 s x2 x3 0 18 M
  else
    fm_returns_109 s x2 x3 1 18 M
set_option maxHeartbeats 4000000 in
theorem bm_returns_96 {g : gM} {X : Cxt} {r : Unit} {M' : Mem} {s : Nat} (hs : mS s) (O : OkM g X cX20_returns 5 none 1 (mQv g r M')) (x2 : Int32) (x3 : Int32) (M : Mem) (h : fm_returns_96 s x2 x3 M = some (r, M')) : V X 5 0 (WdM g M) 96 [(0, .ref (gMa g 0)), (1, .ref (gMa g s)), (2, .int x2), (3, .int x3)] [] := by
  unfold fm_returns_96 at h
  refine v_aload_n O.1 dX20_returns_96 rfl (q := 97) rfl ?_
  refine v_bipush O.1 dX20_returns_97 (v := 18) (by decide) (q := 99) rfl ?_
  refine v_iload_n O.1 dX20_returns_99 rfl (q := 100) rfl ?_
  refine v_iconst O.1 dX20_returns_100 (v := 3) rfl (q := 101) rfl ?_
  refine v_icmp_le O.1 dX20_returns_101 (t := 108) (by decide) (q := 104) rfl (fun c1 => ?_) (fun c1 => ?_)
  · rw [if_pos c1] at h
    refine v_iconst O.1 dX20_returns_108 (v := 0) rfl (q := 109) rfl ?_
    exact v_sub [0, 1, 2, 3] rfl (bm_returns_109 hs O x2 x3 0 18 M h)
  · rw [if_neg c1] at h
    refine v_iconst O.1 dX20_returns_104 (v := 1) rfl (q := 105) rfl ?_
    refine v_goto O.1 dX20_returns_105 (t := 109) (by decide) ?_
    exact v_sub [0, 1, 2, 3] rfl (bm_returns_109 hs O x2 x3 1 18 M h)
def fm_returns_30b (s : Nat) (K30 : Int32 → Int32 → Int32 → Mem → Option (Unit × Mem)) (x2 : Int32) (x3 : Int32) (x4 : Int32) (M : Mem) : Option (Unit × Mem) :=
  if 4 ≤ x4 then
    fm_returns_96 s x2 x3 M
  else
    gd (inb ((x2 - 10) + x4) 342) <|
    bnd (fm_isFinite (M s ((x2 - 10) + x4).toNatClampNeg) M) fun r3 M3 =>
    if r3 = 0 then
      fm_returns_70 s K30 x2 x3 x4 0 (8 + x4) M3
    else
      gd (inb ((x2 - 10) + x4) 342) <|
      fm_returns_70 s K30 x2 x3 x4 (M3 s ((x2 - 10) + x4).toNatClampNeg) (8 + x4) M3
set_option maxHeartbeats 4000000 in
theorem bm_returns_30b {g : gM} {X : Cxt} {r : Unit} {M' : Mem} {s : Nat} (hs : mS s) (O : OkM g X cX20_returns 5 none 1 (mQv g r M')) {K30 : Int32 → Int32 → Int32 → Mem → Option (Unit × Mem)} (hK30 : ∀ (x2 : Int32) (x3 : Int32) (x4 : Int32) (M : Mem), K30 x2 x3 x4 M = some (r, M') → V X 5 0 (WdM g M) 30 [(0, .ref (gMa g 0)), (1, .ref (gMa g s)), (2, .int x2), (3, .int x3), (4, .int x4)] []) (x2 : Int32) (x3 : Int32) (x4 : Int32) (M : Mem) (h : fm_returns_30b s K30 x2 x3 x4 M = some (r, M')) : V X 5 0 (WdM g M) 30 [(0, .ref (gMa g 0)), (1, .ref (gMa g s)), (2, .int x2), (3, .int x3), (4, .int x4)] [] := by
  unfold fm_returns_30b at h
  refine v_iload O.1 dX20_returns_30 rfl (q := 32) rfl ?_
  refine v_iconst O.1 dX20_returns_32 (v := 4) rfl (q := 33) rfl ?_
  refine v_icmp_ge O.1 dX20_returns_33 (t := 77) (by decide) (q := 36) rfl (fun c1 => ?_) (fun c1 => ?_)
  · rw [if_pos c1] at h
    refine v_goto O.1 dX20_returns_77 (t := 96) (by decide) ?_
    exact v_sub [0, 1, 2, 3] rfl (bm_returns_96 hs O x2 x3 M h)
  · rw [if_neg c1] at h
    refine v_aload_n O.1 dX20_returns_36 rfl (q := 37) rfl ?_
    refine v_bipush O.1 dX20_returns_37 (v := 8) (by decide) (q := 39) rfl ?_
    refine v_iload O.1 dX20_returns_39 rfl (q := 41) rfl ?_
    refine v_iadd O.1 dX20_returns_41 (q := 42) rfl ?_
    refine v_aload_n O.1 dX20_returns_42 rfl (q := 43) rfl ?_
    refine v_iload_n O.1 dX20_returns_43 rfl (q := 44) rfl ?_
    refine v_bipush O.1 dX20_returns_44 (v := 10) (by decide) (q := 46) rfl ?_
    refine v_isub O.1 dX20_returns_46 (q := 47) rfl ?_
    refine v_iload O.1 dX20_returns_47 rfl (q := 49) rfl ?_
    refine v_iadd O.1 dX20_returns_49 (q := 50) rfl ?_
    obtain ⟨g2, h⟩ := gd_some h
    refine m_iald O (mS_i hs) (mS_l hs) (n := 342) g2 rfl (j := ((x2 - 10) + x4).toNatClampNeg) dX20_returns_50 (q := 51) rfl ?_
    obtain ⟨r3, M3, e3, h⟩ := bnd_some h
    refine m_callSi (As := [.int (M s ((x2 - 10) + x4).toNatClampNeg)]) (rest := [.int (8 + x4), .ref (gMa g s)]) (n := 1) O (met_isFinite _ g (M s ((x2 - 10) + x4).toNatClampNeg) M M3 r3 e3) (lw_S q1976 q1977 q84 q1978) (by decide +kernel) (by decide) (by decide) rfl rfl (Nat.le_of_ble_eq_true rfl) dX20_returns_51 (q := 54) rfl ?_
    refine v_if_eq O.1 dX20_returns_54 (t := 69) (by decide) (q := 57) rfl (fun c4 => ?_) (fun c4 => ?_)
    · rw [if_pos c4] at h
      refine v_iconst O.1 dX20_returns_69 (v := 0) rfl (q := 70) rfl ?_
      exact v_sub [0, 1, 2, 3, 4] rfl (bm_returns_70 hs O hK30 x2 x3 x4 0 (8 + x4) M3 h)
    · rw [if_neg c4] at h
      refine v_aload_n O.1 dX20_returns_57 rfl (q := 58) rfl ?_
      refine v_iload_n O.1 dX20_returns_58 rfl (q := 59) rfl ?_
      refine v_bipush O.1 dX20_returns_59 (v := 10) (by decide) (q := 61) rfl ?_
      refine v_isub O.1 dX20_returns_61 (q := 62) rfl ?_
      refine v_iload O.1 dX20_returns_62 rfl (q := 64) rfl ?_
      refine v_iadd O.1 dX20_returns_64 (q := 65) rfl ?_
      obtain ⟨g5, h⟩ := gd_some h
      refine m_iald O (mS_i hs) (mS_l hs) (n := 342) g5 rfl (j := ((x2 - 10) + x4).toNatClampNeg) dX20_returns_65 (q := 66) rfl ?_
      refine v_goto O.1 dX20_returns_66 (t := 70) (by decide) ?_
      exact v_sub [0, 1, 2, 3, 4] rfl (bm_returns_70 hs O hK30 x2 x3 x4 (M3 s ((x2 - 10) + x4).toNatClampNeg) (8 + x4) M3 h)
def fm_returns_30 (s : Nat) (n : Nat) : Int32 → Int32 → Int32 → Mem → Option (Unit × Mem) := lpc (fm_returns_30b s) (fun _ _ _ _ => none) n
theorem bm_returns_30 {g : gM} {X : Cxt} {r : Unit} {M' : Mem} {s : Nat} (hs : mS s) (O : OkM g X cX20_returns 5 none 1 (mQv g r M')) : ∀ (n : Nat) (x2 : Int32) (x3 : Int32) (x4 : Int32) (M : Mem), fm_returns_30 s n x2 x3 x4 M = some (r, M') → V X 5 0 (WdM g M) 30 [(0, .ref (gMa g 0)), (1, .ref (gMa g s)), (2, .int x2), (3, .int x3), (4, .int x4)] [] := by
  intro n
  induction n with
  | zero =>
    intro x2 x3 x4 M h
    cases h
  | succ n ih =>
    intro x2 x3 x4 M h
    exact bm_returns_30b hs O ih x2 x3 x4 M h
def fm_returns (s : Nat)  (M : Mem) : Option (Unit × Mem) :=
  gd (inb ((56 + (M s 15)) - 1) 342) <|
  if (M s 32) = 10 then
    fm_returns_30 s 600 (56 + (M s 15)) ((M s ((56 + (M s 15)) - 1).toNatClampNeg) - 23040) 0 M
  else
    if ((M s ((56 + (M s 15)) - 1).toNatClampNeg) - 23040) ≤ 3 then
      fm_returns_96 s (56 + (M s 15)) ((M s ((56 + (M s 15)) - 1).toNatClampNeg) - 23040) M
    else
      stp (up2 M s 19 (-1)) fun M4 =>
      bnd (fm_counts 6 M4) fun r5 M5 =>
      fm_returns_96 s (56 + (M s 15)) ((M s ((56 + (M s 15)) - 1).toNatClampNeg) - 23040) M5
set_option maxHeartbeats 4000000 in
theorem bm_returns {g : gM} {X : Cxt} {r : Unit} {M' : Mem} {s : Nat} (hs : mS s) (O : OkM g X cX20_returns 5 none 1 (mQv g r M'))  (M : Mem) (h : fm_returns s  M = some (r, M')) : V X 5 0 (WdM g M) 0 [(0, .ref (gMa g 0)), (1, .ref (gMa g s))] [] := by
  unfold fm_returns at h
  refine v_bipush O.1 dX20_returns_0 (v := 56) (by decide) (q := 2) rfl ?_
  refine v_aload_n O.1 dX20_returns_2 rfl (q := 3) rfl ?_
  refine v_bipush O.1 dX20_returns_3 (v := 15) (by decide) (q := 5) rfl ?_
  refine m_iald O (mS_i hs) (mS_l hs) (n := 342) (by decide) (by decide) (j := 15) dX20_returns_5 (q := 6) rfl ?_
  refine v_iadd O.1 dX20_returns_6 (q := 7) rfl ?_
  refine v_istore_n (lv' := [(2, .int (56 + (M s 15))), (0, .ref (gMa g 0)), (1, .ref (gMa g s))]) O.1 dX20_returns_7 (by decide) rfl (q := 8) rfl ?_
  refine v_aload_n O.1 dX20_returns_8 rfl (q := 9) rfl ?_
  refine v_iload_n O.1 dX20_returns_9 rfl (q := 10) rfl ?_
  refine v_iconst O.1 dX20_returns_10 (v := 1) rfl (q := 11) rfl ?_
  refine v_isub O.1 dX20_returns_11 (q := 12) rfl ?_
  obtain ⟨g1, h⟩ := gd_some h
  refine m_iald O (mS_i hs) (mS_l hs) (n := 342) g1 rfl (j := ((56 + (M s 15)) - 1).toNatClampNeg) dX20_returns_12 (q := 13) rfl ?_
  refine v_sipush O.1 dX20_returns_13 (v := 23040) (by decide) (q := 16) rfl ?_
  refine v_isub O.1 dX20_returns_16 (q := 17) rfl ?_
  refine v_istore_n (lv' := [(3, .int ((M s ((56 + (M s 15)) - 1).toNatClampNeg) - 23040)), (2, .int (56 + (M s 15))), (0, .ref (gMa g 0)), (1, .ref (gMa g s))]) O.1 dX20_returns_17 (by decide) rfl (q := 18) rfl ?_
  refine v_aload_n O.1 dX20_returns_18 rfl (q := 19) rfl ?_
  refine v_bipush O.1 dX20_returns_19 (v := 32) (by decide) (q := 21) rfl ?_
  refine m_iald O (mS_i hs) (mS_l hs) (n := 342) (by decide) (by decide) (j := 32) dX20_returns_21 (q := 22) rfl ?_
  refine v_bipush O.1 dX20_returns_22 (v := 10) (by decide) (q := 24) rfl ?_
  refine v_icmp_ne O.1 dX20_returns_24 (t := 80) (by decide) (q := 27) rfl (fun c2 => ?_) (fun c2 => ?_)
  · rw [if_neg c2] at h
    refine v_iload_n O.1 dX20_returns_80 rfl (q := 81) rfl ?_
    refine v_iconst O.1 dX20_returns_81 (v := 3) rfl (q := 82) rfl ?_
    refine v_icmp_le O.1 dX20_returns_82 (t := 96) (by decide) (q := 85) rfl (fun c3 => ?_) (fun c3 => ?_)
    · rw [if_pos c3] at h
      exact v_sub [2, 3, 1, 0] rfl (bm_returns_96 hs O (56 + (M s 15)) ((M s ((56 + (M s 15)) - 1).toNatClampNeg) - 23040) M h)
    · rw [if_neg c3] at h
      refine v_aload_n O.1 dX20_returns_85 rfl (q := 86) rfl ?_
      refine v_bipush O.1 dX20_returns_86 (v := 19) (by decide) (q := 88) rfl ?_
      refine v_iconst O.1 dX20_returns_88 (v := (-1)) rfl (q := 89) rfl ?_
      obtain ⟨M4, e4, h⟩ := stp_some h
      refine m_iast O (mS_i hs) (mS_l hs) (n := 342) (by decide) (by decide) (j := 19) dX20_returns_89 (q := 90) rfl e4 ?_
      refine v_aload_n O.1 dX20_returns_90 rfl (q := 91) rfl ?_
      refine v_bipush O.1 dX20_returns_91 (v := 6) (by decide) (q := 93) rfl ?_
      obtain ⟨r5, M5, e5, h⟩ := bnd_some h
      refine m_callVv (As := [.int 6]) (rest := []) (n := 1) O (met_counts _ g 6 M4 M5 r5 e5) (lw_V q1849 q1851 qs23 q84 q1852) (by decide +kernel) (by decide) (by decide) rfl rfl (Nat.le_of_ble_eq_true rfl) dX20_returns_93 (q := 96) rfl ?_
      exact v_sub [2, 3, 1, 0] rfl (bm_returns_96 hs O (56 + (M s 15)) ((M s ((56 + (M s 15)) - 1).toNatClampNeg) - 23040) M5 h)
  · rw [if_pos c2] at h
    refine v_iconst O.1 dX20_returns_27 (v := 0) rfl (q := 28) rfl ?_
    refine v_istore (lv' := [(4, .int 0), (3, .int ((M s ((56 + (M s 15)) - 1).toNatClampNeg) - 23040)), (2, .int (56 + (M s 15))), (0, .ref (gMa g 0)), (1, .ref (gMa g s))]) O.1 dX20_returns_28 (by decide) rfl (q := 30) rfl ?_
    exact v_sub [3, 4, 2, 1, 0] rfl (bm_returns_30 hs O 600 (56 + (M s 15)) ((M s ((56 + (M s 15)) - 1).toNatClampNeg) - 23040) 0 M h)
theorem met_returns (l : Launch) (g : gM) (s : Nat) (hs : mS s)  (M M' : Mem) (r : Unit) (h : fm_returns s  M = some (r, M')) : MetM l g yX20_returns cX20_returns 5 none 1 [.ref (gMa g 0), .ref (gMa g s)] M (mQv g r M') :=
  m_met (by decide) rfl (Nat.le_of_ble_eq_true rfl) (fun X O => bm_returns hs O  M h)
/-! unstacks([I)V -/
def fm_unstacks_146 (s : Nat)  (M : Mem) : Option (Unit × Mem) :=
  some ((), M)
set_option maxHeartbeats 4000000 in
theorem bm_unstacks_146 {g : gM} {X : Cxt} {r : Unit} {M' : Mem} {s : Nat} (hs : mS s) (O : OkM g X cX20_unstacks 4 none 5 (mQv g r M'))  (M : Mem) (h : fm_unstacks_146 s  M = some (r, M')) : V X 4 0 (WdM g M) 146 [] [] := by
  unfold fm_unstacks_146 at h
  exact m_vret O h dX20_unstacks_146
def fm_unstacks_122 (s : Nat)  (M : Mem) : Option (Unit × Mem) :=
  stp (up2 M s 21 ((M s 21) + 1)) fun M1 =>
  if (M1 s 21) = (M1 s 32) then
    bnd (fm_returns s M1) fun r3 M3 =>
    fm_unstacks_146 s M3
  else
    fm_unstacks_146 s M1
set_option maxHeartbeats 4000000 in
theorem bm_unstacks_122 {g : gM} {X : Cxt} {r : Unit} {M' : Mem} {s : Nat} (hs : mS s) (O : OkM g X cX20_unstacks 4 none 5 (mQv g r M'))  (M : Mem) (h : fm_unstacks_122 s  M = some (r, M')) : V X 4 0 (WdM g M) 122 [(0, .ref (gMa g 0)), (1, .ref (gMa g s))] [] := by
  unfold fm_unstacks_122 at h
  refine v_aload_n O.1 dX20_unstacks_122 rfl (q := 123) rfl ?_
  refine v_bipush O.1 dX20_unstacks_123 (v := 21) (by decide) (q := 125) rfl ?_
  refine v_dup2 O.1 dX20_unstacks_125 rfl rfl (q := 126) rfl ?_
  refine m_iald O (mS_i hs) (mS_l hs) (n := 342) (by decide) (by decide) (j := 21) dX20_unstacks_126 (q := 127) rfl ?_
  refine v_iconst O.1 dX20_unstacks_127 (v := 1) rfl (q := 128) rfl ?_
  refine v_iadd O.1 dX20_unstacks_128 (q := 129) rfl ?_
  obtain ⟨M1, e1, h⟩ := stp_some h
  refine m_iast O (mS_i hs) (mS_l hs) (n := 342) (by decide) (by decide) (j := 21) dX20_unstacks_129 (q := 130) rfl e1 ?_
  refine v_aload_n O.1 dX20_unstacks_130 rfl (q := 131) rfl ?_
  refine v_bipush O.1 dX20_unstacks_131 (v := 21) (by decide) (q := 133) rfl ?_
  refine m_iald O (mS_i hs) (mS_l hs) (n := 342) (by decide) (by decide) (j := 21) dX20_unstacks_133 (q := 134) rfl ?_
  refine v_aload_n O.1 dX20_unstacks_134 rfl (q := 135) rfl ?_
  refine v_bipush O.1 dX20_unstacks_135 (v := 32) (by decide) (q := 137) rfl ?_
  refine m_iald O (mS_i hs) (mS_l hs) (n := 342) (by decide) (by decide) (j := 32) dX20_unstacks_137 (q := 138) rfl ?_
  refine v_icmp_ne O.1 dX20_unstacks_138 (t := 146) (by decide) (q := 141) rfl (fun c2 => ?_) (fun c2 => ?_)
  · rw [if_neg c2] at h
    exact v_sub [] rfl (bm_unstacks_146 hs O M1 h)
  · rw [if_pos c2] at h
    refine v_aload_n O.1 dX20_unstacks_141 rfl (q := 142) rfl ?_
    refine v_aload_n O.1 dX20_unstacks_142 rfl (q := 143) rfl ?_
    obtain ⟨r3, M3, e3, h⟩ := bnd_some h
    refine m_callVv (As := [.ref (gMa g s)]) (rest := []) (n := 1) O (met_returns _ g s hs M1 M3 r3 e3) (lw_V q2038 q2040 qs51 q84 q2041) (by decide +kernel) (by decide) (by decide) rfl rfl (Nat.le_of_ble_eq_true rfl) dX20_unstacks_143 (q := 146) rfl ?_
    exact v_sub [] rfl (bm_unstacks_146 hs O M3 h)
def fm_unstacks_77 (s : Nat)  (M : Mem) : Option (Unit × Mem) :=
  some ((), M)
set_option maxHeartbeats 4000000 in
theorem bm_unstacks_77 {g : gM} {X : Cxt} {r : Unit} {M' : Mem} {s : Nat} (hs : mS s) (O : OkM g X cX20_unstacks 4 none 5 (mQv g r M'))  (M : Mem) (h : fm_unstacks_77 s  M = some (r, M')) : V X 4 0 (WdM g M) 77 [] [] := by
  unfold fm_unstacks_77 at h
  exact m_vret O h dX20_unstacks_77
def fm_unstacks_121 (s : Nat) (y2 : Int32) (y1 : Int32) (M : Mem) : Option (Unit × Mem) :=
  gd (inb y1 342) <|
  stp (up2 M s y1.toNatClampNeg y2) fun M2 =>
  fm_unstacks_122 s M2
set_option maxHeartbeats 4000000 in
theorem bm_unstacks_121 {g : gM} {X : Cxt} {r : Unit} {M' : Mem} {s : Nat} (hs : mS s) (O : OkM g X cX20_unstacks 4 none 5 (mQv g r M')) (y2 : Int32) (y1 : Int32) (M : Mem) (h : fm_unstacks_121 s y2 y1 M = some (r, M')) : V X 4 0 (WdM g M) 121 [(0, .ref (gMa g 0)), (1, .ref (gMa g s))] [.int y2, .int y1, .ref (gMa g s)] := by
  unfold fm_unstacks_121 at h
  obtain ⟨g1, h⟩ := gd_some h
  obtain ⟨M2, e2, h⟩ := stp_some h
  refine m_iast O (mS_i hs) (mS_l hs) (n := 342) g1 rfl (j := y1.toNatClampNeg) dX20_unstacks_121 (q := 122) rfl e2 ?_
  exact v_sub [0, 1] rfl (bm_unstacks_122 hs O M2 h)
def fm_unstacks_119 (s : Nat) (y1 : Int32) (M : Mem) : Option (Unit × Mem) :=
  fm_unstacks_121 s 6 y1 M
set_option maxHeartbeats 4000000 in
theorem bm_unstacks_119 {g : gM} {X : Cxt} {r : Unit} {M' : Mem} {s : Nat} (hs : mS s) (O : OkM g X cX20_unstacks 4 none 5 (mQv g r M')) (y1 : Int32) (M : Mem) (h : fm_unstacks_119 s y1 M = some (r, M')) : V X 4 0 (WdM g M) 119 [(0, .ref (gMa g 0)), (1, .ref (gMa g s))] [.int y1, .ref (gMa g s)] := by
  unfold fm_unstacks_119 at h
  refine v_bipush O.1 dX20_unstacks_119 (v := 6) (by decide) (q := 121) rfl ?_
  exact v_sub [0, 1] rfl (bm_unstacks_121 hs O 6 y1 M h)
def fm_unstacks_16 (s : Nat) (y0 : Int32) (M : Mem) : Option (Unit × Mem) :=
  if y0 < 0 then
    if (M s 21) = 0 then
      bnd (fm_wrongWith s M) fun r3 M3 =>
      if r3 < 0 then
        gd (inb ((56 + (M3 s 15)) - 1) 342) <|
        if ((M3 s ((56 + (M3 s 15)) - 1).toNatClampNeg) - 23040) ≤ 3 then
          fm_unstacks_119 s 32 M3
        else
          if (M3 s 19) = ((M3 s 15) - 10) then
            fm_unstacks_119 s 32 M3
          else
            fm_unstacks_121 s 10 32 M3
      else
        bnd (fm_raises s r3 M3) fun r8 M8 =>
        if r8 = 0 then
          bnd (fm_turns s 2 0 M8) fun r10 M10 =>
          fm_unstacks_77 s M10
        else
          fm_unstacks_77 s M8
    else
      fm_unstacks_122 s M
  else
    bnd (fm_counts 4 M) fun r11 M11 =>
    bnd (fm_notes 4 y0 (M11 s 21) M11) fun r12 M12 =>
    bnd (fm_turns s 2 1 M12) fun r13 M13 =>
    some ((), M13)
set_option maxHeartbeats 4000000 in
theorem bm_unstacks_16 {g : gM} {X : Cxt} {r : Unit} {M' : Mem} {s : Nat} (hs : mS s) (O : OkM g X cX20_unstacks 4 none 5 (mQv g r M')) (y0 : Int32) (M : Mem) (h : fm_unstacks_16 s y0 M = some (r, M')) : V X 4 0 (WdM g M) 16 [(0, .ref (gMa g 0)), (1, .ref (gMa g s))] [.int y0] := by
  unfold fm_unstacks_16 at h
  refine v_istore_n (lv' := [(2, .int y0), (0, .ref (gMa g 0)), (1, .ref (gMa g s))]) O.1 dX20_unstacks_16 (by decide) rfl (q := 17) rfl ?_
  refine v_iload_n O.1 dX20_unstacks_17 rfl (q := 18) rfl ?_
  refine v_if_lt O.1 dX20_unstacks_18 (t := 44) (by decide) (q := 21) rfl (fun c1 => ?_) (fun c1 => ?_)
  · rw [if_pos c1] at h
    refine v_aload_n O.1 dX20_unstacks_44 rfl (q := 45) rfl ?_
    refine v_bipush O.1 dX20_unstacks_45 (v := 21) (by decide) (q := 47) rfl ?_
    refine m_iald O (mS_i hs) (mS_l hs) (n := 342) (by decide) (by decide) (j := 21) dX20_unstacks_47 (q := 48) rfl ?_
    refine v_if_ne O.1 dX20_unstacks_48 (t := 122) (by decide) (q := 51) rfl (fun c2 => ?_) (fun c2 => ?_)
    · rw [if_neg c2] at h
      exact v_sub [1, 2] rfl (bm_unstacks_122 hs O M h)
    · rw [if_pos c2] at h
      refine v_aload_n O.1 dX20_unstacks_51 rfl (q := 52) rfl ?_
      refine v_aload_n O.1 dX20_unstacks_52 rfl (q := 53) rfl ?_
      obtain ⟨r3, M3, e3, h⟩ := bnd_some h
      refine m_callVi (As := [.ref (gMa g s)]) (rest := []) (n := 1) O (met_wrongWith _ g s hs M M3 r3 e3) (lw_V q2034 q2036 qs50 q84 q2037) (by decide +kernel) (by decide) (by decide) rfl rfl (Nat.le_of_ble_eq_true rfl) dX20_unstacks_53 (q := 56) rfl ?_
      refine v_istore_n (lv' := [(3, .int r3), (2, .int y0), (0, .ref (gMa g 0)), (1, .ref (gMa g s))]) O.1 dX20_unstacks_56 (by decide) rfl (q := 57) rfl ?_
      refine v_iload_n O.1 dX20_unstacks_57 rfl (q := 58) rfl ?_
      refine v_if_lt O.1 dX20_unstacks_58 (t := 78) (by decide) (q := 61) rfl (fun c4 => ?_) (fun c4 => ?_)
      · rw [if_pos c4] at h
        refine v_aload_n O.1 dX20_unstacks_78 rfl (q := 79) rfl ?_
        refine v_bipush O.1 dX20_unstacks_79 (v := 32) (by decide) (q := 81) rfl ?_
        refine v_aload_n O.1 dX20_unstacks_81 rfl (q := 82) rfl ?_
        refine v_bipush O.1 dX20_unstacks_82 (v := 56) (by decide) (q := 84) rfl ?_
        refine v_aload_n O.1 dX20_unstacks_84 rfl (q := 85) rfl ?_
        refine v_bipush O.1 dX20_unstacks_85 (v := 15) (by decide) (q := 87) rfl ?_
        refine m_iald O (mS_i hs) (mS_l hs) (n := 342) (by decide) (by decide) (j := 15) dX20_unstacks_87 (q := 88) rfl ?_
        refine v_iadd O.1 dX20_unstacks_88 (q := 89) rfl ?_
        refine v_iconst O.1 dX20_unstacks_89 (v := 1) rfl (q := 90) rfl ?_
        refine v_isub O.1 dX20_unstacks_90 (q := 91) rfl ?_
        obtain ⟨g5, h⟩ := gd_some h
        refine m_iald O (mS_i hs) (mS_l hs) (n := 342) g5 rfl (j := ((56 + (M3 s 15)) - 1).toNatClampNeg) dX20_unstacks_91 (q := 92) rfl ?_
        refine v_sipush O.1 dX20_unstacks_92 (v := 23040) (by decide) (q := 95) rfl ?_
        refine v_isub O.1 dX20_unstacks_95 (q := 96) rfl ?_
        refine v_iconst O.1 dX20_unstacks_96 (v := 3) rfl (q := 97) rfl ?_
        refine v_icmp_le O.1 dX20_unstacks_97 (t := 119) (by decide) (q := 100) rfl (fun c6 => ?_) (fun c6 => ?_)
        · rw [if_pos c6] at h
          exact v_sub [2, 3] rfl (bm_unstacks_119 hs O 32 M3 h)
        · rw [if_neg c6] at h
          refine v_aload_n O.1 dX20_unstacks_100 rfl (q := 101) rfl ?_
          refine v_bipush O.1 dX20_unstacks_101 (v := 19) (by decide) (q := 103) rfl ?_
          refine m_iald O (mS_i hs) (mS_l hs) (n := 342) (by decide) (by decide) (j := 19) dX20_unstacks_103 (q := 104) rfl ?_
          refine v_aload_n O.1 dX20_unstacks_104 rfl (q := 105) rfl ?_
          refine v_bipush O.1 dX20_unstacks_105 (v := 15) (by decide) (q := 107) rfl ?_
          refine m_iald O (mS_i hs) (mS_l hs) (n := 342) (by decide) (by decide) (j := 15) dX20_unstacks_107 (q := 108) rfl ?_
          refine v_bipush O.1 dX20_unstacks_108 (v := 10) (by decide) (q := 110) rfl ?_
          refine v_isub O.1 dX20_unstacks_110 (q := 111) rfl ?_
          refine v_icmp_eq O.1 dX20_unstacks_111 (t := 119) (by decide) (q := 114) rfl (fun c7 => ?_) (fun c7 => ?_)
          · rw [if_pos c7] at h
            exact v_sub [2, 3] rfl (bm_unstacks_119 hs O 32 M3 h)
          · rw [if_neg c7] at h
            refine v_bipush O.1 dX20_unstacks_114 (v := 10) (by decide) (q := 116) rfl ?_
            refine v_goto O.1 dX20_unstacks_116 (t := 121) (by decide) ?_
            exact v_sub [2, 3] rfl (bm_unstacks_121 hs O 10 32 M3 h)
      · rw [if_neg c4] at h
        refine v_aload_n O.1 dX20_unstacks_61 rfl (q := 62) rfl ?_
        refine v_aload_n O.1 dX20_unstacks_62 rfl (q := 63) rfl ?_
        refine v_iload_n O.1 dX20_unstacks_63 rfl (q := 64) rfl ?_
        obtain ⟨r8, M8, e8, h⟩ := bnd_some h
        refine m_callVi (As := [.ref (gMa g s), .int r3]) (rest := []) (n := 2) O (met_raises _ g s hs r3 M3 M8 r8 e8) (lw_V q1918 q1920 qs33 q84 q1921) (by decide +kernel) (by decide) (by decide) rfl rfl (Nat.le_of_ble_eq_true rfl) dX20_unstacks_64 (q := 67) rfl ?_
        refine v_if_ne O.1 dX20_unstacks_67 (t := 77) (by decide) (q := 70) rfl (fun c9 => ?_) (fun c9 => ?_)
        · rw [if_neg c9] at h
          exact v_sub [] rfl (bm_unstacks_77 hs O M8 h)
        · rw [if_pos c9] at h
          refine v_aload_n O.1 dX20_unstacks_70 rfl (q := 71) rfl ?_
          refine v_aload_n O.1 dX20_unstacks_71 rfl (q := 72) rfl ?_
          refine v_iconst O.1 dX20_unstacks_72 (v := 2) rfl (q := 73) rfl ?_
          refine v_iconst O.1 dX20_unstacks_73 (v := 0) rfl (q := 74) rfl ?_
          obtain ⟨r10, M10, e10, h⟩ := bnd_some h
          refine m_callVv (As := [.ref (gMa g s), .int 2, .int 0]) (rest := []) (n := 3) O (met_turns _ g s hs 2 0 M8 M10 r10 e10) (lw_V q1906 q1908 qs30 q84 q1909) (by decide +kernel) (by decide) (by decide) rfl rfl (Nat.le_of_ble_eq_true rfl) dX20_unstacks_74 (q := 77) rfl ?_
          exact v_sub [] rfl (bm_unstacks_77 hs O M10 h)
  · rw [if_neg c1] at h
    refine v_aload_n O.1 dX20_unstacks_21 rfl (q := 22) rfl ?_
    refine v_iconst O.1 dX20_unstacks_22 (v := 4) rfl (q := 23) rfl ?_
    obtain ⟨r11, M11, e11, h⟩ := bnd_some h
    refine m_callVv (As := [.int 4]) (rest := []) (n := 1) O (met_counts _ g 4 M M11 r11 e11) (lw_V q1849 q1851 qs23 q84 q1852) (by decide +kernel) (by decide) (by decide) rfl rfl (Nat.le_of_ble_eq_true rfl) dX20_unstacks_23 (q := 26) rfl ?_
    refine v_aload_n O.1 dX20_unstacks_26 rfl (q := 27) rfl ?_
    refine v_iconst O.1 dX20_unstacks_27 (v := 4) rfl (q := 28) rfl ?_
    refine v_iload_n O.1 dX20_unstacks_28 rfl (q := 29) rfl ?_
    refine v_aload_n O.1 dX20_unstacks_29 rfl (q := 30) rfl ?_
    refine v_bipush O.1 dX20_unstacks_30 (v := 21) (by decide) (q := 32) rfl ?_
    refine m_iald O (mS_i hs) (mS_l hs) (n := 342) (by decide) (by decide) (j := 21) dX20_unstacks_32 (q := 33) rfl ?_
    obtain ⟨r12, M12, e12, h⟩ := bnd_some h
    refine m_callVv (As := [.int 4, .int y0, .int (M11 s 21)]) (rest := []) (n := 3) O (met_notes _ g 4 y0 (M11 s 21) M11 M12 r12 e12) (lw_V q1930 q1932 qs36 q84 q1933) (by decide +kernel) (by decide) (by decide) rfl rfl (Nat.le_of_ble_eq_true rfl) dX20_unstacks_33 (q := 36) rfl ?_
    refine v_aload_n O.1 dX20_unstacks_36 rfl (q := 37) rfl ?_
    refine v_aload_n O.1 dX20_unstacks_37 rfl (q := 38) rfl ?_
    refine v_iconst O.1 dX20_unstacks_38 (v := 2) rfl (q := 39) rfl ?_
    refine v_iconst O.1 dX20_unstacks_39 (v := 1) rfl (q := 40) rfl ?_
    obtain ⟨r13, M13, e13, h⟩ := bnd_some h
    refine m_callVv (As := [.ref (gMa g s), .int 2, .int 1]) (rest := []) (n := 3) O (met_turns _ g s hs 2 1 M12 M13 r13 e13) (lw_V q1906 q1908 qs30 q84 q1909) (by decide +kernel) (by decide) (by decide) rfl rfl (Nat.le_of_ble_eq_true rfl) dX20_unstacks_40 (q := 43) rfl ?_
    exact m_vret O h dX20_unstacks_43
def fm_unstacks (s : Nat)  (M : Mem) : Option (Unit × Mem) :=
  if (M 0 15) = 0 then
    bnd (fm_nextOf s M) fun r2 M2 =>
    fm_unstacks_16 s r2 M2
  else
    fm_unstacks_16 s (-1) M
set_option maxHeartbeats 4000000 in
theorem bm_unstacks {g : gM} {X : Cxt} {r : Unit} {M' : Mem} {s : Nat} (hs : mS s) (O : OkM g X cX20_unstacks 4 none 5 (mQv g r M'))  (M : Mem) (h : fm_unstacks s  M = some (r, M')) : V X 4 0 (WdM g M) 0 [(0, .ref (gMa g 0)), (1, .ref (gMa g s))] [] := by
  unfold fm_unstacks at h
  refine v_aload_n O.1 dX20_unstacks_0 rfl (q := 1) rfl ?_
  refine m_get O 15 (v := .int (M 0 15)) (by decide) q1747 rfl rfl dX20_unstacks_1 (q := 4) rfl ?_
  refine v_if_eq O.1 dX20_unstacks_4 (t := 11) (by decide) (q := 7) rfl (fun c1 => ?_) (fun c1 => ?_)
  · rw [if_pos c1] at h
    refine v_aload_n O.1 dX20_unstacks_11 rfl (q := 12) rfl ?_
    refine v_aload_n O.1 dX20_unstacks_12 rfl (q := 13) rfl ?_
    obtain ⟨r2, M2, e2, h⟩ := bnd_some h
    refine m_callVi (As := [.ref (gMa g s)]) (rest := []) (n := 1) O (met_nextOf _ g s hs M M2 r2 e2) (lw_V q1885 q1887 qs27 q84 q1888) (by decide +kernel) (by decide) (by decide) rfl rfl (Nat.le_of_ble_eq_true rfl) dX20_unstacks_13 (q := 16) rfl ?_
    exact v_sub [0, 1] rfl (bm_unstacks_16 hs O r2 M2 h)
  · rw [if_neg c1] at h
    refine v_iconst O.1 dX20_unstacks_7 (v := (-1)) rfl (q := 8) rfl ?_
    refine v_goto O.1 dX20_unstacks_8 (t := 16) (by decide) ?_
    exact v_sub [0, 1] rfl (bm_unstacks_16 hs O (-1) M h)
theorem met_unstacks (l : Launch) (g : gM) (s : Nat) (hs : mS s)  (M M' : Mem) (r : Unit) (h : fm_unstacks s  M = some (r, M')) : MetM l g yX20_unstacks cX20_unstacks 4 none 5 [.ref (gMa g 0), .ref (gMa g s)] M (mQv g r M') :=
  m_met (by decide) rfl (Nat.le_of_ble_eq_true rfl) (fun X O => bm_unstacks hs O  M h)
/-! cycle([I)V -/
def fm_cycle_85 (s : Nat) (K17 : Int32 → Int32 → Mem → Option (Unit × Mem)) (x2 : Int32) (x3 : Int32) (M : Mem) : Option (Unit × Mem) :=
  K17 x2 (x3 + 1) M
set_option maxHeartbeats 4000000 in
theorem bm_cycle_85 {g : gM} {X : Cxt} {r : Unit} {M' : Mem} {s : Nat} (hs : mS s) (O : OkM g X cX20_cycle 4 none 8 (mQv g r M')) {K17 : Int32 → Int32 → Mem → Option (Unit × Mem)} (hK17 : ∀ (x2 : Int32) (x3 : Int32) (M : Mem), K17 x2 x3 M = some (r, M') → V X 4 0 (WdM g M) 17 [(0, .ref (gMa g 0)), (1, .ref (gMa g s)), (2, .int x2), (3, .int x3)] []) (x2 : Int32) (x3 : Int32) (M : Mem) (h : fm_cycle_85 s K17 x2 x3 M = some (r, M')) : V X 4 0 (WdM g M) 85 [(0, .ref (gMa g 0)), (1, .ref (gMa g s)), (2, .int x2), (3, .int x3)] [] := by
  unfold fm_cycle_85 at h
  refine v_iinc (lv' := [(3, .int (x3 + 1)), (0, .ref (gMa g 0)), (1, .ref (gMa g s)), (2, .int x2)]) (v := (x3 + 1)) O.1 dX20_cycle_85 rfl rfl (by decide) rfl (q := 88) rfl ?_
  refine v_goto O.1 dX20_cycle_88 (t := 17) (by decide) ?_
  exact v_sub [1, 2, 3, 0] rfl (hK17 x2 (x3 + 1) M h)
def fm_cycle_209 (s : Nat)  (M : Mem) : Option (Unit × Mem) :=
  some ((), M)
set_option maxHeartbeats 4000000 in
theorem bm_cycle_209 {g : gM} {X : Cxt} {r : Unit} {M' : Mem} {s : Nat} (hs : mS s) (O : OkM g X cX20_cycle 4 none 8 (mQv g r M'))  (M : Mem) (h : fm_cycle_209 s  M = some (r, M')) : V X 4 0 (WdM g M) 209 [] [] := by
  unfold fm_cycle_209 at h
  exact m_vret O h dX20_cycle_209
def fm_cycle_133 (s : Nat)  (M : Mem) : Option (Unit × Mem) :=
  if (M s 20) = 0 then
    bnd (fm_runs s M) fun r10 M10 =>
    fm_cycle_209 s M10
  else
    if (M s 20) = 1 then
      bnd (fm_stacks s M) fun r9 M9 =>
      fm_cycle_209 s M9
    else
      if (M s 20) = 2 then
        bnd (fm_chains s M) fun r8 M8 =>
        fm_cycle_209 s M8
      else
        if (M s 20) = 3 then
          bnd (fm_unstacks s M) fun r7 M7 =>
          fm_cycle_209 s M7
        else
          if (M s 20) = 4 then
            bnd (fm_saves s M) fun r6 M6 =>
            fm_cycle_209 s M6
          else
            fm_cycle_209 s M
set_option maxHeartbeats 4000000 in
theorem bm_cycle_133 {g : gM} {X : Cxt} {r : Unit} {M' : Mem} {s : Nat} (hs : mS s) (O : OkM g X cX20_cycle 4 none 8 (mQv g r M'))  (M : Mem) (h : fm_cycle_133 s  M = some (r, M')) : V X 4 0 (WdM g M) 133 [(0, .ref (gMa g 0)), (1, .ref (gMa g s))] [] := by
  unfold fm_cycle_133 at h
  refine v_aload_n O.1 dX20_cycle_133 rfl (q := 134) rfl ?_
  refine v_bipush O.1 dX20_cycle_134 (v := 20) (by decide) (q := 136) rfl ?_
  refine m_iald O (mS_i hs) (mS_l hs) (n := 342) (by decide) (by decide) (j := 20) dX20_cycle_136 (q := 137) rfl ?_
  refine v_if_ne O.1 dX20_cycle_137 (t := 148) (by decide) (q := 140) rfl (fun c1 => ?_) (fun c1 => ?_)
  · rw [if_neg c1] at h
    refine v_aload_n O.1 dX20_cycle_148 rfl (q := 149) rfl ?_
    refine v_bipush O.1 dX20_cycle_149 (v := 20) (by decide) (q := 151) rfl ?_
    refine m_iald O (mS_i hs) (mS_l hs) (n := 342) (by decide) (by decide) (j := 20) dX20_cycle_151 (q := 152) rfl ?_
    refine v_iconst O.1 dX20_cycle_152 (v := 1) rfl (q := 153) rfl ?_
    refine v_icmp_ne O.1 dX20_cycle_153 (t := 164) (by decide) (q := 156) rfl (fun c2 => ?_) (fun c2 => ?_)
    · rw [if_neg c2] at h
      refine v_aload_n O.1 dX20_cycle_164 rfl (q := 165) rfl ?_
      refine v_bipush O.1 dX20_cycle_165 (v := 20) (by decide) (q := 167) rfl ?_
      refine m_iald O (mS_i hs) (mS_l hs) (n := 342) (by decide) (by decide) (j := 20) dX20_cycle_167 (q := 168) rfl ?_
      refine v_iconst O.1 dX20_cycle_168 (v := 2) rfl (q := 169) rfl ?_
      refine v_icmp_ne O.1 dX20_cycle_169 (t := 180) (by decide) (q := 172) rfl (fun c3 => ?_) (fun c3 => ?_)
      · rw [if_neg c3] at h
        refine v_aload_n O.1 dX20_cycle_180 rfl (q := 181) rfl ?_
        refine v_bipush O.1 dX20_cycle_181 (v := 20) (by decide) (q := 183) rfl ?_
        refine m_iald O (mS_i hs) (mS_l hs) (n := 342) (by decide) (by decide) (j := 20) dX20_cycle_183 (q := 184) rfl ?_
        refine v_iconst O.1 dX20_cycle_184 (v := 3) rfl (q := 185) rfl ?_
        refine v_icmp_ne O.1 dX20_cycle_185 (t := 196) (by decide) (q := 188) rfl (fun c4 => ?_) (fun c4 => ?_)
        · rw [if_neg c4] at h
          refine v_aload_n O.1 dX20_cycle_196 rfl (q := 197) rfl ?_
          refine v_bipush O.1 dX20_cycle_197 (v := 20) (by decide) (q := 199) rfl ?_
          refine m_iald O (mS_i hs) (mS_l hs) (n := 342) (by decide) (by decide) (j := 20) dX20_cycle_199 (q := 200) rfl ?_
          refine v_iconst O.1 dX20_cycle_200 (v := 4) rfl (q := 201) rfl ?_
          refine v_icmp_ne O.1 dX20_cycle_201 (t := 209) (by decide) (q := 204) rfl (fun c5 => ?_) (fun c5 => ?_)
          · rw [if_neg c5] at h
            exact v_sub [] rfl (bm_cycle_209 hs O M h)
          · rw [if_pos c5] at h
            refine v_aload_n O.1 dX20_cycle_204 rfl (q := 205) rfl ?_
            refine v_aload_n O.1 dX20_cycle_205 rfl (q := 206) rfl ?_
            obtain ⟨r6, M6, e6, h⟩ := bnd_some h
            refine m_callVv (As := [.ref (gMa g s)]) (rest := []) (n := 1) O (met_saves _ g s hs M M6 r6 e6) (lw_V q1946 q1948 qs40 q84 q1949) (by decide +kernel) (by decide) (by decide) rfl rfl (Nat.le_of_ble_eq_true rfl) dX20_cycle_206 (q := 209) rfl ?_
            exact v_sub [] rfl (bm_cycle_209 hs O M6 h)
        · rw [if_pos c4] at h
          refine v_aload_n O.1 dX20_cycle_188 rfl (q := 189) rfl ?_
          refine v_aload_n O.1 dX20_cycle_189 rfl (q := 190) rfl ?_
          obtain ⟨r7, M7, e7, h⟩ := bnd_some h
          refine m_callVv (As := [.ref (gMa g s)]) (rest := []) (n := 1) O (met_unstacks _ g s hs M M7 r7 e7) (lw_V q2030 q2032 qs49 q84 q2033) (by decide +kernel) (by decide) (by decide) rfl rfl (Nat.le_of_ble_eq_true rfl) dX20_cycle_190 (q := 193) rfl ?_
          refine v_goto O.1 dX20_cycle_193 (t := 209) (by decide) ?_
          exact v_sub [] rfl (bm_cycle_209 hs O M7 h)
      · rw [if_pos c3] at h
        refine v_aload_n O.1 dX20_cycle_172 rfl (q := 173) rfl ?_
        refine v_aload_n O.1 dX20_cycle_173 rfl (q := 174) rfl ?_
        obtain ⟨r8, M8, e8, h⟩ := bnd_some h
        refine m_callVv (As := [.ref (gMa g s)]) (rest := []) (n := 1) O (met_chains _ g s hs M M8 r8 e8) (lw_V q2026 q2028 qs48 q84 q2029) (by decide +kernel) (by decide) (by decide) rfl rfl (Nat.le_of_ble_eq_true rfl) dX20_cycle_174 (q := 177) rfl ?_
        refine v_goto O.1 dX20_cycle_177 (t := 209) (by decide) ?_
        exact v_sub [] rfl (bm_cycle_209 hs O M8 h)
    · rw [if_pos c2] at h
      refine v_aload_n O.1 dX20_cycle_156 rfl (q := 157) rfl ?_
      refine v_aload_n O.1 dX20_cycle_157 rfl (q := 158) rfl ?_
      obtain ⟨r9, M9, e9, h⟩ := bnd_some h
      refine m_callVv (As := [.ref (gMa g s)]) (rest := []) (n := 1) O (met_stacks _ g s hs M M9 r9 e9) (lw_V q1910 q1912 qs31 q84 q1913) (by decide +kernel) (by decide) (by decide) rfl rfl (Nat.le_of_ble_eq_true rfl) dX20_cycle_158 (q := 161) rfl ?_
      refine v_goto O.1 dX20_cycle_161 (t := 209) (by decide) ?_
      exact v_sub [] rfl (bm_cycle_209 hs O M9 h)
  · rw [if_pos c1] at h
    refine v_aload_n O.1 dX20_cycle_140 rfl (q := 141) rfl ?_
    refine v_aload_n O.1 dX20_cycle_141 rfl (q := 142) rfl ?_
    obtain ⟨r10, M10, e10, h⟩ := bnd_some h
    refine m_callVv (As := [.ref (gMa g s)]) (rest := []) (n := 1) O (met_runs _ g s hs M M10 r10 e10) (lw_V q1881 q1883 qs26 q84 q1884) (by decide +kernel) (by decide) (by decide) rfl rfl (Nat.le_of_ble_eq_true rfl) dX20_cycle_142 (q := 145) rfl ?_
    refine v_goto O.1 dX20_cycle_145 (t := 209) (by decide) ?_
    exact v_sub [] rfl (bm_cycle_209 hs O M10 h)
def fm_cycle_17b (s : Nat) (K17 : Int32 → Int32 → Mem → Option (Unit × Mem)) (x2 : Int32) (x3 : Int32) (M : Mem) : Option (Unit × Mem) :=
  if (M s 31) ≤ x3 then
    stp (up2 M s 31 x2) fun M2 =>
    if (M2 s 26) = 0 then
      fm_cycle_133 s M2
    else
      stp (up2 M2 s 27 ((M2 s 27) - 1)) fun M4 =>
      if (M4 s 27) = 0 then
        bnd (fm_pends s 16 M4) fun r6 M6 =>
        stp (up2 M6 s 27 (M6 s 26)) fun M7 =>
        fm_cycle_133 s M7
      else
        fm_cycle_133 s M4
  else
    gd (inb (268 + x3) 342) <|
    if (M s (268 + x3).toNatClampNeg) = (M s 25) then
      gd (inb (236 + x3) 342) <|
      bnd (fm_pends s (M s (236 + x3).toNatClampNeg) M) fun r17 M17 =>
      fm_cycle_85 s K17 x2 x3 M17
    else
      gd (inb (236 + x3) 342) <|
      gd (inb (236 + x2) 342) <|
      stp (up2 M s (236 + x2).toNatClampNeg (M s (236 + x3).toNatClampNeg)) fun M12 =>
      gd (inb (268 + x3) 342) <|
      gd (inb (268 + x2) 342) <|
      stp (up2 M12 s (268 + x2).toNatClampNeg (M12 s (268 + x3).toNatClampNeg)) fun M15 =>
      fm_cycle_85 s K17 (x2 + 1) x3 M15
set_option maxHeartbeats 4000000 in
theorem bm_cycle_17b {g : gM} {X : Cxt} {r : Unit} {M' : Mem} {s : Nat} (hs : mS s) (O : OkM g X cX20_cycle 4 none 8 (mQv g r M')) {K17 : Int32 → Int32 → Mem → Option (Unit × Mem)} (hK17 : ∀ (x2 : Int32) (x3 : Int32) (M : Mem), K17 x2 x3 M = some (r, M') → V X 4 0 (WdM g M) 17 [(0, .ref (gMa g 0)), (1, .ref (gMa g s)), (2, .int x2), (3, .int x3)] []) (x2 : Int32) (x3 : Int32) (M : Mem) (h : fm_cycle_17b s K17 x2 x3 M = some (r, M')) : V X 4 0 (WdM g M) 17 [(0, .ref (gMa g 0)), (1, .ref (gMa g s)), (2, .int x2), (3, .int x3)] [] := by
  unfold fm_cycle_17b at h
  refine v_iload_n O.1 dX20_cycle_17 rfl (q := 18) rfl ?_
  refine v_aload_n O.1 dX20_cycle_18 rfl (q := 19) rfl ?_
  refine v_bipush O.1 dX20_cycle_19 (v := 31) (by decide) (q := 21) rfl ?_
  refine m_iald O (mS_i hs) (mS_l hs) (n := 342) (by decide) (by decide) (j := 31) dX20_cycle_21 (q := 22) rfl ?_
  refine v_icmp_ge O.1 dX20_cycle_22 (t := 91) (by decide) (q := 25) rfl (fun c1 => ?_) (fun c1 => ?_)
  · rw [if_pos c1] at h
    refine v_aload_n O.1 dX20_cycle_91 rfl (q := 92) rfl ?_
    refine v_bipush O.1 dX20_cycle_92 (v := 31) (by decide) (q := 94) rfl ?_
    refine v_iload_n O.1 dX20_cycle_94 rfl (q := 95) rfl ?_
    obtain ⟨M2, e2, h⟩ := stp_some h
    refine m_iast O (mS_i hs) (mS_l hs) (n := 342) (by decide) (by decide) (j := 31) dX20_cycle_95 (q := 96) rfl e2 ?_
    refine v_aload_n O.1 dX20_cycle_96 rfl (q := 97) rfl ?_
    refine v_bipush O.1 dX20_cycle_97 (v := 26) (by decide) (q := 99) rfl ?_
    refine m_iald O (mS_i hs) (mS_l hs) (n := 342) (by decide) (by decide) (j := 26) dX20_cycle_99 (q := 100) rfl ?_
    refine v_if_eq O.1 dX20_cycle_100 (t := 133) (by decide) (q := 103) rfl (fun c3 => ?_) (fun c3 => ?_)
    · rw [if_pos c3] at h
      exact v_sub [0, 1] rfl (bm_cycle_133 hs O M2 h)
    · rw [if_neg c3] at h
      refine v_aload_n O.1 dX20_cycle_103 rfl (q := 104) rfl ?_
      refine v_bipush O.1 dX20_cycle_104 (v := 27) (by decide) (q := 106) rfl ?_
      refine v_dup2 O.1 dX20_cycle_106 rfl rfl (q := 107) rfl ?_
      refine m_iald O (mS_i hs) (mS_l hs) (n := 342) (by decide) (by decide) (j := 27) dX20_cycle_107 (q := 108) rfl ?_
      refine v_iconst O.1 dX20_cycle_108 (v := 1) rfl (q := 109) rfl ?_
      refine v_isub O.1 dX20_cycle_109 (q := 110) rfl ?_
      obtain ⟨M4, e4, h⟩ := stp_some h
      refine m_iast O (mS_i hs) (mS_l hs) (n := 342) (by decide) (by decide) (j := 27) dX20_cycle_110 (q := 111) rfl e4 ?_
      refine v_aload_n O.1 dX20_cycle_111 rfl (q := 112) rfl ?_
      refine v_bipush O.1 dX20_cycle_112 (v := 27) (by decide) (q := 114) rfl ?_
      refine m_iald O (mS_i hs) (mS_l hs) (n := 342) (by decide) (by decide) (j := 27) dX20_cycle_114 (q := 115) rfl ?_
      refine v_if_ne O.1 dX20_cycle_115 (t := 133) (by decide) (q := 118) rfl (fun c5 => ?_) (fun c5 => ?_)
      · rw [if_neg c5] at h
        exact v_sub [0, 1] rfl (bm_cycle_133 hs O M4 h)
      · rw [if_pos c5] at h
        refine v_aload_n O.1 dX20_cycle_118 rfl (q := 119) rfl ?_
        refine v_aload_n O.1 dX20_cycle_119 rfl (q := 120) rfl ?_
        refine v_bipush O.1 dX20_cycle_120 (v := 16) (by decide) (q := 122) rfl ?_
        obtain ⟨r6, M6, e6, h⟩ := bnd_some h
        refine m_callVv (As := [.ref (gMa g s), .int 16]) (rest := []) (n := 2) O (met_pends _ g s hs 16 M4 M6 r6 e6) (lw_V q1845 q1847 qs22 q84 q1848) (by decide +kernel) (by decide) (by decide) rfl rfl (Nat.le_of_ble_eq_true rfl) dX20_cycle_122 (q := 125) rfl ?_
        refine v_aload_n O.1 dX20_cycle_125 rfl (q := 126) rfl ?_
        refine v_bipush O.1 dX20_cycle_126 (v := 27) (by decide) (q := 128) rfl ?_
        refine v_aload_n O.1 dX20_cycle_128 rfl (q := 129) rfl ?_
        refine v_bipush O.1 dX20_cycle_129 (v := 26) (by decide) (q := 131) rfl ?_
        refine m_iald O (mS_i hs) (mS_l hs) (n := 342) (by decide) (by decide) (j := 26) dX20_cycle_131 (q := 132) rfl ?_
        obtain ⟨M7, e7, h⟩ := stp_some h
        refine m_iast O (mS_i hs) (mS_l hs) (n := 342) (by decide) (by decide) (j := 27) dX20_cycle_132 (q := 133) rfl e7 ?_
        exact v_sub [0, 1] rfl (bm_cycle_133 hs O M7 h)
  · rw [if_neg c1] at h
    refine v_aload_n O.1 dX20_cycle_25 rfl (q := 26) rfl ?_
    refine v_sipush O.1 dX20_cycle_26 (v := 268) (by decide) (q := 29) rfl ?_
    refine v_iload_n O.1 dX20_cycle_29 rfl (q := 30) rfl ?_
    refine v_iadd O.1 dX20_cycle_30 (q := 31) rfl ?_
    obtain ⟨g8, h⟩ := gd_some h
    refine m_iald O (mS_i hs) (mS_l hs) (n := 342) g8 rfl (j := (268 + x3).toNatClampNeg) dX20_cycle_31 (q := 32) rfl ?_
    refine v_aload_n O.1 dX20_cycle_32 rfl (q := 33) rfl ?_
    refine v_bipush O.1 dX20_cycle_33 (v := 25) (by decide) (q := 35) rfl ?_
    refine m_iald O (mS_i hs) (mS_l hs) (n := 342) (by decide) (by decide) (j := 25) dX20_cycle_35 (q := 36) rfl ?_
    refine v_icmp_ne O.1 dX20_cycle_36 (t := 54) (by decide) (q := 39) rfl (fun c9 => ?_) (fun c9 => ?_)
    · rw [if_neg c9] at h
      refine v_aload_n O.1 dX20_cycle_54 rfl (q := 55) rfl ?_
      refine v_sipush O.1 dX20_cycle_55 (v := 236) (by decide) (q := 58) rfl ?_
      refine v_iload_n O.1 dX20_cycle_58 rfl (q := 59) rfl ?_
      refine v_iadd O.1 dX20_cycle_59 (q := 60) rfl ?_
      refine v_aload_n O.1 dX20_cycle_60 rfl (q := 61) rfl ?_
      refine v_sipush O.1 dX20_cycle_61 (v := 236) (by decide) (q := 64) rfl ?_
      refine v_iload_n O.1 dX20_cycle_64 rfl (q := 65) rfl ?_
      refine v_iadd O.1 dX20_cycle_65 (q := 66) rfl ?_
      obtain ⟨g10, h⟩ := gd_some h
      refine m_iald O (mS_i hs) (mS_l hs) (n := 342) g10 rfl (j := (236 + x3).toNatClampNeg) dX20_cycle_66 (q := 67) rfl ?_
      obtain ⟨g11, h⟩ := gd_some h
      obtain ⟨M12, e12, h⟩ := stp_some h
      refine m_iast O (mS_i hs) (mS_l hs) (n := 342) g11 rfl (j := (236 + x2).toNatClampNeg) dX20_cycle_67 (q := 68) rfl e12 ?_
      refine v_aload_n O.1 dX20_cycle_68 rfl (q := 69) rfl ?_
      refine v_sipush O.1 dX20_cycle_69 (v := 268) (by decide) (q := 72) rfl ?_
      refine v_iload_n O.1 dX20_cycle_72 rfl (q := 73) rfl ?_
      refine v_iadd O.1 dX20_cycle_73 (q := 74) rfl ?_
      refine v_aload_n O.1 dX20_cycle_74 rfl (q := 75) rfl ?_
      refine v_sipush O.1 dX20_cycle_75 (v := 268) (by decide) (q := 78) rfl ?_
      refine v_iload_n O.1 dX20_cycle_78 rfl (q := 79) rfl ?_
      refine v_iadd O.1 dX20_cycle_79 (q := 80) rfl ?_
      obtain ⟨g13, h⟩ := gd_some h
      refine m_iald O (mS_i hs) (mS_l hs) (n := 342) g13 rfl (j := (268 + x3).toNatClampNeg) dX20_cycle_80 (q := 81) rfl ?_
      obtain ⟨g14, h⟩ := gd_some h
      obtain ⟨M15, e15, h⟩ := stp_some h
      refine m_iast O (mS_i hs) (mS_l hs) (n := 342) g14 rfl (j := (268 + x2).toNatClampNeg) dX20_cycle_81 (q := 82) rfl e15 ?_
      refine v_iinc (lv' := [(2, .int (x2 + 1)), (0, .ref (gMa g 0)), (1, .ref (gMa g s)), (3, .int x3)]) (v := (x2 + 1)) O.1 dX20_cycle_82 rfl rfl (by decide) rfl (q := 85) rfl ?_
      exact v_sub [1, 2, 0, 3] rfl (bm_cycle_85 hs O hK17 (x2 + 1) x3 M15 h)
    · rw [if_pos c9] at h
      refine v_aload_n O.1 dX20_cycle_39 rfl (q := 40) rfl ?_
      refine v_aload_n O.1 dX20_cycle_40 rfl (q := 41) rfl ?_
      refine v_aload_n O.1 dX20_cycle_41 rfl (q := 42) rfl ?_
      refine v_sipush O.1 dX20_cycle_42 (v := 236) (by decide) (q := 45) rfl ?_
      refine v_iload_n O.1 dX20_cycle_45 rfl (q := 46) rfl ?_
      refine v_iadd O.1 dX20_cycle_46 (q := 47) rfl ?_
      obtain ⟨g16, h⟩ := gd_some h
      refine m_iald O (mS_i hs) (mS_l hs) (n := 342) g16 rfl (j := (236 + x3).toNatClampNeg) dX20_cycle_47 (q := 48) rfl ?_
      obtain ⟨r17, M17, e17, h⟩ := bnd_some h
      refine m_callVv (As := [.ref (gMa g s), .int (M s (236 + x3).toNatClampNeg)]) (rest := []) (n := 2) O (met_pends _ g s hs (M s (236 + x3).toNatClampNeg) M M17 r17 e17) (lw_V q1845 q1847 qs22 q84 q1848) (by decide +kernel) (by decide) (by decide) rfl rfl (Nat.le_of_ble_eq_true rfl) dX20_cycle_48 (q := 51) rfl ?_
      refine v_goto O.1 dX20_cycle_51 (t := 85) (by decide) ?_
      exact v_sub [0, 1, 2, 3] rfl (bm_cycle_85 hs O hK17 x2 x3 M17 h)
def fm_cycle_17 (s : Nat) (n : Nat) : Int32 → Int32 → Mem → Option (Unit × Mem) := lpc (fm_cycle_17b s) (fun _ _ _ => none) n
theorem bm_cycle_17 {g : gM} {X : Cxt} {r : Unit} {M' : Mem} {s : Nat} (hs : mS s) (O : OkM g X cX20_cycle 4 none 8 (mQv g r M')) : ∀ (n : Nat) (x2 : Int32) (x3 : Int32) (M : Mem), fm_cycle_17 s n x2 x3 M = some (r, M') → V X 4 0 (WdM g M) 17 [(0, .ref (gMa g 0)), (1, .ref (gMa g s)), (2, .int x2), (3, .int x3)] [] := by
  intro n
  induction n with
  | zero =>
    intro x2 x3 M h
    cases h
  | succ n ih =>
    intro x2 x3 M h
    exact bm_cycle_17b hs O ih x2 x3 M h
def fm_cycle (s : Nat)  (M : Mem) : Option (Unit × Mem) :=
  stp (up2 M 0 16 (-1)) fun M1 =>
  stp (up2 M1 s 25 ((M1 s 25) + 1)) fun M2 =>
  fm_cycle_17 s 600 0 0 M2
set_option maxHeartbeats 4000000 in
theorem bm_cycle {g : gM} {X : Cxt} {r : Unit} {M' : Mem} {s : Nat} (hs : mS s) (O : OkM g X cX20_cycle 4 none 8 (mQv g r M'))  (M : Mem) (h : fm_cycle s  M = some (r, M')) : V X 4 0 (WdM g M) 0 [(0, .ref (gMa g 0)), (1, .ref (gMa g s))] [] := by
  unfold fm_cycle at h
  refine v_aload_n O.1 dX20_cycle_0 rfl (q := 1) rfl ?_
  refine v_iconst O.1 dX20_cycle_1 (v := (-1)) rfl (q := 2) rfl ?_
  obtain ⟨M1, e1, h⟩ := stp_some h
  refine m_put O 16 (ty := .int) (by decide) q1748 rfl rfl rfl rfl rfl rfl dX20_cycle_2 (q := 5) rfl e1 ?_
  refine v_aload_n O.1 dX20_cycle_5 rfl (q := 6) rfl ?_
  refine v_bipush O.1 dX20_cycle_6 (v := 25) (by decide) (q := 8) rfl ?_
  refine v_dup2 O.1 dX20_cycle_8 rfl rfl (q := 9) rfl ?_
  refine m_iald O (mS_i hs) (mS_l hs) (n := 342) (by decide) (by decide) (j := 25) dX20_cycle_9 (q := 10) rfl ?_
  refine v_iconst O.1 dX20_cycle_10 (v := 1) rfl (q := 11) rfl ?_
  refine v_iadd O.1 dX20_cycle_11 (q := 12) rfl ?_
  obtain ⟨M2, e2, h⟩ := stp_some h
  refine m_iast O (mS_i hs) (mS_l hs) (n := 342) (by decide) (by decide) (j := 25) dX20_cycle_12 (q := 13) rfl e2 ?_
  refine v_iconst O.1 dX20_cycle_13 (v := 0) rfl (q := 14) rfl ?_
  refine v_istore_n (lv' := [(2, .int 0), (0, .ref (gMa g 0)), (1, .ref (gMa g s))]) O.1 dX20_cycle_14 (by decide) rfl (q := 15) rfl ?_
  refine v_iconst O.1 dX20_cycle_15 (v := 0) rfl (q := 16) rfl ?_
  refine v_istore_n (lv' := [(3, .int 0), (2, .int 0), (0, .ref (gMa g 0)), (1, .ref (gMa g s))]) O.1 dX20_cycle_16 (by decide) rfl (q := 17) rfl ?_
  exact v_sub [2, 3, 1, 0] rfl (bm_cycle_17 hs O 600 0 0 M2 h)
theorem met_cycle (l : Launch) (g : gM) (s : Nat) (hs : mS s)  (M M' : Mem) (r : Unit) (h : fm_cycle s  M = some (r, M')) : MetM l g yX20_cycle cX20_cycle 4 none 8 [.ref (gMa g 0), .ref (gMa g s)] M (mQv g r M') :=
  m_met (by decide) rfl (Nat.le_of_ble_eq_true rfl) (fun X O => bm_cycle hs O  M h)
