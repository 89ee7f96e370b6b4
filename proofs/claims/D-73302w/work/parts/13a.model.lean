/-! fresh()V -/
def fm_fresh_38 (K10 : Int32 → Int32 → Mem → Option (Unit × Mem)) (x1 : Int32) (x2 : Int32) (M : Mem) : Option (Unit × Mem) :=
  K10 x1 (x2 + 1) M
set_option maxHeartbeats 4000000 in
theorem bm_fresh_38 {g : gM} {X : Cxt} {r : Unit} {M' : Mem} (O : OkM g X cX20_fresh 3 none 0 (mQv g r M')) {K10 : Int32 → Int32 → Mem → Option (Unit × Mem)} (hK10 : ∀ (x1 : Int32) (x2 : Int32) (M : Mem), K10 x1 x2 M = some (r, M') → V X 3 0 (WdM g M) 10 [(0, .ref (gMa g 0)), (1, .int x1), (2, .int x2)] []) (x1 : Int32) (x2 : Int32) (M : Mem) (h : fm_fresh_38 K10 x1 x2 M = some (r, M')) : V X 3 0 (WdM g M) 38 [(0, .ref (gMa g 0)), (1, .int x1), (2, .int x2)] [] := by
  unfold fm_fresh_38 at h
  refine v_iinc (lv' := [(2, .int (x2 + 1)), (0, .ref (gMa g 0)), (1, .int x1)]) (v := (x2 + 1)) O.1 dX20_fresh_38 rfl rfl (by decide) rfl (q := 41) rfl ?_
  refine v_goto O.1 dX20_fresh_41 (t := 10) (by decide) ?_
  exact v_sub [1, 2, 0] rfl (hK10 x1 (x2 + 1) M h)
def fm_fresh_31 (K10 : Int32 → Int32 → Mem → Option (Unit × Mem)) (x1 : Int32) (x2 : Int32) (M : Mem) : Option (Unit × Mem) :=
  gd (inb x2 342) <|
  stp (up2 M 4 x2.toNatClampNeg 0) fun M2 =>
  fm_fresh_38 K10 x1 x2 M2
set_option maxHeartbeats 4000000 in
theorem bm_fresh_31 {g : gM} {X : Cxt} {r : Unit} {M' : Mem} (O : OkM g X cX20_fresh 3 none 0 (mQv g r M')) {K10 : Int32 → Int32 → Mem → Option (Unit × Mem)} (hK10 : ∀ (x1 : Int32) (x2 : Int32) (M : Mem), K10 x1 x2 M = some (r, M') → V X 3 0 (WdM g M) 10 [(0, .ref (gMa g 0)), (1, .int x1), (2, .int x2)] []) (x1 : Int32) (x2 : Int32) (M : Mem) (h : fm_fresh_31 K10 x1 x2 M = some (r, M')) : V X 3 0 (WdM g M) 31 [(0, .ref (gMa g 0)), (1, .int x1), (2, .int x2)] [] := by
  unfold fm_fresh_31 at h
  refine v_aload_n O.1 dX20_fresh_31 rfl (q := 32) rfl ?_
  refine m_get O 4 (v := .ref (gMa g 4)) (by decide) q1736 rfl rfl dX20_fresh_32 (q := 35) rfl ?_
  refine v_iload_n O.1 dX20_fresh_35 rfl (q := 36) rfl ?_
  refine v_iconst O.1 dX20_fresh_36 (v := 0) rfl (q := 37) rfl ?_
  obtain ⟨g1, h⟩ := gd_some h
  obtain ⟨M2, e2, h⟩ := stp_some h
  refine m_iast O rfl rfl (n := 342) g1 rfl (j := x2.toNatClampNeg) dX20_fresh_37 (q := 38) rfl e2 ?_
  exact v_sub [0, 1, 2] rfl (bm_fresh_38 O hK10 x1 x2 M2 h)
def fm_fresh_78b (K78 : Int32 → Int32 → Mem → Option (Unit × Mem)) (x1 : Int32) (x2 : Int32) (M : Mem) : Option (Unit × Mem) :=
  if 17 ≤ x2 then
    stp (up2 M 4 19 (-1)) fun M2 =>
    stp (up2 M2 4 26 x1) fun M3 =>
    stp (up2 M3 4 27 x1) fun M4 =>
    stp (up2 M4 0 11 0) fun M5 =>
    some ((), M5)
  else
    gd (inb x2 17) <|
    stp (up2 M 6 x2.toNatClampNeg 0) fun M7 =>
    K78 x1 (x2 + 1) M7
set_option maxHeartbeats 4000000 in
theorem bm_fresh_78b {g : gM} {X : Cxt} {r : Unit} {M' : Mem} (O : OkM g X cX20_fresh 3 none 0 (mQv g r M')) {K78 : Int32 → Int32 → Mem → Option (Unit × Mem)} (hK78 : ∀ (x1 : Int32) (x2 : Int32) (M : Mem), K78 x1 x2 M = some (r, M') → V X 3 0 (WdM g M) 78 [(0, .ref (gMa g 0)), (1, .int x1), (2, .int x2)] []) (x1 : Int32) (x2 : Int32) (M : Mem) (h : fm_fresh_78b K78 x1 x2 M = some (r, M')) : V X 3 0 (WdM g M) 78 [(0, .ref (gMa g 0)), (1, .int x1), (2, .int x2)] [] := by
  unfold fm_fresh_78b at h
  refine v_iload_n O.1 dX20_fresh_78 rfl (q := 79) rfl ?_
  refine v_bipush O.1 dX20_fresh_79 (v := 17) (by decide) (q := 81) rfl ?_
  refine v_icmp_ge O.1 dX20_fresh_81 (t := 97) (by decide) (q := 84) rfl (fun c1 => ?_) (fun c1 => ?_)
  · rw [if_pos c1] at h
    refine v_aload_n O.1 dX20_fresh_97 rfl (q := 98) rfl ?_
    refine m_get O 4 (v := .ref (gMa g 4)) (by decide) q1736 rfl rfl dX20_fresh_98 (q := 101) rfl ?_
    refine v_bipush O.1 dX20_fresh_101 (v := 19) (by decide) (q := 103) rfl ?_
    refine v_iconst O.1 dX20_fresh_103 (v := (-1)) rfl (q := 104) rfl ?_
    obtain ⟨M2, e2, h⟩ := stp_some h
    refine m_iast O rfl rfl (n := 342) (by decide) (by decide) (j := 19) dX20_fresh_104 (q := 105) rfl e2 ?_
    refine v_aload_n O.1 dX20_fresh_105 rfl (q := 106) rfl ?_
    refine m_get O 4 (v := .ref (gMa g 4)) (by decide) q1736 rfl rfl dX20_fresh_106 (q := 109) rfl ?_
    refine v_bipush O.1 dX20_fresh_109 (v := 26) (by decide) (q := 111) rfl ?_
    refine v_iload_n O.1 dX20_fresh_111 rfl (q := 112) rfl ?_
    obtain ⟨M3, e3, h⟩ := stp_some h
    refine m_iast O rfl rfl (n := 342) (by decide) (by decide) (j := 26) dX20_fresh_112 (q := 113) rfl e3 ?_
    refine v_aload_n O.1 dX20_fresh_113 rfl (q := 114) rfl ?_
    refine m_get O 4 (v := .ref (gMa g 4)) (by decide) q1736 rfl rfl dX20_fresh_114 (q := 117) rfl ?_
    refine v_bipush O.1 dX20_fresh_117 (v := 27) (by decide) (q := 119) rfl ?_
    refine v_iload_n O.1 dX20_fresh_119 rfl (q := 120) rfl ?_
    obtain ⟨M4, e4, h⟩ := stp_some h
    refine m_iast O rfl rfl (n := 342) (by decide) (by decide) (j := 27) dX20_fresh_120 (q := 121) rfl e4 ?_
    refine v_aload_n O.1 dX20_fresh_121 rfl (q := 122) rfl ?_
    refine v_iconst O.1 dX20_fresh_122 (v := 0) rfl (q := 123) rfl ?_
    obtain ⟨M5, e5, h⟩ := stp_some h
    refine m_put O 11 (ty := .int) (by decide) q1743 rfl rfl rfl rfl rfl rfl dX20_fresh_123 (q := 126) rfl e5 ?_
    exact m_vret O h dX20_fresh_126
  · rw [if_neg c1] at h
    refine v_aload_n O.1 dX20_fresh_84 rfl (q := 85) rfl ?_
    refine m_get O 6 (v := .ref (gMa g 6)) (by decide) q1738 rfl rfl dX20_fresh_85 (q := 88) rfl ?_
    refine v_iload_n O.1 dX20_fresh_88 rfl (q := 89) rfl ?_
    refine v_iconst O.1 dX20_fresh_89 (v := 0) rfl (q := 90) rfl ?_
    obtain ⟨g6, h⟩ := gd_some h
    obtain ⟨M7, e7, h⟩ := stp_some h
    refine m_iast O rfl rfl (n := 17) g6 rfl (j := x2.toNatClampNeg) dX20_fresh_90 (q := 91) rfl e7 ?_
    refine v_iinc (lv' := [(2, .int (x2 + 1)), (0, .ref (gMa g 0)), (1, .int x1)]) (v := (x2 + 1)) O.1 dX20_fresh_91 rfl rfl (by decide) rfl (q := 94) rfl ?_
    refine v_goto O.1 dX20_fresh_94 (t := 78) (by decide) ?_
    exact v_sub [1, 2, 0] rfl (hK78 x1 (x2 + 1) M7 h)
def fm_fresh_78 (n : Nat) : Int32 → Int32 → Mem → Option (Unit × Mem) := lpc (fm_fresh_78b) (fun _ _ _ => none) n
theorem bm_fresh_78 {g : gM} {X : Cxt} {r : Unit} {M' : Mem} (O : OkM g X cX20_fresh 3 none 0 (mQv g r M')) : ∀ (n : Nat) (x1 : Int32) (x2 : Int32) (M : Mem), fm_fresh_78 n x1 x2 M = some (r, M') → V X 3 0 (WdM g M) 78 [(0, .ref (gMa g 0)), (1, .int x1), (2, .int x2)] [] := by
  intro n
  induction n with
  | zero =>
    intro x1 x2 M h
    cases h
  | succ n ih =>
    intro x1 x2 M h
    exact bm_fresh_78b O ih x1 x2 M h
def fm_fresh_46b (K46 : Int32 → Int32 → Mem → Option (Unit × Mem)) (x1 : Int32) (x2 : Int32) (M : Mem) : Option (Unit × Mem) :=
  if 21 ≤ x2 then
    fm_fresh_78 600 x1 0 M
  else
    gd (inb (194 + x2) 342) <|
    stp (up2 M 4 (194 + x2).toNatClampNeg (-1)) fun M3 =>
    gd (inb x2 21) <|
    stp (up2 M3 12 x2.toNatClampNeg (-1)) fun M5 =>
    K46 x1 (x2 + 1) M5
set_option maxHeartbeats 4000000 in
theorem bm_fresh_46b {g : gM} {X : Cxt} {r : Unit} {M' : Mem} (O : OkM g X cX20_fresh 3 none 0 (mQv g r M')) {K46 : Int32 → Int32 → Mem → Option (Unit × Mem)} (hK46 : ∀ (x1 : Int32) (x2 : Int32) (M : Mem), K46 x1 x2 M = some (r, M') → V X 3 0 (WdM g M) 46 [(0, .ref (gMa g 0)), (1, .int x1), (2, .int x2)] []) (x1 : Int32) (x2 : Int32) (M : Mem) (h : fm_fresh_46b K46 x1 x2 M = some (r, M')) : V X 3 0 (WdM g M) 46 [(0, .ref (gMa g 0)), (1, .int x1), (2, .int x2)] [] := by
  unfold fm_fresh_46b at h
  refine v_iload_n O.1 dX20_fresh_46 rfl (q := 47) rfl ?_
  refine v_bipush O.1 dX20_fresh_47 (v := 21) (by decide) (q := 49) rfl ?_
  refine v_icmp_ge O.1 dX20_fresh_49 (t := 76) (by decide) (q := 52) rfl (fun c1 => ?_) (fun c1 => ?_)
  · rw [if_pos c1] at h
    refine v_iconst O.1 dX20_fresh_76 (v := 0) rfl (q := 77) rfl ?_
    refine v_istore_n (lv' := [(2, .int 0), (0, .ref (gMa g 0)), (1, .int x1)]) O.1 dX20_fresh_77 (by decide) rfl (q := 78) rfl ?_
    exact v_sub [1, 2, 0] rfl (bm_fresh_78 O 600 x1 0 M h)
  · rw [if_neg c1] at h
    refine v_aload_n O.1 dX20_fresh_52 rfl (q := 53) rfl ?_
    refine m_get O 4 (v := .ref (gMa g 4)) (by decide) q1736 rfl rfl dX20_fresh_53 (q := 56) rfl ?_
    refine v_sipush O.1 dX20_fresh_56 (v := 194) (by decide) (q := 59) rfl ?_
    refine v_iload_n O.1 dX20_fresh_59 rfl (q := 60) rfl ?_
    refine v_iadd O.1 dX20_fresh_60 (q := 61) rfl ?_
    refine v_iconst O.1 dX20_fresh_61 (v := (-1)) rfl (q := 62) rfl ?_
    obtain ⟨g2, h⟩ := gd_some h
    obtain ⟨M3, e3, h⟩ := stp_some h
    refine m_iast O rfl rfl (n := 342) g2 rfl (j := (194 + x2).toNatClampNeg) dX20_fresh_62 (q := 63) rfl e3 ?_
    refine v_aload_n O.1 dX20_fresh_63 rfl (q := 64) rfl ?_
    refine m_get O 13 (v := .ref (gMa g 12)) (by decide) q1745 rfl rfl dX20_fresh_64 (q := 67) rfl ?_
    refine v_iload_n O.1 dX20_fresh_67 rfl (q := 68) rfl ?_
    refine v_iconst O.1 dX20_fresh_68 (v := (-1)) rfl (q := 69) rfl ?_
    obtain ⟨g4, h⟩ := gd_some h
    obtain ⟨M5, e5, h⟩ := stp_some h
    refine m_iast O rfl rfl (n := 21) g4 rfl (j := x2.toNatClampNeg) dX20_fresh_69 (q := 70) rfl e5 ?_
    refine v_iinc (lv' := [(2, .int (x2 + 1)), (0, .ref (gMa g 0)), (1, .int x1)]) (v := (x2 + 1)) O.1 dX20_fresh_70 rfl rfl (by decide) rfl (q := 73) rfl ?_
    refine v_goto O.1 dX20_fresh_73 (t := 46) (by decide) ?_
    exact v_sub [1, 2, 0] rfl (hK46 x1 (x2 + 1) M5 h)
def fm_fresh_46 (n : Nat) : Int32 → Int32 → Mem → Option (Unit × Mem) := lpc (fm_fresh_46b) (fun _ _ _ => none) n
theorem bm_fresh_46 {g : gM} {X : Cxt} {r : Unit} {M' : Mem} (O : OkM g X cX20_fresh 3 none 0 (mQv g r M')) : ∀ (n : Nat) (x1 : Int32) (x2 : Int32) (M : Mem), fm_fresh_46 n x1 x2 M = some (r, M') → V X 3 0 (WdM g M) 46 [(0, .ref (gMa g 0)), (1, .int x1), (2, .int x2)] [] := by
  intro n
  induction n with
  | zero =>
    intro x1 x2 M h
    cases h
  | succ n ih =>
    intro x1 x2 M h
    exact bm_fresh_46b O ih x1 x2 M h
def fm_fresh_10b (K10 : Int32 → Int32 → Mem → Option (Unit × Mem)) (x1 : Int32) (x2 : Int32) (M : Mem) : Option (Unit × Mem) :=
  if 342 ≤ x2 then
    fm_fresh_46 600 x1 0 M
  else
    if x2 < 173 then
      fm_fresh_31 K10 x1 x2 M
    else
      if x2 < 194 then
        fm_fresh_38 K10 x1 x2 M
      else
        fm_fresh_31 K10 x1 x2 M
set_option maxHeartbeats 4000000 in
theorem bm_fresh_10b {g : gM} {X : Cxt} {r : Unit} {M' : Mem} (O : OkM g X cX20_fresh 3 none 0 (mQv g r M')) {K10 : Int32 → Int32 → Mem → Option (Unit × Mem)} (hK10 : ∀ (x1 : Int32) (x2 : Int32) (M : Mem), K10 x1 x2 M = some (r, M') → V X 3 0 (WdM g M) 10 [(0, .ref (gMa g 0)), (1, .int x1), (2, .int x2)] []) (x1 : Int32) (x2 : Int32) (M : Mem) (h : fm_fresh_10b K10 x1 x2 M = some (r, M')) : V X 3 0 (WdM g M) 10 [(0, .ref (gMa g 0)), (1, .int x1), (2, .int x2)] [] := by
  unfold fm_fresh_10b at h
  refine v_iload_n O.1 dX20_fresh_10 rfl (q := 11) rfl ?_
  refine v_sipush O.1 dX20_fresh_11 (v := 342) (by decide) (q := 14) rfl ?_
  refine v_icmp_ge O.1 dX20_fresh_14 (t := 44) (by decide) (q := 17) rfl (fun c1 => ?_) (fun c1 => ?_)
  · rw [if_pos c1] at h
    refine v_iconst O.1 dX20_fresh_44 (v := 0) rfl (q := 45) rfl ?_
    refine v_istore_n (lv' := [(2, .int 0), (0, .ref (gMa g 0)), (1, .int x1)]) O.1 dX20_fresh_45 (by decide) rfl (q := 46) rfl ?_
    exact v_sub [1, 2, 0] rfl (bm_fresh_46 O 600 x1 0 M h)
  · rw [if_neg c1] at h
    refine v_iload_n O.1 dX20_fresh_17 rfl (q := 18) rfl ?_
    refine v_sipush O.1 dX20_fresh_18 (v := 173) (by decide) (q := 21) rfl ?_
    refine v_icmp_lt O.1 dX20_fresh_21 (t := 31) (by decide) (q := 24) rfl (fun c2 => ?_) (fun c2 => ?_)
    · rw [if_pos c2] at h
      exact v_sub [0, 1, 2] rfl (bm_fresh_31 O hK10 x1 x2 M h)
    · rw [if_neg c2] at h
      refine v_iload_n O.1 dX20_fresh_24 rfl (q := 25) rfl ?_
      refine v_sipush O.1 dX20_fresh_25 (v := 194) (by decide) (q := 28) rfl ?_
      refine v_icmp_lt O.1 dX20_fresh_28 (t := 38) (by decide) (q := 31) rfl (fun c3 => ?_) (fun c3 => ?_)
      · rw [if_pos c3] at h
        exact v_sub [0, 1, 2] rfl (bm_fresh_38 O hK10 x1 x2 M h)
      · rw [if_neg c3] at h
        exact v_sub [0, 1, 2] rfl (bm_fresh_31 O hK10 x1 x2 M h)
def fm_fresh_10 (n : Nat) : Int32 → Int32 → Mem → Option (Unit × Mem) := lpc (fm_fresh_10b) (fun _ _ _ => none) n
theorem bm_fresh_10 {g : gM} {X : Cxt} {r : Unit} {M' : Mem} (O : OkM g X cX20_fresh 3 none 0 (mQv g r M')) : ∀ (n : Nat) (x1 : Int32) (x2 : Int32) (M : Mem), fm_fresh_10 n x1 x2 M = some (r, M') → V X 3 0 (WdM g M) 10 [(0, .ref (gMa g 0)), (1, .int x1), (2, .int x2)] [] := by
  intro n
  induction n with
  | zero =>
    intro x1 x2 M h
    cases h
  | succ n ih =>
    intro x1 x2 M h
    exact bm_fresh_10b O ih x1 x2 M h
def fm_fresh  (M : Mem) : Option (Unit × Mem) :=
  fm_fresh_10 600 (M 4 26) 0 M
set_option maxHeartbeats 4000000 in
theorem bm_fresh {g : gM} {X : Cxt} {r : Unit} {M' : Mem} (O : OkM g X cX20_fresh 3 none 0 (mQv g r M'))  (M : Mem) (h : fm_fresh  M = some (r, M')) : V X 3 0 (WdM g M) 0 [(0, .ref (gMa g 0))] [] := by
  unfold fm_fresh at h
  refine v_aload_n O.1 dX20_fresh_0 rfl (q := 1) rfl ?_
  refine m_get O 4 (v := .ref (gMa g 4)) (by decide) q1736 rfl rfl dX20_fresh_1 (q := 4) rfl ?_
  refine v_bipush O.1 dX20_fresh_4 (v := 26) (by decide) (q := 6) rfl ?_
  refine m_iald O rfl rfl (n := 342) (by decide) (by decide) (j := 26) dX20_fresh_6 (q := 7) rfl ?_
  refine v_istore_n (lv' := [(1, .int (M 4 26)), (0, .ref (gMa g 0))]) O.1 dX20_fresh_7 (by decide) rfl (q := 8) rfl ?_
  refine v_iconst O.1 dX20_fresh_8 (v := 0) rfl (q := 9) rfl ?_
  refine v_istore_n (lv' := [(2, .int 0), (1, .int (M 4 26)), (0, .ref (gMa g 0))]) O.1 dX20_fresh_9 (by decide) rfl (q := 10) rfl ?_
  exact v_sub [2, 1, 0] rfl (bm_fresh_10 O 600 (M 4 26) 0 M h)
theorem met_fresh (l : Launch) (g : gM)  (M M' : Mem) (r : Unit) (h : fm_fresh  M = some (r, M')) : MetM l g yX20_fresh cX20_fresh 3 none 0 [.ref (gMa g 0)] M (mQv g r M') :=
  m_met (by decide) rfl (Nat.le_of_ble_eq_true rfl) (fun X O => bm_fresh O  M h)
/-! thrown()I -/
def fm_thrown  (M : Mem) : Option (Int32 × Mem) :=
  some ((M 0 17), M)
set_option maxHeartbeats 4000000 in
theorem bm_thrown {g : gM} {X : Cxt} {r : Int32} {M' : Mem} (O : OkM g X cX20_thrown 1 (some .int) 0 (mQi g r M'))  (M : Mem) (h : fm_thrown  M = some (r, M')) : V X 1 0 (WdM g M) 0 [(0, .ref (gMa g 0))] [] := by
  unfold fm_thrown at h
  refine v_aload_n O.1 dX20_thrown_0 rfl (q := 1) rfl ?_
  refine m_get O 17 (v := .int (M 0 17)) (by decide) q1749 rfl rfl dX20_thrown_1 (q := 4) rfl ?_
  exact m_iret O h dX20_thrown_4
theorem met_thrown (l : Launch) (g : gM)  (M M' : Mem) (r : Int32) (h : fm_thrown  M = some (r, M')) : MetM l g yX20_thrown cX20_thrown 1 (some .int) 0 [.ref (gMa g 0)] M (mQi g r M') :=
  m_met (by decide) rfl (Nat.le_of_ble_eq_true rfl) (fun X O => bm_thrown O  M h)
/-! within(III)Z -/
def fm_within_15 (y0 : Int32) (M : Mem) : Option (Int32 × Mem) :=
  gd (isB y0) <|
  some (y0, M)
set_option maxHeartbeats 4000000 in
theorem bm_within_15 {g : gM} {X : Cxt} {r : Int32} {M' : Mem} (O : OkM g X cX20_within 3 (some .boolean) 0 (mQi g r M')) (y0 : Int32) (M : Mem) (h : fm_within_15 y0 M = some (r, M')) : V X 3 0 (WdM g M) 15 [] [.int y0] := by
  unfold fm_within_15 at h
  obtain ⟨g1, h⟩ := gd_some h
  exact m_zret O g1 h dX20_within_15
def fm_within_14  (M : Mem) : Option (Int32 × Mem) :=
  fm_within_15 0 M
set_option maxHeartbeats 4000000 in
theorem bm_within_14 {g : gM} {X : Cxt} {r : Int32} {M' : Mem} (O : OkM g X cX20_within 3 (some .boolean) 0 (mQi g r M'))  (M : Mem) (h : fm_within_14  M = some (r, M')) : V X 3 0 (WdM g M) 14 [] [] := by
  unfold fm_within_14 at h
  refine v_iconst O.1 dX20_within_14 (v := 0) rfl (q := 15) rfl ?_
  exact v_sub [] rfl (bm_within_15 O 0 M h)
def fm_within (x0 : Int32) (x1 : Int32) (x2 : Int32) (M : Mem) : Option (Int32 × Mem) :=
  if x0 < x1 then
    fm_within_14 M
  else
    if x2 < x0 then
      fm_within_14 M
    else
      fm_within_15 1 M
set_option maxHeartbeats 4000000 in
theorem bm_within {g : gM} {X : Cxt} {r : Int32} {M' : Mem} (O : OkM g X cX20_within 3 (some .boolean) 0 (mQi g r M')) (x0 : Int32) (x1 : Int32) (x2 : Int32) (M : Mem) (h : fm_within x0 x1 x2 M = some (r, M')) : V X 3 0 (WdM g M) 0 [(0, .int x0), (1, .int x1), (2, .int x2)] [] := by
  unfold fm_within at h
  refine v_iload_n O.1 dX20_within_0 rfl (q := 1) rfl ?_
  refine v_iload_n O.1 dX20_within_1 rfl (q := 2) rfl ?_
  refine v_icmp_lt O.1 dX20_within_2 (t := 14) (by decide) (q := 5) rfl (fun c1 => ?_) (fun c1 => ?_)
  · rw [if_pos c1] at h
    exact v_sub [] rfl (bm_within_14 O M h)
  · rw [if_neg c1] at h
    refine v_iload_n O.1 dX20_within_5 rfl (q := 6) rfl ?_
    refine v_iload_n O.1 dX20_within_6 rfl (q := 7) rfl ?_
    refine v_icmp_gt O.1 dX20_within_7 (t := 14) (by decide) (q := 10) rfl (fun c2 => ?_) (fun c2 => ?_)
    · rw [if_pos c2] at h
      exact v_sub [] rfl (bm_within_14 O M h)
    · rw [if_neg c2] at h
      refine v_iconst O.1 dX20_within_10 (v := 1) rfl (q := 11) rfl ?_
      refine v_goto O.1 dX20_within_11 (t := 15) (by decide) ?_
      exact v_sub [] rfl (bm_within_15 O 1 M h)
theorem met_within (l : Launch) (g : gM) (x0 : Int32) (x1 : Int32) (x2 : Int32) (M M' : Mem) (r : Int32) (h : fm_within x0 x1 x2 M = some (r, M')) : MetM l g yX20_within cX20_within 3 (some .boolean) 0 [.int x0, .int x1, .int x2] M (mQi g r M') :=
  m_met (by decide) rfl (Nat.le_of_ble_eq_true rfl) (fun X O => bm_within O x0 x1 x2 M h)
/-! load(IJ)Z -/
def fm_load_22b (K22 : Int32 → Int64 → Int32 → Mem → Option (Int32 × Mem)) (x1 : Int32) (x2 : Int64) (x4 : Int32) (M : Mem) : Option (Int32 × Mem) :=
  if x4 < 0 then
    some (1, M)
  else
    gd (inb (x1 + x4) 512) <|
    stp (up2 M 1 (x1 + x4).toNatClampNeg ((x2 &&& (255 : Int64)).toInt32)) fun M3 =>
    K22 x1 (x2 >>> ((8 : Int32).toInt64 &&& 63)) (x4 + (-1)) M3
set_option maxHeartbeats 4000000 in
theorem bm_load_22b {g : gM} {X : Cxt} {r : Int32} {M' : Mem} (O : OkM g X cX20_load 5 (some .boolean) 1 (mQi g r M')) {K22 : Int32 → Int64 → Int32 → Mem → Option (Int32 × Mem)} (hK22 : ∀ (x1 : Int32) (x2 : Int64) (x4 : Int32) (M : Mem), K22 x1 x2 x4 M = some (r, M') → V X 5 0 (WdM g M) 22 [(0, .ref (gMa g 0)), (1, .int x1), (2, .long x2), (4, .int x4)] []) (x1 : Int32) (x2 : Int64) (x4 : Int32) (M : Mem) (h : fm_load_22b K22 x1 x2 x4 M = some (r, M')) : V X 5 0 (WdM g M) 22 [(0, .ref (gMa g 0)), (1, .int x1), (2, .long x2), (4, .int x4)] [] := by
  unfold fm_load_22b at h
  refine v_iload O.1 dX20_load_22 rfl (q := 24) rfl ?_
  refine v_if_lt O.1 dX20_load_24 (t := 53) (by decide) (q := 27) rfl (fun c1 => ?_) (fun c1 => ?_)
  · rw [if_pos c1] at h
    refine v_iconst O.1 dX20_load_53 (v := 1) rfl (q := 54) rfl ?_
    exact m_zret O (by decide) h dX20_load_54
  · rw [if_neg c1] at h
    refine v_aload_n O.1 dX20_load_27 rfl (q := 28) rfl ?_
    refine m_get O 0 (v := .ref (gMa g 1)) (by decide) q1732 rfl rfl dX20_load_28 (q := 31) rfl ?_
    refine v_iload_n O.1 dX20_load_31 rfl (q := 32) rfl ?_
    refine v_iload O.1 dX20_load_32 rfl (q := 34) rfl ?_
    refine v_iadd O.1 dX20_load_34 (q := 35) rfl ?_
    refine v_lload_n O.1 dX20_load_35 rfl (q := 36) rfl ?_
    refine v_ldc2 O.1 dX20_load_36 q1820 (q := 39) rfl ?_
    refine v_land O.1 dX20_load_39 (q := 40) rfl ?_
    refine v_l2i O.1 dX20_load_40 (q := 41) rfl ?_
    obtain ⟨g2, h⟩ := gd_some h
    obtain ⟨M3, e3, h⟩ := stp_some h
    refine m_iast O rfl rfl (n := 512) g2 rfl (j := (x1 + x4).toNatClampNeg) dX20_load_41 (q := 42) rfl e3 ?_
    refine v_lload_n O.1 dX20_load_42 rfl (q := 43) rfl ?_
    refine v_bipush O.1 dX20_load_43 (v := 8) (by decide) (q := 45) rfl ?_
    refine v_lshr O.1 dX20_load_45 (q := 46) rfl ?_
    refine v_lstore_n (lv' := [(2, .long (x2 >>> ((8 : Int32).toInt64 &&& 63))), (0, .ref (gMa g 0)), (1, .int x1), (4, .int x4)]) O.1 dX20_load_46 (by decide) rfl (q := 47) rfl ?_
    refine v_iinc (lv' := [(4, .int (x4 + (-1))), (2, .long (x2 >>> ((8 : Int32).toInt64 &&& 63))), (0, .ref (gMa g 0)), (1, .int x1)]) (v := (x4 + (-1))) O.1 dX20_load_47 rfl rfl (by decide) rfl (q := 50) rfl ?_
    refine v_goto O.1 dX20_load_50 (t := 22) (by decide) ?_
    exact v_sub [2, 3, 1, 0] rfl (hK22 x1 (x2 >>> ((8 : Int32).toInt64 &&& 63)) (x4 + (-1)) M3 h)
def fm_load_22 (n : Nat) : Int32 → Int64 → Int32 → Mem → Option (Int32 × Mem) := lpc (fm_load_22b) (fun _ _ _ _ => none) n
theorem bm_load_22 {g : gM} {X : Cxt} {r : Int32} {M' : Mem} (O : OkM g X cX20_load 5 (some .boolean) 1 (mQi g r M')) : ∀ (n : Nat) (x1 : Int32) (x2 : Int64) (x4 : Int32) (M : Mem), fm_load_22 n x1 x2 x4 M = some (r, M') → V X 5 0 (WdM g M) 22 [(0, .ref (gMa g 0)), (1, .int x1), (2, .long x2), (4, .int x4)] [] := by
  intro n
  induction n with
  | zero =>
    intro x1 x2 x4 M h
    cases h
  | succ n ih =>
    intro x1 x2 x4 M h
    exact bm_load_22b O ih x1 x2 x4 M h
def fm_load (x1 : Int32) (x2 : Int64) (M : Mem) : Option (Int32 × Mem) :=
  stp (up2 M 0 17 0) fun M1 =>
  bnd (fm_within x1 0 504 M1) fun r2 M2 =>
  if r2 = 0 then
    some (0, M2)
  else
    fm_load_22 600 x1 x2 7 M2
set_option maxHeartbeats 4000000 in
theorem bm_load {g : gM} {X : Cxt} {r : Int32} {M' : Mem} (O : OkM g X cX20_load 5 (some .boolean) 1 (mQi g r M')) (x1 : Int32) (x2 : Int64) (M : Mem) (h : fm_load x1 x2 M = some (r, M')) : V X 5 0 (WdM g M) 0 [(0, .ref (gMa g 0)), (1, .int x1), (2, .long x2)] [] := by
  unfold fm_load at h
  refine v_aload_n O.1 dX20_load_0 rfl (q := 1) rfl ?_
  refine v_iconst O.1 dX20_load_1 (v := 0) rfl (q := 2) rfl ?_
  obtain ⟨M1, e1, h⟩ := stp_some h
  refine m_put O 17 (ty := .int) (by decide) q1749 rfl rfl rfl rfl rfl rfl dX20_load_2 (q := 5) rfl e1 ?_
  refine v_iload_n O.1 dX20_load_5 rfl (q := 6) rfl ?_
  refine v_iconst O.1 dX20_load_6 (v := 0) rfl (q := 7) rfl ?_
  refine v_sipush O.1 dX20_load_7 (v := 504) (by decide) (q := 10) rfl ?_
  obtain ⟨r2, M2, e2, h⟩ := bnd_some h
  refine m_callSi (As := [.int x1, .int 0, .int 504]) (rest := []) (n := 3) O (met_within _ g x1 0 504 M1 M2 r2 e2) (lw_S q1817 q1818 q84 q1819) (by decide +kernel) (by decide) (by decide) rfl rfl (Nat.le_of_ble_eq_true rfl) dX20_load_10 (q := 13) rfl ?_
  refine v_if_ne O.1 dX20_load_13 (t := 18) (by decide) (q := 16) rfl (fun c3 => ?_) (fun c3 => ?_)
  · rw [if_neg c3] at h
    refine v_bipush O.1 dX20_load_18 (v := 7) (by decide) (q := 20) rfl ?_
    refine v_istore (lv' := [(4, .int 7), (0, .ref (gMa g 0)), (1, .int x1), (2, .long x2)]) O.1 dX20_load_20 (by decide) rfl (q := 22) rfl ?_
    exact v_sub [1, 2, 3, 0] rfl (bm_load_22 O 600 x1 x2 7 M2 h)
  · rw [if_pos c3] at h
    refine v_iconst O.1 dX20_load_16 (v := 0) rfl (q := 17) rfl ?_
    exact m_zret O (by decide) h dX20_load_17
theorem met_load (l : Launch) (g : gM) (x1 : Int32) (x2 : Int64) (M M' : Mem) (r : Int32) (h : fm_load x1 x2 M = some (r, M')) : MetM l g yX20_load cX20_load 5 (some .boolean) 1 [.ref (gMa g 0), .int x1, .long x2] M (mQi g r M') :=
  m_met (by decide) rfl (Nat.le_of_ble_eq_true rfl) (fun X O => bm_load O x1 x2 M h)
/-! code(I)I -/
def fm_code_26 (y0 : Int32) (M : Mem) : Option (Int32 × Mem) :=
  some (y0, M)
set_option maxHeartbeats 4000000 in
theorem bm_code_26 {g : gM} {X : Cxt} {r : Int32} {M' : Mem} (O : OkM g X cX20_code 2 (some .int) 1 (mQi g r M')) (y0 : Int32) (M : Mem) (h : fm_code_26 y0 M = some (r, M')) : V X 2 0 (WdM g M) 26 [] [.int y0] := by
  unfold fm_code_26 at h
  exact m_iret O h dX20_code_26
def fm_code (x1 : Int32) (M : Mem) : Option (Int32 × Mem) :=
  stp (up2 M 0 17 0) fun M1 =>
  bnd (fm_within x1 0 511 M1) fun r2 M2 =>
  if r2 = 0 then
    fm_code_26 (-1) M2
  else
    gd (inb x1 512) <|
    fm_code_26 (M2 1 x1.toNatClampNeg) M2
set_option maxHeartbeats 4000000 in
theorem bm_code {g : gM} {X : Cxt} {r : Int32} {M' : Mem} (O : OkM g X cX20_code 2 (some .int) 1 (mQi g r M')) (x1 : Int32) (M : Mem) (h : fm_code x1 M = some (r, M')) : V X 2 0 (WdM g M) 0 [(0, .ref (gMa g 0)), (1, .int x1)] [] := by
  unfold fm_code at h
  refine v_aload_n O.1 dX20_code_0 rfl (q := 1) rfl ?_
  refine v_iconst O.1 dX20_code_1 (v := 0) rfl (q := 2) rfl ?_
  obtain ⟨M1, e1, h⟩ := stp_some h
  refine m_put O 17 (ty := .int) (by decide) q1749 rfl rfl rfl rfl rfl rfl dX20_code_2 (q := 5) rfl e1 ?_
  refine v_iload_n O.1 dX20_code_5 rfl (q := 6) rfl ?_
  refine v_iconst O.1 dX20_code_6 (v := 0) rfl (q := 7) rfl ?_
  refine v_sipush O.1 dX20_code_7 (v := 511) (by decide) (q := 10) rfl ?_
  obtain ⟨r2, M2, e2, h⟩ := bnd_some h
  refine m_callSi (As := [.int x1, .int 0, .int 511]) (rest := []) (n := 3) O (met_within _ g x1 0 511 M1 M2 r2 e2) (lw_S q1817 q1818 q84 q1819) (by decide +kernel) (by decide) (by decide) rfl rfl (Nat.le_of_ble_eq_true rfl) dX20_code_10 (q := 13) rfl ?_
  refine v_if_eq O.1 dX20_code_13 (t := 25) (by decide) (q := 16) rfl (fun c3 => ?_) (fun c3 => ?_)
  · rw [if_pos c3] at h
    refine v_iconst O.1 dX20_code_25 (v := (-1)) rfl (q := 26) rfl ?_
    exact v_sub [] rfl (bm_code_26 O (-1) M2 h)
  · rw [if_neg c3] at h
    refine v_aload_n O.1 dX20_code_16 rfl (q := 17) rfl ?_
    refine m_get O 0 (v := .ref (gMa g 1)) (by decide) q1732 rfl rfl dX20_code_17 (q := 20) rfl ?_
    refine v_iload_n O.1 dX20_code_20 rfl (q := 21) rfl ?_
    obtain ⟨g4, h⟩ := gd_some h
    refine m_iald O rfl rfl (n := 512) g4 rfl (j := x1.toNatClampNeg) dX20_code_21 (q := 22) rfl ?_
    refine v_goto O.1 dX20_code_22 (t := 26) (by decide) ?_
    exact v_sub [] rfl (bm_code_26 O (M2 1 x1.toNatClampNeg) M2 h)
theorem met_code (l : Launch) (g : gM) (x1 : Int32) (M M' : Mem) (r : Int32) (h : fm_code x1 M = some (r, M')) : MetM l g yX20_code cX20_code 2 (some .int) 1 [.ref (gMa g 0), .int x1] M (mQi g r M') :=
  m_met (by decide) rfl (Nat.le_of_ble_eq_true rfl) (fun X O => bm_code O x1 M h)
/-! rank(II)Z -/
def fm_rank_40  (M : Mem) : Option (Int32 × Mem) :=
  some (0, M)
set_option maxHeartbeats 4000000 in
theorem bm_rank_40 {g : gM} {X : Cxt} {r : Int32} {M' : Mem} (O : OkM g X cX20_rank 3 (some .boolean) 1 (mQi g r M'))  (M : Mem) (h : fm_rank_40  M = some (r, M')) : V X 3 0 (WdM g M) 40 [] [] := by
  unfold fm_rank_40 at h
  refine v_iconst O.1 dX20_rank_40 (v := 0) rfl (q := 41) rfl ?_
  exact m_zret O (by decide) h dX20_rank_41
def fm_rank (x1 : Int32) (x2 : Int32) (M : Mem) : Option (Int32 × Mem) :=
  stp (up2 M 0 17 0) fun M1 =>
  bnd (fm_within x1 0 19 M1) fun r2 M2 =>
  if r2 = 0 then
    fm_rank_40 M2
  else
    bnd (fm_within x2 0 255 M2) fun r4 M4 =>
    if r4 = 0 then
      fm_rank_40 M4
    else
      gd (inb (300 + x1) 342) <|
      if (M4 4 (300 + x1).toNatClampNeg) = 1 then
        fm_rank_40 M4
      else
        gd (inb (173 + x1) 342) <|
        stp (up2 M4 4 (173 + x1).toNatClampNeg x2) fun M9 =>
        some (1, M9)
set_option maxHeartbeats 4000000 in
theorem bm_rank {g : gM} {X : Cxt} {r : Int32} {M' : Mem} (O : OkM g X cX20_rank 3 (some .boolean) 1 (mQi g r M')) (x1 : Int32) (x2 : Int32) (M : Mem) (h : fm_rank x1 x2 M = some (r, M')) : V X 3 0 (WdM g M) 0 [(0, .ref (gMa g 0)), (1, .int x1), (2, .int x2)] [] := by
  unfold fm_rank at h
  refine v_aload_n O.1 dX20_rank_0 rfl (q := 1) rfl ?_
  refine v_iconst O.1 dX20_rank_1 (v := 0) rfl (q := 2) rfl ?_
  obtain ⟨M1, e1, h⟩ := stp_some h
  refine m_put O 17 (ty := .int) (by decide) q1749 rfl rfl rfl rfl rfl rfl dX20_rank_2 (q := 5) rfl e1 ?_
  refine v_iload_n O.1 dX20_rank_5 rfl (q := 6) rfl ?_
  refine v_iconst O.1 dX20_rank_6 (v := 0) rfl (q := 7) rfl ?_
  refine v_bipush O.1 dX20_rank_7 (v := 19) (by decide) (q := 9) rfl ?_
  obtain ⟨r2, M2, e2, h⟩ := bnd_some h
  refine m_callSi (As := [.int x1, .int 0, .int 19]) (rest := []) (n := 3) O (met_within _ g x1 0 19 M1 M2 r2 e2) (lw_S q1817 q1818 q84 q1819) (by decide +kernel) (by decide) (by decide) rfl rfl (Nat.le_of_ble_eq_true rfl) dX20_rank_9 (q := 12) rfl ?_
  refine v_if_eq O.1 dX20_rank_12 (t := 40) (by decide) (q := 15) rfl (fun c3 => ?_) (fun c3 => ?_)
  · rw [if_pos c3] at h
    exact v_sub [] rfl (bm_rank_40 O M2 h)
  · rw [if_neg c3] at h
    refine v_iload_n O.1 dX20_rank_15 rfl (q := 16) rfl ?_
    refine v_iconst O.1 dX20_rank_16 (v := 0) rfl (q := 17) rfl ?_
    refine v_sipush O.1 dX20_rank_17 (v := 255) (by decide) (q := 20) rfl ?_
    obtain ⟨r4, M4, e4, h⟩ := bnd_some h
    refine m_callSi (As := [.int x2, .int 0, .int 255]) (rest := []) (n := 3) O (met_within _ g x2 0 255 M2 M4 r4 e4) (lw_S q1817 q1818 q84 q1819) (by decide +kernel) (by decide) (by decide) rfl rfl (Nat.le_of_ble_eq_true rfl) dX20_rank_20 (q := 23) rfl ?_
    refine v_if_eq O.1 dX20_rank_23 (t := 40) (by decide) (q := 26) rfl (fun c5 => ?_) (fun c5 => ?_)
    · rw [if_pos c5] at h
      exact v_sub [] rfl (bm_rank_40 O M4 h)
    · rw [if_neg c5] at h
      refine v_aload_n O.1 dX20_rank_26 rfl (q := 27) rfl ?_
      refine m_get O 4 (v := .ref (gMa g 4)) (by decide) q1736 rfl rfl dX20_rank_27 (q := 30) rfl ?_
      refine v_sipush O.1 dX20_rank_30 (v := 300) (by decide) (q := 33) rfl ?_
      refine v_iload_n O.1 dX20_rank_33 rfl (q := 34) rfl ?_
      refine v_iadd O.1 dX20_rank_34 (q := 35) rfl ?_
      obtain ⟨g6, h⟩ := gd_some h
      refine m_iald O rfl rfl (n := 342) g6 rfl (j := (300 + x1).toNatClampNeg) dX20_rank_35 (q := 36) rfl ?_
      refine v_iconst O.1 dX20_rank_36 (v := 1) rfl (q := 37) rfl ?_
      refine v_icmp_ne O.1 dX20_rank_37 (t := 42) (by decide) (q := 40) rfl (fun c7 => ?_) (fun c7 => ?_)
      · rw [if_neg c7] at h
        refine v_aload_n O.1 dX20_rank_42 rfl (q := 43) rfl ?_
        refine m_get O 4 (v := .ref (gMa g 4)) (by decide) q1736 rfl rfl dX20_rank_43 (q := 46) rfl ?_
        refine v_sipush O.1 dX20_rank_46 (v := 173) (by decide) (q := 49) rfl ?_
        refine v_iload_n O.1 dX20_rank_49 rfl (q := 50) rfl ?_
        refine v_iadd O.1 dX20_rank_50 (q := 51) rfl ?_
        refine v_iload_n O.1 dX20_rank_51 rfl (q := 52) rfl ?_
        obtain ⟨g8, h⟩ := gd_some h
        obtain ⟨M9, e9, h⟩ := stp_some h
        refine m_iast O rfl rfl (n := 342) g8 rfl (j := (173 + x1).toNatClampNeg) dX20_rank_52 (q := 53) rfl e9 ?_
        refine v_iconst O.1 dX20_rank_53 (v := 1) rfl (q := 54) rfl ?_
        exact m_zret O (by decide) h dX20_rank_54
      · rw [if_pos c7] at h
        exact v_sub [] rfl (bm_rank_40 O M4 h)
theorem met_rank (l : Launch) (g : gM) (x1 : Int32) (x2 : Int32) (M M' : Mem) (r : Int32) (h : fm_rank x1 x2 M = some (r, M')) : MetM l g yX20_rank cX20_rank 3 (some .boolean) 1 [.ref (gMa g 0), .int x1, .int x2] M (mQi g r M') :=
  m_met (by decide) rfl (Nat.le_of_ble_eq_true rfl) (fun X O => bm_rank O x1 x2 M h)
/-! enable(IZ)Z -/
def fm_enable (x1 : Int32) (x2 : Int32) (M : Mem) : Option (Int32 × Mem) :=
  stp (up2 M 0 17 0) fun M1 =>
  bnd (fm_within x1 0 19 M1) fun r2 M2 =>
  if r2 = 0 then
    some (0, M2)
  else
    gd (inb x1 21) <|
    gd (isB x2) <|
    stp (up2 M2 3 x1.toNatClampNeg x2) fun M6 =>
    some (1, M6)
set_option maxHeartbeats 4000000 in
theorem bm_enable {g : gM} {X : Cxt} {r : Int32} {M' : Mem} (O : OkM g X cX20_enable 3 (some .boolean) 1 (mQi g r M')) (x1 : Int32) (x2 : Int32) (M : Mem) (h : fm_enable x1 x2 M = some (r, M')) : V X 3 0 (WdM g M) 0 [(0, .ref (gMa g 0)), (1, .int x1), (2, .int x2)] [] := by
  unfold fm_enable at h
  refine v_aload_n O.1 dX20_enable_0 rfl (q := 1) rfl ?_
  refine v_iconst O.1 dX20_enable_1 (v := 0) rfl (q := 2) rfl ?_
  obtain ⟨M1, e1, h⟩ := stp_some h
  refine m_put O 17 (ty := .int) (by decide) q1749 rfl rfl rfl rfl rfl rfl dX20_enable_2 (q := 5) rfl e1 ?_
  refine v_iload_n O.1 dX20_enable_5 rfl (q := 6) rfl ?_
  refine v_iconst O.1 dX20_enable_6 (v := 0) rfl (q := 7) rfl ?_
  refine v_bipush O.1 dX20_enable_7 (v := 19) (by decide) (q := 9) rfl ?_
  obtain ⟨r2, M2, e2, h⟩ := bnd_some h
  refine m_callSi (As := [.int x1, .int 0, .int 19]) (rest := []) (n := 3) O (met_within _ g x1 0 19 M1 M2 r2 e2) (lw_S q1817 q1818 q84 q1819) (by decide +kernel) (by decide) (by decide) rfl rfl (Nat.le_of_ble_eq_true rfl) dX20_enable_9 (q := 12) rfl ?_
  refine v_if_ne O.1 dX20_enable_12 (t := 17) (by decide) (q := 15) rfl (fun c3 => ?_) (fun c3 => ?_)
  · rw [if_neg c3] at h
    refine v_aload_n O.1 dX20_enable_17 rfl (q := 18) rfl ?_
    refine m_get O 2 (v := .ref (gMa g 3)) (by decide) q1734 rfl rfl dX20_enable_18 (q := 21) rfl ?_
    refine v_iload_n O.1 dX20_enable_21 rfl (q := 22) rfl ?_
    refine v_iload_n O.1 dX20_enable_22 rfl (q := 23) rfl ?_
    obtain ⟨g4, h⟩ := gd_some h
    obtain ⟨g5, h⟩ := gd_some h
    obtain ⟨M6, e6, h⟩ := stp_some h
    refine m_bast O rfl rfl (n := 21) g4 rfl (j := x1.toNatClampNeg) g5 dX20_enable_23 (q := 24) rfl e6 ?_
    refine v_iconst O.1 dX20_enable_24 (v := 1) rfl (q := 25) rfl ?_
    exact m_zret O (by decide) h dX20_enable_25
  · rw [if_pos c3] at h
    refine v_iconst O.1 dX20_enable_15 (v := 0) rfl (q := 16) rfl ?_
    exact m_zret O (by decide) h dX20_enable_16
theorem met_enable (l : Launch) (g : gM) (x1 : Int32) (x2 : Int32) (M M' : Mem) (r : Int32) (h : fm_enable x1 x2 M = some (r, M')) : MetM l g yX20_enable cX20_enable 3 (some .boolean) 1 [.ref (gMa g 0), .int x1, .int x2] M (mQi g r M') :=
  m_met (by decide) rfl (Nat.le_of_ble_eq_true rfl) (fun X O => bm_enable O x1 x2 M h)
/-! vector(II)Z -/
def fm_vector_26  (M : Mem) : Option (Int32 × Mem) :=
  some (0, M)
set_option maxHeartbeats 4000000 in
theorem bm_vector_26 {g : gM} {X : Cxt} {r : Int32} {M' : Mem} (O : OkM g X cX20_vector 3 (some .boolean) 1 (mQi g r M'))  (M : Mem) (h : fm_vector_26  M = some (r, M')) : V X 3 0 (WdM g M) 26 [] [] := by
  unfold fm_vector_26 at h
  refine v_iconst O.1 dX20_vector_26 (v := 0) rfl (q := 27) rfl ?_
  exact m_zret O (by decide) h dX20_vector_27
def fm_vector (x1 : Int32) (x2 : Int32) (M : Mem) : Option (Int32 × Mem) :=
  stp (up2 M 0 17 0) fun M1 =>
  bnd (fm_within x1 0 20 M1) fun r2 M2 =>
  if r2 = 0 then
    fm_vector_26 M2
  else
    bnd (fm_within x2 0 511 M2) fun r4 M4 =>
    if r4 = 0 then
      fm_vector_26 M4
    else
      gd (inb x1 21) <|
      stp (up2 M4 2 x1.toNatClampNeg x2) fun M7 =>
      some (1, M7)
set_option maxHeartbeats 4000000 in
theorem bm_vector {g : gM} {X : Cxt} {r : Int32} {M' : Mem} (O : OkM g X cX20_vector 3 (some .boolean) 1 (mQi g r M')) (x1 : Int32) (x2 : Int32) (M : Mem) (h : fm_vector x1 x2 M = some (r, M')) : V X 3 0 (WdM g M) 0 [(0, .ref (gMa g 0)), (1, .int x1), (2, .int x2)] [] := by
  unfold fm_vector at h
  refine v_aload_n O.1 dX20_vector_0 rfl (q := 1) rfl ?_
  refine v_iconst O.1 dX20_vector_1 (v := 0) rfl (q := 2) rfl ?_
  obtain ⟨M1, e1, h⟩ := stp_some h
  refine m_put O 17 (ty := .int) (by decide) q1749 rfl rfl rfl rfl rfl rfl dX20_vector_2 (q := 5) rfl e1 ?_
  refine v_iload_n O.1 dX20_vector_5 rfl (q := 6) rfl ?_
  refine v_iconst O.1 dX20_vector_6 (v := 0) rfl (q := 7) rfl ?_
  refine v_bipush O.1 dX20_vector_7 (v := 20) (by decide) (q := 9) rfl ?_
  obtain ⟨r2, M2, e2, h⟩ := bnd_some h
  refine m_callSi (As := [.int x1, .int 0, .int 20]) (rest := []) (n := 3) O (met_within _ g x1 0 20 M1 M2 r2 e2) (lw_S q1817 q1818 q84 q1819) (by decide +kernel) (by decide) (by decide) rfl rfl (Nat.le_of_ble_eq_true rfl) dX20_vector_9 (q := 12) rfl ?_
  refine v_if_eq O.1 dX20_vector_12 (t := 26) (by decide) (q := 15) rfl (fun c3 => ?_) (fun c3 => ?_)
  · rw [if_pos c3] at h
    exact v_sub [] rfl (bm_vector_26 O M2 h)
  · rw [if_neg c3] at h
    refine v_iload_n O.1 dX20_vector_15 rfl (q := 16) rfl ?_
    refine v_iconst O.1 dX20_vector_16 (v := 0) rfl (q := 17) rfl ?_
    refine v_sipush O.1 dX20_vector_17 (v := 511) (by decide) (q := 20) rfl ?_
    obtain ⟨r4, M4, e4, h⟩ := bnd_some h
    refine m_callSi (As := [.int x2, .int 0, .int 511]) (rest := []) (n := 3) O (met_within _ g x2 0 511 M2 M4 r4 e4) (lw_S q1817 q1818 q84 q1819) (by decide +kernel) (by decide) (by decide) rfl rfl (Nat.le_of_ble_eq_true rfl) dX20_vector_20 (q := 23) rfl ?_
    refine v_if_ne O.1 dX20_vector_23 (t := 28) (by decide) (q := 26) rfl (fun c5 => ?_) (fun c5 => ?_)
    · rw [if_neg c5] at h
      refine v_aload_n O.1 dX20_vector_28 rfl (q := 29) rfl ?_
      refine m_get O 1 (v := .ref (gMa g 2)) (by decide) q1733 rfl rfl dX20_vector_29 (q := 32) rfl ?_
      refine v_iload_n O.1 dX20_vector_32 rfl (q := 33) rfl ?_
      refine v_iload_n O.1 dX20_vector_33 rfl (q := 34) rfl ?_
      obtain ⟨g6, h⟩ := gd_some h
      obtain ⟨M7, e7, h⟩ := stp_some h
      refine m_iast O rfl rfl (n := 21) g6 rfl (j := x1.toNatClampNeg) dX20_vector_34 (q := 35) rfl e7 ?_
      refine v_iconst O.1 dX20_vector_35 (v := 1) rfl (q := 36) rfl ?_
      exact m_zret O (by decide) h dX20_vector_36
    · rw [if_pos c5] at h
      exact v_sub [] rfl (bm_vector_26 O M4 h)
theorem met_vector (l : Launch) (g : gM) (x1 : Int32) (x2 : Int32) (M M' : Mem) (r : Int32) (h : fm_vector x1 x2 M = some (r, M')) : MetM l g yX20_vector cX20_vector 3 (some .boolean) 1 [.ref (gMa g 0), .int x1, .int x2] M (mQi g r M') :=
  m_met (by decide) rfl (Nat.le_of_ble_eq_true rfl) (fun X O => bm_vector O x1 x2 M h)
/-! split(I)Z -/
def fm_split_25  (M : Mem) : Option (Int32 × Mem) :=
  some (0, M)
set_option maxHeartbeats 4000000 in
theorem bm_split_25 {g : gM} {X : Cxt} {r : Int32} {M' : Mem} (O : OkM g X cX20_split 2 (some .boolean) 1 (mQi g r M'))  (M : Mem) (h : fm_split_25  M = some (r, M')) : V X 2 0 (WdM g M) 25 [] [] := by
  unfold fm_split_25 at h
  refine v_iconst O.1 dX20_split_25 (v := 0) rfl (q := 26) rfl ?_
  exact m_zret O (by decide) h dX20_split_26
def fm_split (x1 : Int32) (M : Mem) : Option (Int32 × Mem) :=
  stp (up2 M 0 17 0) fun M1 =>
  bnd (fm_within x1 0 7 M1) fun r2 M2 =>
  if r2 = 0 then
    fm_split_25 M2
  else
    if (M2 4 30) ≤ 0 then
      stp (up2 M2 0 3 x1) fun M5 =>
      some (1, M5)
    else
      fm_split_25 M2
set_option maxHeartbeats 4000000 in
theorem bm_split {g : gM} {X : Cxt} {r : Int32} {M' : Mem} (O : OkM g X cX20_split 2 (some .boolean) 1 (mQi g r M')) (x1 : Int32) (M : Mem) (h : fm_split x1 M = some (r, M')) : V X 2 0 (WdM g M) 0 [(0, .ref (gMa g 0)), (1, .int x1)] [] := by
  unfold fm_split at h
  refine v_aload_n O.1 dX20_split_0 rfl (q := 1) rfl ?_
  refine v_iconst O.1 dX20_split_1 (v := 0) rfl (q := 2) rfl ?_
  obtain ⟨M1, e1, h⟩ := stp_some h
  refine m_put O 17 (ty := .int) (by decide) q1749 rfl rfl rfl rfl rfl rfl dX20_split_2 (q := 5) rfl e1 ?_
  refine v_iload_n O.1 dX20_split_5 rfl (q := 6) rfl ?_
  refine v_iconst O.1 dX20_split_6 (v := 0) rfl (q := 7) rfl ?_
  refine v_bipush O.1 dX20_split_7 (v := 7) (by decide) (q := 9) rfl ?_
  obtain ⟨r2, M2, e2, h⟩ := bnd_some h
  refine m_callSi (As := [.int x1, .int 0, .int 7]) (rest := []) (n := 3) O (met_within _ g x1 0 7 M1 M2 r2 e2) (lw_S q1817 q1818 q84 q1819) (by decide +kernel) (by decide) (by decide) rfl rfl (Nat.le_of_ble_eq_true rfl) dX20_split_9 (q := 12) rfl ?_
  refine v_if_eq O.1 dX20_split_12 (t := 25) (by decide) (q := 15) rfl (fun c3 => ?_) (fun c3 => ?_)
  · rw [if_pos c3] at h
    exact v_sub [] rfl (bm_split_25 O M2 h)
  · rw [if_neg c3] at h
    refine v_aload_n O.1 dX20_split_15 rfl (q := 16) rfl ?_
    refine m_get O 4 (v := .ref (gMa g 4)) (by decide) q1736 rfl rfl dX20_split_16 (q := 19) rfl ?_
    refine v_bipush O.1 dX20_split_19 (v := 30) (by decide) (q := 21) rfl ?_
    refine m_iald O rfl rfl (n := 342) (by decide) (by decide) (j := 30) dX20_split_21 (q := 22) rfl ?_
    refine v_if_le O.1 dX20_split_22 (t := 27) (by decide) (q := 25) rfl (fun c4 => ?_) (fun c4 => ?_)
    · rw [if_pos c4] at h
      refine v_aload_n O.1 dX20_split_27 rfl (q := 28) rfl ?_
      refine v_iload_n O.1 dX20_split_28 rfl (q := 29) rfl ?_
      obtain ⟨M5, e5, h⟩ := stp_some h
      refine m_put O 3 (ty := .int) (by decide) q1735 rfl rfl rfl rfl rfl rfl dX20_split_29 (q := 32) rfl e5 ?_
      refine v_iconst O.1 dX20_split_32 (v := 1) rfl (q := 33) rfl ?_
      exact m_zret O (by decide) h dX20_split_33
    · rw [if_neg c4] at h
      exact v_sub [] rfl (bm_split_25 O M2 h)
theorem met_split (l : Launch) (g : gM) (x1 : Int32) (M M' : Mem) (r : Int32) (h : fm_split x1 M = some (r, M')) : MetM l g yX20_split cX20_split 2 (some .boolean) 1 [.ref (gMa g 0), .int x1] M (mQi g r M') :=
  m_met (by decide) rfl (Nat.le_of_ble_eq_true rfl) (fun X O => bm_split O x1 M h)
/-! counts(I)V -/
def fm_counts_17  (M : Mem) : Option (Unit × Mem) :=
  some ((), M)
set_option maxHeartbeats 4000000 in
theorem bm_counts_17 {g : gM} {X : Cxt} {r : Unit} {M' : Mem} (O : OkM g X cX20_counts 2 none 0 (mQv g r M'))  (M : Mem) (h : fm_counts_17  M = some (r, M')) : V X 2 0 (WdM g M) 17 [] [] := by
  unfold fm_counts_17 at h
  exact m_vret O h dX20_counts_17
def fm_counts (x1 : Int32) (M : Mem) : Option (Unit × Mem) :=
  if (M 0 14) = 0 then
    fm_counts_17 M
  else
    gd (inb x1 17) <|
    gd (inb x1 17) <|
    stp (up2 M 6 x1.toNatClampNeg ((M 6 x1.toNatClampNeg) + 1)) fun M4 =>
    fm_counts_17 M4
set_option maxHeartbeats 4000000 in
theorem bm_counts {g : gM} {X : Cxt} {r : Unit} {M' : Mem} (O : OkM g X cX20_counts 2 none 0 (mQv g r M')) (x1 : Int32) (M : Mem) (h : fm_counts x1 M = some (r, M')) : V X 2 0 (WdM g M) 0 [(0, .ref (gMa g 0)), (1, .int x1)] [] := by
  unfold fm_counts at h
  refine v_aload_n O.1 dX20_counts_0 rfl (q := 1) rfl ?_
  refine m_get O 14 (v := .int (M 0 14)) (by decide) q1746 rfl rfl dX20_counts_1 (q := 4) rfl ?_
  refine v_if_eq O.1 dX20_counts_4 (t := 17) (by decide) (q := 7) rfl (fun c1 => ?_) (fun c1 => ?_)
  · rw [if_pos c1] at h
    exact v_sub [] rfl (bm_counts_17 O M h)
  · rw [if_neg c1] at h
    refine v_aload_n O.1 dX20_counts_7 rfl (q := 8) rfl ?_
    refine m_get O 6 (v := .ref (gMa g 6)) (by decide) q1738 rfl rfl dX20_counts_8 (q := 11) rfl ?_
    refine v_iload_n O.1 dX20_counts_11 rfl (q := 12) rfl ?_
    refine v_dup2 O.1 dX20_counts_12 rfl rfl (q := 13) rfl ?_
    obtain ⟨g2, h⟩ := gd_some h
    refine m_iald O rfl rfl (n := 17) g2 rfl (j := x1.toNatClampNeg) dX20_counts_13 (q := 14) rfl ?_
    refine v_iconst O.1 dX20_counts_14 (v := 1) rfl (q := 15) rfl ?_
    refine v_iadd O.1 dX20_counts_15 (q := 16) rfl ?_
    obtain ⟨g3, h⟩ := gd_some h
    obtain ⟨M4, e4, h⟩ := stp_some h
    refine m_iast O rfl rfl (n := 17) g3 rfl (j := x1.toNatClampNeg) dX20_counts_16 (q := 17) rfl e4 ?_
    exact v_sub [] rfl (bm_counts_17 O M4 h)
theorem met_counts (l : Launch) (g : gM) (x1 : Int32) (M M' : Mem) (r : Unit) (h : fm_counts x1 M = some (r, M')) : MetM l g yX20_counts cX20_counts 2 none 0 [.ref (gMa g 0), .int x1] M (mQv g r M') :=
  m_met (by decide) rfl (Nat.le_of_ble_eq_true rfl) (fun X O => bm_counts O x1 M h)
/-! pends([II)V -/
def fm_pends_30 (s : Nat)  (M : Mem) : Option (Unit × Mem) :=
  some ((), M)
set_option maxHeartbeats 4000000 in
theorem bm_pends_30 {g : gM} {X : Cxt} {r : Unit} {M' : Mem} {s : Nat} (hs : mS s) (O : OkM g X cX20_pends 3 none 1 (mQv g r M'))  (M : Mem) (h : fm_pends_30 s  M = some (r, M')) : V X 3 0 (WdM g M) 30 [] [] := by
  unfold fm_pends_30 at h
  exact m_vret O h dX20_pends_30
def fm_pends (s : Nat) (x2 : Int32) (M : Mem) : Option (Unit × Mem) :=
  gd (inb (194 + x2) 342) <|
  if (M s (194 + x2).toNatClampNeg) < 0 then
    gd (inb (194 + x2) 342) <|
    stp (up2 M s (194 + x2).toNatClampNeg (M s 25)) fun M4 =>
    fm_pends_30 s M4
  else
    bnd (fm_counts 9 M) fun r5 M5 =>
    fm_pends_30 s M5
set_option maxHeartbeats 4000000 in
theorem bm_pends {g : gM} {X : Cxt} {r : Unit} {M' : Mem} {s : Nat} (hs : mS s) (O : OkM g X cX20_pends 3 none 1 (mQv g r M')) (x2 : Int32) (M : Mem) (h : fm_pends s x2 M = some (r, M')) : V X 3 0 (WdM g M) 0 [(0, .ref (gMa g 0)), (1, .ref (gMa g s)), (2, .int x2)] [] := by
  unfold fm_pends at h
  refine v_aload_n O.1 dX20_pends_0 rfl (q := 1) rfl ?_
  refine v_sipush O.1 dX20_pends_1 (v := 194) (by decide) (q := 4) rfl ?_
  refine v_iload_n O.1 dX20_pends_4 rfl (q := 5) rfl ?_
  refine v_iadd O.1 dX20_pends_5 (q := 6) rfl ?_
  obtain ⟨g1, h⟩ := gd_some h
  refine m_iald O (mS_i hs) (mS_l hs) (n := 342) g1 rfl (j := (194 + x2).toNatClampNeg) dX20_pends_6 (q := 7) rfl ?_
  refine v_if_lt O.1 dX20_pends_7 (t := 19) (by decide) (q := 10) rfl (fun c2 => ?_) (fun c2 => ?_)
  · rw [if_pos c2] at h
    refine v_aload_n O.1 dX20_pends_19 rfl (q := 20) rfl ?_
    refine v_sipush O.1 dX20_pends_20 (v := 194) (by decide) (q := 23) rfl ?_
    refine v_iload_n O.1 dX20_pends_23 rfl (q := 24) rfl ?_
    refine v_iadd O.1 dX20_pends_24 (q := 25) rfl ?_
    refine v_aload_n O.1 dX20_pends_25 rfl (q := 26) rfl ?_
    refine v_bipush O.1 dX20_pends_26 (v := 25) (by decide) (q := 28) rfl ?_
    refine m_iald O (mS_i hs) (mS_l hs) (n := 342) (by decide) (by decide) (j := 25) dX20_pends_28 (q := 29) rfl ?_
    obtain ⟨g3, h⟩ := gd_some h
    obtain ⟨M4, e4, h⟩ := stp_some h
    refine m_iast O (mS_i hs) (mS_l hs) (n := 342) g3 rfl (j := (194 + x2).toNatClampNeg) dX20_pends_29 (q := 30) rfl e4 ?_
    exact v_sub [] rfl (bm_pends_30 hs O M4 h)
  · rw [if_neg c2] at h
    refine v_aload_n O.1 dX20_pends_10 rfl (q := 11) rfl ?_
    refine v_bipush O.1 dX20_pends_11 (v := 9) (by decide) (q := 13) rfl ?_
    obtain ⟨r5, M5, e5, h⟩ := bnd_some h
    refine m_callVv (As := [.int 9]) (rest := []) (n := 1) O (met_counts _ g 9 M M5 r5 e5) (lw_V q1849 q1851 qs23 q84 q1852) (by decide +kernel) (by decide) (by decide) rfl rfl (Nat.le_of_ble_eq_true rfl) dX20_pends_13 (q := 16) rfl ?_
    refine v_goto O.1 dX20_pends_16 (t := 30) (by decide) ?_
    exact v_sub [] rfl (bm_pends_30 hs O M5 h)
theorem met_pends (l : Launch) (g : gM) (s : Nat) (hs : mS s) (x2 : Int32) (M M' : Mem) (r : Unit) (h : fm_pends s x2 M = some (r, M')) : MetM l g yX20_pends cX20_pends 3 none 1 [.ref (gMa g 0), .ref (gMa g s), .int x2] M (mQv g r M') :=
  m_met (by decide) rfl (Nat.le_of_ble_eq_true rfl) (fun X O => bm_pends hs O x2 M h)
/-! hold(IZ)Z -/
def fm_hold_39  (M : Mem) : Option (Int32 × Mem) :=
  some (0, M)
set_option maxHeartbeats 4000000 in
theorem bm_hold_39 {g : gM} {X : Cxt} {r : Int32} {M' : Mem} (O : OkM g X cX20_hold 3 (some .boolean) 2 (mQi g r M'))  (M : Mem) (h : fm_hold_39  M = some (r, M')) : V X 3 0 (WdM g M) 39 [] [] := by
  unfold fm_hold_39 at h
  refine v_iconst O.1 dX20_hold_39 (v := 0) rfl (q := 40) rfl ?_
  exact m_zret O (by decide) h dX20_hold_40
def fm_hold_78  (M : Mem) : Option (Int32 × Mem) :=
  some (1, M)
set_option maxHeartbeats 4000000 in
theorem bm_hold_78 {g : gM} {X : Cxt} {r : Int32} {M' : Mem} (O : OkM g X cX20_hold 3 (some .boolean) 2 (mQi g r M'))  (M : Mem) (h : fm_hold_78  M = some (r, M')) : V X 3 0 (WdM g M) 78 [] [] := by
  unfold fm_hold_78 at h
  refine v_iconst O.1 dX20_hold_78 (v := 1) rfl (q := 79) rfl ?_
  exact m_zret O (by decide) h dX20_hold_79
def fm_hold_59 (x1 : Int32) (x2 : Int32) (y2 : Int32) (y1 : Int32) (M : Mem) : Option (Int32 × Mem) :=
  gd (inb y1 342) <|
  stp (up2 M 4 y1.toNatClampNeg y2) fun M2 =>
  stp (up2 M2 0 14 1) fun M3 =>
  if x2 = 0 then
    fm_hold_78 M3
  else
    bnd (fm_pends 4 x1 M3) fun r5 M5 =>
    fm_hold_78 M5
set_option maxHeartbeats 4000000 in
theorem bm_hold_59 {g : gM} {X : Cxt} {r : Int32} {M' : Mem} (O : OkM g X cX20_hold 3 (some .boolean) 2 (mQi g r M')) (x1 : Int32) (x2 : Int32) (y2 : Int32) (y1 : Int32) (M : Mem) (h : fm_hold_59 x1 x2 y2 y1 M = some (r, M')) : V X 3 0 (WdM g M) 59 [(0, .ref (gMa g 0)), (1, .int x1), (2, .int x2)] [.int y2, .int y1, .ref (gMa g 4)] := by
  unfold fm_hold_59 at h
  obtain ⟨g1, h⟩ := gd_some h
  obtain ⟨M2, e2, h⟩ := stp_some h
  refine m_iast O rfl rfl (n := 342) g1 rfl (j := y1.toNatClampNeg) dX20_hold_59 (q := 60) rfl e2 ?_
  refine v_aload_n O.1 dX20_hold_60 rfl (q := 61) rfl ?_
  refine v_iconst O.1 dX20_hold_61 (v := 1) rfl (q := 62) rfl ?_
  obtain ⟨M3, e3, h⟩ := stp_some h
  refine m_put O 14 (ty := .boolean) (by decide) q1746 rfl rfl rfl rfl rfl rfl dX20_hold_62 (q := 65) rfl e3 ?_
  refine v_iload_n O.1 dX20_hold_65 rfl (q := 66) rfl ?_
  refine v_if_eq O.1 dX20_hold_66 (t := 78) (by decide) (q := 69) rfl (fun c4 => ?_) (fun c4 => ?_)
  · rw [if_pos c4] at h
    exact v_sub [] rfl (bm_hold_78 O M3 h)
  · rw [if_neg c4] at h
    refine v_aload_n O.1 dX20_hold_69 rfl (q := 70) rfl ?_
    refine v_aload_n O.1 dX20_hold_70 rfl (q := 71) rfl ?_
    refine m_get O 4 (v := .ref (gMa g 4)) (by decide) q1736 rfl rfl dX20_hold_71 (q := 74) rfl ?_
    refine v_iload_n O.1 dX20_hold_74 rfl (q := 75) rfl ?_
    obtain ⟨r5, M5, e5, h⟩ := bnd_some h
    refine m_callVv (As := [.ref (gMa g 4), .int x1]) (rest := []) (n := 2) O (met_pends _ g 4 mS_4 x1 M3 M5 r5 e5) (lw_V q1845 q1847 qs22 q84 q1848) (by decide +kernel) (by decide) (by decide) rfl rfl (Nat.le_of_ble_eq_true rfl) dX20_hold_75 (q := 78) rfl ?_
    exact v_sub [] rfl (bm_hold_78 O M5 h)
def fm_hold_35 (x1 : Int32) (x2 : Int32) (y0 : Int32) (M : Mem) : Option (Int32 × Mem) :=
  if y0 = x2 then
    fm_hold_39 M
  else
    if x2 = 0 then
      fm_hold_59 x1 x2 0 (215 + x1) M
    else
      fm_hold_59 x1 x2 1 (215 + x1) M
set_option maxHeartbeats 4000000 in
theorem bm_hold_35 {g : gM} {X : Cxt} {r : Int32} {M' : Mem} (O : OkM g X cX20_hold 3 (some .boolean) 2 (mQi g r M')) (x1 : Int32) (x2 : Int32) (y0 : Int32) (M : Mem) (h : fm_hold_35 x1 x2 y0 M = some (r, M')) : V X 3 0 (WdM g M) 35 [(0, .ref (gMa g 0)), (1, .int x1), (2, .int x2)] [.int y0] := by
  unfold fm_hold_35 at h
  refine v_iload_n O.1 dX20_hold_35 rfl (q := 36) rfl ?_
  refine v_icmp_ne O.1 dX20_hold_36 (t := 41) (by decide) (q := 39) rfl (fun c1 => ?_) (fun c1 => ?_)
  · rw [if_neg c1] at h
    refine v_aload_n O.1 dX20_hold_41 rfl (q := 42) rfl ?_
    refine m_get O 4 (v := .ref (gMa g 4)) (by decide) q1736 rfl rfl dX20_hold_42 (q := 45) rfl ?_
    refine v_sipush O.1 dX20_hold_45 (v := 215) (by decide) (q := 48) rfl ?_
    refine v_iload_n O.1 dX20_hold_48 rfl (q := 49) rfl ?_
    refine v_iadd O.1 dX20_hold_49 (q := 50) rfl ?_
    refine v_iload_n O.1 dX20_hold_50 rfl (q := 51) rfl ?_
    refine v_if_eq O.1 dX20_hold_51 (t := 58) (by decide) (q := 54) rfl (fun c2 => ?_) (fun c2 => ?_)
    · rw [if_pos c2] at h
      refine v_iconst O.1 dX20_hold_58 (v := 0) rfl (q := 59) rfl ?_
      exact v_sub [0, 1, 2] rfl (bm_hold_59 O x1 x2 0 (215 + x1) M h)
    · rw [if_neg c2] at h
      refine v_iconst O.1 dX20_hold_54 (v := 1) rfl (q := 55) rfl ?_
      refine v_goto O.1 dX20_hold_55 (t := 59) (by decide) ?_
      exact v_sub [0, 1, 2] rfl (bm_hold_59 O x1 x2 1 (215 + x1) M h)
  · rw [if_pos c1] at h
    exact v_sub [] rfl (bm_hold_39 O M h)
def fm_hold (x1 : Int32) (x2 : Int32) (M : Mem) : Option (Int32 × Mem) :=
  stp (up2 M 0 17 0) fun M1 =>
  bnd (fm_within x1 8 15 M1) fun r2 M2 =>
  if r2 = 0 then
    fm_hold_39 M2
  else
    gd (inb (215 + x1) 342) <|
    if (M2 4 (215 + x1).toNatClampNeg) = 1 then
      fm_hold_35 x1 x2 1 M2
    else
      fm_hold_35 x1 x2 0 M2
set_option maxHeartbeats 4000000 in
theorem bm_hold {g : gM} {X : Cxt} {r : Int32} {M' : Mem} (O : OkM g X cX20_hold 3 (some .boolean) 2 (mQi g r M')) (x1 : Int32) (x2 : Int32) (M : Mem) (h : fm_hold x1 x2 M = some (r, M')) : V X 3 0 (WdM g M) 0 [(0, .ref (gMa g 0)), (1, .int x1), (2, .int x2)] [] := by
  unfold fm_hold at h
  refine v_aload_n O.1 dX20_hold_0 rfl (q := 1) rfl ?_
  refine v_iconst O.1 dX20_hold_1 (v := 0) rfl (q := 2) rfl ?_
  obtain ⟨M1, e1, h⟩ := stp_some h
  refine m_put O 17 (ty := .int) (by decide) q1749 rfl rfl rfl rfl rfl rfl dX20_hold_2 (q := 5) rfl e1 ?_
  refine v_iload_n O.1 dX20_hold_5 rfl (q := 6) rfl ?_
  refine v_bipush O.1 dX20_hold_6 (v := 8) (by decide) (q := 8) rfl ?_
  refine v_bipush O.1 dX20_hold_8 (v := 15) (by decide) (q := 10) rfl ?_
  obtain ⟨r2, M2, e2, h⟩ := bnd_some h
  refine m_callSi (As := [.int x1, .int 8, .int 15]) (rest := []) (n := 3) O (met_within _ g x1 8 15 M1 M2 r2 e2) (lw_S q1817 q1818 q84 q1819) (by decide +kernel) (by decide) (by decide) rfl rfl (Nat.le_of_ble_eq_true rfl) dX20_hold_10 (q := 13) rfl ?_
  refine v_if_eq O.1 dX20_hold_13 (t := 39) (by decide) (q := 16) rfl (fun c3 => ?_) (fun c3 => ?_)
  · rw [if_pos c3] at h
    exact v_sub [] rfl (bm_hold_39 O M2 h)
  · rw [if_neg c3] at h
    refine v_aload_n O.1 dX20_hold_16 rfl (q := 17) rfl ?_
    refine m_get O 4 (v := .ref (gMa g 4)) (by decide) q1736 rfl rfl dX20_hold_17 (q := 20) rfl ?_
    refine v_sipush O.1 dX20_hold_20 (v := 215) (by decide) (q := 23) rfl ?_
    refine v_iload_n O.1 dX20_hold_23 rfl (q := 24) rfl ?_
    refine v_iadd O.1 dX20_hold_24 (q := 25) rfl ?_
    obtain ⟨g4, h⟩ := gd_some h
    refine m_iald O rfl rfl (n := 342) g4 rfl (j := (215 + x1).toNatClampNeg) dX20_hold_25 (q := 26) rfl ?_
    refine v_iconst O.1 dX20_hold_26 (v := 1) rfl (q := 27) rfl ?_
    refine v_icmp_ne O.1 dX20_hold_27 (t := 34) (by decide) (q := 30) rfl (fun c5 => ?_) (fun c5 => ?_)
    · rw [if_neg c5] at h
      refine v_iconst O.1 dX20_hold_34 (v := 0) rfl (q := 35) rfl ?_
      exact v_sub [0, 1, 2] rfl (bm_hold_35 O x1 x2 0 M2 h)
    · rw [if_pos c5] at h
      refine v_iconst O.1 dX20_hold_30 (v := 1) rfl (q := 31) rfl ?_
      refine v_goto O.1 dX20_hold_31 (t := 35) (by decide) ?_
      exact v_sub [0, 1, 2] rfl (bm_hold_35 O x1 x2 1 M2 h)
theorem met_hold (l : Launch) (g : gM) (x1 : Int32) (x2 : Int32) (M M' : Mem) (r : Int32) (h : fm_hold x1 x2 M = some (r, M')) : MetM l g yX20_hold cX20_hold 3 (some .boolean) 2 [.ref (gMa g 0), .int x1, .int x2] M (mQi g r M') :=
  m_met (by decide) rfl (Nat.le_of_ble_eq_true rfl) (fun X O => bm_hold O x1 x2 M h)
/-! pend(I)Z -/
def fm_pend_35 (x1 : Int32) (y0 : Int32) (M : Mem) : Option (Int32 × Mem) :=
  stp (up2 M 0 14 1) fun M1 =>
  bnd (fm_pends 4 x1 M1) fun r2 M2 =>
  gd (isB y0) <|
  some (y0, M2)
set_option maxHeartbeats 4000000 in
theorem bm_pend_35 {g : gM} {X : Cxt} {r : Int32} {M' : Mem} (O : OkM g X cX20_pend 3 (some .boolean) 2 (mQi g r M')) (x1 : Int32) (y0 : Int32) (M : Mem) (h : fm_pend_35 x1 y0 M = some (r, M')) : V X 3 0 (WdM g M) 35 [(0, .ref (gMa g 0)), (1, .int x1)] [.int y0] := by
  unfold fm_pend_35 at h
  refine v_istore_n (lv' := [(2, .int y0), (0, .ref (gMa g 0)), (1, .int x1)]) O.1 dX20_pend_35 (by decide) rfl (q := 36) rfl ?_
  refine v_aload_n O.1 dX20_pend_36 rfl (q := 37) rfl ?_
  refine v_iconst O.1 dX20_pend_37 (v := 1) rfl (q := 38) rfl ?_
  obtain ⟨M1, e1, h⟩ := stp_some h
  refine m_put O 14 (ty := .boolean) (by decide) q1746 rfl rfl rfl rfl rfl rfl dX20_pend_38 (q := 41) rfl e1 ?_
  refine v_aload_n O.1 dX20_pend_41 rfl (q := 42) rfl ?_
  refine v_aload_n O.1 dX20_pend_42 rfl (q := 43) rfl ?_
  refine m_get O 4 (v := .ref (gMa g 4)) (by decide) q1736 rfl rfl dX20_pend_43 (q := 46) rfl ?_
  refine v_iload_n O.1 dX20_pend_46 rfl (q := 47) rfl ?_
  obtain ⟨r2, M2, e2, h⟩ := bnd_some h
  refine m_callVv (As := [.ref (gMa g 4), .int x1]) (rest := []) (n := 2) O (met_pends _ g 4 mS_4 x1 M1 M2 r2 e2) (lw_V q1845 q1847 qs22 q84 q1848) (by decide +kernel) (by decide) (by decide) rfl rfl (Nat.le_of_ble_eq_true rfl) dX20_pend_47 (q := 50) rfl ?_
  refine v_iload_n O.1 dX20_pend_50 rfl (q := 51) rfl ?_
  obtain ⟨g3, h⟩ := gd_some h
  exact m_zret O g3 h dX20_pend_51
def fm_pend (x1 : Int32) (M : Mem) : Option (Int32 × Mem) :=
  stp (up2 M 0 17 0) fun M1 =>
  bnd (fm_within x1 0 19 M1) fun r2 M2 =>
  if r2 = 0 then
    some (0, M2)
  else
    gd (inb (194 + x1) 342) <|
    if 0 ≤ (M2 4 (194 + x1).toNatClampNeg) then
      fm_pend_35 x1 0 M2
    else
      fm_pend_35 x1 1 M2
set_option maxHeartbeats 4000000 in
theorem bm_pend {g : gM} {X : Cxt} {r : Int32} {M' : Mem} (O : OkM g X cX20_pend 3 (some .boolean) 2 (mQi g r M')) (x1 : Int32) (M : Mem) (h : fm_pend x1 M = some (r, M')) : V X 3 0 (WdM g M) 0 [(0, .ref (gMa g 0)), (1, .int x1)] [] := by
  unfold fm_pend at h
  refine v_aload_n O.1 dX20_pend_0 rfl (q := 1) rfl ?_
  refine v_iconst O.1 dX20_pend_1 (v := 0) rfl (q := 2) rfl ?_
  obtain ⟨M1, e1, h⟩ := stp_some h
  refine m_put O 17 (ty := .int) (by decide) q1749 rfl rfl rfl rfl rfl rfl dX20_pend_2 (q := 5) rfl e1 ?_
  refine v_iload_n O.1 dX20_pend_5 rfl (q := 6) rfl ?_
  refine v_iconst O.1 dX20_pend_6 (v := 0) rfl (q := 7) rfl ?_
  refine v_bipush O.1 dX20_pend_7 (v := 19) (by decide) (q := 9) rfl ?_
  obtain ⟨r2, M2, e2, h⟩ := bnd_some h
  refine m_callSi (As := [.int x1, .int 0, .int 19]) (rest := []) (n := 3) O (met_within _ g x1 0 19 M1 M2 r2 e2) (lw_S q1817 q1818 q84 q1819) (by decide +kernel) (by decide) (by decide) rfl rfl (Nat.le_of_ble_eq_true rfl) dX20_pend_9 (q := 12) rfl ?_
  refine v_if_ne O.1 dX20_pend_12 (t := 17) (by decide) (q := 15) rfl (fun c3 => ?_) (fun c3 => ?_)
  · rw [if_neg c3] at h
    refine v_aload_n O.1 dX20_pend_17 rfl (q := 18) rfl ?_
    refine m_get O 4 (v := .ref (gMa g 4)) (by decide) q1736 rfl rfl dX20_pend_18 (q := 21) rfl ?_
    refine v_sipush O.1 dX20_pend_21 (v := 194) (by decide) (q := 24) rfl ?_
    refine v_iload_n O.1 dX20_pend_24 rfl (q := 25) rfl ?_
    refine v_iadd O.1 dX20_pend_25 (q := 26) rfl ?_
    obtain ⟨g4, h⟩ := gd_some h
    refine m_iald O rfl rfl (n := 342) g4 rfl (j := (194 + x1).toNatClampNeg) dX20_pend_26 (q := 27) rfl ?_
    refine v_if_ge O.1 dX20_pend_27 (t := 34) (by decide) (q := 30) rfl (fun c5 => ?_) (fun c5 => ?_)
    · rw [if_pos c5] at h
      refine v_iconst O.1 dX20_pend_34 (v := 0) rfl (q := 35) rfl ?_
      exact v_sub [0, 1] rfl (bm_pend_35 O x1 0 M2 h)
    · rw [if_neg c5] at h
      refine v_iconst O.1 dX20_pend_30 (v := 1) rfl (q := 31) rfl ?_
      refine v_goto O.1 dX20_pend_31 (t := 35) (by decide) ?_
      exact v_sub [0, 1] rfl (bm_pend_35 O x1 1 M2 h)
  · rw [if_pos c3] at h
    refine v_iconst O.1 dX20_pend_15 (v := 0) rfl (q := 16) rfl ?_
    exact m_zret O (by decide) h dX20_pend_16
theorem met_pend (l : Launch) (g : gM) (x1 : Int32) (M M' : Mem) (r : Int32) (h : fm_pend x1 M = some (r, M')) : MetM l g yX20_pend cX20_pend 3 (some .boolean) 2 [.ref (gMa g 0), .int x1] M (mQi g r M') :=
  m_met (by decide) rfl (Nat.le_of_ble_eq_true rfl) (fun X O => bm_pend O x1 M h)
/-! clear(I)Z -/
def fm_clear_42  (M : Mem) : Option (Int32 × Mem) :=
  some (0, M)
set_option maxHeartbeats 4000000 in
theorem bm_clear_42 {g : gM} {X : Cxt} {r : Int32} {M' : Mem} (O : OkM g X cX20_clear 2 (some .boolean) 1 (mQi g r M'))  (M : Mem) (h : fm_clear_42  M = some (r, M')) : V X 2 0 (WdM g M) 42 [] [] := by
  unfold fm_clear_42 at h
  refine v_iconst O.1 dX20_clear_42 (v := 0) rfl (q := 43) rfl ?_
  exact m_zret O (by decide) h dX20_clear_43
def fm_clear (x1 : Int32) (M : Mem) : Option (Int32 × Mem) :=
  stp (up2 M 0 17 0) fun M1 =>
  bnd (fm_within x1 0 20 M1) fun r2 M2 =>
  if r2 = 0 then
    fm_clear_42 M2
  else
    gd (inb (194 + x1) 342) <|
    if (M2 4 (194 + x1).toNatClampNeg) < 0 then
      fm_clear_42 M2
    else
      gd (inb (215 + x1) 342) <|
      if (M2 4 (215 + x1).toNatClampNeg) = 1 then
        fm_clear_42 M2
      else
        gd (inb (194 + x1) 342) <|
        stp (up2 M2 4 (194 + x1).toNatClampNeg (-1)) fun M9 =>
        some (1, M9)
set_option maxHeartbeats 4000000 in
theorem bm_clear {g : gM} {X : Cxt} {r : Int32} {M' : Mem} (O : OkM g X cX20_clear 2 (some .boolean) 1 (mQi g r M')) (x1 : Int32) (M : Mem) (h : fm_clear x1 M = some (r, M')) : V X 2 0 (WdM g M) 0 [(0, .ref (gMa g 0)), (1, .int x1)] [] := by
  unfold fm_clear at h
  refine v_aload_n O.1 dX20_clear_0 rfl (q := 1) rfl ?_
  refine v_iconst O.1 dX20_clear_1 (v := 0) rfl (q := 2) rfl ?_
  obtain ⟨M1, e1, h⟩ := stp_some h
  refine m_put O 17 (ty := .int) (by decide) q1749 rfl rfl rfl rfl rfl rfl dX20_clear_2 (q := 5) rfl e1 ?_
  refine v_iload_n O.1 dX20_clear_5 rfl (q := 6) rfl ?_
  refine v_iconst O.1 dX20_clear_6 (v := 0) rfl (q := 7) rfl ?_
  refine v_bipush O.1 dX20_clear_7 (v := 20) (by decide) (q := 9) rfl ?_
  obtain ⟨r2, M2, e2, h⟩ := bnd_some h
  refine m_callSi (As := [.int x1, .int 0, .int 20]) (rest := []) (n := 3) O (met_within _ g x1 0 20 M1 M2 r2 e2) (lw_S q1817 q1818 q84 q1819) (by decide +kernel) (by decide) (by decide) rfl rfl (Nat.le_of_ble_eq_true rfl) dX20_clear_9 (q := 12) rfl ?_
  refine v_if_eq O.1 dX20_clear_12 (t := 42) (by decide) (q := 15) rfl (fun c3 => ?_) (fun c3 => ?_)
  · rw [if_pos c3] at h
    exact v_sub [] rfl (bm_clear_42 O M2 h)
  · rw [if_neg c3] at h
    refine v_aload_n O.1 dX20_clear_15 rfl (q := 16) rfl ?_
    refine m_get O 4 (v := .ref (gMa g 4)) (by decide) q1736 rfl rfl dX20_clear_16 (q := 19) rfl ?_
    refine v_sipush O.1 dX20_clear_19 (v := 194) (by decide) (q := 22) rfl ?_
    refine v_iload_n O.1 dX20_clear_22 rfl (q := 23) rfl ?_
    refine v_iadd O.1 dX20_clear_23 (q := 24) rfl ?_
    obtain ⟨g4, h⟩ := gd_some h
    refine m_iald O rfl rfl (n := 342) g4 rfl (j := (194 + x1).toNatClampNeg) dX20_clear_24 (q := 25) rfl ?_
    refine v_if_lt O.1 dX20_clear_25 (t := 42) (by decide) (q := 28) rfl (fun c5 => ?_) (fun c5 => ?_)
    · rw [if_pos c5] at h
      exact v_sub [] rfl (bm_clear_42 O M2 h)
    · rw [if_neg c5] at h
      refine v_aload_n O.1 dX20_clear_28 rfl (q := 29) rfl ?_
      refine m_get O 4 (v := .ref (gMa g 4)) (by decide) q1736 rfl rfl dX20_clear_29 (q := 32) rfl ?_
      refine v_sipush O.1 dX20_clear_32 (v := 215) (by decide) (q := 35) rfl ?_
      refine v_iload_n O.1 dX20_clear_35 rfl (q := 36) rfl ?_
      refine v_iadd O.1 dX20_clear_36 (q := 37) rfl ?_
      obtain ⟨g6, h⟩ := gd_some h
      refine m_iald O rfl rfl (n := 342) g6 rfl (j := (215 + x1).toNatClampNeg) dX20_clear_37 (q := 38) rfl ?_
      refine v_iconst O.1 dX20_clear_38 (v := 1) rfl (q := 39) rfl ?_
      refine v_icmp_ne O.1 dX20_clear_39 (t := 44) (by decide) (q := 42) rfl (fun c7 => ?_) (fun c7 => ?_)
      · rw [if_neg c7] at h
        refine v_aload_n O.1 dX20_clear_44 rfl (q := 45) rfl ?_
        refine m_get O 4 (v := .ref (gMa g 4)) (by decide) q1736 rfl rfl dX20_clear_45 (q := 48) rfl ?_
        refine v_sipush O.1 dX20_clear_48 (v := 194) (by decide) (q := 51) rfl ?_
        refine v_iload_n O.1 dX20_clear_51 rfl (q := 52) rfl ?_
        refine v_iadd O.1 dX20_clear_52 (q := 53) rfl ?_
        refine v_iconst O.1 dX20_clear_53 (v := (-1)) rfl (q := 54) rfl ?_
        obtain ⟨g8, h⟩ := gd_some h
        obtain ⟨M9, e9, h⟩ := stp_some h
        refine m_iast O rfl rfl (n := 342) g8 rfl (j := (194 + x1).toNatClampNeg) dX20_clear_54 (q := 55) rfl e9 ?_
        refine v_iconst O.1 dX20_clear_55 (v := 1) rfl (q := 56) rfl ?_
        exact m_zret O (by decide) h dX20_clear_56
      · rw [if_pos c7] at h
        exact v_sub [] rfl (bm_clear_42 O M2 h)
theorem met_clear (l : Launch) (g : gM) (x1 : Int32) (M M' : Mem) (r : Int32) (h : fm_clear x1 M = some (r, M')) : MetM l g yX20_clear cX20_clear 2 (some .boolean) 1 [.ref (gMa g 0), .int x1] M (mQi g r M') :=
  m_met (by decide) rfl (Nat.le_of_ble_eq_true rfl) (fun X O => bm_clear O x1 M h)
/-! timer(I)Z -/
def fm_timer (x1 : Int32) (M : Mem) : Option (Int32 × Mem) :=
  stp (up2 M 0 17 0) fun M1 =>
  bnd (fm_within x1 0 999 M1) fun r2 M2 =>
  if r2 = 0 then
    some (0, M2)
  else
    stp (up2 M2 4 26 x1) fun M4 =>
    stp (up2 M4 4 27 x1) fun M5 =>
    some (1, M5)
set_option maxHeartbeats 4000000 in
theorem bm_timer {g : gM} {X : Cxt} {r : Int32} {M' : Mem} (O : OkM g X cX20_timer 2 (some .boolean) 1 (mQi g r M')) (x1 : Int32) (M : Mem) (h : fm_timer x1 M = some (r, M')) : V X 2 0 (WdM g M) 0 [(0, .ref (gMa g 0)), (1, .int x1)] [] := by
  unfold fm_timer at h
  refine v_aload_n O.1 dX20_timer_0 rfl (q := 1) rfl ?_
  refine v_iconst O.1 dX20_timer_1 (v := 0) rfl (q := 2) rfl ?_
  obtain ⟨M1, e1, h⟩ := stp_some h
  refine m_put O 17 (ty := .int) (by decide) q1749 rfl rfl rfl rfl rfl rfl dX20_timer_2 (q := 5) rfl e1 ?_
  refine v_iload_n O.1 dX20_timer_5 rfl (q := 6) rfl ?_
  refine v_iconst O.1 dX20_timer_6 (v := 0) rfl (q := 7) rfl ?_
  refine v_sipush O.1 dX20_timer_7 (v := 999) (by decide) (q := 10) rfl ?_
  obtain ⟨r2, M2, e2, h⟩ := bnd_some h
  refine m_callSi (As := [.int x1, .int 0, .int 999]) (rest := []) (n := 3) O (met_within _ g x1 0 999 M1 M2 r2 e2) (lw_S q1817 q1818 q84 q1819) (by decide +kernel) (by decide) (by decide) rfl rfl (Nat.le_of_ble_eq_true rfl) dX20_timer_10 (q := 13) rfl ?_
  refine v_if_ne O.1 dX20_timer_13 (t := 18) (by decide) (q := 16) rfl (fun c3 => ?_) (fun c3 => ?_)
  · rw [if_neg c3] at h
    refine v_aload_n O.1 dX20_timer_18 rfl (q := 19) rfl ?_
    refine m_get O 4 (v := .ref (gMa g 4)) (by decide) q1736 rfl rfl dX20_timer_19 (q := 22) rfl ?_
    refine v_bipush O.1 dX20_timer_22 (v := 26) (by decide) (q := 24) rfl ?_
    refine v_iload_n O.1 dX20_timer_24 rfl (q := 25) rfl ?_
    obtain ⟨M4, e4, h⟩ := stp_some h
    refine m_iast O rfl rfl (n := 342) (by decide) (by decide) (j := 26) dX20_timer_25 (q := 26) rfl e4 ?_
    refine v_aload_n O.1 dX20_timer_26 rfl (q := 27) rfl ?_
    refine m_get O 4 (v := .ref (gMa g 4)) (by decide) q1736 rfl rfl dX20_timer_27 (q := 30) rfl ?_
    refine v_bipush O.1 dX20_timer_30 (v := 27) (by decide) (q := 32) rfl ?_
    refine v_iload_n O.1 dX20_timer_32 rfl (q := 33) rfl ?_
    obtain ⟨M5, e5, h⟩ := stp_some h
    refine m_iast O rfl rfl (n := 342) (by decide) (by decide) (j := 27) dX20_timer_33 (q := 34) rfl e5 ?_
    refine v_iconst O.1 dX20_timer_34 (v := 1) rfl (q := 35) rfl ?_
    exact m_zret O (by decide) h dX20_timer_35
  · rw [if_pos c3] at h
    refine v_iconst O.1 dX20_timer_16 (v := 0) rfl (q := 17) rfl ?_
    exact m_zret O (by decide) h dX20_timer_17
theorem met_timer (l : Launch) (g : gM) (x1 : Int32) (M M' : Mem) (r : Int32) (h : fm_timer x1 M = some (r, M')) : MetM l g yX20_timer cX20_timer 2 (some .boolean) 1 [.ref (gMa g 0), .int x1] M (mQi g r M') :=
  m_met (by decide) rfl (Nat.le_of_ble_eq_true rfl) (fun X O => bm_timer O x1 M h)
/-! arrive(II)Z -/
def fm_arrive_38  (M : Mem) : Option (Int32 × Mem) :=
  some (0, M)
set_option maxHeartbeats 4000000 in
theorem bm_arrive_38 {g : gM} {X : Cxt} {r : Int32} {M' : Mem} (O : OkM g X cX20_arrive 3 (some .boolean) 1 (mQi g r M'))  (M : Mem) (h : fm_arrive_38  M = some (r, M')) : V X 3 0 (WdM g M) 38 [] [] := by
  unfold fm_arrive_38 at h
  refine v_iconst O.1 dX20_arrive_38 (v := 0) rfl (q := 39) rfl ?_
  exact m_zret O (by decide) h dX20_arrive_39
def fm_arrive (x1 : Int32) (x2 : Int32) (M : Mem) : Option (Int32 × Mem) :=
  stp (up2 M 0 17 0) fun M1 =>
  bnd (fm_within x1 0 17 M1) fun r2 M2 =>
  if r2 = 0 then
    fm_arrive_38 M2
  else
    bnd (fm_within x2 1 999 M2) fun r4 M4 =>
    if r4 = 0 then
      fm_arrive_38 M4
    else
      if (M4 4 31) = 32 then
        fm_arrive_38 M4
      else
        gd (inb (236 + (M4 4 31)) 342) <|
        stp (up2 M4 4 (236 + (M4 4 31)).toNatClampNeg x1) fun M8 =>
        gd (inb (268 + (M8 4 31)) 342) <|
        stp (up2 M8 4 (268 + (M8 4 31)).toNatClampNeg ((M8 4 25) + x2)) fun M10 =>
        stp (up2 M10 4 31 ((M10 4 31) + 1)) fun M11 =>
        some (1, M11)
set_option maxHeartbeats 4000000 in
theorem bm_arrive {g : gM} {X : Cxt} {r : Int32} {M' : Mem} (O : OkM g X cX20_arrive 3 (some .boolean) 1 (mQi g r M')) (x1 : Int32) (x2 : Int32) (M : Mem) (h : fm_arrive x1 x2 M = some (r, M')) : V X 3 0 (WdM g M) 0 [(0, .ref (gMa g 0)), (1, .int x1), (2, .int x2)] [] := by
  unfold fm_arrive at h
  refine v_aload_n O.1 dX20_arrive_0 rfl (q := 1) rfl ?_
  refine v_iconst O.1 dX20_arrive_1 (v := 0) rfl (q := 2) rfl ?_
  obtain ⟨M1, e1, h⟩ := stp_some h
  refine m_put O 17 (ty := .int) (by decide) q1749 rfl rfl rfl rfl rfl rfl dX20_arrive_2 (q := 5) rfl e1 ?_
  refine v_iload_n O.1 dX20_arrive_5 rfl (q := 6) rfl ?_
  refine v_iconst O.1 dX20_arrive_6 (v := 0) rfl (q := 7) rfl ?_
  refine v_bipush O.1 dX20_arrive_7 (v := 17) (by decide) (q := 9) rfl ?_
  obtain ⟨r2, M2, e2, h⟩ := bnd_some h
  refine m_callSi (As := [.int x1, .int 0, .int 17]) (rest := []) (n := 3) O (met_within _ g x1 0 17 M1 M2 r2 e2) (lw_S q1817 q1818 q84 q1819) (by decide +kernel) (by decide) (by decide) rfl rfl (Nat.le_of_ble_eq_true rfl) dX20_arrive_9 (q := 12) rfl ?_
  refine v_if_eq O.1 dX20_arrive_12 (t := 38) (by decide) (q := 15) rfl (fun c3 => ?_) (fun c3 => ?_)
  · rw [if_pos c3] at h
    exact v_sub [] rfl (bm_arrive_38 O M2 h)
  · rw [if_neg c3] at h
    refine v_iload_n O.1 dX20_arrive_15 rfl (q := 16) rfl ?_
    refine v_iconst O.1 dX20_arrive_16 (v := 1) rfl (q := 17) rfl ?_
    refine v_sipush O.1 dX20_arrive_17 (v := 999) (by decide) (q := 20) rfl ?_
    obtain ⟨r4, M4, e4, h⟩ := bnd_some h
    refine m_callSi (As := [.int x2, .int 1, .int 999]) (rest := []) (n := 3) O (met_within _ g x2 1 999 M2 M4 r4 e4) (lw_S q1817 q1818 q84 q1819) (by decide +kernel) (by decide) (by decide) rfl rfl (Nat.le_of_ble_eq_true rfl) dX20_arrive_20 (q := 23) rfl ?_
    refine v_if_eq O.1 dX20_arrive_23 (t := 38) (by decide) (q := 26) rfl (fun c5 => ?_) (fun c5 => ?_)
    · rw [if_pos c5] at h
      exact v_sub [] rfl (bm_arrive_38 O M4 h)
    · rw [if_neg c5] at h
      refine v_aload_n O.1 dX20_arrive_26 rfl (q := 27) rfl ?_
      refine m_get O 4 (v := .ref (gMa g 4)) (by decide) q1736 rfl rfl dX20_arrive_27 (q := 30) rfl ?_
      refine v_bipush O.1 dX20_arrive_30 (v := 31) (by decide) (q := 32) rfl ?_
      refine m_iald O rfl rfl (n := 342) (by decide) (by decide) (j := 31) dX20_arrive_32 (q := 33) rfl ?_
      refine v_bipush O.1 dX20_arrive_33 (v := 32) (by decide) (q := 35) rfl ?_
      refine v_icmp_ne O.1 dX20_arrive_35 (t := 40) (by decide) (q := 38) rfl (fun c6 => ?_) (fun c6 => ?_)
      · rw [if_neg c6] at h
        refine v_aload_n O.1 dX20_arrive_40 rfl (q := 41) rfl ?_
        refine m_get O 4 (v := .ref (gMa g 4)) (by decide) q1736 rfl rfl dX20_arrive_41 (q := 44) rfl ?_
        refine v_sipush O.1 dX20_arrive_44 (v := 236) (by decide) (q := 47) rfl ?_
        refine v_aload_n O.1 dX20_arrive_47 rfl (q := 48) rfl ?_
        refine m_get O 4 (v := .ref (gMa g 4)) (by decide) q1736 rfl rfl dX20_arrive_48 (q := 51) rfl ?_
        refine v_bipush O.1 dX20_arrive_51 (v := 31) (by decide) (q := 53) rfl ?_
        refine m_iald O rfl rfl (n := 342) (by decide) (by decide) (j := 31) dX20_arrive_53 (q := 54) rfl ?_
        refine v_iadd O.1 dX20_arrive_54 (q := 55) rfl ?_
        refine v_iload_n O.1 dX20_arrive_55 rfl (q := 56) rfl ?_
        obtain ⟨g7, h⟩ := gd_some h
        obtain ⟨M8, e8, h⟩ := stp_some h
        refine m_iast O rfl rfl (n := 342) g7 rfl (j := (236 + (M4 4 31)).toNatClampNeg) dX20_arrive_56 (q := 57) rfl e8 ?_
        refine v_aload_n O.1 dX20_arrive_57 rfl (q := 58) rfl ?_
        refine m_get O 4 (v := .ref (gMa g 4)) (by decide) q1736 rfl rfl dX20_arrive_58 (q := 61) rfl ?_
        refine v_sipush O.1 dX20_arrive_61 (v := 268) (by decide) (q := 64) rfl ?_
        refine v_aload_n O.1 dX20_arrive_64 rfl (q := 65) rfl ?_
        refine m_get O 4 (v := .ref (gMa g 4)) (by decide) q1736 rfl rfl dX20_arrive_65 (q := 68) rfl ?_
        refine v_bipush O.1 dX20_arrive_68 (v := 31) (by decide) (q := 70) rfl ?_
        refine m_iald O rfl rfl (n := 342) (by decide) (by decide) (j := 31) dX20_arrive_70 (q := 71) rfl ?_
        refine v_iadd O.1 dX20_arrive_71 (q := 72) rfl ?_
        refine v_aload_n O.1 dX20_arrive_72 rfl (q := 73) rfl ?_
        refine m_get O 4 (v := .ref (gMa g 4)) (by decide) q1736 rfl rfl dX20_arrive_73 (q := 76) rfl ?_
        refine v_bipush O.1 dX20_arrive_76 (v := 25) (by decide) (q := 78) rfl ?_
        refine m_iald O rfl rfl (n := 342) (by decide) (by decide) (j := 25) dX20_arrive_78 (q := 79) rfl ?_
        refine v_iload_n O.1 dX20_arrive_79 rfl (q := 80) rfl ?_
        refine v_iadd O.1 dX20_arrive_80 (q := 81) rfl ?_
        obtain ⟨g9, h⟩ := gd_some h
        obtain ⟨M10, e10, h⟩ := stp_some h
        refine m_iast O rfl rfl (n := 342) g9 rfl (j := (268 + (M8 4 31)).toNatClampNeg) dX20_arrive_81 (q := 82) rfl e10 ?_
        refine v_aload_n O.1 dX20_arrive_82 rfl (q := 83) rfl ?_
        refine m_get O 4 (v := .ref (gMa g 4)) (by decide) q1736 rfl rfl dX20_arrive_83 (q := 86) rfl ?_
        refine v_bipush O.1 dX20_arrive_86 (v := 31) (by decide) (q := 88) rfl ?_
        refine v_dup2 O.1 dX20_arrive_88 rfl rfl (q := 89) rfl ?_
        refine m_iald O rfl rfl (n := 342) (by decide) (by decide) (j := 31) dX20_arrive_89 (q := 90) rfl ?_
        refine v_iconst O.1 dX20_arrive_90 (v := 1) rfl (q := 91) rfl ?_
        refine v_iadd O.1 dX20_arrive_91 (q := 92) rfl ?_
        obtain ⟨M11, e11, h⟩ := stp_some h
        refine m_iast O rfl rfl (n := 342) (by decide) (by decide) (j := 31) dX20_arrive_92 (q := 93) rfl e11 ?_
        refine v_iconst O.1 dX20_arrive_93 (v := 1) rfl (q := 94) rfl ?_
        exact m_zret O (by decide) h dX20_arrive_94
      · rw [if_pos c6] at h
        exact v_sub [] rfl (bm_arrive_38 O M4 h)
theorem met_arrive (l : Launch) (g : gM) (x1 : Int32) (x2 : Int32) (M M' : Mem) (r : Int32) (h : fm_arrive x1 x2 M = some (r, M')) : MetM l g yX20_arrive cX20_arrive 3 (some .boolean) 1 [.ref (gMa g 0), .int x1, .int x2] M (mQi g r M') :=
  m_met (by decide) rfl (Nat.le_of_ble_eq_true rfl) (fun X O => bm_arrive O x1 x2 M h)
/-! groupOf([III)I -/
def fm_groupOf_19 (s : Nat) (y0 : Int32) (M : Mem) : Option (Int32 × Mem) :=
  some (y0, M)
set_option maxHeartbeats 4000000 in
theorem bm_groupOf_19 {g : gM} {X : Cxt} {r : Int32} {M' : Mem} {s : Nat} (hs : mS s) (O : OkM g X cX20_groupOf 3 (some .int) 0 (mQi g r M')) (y0 : Int32) (M : Mem) (h : fm_groupOf_19 s y0 M = some (r, M')) : V X 3 0 (WdM g M) 19 [] [.int y0] := by
  unfold fm_groupOf_19 at h
  exact m_iret O h dX20_groupOf_19
def fm_groupOf (s : Nat) (x1 : Int32) (x2 : Int32) (M : Mem) : Option (Int32 × Mem) :=
  if x1 = 20 then
    fm_groupOf_19 s (-1) M
  else
    gd (inb (173 + x1) 342) <|
    fm_groupOf_19 s ((M s (173 + x1).toNatClampNeg) >>> (x2 &&& 31)) M
set_option maxHeartbeats 4000000 in
theorem bm_groupOf {g : gM} {X : Cxt} {r : Int32} {M' : Mem} {s : Nat} (hs : mS s) (O : OkM g X cX20_groupOf 3 (some .int) 0 (mQi g r M')) (x1 : Int32) (x2 : Int32) (M : Mem) (h : fm_groupOf s x1 x2 M = some (r, M')) : V X 3 0 (WdM g M) 0 [(0, .ref (gMa g s)), (1, .int x1), (2, .int x2)] [] := by
  unfold fm_groupOf at h
  refine v_iload_n O.1 dX20_groupOf_0 rfl (q := 1) rfl ?_
  refine v_bipush O.1 dX20_groupOf_1 (v := 20) (by decide) (q := 3) rfl ?_
  refine v_icmp_ne O.1 dX20_groupOf_3 (t := 10) (by decide) (q := 6) rfl (fun c1 => ?_) (fun c1 => ?_)
  · rw [if_neg c1] at h
    refine v_aload_n O.1 dX20_groupOf_10 rfl (q := 11) rfl ?_
    refine v_sipush O.1 dX20_groupOf_11 (v := 173) (by decide) (q := 14) rfl ?_
    refine v_iload_n O.1 dX20_groupOf_14 rfl (q := 15) rfl ?_
    refine v_iadd O.1 dX20_groupOf_15 (q := 16) rfl ?_
    obtain ⟨g2, h⟩ := gd_some h
    refine m_iald O (mS_i hs) (mS_l hs) (n := 342) g2 rfl (j := (173 + x1).toNatClampNeg) dX20_groupOf_16 (q := 17) rfl ?_
    refine v_iload_n O.1 dX20_groupOf_17 rfl (q := 18) rfl ?_
    refine v_ishr O.1 dX20_groupOf_18 (q := 19) rfl ?_
    exact v_sub [] rfl (bm_groupOf_19 hs O ((M s (173 + x1).toNatClampNeg) >>> (x2 &&& 31)) M h)
  · rw [if_pos c1] at h
    refine v_iconst O.1 dX20_groupOf_6 (v := (-1)) rfl (q := 7) rfl ?_
    refine v_goto O.1 dX20_groupOf_7 (t := 19) (by decide) ?_
    exact v_sub [] rfl (bm_groupOf_19 hs O (-1) M h)
theorem met_groupOf (l : Launch) (g : gM) (s : Nat) (hs : mS s) (x1 : Int32) (x2 : Int32) (M M' : Mem) (r : Int32) (h : fm_groupOf s x1 x2 M = some (r, M')) : MetM l g yX20_groupOf cX20_groupOf 3 (some .int) 0 [.ref (gMa g s), .int x1, .int x2] M (mQi g r M') :=
  m_met (by decide) rfl (Nat.le_of_ble_eq_true rfl) (fun X O => bm_groupOf hs O x1 x2 M h)
