/-! stacks([I)V -/
def fm_stacks_215 (s : Nat) (x3 : Int32) (M : Mem) : Option (Unit × Mem) :=
  bnd (fm_begins s x3 0 M) fun r1 M1 =>
  some ((), M1)
set_option maxHeartbeats 4000000 in
theorem bm_stacks_215 {g : gM} {X : Cxt} {r : Unit} {M' : Mem} {s : Nat} (hs : mS s) (O : OkM g X cX20_stacks 4 none 6 (mQv g r M')) (x3 : Int32) (M : Mem) (h : fm_stacks_215 s x3 M = some (r, M')) : V X 4 0 (WdM g M) 215 [(0, .ref (gMa g 0)), (1, .ref (gMa g s)), (3, .int x3)] [] := by
  unfold fm_stacks_215 at h
  refine v_aload_n O.1 dX20_stacks_215 rfl (q := 216) rfl ?_
  refine v_aload_n O.1 dX20_stacks_216 rfl (q := 217) rfl ?_
  refine v_iload_n O.1 dX20_stacks_217 rfl (q := 218) rfl ?_
  refine v_iconst O.1 dX20_stacks_218 (v := 0) rfl (q := 219) rfl ?_
  obtain ⟨r1, M1, e1, h⟩ := bnd_some h
  refine m_callVv (As := [.ref (gMa g s), .int x3, .int 0]) (rest := []) (n := 3) O (met_begins _ g s hs x3 0 M M1 r1 e1) (lw_V q1938 q1940 qs38 q84 q1941) (by decide +kernel) (by decide) (by decide) rfl rfl (Nat.le_of_ble_eq_true rfl) dX20_stacks_219 (q := 222) rfl ?_
  exact m_vret O h dX20_stacks_222
def fm_stacks_190 (s : Nat) (x3 : Int32) (M : Mem) : Option (Unit × Mem) :=
  if 0 ≤ x3 then
    if x3 = (M s 24) then
      fm_stacks_215 s x3 M
    else
      bnd (fm_counts 3 M) fun r3 M3 =>
      fm_stacks_215 s x3 M3
  else
    bnd (fm_turns s 3 0 M) fun r4 M4 =>
    some ((), M4)
set_option maxHeartbeats 4000000 in
theorem bm_stacks_190 {g : gM} {X : Cxt} {r : Unit} {M' : Mem} {s : Nat} (hs : mS s) (O : OkM g X cX20_stacks 4 none 6 (mQv g r M')) (x3 : Int32) (M : Mem) (h : fm_stacks_190 s x3 M = some (r, M')) : V X 4 0 (WdM g M) 190 [(0, .ref (gMa g 0)), (1, .ref (gMa g s)), (3, .int x3)] [] := by
  unfold fm_stacks_190 at h
  refine v_iload_n O.1 dX20_stacks_190 rfl (q := 191) rfl ?_
  refine v_if_ge O.1 dX20_stacks_191 (t := 202) (by decide) (q := 194) rfl (fun c1 => ?_) (fun c1 => ?_)
  · rw [if_pos c1] at h
    refine v_iload_n O.1 dX20_stacks_202 rfl (q := 203) rfl ?_
    refine v_aload_n O.1 dX20_stacks_203 rfl (q := 204) rfl ?_
    refine v_bipush O.1 dX20_stacks_204 (v := 24) (by decide) (q := 206) rfl ?_
    refine m_iald O (mS_i hs) (mS_l hs) (n := 342) (by decide) (by decide) (j := 24) dX20_stacks_206 (q := 207) rfl ?_
    refine v_icmp_eq O.1 dX20_stacks_207 (t := 215) (by decide) (q := 210) rfl (fun c2 => ?_) (fun c2 => ?_)
    · rw [if_pos c2] at h
      exact v_sub [0, 1, 2] rfl (bm_stacks_215 hs O x3 M h)
    · rw [if_neg c2] at h
      refine v_aload_n O.1 dX20_stacks_210 rfl (q := 211) rfl ?_
      refine v_iconst O.1 dX20_stacks_211 (v := 3) rfl (q := 212) rfl ?_
      obtain ⟨r3, M3, e3, h⟩ := bnd_some h
      refine m_callVv (As := [.int 3]) (rest := []) (n := 1) O (met_counts _ g 3 M M3 r3 e3) (lw_V q1849 q1851 qs23 q84 q1852) (by decide +kernel) (by decide) (by decide) rfl rfl (Nat.le_of_ble_eq_true rfl) dX20_stacks_212 (q := 215) rfl ?_
      exact v_sub [0, 1, 2] rfl (bm_stacks_215 hs O x3 M3 h)
  · rw [if_neg c1] at h
    refine v_aload_n O.1 dX20_stacks_194 rfl (q := 195) rfl ?_
    refine v_aload_n O.1 dX20_stacks_195 rfl (q := 196) rfl ?_
    refine v_iconst O.1 dX20_stacks_196 (v := 3) rfl (q := 197) rfl ?_
    refine v_iconst O.1 dX20_stacks_197 (v := 0) rfl (q := 198) rfl ?_
    obtain ⟨r4, M4, e4, h⟩ := bnd_some h
    refine m_callVv (As := [.ref (gMa g s), .int 3, .int 0]) (rest := []) (n := 3) O (met_turns _ g s hs 3 0 M M4 r4 e4) (lw_V q1906 q1908 qs30 q84 q1909) (by decide +kernel) (by decide) (by decide) rfl rfl (Nat.le_of_ble_eq_true rfl) dX20_stacks_198 (q := 201) rfl ?_
    exact m_vret O h dX20_stacks_201
def fm_stacks_125 (s : Nat) (x2 : Int32) (M : Mem) : Option (Unit × Mem) :=
  if (M s 20) = 5 then
    some ((), M)
  else
    stp (up2 M s 21 (x2 + 1)) fun M2 =>
    if 5 ≤ x2 then
      bnd (fm_nextOf s M2) fun r4 M4 =>
      if (M4 0 15) = 0 then
        fm_stacks_190 s r4 M4
      else
        gd (inb (194 + (M4 s 24)) 342) <|
        if (M4 s (194 + (M4 s 24)).toNatClampNeg) < 0 then
          fm_stacks_190 s r4 M4
        else
          bnd (fm_could s (M4 s 24) M4) fun r8 M8 =>
          if r8 = 0 then
            fm_stacks_190 s r4 M8
          else
            fm_stacks_190 s (M8 s 24) M8
    else
      some ((), M2)
set_option maxHeartbeats 4000000 in
theorem bm_stacks_125 {g : gM} {X : Cxt} {r : Unit} {M' : Mem} {s : Nat} (hs : mS s) (O : OkM g X cX20_stacks 4 none 6 (mQv g r M')) (x2 : Int32) (M : Mem) (h : fm_stacks_125 s x2 M = some (r, M')) : V X 4 0 (WdM g M) 125 [(0, .ref (gMa g 0)), (1, .ref (gMa g s)), (2, .int x2)] [] := by
  unfold fm_stacks_125 at h
  refine v_aload_n O.1 dX20_stacks_125 rfl (q := 126) rfl ?_
  refine v_bipush O.1 dX20_stacks_126 (v := 20) (by decide) (q := 128) rfl ?_
  refine m_iald O (mS_i hs) (mS_l hs) (n := 342) (by decide) (by decide) (j := 20) dX20_stacks_128 (q := 129) rfl ?_
  refine v_iconst O.1 dX20_stacks_129 (v := 5) rfl (q := 130) rfl ?_
  refine v_icmp_ne O.1 dX20_stacks_130 (t := 134) (by decide) (q := 133) rfl (fun c1 => ?_) (fun c1 => ?_)
  · rw [if_neg c1] at h
    refine v_aload_n O.1 dX20_stacks_134 rfl (q := 135) rfl ?_
    refine v_bipush O.1 dX20_stacks_135 (v := 21) (by decide) (q := 137) rfl ?_
    refine v_iload_n O.1 dX20_stacks_137 rfl (q := 138) rfl ?_
    refine v_iconst O.1 dX20_stacks_138 (v := 1) rfl (q := 139) rfl ?_
    refine v_iadd O.1 dX20_stacks_139 (q := 140) rfl ?_
    obtain ⟨M2, e2, h⟩ := stp_some h
    refine m_iast O (mS_i hs) (mS_l hs) (n := 342) (by decide) (by decide) (j := 21) dX20_stacks_140 (q := 141) rfl e2 ?_
    refine v_iload_n O.1 dX20_stacks_141 rfl (q := 142) rfl ?_
    refine v_iconst O.1 dX20_stacks_142 (v := 5) rfl (q := 143) rfl ?_
    refine v_icmp_ge O.1 dX20_stacks_143 (t := 147) (by decide) (q := 146) rfl (fun c3 => ?_) (fun c3 => ?_)
    · rw [if_pos c3] at h
      refine v_aload_n O.1 dX20_stacks_147 rfl (q := 148) rfl ?_
      refine v_aload_n O.1 dX20_stacks_148 rfl (q := 149) rfl ?_
      obtain ⟨r4, M4, e4, h⟩ := bnd_some h
      refine m_callVi (As := [.ref (gMa g s)]) (rest := []) (n := 1) O (met_nextOf _ g s hs M2 M4 r4 e4) (lw_V q1885 q1887 qs27 q84 q1888) (by decide +kernel) (by decide) (by decide) rfl rfl (Nat.le_of_ble_eq_true rfl) dX20_stacks_149 (q := 152) rfl ?_
      refine v_istore_n (lv' := [(3, .int r4), (0, .ref (gMa g 0)), (1, .ref (gMa g s)), (2, .int x2)]) O.1 dX20_stacks_152 (by decide) rfl (q := 153) rfl ?_
      refine v_aload_n O.1 dX20_stacks_153 rfl (q := 154) rfl ?_
      refine m_get O 15 (v := .int (M4 0 15)) (by decide) q1747 rfl rfl dX20_stacks_154 (q := 157) rfl ?_
      refine v_if_eq O.1 dX20_stacks_157 (t := 190) (by decide) (q := 160) rfl (fun c5 => ?_) (fun c5 => ?_)
      · rw [if_pos c5] at h
        exact v_sub [1, 2, 0] rfl (bm_stacks_190 hs O r4 M4 h)
      · rw [if_neg c5] at h
        refine v_aload_n O.1 dX20_stacks_160 rfl (q := 161) rfl ?_
        refine v_sipush O.1 dX20_stacks_161 (v := 194) (by decide) (q := 164) rfl ?_
        refine v_aload_n O.1 dX20_stacks_164 rfl (q := 165) rfl ?_
        refine v_bipush O.1 dX20_stacks_165 (v := 24) (by decide) (q := 167) rfl ?_
        refine m_iald O (mS_i hs) (mS_l hs) (n := 342) (by decide) (by decide) (j := 24) dX20_stacks_167 (q := 168) rfl ?_
        refine v_iadd O.1 dX20_stacks_168 (q := 169) rfl ?_
        obtain ⟨g6, h⟩ := gd_some h
        refine m_iald O (mS_i hs) (mS_l hs) (n := 342) g6 rfl (j := (194 + (M4 s 24)).toNatClampNeg) dX20_stacks_169 (q := 170) rfl ?_
        refine v_if_lt O.1 dX20_stacks_170 (t := 190) (by decide) (q := 173) rfl (fun c7 => ?_) (fun c7 => ?_)
        · rw [if_pos c7] at h
          exact v_sub [1, 2, 0] rfl (bm_stacks_190 hs O r4 M4 h)
        · rw [if_neg c7] at h
          refine v_aload_n O.1 dX20_stacks_173 rfl (q := 174) rfl ?_
          refine v_aload_n O.1 dX20_stacks_174 rfl (q := 175) rfl ?_
          refine v_aload_n O.1 dX20_stacks_175 rfl (q := 176) rfl ?_
          refine v_bipush O.1 dX20_stacks_176 (v := 24) (by decide) (q := 178) rfl ?_
          refine m_iald O (mS_i hs) (mS_l hs) (n := 342) (by decide) (by decide) (j := 24) dX20_stacks_178 (q := 179) rfl ?_
          obtain ⟨r8, M8, e8, h⟩ := bnd_some h
          refine m_callVi (As := [.ref (gMa g s), .int (M4 s 24)]) (rest := []) (n := 2) O (met_could _ g s hs (M4 s 24) M4 M8 r8 e8) (lw_V q1926 q1928 qs35 q84 q1929) (by decide +kernel) (by decide) (by decide) rfl rfl (Nat.le_of_ble_eq_true rfl) dX20_stacks_179 (q := 182) rfl ?_
          refine v_if_eq O.1 dX20_stacks_182 (t := 190) (by decide) (q := 185) rfl (fun c9 => ?_) (fun c9 => ?_)
          · rw [if_pos c9] at h
            exact v_sub [1, 2, 0] rfl (bm_stacks_190 hs O r4 M8 h)
          · rw [if_neg c9] at h
            refine v_aload_n O.1 dX20_stacks_185 rfl (q := 186) rfl ?_
            refine v_bipush O.1 dX20_stacks_186 (v := 24) (by decide) (q := 188) rfl ?_
            refine m_iald O (mS_i hs) (mS_l hs) (n := 342) (by decide) (by decide) (j := 24) dX20_stacks_188 (q := 189) rfl ?_
            refine v_istore_n (lv' := [(3, .int (M8 s 24)), (0, .ref (gMa g 0)), (1, .ref (gMa g s)), (2, .int x2)]) O.1 dX20_stacks_189 (by decide) rfl (q := 190) rfl ?_
            exact v_sub [1, 2, 0] rfl (bm_stacks_190 hs O (M8 s 24) M8 h)
    · rw [if_neg c3] at h
      exact m_vret O h dX20_stacks_146
  · rw [if_pos c1] at h
    exact m_vret O h dX20_stacks_133
def fm_stacks_118 (s : Nat) (x2 : Int32) (y2 : Int32) (y1 : Int32) (M : Mem) : Option (Unit × Mem) :=
  gd (inb y1 342) <|
  stp (up2 M s y1.toNatClampNeg y2) fun M2 =>
  bnd (fm_rises s 1 M2) fun r3 M3 =>
  fm_stacks_125 s x2 M3
set_option maxHeartbeats 4000000 in
theorem bm_stacks_118 {g : gM} {X : Cxt} {r : Unit} {M' : Mem} {s : Nat} (hs : mS s) (O : OkM g X cX20_stacks 4 none 6 (mQv g r M')) (x2 : Int32) (y2 : Int32) (y1 : Int32) (M : Mem) (h : fm_stacks_118 s x2 y2 y1 M = some (r, M')) : V X 4 0 (WdM g M) 118 [(0, .ref (gMa g 0)), (1, .ref (gMa g s)), (2, .int x2)] [.int y2, .int y1, .ref (gMa g s)] := by
  unfold fm_stacks_118 at h
  obtain ⟨g1, h⟩ := gd_some h
  obtain ⟨M2, e2, h⟩ := stp_some h
  refine m_iast O (mS_i hs) (mS_l hs) (n := 342) g1 rfl (j := y1.toNatClampNeg) dX20_stacks_118 (q := 119) rfl e2 ?_
  refine v_aload_n O.1 dX20_stacks_119 rfl (q := 120) rfl ?_
  refine v_aload_n O.1 dX20_stacks_120 rfl (q := 121) rfl ?_
  refine v_iconst O.1 dX20_stacks_121 (v := 1) rfl (q := 122) rfl ?_
  obtain ⟨r3, M3, e3, h⟩ := bnd_some h
  refine m_callVv (As := [.ref (gMa g s), .int 1]) (rest := []) (n := 2) O (met_rises _ g s hs 1 M2 M3 r3 e3) (lw_V q1934 q1936 qs37 q84 q1937) (by decide +kernel) (by decide) (by decide) rfl rfl (Nat.le_of_ble_eq_true rfl) dX20_stacks_122 (q := 125) rfl ?_
  exact v_sub [0, 1, 2] rfl (bm_stacks_125 hs O x2 M3 h)
def fm_stacks_45 (s : Nat) (x2 : Int32) (M : Mem) : Option (Unit × Mem) :=
  if (M s 20) = 5 then
    some ((), M)
  else
    bnd (fm_hasRoom s 1 M) fun r2 M2 =>
    if r2 = 0 then
      fm_stacks_125 s x2 M2
    else
      if 4 ≤ x2 then
        if x2 = 4 then
          fm_stacks_118 s x2 (M2 s 12) (56 + (M2 s 15)) M2
        else
          fm_stacks_118 s x2 (((23040 + (M2 s 13)) + (2 * (M2 s 14))) + (4 * (M2 s 29))) (56 + (M2 s 15)) M2
      else
        gd (inb (0 + x2) 342) <|
        fm_stacks_118 s x2 (M2 s (0 + x2).toNatClampNeg) (56 + (M2 s 15)) M2
set_option maxHeartbeats 4000000 in
theorem bm_stacks_45 {g : gM} {X : Cxt} {r : Unit} {M' : Mem} {s : Nat} (hs : mS s) (O : OkM g X cX20_stacks 4 none 6 (mQv g r M')) (x2 : Int32) (M : Mem) (h : fm_stacks_45 s x2 M = some (r, M')) : V X 4 0 (WdM g M) 45 [(0, .ref (gMa g 0)), (1, .ref (gMa g s)), (2, .int x2)] [] := by
  unfold fm_stacks_45 at h
  refine v_aload_n O.1 dX20_stacks_45 rfl (q := 46) rfl ?_
  refine v_bipush O.1 dX20_stacks_46 (v := 20) (by decide) (q := 48) rfl ?_
  refine m_iald O (mS_i hs) (mS_l hs) (n := 342) (by decide) (by decide) (j := 20) dX20_stacks_48 (q := 49) rfl ?_
  refine v_iconst O.1 dX20_stacks_49 (v := 5) rfl (q := 50) rfl ?_
  refine v_icmp_ne O.1 dX20_stacks_50 (t := 54) (by decide) (q := 53) rfl (fun c1 => ?_) (fun c1 => ?_)
  · rw [if_neg c1] at h
    refine v_aload_n O.1 dX20_stacks_54 rfl (q := 55) rfl ?_
    refine v_aload_n O.1 dX20_stacks_55 rfl (q := 56) rfl ?_
    refine v_iconst O.1 dX20_stacks_56 (v := 1) rfl (q := 57) rfl ?_
    obtain ⟨r2, M2, e2, h⟩ := bnd_some h
    refine m_callVi (As := [.ref (gMa g s), .int 1]) (rest := []) (n := 2) O (met_hasRoom _ g s hs 1 M M2 r2 e2) (lw_V q1914 q1916 qs32 q84 q1917) (by decide +kernel) (by decide) (by decide) rfl rfl (Nat.le_of_ble_eq_true rfl) dX20_stacks_57 (q := 60) rfl ?_
    refine v_if_eq O.1 dX20_stacks_60 (t := 125) (by decide) (q := 63) rfl (fun c3 => ?_) (fun c3 => ?_)
    · rw [if_pos c3] at h
      exact v_sub [0, 1, 2] rfl (bm_stacks_125 hs O x2 M2 h)
    · rw [if_neg c3] at h
      refine v_aload_n O.1 dX20_stacks_63 rfl (q := 64) rfl ?_
      refine v_bipush O.1 dX20_stacks_64 (v := 56) (by decide) (q := 66) rfl ?_
      refine v_aload_n O.1 dX20_stacks_66 rfl (q := 67) rfl ?_
      refine v_bipush O.1 dX20_stacks_67 (v := 15) (by decide) (q := 69) rfl ?_
      refine m_iald O (mS_i hs) (mS_l hs) (n := 342) (by decide) (by decide) (j := 15) dX20_stacks_69 (q := 70) rfl ?_
      refine v_iadd O.1 dX20_stacks_70 (q := 71) rfl ?_
      refine v_iload_n O.1 dX20_stacks_71 rfl (q := 72) rfl ?_
      refine v_iconst O.1 dX20_stacks_72 (v := 4) rfl (q := 73) rfl ?_
      refine v_icmp_ge O.1 dX20_stacks_73 (t := 84) (by decide) (q := 76) rfl (fun c4 => ?_) (fun c4 => ?_)
      · rw [if_pos c4] at h
        refine v_iload_n O.1 dX20_stacks_84 rfl (q := 85) rfl ?_
        refine v_iconst O.1 dX20_stacks_85 (v := 4) rfl (q := 86) rfl ?_
        refine v_icmp_ne O.1 dX20_stacks_86 (t := 96) (by decide) (q := 89) rfl (fun c5 => ?_) (fun c5 => ?_)
        · rw [if_neg c5] at h
          refine v_sipush O.1 dX20_stacks_96 (v := 23040) (by decide) (q := 99) rfl ?_
          refine v_aload_n O.1 dX20_stacks_99 rfl (q := 100) rfl ?_
          refine v_bipush O.1 dX20_stacks_100 (v := 13) (by decide) (q := 102) rfl ?_
          refine m_iald O (mS_i hs) (mS_l hs) (n := 342) (by decide) (by decide) (j := 13) dX20_stacks_102 (q := 103) rfl ?_
          refine v_iadd O.1 dX20_stacks_103 (q := 104) rfl ?_
          refine v_iconst O.1 dX20_stacks_104 (v := 2) rfl (q := 105) rfl ?_
          refine v_aload_n O.1 dX20_stacks_105 rfl (q := 106) rfl ?_
          refine v_bipush O.1 dX20_stacks_106 (v := 14) (by decide) (q := 108) rfl ?_
          refine m_iald O (mS_i hs) (mS_l hs) (n := 342) (by decide) (by decide) (j := 14) dX20_stacks_108 (q := 109) rfl ?_
          refine v_imul O.1 dX20_stacks_109 (q := 110) rfl ?_
          refine v_iadd O.1 dX20_stacks_110 (q := 111) rfl ?_
          refine v_iconst O.1 dX20_stacks_111 (v := 4) rfl (q := 112) rfl ?_
          refine v_aload_n O.1 dX20_stacks_112 rfl (q := 113) rfl ?_
          refine v_bipush O.1 dX20_stacks_113 (v := 29) (by decide) (q := 115) rfl ?_
          refine m_iald O (mS_i hs) (mS_l hs) (n := 342) (by decide) (by decide) (j := 29) dX20_stacks_115 (q := 116) rfl ?_
          refine v_imul O.1 dX20_stacks_116 (q := 117) rfl ?_
          refine v_iadd O.1 dX20_stacks_117 (q := 118) rfl ?_
          exact v_sub [0, 1, 2] rfl (bm_stacks_118 hs O x2 (((23040 + (M2 s 13)) + (2 * (M2 s 14))) + (4 * (M2 s 29))) (56 + (M2 s 15)) M2 h)
        · rw [if_pos c5] at h
          refine v_aload_n O.1 dX20_stacks_89 rfl (q := 90) rfl ?_
          refine v_bipush O.1 dX20_stacks_90 (v := 12) (by decide) (q := 92) rfl ?_
          refine m_iald O (mS_i hs) (mS_l hs) (n := 342) (by decide) (by decide) (j := 12) dX20_stacks_92 (q := 93) rfl ?_
          refine v_goto O.1 dX20_stacks_93 (t := 118) (by decide) ?_
          exact v_sub [0, 1, 2] rfl (bm_stacks_118 hs O x2 (M2 s 12) (56 + (M2 s 15)) M2 h)
      · rw [if_neg c4] at h
        refine v_aload_n O.1 dX20_stacks_76 rfl (q := 77) rfl ?_
        refine v_iconst O.1 dX20_stacks_77 (v := 0) rfl (q := 78) rfl ?_
        refine v_iload_n O.1 dX20_stacks_78 rfl (q := 79) rfl ?_
        refine v_iadd O.1 dX20_stacks_79 (q := 80) rfl ?_
        obtain ⟨g6, h⟩ := gd_some h
        refine m_iald O (mS_i hs) (mS_l hs) (n := 342) g6 rfl (j := (0 + x2).toNatClampNeg) dX20_stacks_80 (q := 81) rfl ?_
        refine v_goto O.1 dX20_stacks_81 (t := 118) (by decide) ?_
        exact v_sub [0, 1, 2] rfl (bm_stacks_118 hs O x2 (M2 s (0 + x2).toNatClampNeg) (56 + (M2 s 15)) M2 h)
  · rw [if_pos c1] at h
    exact m_vret O h dX20_stacks_53
def fm_stacks (s : Nat)  (M : Mem) : Option (Unit × Mem) :=
  if (M s 21) = 0 then
    if (M s 18) = 1 then
      bnd (fm_hasRoom s 4 M) fun r3 M3 =>
      if r3 = 0 then
        fm_stacks_45 s (M s 21) M3
      else
        stp (up2 M3 s 19 (M3 s 15)) fun M5 =>
        stp (up2 M5 s 29 1) fun M6 =>
        bnd (fm_rises s 4 M6) fun r7 M7 =>
        fm_stacks_45 s (M s 21) M7
    else
      fm_stacks_45 s (M s 21) M
  else
    fm_stacks_45 s (M s 21) M
set_option maxHeartbeats 4000000 in
theorem bm_stacks {g : gM} {X : Cxt} {r : Unit} {M' : Mem} {s : Nat} (hs : mS s) (O : OkM g X cX20_stacks 4 none 6 (mQv g r M'))  (M : Mem) (h : fm_stacks s  M = some (r, M')) : V X 4 0 (WdM g M) 0 [(0, .ref (gMa g 0)), (1, .ref (gMa g s))] [] := by
  unfold fm_stacks at h
  refine v_aload_n O.1 dX20_stacks_0 rfl (q := 1) rfl ?_
  refine v_bipush O.1 dX20_stacks_1 (v := 21) (by decide) (q := 3) rfl ?_
  refine m_iald O (mS_i hs) (mS_l hs) (n := 342) (by decide) (by decide) (j := 21) dX20_stacks_3 (q := 4) rfl ?_
  refine v_istore_n (lv' := [(2, .int (M s 21)), (0, .ref (gMa g 0)), (1, .ref (gMa g s))]) O.1 dX20_stacks_4 (by decide) rfl (q := 5) rfl ?_
  refine v_iload_n O.1 dX20_stacks_5 rfl (q := 6) rfl ?_
  refine v_if_ne O.1 dX20_stacks_6 (t := 45) (by decide) (q := 9) rfl (fun c1 => ?_) (fun c1 => ?_)
  · rw [if_neg c1] at h
    exact v_sub [1, 2, 0] rfl (bm_stacks_45 hs O (M s 21) M h)
  · rw [if_pos c1] at h
    refine v_aload_n O.1 dX20_stacks_9 rfl (q := 10) rfl ?_
    refine v_bipush O.1 dX20_stacks_10 (v := 18) (by decide) (q := 12) rfl ?_
    refine m_iald O (mS_i hs) (mS_l hs) (n := 342) (by decide) (by decide) (j := 18) dX20_stacks_12 (q := 13) rfl ?_
    refine v_iconst O.1 dX20_stacks_13 (v := 1) rfl (q := 14) rfl ?_
    refine v_icmp_ne O.1 dX20_stacks_14 (t := 45) (by decide) (q := 17) rfl (fun c2 => ?_) (fun c2 => ?_)
    · rw [if_neg c2] at h
      exact v_sub [1, 2, 0] rfl (bm_stacks_45 hs O (M s 21) M h)
    · rw [if_pos c2] at h
      refine v_aload_n O.1 dX20_stacks_17 rfl (q := 18) rfl ?_
      refine v_aload_n O.1 dX20_stacks_18 rfl (q := 19) rfl ?_
      refine v_iconst O.1 dX20_stacks_19 (v := 4) rfl (q := 20) rfl ?_
      obtain ⟨r3, M3, e3, h⟩ := bnd_some h
      refine m_callVi (As := [.ref (gMa g s), .int 4]) (rest := []) (n := 2) O (met_hasRoom _ g s hs 4 M M3 r3 e3) (lw_V q1914 q1916 qs32 q84 q1917) (by decide +kernel) (by decide) (by decide) rfl rfl (Nat.le_of_ble_eq_true rfl) dX20_stacks_20 (q := 23) rfl ?_
      refine v_if_eq O.1 dX20_stacks_23 (t := 45) (by decide) (q := 26) rfl (fun c4 => ?_) (fun c4 => ?_)
      · rw [if_pos c4] at h
        exact v_sub [1, 2, 0] rfl (bm_stacks_45 hs O (M s 21) M3 h)
      · rw [if_neg c4] at h
        refine v_aload_n O.1 dX20_stacks_26 rfl (q := 27) rfl ?_
        refine v_bipush O.1 dX20_stacks_27 (v := 19) (by decide) (q := 29) rfl ?_
        refine v_aload_n O.1 dX20_stacks_29 rfl (q := 30) rfl ?_
        refine v_bipush O.1 dX20_stacks_30 (v := 15) (by decide) (q := 32) rfl ?_
        refine m_iald O (mS_i hs) (mS_l hs) (n := 342) (by decide) (by decide) (j := 15) dX20_stacks_32 (q := 33) rfl ?_
        obtain ⟨M5, e5, h⟩ := stp_some h
        refine m_iast O (mS_i hs) (mS_l hs) (n := 342) (by decide) (by decide) (j := 19) dX20_stacks_33 (q := 34) rfl e5 ?_
        refine v_aload_n O.1 dX20_stacks_34 rfl (q := 35) rfl ?_
        refine v_bipush O.1 dX20_stacks_35 (v := 29) (by decide) (q := 37) rfl ?_
        refine v_iconst O.1 dX20_stacks_37 (v := 1) rfl (q := 38) rfl ?_
        obtain ⟨M6, e6, h⟩ := stp_some h
        refine m_iast O (mS_i hs) (mS_l hs) (n := 342) (by decide) (by decide) (j := 29) dX20_stacks_38 (q := 39) rfl e6 ?_
        refine v_aload_n O.1 dX20_stacks_39 rfl (q := 40) rfl ?_
        refine v_aload_n O.1 dX20_stacks_40 rfl (q := 41) rfl ?_
        refine v_iconst O.1 dX20_stacks_41 (v := 4) rfl (q := 42) rfl ?_
        obtain ⟨r7, M7, e7, h⟩ := bnd_some h
        refine m_callVv (As := [.ref (gMa g s), .int 4]) (rest := []) (n := 2) O (met_rises _ g s hs 4 M6 M7 r7 e7) (lw_V q1934 q1936 qs37 q84 q1937) (by decide +kernel) (by decide) (by decide) rfl rfl (Nat.le_of_ble_eq_true rfl) dX20_stacks_42 (q := 45) rfl ?_
        exact v_sub [1, 2, 0] rfl (bm_stacks_45 hs O (M s 21) M7 h)
theorem met_stacks (l : Launch) (g : gM) (s : Nat) (hs : mS s)  (M M' : Mem) (r : Unit) (h : fm_stacks s  M = some (r, M')) : MetM l g yX20_stacks cX20_stacks 4 none 6 [.ref (gMa g 0), .ref (gMa g s)] M (mQv g r M') :=
  m_met (by decide) rfl (Nat.le_of_ble_eq_true rfl) (fun X O => bm_stacks hs O  M h)
/-! saves([I)V -/
def fm_saves (s : Nat)  (M : Mem) : Option (Unit × Mem) :=
  gd (inb (8 + (M s 21)) 342) <|
  gd (inb ((56 + (M s 19)) + (M s 21)) 342) <|
  stp (up2 M s ((56 + (M s 19)) + (M s 21)).toNatClampNeg (M s (8 + (M s 21)).toNatClampNeg)) fun M3 =>
  stp (up2 M3 s 21 ((M3 s 21) + 1)) fun M4 =>
  if 4 ≤ (M4 s 21) then
    stp (up2 M4 s 19 (-1)) fun M6 =>
    bnd (fm_counts 5 M6) fun r7 M7 =>
    bnd (fm_turns s 0 0 M7) fun r8 M8 =>
    some ((), M8)
  else
    some ((), M4)
set_option maxHeartbeats 4000000 in
theorem bm_saves {g : gM} {X : Cxt} {r : Unit} {M' : Mem} {s : Nat} (hs : mS s) (O : OkM g X cX20_saves 2 none 1 (mQv g r M'))  (M : Mem) (h : fm_saves s  M = some (r, M')) : V X 2 0 (WdM g M) 0 [(0, .ref (gMa g 0)), (1, .ref (gMa g s))] [] := by
  unfold fm_saves at h
  refine v_aload_n O.1 dX20_saves_0 rfl (q := 1) rfl ?_
  refine v_bipush O.1 dX20_saves_1 (v := 56) (by decide) (q := 3) rfl ?_
  refine v_aload_n O.1 dX20_saves_3 rfl (q := 4) rfl ?_
  refine v_bipush O.1 dX20_saves_4 (v := 19) (by decide) (q := 6) rfl ?_
  refine m_iald O (mS_i hs) (mS_l hs) (n := 342) (by decide) (by decide) (j := 19) dX20_saves_6 (q := 7) rfl ?_
  refine v_iadd O.1 dX20_saves_7 (q := 8) rfl ?_
  refine v_aload_n O.1 dX20_saves_8 rfl (q := 9) rfl ?_
  refine v_bipush O.1 dX20_saves_9 (v := 21) (by decide) (q := 11) rfl ?_
  refine m_iald O (mS_i hs) (mS_l hs) (n := 342) (by decide) (by decide) (j := 21) dX20_saves_11 (q := 12) rfl ?_
  refine v_iadd O.1 dX20_saves_12 (q := 13) rfl ?_
  refine v_aload_n O.1 dX20_saves_13 rfl (q := 14) rfl ?_
  refine v_bipush O.1 dX20_saves_14 (v := 8) (by decide) (q := 16) rfl ?_
  refine v_aload_n O.1 dX20_saves_16 rfl (q := 17) rfl ?_
  refine v_bipush O.1 dX20_saves_17 (v := 21) (by decide) (q := 19) rfl ?_
  refine m_iald O (mS_i hs) (mS_l hs) (n := 342) (by decide) (by decide) (j := 21) dX20_saves_19 (q := 20) rfl ?_
  refine v_iadd O.1 dX20_saves_20 (q := 21) rfl ?_
  obtain ⟨g1, h⟩ := gd_some h
  refine m_iald O (mS_i hs) (mS_l hs) (n := 342) g1 rfl (j := (8 + (M s 21)).toNatClampNeg) dX20_saves_21 (q := 22) rfl ?_
  obtain ⟨g2, h⟩ := gd_some h
  obtain ⟨M3, e3, h⟩ := stp_some h
  refine m_iast O (mS_i hs) (mS_l hs) (n := 342) g2 rfl (j := ((56 + (M s 19)) + (M s 21)).toNatClampNeg) dX20_saves_22 (q := 23) rfl e3 ?_
  refine v_aload_n O.1 dX20_saves_23 rfl (q := 24) rfl ?_
  refine v_bipush O.1 dX20_saves_24 (v := 21) (by decide) (q := 26) rfl ?_
  refine v_dup2 O.1 dX20_saves_26 rfl rfl (q := 27) rfl ?_
  refine m_iald O (mS_i hs) (mS_l hs) (n := 342) (by decide) (by decide) (j := 21) dX20_saves_27 (q := 28) rfl ?_
  refine v_iconst O.1 dX20_saves_28 (v := 1) rfl (q := 29) rfl ?_
  refine v_iadd O.1 dX20_saves_29 (q := 30) rfl ?_
  obtain ⟨M4, e4, h⟩ := stp_some h
  refine m_iast O (mS_i hs) (mS_l hs) (n := 342) (by decide) (by decide) (j := 21) dX20_saves_30 (q := 31) rfl e4 ?_
  refine v_aload_n O.1 dX20_saves_31 rfl (q := 32) rfl ?_
  refine v_bipush O.1 dX20_saves_32 (v := 21) (by decide) (q := 34) rfl ?_
  refine m_iald O (mS_i hs) (mS_l hs) (n := 342) (by decide) (by decide) (j := 21) dX20_saves_34 (q := 35) rfl ?_
  refine v_iconst O.1 dX20_saves_35 (v := 4) rfl (q := 36) rfl ?_
  refine v_icmp_ge O.1 dX20_saves_36 (t := 40) (by decide) (q := 39) rfl (fun c5 => ?_) (fun c5 => ?_)
  · rw [if_pos c5] at h
    refine v_aload_n O.1 dX20_saves_40 rfl (q := 41) rfl ?_
    refine v_bipush O.1 dX20_saves_41 (v := 19) (by decide) (q := 43) rfl ?_
    refine v_iconst O.1 dX20_saves_43 (v := (-1)) rfl (q := 44) rfl ?_
    obtain ⟨M6, e6, h⟩ := stp_some h
    refine m_iast O (mS_i hs) (mS_l hs) (n := 342) (by decide) (by decide) (j := 19) dX20_saves_44 (q := 45) rfl e6 ?_
    refine v_aload_n O.1 dX20_saves_45 rfl (q := 46) rfl ?_
    refine v_iconst O.1 dX20_saves_46 (v := 5) rfl (q := 47) rfl ?_
    obtain ⟨r7, M7, e7, h⟩ := bnd_some h
    refine m_callVv (As := [.int 5]) (rest := []) (n := 1) O (met_counts _ g 5 M6 M7 r7 e7) (lw_V q1849 q1851 qs23 q84 q1852) (by decide +kernel) (by decide) (by decide) rfl rfl (Nat.le_of_ble_eq_true rfl) dX20_saves_47 (q := 50) rfl ?_
    refine v_aload_n O.1 dX20_saves_50 rfl (q := 51) rfl ?_
    refine v_aload_n O.1 dX20_saves_51 rfl (q := 52) rfl ?_
    refine v_iconst O.1 dX20_saves_52 (v := 0) rfl (q := 53) rfl ?_
    refine v_iconst O.1 dX20_saves_53 (v := 0) rfl (q := 54) rfl ?_
    obtain ⟨r8, M8, e8, h⟩ := bnd_some h
    refine m_callVv (As := [.ref (gMa g s), .int 0, .int 0]) (rest := []) (n := 3) O (met_turns _ g s hs 0 0 M7 M8 r8 e8) (lw_V q1906 q1908 qs30 q84 q1909) (by decide +kernel) (by decide) (by decide) rfl rfl (Nat.le_of_ble_eq_true rfl) dX20_saves_54 (q := 57) rfl ?_
    exact m_vret O h dX20_saves_57
  · rw [if_neg c5] at h
    exact m_vret O h dX20_saves_39
theorem met_saves (l : Launch) (g : gM) (s : Nat) (hs : mS s)  (M M' : Mem) (r : Unit) (h : fm_saves s  M = some (r, M')) : MetM l g yX20_saves cX20_saves 2 none 1 [.ref (gMa g 0), .ref (gMa g s)] M (mQv g r M') :=
  m_met (by decide) rfl (Nat.le_of_ble_eq_true rfl) (fun X O => bm_saves hs O  M h)
/-! fraction(I)J -/
def fm_fraction_27 (y0 : Int64) (M : Mem) : Option (Int64 × Mem) :=
  some (y0, M)
set_option maxHeartbeats 4000000 in
theorem bm_fraction_27 {g : gM} {X : Cxt} {r : Int64} {M' : Mem} (O : OkM g X cX20_fraction 1 (some .long) 0 (mQl g r M')) (y0 : Int64) (M : Mem) (h : fm_fraction_27 y0 M = some (r, M')) : V X 1 0 (WdM g M) 27 [] [.long y0] := by
  unfold fm_fraction_27 at h
  exact m_lret O h dX20_fraction_27
def fm_fraction (x0 : Int32) (M : Mem) : Option (Int64 × Mem) :=
  if ((x0 >>> (23 &&& 31)) &&& 255) = 0 then
    fm_fraction_27 ((x0 &&& 8388607).toInt64) M
  else
    fm_fraction_27 (((x0 &&& 8388607) ||| 8388608).toInt64) M
set_option maxHeartbeats 4000000 in
theorem bm_fraction {g : gM} {X : Cxt} {r : Int64} {M' : Mem} (O : OkM g X cX20_fraction 1 (some .long) 0 (mQl g r M')) (x0 : Int32) (M : Mem) (h : fm_fraction x0 M = some (r, M')) : V X 1 0 (WdM g M) 0 [(0, .int x0)] [] := by
  unfold fm_fraction at h
  refine v_iload_n O.1 dX20_fraction_0 rfl (q := 1) rfl ?_
  refine v_bipush O.1 dX20_fraction_1 (v := 23) (by decide) (q := 3) rfl ?_
  refine v_ishr O.1 dX20_fraction_3 (q := 4) rfl ?_
  refine v_sipush O.1 dX20_fraction_4 (v := 255) (by decide) (q := 7) rfl ?_
  refine v_iand O.1 dX20_fraction_7 (q := 8) rfl ?_
  refine v_if_ne O.1 dX20_fraction_8 (t := 19) (by decide) (q := 11) rfl (fun c1 => ?_) (fun c1 => ?_)
  · rw [if_neg c1] at h
    refine v_iload_n O.1 dX20_fraction_19 rfl (q := 20) rfl ?_
    refine v_ldc O.1 dX20_fraction_20 q1960 (q := 22) rfl ?_
    refine v_iand O.1 dX20_fraction_22 (q := 23) rfl ?_
    refine v_ldc O.1 dX20_fraction_23 q1961 (q := 25) rfl ?_
    refine v_ior O.1 dX20_fraction_25 (q := 26) rfl ?_
    refine v_i2l O.1 dX20_fraction_26 (q := 27) rfl ?_
    exact v_sub [] rfl (bm_fraction_27 O (((x0 &&& 8388607) ||| 8388608).toInt64) M h)
  · rw [if_pos c1] at h
    refine v_iload_n O.1 dX20_fraction_11 rfl (q := 12) rfl ?_
    refine v_ldc O.1 dX20_fraction_12 q1960 (q := 14) rfl ?_
    refine v_iand O.1 dX20_fraction_14 (q := 15) rfl ?_
    refine v_i2l O.1 dX20_fraction_15 (q := 16) rfl ?_
    refine v_goto O.1 dX20_fraction_16 (t := 27) (by decide) ?_
    exact v_sub [] rfl (bm_fraction_27 O ((x0 &&& 8388607).toInt64) M h)
theorem met_fraction (l : Launch) (g : gM) (x0 : Int32) (M M' : Mem) (r : Int64) (h : fm_fraction x0 M = some (r, M')) : MetM l g yX20_fraction cX20_fraction 1 (some .long) 0 [.int x0] M (mQl g r M') :=
  m_met (by decide) rfl (Nat.le_of_ble_eq_true rfl) (fun X O => bm_fraction O x0 M h)
/-! place(I)I -/
def fm_place_24 (y0 : Int32) (M : Mem) : Option (Int32 × Mem) :=
  some (y0, M)
set_option maxHeartbeats 4000000 in
theorem bm_place_24 {g : gM} {X : Cxt} {r : Int32} {M' : Mem} (O : OkM g X cX20_place 2 (some .int) 0 (mQi g r M')) (y0 : Int32) (M : Mem) (h : fm_place_24 y0 M = some (r, M')) : V X 2 0 (WdM g M) 24 [] [.int y0] := by
  unfold fm_place_24 at h
  exact m_iret O h dX20_place_24
def fm_place (x0 : Int32) (M : Mem) : Option (Int32 × Mem) :=
  if ((x0 >>> (23 &&& 31)) &&& 255) = 0 then
    fm_place_24 (-149) M
  else
    fm_place_24 (((x0 >>> (23 &&& 31)) &&& 255) - 150) M
set_option maxHeartbeats 4000000 in
theorem bm_place {g : gM} {X : Cxt} {r : Int32} {M' : Mem} (O : OkM g X cX20_place 2 (some .int) 0 (mQi g r M')) (x0 : Int32) (M : Mem) (h : fm_place x0 M = some (r, M')) : V X 2 0 (WdM g M) 0 [(0, .int x0)] [] := by
  unfold fm_place at h
  refine v_iload_n O.1 dX20_place_0 rfl (q := 1) rfl ?_
  refine v_bipush O.1 dX20_place_1 (v := 23) (by decide) (q := 3) rfl ?_
  refine v_ishr O.1 dX20_place_3 (q := 4) rfl ?_
  refine v_sipush O.1 dX20_place_4 (v := 255) (by decide) (q := 7) rfl ?_
  refine v_iand O.1 dX20_place_7 (q := 8) rfl ?_
  refine v_istore_n (lv' := [(1, .int ((x0 >>> (23 &&& 31)) &&& 255)), (0, .int x0)]) O.1 dX20_place_8 (by decide) rfl (q := 9) rfl ?_
  refine v_iload_n O.1 dX20_place_9 rfl (q := 10) rfl ?_
  refine v_if_ne O.1 dX20_place_10 (t := 19) (by decide) (q := 13) rfl (fun c1 => ?_) (fun c1 => ?_)
  · rw [if_neg c1] at h
    refine v_iload_n O.1 dX20_place_19 rfl (q := 20) rfl ?_
    refine v_sipush O.1 dX20_place_20 (v := 150) (by decide) (q := 23) rfl ?_
    refine v_isub O.1 dX20_place_23 (q := 24) rfl ?_
    exact v_sub [] rfl (bm_place_24 O (((x0 >>> (23 &&& 31)) &&& 255) - 150) M h)
  · rw [if_pos c1] at h
    refine v_sipush O.1 dX20_place_13 (v := (-149)) (by decide) (q := 16) rfl ?_
    refine v_goto O.1 dX20_place_16 (t := 24) (by decide) ?_
    exact v_sub [] rfl (bm_place_24 O (-149) M h)
theorem met_place (l : Launch) (g : gM) (x0 : Int32) (M M' : Mem) (r : Int32) (h : fm_place x0 M = some (r, M')) : MetM l g yX20_place cX20_place 2 (some .int) 0 [.int x0] M (mQi g r M') :=
  m_met (by decide) rfl (Nat.le_of_ble_eq_true rfl) (fun X O => bm_place O x0 M h)
/-! lengthOf(J)I -/
def fm_lengthOf_4b (K4 : Int32 → Int64 → Mem → Option (Int32 × Mem)) (x2 : Int32) (x3 : Int64) (M : Mem) : Option (Int32 × Mem) :=
  if (lg_cmp x3 (0 : Int64)) ≤ 0 then
    some (x2, M)
  else
    K4 (x2 + 1) (x3 >>> ((1 : Int32).toInt64 &&& 63)) M
set_option maxHeartbeats 4000000 in
theorem bm_lengthOf_4b {g : gM} {X : Cxt} {r : Int32} {M' : Mem} (O : OkM g X cX20_lengthOf 5 (some .int) 0 (mQi g r M')) {K4 : Int32 → Int64 → Mem → Option (Int32 × Mem)} (hK4 : ∀ (x2 : Int32) (x3 : Int64) (M : Mem), K4 x2 x3 M = some (r, M') → V X 5 0 (WdM g M) 4 [(2, .int x2), (3, .long x3)] []) (x2 : Int32) (x3 : Int64) (M : Mem) (h : fm_lengthOf_4b K4 x2 x3 M = some (r, M')) : V X 5 0 (WdM g M) 4 [(2, .int x2), (3, .long x3)] [] := by
  unfold fm_lengthOf_4b at h
  refine v_lload_n O.1 dX20_lengthOf_4 rfl (q := 5) rfl ?_
  refine v_lconst O.1 dX20_lengthOf_5 (v := 0) rfl (q := 6) rfl ?_
  refine v_lcmp O.1 dX20_lengthOf_6 (q := 7) rfl ?_
  refine v_if_le O.1 dX20_lengthOf_7 (t := 20) (by decide) (q := 10) rfl (fun c1 => ?_) (fun c1 => ?_)
  · rw [if_pos c1] at h
    refine v_iload_n O.1 dX20_lengthOf_20 rfl (q := 21) rfl ?_
    exact m_iret O h dX20_lengthOf_21
  · rw [if_neg c1] at h
    refine v_iinc (lv' := [(2, .int (x2 + 1)), (3, .long x3)]) (v := (x2 + 1)) O.1 dX20_lengthOf_10 rfl rfl (by decide) rfl (q := 13) rfl ?_
    refine v_lload_n O.1 dX20_lengthOf_13 rfl (q := 14) rfl ?_
    refine v_iconst O.1 dX20_lengthOf_14 (v := 1) rfl (q := 15) rfl ?_
    refine v_lshr O.1 dX20_lengthOf_15 (q := 16) rfl ?_
    refine v_lstore_n (lv' := [(3, .long (x3 >>> ((1 : Int32).toInt64 &&& 63))), (2, .int (x2 + 1))]) O.1 dX20_lengthOf_16 (by decide) rfl (q := 17) rfl ?_
    refine v_goto O.1 dX20_lengthOf_17 (t := 4) (by decide) ?_
    exact v_sub [1, 0] rfl (hK4 (x2 + 1) (x3 >>> ((1 : Int32).toInt64 &&& 63)) M h)
def fm_lengthOf_4 (n : Nat) : Int32 → Int64 → Mem → Option (Int32 × Mem) := lpc (fm_lengthOf_4b) (fun _ _ _ => none) n
theorem bm_lengthOf_4 {g : gM} {X : Cxt} {r : Int32} {M' : Mem} (O : OkM g X cX20_lengthOf 5 (some .int) 0 (mQi g r M')) : ∀ (n : Nat) (x2 : Int32) (x3 : Int64) (M : Mem), fm_lengthOf_4 n x2 x3 M = some (r, M') → V X 5 0 (WdM g M) 4 [(2, .int x2), (3, .long x3)] [] := by
  intro n
  induction n with
  | zero =>
    intro x2 x3 M h
    cases h
  | succ n ih =>
    intro x2 x3 M h
    exact bm_lengthOf_4b O ih x2 x3 M h
def fm_lengthOf (x0 : Int64) (M : Mem) : Option (Int32 × Mem) :=
  fm_lengthOf_4 600 0 x0 M
set_option maxHeartbeats 4000000 in
theorem bm_lengthOf {g : gM} {X : Cxt} {r : Int32} {M' : Mem} (O : OkM g X cX20_lengthOf 5 (some .int) 0 (mQi g r M')) (x0 : Int64) (M : Mem) (h : fm_lengthOf x0 M = some (r, M')) : V X 5 0 (WdM g M) 0 [(0, .long x0)] [] := by
  unfold fm_lengthOf at h
  refine v_iconst O.1 dX20_lengthOf_0 (v := 0) rfl (q := 1) rfl ?_
  refine v_istore_n (lv' := [(2, .int 0), (0, .long x0)]) O.1 dX20_lengthOf_1 (by decide) rfl (q := 2) rfl ?_
  refine v_lload_n O.1 dX20_lengthOf_2 rfl (q := 3) rfl ?_
  refine v_lstore_n (lv' := [(3, .long x0), (2, .int 0), (0, .long x0)]) O.1 dX20_lengthOf_3 (by decide) rfl (q := 4) rfl ?_
  exact v_sub [1, 0] rfl (bm_lengthOf_4 O 600 0 x0 M h)
theorem met_lengthOf (l : Launch) (g : gM) (x0 : Int64) (M M' : Mem) (r : Int32) (h : fm_lengthOf x0 M = some (r, M')) : MetM l g yX20_lengthOf cX20_lengthOf 5 (some .int) 0 [.long x0] M (mQi g r M') :=
  m_met (by decide) rfl (Nat.le_of_ble_eq_true rfl) (fun X O => bm_lengthOf O x0 M h)
/-! rounded(ZJIZ)I -/
def fm_rounded_149 (x5 : Int32) (x6 : Int32) (x8 : Int64) (M : Mem) : Option (Int32 × Mem) :=
  if 0 ≤ (lg_cmp x8 (8388608 : Int64)) then
    if x6 ≤ 104 then
      some (((x5 ||| ((x6 + 150) <<< (23 &&& 31))) ||| (x8.toInt32 &&& 8388607)), M)
    else
      some ((x5 ||| 2139095040), M)
  else
    some ((x5 ||| x8.toInt32), M)
set_option maxHeartbeats 4000000 in
theorem bm_rounded_149 {g : gM} {X : Cxt} {r : Int32} {M' : Mem} (O : OkM g X cX20_rounded 14 (some .int) 1 (mQi g r M')) (x5 : Int32) (x6 : Int32) (x8 : Int64) (M : Mem) (h : fm_rounded_149 x5 x6 x8 M = some (r, M')) : V X 14 0 (WdM g M) 149 [(5, .int x5), (6, .int x6), (8, .long x8)] [] := by
  unfold fm_rounded_149 at h
  refine v_lload O.1 dX20_rounded_149 rfl (q := 151) rfl ?_
  refine v_ldc2 O.1 dX20_rounded_151 q1974 (q := 154) rfl ?_
  refine v_lcmp O.1 dX20_rounded_154 (q := 155) rfl ?_
  refine v_if_ge O.1 dX20_rounded_155 (t := 165) (by decide) (q := 158) rfl (fun c1 => ?_) (fun c1 => ?_)
  · rw [if_pos c1] at h
    refine v_iload O.1 dX20_rounded_165 rfl (q := 167) rfl ?_
    refine v_bipush O.1 dX20_rounded_167 (v := 104) (by decide) (q := 169) rfl ?_
    refine v_icmp_le O.1 dX20_rounded_169 (t := 178) (by decide) (q := 172) rfl (fun c2 => ?_) (fun c2 => ?_)
    · rw [if_pos c2] at h
      refine v_iload O.1 dX20_rounded_178 rfl (q := 180) rfl ?_
      refine v_iload O.1 dX20_rounded_180 rfl (q := 182) rfl ?_
      refine v_sipush O.1 dX20_rounded_182 (v := 150) (by decide) (q := 185) rfl ?_
      refine v_iadd O.1 dX20_rounded_185 (q := 186) rfl ?_
      refine v_bipush O.1 dX20_rounded_186 (v := 23) (by decide) (q := 188) rfl ?_
      refine v_ishl O.1 dX20_rounded_188 (q := 189) rfl ?_
      refine v_ior O.1 dX20_rounded_189 (q := 190) rfl ?_
      refine v_lload O.1 dX20_rounded_190 rfl (q := 192) rfl ?_
      refine v_l2i O.1 dX20_rounded_192 (q := 193) rfl ?_
      refine v_ldc O.1 dX20_rounded_193 q1960 (q := 195) rfl ?_
      refine v_iand O.1 dX20_rounded_195 (q := 196) rfl ?_
      refine v_ior O.1 dX20_rounded_196 (q := 197) rfl ?_
      exact m_iret O h dX20_rounded_197
    · rw [if_neg c2] at h
      refine v_iload O.1 dX20_rounded_172 rfl (q := 174) rfl ?_
      refine v_ldc O.1 dX20_rounded_174 q1975 (q := 176) rfl ?_
      refine v_ior O.1 dX20_rounded_176 (q := 177) rfl ?_
      exact m_iret O h dX20_rounded_177
  · rw [if_neg c1] at h
    refine v_iload O.1 dX20_rounded_158 rfl (q := 160) rfl ?_
    refine v_lload O.1 dX20_rounded_160 rfl (q := 162) rfl ?_
    refine v_l2i O.1 dX20_rounded_162 (q := 163) rfl ?_
    refine v_ior O.1 dX20_rounded_163 (q := 164) rfl ?_
    exact m_iret O h dX20_rounded_164
def fm_rounded_132 (x5 : Int32) (x6 : Int32) (x8 : Int64) (M : Mem) : Option (Int32 × Mem) :=
  if (lg_cmp x8 (16777216 : Int64)) = 0 then
    fm_rounded_149 x5 (x6 + 1) (8388608 : Int64) M
  else
    fm_rounded_149 x5 x6 x8 M
set_option maxHeartbeats 4000000 in
theorem bm_rounded_132 {g : gM} {X : Cxt} {r : Int32} {M' : Mem} (O : OkM g X cX20_rounded 14 (some .int) 1 (mQi g r M')) (x5 : Int32) (x6 : Int32) (x8 : Int64) (M : Mem) (h : fm_rounded_132 x5 x6 x8 M = some (r, M')) : V X 14 0 (WdM g M) 132 [(5, .int x5), (6, .int x6), (8, .long x8)] [] := by
  unfold fm_rounded_132 at h
  refine v_lload O.1 dX20_rounded_132 rfl (q := 134) rfl ?_
  refine v_ldc2 O.1 dX20_rounded_134 q1973 (q := 137) rfl ?_
  refine v_lcmp O.1 dX20_rounded_137 (q := 138) rfl ?_
  refine v_if_ne O.1 dX20_rounded_138 (t := 149) (by decide) (q := 141) rfl (fun c1 => ?_) (fun c1 => ?_)
  · rw [if_neg c1] at h
    exact v_sub [0, 1, 2] rfl (bm_rounded_149 O x5 x6 x8 M h)
  · rw [if_pos c1] at h
    refine v_ldc2 O.1 dX20_rounded_141 q1974 (q := 144) rfl ?_
    refine v_lstore (lv' := [(8, .long (8388608 : Int64)), (5, .int x5), (6, .int x6)]) O.1 dX20_rounded_144 (by decide) rfl (q := 146) rfl ?_
    refine v_iinc (lv' := [(6, .int (x6 + 1)), (8, .long (8388608 : Int64)), (5, .int x5)]) (v := (x6 + 1)) O.1 dX20_rounded_146 rfl rfl (by decide) rfl (q := 149) rfl ?_
    exact v_sub [2, 0, 1] rfl (bm_rounded_149 O x5 (x6 + 1) (8388608 : Int64) M h)
def fm_rounded_126 (x5 : Int32) (x6 : Int32) (x8 : Int64) (M : Mem) : Option (Int32 × Mem) :=
  fm_rounded_132 x5 x6 (x8 + (1 : Int64)) M
set_option maxHeartbeats 4000000 in
theorem bm_rounded_126 {g : gM} {X : Cxt} {r : Int32} {M' : Mem} (O : OkM g X cX20_rounded 14 (some .int) 1 (mQi g r M')) (x5 : Int32) (x6 : Int32) (x8 : Int64) (M : Mem) (h : fm_rounded_126 x5 x6 x8 M = some (r, M')) : V X 14 0 (WdM g M) 126 [(5, .int x5), (6, .int x6), (8, .long x8)] [] := by
  unfold fm_rounded_126 at h
  refine v_lload O.1 dX20_rounded_126 rfl (q := 128) rfl ?_
  refine v_lconst O.1 dX20_rounded_128 (v := 1) rfl (q := 129) rfl ?_
  refine v_ladd O.1 dX20_rounded_129 (q := 130) rfl ?_
  refine v_lstore (lv' := [(8, .long (x8 + (1 : Int64))), (5, .int x5), (6, .int x6)]) O.1 dX20_rounded_130 (by decide) rfl (q := 132) rfl ?_
  exact v_sub [1, 2, 0] rfl (bm_rounded_132 O x5 x6 (x8 + (1 : Int64)) M h)
def fm_rounded_36 (x1 : Int64) (x3 : Int32) (x4 : Int32) (x5 : Int32) (x6 : Int32) (M : Mem) : Option (Int32 × Mem) :=
  if 0 < (x6 - x3) then
    if (x6 - x3) ≤ 60 then
      if 0 < (lg_cmp (x1 &&& (((2 : Int64) * ((1 : Int64) <<< (((x6 - x3) - 1).toInt64 &&& 63))) - (1 : Int64))) ((1 : Int64) <<< (((x6 - x3) - 1).toInt64 &&& 63))) then
        fm_rounded_126 x5 x6 (x1 >>> ((x6 - x3).toInt64 &&& 63)) M
      else
        if (lg_cmp (x1 &&& (((2 : Int64) * ((1 : Int64) <<< (((x6 - x3) - 1).toInt64 &&& 63))) - (1 : Int64))) ((1 : Int64) <<< (((x6 - x3) - 1).toInt64 &&& 63))) = 0 then
          if x4 = 0 then
            if (lg_cmp ((x1 >>> ((x6 - x3).toInt64 &&& 63)) &&& (1 : Int64)) (1 : Int64)) = 0 then
              fm_rounded_126 x5 x6 (x1 >>> ((x6 - x3).toInt64 &&& 63)) M
            else
              fm_rounded_132 x5 x6 (x1 >>> ((x6 - x3).toInt64 &&& 63)) M
          else
            fm_rounded_126 x5 x6 (x1 >>> ((x6 - x3).toInt64 &&& 63)) M
        else
          fm_rounded_132 x5 x6 (x1 >>> ((x6 - x3).toInt64 &&& 63)) M
    else
      fm_rounded_132 x5 x6 (0 : Int64) M
  else
    fm_rounded_132 x5 x6 (x1 <<< ((-(x6 - x3)).toInt64 &&& 63)) M
set_option maxHeartbeats 4000000 in
theorem bm_rounded_36 {g : gM} {X : Cxt} {r : Int32} {M' : Mem} (O : OkM g X cX20_rounded 14 (some .int) 1 (mQi g r M')) (x1 : Int64) (x3 : Int32) (x4 : Int32) (x5 : Int32) (x6 : Int32) (M : Mem) (h : fm_rounded_36 x1 x3 x4 x5 x6 M = some (r, M')) : V X 14 0 (WdM g M) 36 [(1, .long x1), (3, .int x3), (4, .int x4), (5, .int x5), (6, .int x6)] [] := by
  unfold fm_rounded_36 at h
  refine v_iload O.1 dX20_rounded_36 rfl (q := 38) rfl ?_
  refine v_iload_n O.1 dX20_rounded_38 rfl (q := 39) rfl ?_
  refine v_isub O.1 dX20_rounded_39 (q := 40) rfl ?_
  refine v_istore (lv' := [(7, .int (x6 - x3)), (1, .long x1), (3, .int x3), (4, .int x4), (5, .int x5), (6, .int x6)]) O.1 dX20_rounded_40 (by decide) rfl (q := 42) rfl ?_
  refine v_iload O.1 dX20_rounded_42 rfl (q := 44) rfl ?_
  refine v_if_gt O.1 dX20_rounded_44 (t := 57) (by decide) (q := 47) rfl (fun c1 => ?_) (fun c1 => ?_)
  · rw [if_pos c1] at h
    refine v_iload O.1 dX20_rounded_57 rfl (q := 59) rfl ?_
    refine v_bipush O.1 dX20_rounded_59 (v := 60) (by decide) (q := 61) rfl ?_
    refine v_icmp_le O.1 dX20_rounded_61 (t := 70) (by decide) (q := 64) rfl (fun c2 => ?_) (fun c2 => ?_)
    · rw [if_pos c2] at h
      refine v_lconst O.1 dX20_rounded_70 (v := 1) rfl (q := 71) rfl ?_
      refine v_iload O.1 dX20_rounded_71 rfl (q := 73) rfl ?_
      refine v_iconst O.1 dX20_rounded_73 (v := 1) rfl (q := 74) rfl ?_
      refine v_isub O.1 dX20_rounded_74 (q := 75) rfl ?_
      refine v_lshl O.1 dX20_rounded_75 (q := 76) rfl ?_
      refine v_lstore (lv' := [(10, .long ((1 : Int64) <<< (((x6 - x3) - 1).toInt64 &&& 63))), (7, .int (x6 - x3)), (1, .long x1), (3, .int x3), (4, .int x4), (5, .int x5), (6, .int x6)]) O.1 dX20_rounded_76 (by decide) rfl (q := 78) rfl ?_
      refine v_lload_n O.1 dX20_rounded_78 rfl (q := 79) rfl ?_
      refine v_ldc2 O.1 dX20_rounded_79 q1972 (q := 82) rfl ?_
      refine v_lload O.1 dX20_rounded_82 rfl (q := 84) rfl ?_
      refine v_lmul O.1 dX20_rounded_84 (q := 85) rfl ?_
      refine v_lconst O.1 dX20_rounded_85 (v := 1) rfl (q := 86) rfl ?_
      refine v_lsub O.1 dX20_rounded_86 (q := 87) rfl ?_
      refine v_land O.1 dX20_rounded_87 (q := 88) rfl ?_
      refine v_lstore (lv' := [(12, .long (x1 &&& (((2 : Int64) * ((1 : Int64) <<< (((x6 - x3) - 1).toInt64 &&& 63))) - (1 : Int64)))), (10, .long ((1 : Int64) <<< (((x6 - x3) - 1).toInt64 &&& 63))), (7, .int (x6 - x3)), (1, .long x1), (3, .int x3), (4, .int x4), (5, .int x5), (6, .int x6)]) O.1 dX20_rounded_88 (by decide) rfl (q := 90) rfl ?_
      refine v_lload_n O.1 dX20_rounded_90 rfl (q := 91) rfl ?_
      refine v_iload O.1 dX20_rounded_91 rfl (q := 93) rfl ?_
      refine v_lshr O.1 dX20_rounded_93 (q := 94) rfl ?_
      refine v_lstore (lv' := [(8, .long (x1 >>> ((x6 - x3).toInt64 &&& 63))), (12, .long (x1 &&& (((2 : Int64) * ((1 : Int64) <<< (((x6 - x3) - 1).toInt64 &&& 63))) - (1 : Int64)))), (10, .long ((1 : Int64) <<< (((x6 - x3) - 1).toInt64 &&& 63))), (7, .int (x6 - x3)), (1, .long x1), (3, .int x3), (4, .int x4), (5, .int x5), (6, .int x6)]) O.1 dX20_rounded_94 (by decide) rfl (q := 96) rfl ?_
      refine v_lload O.1 dX20_rounded_96 rfl (q := 98) rfl ?_
      refine v_lload O.1 dX20_rounded_98 rfl (q := 100) rfl ?_
      refine v_lcmp O.1 dX20_rounded_100 (q := 101) rfl ?_
      refine v_if_gt O.1 dX20_rounded_101 (t := 126) (by decide) (q := 104) rfl (fun c3 => ?_) (fun c3 => ?_)
      · rw [if_pos c3] at h
        exact v_sub [7, 8, 0] rfl (bm_rounded_126 O x5 x6 (x1 >>> ((x6 - x3).toInt64 &&& 63)) M h)
      · rw [if_neg c3] at h
        refine v_lload O.1 dX20_rounded_104 rfl (q := 106) rfl ?_
        refine v_lload O.1 dX20_rounded_106 rfl (q := 108) rfl ?_
        refine v_lcmp O.1 dX20_rounded_108 (q := 109) rfl ?_
        refine v_if_ne O.1 dX20_rounded_109 (t := 132) (by decide) (q := 112) rfl (fun c4 => ?_) (fun c4 => ?_)
        · rw [if_neg c4] at h
          exact v_sub [7, 8, 0] rfl (bm_rounded_132 O x5 x6 (x1 >>> ((x6 - x3).toInt64 &&& 63)) M h)
        · rw [if_pos c4] at h
          refine v_iload O.1 dX20_rounded_112 rfl (q := 114) rfl ?_
          refine v_if_ne O.1 dX20_rounded_114 (t := 126) (by decide) (q := 117) rfl (fun c5 => ?_) (fun c5 => ?_)
          · rw [if_neg c5] at h
            exact v_sub [7, 8, 0] rfl (bm_rounded_126 O x5 x6 (x1 >>> ((x6 - x3).toInt64 &&& 63)) M h)
          · rw [if_pos c5] at h
            refine v_lload O.1 dX20_rounded_117 rfl (q := 119) rfl ?_
            refine v_lconst O.1 dX20_rounded_119 (v := 1) rfl (q := 120) rfl ?_
            refine v_land O.1 dX20_rounded_120 (q := 121) rfl ?_
            refine v_lconst O.1 dX20_rounded_121 (v := 1) rfl (q := 122) rfl ?_
            refine v_lcmp O.1 dX20_rounded_122 (q := 123) rfl ?_
            refine v_if_ne O.1 dX20_rounded_123 (t := 132) (by decide) (q := 126) rfl (fun c6 => ?_) (fun c6 => ?_)
            · rw [if_neg c6] at h
              exact v_sub [7, 8, 0] rfl (bm_rounded_132 O x5 x6 (x1 >>> ((x6 - x3).toInt64 &&& 63)) M h)
            · rw [if_pos c6] at h
              exact v_sub [7, 8, 0] rfl (bm_rounded_126 O x5 x6 (x1 >>> ((x6 - x3).toInt64 &&& 63)) M h)
    · rw [if_neg c2] at h
      refine v_lconst O.1 dX20_rounded_64 (v := 0) rfl (q := 65) rfl ?_
      refine v_lstore (lv' := [(8, .long (0 : Int64)), (7, .int (x6 - x3)), (1, .long x1), (3, .int x3), (4, .int x4), (5, .int x5), (6, .int x6)]) O.1 dX20_rounded_65 (by decide) rfl (q := 67) rfl ?_
      refine v_goto O.1 dX20_rounded_67 (t := 132) (by decide) ?_
      exact v_sub [5, 6, 0] rfl (bm_rounded_132 O x5 x6 (0 : Int64) M h)
  · rw [if_neg c1] at h
    refine v_lload_n O.1 dX20_rounded_47 rfl (q := 48) rfl ?_
    refine v_iload O.1 dX20_rounded_48 rfl (q := 50) rfl ?_
    refine v_ineg O.1 dX20_rounded_50 (q := 51) rfl ?_
    refine v_lshl O.1 dX20_rounded_51 (q := 52) rfl ?_
    refine v_lstore (lv' := [(8, .long (x1 <<< ((-(x6 - x3)).toInt64 &&& 63))), (7, .int (x6 - x3)), (1, .long x1), (3, .int x3), (4, .int x4), (5, .int x5), (6, .int x6)]) O.1 dX20_rounded_52 (by decide) rfl (q := 54) rfl ?_
    refine v_goto O.1 dX20_rounded_54 (t := 132) (by decide) ?_
    exact v_sub [5, 6, 0] rfl (bm_rounded_132 O x5 x6 (x1 <<< ((-(x6 - x3)).toInt64 &&& 63)) M h)
def fm_rounded_10 (x1 : Int64) (x3 : Int32) (x4 : Int32) (y0 : Int32) (M : Mem) : Option (Int32 × Mem) :=
  bnd (fm_lengthOf x1 M) fun r1 M1 =>
  if (-149) ≤ ((r1 + x3) - 24) then
    fm_rounded_36 x1 x3 x4 y0 ((r1 + x3) - 24) M1
  else
    fm_rounded_36 x1 x3 x4 y0 (-149) M1
set_option maxHeartbeats 4000000 in
theorem bm_rounded_10 {g : gM} {X : Cxt} {r : Int32} {M' : Mem} (O : OkM g X cX20_rounded 14 (some .int) 1 (mQi g r M')) (x1 : Int64) (x3 : Int32) (x4 : Int32) (y0 : Int32) (M : Mem) (h : fm_rounded_10 x1 x3 x4 y0 M = some (r, M')) : V X 14 0 (WdM g M) 10 [(1, .long x1), (3, .int x3), (4, .int x4)] [.int y0] := by
  unfold fm_rounded_10 at h
  refine v_istore (lv' := [(5, .int y0), (1, .long x1), (3, .int x3), (4, .int x4)]) O.1 dX20_rounded_10 (by decide) rfl (q := 12) rfl ?_
  refine v_lload_n O.1 dX20_rounded_12 rfl (q := 13) rfl ?_
  obtain ⟨r1, M1, e1, h⟩ := bnd_some h
  refine m_callSi (As := [.long x1]) (rest := []) (n := 1) O (met_lengthOf _ g x1 M M1 r1 e1) (lw_S q1969 q1970 q84 q1971) (by decide +kernel) (by decide) (by decide) rfl rfl (Nat.le_of_ble_eq_true rfl) dX20_rounded_13 (q := 16) rfl ?_
  refine v_iload_n O.1 dX20_rounded_16 rfl (q := 17) rfl ?_
  refine v_iadd O.1 dX20_rounded_17 (q := 18) rfl ?_
  refine v_bipush O.1 dX20_rounded_18 (v := 24) (by decide) (q := 20) rfl ?_
  refine v_isub O.1 dX20_rounded_20 (q := 21) rfl ?_
  refine v_istore (lv' := [(6, .int ((r1 + x3) - 24)), (5, .int y0), (1, .long x1), (3, .int x3), (4, .int x4)]) O.1 dX20_rounded_21 (by decide) rfl (q := 23) rfl ?_
  refine v_iload O.1 dX20_rounded_23 rfl (q := 25) rfl ?_
  refine v_sipush O.1 dX20_rounded_25 (v := (-149)) (by decide) (q := 28) rfl ?_
  refine v_icmp_ge O.1 dX20_rounded_28 (t := 36) (by decide) (q := 31) rfl (fun c2 => ?_) (fun c2 => ?_)
  · rw [if_pos c2] at h
    exact v_sub [2, 3, 4, 1, 0] rfl (bm_rounded_36 O x1 x3 x4 y0 ((r1 + x3) - 24) M1 h)
  · rw [if_neg c2] at h
    refine v_sipush O.1 dX20_rounded_31 (v := (-149)) (by decide) (q := 34) rfl ?_
    refine v_istore (lv' := [(6, .int (-149)), (5, .int y0), (1, .long x1), (3, .int x3), (4, .int x4)]) O.1 dX20_rounded_34 (by decide) rfl (q := 36) rfl ?_
    exact v_sub [2, 3, 4, 1, 0] rfl (bm_rounded_36 O x1 x3 x4 y0 (-149) M1 h)
def fm_rounded (x0 : Int32) (x1 : Int64) (x3 : Int32) (x4 : Int32) (M : Mem) : Option (Int32 × Mem) :=
  if x0 = 0 then
    fm_rounded_10 x1 x3 x4 0 M
  else
    fm_rounded_10 x1 x3 x4 (-2147483648) M
set_option maxHeartbeats 4000000 in
theorem bm_rounded {g : gM} {X : Cxt} {r : Int32} {M' : Mem} (O : OkM g X cX20_rounded 14 (some .int) 1 (mQi g r M')) (x0 : Int32) (x1 : Int64) (x3 : Int32) (x4 : Int32) (M : Mem) (h : fm_rounded x0 x1 x3 x4 M = some (r, M')) : V X 14 0 (WdM g M) 0 [(0, .int x0), (1, .long x1), (3, .int x3), (4, .int x4)] [] := by
  unfold fm_rounded at h
  refine v_iload_n O.1 dX20_rounded_0 rfl (q := 1) rfl ?_
  refine v_if_eq O.1 dX20_rounded_1 (t := 9) (by decide) (q := 4) rfl (fun c1 => ?_) (fun c1 => ?_)
  · rw [if_pos c1] at h
    refine v_iconst O.1 dX20_rounded_9 (v := 0) rfl (q := 10) rfl ?_
    exact v_sub [1, 2, 3] rfl (bm_rounded_10 O x1 x3 x4 0 M h)
  · rw [if_neg c1] at h
    refine v_ldc O.1 dX20_rounded_4 q1962 (q := 6) rfl ?_
    refine v_goto O.1 dX20_rounded_6 (t := 10) (by decide) ?_
    exact v_sub [1, 2, 3] rfl (bm_rounded_10 O x1 x3 x4 (-2147483648) M h)
theorem met_rounded (l : Launch) (g : gM) (x0 : Int32) (x1 : Int64) (x3 : Int32) (x4 : Int32) (M M' : Mem) (r : Int32) (h : fm_rounded x0 x1 x3 x4 M = some (r, M')) : MetM l g yX20_rounded cX20_rounded 14 (some .int) 1 [.int x0, .long x1, .int x3, .int x4] M (mQi g r M') :=
  m_met (by decide) rfl (Nat.le_of_ble_eq_true rfl) (fun X O => bm_rounded O x0 x1 x3 x4 M h)
/-! sum(II)I -/
def fm_sum_199 (x7 : Int64) (x9 : Int64) (x11 : Int32) (x12 : Int32) (y0 : Int32) (M : Mem) : Option (Int32 × Mem) :=
  bnd (fm_rounded y0 (x7 + x9) x12 x11 M) fun r1 M1 =>
  some (r1, M1)
set_option maxHeartbeats 4000000 in
theorem bm_sum_199 {g : gM} {X : Cxt} {r : Int32} {M' : Mem} (O : OkM g X cX20_sum 13 (some .int) 2 (mQi g r M')) (x7 : Int64) (x9 : Int64) (x11 : Int32) (x12 : Int32) (y0 : Int32) (M : Mem) (h : fm_sum_199 x7 x9 x11 x12 y0 M = some (r, M')) : V X 13 0 (WdM g M) 199 [(7, .long x7), (9, .long x9), (11, .int x11), (12, .int x12)] [.int y0] := by
  unfold fm_sum_199 at h
  refine v_lload O.1 dX20_sum_199 rfl (q := 201) rfl ?_
  refine v_lload O.1 dX20_sum_201 rfl (q := 203) rfl ?_
  refine v_ladd O.1 dX20_sum_203 (q := 204) rfl ?_
  refine v_iload O.1 dX20_sum_204 rfl (q := 206) rfl ?_
  refine v_iload O.1 dX20_sum_206 rfl (q := 208) rfl ?_
  obtain ⟨r1, M1, e1, h⟩ := bnd_some h
  refine m_callSi (As := [.int y0, .long (x7 + x9), .int x12, .int x11]) (rest := []) (n := 4) O (met_rounded _ g y0 (x7 + x9) x12 x11 M M1 r1 e1) (lw_S q1966 q1967 q84 q1968) (by decide +kernel) (by decide) (by decide) rfl rfl (Nat.le_of_ble_eq_true rfl) dX20_sum_208 (q := 211) rfl ?_
  exact m_iret O h dX20_sum_211
def fm_sum_226 (x7 : Int64) (x9 : Int64) (x12 : Int32) (y0 : Int32) (M : Mem) : Option (Int32 × Mem) :=
  bnd (fm_rounded y0 ((x7 - x9) - (1 : Int64)) x12 1 M) fun r1 M1 =>
  some (r1, M1)
set_option maxHeartbeats 4000000 in
theorem bm_sum_226 {g : gM} {X : Cxt} {r : Int32} {M' : Mem} (O : OkM g X cX20_sum 13 (some .int) 2 (mQi g r M')) (x7 : Int64) (x9 : Int64) (x12 : Int32) (y0 : Int32) (M : Mem) (h : fm_sum_226 x7 x9 x12 y0 M = some (r, M')) : V X 13 0 (WdM g M) 226 [(7, .long x7), (9, .long x9), (12, .int x12)] [.int y0] := by
  unfold fm_sum_226 at h
  refine v_lload O.1 dX20_sum_226 rfl (q := 228) rfl ?_
  refine v_lload O.1 dX20_sum_228 rfl (q := 230) rfl ?_
  refine v_lsub O.1 dX20_sum_230 (q := 231) rfl ?_
  refine v_lconst O.1 dX20_sum_231 (v := 1) rfl (q := 232) rfl ?_
  refine v_lsub O.1 dX20_sum_232 (q := 233) rfl ?_
  refine v_iload O.1 dX20_sum_233 rfl (q := 235) rfl ?_
  refine v_iconst O.1 dX20_sum_235 (v := 1) rfl (q := 236) rfl ?_
  obtain ⟨r1, M1, e1, h⟩ := bnd_some h
  refine m_callSi (As := [.int y0, .long ((x7 - x9) - (1 : Int64)), .int x12, .int 1]) (rest := []) (n := 4) O (met_rounded _ g y0 ((x7 - x9) - (1 : Int64)) x12 1 M M1 r1 e1) (lw_S q1966 q1967 q84 q1968) (by decide +kernel) (by decide) (by decide) rfl rfl (Nat.le_of_ble_eq_true rfl) dX20_sum_236 (q := 239) rfl ?_
  exact m_iret O h dX20_sum_239
def fm_sum_302 (y0 : Int32) (M : Mem) : Option (Int32 × Mem) :=
  some (y0, M)
set_option maxHeartbeats 4000000 in
theorem bm_sum_302 {g : gM} {X : Cxt} {r : Int32} {M' : Mem} (O : OkM g X cX20_sum 13 (some .int) 2 (mQi g r M')) (y0 : Int32) (M : Mem) (h : fm_sum_302 y0 M = some (r, M')) : V X 13 0 (WdM g M) 302 [] [.int y0] := by
  unfold fm_sum_302 at h
  exact m_iret O h dX20_sum_302
def fm_sum_267 (x7 : Int64) (x9 : Int64) (x12 : Int32) (y0 : Int32) (M : Mem) : Option (Int32 × Mem) :=
  bnd (fm_rounded y0 (x7 - x9) x12 0 M) fun r1 M1 =>
  fm_sum_302 r1 M1
set_option maxHeartbeats 4000000 in
theorem bm_sum_267 {g : gM} {X : Cxt} {r : Int32} {M' : Mem} (O : OkM g X cX20_sum 13 (some .int) 2 (mQi g r M')) (x7 : Int64) (x9 : Int64) (x12 : Int32) (y0 : Int32) (M : Mem) (h : fm_sum_267 x7 x9 x12 y0 M = some (r, M')) : V X 13 0 (WdM g M) 267 [(7, .long x7), (9, .long x9), (12, .int x12)] [.int y0] := by
  unfold fm_sum_267 at h
  refine v_lload O.1 dX20_sum_267 rfl (q := 269) rfl ?_
  refine v_lload O.1 dX20_sum_269 rfl (q := 271) rfl ?_
  refine v_lsub O.1 dX20_sum_271 (q := 272) rfl ?_
  refine v_iload O.1 dX20_sum_272 rfl (q := 274) rfl ?_
  refine v_iconst O.1 dX20_sum_274 (v := 0) rfl (q := 275) rfl ?_
  obtain ⟨r1, M1, e1, h⟩ := bnd_some h
  refine m_callSi (As := [.int y0, .long (x7 - x9), .int x12, .int 0]) (rest := []) (n := 4) O (met_rounded _ g y0 (x7 - x9) x12 0 M M1 r1 e1) (lw_S q1966 q1967 q84 q1968) (by decide +kernel) (by decide) (by decide) rfl rfl (Nat.le_of_ble_eq_true rfl) dX20_sum_275 (q := 278) rfl ?_
  refine v_goto O.1 dX20_sum_278 (t := 302) (by decide) ?_
  exact v_sub [] rfl (bm_sum_302 O r1 M1 h)
def fm_sum_291 (x7 : Int64) (x9 : Int64) (x12 : Int32) (y0 : Int32) (M : Mem) : Option (Int32 × Mem) :=
  bnd (fm_rounded y0 (x9 - x7) x12 0 M) fun r1 M1 =>
  fm_sum_302 r1 M1
set_option maxHeartbeats 4000000 in
theorem bm_sum_291 {g : gM} {X : Cxt} {r : Int32} {M' : Mem} (O : OkM g X cX20_sum 13 (some .int) 2 (mQi g r M')) (x7 : Int64) (x9 : Int64) (x12 : Int32) (y0 : Int32) (M : Mem) (h : fm_sum_291 x7 x9 x12 y0 M = some (r, M')) : V X 13 0 (WdM g M) 291 [(7, .long x7), (9, .long x9), (12, .int x12)] [.int y0] := by
  unfold fm_sum_291 at h
  refine v_lload O.1 dX20_sum_291 rfl (q := 293) rfl ?_
  refine v_lload O.1 dX20_sum_293 rfl (q := 295) rfl ?_
  refine v_lsub O.1 dX20_sum_295 (q := 296) rfl ?_
  refine v_iload O.1 dX20_sum_296 rfl (q := 298) rfl ?_
  refine v_iconst O.1 dX20_sum_298 (v := 0) rfl (q := 299) rfl ?_
  obtain ⟨r1, M1, e1, h⟩ := bnd_some h
  refine m_callSi (As := [.int y0, .long (x9 - x7), .int x12, .int 0]) (rest := []) (n := 4) O (met_rounded _ g y0 (x9 - x7) x12 0 M M1 r1 e1) (lw_S q1966 q1967 q84 q1968) (by decide +kernel) (by decide) (by decide) rfl rfl (Nat.le_of_ble_eq_true rfl) dX20_sum_299 (q := 302) rfl ?_
  exact v_sub [] rfl (bm_sum_302 O r1 M1 h)
def fm_sum_174 (x3 : Int32) (x4 : Int32) (x6 : Int32) (x7 : Int64) (x9 : Int64) (x11 : Int32) (M : Mem) : Option (Int32 × Mem) :=
  bnd (fm_place x3 M) fun r1 M1 =>
  if (x3 ^^^ x4) < 0 then
    if x11 = 0 then
      if (lg_cmp x7 x9) = 0 then
        some (0, M1)
      else
        if (lg_cmp x7 x9) ≤ 0 then
          if 0 ≤ x4 then
            fm_sum_291 x7 x9 (r1 - x6) 0 M1
          else
            fm_sum_291 x7 x9 (r1 - x6) 1 M1
        else
          if 0 ≤ x3 then
            fm_sum_267 x7 x9 (r1 - x6) 0 M1
          else
            fm_sum_267 x7 x9 (r1 - x6) 1 M1
    else
      if 0 ≤ x3 then
        fm_sum_226 x7 x9 (r1 - x6) 0 M1
      else
        fm_sum_226 x7 x9 (r1 - x6) 1 M1
  else
    if 0 ≤ x3 then
      fm_sum_199 x7 x9 x11 (r1 - x6) 0 M1
    else
      fm_sum_199 x7 x9 x11 (r1 - x6) 1 M1
set_option maxHeartbeats 4000000 in
theorem bm_sum_174 {g : gM} {X : Cxt} {r : Int32} {M' : Mem} (O : OkM g X cX20_sum 13 (some .int) 2 (mQi g r M')) (x3 : Int32) (x4 : Int32) (x6 : Int32) (x7 : Int64) (x9 : Int64) (x11 : Int32) (M : Mem) (h : fm_sum_174 x3 x4 x6 x7 x9 x11 M = some (r, M')) : V X 13 0 (WdM g M) 174 [(3, .int x3), (4, .int x4), (6, .int x6), (7, .long x7), (9, .long x9), (11, .int x11)] [] := by
  unfold fm_sum_174 at h
  refine v_iload_n O.1 dX20_sum_174 rfl (q := 175) rfl ?_
  obtain ⟨r1, M1, e1, h⟩ := bnd_some h
  refine m_callSi (As := [.int x3]) (rest := []) (n := 1) O (met_place _ g x3 M M1 r1 e1) (lw_S q1963 q1964 q84 q1965) (by decide +kernel) (by decide) (by decide) rfl rfl (Nat.le_of_ble_eq_true rfl) dX20_sum_175 (q := 178) rfl ?_
  refine v_iload O.1 dX20_sum_178 rfl (q := 180) rfl ?_
  refine v_isub O.1 dX20_sum_180 (q := 181) rfl ?_
  refine v_istore (lv' := [(12, .int (r1 - x6)), (3, .int x3), (4, .int x4), (6, .int x6), (7, .long x7), (9, .long x9), (11, .int x11)]) O.1 dX20_sum_181 (by decide) rfl (q := 183) rfl ?_
  refine v_iload_n O.1 dX20_sum_183 rfl (q := 184) rfl ?_
  refine v_iload O.1 dX20_sum_184 rfl (q := 186) rfl ?_
  refine v_ixor O.1 dX20_sum_186 (q := 187) rfl ?_
  refine v_if_lt O.1 dX20_sum_187 (t := 212) (by decide) (q := 190) rfl (fun c2 => ?_) (fun c2 => ?_)
  · rw [if_pos c2] at h
    refine v_iload O.1 dX20_sum_212 rfl (q := 214) rfl ?_
    refine v_if_eq O.1 dX20_sum_214 (t := 240) (by decide) (q := 217) rfl (fun c3 => ?_) (fun c3 => ?_)
    · rw [if_pos c3] at h
      refine v_lload O.1 dX20_sum_240 rfl (q := 242) rfl ?_
      refine v_lload O.1 dX20_sum_242 rfl (q := 244) rfl ?_
      refine v_lcmp O.1 dX20_sum_244 (q := 245) rfl ?_
      refine v_if_ne O.1 dX20_sum_245 (t := 250) (by decide) (q := 248) rfl (fun c4 => ?_) (fun c4 => ?_)
      · rw [if_neg c4] at h
        refine v_lload O.1 dX20_sum_250 rfl (q := 252) rfl ?_
        refine v_lload O.1 dX20_sum_252 rfl (q := 254) rfl ?_
        refine v_lcmp O.1 dX20_sum_254 (q := 255) rfl ?_
        refine v_if_le O.1 dX20_sum_255 (t := 281) (by decide) (q := 258) rfl (fun c5 => ?_) (fun c5 => ?_)
        · rw [if_pos c5] at h
          refine v_iload O.1 dX20_sum_281 rfl (q := 283) rfl ?_
          refine v_if_ge O.1 dX20_sum_283 (t := 290) (by decide) (q := 286) rfl (fun c6 => ?_) (fun c6 => ?_)
          · rw [if_pos c6] at h
            refine v_iconst O.1 dX20_sum_290 (v := 0) rfl (q := 291) rfl ?_
            exact v_sub [4, 5, 0] rfl (bm_sum_291 O x7 x9 (r1 - x6) 0 M1 h)
          · rw [if_neg c6] at h
            refine v_iconst O.1 dX20_sum_286 (v := 1) rfl (q := 287) rfl ?_
            refine v_goto O.1 dX20_sum_287 (t := 291) (by decide) ?_
            exact v_sub [4, 5, 0] rfl (bm_sum_291 O x7 x9 (r1 - x6) 1 M1 h)
        · rw [if_neg c5] at h
          refine v_iload_n O.1 dX20_sum_258 rfl (q := 259) rfl ?_
          refine v_if_ge O.1 dX20_sum_259 (t := 266) (by decide) (q := 262) rfl (fun c7 => ?_) (fun c7 => ?_)
          · rw [if_pos c7] at h
            refine v_iconst O.1 dX20_sum_266 (v := 0) rfl (q := 267) rfl ?_
            exact v_sub [4, 5, 0] rfl (bm_sum_267 O x7 x9 (r1 - x6) 0 M1 h)
          · rw [if_neg c7] at h
            refine v_iconst O.1 dX20_sum_262 (v := 1) rfl (q := 263) rfl ?_
            refine v_goto O.1 dX20_sum_263 (t := 267) (by decide) ?_
            exact v_sub [4, 5, 0] rfl (bm_sum_267 O x7 x9 (r1 - x6) 1 M1 h)
      · rw [if_pos c4] at h
        refine v_iconst O.1 dX20_sum_248 (v := 0) rfl (q := 249) rfl ?_
        exact m_iret O h dX20_sum_249
    · rw [if_neg c3] at h
      refine v_iload_n O.1 dX20_sum_217 rfl (q := 218) rfl ?_
      refine v_if_ge O.1 dX20_sum_218 (t := 225) (by decide) (q := 221) rfl (fun c8 => ?_) (fun c8 => ?_)
      · rw [if_pos c8] at h
        refine v_iconst O.1 dX20_sum_225 (v := 0) rfl (q := 226) rfl ?_
        exact v_sub [4, 5, 0] rfl (bm_sum_226 O x7 x9 (r1 - x6) 0 M1 h)
      · rw [if_neg c8] at h
        refine v_iconst O.1 dX20_sum_221 (v := 1) rfl (q := 222) rfl ?_
        refine v_goto O.1 dX20_sum_222 (t := 226) (by decide) ?_
        exact v_sub [4, 5, 0] rfl (bm_sum_226 O x7 x9 (r1 - x6) 1 M1 h)
  · rw [if_neg c2] at h
    refine v_iload_n O.1 dX20_sum_190 rfl (q := 191) rfl ?_
    refine v_if_ge O.1 dX20_sum_191 (t := 198) (by decide) (q := 194) rfl (fun c9 => ?_) (fun c9 => ?_)
    · rw [if_pos c9] at h
      refine v_iconst O.1 dX20_sum_198 (v := 0) rfl (q := 199) rfl ?_
      exact v_sub [4, 5, 6, 0] rfl (bm_sum_199 O x7 x9 x11 (r1 - x6) 0 M1 h)
    · rw [if_neg c9] at h
      refine v_iconst O.1 dX20_sum_194 (v := 1) rfl (q := 195) rfl ?_
      refine v_goto O.1 dX20_sum_195 (t := 199) (by decide) ?_
      exact v_sub [4, 5, 6, 0] rfl (bm_sum_199 O x7 x9 x11 (r1 - x6) 1 M1 h)
def fm_sum_162 (K136 : Int32 → Int32 → Int32 → Int32 → Int64 → Int64 → Int32 → Int32 → Mem → Option (Int32 × Mem)) (x3 : Int32) (x4 : Int32) (x5 : Int32) (x6 : Int32) (x7 : Int64) (x9 : Int64) (x11 : Int32) (x12 : Int32) (M : Mem) : Option (Int32 × Mem) :=
  K136 x3 x4 x5 x6 x7 (x9 >>> ((1 : Int32).toInt64 &&& 63)) x11 (x12 + 1) M
set_option maxHeartbeats 4000000 in
theorem bm_sum_162 {g : gM} {X : Cxt} {r : Int32} {M' : Mem} (O : OkM g X cX20_sum 13 (some .int) 2 (mQi g r M')) {K136 : Int32 → Int32 → Int32 → Int32 → Int64 → Int64 → Int32 → Int32 → Mem → Option (Int32 × Mem)} (hK136 : ∀ (x3 : Int32) (x4 : Int32) (x5 : Int32) (x6 : Int32) (x7 : Int64) (x9 : Int64) (x11 : Int32) (x12 : Int32) (M : Mem), K136 x3 x4 x5 x6 x7 x9 x11 x12 M = some (r, M') → V X 13 0 (WdM g M) 136 [(3, .int x3), (4, .int x4), (5, .int x5), (6, .int x6), (7, .long x7), (9, .long x9), (11, .int x11), (12, .int x12)] []) (x3 : Int32) (x4 : Int32) (x5 : Int32) (x6 : Int32) (x7 : Int64) (x9 : Int64) (x11 : Int32) (x12 : Int32) (M : Mem) (h : fm_sum_162 K136 x3 x4 x5 x6 x7 x9 x11 x12 M = some (r, M')) : V X 13 0 (WdM g M) 162 [(3, .int x3), (4, .int x4), (5, .int x5), (6, .int x6), (7, .long x7), (9, .long x9), (11, .int x11), (12, .int x12)] [] := by
  unfold fm_sum_162 at h
  refine v_lload O.1 dX20_sum_162 rfl (q := 164) rfl ?_
  refine v_iconst O.1 dX20_sum_164 (v := 1) rfl (q := 165) rfl ?_
  refine v_lshr O.1 dX20_sum_165 (q := 166) rfl ?_
  refine v_lstore (lv' := [(9, .long (x9 >>> ((1 : Int32).toInt64 &&& 63))), (3, .int x3), (4, .int x4), (5, .int x5), (6, .int x6), (7, .long x7), (11, .int x11), (12, .int x12)]) O.1 dX20_sum_166 (by decide) rfl (q := 168) rfl ?_
  refine v_iinc (lv' := [(12, .int (x12 + 1)), (9, .long (x9 >>> ((1 : Int32).toInt64 &&& 63))), (3, .int x3), (4, .int x4), (5, .int x5), (6, .int x6), (7, .long x7), (11, .int x11)]) (v := (x12 + 1)) O.1 dX20_sum_168 rfl rfl (by decide) rfl (q := 171) rfl ?_
  refine v_goto O.1 dX20_sum_171 (t := 136) (by decide) ?_
  exact v_sub [2, 3, 4, 5, 6, 1, 7, 0] rfl (hK136 x3 x4 x5 x6 x7 (x9 >>> ((1 : Int32).toInt64 &&& 63)) x11 (x12 + 1) M h)
def fm_sum_136b (K136 : Int32 → Int32 → Int32 → Int32 → Int64 → Int64 → Int32 → Int32 → Mem → Option (Int32 × Mem)) (x3 : Int32) (x4 : Int32) (x5 : Int32) (x6 : Int32) (x7 : Int64) (x9 : Int64) (x11 : Int32) (x12 : Int32) (M : Mem) : Option (Int32 × Mem) :=
  if x5 ≤ x12 then
    fm_sum_174 x3 x4 x6 x7 x9 x11 M
  else
    if (lg_cmp x9 (0 : Int64)) ≤ 0 then
      fm_sum_174 x3 x4 x6 x7 x9 x11 M
    else
      if (lg_cmp (x9 &&& (1 : Int64)) (1 : Int64)) = 0 then
        fm_sum_162 K136 x3 x4 x5 x6 x7 x9 1 x12 M
      else
        fm_sum_162 K136 x3 x4 x5 x6 x7 x9 x11 x12 M
set_option maxHeartbeats 4000000 in
theorem bm_sum_136b {g : gM} {X : Cxt} {r : Int32} {M' : Mem} (O : OkM g X cX20_sum 13 (some .int) 2 (mQi g r M')) {K136 : Int32 → Int32 → Int32 → Int32 → Int64 → Int64 → Int32 → Int32 → Mem → Option (Int32 × Mem)} (hK136 : ∀ (x3 : Int32) (x4 : Int32) (x5 : Int32) (x6 : Int32) (x7 : Int64) (x9 : Int64) (x11 : Int32) (x12 : Int32) (M : Mem), K136 x3 x4 x5 x6 x7 x9 x11 x12 M = some (r, M') → V X 13 0 (WdM g M) 136 [(3, .int x3), (4, .int x4), (5, .int x5), (6, .int x6), (7, .long x7), (9, .long x9), (11, .int x11), (12, .int x12)] []) (x3 : Int32) (x4 : Int32) (x5 : Int32) (x6 : Int32) (x7 : Int64) (x9 : Int64) (x11 : Int32) (x12 : Int32) (M : Mem) (h : fm_sum_136b K136 x3 x4 x5 x6 x7 x9 x11 x12 M = some (r, M')) : V X 13 0 (WdM g M) 136 [(3, .int x3), (4, .int x4), (5, .int x5), (6, .int x6), (7, .long x7), (9, .long x9), (11, .int x11), (12, .int x12)] [] := by
  unfold fm_sum_136b at h
  refine v_iload O.1 dX20_sum_136 rfl (q := 138) rfl ?_
  refine v_iload O.1 dX20_sum_138 rfl (q := 140) rfl ?_
  refine v_icmp_ge O.1 dX20_sum_140 (t := 174) (by decide) (q := 143) rfl (fun c1 => ?_) (fun c1 => ?_)
  · rw [if_pos c1] at h
    exact v_sub [0, 1, 3, 4, 5, 6] rfl (bm_sum_174 O x3 x4 x6 x7 x9 x11 M h)
  · rw [if_neg c1] at h
    refine v_lload O.1 dX20_sum_143 rfl (q := 145) rfl ?_
    refine v_lconst O.1 dX20_sum_145 (v := 0) rfl (q := 146) rfl ?_
    refine v_lcmp O.1 dX20_sum_146 (q := 147) rfl ?_
    refine v_if_le O.1 dX20_sum_147 (t := 174) (by decide) (q := 150) rfl (fun c2 => ?_) (fun c2 => ?_)
    · rw [if_pos c2] at h
      exact v_sub [0, 1, 3, 4, 5, 6] rfl (bm_sum_174 O x3 x4 x6 x7 x9 x11 M h)
    · rw [if_neg c2] at h
      refine v_lload O.1 dX20_sum_150 rfl (q := 152) rfl ?_
      refine v_lconst O.1 dX20_sum_152 (v := 1) rfl (q := 153) rfl ?_
      refine v_land O.1 dX20_sum_153 (q := 154) rfl ?_
      refine v_lconst O.1 dX20_sum_154 (v := 1) rfl (q := 155) rfl ?_
      refine v_lcmp O.1 dX20_sum_155 (q := 156) rfl ?_
      refine v_if_ne O.1 dX20_sum_156 (t := 162) (by decide) (q := 159) rfl (fun c3 => ?_) (fun c3 => ?_)
      · rw [if_neg c3] at h
        exact v_sub [0, 1, 2, 3, 4, 5, 6, 7] rfl (bm_sum_162 O hK136 x3 x4 x5 x6 x7 x9 x11 x12 M h)
      · rw [if_pos c3] at h
        refine v_iconst O.1 dX20_sum_159 (v := 1) rfl (q := 160) rfl ?_
        refine v_istore (lv' := [(11, .int 1), (3, .int x3), (4, .int x4), (5, .int x5), (6, .int x6), (7, .long x7), (9, .long x9), (12, .int x12)]) O.1 dX20_sum_160 (by decide) rfl (q := 162) rfl ?_
        exact v_sub [1, 2, 3, 4, 5, 6, 0, 7] rfl (bm_sum_162 O hK136 x3 x4 x5 x6 x7 x9 1 x12 M h)
def fm_sum_136 (n : Nat) : Int32 → Int32 → Int32 → Int32 → Int64 → Int64 → Int32 → Int32 → Mem → Option (Int32 × Mem) := lpc (fm_sum_136b) (fun _ _ _ _ _ _ _ _ _ => none) n
theorem bm_sum_136 {g : gM} {X : Cxt} {r : Int32} {M' : Mem} (O : OkM g X cX20_sum 13 (some .int) 2 (mQi g r M')) : ∀ (n : Nat) (x3 : Int32) (x4 : Int32) (x5 : Int32) (x6 : Int32) (x7 : Int64) (x9 : Int64) (x11 : Int32) (x12 : Int32) (M : Mem), fm_sum_136 n x3 x4 x5 x6 x7 x9 x11 x12 M = some (r, M') → V X 13 0 (WdM g M) 136 [(3, .int x3), (4, .int x4), (5, .int x5), (6, .int x6), (7, .long x7), (9, .long x9), (11, .int x11), (12, .int x12)] [] := by
  intro n
  induction n with
  | zero =>
    intro x3 x4 x5 x6 x7 x9 x11 x12 M h
    cases h
  | succ n ih =>
    intro x3 x4 x5 x6 x7 x9 x11 x12 M h
    exact bm_sum_136b O ih x3 x4 x5 x6 x7 x9 x11 x12 M h
def fm_sum_111 (x3 : Int32) (x4 : Int32) (x5 : Int32) (y0 : Int32) (M : Mem) : Option (Int32 × Mem) :=
  bnd (fm_fraction x3 M) fun r1 M1 =>
  bnd (fm_fraction x4 M1) fun r2 M2 =>
  fm_sum_136 600 x3 x4 x5 y0 (r1 <<< (y0.toInt64 &&& 63)) r2 0 y0 M2
set_option maxHeartbeats 4000000 in
theorem bm_sum_111 {g : gM} {X : Cxt} {r : Int32} {M' : Mem} (O : OkM g X cX20_sum 13 (some .int) 2 (mQi g r M')) (x3 : Int32) (x4 : Int32) (x5 : Int32) (y0 : Int32) (M : Mem) (h : fm_sum_111 x3 x4 x5 y0 M = some (r, M')) : V X 13 0 (WdM g M) 111 [(3, .int x3), (4, .int x4), (5, .int x5)] [.int y0] := by
  unfold fm_sum_111 at h
  refine v_istore (lv' := [(6, .int y0), (3, .int x3), (4, .int x4), (5, .int x5)]) O.1 dX20_sum_111 (by decide) rfl (q := 113) rfl ?_
  refine v_iload_n O.1 dX20_sum_113 rfl (q := 114) rfl ?_
  obtain ⟨r1, M1, e1, h⟩ := bnd_some h
  refine m_callSl (As := [.int x3]) (rest := []) (n := 1) O (met_fraction _ g x3 M M1 r1 e1) (lw_S q1957 q1958 q84 q1959) (by decide +kernel) (by decide) (by decide) rfl rfl (Nat.le_of_ble_eq_true rfl) dX20_sum_114 (q := 117) rfl ?_
  refine v_iload O.1 dX20_sum_117 rfl (q := 119) rfl ?_
  refine v_lshl O.1 dX20_sum_119 (q := 120) rfl ?_
  refine v_lstore (lv' := [(7, .long (r1 <<< (y0.toInt64 &&& 63))), (6, .int y0), (3, .int x3), (4, .int x4), (5, .int x5)]) O.1 dX20_sum_120 (by decide) rfl (q := 122) rfl ?_
  refine v_iload O.1 dX20_sum_122 rfl (q := 124) rfl ?_
  obtain ⟨r2, M2, e2, h⟩ := bnd_some h
  refine m_callSl (As := [.int x4]) (rest := []) (n := 1) O (met_fraction _ g x4 M1 M2 r2 e2) (lw_S q1957 q1958 q84 q1959) (by decide +kernel) (by decide) (by decide) rfl rfl (Nat.le_of_ble_eq_true rfl) dX20_sum_124 (q := 127) rfl ?_
  refine v_lstore (lv' := [(9, .long r2), (7, .long (r1 <<< (y0.toInt64 &&& 63))), (6, .int y0), (3, .int x3), (4, .int x4), (5, .int x5)]) O.1 dX20_sum_127 (by decide) rfl (q := 129) rfl ?_
  refine v_iconst O.1 dX20_sum_129 (v := 0) rfl (q := 130) rfl ?_
  refine v_istore (lv' := [(11, .int 0), (9, .long r2), (7, .long (r1 <<< (y0.toInt64 &&& 63))), (6, .int y0), (3, .int x3), (4, .int x4), (5, .int x5)]) O.1 dX20_sum_130 (by decide) rfl (q := 132) rfl ?_
  refine v_iload O.1 dX20_sum_132 rfl (q := 134) rfl ?_
  refine v_istore (lv' := [(12, .int y0), (11, .int 0), (9, .long r2), (7, .long (r1 <<< (y0.toInt64 &&& 63))), (6, .int y0), (3, .int x3), (4, .int x4), (5, .int x5)]) O.1 dX20_sum_134 (by decide) rfl (q := 136) rfl ?_
  exact v_sub [5, 6, 7, 4, 3, 2, 1, 0] rfl (bm_sum_136 O 600 x3 x4 x5 y0 (r1 <<< (y0.toInt64 &&& 63)) r2 0 y0 M2 h)
def fm_sum_83 (x3 : Int32) (y0 : Int32) (M : Mem) : Option (Int32 × Mem) :=
  bnd (fm_place x3 M) fun r1 M1 =>
  bnd (fm_place y0 M1) fun r2 M2 =>
  if 38 ≤ (r1 - r2) then
    fm_sum_111 x3 y0 (r1 - r2) 38 M2
  else
    fm_sum_111 x3 y0 (r1 - r2) (r1 - r2) M2
set_option maxHeartbeats 4000000 in
theorem bm_sum_83 {g : gM} {X : Cxt} {r : Int32} {M' : Mem} (O : OkM g X cX20_sum 13 (some .int) 2 (mQi g r M')) (x3 : Int32) (y0 : Int32) (M : Mem) (h : fm_sum_83 x3 y0 M = some (r, M')) : V X 13 0 (WdM g M) 83 [(3, .int x3)] [.int y0] := by
  unfold fm_sum_83 at h
  refine v_istore (lv' := [(4, .int y0), (3, .int x3)]) O.1 dX20_sum_83 (by decide) rfl (q := 85) rfl ?_
  refine v_iload_n O.1 dX20_sum_85 rfl (q := 86) rfl ?_
  obtain ⟨r1, M1, e1, h⟩ := bnd_some h
  refine m_callSi (As := [.int x3]) (rest := []) (n := 1) O (met_place _ g x3 M M1 r1 e1) (lw_S q1963 q1964 q84 q1965) (by decide +kernel) (by decide) (by decide) rfl rfl (Nat.le_of_ble_eq_true rfl) dX20_sum_86 (q := 89) rfl ?_
  refine v_iload O.1 dX20_sum_89 rfl (q := 91) rfl ?_
  obtain ⟨r2, M2, e2, h⟩ := bnd_some h
  refine m_callSi (As := [.int y0]) (rest := [.int r1]) (n := 1) O (met_place _ g y0 M1 M2 r2 e2) (lw_S q1963 q1964 q84 q1965) (by decide +kernel) (by decide) (by decide) rfl rfl (Nat.le_of_ble_eq_true rfl) dX20_sum_91 (q := 94) rfl ?_
  refine v_isub O.1 dX20_sum_94 (q := 95) rfl ?_
  refine v_istore (lv' := [(5, .int (r1 - r2)), (4, .int y0), (3, .int x3)]) O.1 dX20_sum_95 (by decide) rfl (q := 97) rfl ?_
  refine v_iload O.1 dX20_sum_97 rfl (q := 99) rfl ?_
  refine v_bipush O.1 dX20_sum_99 (v := 38) (by decide) (q := 101) rfl ?_
  refine v_icmp_ge O.1 dX20_sum_101 (t := 109) (by decide) (q := 104) rfl (fun c3 => ?_) (fun c3 => ?_)
  · rw [if_pos c3] at h
    refine v_bipush O.1 dX20_sum_109 (v := 38) (by decide) (q := 111) rfl ?_
    exact v_sub [2, 1, 0] rfl (bm_sum_111 O x3 y0 (r1 - r2) 38 M2 h)
  · rw [if_neg c3] at h
    refine v_iload O.1 dX20_sum_104 rfl (q := 106) rfl ?_
    refine v_goto O.1 dX20_sum_106 (t := 111) (by decide) ?_
    exact v_sub [2, 1, 0] rfl (bm_sum_111 O x3 y0 (r1 - r2) (r1 - r2) M2 h)
def fm_sum_73 (x0 : Int32) (x1 : Int32) (x2 : Int32) (y0 : Int32) (M : Mem) : Option (Int32 × Mem) :=
  if x2 = 0 then
    fm_sum_83 y0 x1 M
  else
    fm_sum_83 y0 x0 M
set_option maxHeartbeats 4000000 in
theorem bm_sum_73 {g : gM} {X : Cxt} {r : Int32} {M' : Mem} (O : OkM g X cX20_sum 13 (some .int) 2 (mQi g r M')) (x0 : Int32) (x1 : Int32) (x2 : Int32) (y0 : Int32) (M : Mem) (h : fm_sum_73 x0 x1 x2 y0 M = some (r, M')) : V X 13 0 (WdM g M) 73 [(0, .int x0), (1, .int x1), (2, .int x2)] [.int y0] := by
  unfold fm_sum_73 at h
  refine v_istore_n (lv' := [(3, .int y0), (0, .int x0), (1, .int x1), (2, .int x2)]) O.1 dX20_sum_73 (by decide) rfl (q := 74) rfl ?_
  refine v_iload_n O.1 dX20_sum_74 rfl (q := 75) rfl ?_
  refine v_if_eq O.1 dX20_sum_75 (t := 82) (by decide) (q := 78) rfl (fun c1 => ?_) (fun c1 => ?_)
  · rw [if_pos c1] at h
    refine v_iload_n O.1 dX20_sum_82 rfl (q := 83) rfl ?_
    exact v_sub [0] rfl (bm_sum_83 O y0 x1 M h)
  · rw [if_neg c1] at h
    refine v_iload_n O.1 dX20_sum_78 rfl (q := 79) rfl ?_
    refine v_goto O.1 dX20_sum_79 (t := 83) (by decide) ?_
    exact v_sub [0] rfl (bm_sum_83 O y0 x0 M h)
def fm_sum_63 (x0 : Int32) (x1 : Int32) (y0 : Int32) (M : Mem) : Option (Int32 × Mem) :=
  if y0 = 0 then
    fm_sum_73 x0 x1 y0 x0 M
  else
    fm_sum_73 x0 x1 y0 x1 M
set_option maxHeartbeats 4000000 in
theorem bm_sum_63 {g : gM} {X : Cxt} {r : Int32} {M' : Mem} (O : OkM g X cX20_sum 13 (some .int) 2 (mQi g r M')) (x0 : Int32) (x1 : Int32) (y0 : Int32) (M : Mem) (h : fm_sum_63 x0 x1 y0 M = some (r, M')) : V X 13 0 (WdM g M) 63 [(0, .int x0), (1, .int x1)] [.int y0] := by
  unfold fm_sum_63 at h
  refine v_istore_n (lv' := [(2, .int y0), (0, .int x0), (1, .int x1)]) O.1 dX20_sum_63 (by decide) rfl (q := 64) rfl ?_
  refine v_iload_n O.1 dX20_sum_64 rfl (q := 65) rfl ?_
  refine v_if_eq O.1 dX20_sum_65 (t := 72) (by decide) (q := 68) rfl (fun c1 => ?_) (fun c1 => ?_)
  · rw [if_pos c1] at h
    refine v_iload_n O.1 dX20_sum_72 rfl (q := 73) rfl ?_
    exact v_sub [1, 2, 0] rfl (bm_sum_73 O x0 x1 y0 x0 M h)
  · rw [if_neg c1] at h
    refine v_iload_n O.1 dX20_sum_68 rfl (q := 69) rfl ?_
    refine v_goto O.1 dX20_sum_69 (t := 73) (by decide) ?_
    exact v_sub [1, 2, 0] rfl (bm_sum_73 O x0 x1 y0 x1 M h)
def fm_sum_25 (x0 : Int32) (x1 : Int32) (M : Mem) : Option (Int32 × Mem) :=
  bnd (fm_fraction x0 M) fun r1 M1 =>
  if (lg_cmp r1 (0 : Int64)) = 0 then
    some (x1, M1)
  else
    bnd (fm_fraction x1 M1) fun r3 M3 =>
    if (lg_cmp r3 (0 : Int64)) = 0 then
      some (x0, M3)
    else
      bnd (fm_place x0 M3) fun r5 M5 =>
      bnd (fm_place x1 M5) fun r6 M6 =>
      if r6 ≤ r5 then
        fm_sum_63 x0 x1 0 M6
      else
        fm_sum_63 x0 x1 1 M6
set_option maxHeartbeats 4000000 in
theorem bm_sum_25 {g : gM} {X : Cxt} {r : Int32} {M' : Mem} (O : OkM g X cX20_sum 13 (some .int) 2 (mQi g r M')) (x0 : Int32) (x1 : Int32) (M : Mem) (h : fm_sum_25 x0 x1 M = some (r, M')) : V X 13 0 (WdM g M) 25 [(0, .int x0), (1, .int x1)] [] := by
  unfold fm_sum_25 at h
  refine v_iload_n O.1 dX20_sum_25 rfl (q := 26) rfl ?_
  obtain ⟨r1, M1, e1, h⟩ := bnd_some h
  refine m_callSl (As := [.int x0]) (rest := []) (n := 1) O (met_fraction _ g x0 M M1 r1 e1) (lw_S q1957 q1958 q84 q1959) (by decide +kernel) (by decide) (by decide) rfl rfl (Nat.le_of_ble_eq_true rfl) dX20_sum_26 (q := 29) rfl ?_
  refine v_lconst O.1 dX20_sum_29 (v := 0) rfl (q := 30) rfl ?_
  refine v_lcmp O.1 dX20_sum_30 (q := 31) rfl ?_
  refine v_if_ne O.1 dX20_sum_31 (t := 36) (by decide) (q := 34) rfl (fun c2 => ?_) (fun c2 => ?_)
  · rw [if_neg c2] at h
    refine v_iload_n O.1 dX20_sum_36 rfl (q := 37) rfl ?_
    obtain ⟨r3, M3, e3, h⟩ := bnd_some h
    refine m_callSl (As := [.int x1]) (rest := []) (n := 1) O (met_fraction _ g x1 M1 M3 r3 e3) (lw_S q1957 q1958 q84 q1959) (by decide +kernel) (by decide) (by decide) rfl rfl (Nat.le_of_ble_eq_true rfl) dX20_sum_37 (q := 40) rfl ?_
    refine v_lconst O.1 dX20_sum_40 (v := 0) rfl (q := 41) rfl ?_
    refine v_lcmp O.1 dX20_sum_41 (q := 42) rfl ?_
    refine v_if_ne O.1 dX20_sum_42 (t := 47) (by decide) (q := 45) rfl (fun c4 => ?_) (fun c4 => ?_)
    · rw [if_neg c4] at h
      refine v_iload_n O.1 dX20_sum_47 rfl (q := 48) rfl ?_
      obtain ⟨r5, M5, e5, h⟩ := bnd_some h
      refine m_callSi (As := [.int x0]) (rest := []) (n := 1) O (met_place _ g x0 M3 M5 r5 e5) (lw_S q1963 q1964 q84 q1965) (by decide +kernel) (by decide) (by decide) rfl rfl (Nat.le_of_ble_eq_true rfl) dX20_sum_48 (q := 51) rfl ?_
      refine v_iload_n O.1 dX20_sum_51 rfl (q := 52) rfl ?_
      obtain ⟨r6, M6, e6, h⟩ := bnd_some h
      refine m_callSi (As := [.int x1]) (rest := [.int r5]) (n := 1) O (met_place _ g x1 M5 M6 r6 e6) (lw_S q1963 q1964 q84 q1965) (by decide +kernel) (by decide) (by decide) rfl rfl (Nat.le_of_ble_eq_true rfl) dX20_sum_52 (q := 55) rfl ?_
      refine v_icmp_ge O.1 dX20_sum_55 (t := 62) (by decide) (q := 58) rfl (fun c7 => ?_) (fun c7 => ?_)
      · rw [if_pos c7] at h
        refine v_iconst O.1 dX20_sum_62 (v := 0) rfl (q := 63) rfl ?_
        exact v_sub [0, 1] rfl (bm_sum_63 O x0 x1 0 M6 h)
      · rw [if_neg c7] at h
        refine v_iconst O.1 dX20_sum_58 (v := 1) rfl (q := 59) rfl ?_
        refine v_goto O.1 dX20_sum_59 (t := 63) (by decide) ?_
        exact v_sub [0, 1] rfl (bm_sum_63 O x0 x1 1 M6 h)
    · rw [if_pos c4] at h
      refine v_iload_n O.1 dX20_sum_45 rfl (q := 46) rfl ?_
      exact m_iret O h dX20_sum_46
  · rw [if_pos c2] at h
    refine v_iload_n O.1 dX20_sum_34 rfl (q := 35) rfl ?_
    exact m_iret O h dX20_sum_35
def fm_sum (x0 : Int32) (x1 : Int32) (M : Mem) : Option (Int32 × Mem) :=
  bnd (fm_fraction x0 M) fun r1 M1 =>
  if (lg_cmp r1 (0 : Int64)) = 0 then
    bnd (fm_fraction x1 M1) fun r3 M3 =>
    if (lg_cmp r3 (0 : Int64)) = 0 then
      some (((x0 &&& x1) &&& (-2147483648)), M3)
    else
      fm_sum_25 x0 x1 M3
  else
    fm_sum_25 x0 x1 M1
set_option maxHeartbeats 4000000 in
theorem bm_sum {g : gM} {X : Cxt} {r : Int32} {M' : Mem} (O : OkM g X cX20_sum 13 (some .int) 2 (mQi g r M')) (x0 : Int32) (x1 : Int32) (M : Mem) (h : fm_sum x0 x1 M = some (r, M')) : V X 13 0 (WdM g M) 0 [(0, .int x0), (1, .int x1)] [] := by
  unfold fm_sum at h
  refine v_iload_n O.1 dX20_sum_0 rfl (q := 1) rfl ?_
  obtain ⟨r1, M1, e1, h⟩ := bnd_some h
  refine m_callSl (As := [.int x0]) (rest := []) (n := 1) O (met_fraction _ g x0 M M1 r1 e1) (lw_S q1957 q1958 q84 q1959) (by decide +kernel) (by decide) (by decide) rfl rfl (Nat.le_of_ble_eq_true rfl) dX20_sum_1 (q := 4) rfl ?_
  refine v_lconst O.1 dX20_sum_4 (v := 0) rfl (q := 5) rfl ?_
  refine v_lcmp O.1 dX20_sum_5 (q := 6) rfl ?_
  refine v_if_ne O.1 dX20_sum_6 (t := 25) (by decide) (q := 9) rfl (fun c2 => ?_) (fun c2 => ?_)
  · rw [if_neg c2] at h
    exact v_sub [0, 1] rfl (bm_sum_25 O x0 x1 M1 h)
  · rw [if_pos c2] at h
    refine v_iload_n O.1 dX20_sum_9 rfl (q := 10) rfl ?_
    obtain ⟨r3, M3, e3, h⟩ := bnd_some h
    refine m_callSl (As := [.int x1]) (rest := []) (n := 1) O (met_fraction _ g x1 M1 M3 r3 e3) (lw_S q1957 q1958 q84 q1959) (by decide +kernel) (by decide) (by decide) rfl rfl (Nat.le_of_ble_eq_true rfl) dX20_sum_10 (q := 13) rfl ?_
    refine v_lconst O.1 dX20_sum_13 (v := 0) rfl (q := 14) rfl ?_
    refine v_lcmp O.1 dX20_sum_14 (q := 15) rfl ?_
    refine v_if_ne O.1 dX20_sum_15 (t := 25) (by decide) (q := 18) rfl (fun c4 => ?_) (fun c4 => ?_)
    · rw [if_neg c4] at h
      exact v_sub [0, 1] rfl (bm_sum_25 O x0 x1 M3 h)
    · rw [if_pos c4] at h
      refine v_iload_n O.1 dX20_sum_18 rfl (q := 19) rfl ?_
      refine v_iload_n O.1 dX20_sum_19 rfl (q := 20) rfl ?_
      refine v_iand O.1 dX20_sum_20 (q := 21) rfl ?_
      refine v_ldc O.1 dX20_sum_21 q1962 (q := 23) rfl ?_
      refine v_iand O.1 dX20_sum_23 (q := 24) rfl ?_
      exact m_iret O h dX20_sum_24
theorem met_sum (l : Launch) (g : gM) (x0 : Int32) (x1 : Int32) (M M' : Mem) (r : Int32) (h : fm_sum x0 x1 M = some (r, M')) : MetM l g yX20_sum cX20_sum 13 (some .int) 2 [.int x0, .int x1] M (mQi g r M') :=
  m_met (by decide) rfl (Nat.le_of_ble_eq_true rfl) (fun X O => bm_sum O x0 x1 M h)
