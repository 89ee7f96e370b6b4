/-! isFinite(I)Z -/
def fm_isFinite_19 (y0 : Int32) (M : Mem) : Option (Int32 × Mem) :=
  gd (isB y0) <|
  some (y0, M)
set_option maxHeartbeats 4000000 in
theorem bm_isFinite_19 {g : gM} {X : Cxt} {r : Int32} {M' : Mem} (O : OkM g X cX20_isFinite 1 (some .boolean) 0 (mQi g r M')) (y0 : Int32) (M : Mem) (h : fm_isFinite_19 y0 M = some (r, M')) : V X 1 0 (WdM g M) 19 [] [.int y0] := by
  unfold fm_isFinite_19 at h
  obtain ⟨g1, h⟩ := gd_some h
  exact m_zret O g1 h dX20_isFinite_19
def fm_isFinite (x0 : Int32) (M : Mem) : Option (Int32 × Mem) :=
  if ((x0 >>> (23 &&& 31)) &&& 255) = 255 then
    fm_isFinite_19 0 M
  else
    fm_isFinite_19 1 M
set_option maxHeartbeats 4000000 in
theorem bm_isFinite {g : gM} {X : Cxt} {r : Int32} {M' : Mem} (O : OkM g X cX20_isFinite 1 (some .boolean) 0 (mQi g r M')) (x0 : Int32) (M : Mem) (h : fm_isFinite x0 M = some (r, M')) : V X 1 0 (WdM g M) 0 [(0, .int x0)] [] := by
  unfold fm_isFinite at h
  refine v_iload_n O.1 dX20_isFinite_0 rfl (q := 1) rfl ?_
  refine v_bipush O.1 dX20_isFinite_1 (v := 23) (by decide) (q := 3) rfl ?_
  refine v_ishr O.1 dX20_isFinite_3 (q := 4) rfl ?_
  refine v_sipush O.1 dX20_isFinite_4 (v := 255) (by decide) (q := 7) rfl ?_
  refine v_iand O.1 dX20_isFinite_7 (q := 8) rfl ?_
  refine v_sipush O.1 dX20_isFinite_8 (v := 255) (by decide) (q := 11) rfl ?_
  refine v_icmp_eq O.1 dX20_isFinite_11 (t := 18) (by decide) (q := 14) rfl (fun c1 => ?_) (fun c1 => ?_)
  · rw [if_pos c1] at h
    refine v_iconst O.1 dX20_isFinite_18 (v := 0) rfl (q := 19) rfl ?_
    exact v_sub [] rfl (bm_isFinite_19 O 0 M h)
  · rw [if_neg c1] at h
    refine v_iconst O.1 dX20_isFinite_14 (v := 1) rfl (q := 15) rfl ?_
    refine v_goto O.1 dX20_isFinite_15 (t := 19) (by decide) ?_
    exact v_sub [] rfl (bm_isFinite_19 O 1 M h)
theorem met_isFinite (l : Launch) (g : gM) (x0 : Int32) (M M' : Mem) (r : Int32) (h : fm_isFinite x0 M = some (r, M')) : MetM l g yX20_isFinite cX20_isFinite 1 (some .boolean) 0 [.int x0] M (mQi g r M') :=
  m_met (by decide) rfl (Nat.le_of_ble_eq_true rfl) (fun X O => bm_isFinite O x0 M h)
/-! product(II)I -/
def fm_product_38 (y0 : Int32) (M : Mem) : Option (Int32 × Mem) :=
  some (y0, M)
set_option maxHeartbeats 4000000 in
theorem bm_product_38 {g : gM} {X : Cxt} {r : Int32} {M' : Mem} (O : OkM g X cX20_product 5 (some .int) 2 (mQi g r M')) (y0 : Int32) (M : Mem) (h : fm_product_38 y0 M = some (r, M')) : V X 5 0 (WdM g M) 38 [] [.int y0] := by
  unfold fm_product_38 at h
  exact m_iret O h dX20_product_38
def fm_product_11 (x0 : Int32) (x1 : Int32) (y0 : Int32) (M : Mem) : Option (Int32 × Mem) :=
  bnd (fm_fraction x0 M) fun r1 M1 =>
  bnd (fm_fraction x1 M1) fun r2 M2 =>
  if (lg_cmp (r1 * r2) (0 : Int64)) = 0 then
    if y0 = 0 then
      fm_product_38 0 M2
    else
      fm_product_38 (-2147483648) M2
  else
    bnd (fm_place x0 M2) fun r4 M4 =>
    bnd (fm_place x1 M4) fun r5 M5 =>
    bnd (fm_rounded y0 (r1 * r2) (r4 + r5) 0 M5) fun r6 M6 =>
    some (r6, M6)
set_option maxHeartbeats 4000000 in
theorem bm_product_11 {g : gM} {X : Cxt} {r : Int32} {M' : Mem} (O : OkM g X cX20_product 5 (some .int) 2 (mQi g r M')) (x0 : Int32) (x1 : Int32) (y0 : Int32) (M : Mem) (h : fm_product_11 x0 x1 y0 M = some (r, M')) : V X 5 0 (WdM g M) 11 [(0, .int x0), (1, .int x1)] [.int y0] := by
  unfold fm_product_11 at h
  refine v_istore_n (lv' := [(2, .int y0), (0, .int x0), (1, .int x1)]) O.1 dX20_product_11 (by decide) rfl (q := 12) rfl ?_
  refine v_iload_n O.1 dX20_product_12 rfl (q := 13) rfl ?_
  obtain ⟨r1, M1, e1, h⟩ := bnd_some h
  refine m_callSl (As := [.int x0]) (rest := []) (n := 1) O (met_fraction _ g x0 M M1 r1 e1) (lw_S q1957 q1958 q84 q1959) (by decide +kernel) (by decide) (by decide) rfl rfl (Nat.le_of_ble_eq_true rfl) dX20_product_13 (q := 16) rfl ?_
  refine v_iload_n O.1 dX20_product_16 rfl (q := 17) rfl ?_
  obtain ⟨r2, M2, e2, h⟩ := bnd_some h
  refine m_callSl (As := [.int x1]) (rest := [.long r1]) (n := 1) O (met_fraction _ g x1 M1 M2 r2 e2) (lw_S q1957 q1958 q84 q1959) (by decide +kernel) (by decide) (by decide) rfl rfl (Nat.le_of_ble_eq_true rfl) dX20_product_17 (q := 20) rfl ?_
  refine v_lmul O.1 dX20_product_20 (q := 21) rfl ?_
  refine v_lstore_n (lv' := [(3, .long (r1 * r2)), (2, .int y0), (0, .int x0), (1, .int x1)]) O.1 dX20_product_21 (by decide) rfl (q := 22) rfl ?_
  refine v_lload_n O.1 dX20_product_22 rfl (q := 23) rfl ?_
  refine v_lconst O.1 dX20_product_23 (v := 0) rfl (q := 24) rfl ?_
  refine v_lcmp O.1 dX20_product_24 (q := 25) rfl ?_
  refine v_if_ne O.1 dX20_product_25 (t := 39) (by decide) (q := 28) rfl (fun c3 => ?_) (fun c3 => ?_)
  · rw [if_neg c3] at h
    refine v_iload_n O.1 dX20_product_39 rfl (q := 40) rfl ?_
    refine v_lload_n O.1 dX20_product_40 rfl (q := 41) rfl ?_
    refine v_iload_n O.1 dX20_product_41 rfl (q := 42) rfl ?_
    obtain ⟨r4, M4, e4, h⟩ := bnd_some h
    refine m_callSi (As := [.int x0]) (rest := [.long (r1 * r2), .int y0]) (n := 1) O (met_place _ g x0 M2 M4 r4 e4) (lw_S q1963 q1964 q84 q1965) (by decide +kernel) (by decide) (by decide) rfl rfl (Nat.le_of_ble_eq_true rfl) dX20_product_42 (q := 45) rfl ?_
    refine v_iload_n O.1 dX20_product_45 rfl (q := 46) rfl ?_
    obtain ⟨r5, M5, e5, h⟩ := bnd_some h
    refine m_callSi (As := [.int x1]) (rest := [.int r4, .long (r1 * r2), .int y0]) (n := 1) O (met_place _ g x1 M4 M5 r5 e5) (lw_S q1963 q1964 q84 q1965) (by decide +kernel) (by decide) (by decide) rfl rfl (Nat.le_of_ble_eq_true rfl) dX20_product_46 (q := 49) rfl ?_
    refine v_iadd O.1 dX20_product_49 (q := 50) rfl ?_
    refine v_iconst O.1 dX20_product_50 (v := 0) rfl (q := 51) rfl ?_
    obtain ⟨r6, M6, e6, h⟩ := bnd_some h
    refine m_callSi (As := [.int y0, .long (r1 * r2), .int (r4 + r5), .int 0]) (rest := []) (n := 4) O (met_rounded _ g y0 (r1 * r2) (r4 + r5) 0 M5 M6 r6 e6) (lw_S q1966 q1967 q84 q1968) (by decide +kernel) (by decide) (by decide) rfl rfl (Nat.le_of_ble_eq_true rfl) dX20_product_51 (q := 54) rfl ?_
    exact m_iret O h dX20_product_54
  · rw [if_pos c3] at h
    refine v_iload_n O.1 dX20_product_28 rfl (q := 29) rfl ?_
    refine v_if_eq O.1 dX20_product_29 (t := 37) (by decide) (q := 32) rfl (fun c7 => ?_) (fun c7 => ?_)
    · rw [if_pos c7] at h
      refine v_iconst O.1 dX20_product_37 (v := 0) rfl (q := 38) rfl ?_
      exact v_sub [] rfl (bm_product_38 O 0 M2 h)
    · rw [if_neg c7] at h
      refine v_ldc O.1 dX20_product_32 q1962 (q := 34) rfl ?_
      refine v_goto O.1 dX20_product_34 (t := 38) (by decide) ?_
      exact v_sub [] rfl (bm_product_38 O (-2147483648) M2 h)
def fm_product (x0 : Int32) (x1 : Int32) (M : Mem) : Option (Int32 × Mem) :=
  if 0 ≤ (x0 ^^^ x1) then
    fm_product_11 x0 x1 0 M
  else
    fm_product_11 x0 x1 1 M
set_option maxHeartbeats 4000000 in
theorem bm_product {g : gM} {X : Cxt} {r : Int32} {M' : Mem} (O : OkM g X cX20_product 5 (some .int) 2 (mQi g r M')) (x0 : Int32) (x1 : Int32) (M : Mem) (h : fm_product x0 x1 M = some (r, M')) : V X 5 0 (WdM g M) 0 [(0, .int x0), (1, .int x1)] [] := by
  unfold fm_product at h
  refine v_iload_n O.1 dX20_product_0 rfl (q := 1) rfl ?_
  refine v_iload_n O.1 dX20_product_1 rfl (q := 2) rfl ?_
  refine v_ixor O.1 dX20_product_2 (q := 3) rfl ?_
  refine v_if_ge O.1 dX20_product_3 (t := 10) (by decide) (q := 6) rfl (fun c1 => ?_) (fun c1 => ?_)
  · rw [if_pos c1] at h
    refine v_iconst O.1 dX20_product_10 (v := 0) rfl (q := 11) rfl ?_
    exact v_sub [0, 1] rfl (bm_product_11 O x0 x1 0 M h)
  · rw [if_neg c1] at h
    refine v_iconst O.1 dX20_product_6 (v := 1) rfl (q := 7) rfl ?_
    refine v_goto O.1 dX20_product_7 (t := 11) (by decide) ?_
    exact v_sub [0, 1] rfl (bm_product_11 O x0 x1 1 M h)
theorem met_product (l : Launch) (g : gM) (x0 : Int32) (x1 : Int32) (M M' : Mem) (r : Int32) (h : fm_product x0 x1 M = some (r, M')) : MetM l g yX20_product cX20_product 5 (some .int) 2 [.int x0, .int x1] M (mQi g r M') :=
  m_met (by decide) rfl (Nat.le_of_ble_eq_true rfl) (fun X O => bm_product O x0 x1 M h)
/-! faultOf([IIII)I -/
def fm_faultOf_10 (s : Nat)  (M : Mem) : Option (Int32 × Mem) :=
  some (18, M)
set_option maxHeartbeats 4000000 in
theorem bm_faultOf_10 {g : gM} {X : Cxt} {r : Int32} {M' : Mem} {s : Nat} (hs : mS s) (O : OkM g X cX20_faultOf 5 (some .int) 3 (mQi g r M'))  (M : Mem) (h : fm_faultOf_10 s  M = some (r, M')) : V X 5 0 (WdM g M) 10 [] [] := by
  unfold fm_faultOf_10 at h
  refine v_bipush O.1 dX20_faultOf_10 (v := 18) (by decide) (q := 12) rfl ?_
  exact m_iret O h dX20_faultOf_12
def fm_faultOf_193 (s : Nat)  (M : Mem) : Option (Int32 × Mem) :=
  some ((-1), M)
set_option maxHeartbeats 4000000 in
theorem bm_faultOf_193 {g : gM} {X : Cxt} {r : Int32} {M' : Mem} {s : Nat} (hs : mS s) (O : OkM g X cX20_faultOf 5 (some .int) 3 (mQi g r M'))  (M : Mem) (h : fm_faultOf_193 s  M = some (r, M')) : V X 5 0 (WdM g M) 193 [] [] := by
  unfold fm_faultOf_193 at h
  refine v_iconst O.1 dX20_faultOf_193 (v := (-1)) rfl (q := 194) rfl ?_
  exact m_iret O h dX20_faultOf_194
def fm_faultOf_176 (s : Nat) (x2 : Int32) (M : Mem) : Option (Int32 × Mem) :=
  if x2 = 26 then
    if 2 ≤ (M s 15) then
      fm_faultOf_193 s M
    else
      some (19, M)
  else
    fm_faultOf_193 s M
set_option maxHeartbeats 4000000 in
theorem bm_faultOf_176 {g : gM} {X : Cxt} {r : Int32} {M' : Mem} {s : Nat} (hs : mS s) (O : OkM g X cX20_faultOf 5 (some .int) 3 (mQi g r M')) (x2 : Int32) (M : Mem) (h : fm_faultOf_176 s x2 M = some (r, M')) : V X 5 0 (WdM g M) 176 [(1, .ref (gMa g s)), (2, .int x2)] [] := by
  unfold fm_faultOf_176 at h
  refine v_iload_n O.1 dX20_faultOf_176 rfl (q := 177) rfl ?_
  refine v_bipush O.1 dX20_faultOf_177 (v := 26) (by decide) (q := 179) rfl ?_
  refine v_icmp_ne O.1 dX20_faultOf_179 (t := 193) (by decide) (q := 182) rfl (fun c1 => ?_) (fun c1 => ?_)
  · rw [if_neg c1] at h
    exact v_sub [] rfl (bm_faultOf_193 hs O M h)
  · rw [if_pos c1] at h
    refine v_aload_n O.1 dX20_faultOf_182 rfl (q := 183) rfl ?_
    refine v_bipush O.1 dX20_faultOf_183 (v := 15) (by decide) (q := 185) rfl ?_
    refine m_iald O (mS_i hs) (mS_l hs) (n := 342) (by decide) (by decide) (j := 15) dX20_faultOf_185 (q := 186) rfl ?_
    refine v_iconst O.1 dX20_faultOf_186 (v := 2) rfl (q := 187) rfl ?_
    refine v_icmp_ge O.1 dX20_faultOf_187 (t := 193) (by decide) (q := 190) rfl (fun c2 => ?_) (fun c2 => ?_)
    · rw [if_pos c2] at h
      exact v_sub [] rfl (bm_faultOf_193 hs O M h)
    · rw [if_neg c2] at h
      refine v_bipush O.1 dX20_faultOf_190 (v := 19) (by decide) (q := 192) rfl ?_
      exact m_iret O h dX20_faultOf_192
def fm_faultOf_153 (s : Nat) (x2 : Int32) (x3 : Int32) (M : Mem) : Option (Int32 × Mem) :=
  if x2 = 25 then
    gd (inb (300 + (x3 - x3 / 20 * 20)) 342) <|
    if (M s (300 + (x3 - x3 / 20 * 20)).toNatClampNeg) = 1 then
      some (18, M)
    else
      fm_faultOf_176 s x2 M
  else
    fm_faultOf_176 s x2 M
set_option maxHeartbeats 4000000 in
theorem bm_faultOf_153 {g : gM} {X : Cxt} {r : Int32} {M' : Mem} {s : Nat} (hs : mS s) (O : OkM g X cX20_faultOf 5 (some .int) 3 (mQi g r M')) (x2 : Int32) (x3 : Int32) (M : Mem) (h : fm_faultOf_153 s x2 x3 M = some (r, M')) : V X 5 0 (WdM g M) 153 [(1, .ref (gMa g s)), (2, .int x2), (3, .int x3)] [] := by
  unfold fm_faultOf_153 at h
  refine v_iload_n O.1 dX20_faultOf_153 rfl (q := 154) rfl ?_
  refine v_bipush O.1 dX20_faultOf_154 (v := 25) (by decide) (q := 156) rfl ?_
  refine v_icmp_ne O.1 dX20_faultOf_156 (t := 176) (by decide) (q := 159) rfl (fun c1 => ?_) (fun c1 => ?_)
  · rw [if_neg c1] at h
    exact v_sub [0, 1] rfl (bm_faultOf_176 hs O x2 M h)
  · rw [if_pos c1] at h
    refine v_aload_n O.1 dX20_faultOf_159 rfl (q := 160) rfl ?_
    refine v_sipush O.1 dX20_faultOf_160 (v := 300) (by decide) (q := 163) rfl ?_
    refine v_iload_n O.1 dX20_faultOf_163 rfl (q := 164) rfl ?_
    refine v_bipush O.1 dX20_faultOf_164 (v := 20) (by decide) (q := 166) rfl ?_
    refine v_irem O.1 dX20_faultOf_166 (by decide) (q := 167) rfl ?_
    refine v_iadd O.1 dX20_faultOf_167 (q := 168) rfl ?_
    obtain ⟨g2, h⟩ := gd_some h
    refine m_iald O (mS_i hs) (mS_l hs) (n := 342) g2 rfl (j := (300 + (x3 - x3 / 20 * 20)).toNatClampNeg) dX20_faultOf_168 (q := 169) rfl ?_
    refine v_iconst O.1 dX20_faultOf_169 (v := 1) rfl (q := 170) rfl ?_
    refine v_icmp_ne O.1 dX20_faultOf_170 (t := 176) (by decide) (q := 173) rfl (fun c3 => ?_) (fun c3 => ?_)
    · rw [if_neg c3] at h
      exact v_sub [0, 1] rfl (bm_faultOf_176 hs O x2 M h)
    · rw [if_pos c3] at h
      refine v_bipush O.1 dX20_faultOf_173 (v := 18) (by decide) (q := 175) rfl ?_
      exact m_iret O h dX20_faultOf_175
def fm_faultOf_118 (s : Nat) (x2 : Int32) (x3 : Int32) (x4 : Int32) (M : Mem) : Option (Int32 × Mem) :=
  if x2 = 22 then
    gd (inb (8 + (x3 &&& 3)) 342) <|
    gd (inb (8 + (x4 &&& 3)) 342) <|
    bnd (fm_product (M s (8 + (x3 &&& 3)).toNatClampNeg) (M s (8 + (x4 &&& 3)).toNatClampNeg) M) fun r4 M4 =>
    bnd (fm_isFinite r4 M4) fun r5 M5 =>
    if r5 = 0 then
      some (18, M5)
    else
      fm_faultOf_153 s x2 x3 M5
  else
    fm_faultOf_153 s x2 x3 M
set_option maxHeartbeats 4000000 in
theorem bm_faultOf_118 {g : gM} {X : Cxt} {r : Int32} {M' : Mem} {s : Nat} (hs : mS s) (O : OkM g X cX20_faultOf 5 (some .int) 3 (mQi g r M')) (x2 : Int32) (x3 : Int32) (x4 : Int32) (M : Mem) (h : fm_faultOf_118 s x2 x3 x4 M = some (r, M')) : V X 5 0 (WdM g M) 118 [(1, .ref (gMa g s)), (2, .int x2), (3, .int x3), (4, .int x4)] [] := by
  unfold fm_faultOf_118 at h
  refine v_iload_n O.1 dX20_faultOf_118 rfl (q := 119) rfl ?_
  refine v_bipush O.1 dX20_faultOf_119 (v := 22) (by decide) (q := 121) rfl ?_
  refine v_icmp_ne O.1 dX20_faultOf_121 (t := 153) (by decide) (q := 124) rfl (fun c1 => ?_) (fun c1 => ?_)
  · rw [if_neg c1] at h
    exact v_sub [0, 1, 2] rfl (bm_faultOf_153 hs O x2 x3 M h)
  · rw [if_pos c1] at h
    refine v_aload_n O.1 dX20_faultOf_124 rfl (q := 125) rfl ?_
    refine v_bipush O.1 dX20_faultOf_125 (v := 8) (by decide) (q := 127) rfl ?_
    refine v_iload_n O.1 dX20_faultOf_127 rfl (q := 128) rfl ?_
    refine v_iconst O.1 dX20_faultOf_128 (v := 3) rfl (q := 129) rfl ?_
    refine v_iand O.1 dX20_faultOf_129 (q := 130) rfl ?_
    refine v_iadd O.1 dX20_faultOf_130 (q := 131) rfl ?_
    obtain ⟨g2, h⟩ := gd_some h
    refine m_iald O (mS_i hs) (mS_l hs) (n := 342) g2 rfl (j := (8 + (x3 &&& 3)).toNatClampNeg) dX20_faultOf_131 (q := 132) rfl ?_
    refine v_aload_n O.1 dX20_faultOf_132 rfl (q := 133) rfl ?_
    refine v_bipush O.1 dX20_faultOf_133 (v := 8) (by decide) (q := 135) rfl ?_
    refine v_iload O.1 dX20_faultOf_135 rfl (q := 137) rfl ?_
    refine v_iconst O.1 dX20_faultOf_137 (v := 3) rfl (q := 138) rfl ?_
    refine v_iand O.1 dX20_faultOf_138 (q := 139) rfl ?_
    refine v_iadd O.1 dX20_faultOf_139 (q := 140) rfl ?_
    obtain ⟨g3, h⟩ := gd_some h
    refine m_iald O (mS_i hs) (mS_l hs) (n := 342) g3 rfl (j := (8 + (x4 &&& 3)).toNatClampNeg) dX20_faultOf_140 (q := 141) rfl ?_
    obtain ⟨r4, M4, e4, h⟩ := bnd_some h
    refine m_callSi (As := [.int (M s (8 + (x3 &&& 3)).toNatClampNeg), .int (M s (8 + (x4 &&& 3)).toNatClampNeg)]) (rest := []) (n := 2) O (met_product _ g (M s (8 + (x3 &&& 3)).toNatClampNeg) (M s (8 + (x4 &&& 3)).toNatClampNeg) M M4 r4 e4) (lw_S q1979 q1980 q84 q1981) (by decide +kernel) (by decide) (by decide) rfl rfl (Nat.le_of_ble_eq_true rfl) dX20_faultOf_141 (q := 144) rfl ?_
    obtain ⟨r5, M5, e5, h⟩ := bnd_some h
    refine m_callSi (As := [.int r4]) (rest := []) (n := 1) O (met_isFinite _ g r4 M4 M5 r5 e5) (lw_S q1976 q1977 q84 q1978) (by decide +kernel) (by decide) (by decide) rfl rfl (Nat.le_of_ble_eq_true rfl) dX20_faultOf_144 (q := 147) rfl ?_
    refine v_if_ne O.1 dX20_faultOf_147 (t := 153) (by decide) (q := 150) rfl (fun c6 => ?_) (fun c6 => ?_)
    · rw [if_neg c6] at h
      exact v_sub [0, 1, 2] rfl (bm_faultOf_153 hs O x2 x3 M5 h)
    · rw [if_pos c6] at h
      refine v_bipush O.1 dX20_faultOf_150 (v := 18) (by decide) (q := 152) rfl ?_
      exact m_iret O h dX20_faultOf_152
def fm_faultOf_83 (s : Nat) (x2 : Int32) (x3 : Int32) (x4 : Int32) (M : Mem) : Option (Int32 × Mem) :=
  if x2 = 21 then
    gd (inb (8 + (x3 &&& 3)) 342) <|
    gd (inb (8 + (x4 &&& 3)) 342) <|
    bnd (fm_sum (M s (8 + (x3 &&& 3)).toNatClampNeg) (M s (8 + (x4 &&& 3)).toNatClampNeg) M) fun r4 M4 =>
    bnd (fm_isFinite r4 M4) fun r5 M5 =>
    if r5 = 0 then
      some (18, M5)
    else
      fm_faultOf_118 s x2 x3 x4 M5
  else
    fm_faultOf_118 s x2 x3 x4 M
set_option maxHeartbeats 4000000 in
theorem bm_faultOf_83 {g : gM} {X : Cxt} {r : Int32} {M' : Mem} {s : Nat} (hs : mS s) (O : OkM g X cX20_faultOf 5 (some .int) 3 (mQi g r M')) (x2 : Int32) (x3 : Int32) (x4 : Int32) (M : Mem) (h : fm_faultOf_83 s x2 x3 x4 M = some (r, M')) : V X 5 0 (WdM g M) 83 [(1, .ref (gMa g s)), (2, .int x2), (3, .int x3), (4, .int x4)] [] := by
  unfold fm_faultOf_83 at h
  refine v_iload_n O.1 dX20_faultOf_83 rfl (q := 84) rfl ?_
  refine v_bipush O.1 dX20_faultOf_84 (v := 21) (by decide) (q := 86) rfl ?_
  refine v_icmp_ne O.1 dX20_faultOf_86 (t := 118) (by decide) (q := 89) rfl (fun c1 => ?_) (fun c1 => ?_)
  · rw [if_neg c1] at h
    exact v_sub [0, 1, 2, 3] rfl (bm_faultOf_118 hs O x2 x3 x4 M h)
  · rw [if_pos c1] at h
    refine v_aload_n O.1 dX20_faultOf_89 rfl (q := 90) rfl ?_
    refine v_bipush O.1 dX20_faultOf_90 (v := 8) (by decide) (q := 92) rfl ?_
    refine v_iload_n O.1 dX20_faultOf_92 rfl (q := 93) rfl ?_
    refine v_iconst O.1 dX20_faultOf_93 (v := 3) rfl (q := 94) rfl ?_
    refine v_iand O.1 dX20_faultOf_94 (q := 95) rfl ?_
    refine v_iadd O.1 dX20_faultOf_95 (q := 96) rfl ?_
    obtain ⟨g2, h⟩ := gd_some h
    refine m_iald O (mS_i hs) (mS_l hs) (n := 342) g2 rfl (j := (8 + (x3 &&& 3)).toNatClampNeg) dX20_faultOf_96 (q := 97) rfl ?_
    refine v_aload_n O.1 dX20_faultOf_97 rfl (q := 98) rfl ?_
    refine v_bipush O.1 dX20_faultOf_98 (v := 8) (by decide) (q := 100) rfl ?_
    refine v_iload O.1 dX20_faultOf_100 rfl (q := 102) rfl ?_
    refine v_iconst O.1 dX20_faultOf_102 (v := 3) rfl (q := 103) rfl ?_
    refine v_iand O.1 dX20_faultOf_103 (q := 104) rfl ?_
    refine v_iadd O.1 dX20_faultOf_104 (q := 105) rfl ?_
    obtain ⟨g3, h⟩ := gd_some h
    refine m_iald O (mS_i hs) (mS_l hs) (n := 342) g3 rfl (j := (8 + (x4 &&& 3)).toNatClampNeg) dX20_faultOf_105 (q := 106) rfl ?_
    obtain ⟨r4, M4, e4, h⟩ := bnd_some h
    refine m_callSi (As := [.int (M s (8 + (x3 &&& 3)).toNatClampNeg), .int (M s (8 + (x4 &&& 3)).toNatClampNeg)]) (rest := []) (n := 2) O (met_sum _ g (M s (8 + (x3 &&& 3)).toNatClampNeg) (M s (8 + (x4 &&& 3)).toNatClampNeg) M M4 r4 e4) (lw_S q1954 q1955 q84 q1956) (by decide +kernel) (by decide) (by decide) rfl rfl (Nat.le_of_ble_eq_true rfl) dX20_faultOf_106 (q := 109) rfl ?_
    obtain ⟨r5, M5, e5, h⟩ := bnd_some h
    refine m_callSi (As := [.int r4]) (rest := []) (n := 1) O (met_isFinite _ g r4 M4 M5 r5 e5) (lw_S q1976 q1977 q84 q1978) (by decide +kernel) (by decide) (by decide) rfl rfl (Nat.le_of_ble_eq_true rfl) dX20_faultOf_109 (q := 112) rfl ?_
    refine v_if_ne O.1 dX20_faultOf_112 (t := 118) (by decide) (q := 115) rfl (fun c6 => ?_) (fun c6 => ?_)
    · rw [if_neg c6] at h
      exact v_sub [0, 1, 2, 3] rfl (bm_faultOf_118 hs O x2 x3 x4 M5 h)
    · rw [if_pos c6] at h
      refine v_bipush O.1 dX20_faultOf_115 (v := 18) (by decide) (q := 117) rfl ?_
      exact m_iret O h dX20_faultOf_117
def fm_faultOf_67 (s : Nat) (x2 : Int32) (x3 : Int32) (x4 : Int32) (M : Mem) : Option (Int32 × Mem) :=
  if x2 = 18 then
    if (M s 30) = 0 then
      some (18, M)
    else
      fm_faultOf_83 s x2 x3 x4 M
  else
    fm_faultOf_83 s x2 x3 x4 M
set_option maxHeartbeats 4000000 in
theorem bm_faultOf_67 {g : gM} {X : Cxt} {r : Int32} {M' : Mem} {s : Nat} (hs : mS s) (O : OkM g X cX20_faultOf 5 (some .int) 3 (mQi g r M')) (x2 : Int32) (x3 : Int32) (x4 : Int32) (M : Mem) (h : fm_faultOf_67 s x2 x3 x4 M = some (r, M')) : V X 5 0 (WdM g M) 67 [(1, .ref (gMa g s)), (2, .int x2), (3, .int x3), (4, .int x4)] [] := by
  unfold fm_faultOf_67 at h
  refine v_iload_n O.1 dX20_faultOf_67 rfl (q := 68) rfl ?_
  refine v_bipush O.1 dX20_faultOf_68 (v := 18) (by decide) (q := 70) rfl ?_
  refine v_icmp_ne O.1 dX20_faultOf_70 (t := 83) (by decide) (q := 73) rfl (fun c1 => ?_) (fun c1 => ?_)
  · rw [if_neg c1] at h
    exact v_sub [0, 1, 2, 3] rfl (bm_faultOf_83 hs O x2 x3 x4 M h)
  · rw [if_pos c1] at h
    refine v_aload_n O.1 dX20_faultOf_73 rfl (q := 74) rfl ?_
    refine v_bipush O.1 dX20_faultOf_74 (v := 30) (by decide) (q := 76) rfl ?_
    refine m_iald O (mS_i hs) (mS_l hs) (n := 342) (by decide) (by decide) (j := 30) dX20_faultOf_76 (q := 77) rfl ?_
    refine v_if_ne O.1 dX20_faultOf_77 (t := 83) (by decide) (q := 80) rfl (fun c2 => ?_) (fun c2 => ?_)
    · rw [if_neg c2] at h
      exact v_sub [0, 1, 2, 3] rfl (bm_faultOf_83 hs O x2 x3 x4 M h)
    · rw [if_pos c2] at h
      refine v_bipush O.1 dX20_faultOf_80 (v := 18) (by decide) (q := 82) rfl ?_
      exact m_iret O h dX20_faultOf_82
def fm_faultOf_51 (s : Nat) (x2 : Int32) (x3 : Int32) (x4 : Int32) (M : Mem) : Option (Int32 × Mem) :=
  if x2 = 10 then
    if (M s 15) = 0 then
      some (19, M)
    else
      fm_faultOf_67 s x2 x3 x4 M
  else
    fm_faultOf_67 s x2 x3 x4 M
set_option maxHeartbeats 4000000 in
theorem bm_faultOf_51 {g : gM} {X : Cxt} {r : Int32} {M' : Mem} {s : Nat} (hs : mS s) (O : OkM g X cX20_faultOf 5 (some .int) 3 (mQi g r M')) (x2 : Int32) (x3 : Int32) (x4 : Int32) (M : Mem) (h : fm_faultOf_51 s x2 x3 x4 M = some (r, M')) : V X 5 0 (WdM g M) 51 [(1, .ref (gMa g s)), (2, .int x2), (3, .int x3), (4, .int x4)] [] := by
  unfold fm_faultOf_51 at h
  refine v_iload_n O.1 dX20_faultOf_51 rfl (q := 52) rfl ?_
  refine v_bipush O.1 dX20_faultOf_52 (v := 10) (by decide) (q := 54) rfl ?_
  refine v_icmp_ne O.1 dX20_faultOf_54 (t := 67) (by decide) (q := 57) rfl (fun c1 => ?_) (fun c1 => ?_)
  · rw [if_neg c1] at h
    exact v_sub [0, 1, 2, 3] rfl (bm_faultOf_67 hs O x2 x3 x4 M h)
  · rw [if_pos c1] at h
    refine v_aload_n O.1 dX20_faultOf_57 rfl (q := 58) rfl ?_
    refine v_bipush O.1 dX20_faultOf_58 (v := 15) (by decide) (q := 60) rfl ?_
    refine m_iald O (mS_i hs) (mS_l hs) (n := 342) (by decide) (by decide) (j := 15) dX20_faultOf_60 (q := 61) rfl ?_
    refine v_if_ne O.1 dX20_faultOf_61 (t := 67) (by decide) (q := 64) rfl (fun c2 => ?_) (fun c2 => ?_)
    · rw [if_neg c2] at h
      exact v_sub [0, 1, 2, 3] rfl (bm_faultOf_67 hs O x2 x3 x4 M h)
    · rw [if_pos c2] at h
      refine v_bipush O.1 dX20_faultOf_64 (v := 19) (by decide) (q := 66) rfl ?_
      exact m_iret O h dX20_faultOf_66
def fm_faultOf_33 (s : Nat) (x2 : Int32) (x3 : Int32) (x4 : Int32) (M : Mem) : Option (Int32 × Mem) :=
  if x2 = 9 then
    if (M s 15) = 96 then
      some (19, M)
    else
      fm_faultOf_51 s x2 x3 x4 M
  else
    fm_faultOf_51 s x2 x3 x4 M
set_option maxHeartbeats 4000000 in
theorem bm_faultOf_33 {g : gM} {X : Cxt} {r : Int32} {M' : Mem} {s : Nat} (hs : mS s) (O : OkM g X cX20_faultOf 5 (some .int) 3 (mQi g r M')) (x2 : Int32) (x3 : Int32) (x4 : Int32) (M : Mem) (h : fm_faultOf_33 s x2 x3 x4 M = some (r, M')) : V X 5 0 (WdM g M) 33 [(1, .ref (gMa g s)), (2, .int x2), (3, .int x3), (4, .int x4)] [] := by
  unfold fm_faultOf_33 at h
  refine v_iload_n O.1 dX20_faultOf_33 rfl (q := 34) rfl ?_
  refine v_bipush O.1 dX20_faultOf_34 (v := 9) (by decide) (q := 36) rfl ?_
  refine v_icmp_ne O.1 dX20_faultOf_36 (t := 51) (by decide) (q := 39) rfl (fun c1 => ?_) (fun c1 => ?_)
  · rw [if_neg c1] at h
    exact v_sub [0, 1, 2, 3] rfl (bm_faultOf_51 hs O x2 x3 x4 M h)
  · rw [if_pos c1] at h
    refine v_aload_n O.1 dX20_faultOf_39 rfl (q := 40) rfl ?_
    refine v_bipush O.1 dX20_faultOf_40 (v := 15) (by decide) (q := 42) rfl ?_
    refine m_iald O (mS_i hs) (mS_l hs) (n := 342) (by decide) (by decide) (j := 15) dX20_faultOf_42 (q := 43) rfl ?_
    refine v_bipush O.1 dX20_faultOf_43 (v := 96) (by decide) (q := 45) rfl ?_
    refine v_icmp_ne O.1 dX20_faultOf_45 (t := 51) (by decide) (q := 48) rfl (fun c2 => ?_) (fun c2 => ?_)
    · rw [if_neg c2] at h
      exact v_sub [0, 1, 2, 3] rfl (bm_faultOf_51 hs O x2 x3 x4 M h)
    · rw [if_pos c2] at h
      refine v_bipush O.1 dX20_faultOf_48 (v := 19) (by decide) (q := 50) rfl ?_
      exact m_iret O h dX20_faultOf_50
def fm_faultOf (s : Nat) (x2 : Int32) (x3 : Int32) (x4 : Int32) (M : Mem) : Option (Int32 × Mem) :=
  if x2 = 0 then
    fm_faultOf_10 s M
  else
    if x2 ≤ 29 then
      if x2 = 5 then
        gd (inb (0 + (x4 &&& 7)) 342) <|
        if (M s (0 + (x4 &&& 7)).toNatClampNeg) = 0 then
          some (18, M)
        else
          fm_faultOf_33 s x2 x3 x4 M
      else
        fm_faultOf_33 s x2 x3 x4 M
    else
      fm_faultOf_10 s M
set_option maxHeartbeats 4000000 in
theorem bm_faultOf {g : gM} {X : Cxt} {r : Int32} {M' : Mem} {s : Nat} (hs : mS s) (O : OkM g X cX20_faultOf 5 (some .int) 3 (mQi g r M')) (x2 : Int32) (x3 : Int32) (x4 : Int32) (M : Mem) (h : fm_faultOf s x2 x3 x4 M = some (r, M')) : V X 5 0 (WdM g M) 0 [(0, .ref (gMa g 0)), (1, .ref (gMa g s)), (2, .int x2), (3, .int x3), (4, .int x4)] [] := by
  unfold fm_faultOf at h
  refine v_iload_n O.1 dX20_faultOf_0 rfl (q := 1) rfl ?_
  refine v_if_eq O.1 dX20_faultOf_1 (t := 10) (by decide) (q := 4) rfl (fun c1 => ?_) (fun c1 => ?_)
  · rw [if_pos c1] at h
    exact v_sub [] rfl (bm_faultOf_10 hs O M h)
  · rw [if_neg c1] at h
    refine v_iload_n O.1 dX20_faultOf_4 rfl (q := 5) rfl ?_
    refine v_bipush O.1 dX20_faultOf_5 (v := 29) (by decide) (q := 7) rfl ?_
    refine v_icmp_le O.1 dX20_faultOf_7 (t := 13) (by decide) (q := 10) rfl (fun c2 => ?_) (fun c2 => ?_)
    · rw [if_pos c2] at h
      refine v_iload_n O.1 dX20_faultOf_13 rfl (q := 14) rfl ?_
      refine v_iconst O.1 dX20_faultOf_14 (v := 5) rfl (q := 15) rfl ?_
      refine v_icmp_ne O.1 dX20_faultOf_15 (t := 33) (by decide) (q := 18) rfl (fun c3 => ?_) (fun c3 => ?_)
      · rw [if_neg c3] at h
        exact v_sub [1, 2, 3, 4] rfl (bm_faultOf_33 hs O x2 x3 x4 M h)
      · rw [if_pos c3] at h
        refine v_aload_n O.1 dX20_faultOf_18 rfl (q := 19) rfl ?_
        refine v_iconst O.1 dX20_faultOf_19 (v := 0) rfl (q := 20) rfl ?_
        refine v_iload O.1 dX20_faultOf_20 rfl (q := 22) rfl ?_
        refine v_bipush O.1 dX20_faultOf_22 (v := 7) (by decide) (q := 24) rfl ?_
        refine v_iand O.1 dX20_faultOf_24 (q := 25) rfl ?_
        refine v_iadd O.1 dX20_faultOf_25 (q := 26) rfl ?_
        obtain ⟨g4, h⟩ := gd_some h
        refine m_iald O (mS_i hs) (mS_l hs) (n := 342) g4 rfl (j := (0 + (x4 &&& 7)).toNatClampNeg) dX20_faultOf_26 (q := 27) rfl ?_
        refine v_if_ne O.1 dX20_faultOf_27 (t := 33) (by decide) (q := 30) rfl (fun c5 => ?_) (fun c5 => ?_)
        · rw [if_neg c5] at h
          exact v_sub [1, 2, 3, 4] rfl (bm_faultOf_33 hs O x2 x3 x4 M h)
        · rw [if_pos c5] at h
          refine v_bipush O.1 dX20_faultOf_30 (v := 18) (by decide) (q := 32) rfl ?_
          exact m_iret O h dX20_faultOf_32
    · rw [if_neg c2] at h
      exact v_sub [] rfl (bm_faultOf_10 hs O M h)
theorem met_faultOf (l : Launch) (g : gM) (s : Nat) (hs : mS s) (x2 : Int32) (x3 : Int32) (x4 : Int32) (M M' : Mem) (r : Int32) (h : fm_faultOf s x2 x3 x4 M = some (r, M')) : MetM l g yX20_faultOf cX20_faultOf 5 (some .int) 3 [.ref (gMa g 0), .ref (gMa g s), .int x2, .int x3, .int x4] M (mQi g r M') :=
  m_met (by decide) rfl (Nat.le_of_ble_eq_true rfl) (fun X O => bm_faultOf hs O x2 x3 x4 M h)
/-! made(IIII)I -/
def fm_made_45 (y0 : Int32) (M : Mem) : Option (Int32 × Mem) :=
  some (y0, M)
set_option maxHeartbeats 4000000 in
theorem bm_made_45 {g : gM} {X : Cxt} {r : Int32} {M' : Mem} (O : OkM g X cX20_made 5 (some .int) 0 (mQi g r M')) (y0 : Int32) (M : Mem) (h : fm_made_45 y0 M = some (r, M')) : V X 5 0 (WdM g M) 45 [] [.int y0] := by
  unfold fm_made_45 at h
  exact m_iret O h dX20_made_45
def fm_made_83 (y0 : Int32) (M : Mem) : Option (Int32 × Mem) :=
  some (y0, M)
set_option maxHeartbeats 4000000 in
theorem bm_made_83 {g : gM} {X : Cxt} {r : Int32} {M' : Mem} (O : OkM g X cX20_made 5 (some .int) 0 (mQi g r M')) (y0 : Int32) (M : Mem) (h : fm_made_83 y0 M = some (r, M')) : V X 5 0 (WdM g M) 83 [] [.int y0] := by
  unfold fm_made_83 at h
  exact m_iret O h dX20_made_83
def fm_made (x0 : Int32) (x1 : Int32) (x2 : Int32) (x3 : Int32) (M : Mem) : Option (Int32 × Mem) :=
  if x0 = 2 then
    some ((x1 + x2), M)
  else
    if x0 = 3 then
      some ((x1 - x2), M)
    else
      if x0 = 4 then
        some ((x1 * x2), M)
      else
        if x0 = 5 then
          if x2 = (-1) then
            fm_made_45 (-x1) M
          else
            gd (decide (¬ x2 = 0)) <|
            fm_made_45 (x1 / x2) M
        else
          if x0 = 6 then
            some ((x1 ^^^ x2), M)
          else
            if 32 ≤ (x3 &&& 63) then
              fm_made_83 (x1 >>> (((x3 &&& 63) - 32) &&& 31)) M
            else
              fm_made_83 (x1 <<< ((x3 &&& 63) &&& 31)) M
set_option maxHeartbeats 4000000 in
theorem bm_made {g : gM} {X : Cxt} {r : Int32} {M' : Mem} (O : OkM g X cX20_made 5 (some .int) 0 (mQi g r M')) (x0 : Int32) (x1 : Int32) (x2 : Int32) (x3 : Int32) (M : Mem) (h : fm_made x0 x1 x2 x3 M = some (r, M')) : V X 5 0 (WdM g M) 0 [(0, .int x0), (1, .int x1), (2, .int x2), (3, .int x3)] [] := by
  unfold fm_made at h
  refine v_iload_n O.1 dX20_made_0 rfl (q := 1) rfl ?_
  refine v_iconst O.1 dX20_made_1 (v := 2) rfl (q := 2) rfl ?_
  refine v_icmp_ne O.1 dX20_made_2 (t := 9) (by decide) (q := 5) rfl (fun c1 => ?_) (fun c1 => ?_)
  · rw [if_neg c1] at h
    refine v_iload_n O.1 dX20_made_9 rfl (q := 10) rfl ?_
    refine v_iconst O.1 dX20_made_10 (v := 3) rfl (q := 11) rfl ?_
    refine v_icmp_ne O.1 dX20_made_11 (t := 18) (by decide) (q := 14) rfl (fun c2 => ?_) (fun c2 => ?_)
    · rw [if_neg c2] at h
      refine v_iload_n O.1 dX20_made_18 rfl (q := 19) rfl ?_
      refine v_iconst O.1 dX20_made_19 (v := 4) rfl (q := 20) rfl ?_
      refine v_icmp_ne O.1 dX20_made_20 (t := 27) (by decide) (q := 23) rfl (fun c3 => ?_) (fun c3 => ?_)
      · rw [if_neg c3] at h
        refine v_iload_n O.1 dX20_made_27 rfl (q := 28) rfl ?_
        refine v_iconst O.1 dX20_made_28 (v := 5) rfl (q := 29) rfl ?_
        refine v_icmp_ne O.1 dX20_made_29 (t := 46) (by decide) (q := 32) rfl (fun c4 => ?_) (fun c4 => ?_)
        · rw [if_neg c4] at h
          refine v_iload_n O.1 dX20_made_46 rfl (q := 47) rfl ?_
          refine v_bipush O.1 dX20_made_47 (v := 6) (by decide) (q := 49) rfl ?_
          refine v_icmp_ne O.1 dX20_made_49 (t := 56) (by decide) (q := 52) rfl (fun c5 => ?_) (fun c5 => ?_)
          · rw [if_neg c5] at h
            refine v_iload_n O.1 dX20_made_56 rfl (q := 57) rfl ?_
            refine v_bipush O.1 dX20_made_57 (v := 63) (by decide) (q := 59) rfl ?_
            refine v_iand O.1 dX20_made_59 (q := 60) rfl ?_
            refine v_istore (lv' := [(4, .int (x3 &&& 63)), (0, .int x0), (1, .int x1), (2, .int x2), (3, .int x3)]) O.1 dX20_made_60 (by decide) rfl (q := 62) rfl ?_
            refine v_iload O.1 dX20_made_62 rfl (q := 64) rfl ?_
            refine v_bipush O.1 dX20_made_64 (v := 32) (by decide) (q := 66) rfl ?_
            refine v_icmp_ge O.1 dX20_made_66 (t := 76) (by decide) (q := 69) rfl (fun c6 => ?_) (fun c6 => ?_)
            · rw [if_pos c6] at h
              refine v_iload_n O.1 dX20_made_76 rfl (q := 77) rfl ?_
              refine v_iload O.1 dX20_made_77 rfl (q := 79) rfl ?_
              refine v_bipush O.1 dX20_made_79 (v := 32) (by decide) (q := 81) rfl ?_
              refine v_isub O.1 dX20_made_81 (q := 82) rfl ?_
              refine v_ishr O.1 dX20_made_82 (q := 83) rfl ?_
              exact v_sub [] rfl (bm_made_83 O (x1 >>> (((x3 &&& 63) - 32) &&& 31)) M h)
            · rw [if_neg c6] at h
              refine v_iload_n O.1 dX20_made_69 rfl (q := 70) rfl ?_
              refine v_iload O.1 dX20_made_70 rfl (q := 72) rfl ?_
              refine v_ishl O.1 dX20_made_72 (q := 73) rfl ?_
              refine v_goto O.1 dX20_made_73 (t := 83) (by decide) ?_
              exact v_sub [] rfl (bm_made_83 O (x1 <<< ((x3 &&& 63) &&& 31)) M h)
          · rw [if_pos c5] at h
            refine v_iload_n O.1 dX20_made_52 rfl (q := 53) rfl ?_
            refine v_iload_n O.1 dX20_made_53 rfl (q := 54) rfl ?_
            refine v_ixor O.1 dX20_made_54 (q := 55) rfl ?_
            exact m_iret O h dX20_made_55
        · rw [if_pos c4] at h
          refine v_iload_n O.1 dX20_made_32 rfl (q := 33) rfl ?_
          refine v_iconst O.1 dX20_made_33 (v := (-1)) rfl (q := 34) rfl ?_
          refine v_icmp_ne O.1 dX20_made_34 (t := 42) (by decide) (q := 37) rfl (fun c7 => ?_) (fun c7 => ?_)
          · rw [if_neg c7] at h
            refine v_iload_n O.1 dX20_made_42 rfl (q := 43) rfl ?_
            refine v_iload_n O.1 dX20_made_43 rfl (q := 44) rfl ?_
            obtain ⟨g8, h⟩ := gd_some h
            refine v_idiv O.1 dX20_made_44 (of_decide_eq_true g8) (q := 45) rfl ?_
            exact v_sub [] rfl (bm_made_45 O (x1 / x2) M h)
          · rw [if_pos c7] at h
            refine v_iload_n O.1 dX20_made_37 rfl (q := 38) rfl ?_
            refine v_ineg O.1 dX20_made_38 (q := 39) rfl ?_
            refine v_goto O.1 dX20_made_39 (t := 45) (by decide) ?_
            exact v_sub [] rfl (bm_made_45 O (-x1) M h)
      · rw [if_pos c3] at h
        refine v_iload_n O.1 dX20_made_23 rfl (q := 24) rfl ?_
        refine v_iload_n O.1 dX20_made_24 rfl (q := 25) rfl ?_
        refine v_imul O.1 dX20_made_25 (q := 26) rfl ?_
        exact m_iret O h dX20_made_26
    · rw [if_pos c2] at h
      refine v_iload_n O.1 dX20_made_14 rfl (q := 15) rfl ?_
      refine v_iload_n O.1 dX20_made_15 rfl (q := 16) rfl ?_
      refine v_isub O.1 dX20_made_16 (q := 17) rfl ?_
      exact m_iret O h dX20_made_17
  · rw [if_pos c1] at h
    refine v_iload_n O.1 dX20_made_5 rfl (q := 6) rfl ?_
    refine v_iload_n O.1 dX20_made_6 rfl (q := 7) rfl ?_
    refine v_iadd O.1 dX20_made_7 (q := 8) rfl ?_
    exact m_iret O h dX20_made_8
theorem met_made (l : Launch) (g : gM) (x0 : Int32) (x1 : Int32) (x2 : Int32) (x3 : Int32) (M M' : Mem) (r : Int32) (h : fm_made x0 x1 x2 x3 M = some (r, M')) : MetM l g yX20_made cX20_made 5 (some .int) 0 [.int x0, .int x1, .int x2, .int x3] M (mQi g r M') :=
  m_met (by decide) rfl (Nat.le_of_ble_eq_true rfl) (fun X O => bm_made O x0 x1 x2 x3 M h)
/-! comes([III)V -/
def fm_comes_31 (s : Nat) (y2 : Int32) (y1 : Int32) (M : Mem) : Option (Unit × Mem) :=
  gd (inb y1 342) <|
  stp (up2 M s y1.toNatClampNeg y2) fun M2 =>
  some ((), M2)
set_option maxHeartbeats 4000000 in
theorem bm_comes_31 {g : gM} {X : Cxt} {r : Unit} {M' : Mem} {s : Nat} (hs : mS s) (O : OkM g X cX20_comes 4 none 0 (mQv g r M')) (y2 : Int32) (y1 : Int32) (M : Mem) (h : fm_comes_31 s y2 y1 M = some (r, M')) : V X 4 0 (WdM g M) 31 [] [.int y2, .int y1, .ref (gMa g s)] := by
  unfold fm_comes_31 at h
  obtain ⟨g1, h⟩ := gd_some h
  obtain ⟨M2, e2, h⟩ := stp_some h
  refine m_iast O (mS_i hs) (mS_l hs) (n := 342) g1 rfl (j := y1.toNatClampNeg) dX20_comes_31 (q := 32) rfl e2 ?_
  exact m_vret O h dX20_comes_32
def fm_comes_18 (s : Nat) (x3 : Int32) (y2 : Int32) (y1 : Int32) (M : Mem) : Option (Unit × Mem) :=
  gd (inb y1 342) <|
  stp (up2 M s y1.toNatClampNeg y2) fun M2 =>
  if 0 ≤ x3 then
    fm_comes_31 s 0 14 M2
  else
    fm_comes_31 s 1 14 M2
set_option maxHeartbeats 4000000 in
theorem bm_comes_18 {g : gM} {X : Cxt} {r : Unit} {M' : Mem} {s : Nat} (hs : mS s) (O : OkM g X cX20_comes 4 none 0 (mQv g r M')) (x3 : Int32) (y2 : Int32) (y1 : Int32) (M : Mem) (h : fm_comes_18 s x3 y2 y1 M = some (r, M')) : V X 4 0 (WdM g M) 18 [(1, .ref (gMa g s)), (3, .int x3)] [.int y2, .int y1, .ref (gMa g s)] := by
  unfold fm_comes_18 at h
  obtain ⟨g1, h⟩ := gd_some h
  obtain ⟨M2, e2, h⟩ := stp_some h
  refine m_iast O (mS_i hs) (mS_l hs) (n := 342) g1 rfl (j := y1.toNatClampNeg) dX20_comes_18 (q := 19) rfl e2 ?_
  refine v_aload_n O.1 dX20_comes_19 rfl (q := 20) rfl ?_
  refine v_bipush O.1 dX20_comes_20 (v := 14) (by decide) (q := 22) rfl ?_
  refine v_iload_n O.1 dX20_comes_22 rfl (q := 23) rfl ?_
  refine v_if_ge O.1 dX20_comes_23 (t := 30) (by decide) (q := 26) rfl (fun c3 => ?_) (fun c3 => ?_)
  · rw [if_pos c3] at h
    refine v_iconst O.1 dX20_comes_30 (v := 0) rfl (q := 31) rfl ?_
    exact v_sub [] rfl (bm_comes_31 hs O 0 14 M2 h)
  · rw [if_neg c3] at h
    refine v_iconst O.1 dX20_comes_26 (v := 1) rfl (q := 27) rfl ?_
    refine v_goto O.1 dX20_comes_27 (t := 31) (by decide) ?_
    exact v_sub [] rfl (bm_comes_31 hs O 1 14 M2 h)
def fm_comes (s : Nat) (x2 : Int32) (x3 : Int32) (M : Mem) : Option (Unit × Mem) :=
  gd (inb (0 + x2) 342) <|
  stp (up2 M s (0 + x2).toNatClampNeg x3) fun M2 =>
  if x3 = 0 then
    fm_comes_18 s x3 1 13 M2
  else
    fm_comes_18 s x3 0 13 M2
set_option maxHeartbeats 4000000 in
theorem bm_comes {g : gM} {X : Cxt} {r : Unit} {M' : Mem} {s : Nat} (hs : mS s) (O : OkM g X cX20_comes 4 none 0 (mQv g r M')) (x2 : Int32) (x3 : Int32) (M : Mem) (h : fm_comes s x2 x3 M = some (r, M')) : V X 4 0 (WdM g M) 0 [(0, .ref (gMa g 0)), (1, .ref (gMa g s)), (2, .int x2), (3, .int x3)] [] := by
  unfold fm_comes at h
  refine v_aload_n O.1 dX20_comes_0 rfl (q := 1) rfl ?_
  refine v_iconst O.1 dX20_comes_1 (v := 0) rfl (q := 2) rfl ?_
  refine v_iload_n O.1 dX20_comes_2 rfl (q := 3) rfl ?_
  refine v_iadd O.1 dX20_comes_3 (q := 4) rfl ?_
  refine v_iload_n O.1 dX20_comes_4 rfl (q := 5) rfl ?_
  obtain ⟨g1, h⟩ := gd_some h
  obtain ⟨M2, e2, h⟩ := stp_some h
  refine m_iast O (mS_i hs) (mS_l hs) (n := 342) g1 rfl (j := (0 + x2).toNatClampNeg) dX20_comes_5 (q := 6) rfl e2 ?_
  refine v_aload_n O.1 dX20_comes_6 rfl (q := 7) rfl ?_
  refine v_bipush O.1 dX20_comes_7 (v := 13) (by decide) (q := 9) rfl ?_
  refine v_iload_n O.1 dX20_comes_9 rfl (q := 10) rfl ?_
  refine v_if_ne O.1 dX20_comes_10 (t := 17) (by decide) (q := 13) rfl (fun c3 => ?_) (fun c3 => ?_)
  · rw [if_neg c3] at h
    refine v_iconst O.1 dX20_comes_17 (v := 0) rfl (q := 18) rfl ?_
    exact v_sub [1, 3] rfl (bm_comes_18 hs O x3 0 13 M2 h)
  · rw [if_pos c3] at h
    refine v_iconst O.1 dX20_comes_13 (v := 1) rfl (q := 14) rfl ?_
    refine v_goto O.1 dX20_comes_14 (t := 18) (by decide) ?_
    exact v_sub [1, 3] rfl (bm_comes_18 hs O x3 1 13 M2 h)
theorem met_comes (l : Launch) (g : gM) (s : Nat) (hs : mS s) (x2 : Int32) (x3 : Int32) (M M' : Mem) (r : Unit) (h : fm_comes s x2 x3 M = some (r, M')) : MetM l g yX20_comes cX20_comes 4 none 0 [.ref (gMa g 0), .ref (gMa g s), .int x2, .int x3] M (mQv g r M') :=
  m_met (by decide) rfl (Nat.le_of_ble_eq_true rfl) (fun X O => bm_comes hs O x2 x3 M h)
/-! moves([IIII)V -/
def fm_moves_96 (s : Nat)  (M : Mem) : Option (Unit × Mem) :=
  some ((), M)
set_option maxHeartbeats 4000000 in
theorem bm_moves_96 {g : gM} {X : Cxt} {r : Unit} {M' : Mem} {s : Nat} (hs : mS s) (O : OkM g X cX20_moves 5 none 1 (mQv g r M'))  (M : Mem) (h : fm_moves_96 s  M = some (r, M')) : V X 5 0 (WdM g M) 96 [] [] := by
  unfold fm_moves_96 at h
  exact m_vret O h dX20_moves_96
def fm_moves_90 (s : Nat) (x4 : Int32) (M : Mem) : Option (Unit × Mem) :=
  stp (up2 M s 12 x4) fun M1 =>
  fm_moves_96 s M1
set_option maxHeartbeats 4000000 in
theorem bm_moves_90 {g : gM} {X : Cxt} {r : Unit} {M' : Mem} {s : Nat} (hs : mS s) (O : OkM g X cX20_moves 5 none 1 (mQv g r M')) (x4 : Int32) (M : Mem) (h : fm_moves_90 s x4 M = some (r, M')) : V X 5 0 (WdM g M) 90 [(1, .ref (gMa g s)), (4, .int x4)] [] := by
  unfold fm_moves_90 at h
  refine v_aload_n O.1 dX20_moves_90 rfl (q := 91) rfl ?_
  refine v_bipush O.1 dX20_moves_91 (v := 12) (by decide) (q := 93) rfl ?_
  refine v_iload O.1 dX20_moves_93 rfl (q := 95) rfl ?_
  obtain ⟨M1, e1, h⟩ := stp_some h
  refine m_iast O (mS_i hs) (mS_l hs) (n := 342) (by decide) (by decide) (j := 12) dX20_moves_95 (q := 96) rfl e1 ?_
  exact v_sub [] rfl (bm_moves_96 hs O M1 h)
def fm_moves_76 (s : Nat) (x2 : Int32) (x4 : Int32) (M : Mem) : Option (Unit × Mem) :=
  if x2 = 13 then
    if (M s 14) = 1 then
      fm_moves_90 s x4 M
    else
      fm_moves_96 s M
  else
    fm_moves_96 s M
set_option maxHeartbeats 4000000 in
theorem bm_moves_76 {g : gM} {X : Cxt} {r : Unit} {M' : Mem} {s : Nat} (hs : mS s) (O : OkM g X cX20_moves 5 none 1 (mQv g r M')) (x2 : Int32) (x4 : Int32) (M : Mem) (h : fm_moves_76 s x2 x4 M = some (r, M')) : V X 5 0 (WdM g M) 76 [(1, .ref (gMa g s)), (2, .int x2), (4, .int x4)] [] := by
  unfold fm_moves_76 at h
  refine v_iload_n O.1 dX20_moves_76 rfl (q := 77) rfl ?_
  refine v_bipush O.1 dX20_moves_77 (v := 13) (by decide) (q := 79) rfl ?_
  refine v_icmp_ne O.1 dX20_moves_79 (t := 96) (by decide) (q := 82) rfl (fun c1 => ?_) (fun c1 => ?_)
  · rw [if_neg c1] at h
    exact v_sub [] rfl (bm_moves_96 hs O M h)
  · rw [if_pos c1] at h
    refine v_aload_n O.1 dX20_moves_82 rfl (q := 83) rfl ?_
    refine v_bipush O.1 dX20_moves_83 (v := 14) (by decide) (q := 85) rfl ?_
    refine m_iald O (mS_i hs) (mS_l hs) (n := 342) (by decide) (by decide) (j := 14) dX20_moves_85 (q := 86) rfl ?_
    refine v_iconst O.1 dX20_moves_86 (v := 1) rfl (q := 87) rfl ?_
    refine v_icmp_ne O.1 dX20_moves_87 (t := 96) (by decide) (q := 90) rfl (fun c2 => ?_) (fun c2 => ?_)
    · rw [if_neg c2] at h
      exact v_sub [] rfl (bm_moves_96 hs O M h)
    · rw [if_pos c2] at h
      exact v_sub [0, 2] rfl (bm_moves_90 hs O x4 M h)
def fm_moves (s : Nat) (x2 : Int32) (x3 : Int32) (x4 : Int32) (M : Mem) : Option (Unit × Mem) :=
  if x2 = 9 then
    gd (inb x3 342) <|
    gd (inb (56 + (M s 15)) 342) <|
    stp (up2 M s (56 + (M s 15)).toNatClampNeg (M s x3.toNatClampNeg)) fun M12 =>
    bnd (fm_rises s 1 M12) fun r13 M13 =>
    fm_moves_96 s M13
  else
    if x2 = 10 then
      stp (up2 M s 15 ((M s 15) - 1)) fun M6 =>
      gd (inb (56 + (M6 s 15)) 342) <|
      gd (inb x3 342) <|
      stp (up2 M6 s x3.toNatClampNeg (M6 s (56 + (M6 s 15)).toNatClampNeg)) fun M9 =>
      fm_moves_96 s M9
    else
      if x2 = 11 then
        fm_moves_90 s x4 M
      else
        if x2 = 12 then
          if (M s 13) = 1 then
            fm_moves_90 s x4 M
          else
            fm_moves_76 s x2 x4 M
        else
          fm_moves_76 s x2 x4 M
set_option maxHeartbeats 4000000 in
theorem bm_moves {g : gM} {X : Cxt} {r : Unit} {M' : Mem} {s : Nat} (hs : mS s) (O : OkM g X cX20_moves 5 none 1 (mQv g r M')) (x2 : Int32) (x3 : Int32) (x4 : Int32) (M : Mem) (h : fm_moves s x2 x3 x4 M = some (r, M')) : V X 5 0 (WdM g M) 0 [(0, .ref (gMa g 0)), (1, .ref (gMa g s)), (2, .int x2), (3, .int x3), (4, .int x4)] [] := by
  unfold fm_moves at h
  refine v_iload_n O.1 dX20_moves_0 rfl (q := 1) rfl ?_
  refine v_bipush O.1 dX20_moves_1 (v := 9) (by decide) (q := 3) rfl ?_
  refine v_icmp_ne O.1 dX20_moves_3 (t := 27) (by decide) (q := 6) rfl (fun c1 => ?_) (fun c1 => ?_)
  · rw [if_neg c1] at h
    refine v_iload_n O.1 dX20_moves_27 rfl (q := 28) rfl ?_
    refine v_bipush O.1 dX20_moves_28 (v := 10) (by decide) (q := 30) rfl ?_
    refine v_icmp_ne O.1 dX20_moves_30 (t := 56) (by decide) (q := 33) rfl (fun c2 => ?_) (fun c2 => ?_)
    · rw [if_neg c2] at h
      refine v_iload_n O.1 dX20_moves_56 rfl (q := 57) rfl ?_
      refine v_bipush O.1 dX20_moves_57 (v := 11) (by decide) (q := 59) rfl ?_
      refine v_icmp_eq O.1 dX20_moves_59 (t := 90) (by decide) (q := 62) rfl (fun c3 => ?_) (fun c3 => ?_)
      · rw [if_pos c3] at h
        exact v_sub [1, 4] rfl (bm_moves_90 hs O x4 M h)
      · rw [if_neg c3] at h
        refine v_iload_n O.1 dX20_moves_62 rfl (q := 63) rfl ?_
        refine v_bipush O.1 dX20_moves_63 (v := 12) (by decide) (q := 65) rfl ?_
        refine v_icmp_ne O.1 dX20_moves_65 (t := 76) (by decide) (q := 68) rfl (fun c4 => ?_) (fun c4 => ?_)
        · rw [if_neg c4] at h
          exact v_sub [1, 2, 4] rfl (bm_moves_76 hs O x2 x4 M h)
        · rw [if_pos c4] at h
          refine v_aload_n O.1 dX20_moves_68 rfl (q := 69) rfl ?_
          refine v_bipush O.1 dX20_moves_69 (v := 13) (by decide) (q := 71) rfl ?_
          refine m_iald O (mS_i hs) (mS_l hs) (n := 342) (by decide) (by decide) (j := 13) dX20_moves_71 (q := 72) rfl ?_
          refine v_iconst O.1 dX20_moves_72 (v := 1) rfl (q := 73) rfl ?_
          refine v_icmp_eq O.1 dX20_moves_73 (t := 90) (by decide) (q := 76) rfl (fun c5 => ?_) (fun c5 => ?_)
          · rw [if_pos c5] at h
            exact v_sub [1, 4] rfl (bm_moves_90 hs O x4 M h)
          · rw [if_neg c5] at h
            exact v_sub [1, 2, 4] rfl (bm_moves_76 hs O x2 x4 M h)
    · rw [if_pos c2] at h
      refine v_aload_n O.1 dX20_moves_33 rfl (q := 34) rfl ?_
      refine v_bipush O.1 dX20_moves_34 (v := 15) (by decide) (q := 36) rfl ?_
      refine v_dup2 O.1 dX20_moves_36 rfl rfl (q := 37) rfl ?_
      refine m_iald O (mS_i hs) (mS_l hs) (n := 342) (by decide) (by decide) (j := 15) dX20_moves_37 (q := 38) rfl ?_
      refine v_iconst O.1 dX20_moves_38 (v := 1) rfl (q := 39) rfl ?_
      refine v_isub O.1 dX20_moves_39 (q := 40) rfl ?_
      obtain ⟨M6, e6, h⟩ := stp_some h
      refine m_iast O (mS_i hs) (mS_l hs) (n := 342) (by decide) (by decide) (j := 15) dX20_moves_40 (q := 41) rfl e6 ?_
      refine v_aload_n O.1 dX20_moves_41 rfl (q := 42) rfl ?_
      refine v_iload_n O.1 dX20_moves_42 rfl (q := 43) rfl ?_
      refine v_aload_n O.1 dX20_moves_43 rfl (q := 44) rfl ?_
      refine v_bipush O.1 dX20_moves_44 (v := 56) (by decide) (q := 46) rfl ?_
      refine v_aload_n O.1 dX20_moves_46 rfl (q := 47) rfl ?_
      refine v_bipush O.1 dX20_moves_47 (v := 15) (by decide) (q := 49) rfl ?_
      refine m_iald O (mS_i hs) (mS_l hs) (n := 342) (by decide) (by decide) (j := 15) dX20_moves_49 (q := 50) rfl ?_
      refine v_iadd O.1 dX20_moves_50 (q := 51) rfl ?_
      obtain ⟨g7, h⟩ := gd_some h
      refine m_iald O (mS_i hs) (mS_l hs) (n := 342) g7 rfl (j := (56 + (M6 s 15)).toNatClampNeg) dX20_moves_51 (q := 52) rfl ?_
      obtain ⟨g8, h⟩ := gd_some h
      obtain ⟨M9, e9, h⟩ := stp_some h
      refine m_iast O (mS_i hs) (mS_l hs) (n := 342) g8 rfl (j := x3.toNatClampNeg) dX20_moves_52 (q := 53) rfl e9 ?_
      refine v_goto O.1 dX20_moves_53 (t := 96) (by decide) ?_
      exact v_sub [] rfl (bm_moves_96 hs O M9 h)
  · rw [if_pos c1] at h
    refine v_aload_n O.1 dX20_moves_6 rfl (q := 7) rfl ?_
    refine v_bipush O.1 dX20_moves_7 (v := 56) (by decide) (q := 9) rfl ?_
    refine v_aload_n O.1 dX20_moves_9 rfl (q := 10) rfl ?_
    refine v_bipush O.1 dX20_moves_10 (v := 15) (by decide) (q := 12) rfl ?_
    refine m_iald O (mS_i hs) (mS_l hs) (n := 342) (by decide) (by decide) (j := 15) dX20_moves_12 (q := 13) rfl ?_
    refine v_iadd O.1 dX20_moves_13 (q := 14) rfl ?_
    refine v_aload_n O.1 dX20_moves_14 rfl (q := 15) rfl ?_
    refine v_iload_n O.1 dX20_moves_15 rfl (q := 16) rfl ?_
    obtain ⟨g10, h⟩ := gd_some h
    refine m_iald O (mS_i hs) (mS_l hs) (n := 342) g10 rfl (j := x3.toNatClampNeg) dX20_moves_16 (q := 17) rfl ?_
    obtain ⟨g11, h⟩ := gd_some h
    obtain ⟨M12, e12, h⟩ := stp_some h
    refine m_iast O (mS_i hs) (mS_l hs) (n := 342) g11 rfl (j := (56 + (M s 15)).toNatClampNeg) dX20_moves_17 (q := 18) rfl e12 ?_
    refine v_aload_n O.1 dX20_moves_18 rfl (q := 19) rfl ?_
    refine v_aload_n O.1 dX20_moves_19 rfl (q := 20) rfl ?_
    refine v_iconst O.1 dX20_moves_20 (v := 1) rfl (q := 21) rfl ?_
    obtain ⟨r13, M13, e13, h⟩ := bnd_some h
    refine m_callVv (As := [.ref (gMa g s), .int 1]) (rest := []) (n := 2) O (met_rises _ g s hs 1 M12 M13 r13 e13) (lw_V q1934 q1936 qs37 q84 q1937) (by decide +kernel) (by decide) (by decide) rfl rfl (Nat.le_of_ble_eq_true rfl) dX20_moves_21 (q := 24) rfl ?_
    refine v_goto O.1 dX20_moves_24 (t := 96) (by decide) ?_
    exact v_sub [] rfl (bm_moves_96 hs O M13 h)
theorem met_moves (l : Launch) (g : gM) (s : Nat) (hs : mS s) (x2 : Int32) (x3 : Int32) (x4 : Int32) (M M' : Mem) (r : Unit) (h : fm_moves s x2 x3 x4 M = some (r, M')) : MetM l g yX20_moves cX20_moves 5 none 1 [.ref (gMa g 0), .ref (gMa g s), .int x2, .int x3, .int x4] M (mQv g r M') :=
  m_met (by decide) rfl (Nat.le_of_ble_eq_true rfl) (fun X O => bm_moves hs O x2 x3 x4 M h)
/-! ends([I)V -/
def fm_ends_84 (s : Nat) (y2 : Int32) (M : Mem) : Option (Unit × Mem) :=
  bnd (fm_turns s y2 0 M) fun r1 M1 =>
  some ((), M1)
set_option maxHeartbeats 4000000 in
theorem bm_ends_84 {g : gM} {X : Cxt} {r : Unit} {M' : Mem} {s : Nat} (hs : mS s) (O : OkM g X cX20_ends 3 none 4 (mQv g r M')) (y2 : Int32) (M : Mem) (h : fm_ends_84 s y2 M = some (r, M')) : V X 3 0 (WdM g M) 84 [] [.int y2, .ref (gMa g s), .ref (gMa g 0)] := by
  unfold fm_ends_84 at h
  refine v_iconst O.1 dX20_ends_84 (v := 0) rfl (q := 85) rfl ?_
  obtain ⟨r1, M1, e1, h⟩ := bnd_some h
  refine m_callVv (As := [.ref (gMa g s), .int y2, .int 0]) (rest := []) (n := 3) O (met_turns _ g s hs y2 0 M M1 r1 e1) (lw_V q1906 q1908 qs30 q84 q1909) (by decide +kernel) (by decide) (by decide) rfl rfl (Nat.le_of_ble_eq_true rfl) dX20_ends_85 (q := 88) rfl ?_
  exact m_vret O h dX20_ends_88
def fm_ends_83 (s : Nat)  (M : Mem) : Option (Unit × Mem) :=
  fm_ends_84 s 3 M
set_option maxHeartbeats 4000000 in
theorem bm_ends_83 {g : gM} {X : Cxt} {r : Unit} {M' : Mem} {s : Nat} (hs : mS s) (O : OkM g X cX20_ends 3 none 4 (mQv g r M'))  (M : Mem) (h : fm_ends_83 s  M = some (r, M')) : V X 3 0 (WdM g M) 83 [] [.ref (gMa g s), .ref (gMa g 0)] := by
  unfold fm_ends_83 at h
  refine v_iconst O.1 dX20_ends_83 (v := 3) rfl (q := 84) rfl ?_
  exact v_sub [] rfl (bm_ends_84 hs O 3 M h)
def fm_ends_62 (s : Nat)  (M : Mem) : Option (Unit × Mem) :=
  if (M 0 15) = 0 then
    bnd (fm_nextOf s M) fun r2 M2 =>
    if r2 < 0 then
      fm_ends_83 s M2
    else
      fm_ends_84 s 2 M2
  else
    fm_ends_83 s M
set_option maxHeartbeats 4000000 in
theorem bm_ends_62 {g : gM} {X : Cxt} {r : Unit} {M' : Mem} {s : Nat} (hs : mS s) (O : OkM g X cX20_ends 3 none 4 (mQv g r M'))  (M : Mem) (h : fm_ends_62 s  M = some (r, M')) : V X 3 0 (WdM g M) 62 [(0, .ref (gMa g 0)), (1, .ref (gMa g s))] [] := by
  unfold fm_ends_62 at h
  refine v_aload_n O.1 dX20_ends_62 rfl (q := 63) rfl ?_
  refine v_aload_n O.1 dX20_ends_63 rfl (q := 64) rfl ?_
  refine v_aload_n O.1 dX20_ends_64 rfl (q := 65) rfl ?_
  refine m_get O 15 (v := .int (M 0 15)) (by decide) q1747 rfl rfl dX20_ends_65 (q := 68) rfl ?_
  refine v_if_ne O.1 dX20_ends_68 (t := 83) (by decide) (q := 71) rfl (fun c1 => ?_) (fun c1 => ?_)
  · rw [if_neg c1] at h
    exact v_sub [] rfl (bm_ends_83 hs O M h)
  · rw [if_pos c1] at h
    refine v_aload_n O.1 dX20_ends_71 rfl (q := 72) rfl ?_
    refine v_aload_n O.1 dX20_ends_72 rfl (q := 73) rfl ?_
    obtain ⟨r2, M2, e2, h⟩ := bnd_some h
    refine m_callVi (As := [.ref (gMa g s)]) (rest := [.ref (gMa g s), .ref (gMa g 0)]) (n := 1) O (met_nextOf _ g s hs M M2 r2 e2) (lw_V q1885 q1887 qs27 q84 q1888) (by decide +kernel) (by decide) (by decide) rfl rfl (Nat.le_of_ble_eq_true rfl) dX20_ends_73 (q := 76) rfl ?_
    refine v_if_lt O.1 dX20_ends_76 (t := 83) (by decide) (q := 79) rfl (fun c3 => ?_) (fun c3 => ?_)
    · rw [if_pos c3] at h
      exact v_sub [] rfl (bm_ends_83 hs O M2 h)
    · rw [if_neg c3] at h
      refine v_iconst O.1 dX20_ends_79 (v := 2) rfl (q := 80) rfl ?_
      refine v_goto O.1 dX20_ends_80 (t := 84) (by decide) ?_
      exact v_sub [] rfl (bm_ends_84 hs O 2 M2 h)
def fm_ends (s : Nat)  (M : Mem) : Option (Unit × Mem) :=
  stp (up2 M s 30 ((M s 30) - 1)) fun M1 =>
  gd (inb (152 + (M1 s 30)) 342) <|
  gd (inb (300 + (M1 s (152 + (M1 s 30)).toNatClampNeg)) 342) <|
  stp (up2 M1 s (300 + (M1 s (152 + (M1 s 30)).toNatClampNeg)).toNatClampNeg 0) fun M4 =>
  gd (inb (321 + (M1 s (152 + (M1 s 30)).toNatClampNeg)) 342) <|
  bnd (fm_notes 2 (M1 s (152 + (M1 s 30)).toNatClampNeg) ((M4 s 25) - (M4 s (321 + (M1 s (152 + (M1 s 30)).toNatClampNeg)).toNatClampNeg)) M4) fun r6 M6 =>
  gd (inb (215 + (M1 s (152 + (M1 s 30)).toNatClampNeg)) 342) <|
  if (M6 s (215 + (M1 s (152 + (M1 s 30)).toNatClampNeg)).toNatClampNeg) = 1 then
    bnd (fm_pends s (M1 s (152 + (M1 s 30)).toNatClampNeg) M6) fun r9 M9 =>
    fm_ends_62 s M9
  else
    fm_ends_62 s M6
set_option maxHeartbeats 4000000 in
theorem bm_ends {g : gM} {X : Cxt} {r : Unit} {M' : Mem} {s : Nat} (hs : mS s) (O : OkM g X cX20_ends 3 none 4 (mQv g r M'))  (M : Mem) (h : fm_ends s  M = some (r, M')) : V X 3 0 (WdM g M) 0 [(0, .ref (gMa g 0)), (1, .ref (gMa g s))] [] := by
  unfold fm_ends at h
  refine v_aload_n O.1 dX20_ends_0 rfl (q := 1) rfl ?_
  refine v_bipush O.1 dX20_ends_1 (v := 30) (by decide) (q := 3) rfl ?_
  refine v_dup2 O.1 dX20_ends_3 rfl rfl (q := 4) rfl ?_
  refine m_iald O (mS_i hs) (mS_l hs) (n := 342) (by decide) (by decide) (j := 30) dX20_ends_4 (q := 5) rfl ?_
  refine v_iconst O.1 dX20_ends_5 (v := 1) rfl (q := 6) rfl ?_
  refine v_isub O.1 dX20_ends_6 (q := 7) rfl ?_
  obtain ⟨M1, e1, h⟩ := stp_some h
  refine m_iast O (mS_i hs) (mS_l hs) (n := 342) (by decide) (by decide) (j := 30) dX20_ends_7 (q := 8) rfl e1 ?_
  refine v_aload_n O.1 dX20_ends_8 rfl (q := 9) rfl ?_
  refine v_sipush O.1 dX20_ends_9 (v := 152) (by decide) (q := 12) rfl ?_
  refine v_aload_n O.1 dX20_ends_12 rfl (q := 13) rfl ?_
  refine v_bipush O.1 dX20_ends_13 (v := 30) (by decide) (q := 15) rfl ?_
  refine m_iald O (mS_i hs) (mS_l hs) (n := 342) (by decide) (by decide) (j := 30) dX20_ends_15 (q := 16) rfl ?_
  refine v_iadd O.1 dX20_ends_16 (q := 17) rfl ?_
  obtain ⟨g2, h⟩ := gd_some h
  refine m_iald O (mS_i hs) (mS_l hs) (n := 342) g2 rfl (j := (152 + (M1 s 30)).toNatClampNeg) dX20_ends_17 (q := 18) rfl ?_
  refine v_istore_n (lv' := [(2, .int (M1 s (152 + (M1 s 30)).toNatClampNeg)), (0, .ref (gMa g 0)), (1, .ref (gMa g s))]) O.1 dX20_ends_18 (by decide) rfl (q := 19) rfl ?_
  refine v_aload_n O.1 dX20_ends_19 rfl (q := 20) rfl ?_
  refine v_sipush O.1 dX20_ends_20 (v := 300) (by decide) (q := 23) rfl ?_
  refine v_iload_n O.1 dX20_ends_23 rfl (q := 24) rfl ?_
  refine v_iadd O.1 dX20_ends_24 (q := 25) rfl ?_
  refine v_iconst O.1 dX20_ends_25 (v := 0) rfl (q := 26) rfl ?_
  obtain ⟨g3, h⟩ := gd_some h
  obtain ⟨M4, e4, h⟩ := stp_some h
  refine m_iast O (mS_i hs) (mS_l hs) (n := 342) g3 rfl (j := (300 + (M1 s (152 + (M1 s 30)).toNatClampNeg)).toNatClampNeg) dX20_ends_26 (q := 27) rfl e4 ?_
  refine v_aload_n O.1 dX20_ends_27 rfl (q := 28) rfl ?_
  refine v_iconst O.1 dX20_ends_28 (v := 2) rfl (q := 29) rfl ?_
  refine v_iload_n O.1 dX20_ends_29 rfl (q := 30) rfl ?_
  refine v_aload_n O.1 dX20_ends_30 rfl (q := 31) rfl ?_
  refine v_bipush O.1 dX20_ends_31 (v := 25) (by decide) (q := 33) rfl ?_
  refine m_iald O (mS_i hs) (mS_l hs) (n := 342) (by decide) (by decide) (j := 25) dX20_ends_33 (q := 34) rfl ?_
  refine v_aload_n O.1 dX20_ends_34 rfl (q := 35) rfl ?_
  refine v_sipush O.1 dX20_ends_35 (v := 321) (by decide) (q := 38) rfl ?_
  refine v_iload_n O.1 dX20_ends_38 rfl (q := 39) rfl ?_
  refine v_iadd O.1 dX20_ends_39 (q := 40) rfl ?_
  obtain ⟨g5, h⟩ := gd_some h
  refine m_iald O (mS_i hs) (mS_l hs) (n := 342) g5 rfl (j := (321 + (M1 s (152 + (M1 s 30)).toNatClampNeg)).toNatClampNeg) dX20_ends_40 (q := 41) rfl ?_
  refine v_isub O.1 dX20_ends_41 (q := 42) rfl ?_
  obtain ⟨r6, M6, e6, h⟩ := bnd_some h
  refine m_callVv (As := [.int 2, .int (M1 s (152 + (M1 s 30)).toNatClampNeg), .int ((M4 s 25) - (M4 s (321 + (M1 s (152 + (M1 s 30)).toNatClampNeg)).toNatClampNeg))]) (rest := []) (n := 3) O (met_notes _ g 2 (M1 s (152 + (M1 s 30)).toNatClampNeg) ((M4 s 25) - (M4 s (321 + (M1 s (152 + (M1 s 30)).toNatClampNeg)).toNatClampNeg)) M4 M6 r6 e6) (lw_V q1930 q1932 qs36 q84 q1933) (by decide +kernel) (by decide) (by decide) rfl rfl (Nat.le_of_ble_eq_true rfl) dX20_ends_42 (q := 45) rfl ?_
  refine v_aload_n O.1 dX20_ends_45 rfl (q := 46) rfl ?_
  refine v_sipush O.1 dX20_ends_46 (v := 215) (by decide) (q := 49) rfl ?_
  refine v_iload_n O.1 dX20_ends_49 rfl (q := 50) rfl ?_
  refine v_iadd O.1 dX20_ends_50 (q := 51) rfl ?_
  obtain ⟨g7, h⟩ := gd_some h
  refine m_iald O (mS_i hs) (mS_l hs) (n := 342) g7 rfl (j := (215 + (M1 s (152 + (M1 s 30)).toNatClampNeg)).toNatClampNeg) dX20_ends_51 (q := 52) rfl ?_
  refine v_iconst O.1 dX20_ends_52 (v := 1) rfl (q := 53) rfl ?_
  refine v_icmp_ne O.1 dX20_ends_53 (t := 62) (by decide) (q := 56) rfl (fun c8 => ?_) (fun c8 => ?_)
  · rw [if_neg c8] at h
    exact v_sub [1, 2] rfl (bm_ends_62 hs O M6 h)
  · rw [if_pos c8] at h
    refine v_aload_n O.1 dX20_ends_56 rfl (q := 57) rfl ?_
    refine v_aload_n O.1 dX20_ends_57 rfl (q := 58) rfl ?_
    refine v_iload_n O.1 dX20_ends_58 rfl (q := 59) rfl ?_
    obtain ⟨r9, M9, e9, h⟩ := bnd_some h
    refine m_callVv (As := [.ref (gMa g s), .int (M1 s (152 + (M1 s 30)).toNatClampNeg)]) (rest := []) (n := 2) O (met_pends _ g s hs (M1 s (152 + (M1 s 30)).toNatClampNeg) M6 M9 r9 e9) (lw_V q1845 q1847 qs22 q84 q1848) (by decide +kernel) (by decide) (by decide) rfl rfl (Nat.le_of_ble_eq_true rfl) dX20_ends_59 (q := 62) rfl ?_
    exact v_sub [1, 2] rfl (bm_ends_62 hs O M9 h)
theorem met_ends (l : Launch) (g : gM) (s : Nat) (hs : mS s)  (M M' : Mem) (r : Unit) (h : fm_ends s  M = some (r, M')) : MetM l g yX20_ends cX20_ends 3 none 4 [.ref (gMa g 0), .ref (gMa g s)] M (mQv g r M') :=
  m_met (by decide) rfl (Nat.le_of_ble_eq_true rfl) (fun X O => bm_ends hs O  M h)
/-! rules([III)V -/
def fm_rules_114 (s : Nat)  (M : Mem) : Option (Unit × Mem) :=
  some ((), M)
set_option maxHeartbeats 4000000 in
theorem bm_rules_114 {g : gM} {X : Cxt} {r : Unit} {M' : Mem} {s : Nat} (hs : mS s) (O : OkM g X cX20_rules 4 none 5 (mQv g r M'))  (M : Mem) (h : fm_rules_114 s  M = some (r, M')) : V X 4 0 (WdM g M) 114 [] [] := by
  unfold fm_rules_114 at h
  exact m_vret O h dX20_rules_114
def fm_rules_61 (s : Nat) (y2 : Int32) (y1 : Int32) (M : Mem) : Option (Unit × Mem) :=
  gd (inb y1 342) <|
  stp (up2 M s y1.toNatClampNeg y2) fun M2 =>
  fm_rules_114 s M2
set_option maxHeartbeats 4000000 in
theorem bm_rules_61 {g : gM} {X : Cxt} {r : Unit} {M' : Mem} {s : Nat} (hs : mS s) (O : OkM g X cX20_rules 4 none 5 (mQv g r M')) (y2 : Int32) (y1 : Int32) (M : Mem) (h : fm_rules_61 s y2 y1 M = some (r, M')) : V X 4 0 (WdM g M) 61 [] [.int y2, .int y1, .ref (gMa g s)] := by
  unfold fm_rules_61 at h
  obtain ⟨g1, h⟩ := gd_some h
  obtain ⟨M2, e2, h⟩ := stp_some h
  refine m_iast O (mS_i hs) (mS_l hs) (n := 342) g1 rfl (j := y1.toNatClampNeg) dX20_rules_61 (q := 62) rfl e2 ?_
  refine v_goto O.1 dX20_rules_62 (t := 114) (by decide) ?_
  exact v_sub [] rfl (bm_rules_114 hs O M2 h)
def fm_rules (s : Nat) (x2 : Int32) (x3 : Int32) (M : Mem) : Option (Unit × Mem) :=
  if x2 = 14 then
    bnd (fm_pends s (x3 - x3 / 18 * 18) M) fun r13 M13 =>
    fm_rules_114 s M13
  else
    if x2 = 15 then
      gd (inb (215 + (x3 - x3 / 18 * 18)) 342) <|
      if (M s (215 + (x3 - x3 / 18 * 18)).toNatClampNeg) = 1 then
        gd (inb (194 + (x3 - x3 / 18 * 18)) 342) <|
        fm_rules_61 s (M s (194 + (x3 - x3 / 18 * 18)).toNatClampNeg) (194 + (x3 - x3 / 18 * 18)) M
      else
        fm_rules_61 s (-1) (194 + (x3 - x3 / 18 * 18)) M
    else
      if x2 = 16 then
        stp (up2 M s 16 (x3 &&& 1)) fun M9 =>
        fm_rules_114 s M9
      else
        if x2 = 17 then
          stp (up2 M s 17 x3) fun M8 =>
          fm_rules_114 s M8
        else
          if x2 = 18 then
            bnd (fm_ends s M) fun r7 M7 =>
            fm_rules_114 s M7
          else
            stp (up2 M s 23 1) fun M6 =>
            fm_rules_114 s M6
set_option maxHeartbeats 4000000 in
theorem bm_rules {g : gM} {X : Cxt} {r : Unit} {M' : Mem} {s : Nat} (hs : mS s) (O : OkM g X cX20_rules 4 none 5 (mQv g r M')) (x2 : Int32) (x3 : Int32) (M : Mem) (h : fm_rules s x2 x3 M = some (r, M')) : V X 4 0 (WdM g M) 0 [(0, .ref (gMa g 0)), (1, .ref (gMa g s)), (2, .int x2), (3, .int x3)] [] := by
  unfold fm_rules at h
  refine v_iload_n O.1 dX20_rules_0 rfl (q := 1) rfl ?_
  refine v_bipush O.1 dX20_rules_1 (v := 14) (by decide) (q := 3) rfl ?_
  refine v_icmp_ne O.1 dX20_rules_3 (t := 18) (by decide) (q := 6) rfl (fun c1 => ?_) (fun c1 => ?_)
  · rw [if_neg c1] at h
    refine v_iload_n O.1 dX20_rules_18 rfl (q := 19) rfl ?_
    refine v_bipush O.1 dX20_rules_19 (v := 15) (by decide) (q := 21) rfl ?_
    refine v_icmp_ne O.1 dX20_rules_21 (t := 65) (by decide) (q := 24) rfl (fun c2 => ?_) (fun c2 => ?_)
    · rw [if_neg c2] at h
      refine v_iload_n O.1 dX20_rules_65 rfl (q := 66) rfl ?_
      refine v_bipush O.1 dX20_rules_66 (v := 16) (by decide) (q := 68) rfl ?_
      refine v_icmp_ne O.1 dX20_rules_68 (t := 81) (by decide) (q := 71) rfl (fun c3 => ?_) (fun c3 => ?_)
      · rw [if_neg c3] at h
        refine v_iload_n O.1 dX20_rules_81 rfl (q := 82) rfl ?_
        refine v_bipush O.1 dX20_rules_82 (v := 17) (by decide) (q := 84) rfl ?_
        refine v_icmp_ne O.1 dX20_rules_84 (t := 95) (by decide) (q := 87) rfl (fun c4 => ?_) (fun c4 => ?_)
        · rw [if_neg c4] at h
          refine v_iload_n O.1 dX20_rules_95 rfl (q := 96) rfl ?_
          refine v_bipush O.1 dX20_rules_96 (v := 18) (by decide) (q := 98) rfl ?_
          refine v_icmp_ne O.1 dX20_rules_98 (t := 109) (by decide) (q := 101) rfl (fun c5 => ?_) (fun c5 => ?_)
          · rw [if_neg c5] at h
            refine v_aload_n O.1 dX20_rules_109 rfl (q := 110) rfl ?_
            refine v_bipush O.1 dX20_rules_110 (v := 23) (by decide) (q := 112) rfl ?_
            refine v_iconst O.1 dX20_rules_112 (v := 1) rfl (q := 113) rfl ?_
            obtain ⟨M6, e6, h⟩ := stp_some h
            refine m_iast O (mS_i hs) (mS_l hs) (n := 342) (by decide) (by decide) (j := 23) dX20_rules_113 (q := 114) rfl e6 ?_
            exact v_sub [] rfl (bm_rules_114 hs O M6 h)
          · rw [if_pos c5] at h
            refine v_aload_n O.1 dX20_rules_101 rfl (q := 102) rfl ?_
            refine v_aload_n O.1 dX20_rules_102 rfl (q := 103) rfl ?_
            obtain ⟨r7, M7, e7, h⟩ := bnd_some h
            refine m_callVv (As := [.ref (gMa g s)]) (rest := []) (n := 1) O (met_ends _ g s hs M M7 r7 e7) (lw_V q2001 q2003 qs45 q84 q2004) (by decide +kernel) (by decide) (by decide) rfl rfl (Nat.le_of_ble_eq_true rfl) dX20_rules_103 (q := 106) rfl ?_
            refine v_goto O.1 dX20_rules_106 (t := 114) (by decide) ?_
            exact v_sub [] rfl (bm_rules_114 hs O M7 h)
        · rw [if_pos c4] at h
          refine v_aload_n O.1 dX20_rules_87 rfl (q := 88) rfl ?_
          refine v_bipush O.1 dX20_rules_88 (v := 17) (by decide) (q := 90) rfl ?_
          refine v_iload_n O.1 dX20_rules_90 rfl (q := 91) rfl ?_
          obtain ⟨M8, e8, h⟩ := stp_some h
          refine m_iast O (mS_i hs) (mS_l hs) (n := 342) (by decide) (by decide) (j := 17) dX20_rules_91 (q := 92) rfl e8 ?_
          refine v_goto O.1 dX20_rules_92 (t := 114) (by decide) ?_
          exact v_sub [] rfl (bm_rules_114 hs O M8 h)
      · rw [if_pos c3] at h
        refine v_aload_n O.1 dX20_rules_71 rfl (q := 72) rfl ?_
        refine v_bipush O.1 dX20_rules_72 (v := 16) (by decide) (q := 74) rfl ?_
        refine v_iload_n O.1 dX20_rules_74 rfl (q := 75) rfl ?_
        refine v_iconst O.1 dX20_rules_75 (v := 1) rfl (q := 76) rfl ?_
        refine v_iand O.1 dX20_rules_76 (q := 77) rfl ?_
        obtain ⟨M9, e9, h⟩ := stp_some h
        refine m_iast O (mS_i hs) (mS_l hs) (n := 342) (by decide) (by decide) (j := 16) dX20_rules_77 (q := 78) rfl e9 ?_
        refine v_goto O.1 dX20_rules_78 (t := 114) (by decide) ?_
        exact v_sub [] rfl (bm_rules_114 hs O M9 h)
    · rw [if_pos c2] at h
      refine v_aload_n O.1 dX20_rules_24 rfl (q := 25) rfl ?_
      refine v_sipush O.1 dX20_rules_25 (v := 194) (by decide) (q := 28) rfl ?_
      refine v_iload_n O.1 dX20_rules_28 rfl (q := 29) rfl ?_
      refine v_bipush O.1 dX20_rules_29 (v := 18) (by decide) (q := 31) rfl ?_
      refine v_irem O.1 dX20_rules_31 (by decide) (q := 32) rfl ?_
      refine v_iadd O.1 dX20_rules_32 (q := 33) rfl ?_
      refine v_aload_n O.1 dX20_rules_33 rfl (q := 34) rfl ?_
      refine v_sipush O.1 dX20_rules_34 (v := 215) (by decide) (q := 37) rfl ?_
      refine v_iload_n O.1 dX20_rules_37 rfl (q := 38) rfl ?_
      refine v_bipush O.1 dX20_rules_38 (v := 18) (by decide) (q := 40) rfl ?_
      refine v_irem O.1 dX20_rules_40 (by decide) (q := 41) rfl ?_
      refine v_iadd O.1 dX20_rules_41 (q := 42) rfl ?_
      obtain ⟨g10, h⟩ := gd_some h
      refine m_iald O (mS_i hs) (mS_l hs) (n := 342) g10 rfl (j := (215 + (x3 - x3 / 18 * 18)).toNatClampNeg) dX20_rules_42 (q := 43) rfl ?_
      refine v_iconst O.1 dX20_rules_43 (v := 1) rfl (q := 44) rfl ?_
      refine v_icmp_ne O.1 dX20_rules_44 (t := 60) (by decide) (q := 47) rfl (fun c11 => ?_) (fun c11 => ?_)
      · rw [if_neg c11] at h
        refine v_iconst O.1 dX20_rules_60 (v := (-1)) rfl (q := 61) rfl ?_
        exact v_sub [] rfl (bm_rules_61 hs O (-1) (194 + (x3 - x3 / 18 * 18)) M h)
      · rw [if_pos c11] at h
        refine v_aload_n O.1 dX20_rules_47 rfl (q := 48) rfl ?_
        refine v_sipush O.1 dX20_rules_48 (v := 194) (by decide) (q := 51) rfl ?_
        refine v_iload_n O.1 dX20_rules_51 rfl (q := 52) rfl ?_
        refine v_bipush O.1 dX20_rules_52 (v := 18) (by decide) (q := 54) rfl ?_
        refine v_irem O.1 dX20_rules_54 (by decide) (q := 55) rfl ?_
        refine v_iadd O.1 dX20_rules_55 (q := 56) rfl ?_
        obtain ⟨g12, h⟩ := gd_some h
        refine m_iald O (mS_i hs) (mS_l hs) (n := 342) g12 rfl (j := (194 + (x3 - x3 / 18 * 18)).toNatClampNeg) dX20_rules_56 (q := 57) rfl ?_
        refine v_goto O.1 dX20_rules_57 (t := 61) (by decide) ?_
        exact v_sub [] rfl (bm_rules_61 hs O (M s (194 + (x3 - x3 / 18 * 18)).toNatClampNeg) (194 + (x3 - x3 / 18 * 18)) M h)
  · rw [if_pos c1] at h
    refine v_aload_n O.1 dX20_rules_6 rfl (q := 7) rfl ?_
    refine v_aload_n O.1 dX20_rules_7 rfl (q := 8) rfl ?_
    refine v_iload_n O.1 dX20_rules_8 rfl (q := 9) rfl ?_
    refine v_bipush O.1 dX20_rules_9 (v := 18) (by decide) (q := 11) rfl ?_
    refine v_irem O.1 dX20_rules_11 (by decide) (q := 12) rfl ?_
    obtain ⟨r13, M13, e13, h⟩ := bnd_some h
    refine m_callVv (As := [.ref (gMa g s), .int (x3 - x3 / 18 * 18)]) (rest := []) (n := 2) O (met_pends _ g s hs (x3 - x3 / 18 * 18) M M13 r13 e13) (lw_V q1845 q1847 qs22 q84 q1848) (by decide +kernel) (by decide) (by decide) rfl rfl (Nat.le_of_ble_eq_true rfl) dX20_rules_12 (q := 15) rfl ?_
    refine v_goto O.1 dX20_rules_15 (t := 114) (by decide) ?_
    exact v_sub [] rfl (bm_rules_114 hs O M13 h)
theorem met_rules (l : Launch) (g : gM) (s : Nat) (hs : mS s) (x2 : Int32) (x3 : Int32) (M M' : Mem) (r : Unit) (h : fm_rules s x2 x3 M = some (r, M')) : MetM l g yX20_rules cX20_rules 4 none 5 [.ref (gMa g 0), .ref (gMa g s), .int x2, .int x3] M (mQv g r M') :=
  m_met (by decide) rfl (Nat.le_of_ble_eq_true rfl) (fun X O => bm_rules hs O x2 x3 M h)
/-! toInt(I)I -/
def fm_toInt_82 (y0 : Int32) (M : Mem) : Option (Int32 × Mem) :=
  some (y0, M)
set_option maxHeartbeats 4000000 in
theorem bm_toInt_82 {g : gM} {X : Cxt} {r : Int32} {M' : Mem} (O : OkM g X cX20_toInt 5 (some .int) 1 (mQi g r M')) (y0 : Int32) (M : Mem) (h : fm_toInt_82 y0 M = some (r, M')) : V X 5 0 (WdM g M) 82 [] [.int y0] := by
  unfold fm_toInt_82 at h
  exact m_iret O h dX20_toInt_82
def fm_toInt_98 (y0 : Int32) (M : Mem) : Option (Int32 × Mem) :=
  some (y0, M)
set_option maxHeartbeats 4000000 in
theorem bm_toInt_98 {g : gM} {X : Cxt} {r : Int32} {M' : Mem} (O : OkM g X cX20_toInt 5 (some .int) 1 (mQi g r M')) (y0 : Int32) (M : Mem) (h : fm_toInt_98 y0 M = some (r, M')) : V X 5 0 (WdM g M) 98 [] [.int y0] := by
  unfold fm_toInt_98 at h
  exact m_iret O h dX20_toInt_98
def fm_toInt_62 (x0 : Int32) (x1 : Int64) (M : Mem) : Option (Int32 × Mem) :=
  if 0 ≤ x0 then
    if (lg_cmp x1 (2147483647 : Int64)) ≤ 0 then
      fm_toInt_98 x1.toInt32 M
    else
      fm_toInt_98 2147483647 M
  else
    if (lg_cmp x1 (2147483648 : Int64)) ≤ 0 then
      fm_toInt_82 ((-x1).toInt32) M
    else
      fm_toInt_82 (-2147483648) M
set_option maxHeartbeats 4000000 in
theorem bm_toInt_62 {g : gM} {X : Cxt} {r : Int32} {M' : Mem} (O : OkM g X cX20_toInt 5 (some .int) 1 (mQi g r M')) (x0 : Int32) (x1 : Int64) (M : Mem) (h : fm_toInt_62 x0 x1 M = some (r, M')) : V X 5 0 (WdM g M) 62 [(0, .int x0), (1, .long x1)] [] := by
  unfold fm_toInt_62 at h
  refine v_iload_n O.1 dX20_toInt_62 rfl (q := 63) rfl ?_
  refine v_if_ge O.1 dX20_toInt_63 (t := 83) (by decide) (q := 66) rfl (fun c1 => ?_) (fun c1 => ?_)
  · rw [if_pos c1] at h
    refine v_lload_n O.1 dX20_toInt_83 rfl (q := 84) rfl ?_
    refine v_ldc2 O.1 dX20_toInt_84 q2014 (q := 87) rfl ?_
    refine v_lcmp O.1 dX20_toInt_87 (q := 88) rfl ?_
    refine v_if_le O.1 dX20_toInt_88 (t := 96) (by decide) (q := 91) rfl (fun c2 => ?_) (fun c2 => ?_)
    · rw [if_pos c2] at h
      refine v_lload_n O.1 dX20_toInt_96 rfl (q := 97) rfl ?_
      refine v_l2i O.1 dX20_toInt_97 (q := 98) rfl ?_
      exact v_sub [] rfl (bm_toInt_98 O x1.toInt32 M h)
    · rw [if_neg c2] at h
      refine v_ldc O.1 dX20_toInt_91 q2015 (q := 93) rfl ?_
      refine v_goto O.1 dX20_toInt_93 (t := 98) (by decide) ?_
      exact v_sub [] rfl (bm_toInt_98 O 2147483647 M h)
  · rw [if_neg c1] at h
    refine v_lload_n O.1 dX20_toInt_66 rfl (q := 67) rfl ?_
    refine v_ldc2 O.1 dX20_toInt_67 q2013 (q := 70) rfl ?_
    refine v_lcmp O.1 dX20_toInt_70 (q := 71) rfl ?_
    refine v_if_le O.1 dX20_toInt_71 (t := 79) (by decide) (q := 74) rfl (fun c3 => ?_) (fun c3 => ?_)
    · rw [if_pos c3] at h
      refine v_lload_n O.1 dX20_toInt_79 rfl (q := 80) rfl ?_
      refine v_lneg O.1 dX20_toInt_80 (q := 81) rfl ?_
      refine v_l2i O.1 dX20_toInt_81 (q := 82) rfl ?_
      exact v_sub [] rfl (bm_toInt_82 O ((-x1).toInt32) M h)
    · rw [if_neg c3] at h
      refine v_ldc O.1 dX20_toInt_74 q1962 (q := 76) rfl ?_
      refine v_goto O.1 dX20_toInt_76 (t := 82) (by decide) ?_
      exact v_sub [] rfl (bm_toInt_82 O (-2147483648) M h)
def fm_toInt_38b (K38 : Int32 → Int64 → Int32 → Int32 → Mem → Option (Int32 × Mem)) (x0 : Int32) (x1 : Int64) (x3 : Int32) (x4 : Int32) (M : Mem) : Option (Int32 × Mem) :=
  if x3 ≤ x4 then
    fm_toInt_62 x0 x1 M
  else
    if 0 ≤ (lg_cmp x1 (4294967296 : Int64)) then
      fm_toInt_62 x0 x1 M
    else
      K38 x0 (x1 <<< ((1 : Int32).toInt64 &&& 63)) x3 (x4 + 1) M
set_option maxHeartbeats 4000000 in
theorem bm_toInt_38b {g : gM} {X : Cxt} {r : Int32} {M' : Mem} (O : OkM g X cX20_toInt 5 (some .int) 1 (mQi g r M')) {K38 : Int32 → Int64 → Int32 → Int32 → Mem → Option (Int32 × Mem)} (hK38 : ∀ (x0 : Int32) (x1 : Int64) (x3 : Int32) (x4 : Int32) (M : Mem), K38 x0 x1 x3 x4 M = some (r, M') → V X 5 0 (WdM g M) 38 [(0, .int x0), (1, .long x1), (3, .int x3), (4, .int x4)] []) (x0 : Int32) (x1 : Int64) (x3 : Int32) (x4 : Int32) (M : Mem) (h : fm_toInt_38b K38 x0 x1 x3 x4 M = some (r, M')) : V X 5 0 (WdM g M) 38 [(0, .int x0), (1, .long x1), (3, .int x3), (4, .int x4)] [] := by
  unfold fm_toInt_38b at h
  refine v_iload O.1 dX20_toInt_38 rfl (q := 40) rfl ?_
  refine v_iload_n O.1 dX20_toInt_40 rfl (q := 41) rfl ?_
  refine v_icmp_ge O.1 dX20_toInt_41 (t := 62) (by decide) (q := 44) rfl (fun c1 => ?_) (fun c1 => ?_)
  · rw [if_pos c1] at h
    exact v_sub [0, 1] rfl (bm_toInt_62 O x0 x1 M h)
  · rw [if_neg c1] at h
    refine v_lload_n O.1 dX20_toInt_44 rfl (q := 45) rfl ?_
    refine v_ldc2 O.1 dX20_toInt_45 q2012 (q := 48) rfl ?_
    refine v_lcmp O.1 dX20_toInt_48 (q := 49) rfl ?_
    refine v_if_ge O.1 dX20_toInt_49 (t := 62) (by decide) (q := 52) rfl (fun c2 => ?_) (fun c2 => ?_)
    · rw [if_pos c2] at h
      exact v_sub [0, 1] rfl (bm_toInt_62 O x0 x1 M h)
    · rw [if_neg c2] at h
      refine v_lload_n O.1 dX20_toInt_52 rfl (q := 53) rfl ?_
      refine v_iconst O.1 dX20_toInt_53 (v := 1) rfl (q := 54) rfl ?_
      refine v_lshl O.1 dX20_toInt_54 (q := 55) rfl ?_
      refine v_lstore_n (lv' := [(1, .long (x1 <<< ((1 : Int32).toInt64 &&& 63))), (0, .int x0), (3, .int x3), (4, .int x4)]) O.1 dX20_toInt_55 (by decide) rfl (q := 56) rfl ?_
      refine v_iinc (lv' := [(4, .int (x4 + 1)), (1, .long (x1 <<< ((1 : Int32).toInt64 &&& 63))), (0, .int x0), (3, .int x3)]) (v := (x4 + 1)) O.1 dX20_toInt_56 rfl rfl (by decide) rfl (q := 59) rfl ?_
      refine v_goto O.1 dX20_toInt_59 (t := 38) (by decide) ?_
      exact v_sub [2, 1, 3, 0] rfl (hK38 x0 (x1 <<< ((1 : Int32).toInt64 &&& 63)) x3 (x4 + 1) M h)
def fm_toInt_38 (n : Nat) : Int32 → Int64 → Int32 → Int32 → Mem → Option (Int32 × Mem) := lpc (fm_toInt_38b) (fun _ _ _ _ _ => none) n
theorem bm_toInt_38 {g : gM} {X : Cxt} {r : Int32} {M' : Mem} (O : OkM g X cX20_toInt 5 (some .int) 1 (mQi g r M')) : ∀ (n : Nat) (x0 : Int32) (x1 : Int64) (x3 : Int32) (x4 : Int32) (M : Mem), fm_toInt_38 n x0 x1 x3 x4 M = some (r, M') → V X 5 0 (WdM g M) 38 [(0, .int x0), (1, .long x1), (3, .int x3), (4, .int x4)] [] := by
  intro n
  induction n with
  | zero =>
    intro x0 x1 x3 x4 M h
    cases h
  | succ n ih =>
    intro x0 x1 x3 x4 M h
    exact bm_toInt_38b O ih x0 x1 x3 x4 M h
def fm_toInt_35 (x0 : Int32) (x1 : Int64) (x3 : Int32) (M : Mem) : Option (Int32 × Mem) :=
  fm_toInt_38 600 x0 x1 x3 0 M
set_option maxHeartbeats 4000000 in
theorem bm_toInt_35 {g : gM} {X : Cxt} {r : Int32} {M' : Mem} (O : OkM g X cX20_toInt 5 (some .int) 1 (mQi g r M')) (x0 : Int32) (x1 : Int64) (x3 : Int32) (M : Mem) (h : fm_toInt_35 x0 x1 x3 M = some (r, M')) : V X 5 0 (WdM g M) 35 [(0, .int x0), (1, .long x1), (3, .int x3)] [] := by
  unfold fm_toInt_35 at h
  refine v_iconst O.1 dX20_toInt_35 (v := 0) rfl (q := 36) rfl ?_
  refine v_istore (lv' := [(4, .int 0), (0, .int x0), (1, .long x1), (3, .int x3)]) O.1 dX20_toInt_36 (by decide) rfl (q := 38) rfl ?_
  exact v_sub [1, 2, 3, 0] rfl (bm_toInt_38 O 600 x0 x1 x3 0 M h)
def fm_toInt_13b (K13 : Int32 → Int64 → Int32 → Int32 → Mem → Option (Int32 × Mem)) (x0 : Int32) (x1 : Int64) (x3 : Int32) (x4 : Int32) (M : Mem) : Option (Int32 × Mem) :=
  if x4 ≤ x3 then
    fm_toInt_35 x0 x1 x3 M
  else
    if (lg_cmp x1 (0 : Int64)) ≤ 0 then
      fm_toInt_35 x0 x1 x3 M
    else
      K13 x0 (x1 >>> ((1 : Int32).toInt64 &&& 63)) x3 (x4 + (-1)) M
set_option maxHeartbeats 4000000 in
theorem bm_toInt_13b {g : gM} {X : Cxt} {r : Int32} {M' : Mem} (O : OkM g X cX20_toInt 5 (some .int) 1 (mQi g r M')) {K13 : Int32 → Int64 → Int32 → Int32 → Mem → Option (Int32 × Mem)} (hK13 : ∀ (x0 : Int32) (x1 : Int64) (x3 : Int32) (x4 : Int32) (M : Mem), K13 x0 x1 x3 x4 M = some (r, M') → V X 5 0 (WdM g M) 13 [(0, .int x0), (1, .long x1), (3, .int x3), (4, .int x4)] []) (x0 : Int32) (x1 : Int64) (x3 : Int32) (x4 : Int32) (M : Mem) (h : fm_toInt_13b K13 x0 x1 x3 x4 M = some (r, M')) : V X 5 0 (WdM g M) 13 [(0, .int x0), (1, .long x1), (3, .int x3), (4, .int x4)] [] := by
  unfold fm_toInt_13b at h
  refine v_iload O.1 dX20_toInt_13 rfl (q := 15) rfl ?_
  refine v_iload_n O.1 dX20_toInt_15 rfl (q := 16) rfl ?_
  refine v_icmp_le O.1 dX20_toInt_16 (t := 35) (by decide) (q := 19) rfl (fun c1 => ?_) (fun c1 => ?_)
  · rw [if_pos c1] at h
    exact v_sub [0, 1, 2] rfl (bm_toInt_35 O x0 x1 x3 M h)
  · rw [if_neg c1] at h
    refine v_lload_n O.1 dX20_toInt_19 rfl (q := 20) rfl ?_
    refine v_lconst O.1 dX20_toInt_20 (v := 0) rfl (q := 21) rfl ?_
    refine v_lcmp O.1 dX20_toInt_21 (q := 22) rfl ?_
    refine v_if_le O.1 dX20_toInt_22 (t := 35) (by decide) (q := 25) rfl (fun c2 => ?_) (fun c2 => ?_)
    · rw [if_pos c2] at h
      exact v_sub [0, 1, 2] rfl (bm_toInt_35 O x0 x1 x3 M h)
    · rw [if_neg c2] at h
      refine v_lload_n O.1 dX20_toInt_25 rfl (q := 26) rfl ?_
      refine v_iconst O.1 dX20_toInt_26 (v := 1) rfl (q := 27) rfl ?_
      refine v_lshr O.1 dX20_toInt_27 (q := 28) rfl ?_
      refine v_lstore_n (lv' := [(1, .long (x1 >>> ((1 : Int32).toInt64 &&& 63))), (0, .int x0), (3, .int x3), (4, .int x4)]) O.1 dX20_toInt_28 (by decide) rfl (q := 29) rfl ?_
      refine v_iinc (lv' := [(4, .int (x4 + (-1))), (1, .long (x1 >>> ((1 : Int32).toInt64 &&& 63))), (0, .int x0), (3, .int x3)]) (v := (x4 + (-1))) O.1 dX20_toInt_29 rfl rfl (by decide) rfl (q := 32) rfl ?_
      refine v_goto O.1 dX20_toInt_32 (t := 13) (by decide) ?_
      exact v_sub [2, 1, 3, 0] rfl (hK13 x0 (x1 >>> ((1 : Int32).toInt64 &&& 63)) x3 (x4 + (-1)) M h)
def fm_toInt_13 (n : Nat) : Int32 → Int64 → Int32 → Int32 → Mem → Option (Int32 × Mem) := lpc (fm_toInt_13b) (fun _ _ _ _ _ => none) n
theorem bm_toInt_13 {g : gM} {X : Cxt} {r : Int32} {M' : Mem} (O : OkM g X cX20_toInt 5 (some .int) 1 (mQi g r M')) : ∀ (n : Nat) (x0 : Int32) (x1 : Int64) (x3 : Int32) (x4 : Int32) (M : Mem), fm_toInt_13 n x0 x1 x3 x4 M = some (r, M') → V X 5 0 (WdM g M) 13 [(0, .int x0), (1, .long x1), (3, .int x3), (4, .int x4)] [] := by
  intro n
  induction n with
  | zero =>
    intro x0 x1 x3 x4 M h
    cases h
  | succ n ih =>
    intro x0 x1 x3 x4 M h
    exact bm_toInt_13b O ih x0 x1 x3 x4 M h
def fm_toInt (x0 : Int32) (M : Mem) : Option (Int32 × Mem) :=
  bnd (fm_fraction x0 M) fun r1 M1 =>
  bnd (fm_place x0 M1) fun r2 M2 =>
  fm_toInt_13 600 x0 r1 r2 0 M2
set_option maxHeartbeats 4000000 in
theorem bm_toInt {g : gM} {X : Cxt} {r : Int32} {M' : Mem} (O : OkM g X cX20_toInt 5 (some .int) 1 (mQi g r M')) (x0 : Int32) (M : Mem) (h : fm_toInt x0 M = some (r, M')) : V X 5 0 (WdM g M) 0 [(0, .int x0)] [] := by
  unfold fm_toInt at h
  refine v_iload_n O.1 dX20_toInt_0 rfl (q := 1) rfl ?_
  obtain ⟨r1, M1, e1, h⟩ := bnd_some h
  refine m_callSl (As := [.int x0]) (rest := []) (n := 1) O (met_fraction _ g x0 M M1 r1 e1) (lw_S q1957 q1958 q84 q1959) (by decide +kernel) (by decide) (by decide) rfl rfl (Nat.le_of_ble_eq_true rfl) dX20_toInt_1 (q := 4) rfl ?_
  refine v_lstore_n (lv' := [(1, .long r1), (0, .int x0)]) O.1 dX20_toInt_4 (by decide) rfl (q := 5) rfl ?_
  refine v_iload_n O.1 dX20_toInt_5 rfl (q := 6) rfl ?_
  obtain ⟨r2, M2, e2, h⟩ := bnd_some h
  refine m_callSi (As := [.int x0]) (rest := []) (n := 1) O (met_place _ g x0 M1 M2 r2 e2) (lw_S q1963 q1964 q84 q1965) (by decide +kernel) (by decide) (by decide) rfl rfl (Nat.le_of_ble_eq_true rfl) dX20_toInt_6 (q := 9) rfl ?_
  refine v_istore_n (lv' := [(3, .int r2), (1, .long r1), (0, .int x0)]) O.1 dX20_toInt_9 (by decide) rfl (q := 10) rfl ?_
  refine v_iconst O.1 dX20_toInt_10 (v := 0) rfl (q := 11) rfl ?_
  refine v_istore (lv' := [(4, .int 0), (3, .int r2), (1, .long r1), (0, .int x0)]) O.1 dX20_toInt_11 (by decide) rfl (q := 13) rfl ?_
  exact v_sub [3, 2, 1, 0] rfl (bm_toInt_13 O 600 x0 r1 r2 0 M2 h)
theorem met_toInt (l : Launch) (g : gM) (x0 : Int32) (M M' : Mem) (r : Int32) (h : fm_toInt x0 M = some (r, M')) : MetM l g yX20_toInt cX20_toInt 5 (some .int) 1 [.int x0] M (mQi g r M') :=
  m_met (by decide) rfl (Nat.le_of_ble_eq_true rfl) (fun X O => bm_toInt O x0 M h)
