/-! RankEntry$Core.raises(I)V -/
def fc_Core_raises_79 (c : Nat) (x2 : Int32) (C : Mem) : Option (Unit × Mem) :=
  bnd (fc_Core_becomes c x2 C) fun r1 C1 =>
  some ((), C1)
set_option maxHeartbeats 4000000 in
theorem bc_Core_raises_79 {g : gC} {X : Cxt} {r : Unit} {C' : Mem} {c : Nat} (hc : cC c) (O : OkC g X cX4_raises 3 none RX4 4 1 (cQv g r C')) (x2 : Int32) (C : Mem) (h : fc_Core_raises_79 c x2 C = some (r, C')) : V X 3 0 (WdC g C) 79 [(0, .ref (gCa g c)), (2, .int x2)] [] := by
  unfold fc_Core_raises_79 at h
  refine v_aload_n O.1 dX4_raises_79 rfl (q := 80) rfl ?_
  refine v_iload_n O.1 dX4_raises_80 rfl (q := 81) rfl ?_
  obtain ⟨r1, C1, e1, h⟩ := bnd_some h
  refine c_callVi (As := [.int x2]) (rest := []) (n := 1) (ci := 2) (p := (RX4, TX4, 55)) O (cC_lt (j := 0) hc (by decide)) rfl (fun _ _ => ⟨_, cCell_core hc⟩) (metc_Core_becomes _ g c hc x2 C C1 r1 e1) (lw_V q287 q288 q289 q63 q290) (by decide +kernel) (by decide) (by decide) rfl rfl (Nat.le_of_ble_eq_true rfl) dX4_raises_81 (q := 84) rfl (b' := 0) rfl ?_
  refine v_pop O.1 dX4_raises_84 rfl (q := 85) rfl ?_
  exact c_vret O h dX4_raises_85
def fc_Core_raises_52 (c : Nat) (x2 : Int32) (C : Mem) : Option (Unit × Mem) :=
  if 0 ≤ x2 then
    if x2 = 20 then
      stp (up2 C (c + 9) 8 ((C (c + 9) 8) + 1)) fun C3 =>
      fc_Core_raises_79 c x2 C3
    else
      fc_Core_raises_79 c x2 C
  else
    bnd (fc_Core_turns c 5 C) fun r4 C4 =>
    some ((), C4)
set_option maxHeartbeats 4000000 in
theorem bc_Core_raises_52 {g : gC} {X : Cxt} {r : Unit} {C' : Mem} {c : Nat} (hc : cC c) (O : OkC g X cX4_raises 3 none RX4 4 1 (cQv g r C')) (x2 : Int32) (C : Mem) (h : fc_Core_raises_52 c x2 C = some (r, C')) : V X 3 0 (WdC g C) 52 [(0, .ref (gCa g c)), (2, .int x2)] [] := by
  unfold fc_Core_raises_52 at h
  refine v_iload_n O.1 dX4_raises_52 rfl (q := 53) rfl ?_
  refine v_if_ge O.1 dX4_raises_53 (t := 62) (by decide) (q := 56) rfl (fun c1 => ?_) (fun c1 => ?_)
  · rw [if_pos c1] at h
    refine v_iload_n O.1 dX4_raises_62 rfl (q := 63) rfl ?_
    refine v_bipush O.1 dX4_raises_63 (v := 20) (by decide) (q := 65) rfl ?_
    refine v_icmp_ne O.1 dX4_raises_65 (t := 79) (by decide) (q := 68) rfl (fun c2 => ?_) (fun c2 => ?_)
    · rw [if_neg c2] at h
      exact v_sub [0, 1] rfl (bc_Core_raises_79 hc O x2 C h)
    · rw [if_pos c2] at h
      refine v_aload_n O.1 dX4_raises_68 rfl (q := 69) rfl ?_
      refine c_getC O hc 11 (v := .ref (gCa g (c + 9))) (by decide) (O.lk q858) rfl (fun _ => rfl) dX4_raises_69 (q := 72) rfl ?_
      refine v_bipush O.1 dX4_raises_72 (v := 8) (by decide) (q := 74) rfl ?_
      refine v_dup2 O.1 dX4_raises_74 rfl rfl (q := 75) rfl ?_
      refine c_iald O (cIA_counts hc) (by decide) (by decide) (j := 8) dX4_raises_75 (q := 76) rfl ?_
      refine v_iconst O.1 dX4_raises_76 (v := 1) rfl (q := 77) rfl ?_
      refine v_iadd O.1 dX4_raises_77 (q := 78) rfl ?_
      obtain ⟨C3, e3, h⟩ := stp_some h
      refine c_iast O (cIA_counts hc) (by decide) (by decide) (j := 8) dX4_raises_78 (q := 79) rfl e3 ?_
      exact v_sub [0, 1] rfl (bc_Core_raises_79 hc O x2 C3 h)
  · rw [if_neg c1] at h
    refine v_aload_n O.1 dX4_raises_56 rfl (q := 57) rfl ?_
    refine v_iconst O.1 dX4_raises_57 (v := 5) rfl (q := 58) rfl ?_
    obtain ⟨r4, C4, e4, h⟩ := bnd_some h
    refine c_callVv (As := [.int 5]) (rest := []) (n := 1) (ci := 2) (p := (RX4, TX4, 55)) O (cC_lt (j := 0) hc (by decide)) rfl (fun _ _ => ⟨_, cCell_core hc⟩) (metc_Core_turns _ g c hc 5 C C4 r4 e4) (lw_V q238 q239 q240 q63 q241) (by decide +kernel) (by decide) (by decide) rfl rfl (Nat.le_of_ble_eq_true rfl) dX4_raises_58 (q := 61) rfl (b' := 0) rfl ?_
    exact c_vret O h dX4_raises_61
def fc_Core_raises_38 (c : Nat) (x2 : Int32) (y3 : Int32) (C : Mem) : Option (Unit × Mem) :=
  bnd (fc_Core_notes c 3 y3 (C c 37) (C c 31) C) fun r2 C2 =>
  fc_Core_raises_52 c x2 C2
set_option maxHeartbeats 4000000 in
theorem bc_Core_raises_38 {g : gC} {X : Cxt} {r : Unit} {C' : Mem} {c : Nat} (hc : cC c) (O : OkC g X cX4_raises 3 none RX4 4 1 (cQv g r C')) (x2 : Int32) (y3 : Int32) (a : Nat) (C : Mem) (h : fc_Core_raises_38 c x2 y3 C = some (r, C')) : V X 3 0 (PN g C a 11 [.int 0, .int 0, .int 0]) 38 [(0, .ref (gCa g c)), (2, .int x2)] [.int y3, .ref a, .ref a, .ref (gCa g c)] := by
  unfold fc_Core_raises_38 at h
  refine v_aload_n O.1 dX4_raises_38 rfl (q := 39) rfl ?_
  refine c_getCP O (C := C) PN.wd hc 37 (v := .int (C c 37)) (by decide) (O.lk q905) rfl (fun _ => rfl) dX4_raises_39 (q := 42) rfl ?_
  refine v_aload_n O.1 dX4_raises_42 rfl (q := 43) rfl ?_
  refine c_getCP O (C := C) PN.wd hc 31 (v := .int (C c 31)) (by decide) (O.lk q889) rfl (fun _ => rfl) dX4_raises_43 (q := 46) rfl ?_
  refine c_init_Raised (rest := [.ref a, .ref (gCa g c)]) O q264 (by decide) rfl (Nat.le_of_ble_eq_true rfl) dX4_raises_46 (q := 49) rfl ?_
  obtain ⟨r2, C2, e2, h⟩ := bnd_some h
  refine c_notes (rest := []) O hc e2 q283 (by decide) rfl (Nat.le_of_ble_eq_true rfl) dX4_raises_49 (q := 52) rfl ?_
  exact v_sub [0, 1] rfl (bc_Core_raises_52 hc O x2 C2 h)
def fc_Core_raises (c : Nat) (x1 : Int32) (C : Mem) : Option (Unit × Mem) :=
  stp (up2 C (c + 9) 7 ((C (c + 9) 7) + 1)) fun C1 =>
  bnd (fc_Core_becoming c x1 C1) fun r2 C2 =>
  if (C2 c 28) = 0 then
    if 0 ≤ r2 then
      fc_Core_raises_38 c r2 r2 C2
    else
      fc_Core_raises_38 c r2 (-1) C2
  else
    fc_Core_raises_52 c r2 C2
set_option maxHeartbeats 4000000 in
theorem bc_Core_raises {g : gC} {X : Cxt} {r : Unit} {C' : Mem} {c : Nat} (hc : cC c) (O : OkC g X cX4_raises 3 none RX4 4 1 (cQv g r C')) (x1 : Int32) (C : Mem) (h : fc_Core_raises c x1 C = some (r, C')) : V X 3 1 (WdC g C) 0 [(0, .ref (gCa g c)), (1, .int x1)] [] := by
  unfold fc_Core_raises at h
  refine v_aload_n O.1 dX4_raises_0 rfl (q := 1) rfl ?_
  refine c_getC O hc 11 (v := .ref (gCa g (c + 9))) (by decide) (O.lk q858) rfl (fun _ => rfl) dX4_raises_1 (q := 4) rfl ?_
  refine v_bipush O.1 dX4_raises_4 (v := 7) (by decide) (q := 6) rfl ?_
  refine v_dup2 O.1 dX4_raises_6 rfl rfl (q := 7) rfl ?_
  refine c_iald O (cIA_counts hc) (by decide) (by decide) (j := 7) dX4_raises_7 (q := 8) rfl ?_
  refine v_iconst O.1 dX4_raises_8 (v := 1) rfl (q := 9) rfl ?_
  refine v_iadd O.1 dX4_raises_9 (q := 10) rfl ?_
  obtain ⟨C1, e1, h⟩ := stp_some h
  refine c_iast O (cIA_counts hc) (by decide) (by decide) (j := 7) dX4_raises_10 (q := 11) rfl e1 ?_
  refine v_aload_n O.1 dX4_raises_11 rfl (q := 12) rfl ?_
  refine v_iload_n O.1 dX4_raises_12 rfl (q := 13) rfl ?_
  obtain ⟨r2, C2, e2, h⟩ := bnd_some h
  refine c_callVi (As := [.int x1]) (rest := []) (n := 1) (ci := 2) (p := (RX4, TX4, 55)) O (cC_lt (j := 0) hc (by decide)) rfl (fun _ _ => ⟨_, cCell_core hc⟩) (metc_Core_becoming _ g c hc x1 C1 C2 r2 e2) (lw_V q258 q259 q260 q63 q261) (by decide +kernel) (by decide) (by decide) rfl rfl (Nat.le_of_ble_eq_true rfl) dX4_raises_13 (q := 16) rfl (b' := 1) rfl ?_
  refine v_istore_n (lv' := [(2, .int r2), (0, .ref (gCa g c)), (1, .int x1)]) O.1 dX4_raises_16 (by decide) rfl (q := 17) rfl ?_
  refine v_aload_n O.1 dX4_raises_17 rfl (q := 18) rfl ?_
  refine c_getC O hc 28 (v := .int (C2 c 28)) (by decide) (O.lk q879) rfl (fun _ => rfl) dX4_raises_18 (q := 21) rfl ?_
  refine v_if_ne O.1 dX4_raises_21 (t := 52) (by decide) (q := 24) rfl (fun c3 => ?_) (fun c3 => ?_)
  · rw [if_neg c3] at h
    exact v_less (b' := 0) (by decide) (v_sub [1, 0] rfl (bc_Core_raises_52 hc O r2 C2 h))
  · rw [if_pos c3] at h
    refine v_aload_n O.1 dX4_raises_24 rfl (q := 25) rfl ?_
    refine c_newE (ci := 11) (N := 3) (Cn := RX6) (T := TX6) (ty := tyX6) (fs := [.int 0, .int 0, .int 0]) (b := 0) O rfl (by decide) in_X6 tyX6_ok q262 q263 q68 (fun j hj => by match j, hj with | 0, _ => rfl | 1, _ => rfl | 2, _ => rfl | j + 3, hj => exact absurd hj (by omega)) dX4_raises_25 (q := 28) rfl (fun a4 => ?_)
    refine v_dup O.1 dX4_raises_28 rfl (q := 29) rfl ?_
    refine v_iload_n O.1 dX4_raises_29 rfl (q := 30) rfl ?_
    refine v_if_ge O.1 dX4_raises_30 (t := 37) (by decide) (q := 33) rfl (fun c5 => ?_) (fun c5 => ?_)
    · rw [if_pos c5] at h
      refine v_iload_n O.1 dX4_raises_37 rfl (q := 38) rfl ?_
      exact v_sub [1, 0] rfl (bc_Core_raises_38 hc O r2 r2 a4 C2 h)
    · rw [if_neg c5] at h
      refine v_iconst O.1 dX4_raises_33 (v := (-1)) rfl (q := 34) rfl ?_
      refine v_goto O.1 dX4_raises_34 (t := 38) (by decide) ?_
      exact v_sub [1, 0] rfl (bc_Core_raises_38 hc O r2 (-1) a4 C2 h)
theorem metc_Core_raises (l : Launch) (g : gC) (c : Nat) (hc : cC c) (x1 : Int32) (C C' : Mem) (r : Unit) (h : fc_Core_raises c x1 C = some (r, C')) : MetC l g yX4_raises cX4_raises 3 none 4 1 [.ref (gCa g c), .int x1] C (cQv g r C') :=
  c_met (by decide) rfl (Nat.le_of_ble_eq_true rfl) (fun X O => bc_Core_raises hc O x1 C h)
/-! RankEntry$Core.breaks()V -/
def fc_Core_breaks (c : Nat)  (C : Mem) : Option (Unit × Mem) :=
  stp (up2 C c 48 1) fun C1 =>
  bnd (fc_Core_raises c 19 C1) fun r2 C2 =>
  some ((), C2)
set_option maxHeartbeats 4000000 in
theorem bc_Core_breaks {g : gC} {X : Cxt} {r : Unit} {C' : Mem} {c : Nat} (hc : cC c) (O : OkC g X cX4_breaks 1 none RX4 5 1 (cQv g r C'))  (C : Mem) (h : fc_Core_breaks c  C = some (r, C')) : V X 1 1 (WdC g C) 0 [(0, .ref (gCa g c))] [] := by
  unfold fc_Core_breaks at h
  refine v_aload_n O.1 dX4_breaks_0 rfl (q := 1) rfl ?_
  refine v_iconst O.1 dX4_breaks_1 (v := 1) rfl (q := 2) rfl ?_
  obtain ⟨C1, e1, h⟩ := stp_some h
  refine c_putC O hc 48 (u := 1) (ty := .boolean) (by decide) (by decide) (O.lk q927) rfl rfl rfl rfl rfl (fun _ => rfl) dX4_breaks_2 (q := 5) rfl e1 ?_
  refine v_aload_n O.1 dX4_breaks_5 rfl (q := 6) rfl ?_
  refine v_bipush O.1 dX4_breaks_6 (v := 19) (by decide) (q := 8) rfl ?_
  obtain ⟨r2, C2, e2, h⟩ := bnd_some h
  refine c_callVv (As := [.int 19]) (rest := []) (n := 1) (ci := 2) (p := (RX4, TX4, 55)) O (cC_lt (j := 0) hc (by decide)) rfl (fun _ _ => ⟨_, cCell_core hc⟩) (metc_Core_raises _ g c hc 19 C1 C2 r2 e2) (lw_V q254 q255 q256 q63 q257) (by decide +kernel) (by decide) (by decide) rfl rfl (Nat.le_of_ble_eq_true rfl) dX4_breaks_8 (q := 11) rfl (b' := 0) rfl ?_
  exact c_vret O h dX4_breaks_11
theorem metc_Core_breaks (l : Launch) (g : gC) (c : Nat) (hc : cC c) (C C' : Mem) (r : Unit) (h : fc_Core_breaks c C = some (r, C')) : MetC l g yX4_breaks cX4_breaks 1 none 5 1 [.ref (gCa g c)] C (cQv g r C') :=
  c_met (by decide) rfl (Nat.le_of_ble_eq_true rfl) (fun X O => bc_Core_breaks hc O C h)
/-! RankEntry$Core.reserves()V -/
def fc_Core_reserves (c : Nat)  (C : Mem) : Option (Unit × Mem) :=
  if ((C c 32) + 4) ≤ 96 then
    stp (up2 C c 46 (C c 32)) fun C2 =>
    stp (up2 C2 c 49 1) fun C3 =>
    bnd (fc_Core_grows c 4 C3) fun r4 C4 =>
    some ((), C4)
  else
    bnd (fc_Core_breaks c C) fun r5 C5 =>
    some ((), C5)
set_option maxHeartbeats 4000000 in
theorem bc_Core_reserves {g : gC} {X : Cxt} {r : Unit} {C' : Mem} {c : Nat} (hc : cC c) (O : OkC g X cX4_reserves 1 none RX4 6 1 (cQv g r C'))  (C : Mem) (h : fc_Core_reserves c  C = some (r, C')) : V X 1 1 (WdC g C) 0 [(0, .ref (gCa g c))] [] := by
  unfold fc_Core_reserves at h
  refine v_aload_n O.1 dX4_reserves_0 rfl (q := 1) rfl ?_
  refine c_getC O hc 32 (v := .int (C c 32)) (by decide) (O.lk q893) rfl (fun _ => rfl) dX4_reserves_1 (q := 4) rfl ?_
  refine v_iconst O.1 dX4_reserves_4 (v := 4) rfl (q := 5) rfl ?_
  refine v_iadd O.1 dX4_reserves_5 (q := 6) rfl ?_
  refine v_bipush O.1 dX4_reserves_6 (v := 96) (by decide) (q := 8) rfl ?_
  refine v_icmp_le O.1 dX4_reserves_8 (t := 16) (by decide) (q := 11) rfl (fun c1 => ?_) (fun c1 => ?_)
  · rw [if_pos c1] at h
    refine v_aload_n O.1 dX4_reserves_16 rfl (q := 17) rfl ?_
    refine v_aload_n O.1 dX4_reserves_17 rfl (q := 18) rfl ?_
    refine c_getC O hc 32 (v := .int (C c 32)) (by decide) (O.lk q893) rfl (fun _ => rfl) dX4_reserves_18 (q := 21) rfl ?_
    obtain ⟨C2, e2, h⟩ := stp_some h
    refine c_putC O hc 46 (u := (C c 32)) (ty := .int) (by decide) (by decide) (O.lk q924) rfl rfl rfl rfl rfl (fun _ => rfl) dX4_reserves_21 (q := 24) rfl e2 ?_
    refine v_aload_n O.1 dX4_reserves_24 rfl (q := 25) rfl ?_
    refine v_iconst O.1 dX4_reserves_25 (v := 1) rfl (q := 26) rfl ?_
    obtain ⟨C3, e3, h⟩ := stp_some h
    refine c_putC O hc 49 (u := 1) (ty := .boolean) (by decide) (by decide) (O.lk q928) rfl rfl rfl rfl rfl (fun _ => rfl) dX4_reserves_26 (q := 29) rfl e3 ?_
    refine v_aload_n O.1 dX4_reserves_29 rfl (q := 30) rfl ?_
    refine v_iconst O.1 dX4_reserves_30 (v := 4) rfl (q := 31) rfl ?_
    obtain ⟨r4, C4, e4, h⟩ := bnd_some h
    refine c_callVv (As := [.int 4]) (rest := []) (n := 1) (ci := 2) (p := (RX4, TX4, 55)) O (cC_lt (j := 0) hc (by decide)) rfl (fun _ _ => ⟨_, cCell_core hc⟩) (metc_Core_grows _ g c hc 4 C3 C4 r4 e4) (lw_V q299 q300 q301 q63 q302) (by decide +kernel) (by decide) (by decide) rfl rfl (Nat.le_of_ble_eq_true rfl) dX4_reserves_31 (q := 34) rfl (b' := 1) rfl ?_
    exact c_vret O h dX4_reserves_34
  · rw [if_neg c1] at h
    refine v_aload_n O.1 dX4_reserves_11 rfl (q := 12) rfl ?_
    obtain ⟨r5, C5, e5, h⟩ := bnd_some h
    refine c_callVv (As := []) (rest := []) (n := 0) (ci := 2) (p := (RX4, TX4, 55)) O (cC_lt (j := 0) hc (by decide)) rfl (fun _ _ => ⟨_, cCell_core hc⟩) (metc_Core_breaks _ g c hc C C5 r5 e5) (lw_V q250 q252 qs5 q63 q253) (by decide +kernel) (by decide) (by decide) rfl rfl (Nat.le_of_ble_eq_true rfl) dX4_reserves_12 (q := 15) rfl (b' := 0) rfl ?_
    exact c_vret O h dX4_reserves_15
theorem metc_Core_reserves (l : Launch) (g : gC) (c : Nat) (hc : cC c) (C C' : Mem) (r : Unit) (h : fc_Core_reserves c C = some (r, C')) : MetC l g yX4_reserves cX4_reserves 1 none 6 1 [.ref (gCa g c)] C (cQv g r C') :=
  c_met (by decide) rfl (Nat.le_of_ble_eq_true rfl) (fun X O => bc_Core_reserves hc O C h)
/-! RankEntry$Core.begins(IZ)V -/
def fc_Core_begins_183 (c : Nat)  (C : Mem) : Option (Unit × Mem) :=
  bnd (fc_Core_turns c 0 C) fun r1 C1 =>
  some ((), C1)
set_option maxHeartbeats 4000000 in
theorem bc_Core_begins_183 {g : gC} {X : Cxt} {r : Unit} {C' : Mem} {c : Nat} (hc : cC c) (O : OkC g X cX4_begins 5 none RX4 3 1 (cQv g r C'))  (C : Mem) (h : fc_Core_begins_183 c  C = some (r, C')) : V X 5 0 (WdC g C) 183 [(0, .ref (gCa g c))] [] := by
  unfold fc_Core_begins_183 at h
  refine v_aload_n O.1 dX4_begins_183 rfl (q := 184) rfl ?_
  refine v_iconst O.1 dX4_begins_184 (v := 0) rfl (q := 185) rfl ?_
  obtain ⟨r1, C1, e1, h⟩ := bnd_some h
  refine c_callVv (As := [.int 0]) (rest := []) (n := 1) (ci := 2) (p := (RX4, TX4, 55)) O (cC_lt (j := 0) hc (by decide)) rfl (fun _ _ => ⟨_, cCell_core hc⟩) (metc_Core_turns _ g c hc 0 C C1 r1 e1) (lw_V q238 q239 q240 q63 q241) (by decide +kernel) (by decide) (by decide) rfl rfl (Nat.le_of_ble_eq_true rfl) dX4_begins_185 (q := 188) rfl (b' := 0) rfl ?_
  exact c_vret O h dX4_begins_188
def fc_Core_begins_147 (c : Nat) (x1 : Int32) (x2 : Int32) (x4 : Int32) (C : Mem) : Option (Unit × Mem) :=
  stp (up2 C c 53 ((C c 53) + 1)) fun C1 =>
  if (C1 c 28) = 0 then
    gd (isB x2) <|
    bnd (fc_Core_notes c x2 x1 (C1 c 37) x4 C1) fun r5 C5 =>
    fc_Core_begins_183 c C5
  else
    fc_Core_begins_183 c C1
set_option maxHeartbeats 4000000 in
theorem bc_Core_begins_147 {g : gC} {X : Cxt} {r : Unit} {C' : Mem} {c : Nat} (hc : cC c) (O : OkC g X cX4_begins 5 none RX4 3 1 (cQv g r C')) (x1 : Int32) (x2 : Int32) (x4 : Int32) (C : Mem) (h : fc_Core_begins_147 c x1 x2 x4 C = some (r, C')) : V X 5 1 (WdC g C) 147 [(0, .ref (gCa g c)), (1, .int x1), (2, .int x2), (4, .int x4)] [] := by
  unfold fc_Core_begins_147 at h
  refine v_aload_n O.1 dX4_begins_147 rfl (q := 148) rfl ?_
  refine v_dup O.1 dX4_begins_148 rfl (q := 149) rfl ?_
  refine c_getC O hc 53 (v := .int (C c 53)) (by decide) (O.lk q935) rfl (fun _ => rfl) dX4_begins_149 (q := 152) rfl ?_
  refine v_iconst O.1 dX4_begins_152 (v := 1) rfl (q := 153) rfl ?_
  refine v_iadd O.1 dX4_begins_153 (q := 154) rfl ?_
  obtain ⟨C1, e1, h⟩ := stp_some h
  refine c_putC O hc 53 (u := ((C c 53) + 1)) (ty := .int) (by decide) (by decide) (O.lk q935) rfl rfl rfl rfl rfl (fun _ => rfl) dX4_begins_154 (q := 157) rfl e1 ?_
  refine v_aload_n O.1 dX4_begins_157 rfl (q := 158) rfl ?_
  refine c_getC O hc 28 (v := .int (C1 c 28)) (by decide) (O.lk q879) rfl (fun _ => rfl) dX4_begins_158 (q := 161) rfl ?_
  refine v_if_ne O.1 dX4_begins_161 (t := 183) (by decide) (q := 164) rfl (fun c2 => ?_) (fun c2 => ?_)
  · rw [if_neg c2] at h
    exact v_less (b' := 0) (by decide) (v_sub [0] rfl (bc_Core_begins_183 hc O C1 h))
  · rw [if_pos c2] at h
    refine v_aload_n O.1 dX4_begins_164 rfl (q := 165) rfl ?_
    refine c_newE (ci := 9) (N := 4) (Cn := RX7) (T := TX7) (ty := tyX7) (fs := [.int 0, .int 0, .int 0, .int 0]) (b := 0) O rfl (by decide) in_X7 tyX7_ok q327 q328 q69 (fun j hj => by match j, hj with | 0, _ => rfl | 1, _ => rfl | 2, _ => rfl | 3, _ => rfl | j + 4, hj => exact absurd hj (by omega)) dX4_begins_165 (q := 168) rfl (fun a3 => ?_)
    refine v_dup O.1 dX4_begins_168 rfl (q := 169) rfl ?_
    refine v_iload_n O.1 dX4_begins_169 rfl (q := 170) rfl ?_
    refine v_aload_n O.1 dX4_begins_170 rfl (q := 171) rfl ?_
    refine c_getCP O (C := C1) PN.wd hc 37 (v := .int (C1 c 37)) (by decide) (O.lk q905) rfl (fun _ => rfl) dX4_begins_171 (q := 174) rfl ?_
    refine v_iload O.1 dX4_begins_174 rfl (q := 176) rfl ?_
    refine v_iload_n O.1 dX4_begins_176 rfl (q := 177) rfl ?_
    obtain ⟨g4, h⟩ := gd_some h
    refine c_init_Began (rest := [.ref a3, .ref (gCa g c)]) O g4 q329 (by decide) rfl (Nat.le_of_ble_eq_true rfl) dX4_begins_177 (q := 180) rfl ?_
    obtain ⟨r5, C5, e5, h⟩ := bnd_some h
    refine c_notes (rest := []) O hc e5 q283 (by decide) rfl (Nat.le_of_ble_eq_true rfl) dX4_begins_180 (q := 183) rfl ?_
    exact v_sub [0] rfl (bc_Core_begins_183 hc O C5 h)
def fc_Core_begins_107 (c : Nat) (x1 : Int32) (x2 : Int32) (x3 : Nat) (x4 : Int32) (y3 : Int32) (y2 : Int32) (y1 : Int32) (C : Mem) : Option (Unit × Mem) :=
  gd (inb y1 14) <|
  stp (up2 C (c + 9) y1.toNatClampNeg (y2 + y3)) fun C2 =>
  stp (up2 C2 c 31 (C2 x3 2)) fun C3 =>
  stp (up2 C3 c 45 0) fun C4 =>
  stp (up2 C4 c 52 x1) fun C5 =>
  if 300 ≤ (C5 c 53) then
    fc_Core_begins_147 c x1 x2 x4 C5
  else
    gd (inb (C5 c 53) 300) <|
    stp (up2 C5 (c + 12) (C5 c 53).toNatClampNeg x1) fun C8 =>
    fc_Core_begins_147 c x1 x2 x4 C8
set_option maxHeartbeats 4000000 in
theorem bc_Core_begins_107 {g : gC} {X : Cxt} {r : Unit} {C' : Mem} {c : Nat} (hc : cC c) (O : OkC g X cX4_begins 5 none RX4 3 1 (cQv g r C')) (x1 : Int32) (x2 : Int32) (x3 : Nat) (hs_3 : cS x3) (x4 : Int32) (y3 : Int32) (y2 : Int32) (y1 : Int32) (C : Mem) (h : fc_Core_begins_107 c x1 x2 x3 x4 y3 y2 y1 C = some (r, C')) : V X 5 1 (WdC g C) 107 [(0, .ref (gCa g c)), (1, .int x1), (2, .int x2), (3, .ref (gCa g x3)), (4, .int x4)] [.int y3, .int y2, .int y1, .ref (gCa g (c + 9))] := by
  unfold fc_Core_begins_107 at h
  refine v_iadd O.1 dX4_begins_107 (q := 108) rfl ?_
  obtain ⟨g1, h⟩ := gd_some h
  obtain ⟨C2, e2, h⟩ := stp_some h
  refine c_iast O (cIA_counts hc) g1 rfl (j := y1.toNatClampNeg) dX4_begins_108 (q := 109) rfl e2 ?_
  refine v_aload_n O.1 dX4_begins_109 rfl (q := 110) rfl ?_
  refine v_aload_n O.1 dX4_begins_110 rfl (q := 111) rfl ?_
  refine c_getS O hs_3 2 (by decide) (O.lk q740) rfl rfl rfl rfl (v := .int (C2 x3 2)) rfl dX4_begins_111 (q := 114) rfl ?_
  obtain ⟨C3, e3, h⟩ := stp_some h
  refine c_putC O hc 31 (u := (C2 x3 2)) (ty := .int) (by decide) (by decide) (O.lk q889) rfl rfl rfl rfl rfl (fun _ => rfl) dX4_begins_114 (q := 117) rfl e3 ?_
  refine v_aload_n O.1 dX4_begins_117 rfl (q := 118) rfl ?_
  refine v_iconst O.1 dX4_begins_118 (v := 0) rfl (q := 119) rfl ?_
  obtain ⟨C4, e4, h⟩ := stp_some h
  refine c_putC O hc 45 (u := 0) (ty := .int) (by decide) (by decide) (O.lk q922) rfl rfl rfl rfl rfl (fun _ => rfl) dX4_begins_119 (q := 122) rfl e4 ?_
  refine v_aload_n O.1 dX4_begins_122 rfl (q := 123) rfl ?_
  refine v_iload_n O.1 dX4_begins_123 rfl (q := 124) rfl ?_
  obtain ⟨C5, e5, h⟩ := stp_some h
  refine c_putC O hc 52 (u := x1) (ty := .int) (by decide) (by decide) (O.lk q933) rfl rfl rfl rfl rfl (fun _ => rfl) dX4_begins_124 (q := 127) rfl e5 ?_
  refine v_aload_n O.1 dX4_begins_127 rfl (q := 128) rfl ?_
  refine c_getC O hc 53 (v := .int (C5 c 53)) (by decide) (O.lk q935) rfl (fun _ => rfl) dX4_begins_128 (q := 131) rfl ?_
  refine v_sipush O.1 dX4_begins_131 (v := 300) (by decide) (q := 134) rfl ?_
  refine v_icmp_ge O.1 dX4_begins_134 (t := 147) (by decide) (q := 137) rfl (fun c6 => ?_) (fun c6 => ?_)
  · rw [if_pos c6] at h
    exact v_sub [0, 1, 2, 4] rfl (bc_Core_begins_147 hc O x1 x2 x4 C5 h)
  · rw [if_neg c6] at h
    refine v_aload_n O.1 dX4_begins_137 rfl (q := 138) rfl ?_
    refine c_getC O hc 54 (v := .ref (gCa g (c + 12))) (by decide) (O.lk q937) rfl (fun _ => rfl) dX4_begins_138 (q := 141) rfl ?_
    refine v_aload_n O.1 dX4_begins_141 rfl (q := 142) rfl ?_
    refine c_getC O hc 53 (v := .int (C5 c 53)) (by decide) (O.lk q935) rfl (fun _ => rfl) dX4_begins_142 (q := 145) rfl ?_
    refine v_iload_n O.1 dX4_begins_145 rfl (q := 146) rfl ?_
    obtain ⟨g7, h⟩ := gd_some h
    obtain ⟨C8, e8, h⟩ := stp_some h
    refine c_iast O (cIA_order hc) g7 rfl (j := (C5 c 53).toNatClampNeg) dX4_begins_146 (q := 147) rfl e8 ?_
    exact v_sub [0, 1, 2, 4] rfl (bc_Core_begins_147 hc O x1 x2 x4 C8 h)
def fc_Core_begins_80 (c : Nat) (x1 : Int32) (x2 : Int32) (x3 : Nat) (x4 : Int32) (y2 : Int32) (y1 : Int32) (C : Mem) : Option (Unit × Mem) :=
  gd (inb y1 14) <|
  stp (up2 C (c + 9) y1.toNatClampNeg y2) fun C2 =>
  stp (up2 C2 (c + 9) 1 ((C2 (c + 9) 1) + 1)) fun C3 =>
  if x2 = 0 then
    fc_Core_begins_107 c x1 x2 x3 x4 0 (C3 (c + 9) 2) 2 C3
  else
    fc_Core_begins_107 c x1 x2 x3 x4 1 (C3 (c + 9) 2) 2 C3
set_option maxHeartbeats 4000000 in
theorem bc_Core_begins_80 {g : gC} {X : Cxt} {r : Unit} {C' : Mem} {c : Nat} (hc : cC c) (O : OkC g X cX4_begins 5 none RX4 3 1 (cQv g r C')) (x1 : Int32) (x2 : Int32) (x3 : Nat) (hs_3 : cS x3) (x4 : Int32) (y2 : Int32) (y1 : Int32) (C : Mem) (h : fc_Core_begins_80 c x1 x2 x3 x4 y2 y1 C = some (r, C')) : V X 5 1 (WdC g C) 80 [(0, .ref (gCa g c)), (1, .int x1), (2, .int x2), (3, .ref (gCa g x3)), (4, .int x4)] [.int y2, .int y1, .ref (gCa g (c + 9))] := by
  unfold fc_Core_begins_80 at h
  obtain ⟨g1, h⟩ := gd_some h
  obtain ⟨C2, e2, h⟩ := stp_some h
  refine c_iast O (cIA_counts hc) g1 rfl (j := y1.toNatClampNeg) dX4_begins_80 (q := 81) rfl e2 ?_
  refine v_aload_n O.1 dX4_begins_81 rfl (q := 82) rfl ?_
  refine c_getC O hc 11 (v := .ref (gCa g (c + 9))) (by decide) (O.lk q858) rfl (fun _ => rfl) dX4_begins_82 (q := 85) rfl ?_
  refine v_iconst O.1 dX4_begins_85 (v := 1) rfl (q := 86) rfl ?_
  refine v_dup2 O.1 dX4_begins_86 rfl rfl (q := 87) rfl ?_
  refine c_iald O (cIA_counts hc) (by decide) (by decide) (j := 1) dX4_begins_87 (q := 88) rfl ?_
  refine v_iconst O.1 dX4_begins_88 (v := 1) rfl (q := 89) rfl ?_
  refine v_iadd O.1 dX4_begins_89 (q := 90) rfl ?_
  obtain ⟨C3, e3, h⟩ := stp_some h
  refine c_iast O (cIA_counts hc) (by decide) (by decide) (j := 1) dX4_begins_90 (q := 91) rfl e3 ?_
  refine v_aload_n O.1 dX4_begins_91 rfl (q := 92) rfl ?_
  refine c_getC O hc 11 (v := .ref (gCa g (c + 9))) (by decide) (O.lk q858) rfl (fun _ => rfl) dX4_begins_92 (q := 95) rfl ?_
  refine v_iconst O.1 dX4_begins_95 (v := 2) rfl (q := 96) rfl ?_
  refine v_dup2 O.1 dX4_begins_96 rfl rfl (q := 97) rfl ?_
  refine c_iald O (cIA_counts hc) (by decide) (by decide) (j := 2) dX4_begins_97 (q := 98) rfl ?_
  refine v_iload_n O.1 dX4_begins_98 rfl (q := 99) rfl ?_
  refine v_if_eq O.1 dX4_begins_99 (t := 106) (by decide) (q := 102) rfl (fun c4 => ?_) (fun c4 => ?_)
  · rw [if_pos c4] at h
    refine v_iconst O.1 dX4_begins_106 (v := 0) rfl (q := 107) rfl ?_
    exact v_sub [0, 1, 2, 3, 4] rfl (bc_Core_begins_107 hc O x1 x2 x3 hs_3 x4 0 (C3 (c + 9) 2) 2 C3 h)
  · rw [if_neg c4] at h
    refine v_iconst O.1 dX4_begins_102 (v := 1) rfl (q := 103) rfl ?_
    refine v_goto O.1 dX4_begins_103 (t := 107) (by decide) ?_
    exact v_sub [0, 1, 2, 3, 4] rfl (bc_Core_begins_107 hc O x1 x2 x3 hs_3 x4 1 (C3 (c + 9) 2) 2 C3 h)
def fc_Core_begins (c : Nat) (x1 : Int32) (x2 : Int32) (C : Mem) : Option (Unit × Mem) :=
  gd (inb x1 21) <|
  bnd (fv_begins (c + 22 + x1.toNatClampNeg) (C c 37) C) fun r2 C2 =>
  gd (inb (C2 c 33) 21) <|
  stp (up2 C2 (c + 6) (C2 c 33).toNatClampNeg x1) fun C4 =>
  stp (up2 C4 c 33 ((C4 c 33) + 1)) fun C5 =>
  if (C5 c 33) ≤ (C5 (c + 9) 12) then
    fc_Core_begins_80 c x1 x2 (c + 22 + x1.toNatClampNeg) ((C c 37) - (C (c + 22 + x1.toNatClampNeg) 6)) (C5 (c + 9) 12) 12 C5
  else
    fc_Core_begins_80 c x1 x2 (c + 22 + x1.toNatClampNeg) ((C c 37) - (C (c + 22 + x1.toNatClampNeg) 6)) (C5 c 33) 12 C5
set_option maxHeartbeats 4000000 in
theorem bc_Core_begins {g : gC} {X : Cxt} {r : Unit} {C' : Mem} {c : Nat} (hc : cC c) (O : OkC g X cX4_begins 5 none RX4 3 1 (cQv g r C')) (x1 : Int32) (x2 : Int32) (C : Mem) (h : fc_Core_begins c x1 x2 C = some (r, C')) : V X 5 1 (WdC g C) 0 [(0, .ref (gCa g c)), (1, .int x1), (2, .int x2)] [] := by
  unfold fc_Core_begins at h
  refine v_aload_n O.1 dX4_begins_0 rfl (q := 1) rfl ?_
  refine c_getC O hc 7 (v := .ref (gCa g (c + 5))) (by decide) (O.lk q848) rfl (fun _ => rfl) dX4_begins_1 (q := 4) rfl ?_
  refine v_iload_n O.1 dX4_begins_4 rfl (q := 5) rfl ?_
  obtain ⟨g1, h⟩ := gd_some h
  refine c_all O hc g1 rfl (j := x1.toNatClampNeg) dX4_begins_5 (q := 6) rfl ?_
  refine v_astore_n (lv' := [(3, .ref (gCa g (c + 22 + x1.toNatClampNeg))), (0, .ref (gCa g c)), (1, .int x1), (2, .int x2)]) O.1 dX4_begins_6 (by decide) rfl (q := 7) rfl ?_
  refine v_aload_n O.1 dX4_begins_7 rfl (q := 8) rfl ?_
  refine c_getC O hc 37 (v := .int (C c 37)) (by decide) (O.lk q905) rfl (fun _ => rfl) dX4_begins_8 (q := 11) rfl ?_
  refine v_aload_n O.1 dX4_begins_11 rfl (q := 12) rfl ?_
  refine c_getS O (cS_of hc (inb_lt g1)) 6 (by decide) (O.lk q754) rfl rfl rfl rfl (v := .int (C (c + 22 + x1.toNatClampNeg) 6)) rfl dX4_begins_12 (q := 15) rfl ?_
  refine v_isub O.1 dX4_begins_15 (q := 16) rfl ?_
  refine v_istore (lv' := [(4, .int ((C c 37) - (C (c + 22 + x1.toNatClampNeg) 6))), (3, .ref (gCa g (c + 22 + x1.toNatClampNeg))), (0, .ref (gCa g c)), (1, .int x1), (2, .int x2)]) O.1 dX4_begins_16 (by decide) rfl (q := 18) rfl ?_
  refine v_aload_n O.1 dX4_begins_18 rfl (q := 19) rfl ?_
  refine v_aload_n O.1 dX4_begins_19 rfl (q := 20) rfl ?_
  refine c_getC O hc 37 (v := .int (C c 37)) (by decide) (O.lk q905) rfl (fun _ => rfl) dX4_begins_20 (q := 23) rfl ?_
  obtain ⟨r2, C2, e2, h⟩ := bnd_some h
  refine c_v_begins (rest := []) O (cS_of hc (inb_lt g1)) e2 q319 (by decide) rfl (Nat.le_of_ble_eq_true rfl) dX4_begins_23 (q := 26) rfl ?_
  refine v_aload_n O.1 dX4_begins_26 rfl (q := 27) rfl ?_
  refine c_getC O hc 8 (v := .ref (gCa g (c + 6))) (by decide) (O.lk q852) rfl (fun _ => rfl) dX4_begins_27 (q := 30) rfl ?_
  refine v_aload_n O.1 dX4_begins_30 rfl (q := 31) rfl ?_
  refine c_getC O hc 33 (v := .int (C2 c 33)) (by decide) (O.lk q895) rfl (fun _ => rfl) dX4_begins_31 (q := 34) rfl ?_
  refine v_iload_n O.1 dX4_begins_34 rfl (q := 35) rfl ?_
  obtain ⟨g3, h⟩ := gd_some h
  obtain ⟨C4, e4, h⟩ := stp_some h
  refine c_iast O (cIA_nest hc) g3 rfl (j := (C2 c 33).toNatClampNeg) dX4_begins_35 (q := 36) rfl e4 ?_
  refine v_aload_n O.1 dX4_begins_36 rfl (q := 37) rfl ?_
  refine v_dup O.1 dX4_begins_37 rfl (q := 38) rfl ?_
  refine c_getC O hc 33 (v := .int (C4 c 33)) (by decide) (O.lk q895) rfl (fun _ => rfl) dX4_begins_38 (q := 41) rfl ?_
  refine v_iconst O.1 dX4_begins_41 (v := 1) rfl (q := 42) rfl ?_
  refine v_iadd O.1 dX4_begins_42 (q := 43) rfl ?_
  obtain ⟨C5, e5, h⟩ := stp_some h
  refine c_putC O hc 33 (u := ((C4 c 33) + 1)) (ty := .int) (by decide) (by decide) (O.lk q895) rfl rfl rfl rfl rfl (fun _ => rfl) dX4_begins_43 (q := 46) rfl e5 ?_
  refine v_aload_n O.1 dX4_begins_46 rfl (q := 47) rfl ?_
  refine c_getC O hc 11 (v := .ref (gCa g (c + 9))) (by decide) (O.lk q858) rfl (fun _ => rfl) dX4_begins_47 (q := 50) rfl ?_
  refine v_bipush O.1 dX4_begins_50 (v := 12) (by decide) (q := 52) rfl ?_
  refine v_aload_n O.1 dX4_begins_52 rfl (q := 53) rfl ?_
  refine c_getC O hc 33 (v := .int (C5 c 33)) (by decide) (O.lk q895) rfl (fun _ => rfl) dX4_begins_53 (q := 56) rfl ?_
  refine v_aload_n O.1 dX4_begins_56 rfl (q := 57) rfl ?_
  refine c_getC O hc 11 (v := .ref (gCa g (c + 9))) (by decide) (O.lk q858) rfl (fun _ => rfl) dX4_begins_57 (q := 60) rfl ?_
  refine v_bipush O.1 dX4_begins_60 (v := 12) (by decide) (q := 62) rfl ?_
  refine c_iald O (cIA_counts hc) (by decide) (by decide) (j := 12) dX4_begins_62 (q := 63) rfl ?_
  refine v_icmp_le O.1 dX4_begins_63 (t := 73) (by decide) (q := 66) rfl (fun c6 => ?_) (fun c6 => ?_)
  · rw [if_pos c6] at h
    refine v_aload_n O.1 dX4_begins_73 rfl (q := 74) rfl ?_
    refine c_getC O hc 11 (v := .ref (gCa g (c + 9))) (by decide) (O.lk q858) rfl (fun _ => rfl) dX4_begins_74 (q := 77) rfl ?_
    refine v_bipush O.1 dX4_begins_77 (v := 12) (by decide) (q := 79) rfl ?_
    refine c_iald O (cIA_counts hc) (by decide) (by decide) (j := 12) dX4_begins_79 (q := 80) rfl ?_
    exact v_sub [2, 3, 4, 1, 0] rfl (bc_Core_begins_80 hc O x1 x2 (c + 22 + x1.toNatClampNeg) (cS_of hc (inb_lt g1)) ((C c 37) - (C (c + 22 + x1.toNatClampNeg) 6)) (C5 (c + 9) 12) 12 C5 h)
  · rw [if_neg c6] at h
    refine v_aload_n O.1 dX4_begins_66 rfl (q := 67) rfl ?_
    refine c_getC O hc 33 (v := .int (C5 c 33)) (by decide) (O.lk q895) rfl (fun _ => rfl) dX4_begins_67 (q := 70) rfl ?_
    refine v_goto O.1 dX4_begins_70 (t := 80) (by decide) ?_
    exact v_sub [2, 3, 4, 1, 0] rfl (bc_Core_begins_80 hc O x1 x2 (c + 22 + x1.toNatClampNeg) (cS_of hc (inb_lt g1)) ((C c 37) - (C (c + 22 + x1.toNatClampNeg) 6)) (C5 c 33) 12 C5 h)
theorem metc_Core_begins (l : Launch) (g : gC) (c : Nat) (hc : cC c) (x1 : Int32) (x2 : Int32) (C C' : Mem) (r : Unit) (h : fc_Core_begins c x1 x2 C = some (r, C')) : MetC l g yX4_begins cX4_begins 5 none 3 1 [.ref (gCa g c), .int x1, .int x2] C (cQv g r C') :=
  c_met (by decide) rfl (Nat.le_of_ble_eq_true rfl) (fun X O => bc_Core_begins hc O x1 x2 C h)
/-! RankEntry$Core.chaining()V -/
def fc_Core_chaining_42 (c : Nat)  (C : Mem) : Option (Unit × Mem) :=
  some ((), C)
set_option maxHeartbeats 4000000 in
theorem bc_Core_chaining_42 {g : gC} {X : Cxt} {r : Unit} {C' : Mem} {c : Nat} (hc : cC c) (O : OkC g X cX4_chaining 2 none RX4 6 1 (cQv g r C'))  (C : Mem) (h : fc_Core_chaining_42 c  C = some (r, C')) : V X 2 0 (WdC g C) 42 [] [] := by
  unfold fc_Core_chaining_42 at h
  exact c_vret O h dX4_chaining_42
def fc_Core_chaining (c : Nat)  (C : Mem) : Option (Unit × Mem) :=
  stp (up2 C c 42 ((C c 42) + 1)) fun C1 =>
  if 2 ≤ (C1 c 42) then
    bnd (fc_Core_next c C1) fun r3 C3 =>
    if 0 ≤ r3 then
      bnd (fc_Core_begins c r3 1 C3) fun r5 C5 =>
      fc_Core_chaining_42 c C5
    else
      bnd (fc_Core_turns c 3 C3) fun r6 C6 =>
      fc_Core_chaining_42 c C6
  else
    some ((), C1)
set_option maxHeartbeats 4000000 in
theorem bc_Core_chaining {g : gC} {X : Cxt} {r : Unit} {C' : Mem} {c : Nat} (hc : cC c) (O : OkC g X cX4_chaining 2 none RX4 6 1 (cQv g r C'))  (C : Mem) (h : fc_Core_chaining c  C = some (r, C')) : V X 2 1 (WdC g C) 0 [(0, .ref (gCa g c))] [] := by
  unfold fc_Core_chaining at h
  refine v_aload_n O.1 dX4_chaining_0 rfl (q := 1) rfl ?_
  refine v_dup O.1 dX4_chaining_1 rfl (q := 2) rfl ?_
  refine c_getC O hc 42 (v := .int (C c 42)) (by decide) (O.lk q915) rfl (fun _ => rfl) dX4_chaining_2 (q := 5) rfl ?_
  refine v_iconst O.1 dX4_chaining_5 (v := 1) rfl (q := 6) rfl ?_
  refine v_iadd O.1 dX4_chaining_6 (q := 7) rfl ?_
  obtain ⟨C1, e1, h⟩ := stp_some h
  refine c_putC O hc 42 (u := ((C c 42) + 1)) (ty := .int) (by decide) (by decide) (O.lk q915) rfl rfl rfl rfl rfl (fun _ => rfl) dX4_chaining_7 (q := 10) rfl e1 ?_
  refine v_aload_n O.1 dX4_chaining_10 rfl (q := 11) rfl ?_
  refine c_getC O hc 42 (v := .int (C1 c 42)) (by decide) (O.lk q915) rfl (fun _ => rfl) dX4_chaining_11 (q := 14) rfl ?_
  refine v_iconst O.1 dX4_chaining_14 (v := 2) rfl (q := 15) rfl ?_
  refine v_icmp_ge O.1 dX4_chaining_15 (t := 19) (by decide) (q := 18) rfl (fun c2 => ?_) (fun c2 => ?_)
  · rw [if_pos c2] at h
    refine v_aload_n O.1 dX4_chaining_19 rfl (q := 20) rfl ?_
    obtain ⟨r3, C3, e3, h⟩ := bnd_some h
    refine c_callVi (As := []) (rest := []) (n := 0) (ci := 2) (p := (RX4, TX4, 55)) O (cC_lt (j := 0) hc (by decide)) rfl (fun _ _ => ⟨_, cCell_core hc⟩) (metc_Core_next _ g c hc C1 C3 r3 e3) (lw_V q204 q205 q206 q63 q207) (by decide +kernel) (by decide) (by decide) rfl rfl (Nat.le_of_ble_eq_true rfl) dX4_chaining_20 (q := 23) rfl (b' := 1) rfl ?_
    refine v_istore_n (lv' := [(1, .int r3), (0, .ref (gCa g c))]) O.1 dX4_chaining_23 (by decide) rfl (q := 24) rfl ?_
    refine v_iload_n O.1 dX4_chaining_24 rfl (q := 25) rfl ?_
    refine v_if_ge O.1 dX4_chaining_25 (t := 36) (by decide) (q := 28) rfl (fun c4 => ?_) (fun c4 => ?_)
    · rw [if_pos c4] at h
      refine v_aload_n O.1 dX4_chaining_36 rfl (q := 37) rfl ?_
      refine v_iload_n O.1 dX4_chaining_37 rfl (q := 38) rfl ?_
      refine v_iconst O.1 dX4_chaining_38 (v := 1) rfl (q := 39) rfl ?_
      obtain ⟨r5, C5, e5, h⟩ := bnd_some h
      refine c_callVv (As := [.int r3, .int 1]) (rest := []) (n := 2) (ci := 2) (p := (RX4, TX4, 55)) O (cC_lt (j := 0) hc (by decide)) rfl (fun _ _ => ⟨_, cCell_core hc⟩) (metc_Core_begins _ g c hc r3 1 C3 C5 r5 e5) (lw_V q315 q317 qs7 q63 q318) (by decide +kernel) (by decide) (by decide) rfl rfl (Nat.le_of_ble_eq_true rfl) dX4_chaining_39 (q := 42) rfl (b' := 0) rfl ?_
      exact v_sub [] rfl (bc_Core_chaining_42 hc O C5 h)
    · rw [if_neg c4] at h
      refine v_aload_n O.1 dX4_chaining_28 rfl (q := 29) rfl ?_
      refine v_iconst O.1 dX4_chaining_29 (v := 3) rfl (q := 30) rfl ?_
      obtain ⟨r6, C6, e6, h⟩ := bnd_some h
      refine c_callVv (As := [.int 3]) (rest := []) (n := 1) (ci := 2) (p := (RX4, TX4, 55)) O (cC_lt (j := 0) hc (by decide)) rfl (fun _ _ => ⟨_, cCell_core hc⟩) (metc_Core_turns _ g c hc 3 C3 C6 r6 e6) (lw_V q238 q239 q240 q63 q241) (by decide +kernel) (by decide) (by decide) rfl rfl (Nat.le_of_ble_eq_true rfl) dX4_chaining_30 (q := 33) rfl (b' := 1) rfl ?_
      refine v_goto O.1 dX4_chaining_33 (t := 42) (by decide) ?_
      exact v_less (b' := 0) (by decide) (v_sub [] rfl (bc_Core_chaining_42 hc O C6 h))
  · rw [if_neg c2] at h
    exact c_vret O h dX4_chaining_18
theorem metc_Core_chaining (l : Launch) (g : gC) (c : Nat) (hc : cC c) (C C' : Mem) (r : Unit) (h : fc_Core_chaining c C = some (r, C')) : MetC l g yX4_chaining cX4_chaining 2 none 6 1 [.ref (gCa g c)] C (cQv g r C') :=
  c_met (by decide) rfl (Nat.le_of_ble_eq_true rfl) (fun X O => bc_Core_chaining hc O C h)
/-! RankEntry$Core.stacking()V -/
def fc_Core_stacking_120 (c : Nat) (x1 : Int32) (C : Mem) : Option (Unit × Mem) :=
  bnd (fc_Core_begins c x1 0 C) fun r1 C1 =>
  some ((), C1)
set_option maxHeartbeats 4000000 in
theorem bc_Core_stacking_120 {g : gC} {X : Cxt} {r : Unit} {C' : Mem} {c : Nat} (hc : cC c) (O : OkC g X cX4_stacking 2 none RX4 7 3 (cQv g r C')) (x1 : Int32) (C : Mem) (h : fc_Core_stacking_120 c x1 C = some (r, C')) : V X 2 1 (WdC g C) 120 [(0, .ref (gCa g c)), (1, .int x1)] [] := by
  unfold fc_Core_stacking_120 at h
  refine v_aload_n O.1 dX4_stacking_120 rfl (q := 121) rfl ?_
  refine v_iload_n O.1 dX4_stacking_121 rfl (q := 122) rfl ?_
  refine v_iconst O.1 dX4_stacking_122 (v := 0) rfl (q := 123) rfl ?_
  obtain ⟨r1, C1, e1, h⟩ := bnd_some h
  refine c_callVv (As := [.int x1, .int 0]) (rest := []) (n := 2) (ci := 2) (p := (RX4, TX4, 55)) O (cC_lt (j := 0) hc (by decide)) rfl (fun _ _ => ⟨_, cCell_core hc⟩) (metc_Core_begins _ g c hc x1 0 C C1 r1 e1) (lw_V q315 q317 qs7 q63 q318) (by decide +kernel) (by decide) (by decide) rfl rfl (Nat.le_of_ble_eq_true rfl) dX4_stacking_123 (q := 126) rfl (b' := 0) rfl ?_
  exact c_vret O h dX4_stacking_126
def fc_Core_stacking_45 (c : Nat)  (C : Mem) : Option (Unit × Mem) :=
  if (C c 41) = 5 then
    some ((), C)
  else
    stp (up2 C c 42 ((C c 42) + 1)) fun C2 =>
    if 6 ≤ (C2 c 42) then
      bnd (fc_Core_next c C2) fun r4 C4 =>
      bnd (fv_of c (C2 c 25) (C2 c 47) r4 C4) fun r5 C5 =>
      if 0 ≤ r5 then
        if r5 = (C5 c 47) then
          fc_Core_stacking_120 c r5 C5
        else
          stp (up2 C5 (c + 9) 3 ((C5 (c + 9) 3) + 1)) fun C8 =>
          fc_Core_stacking_120 c r5 C8
      else
        bnd (fc_Core_turns c 3 C5) fun r9 C9 =>
        some ((), C9)
    else
      some ((), C2)
set_option maxHeartbeats 4000000 in
theorem bc_Core_stacking_45 {g : gC} {X : Cxt} {r : Unit} {C' : Mem} {c : Nat} (hc : cC c) (O : OkC g X cX4_stacking 2 none RX4 7 3 (cQv g r C'))  (C : Mem) (h : fc_Core_stacking_45 c  C = some (r, C')) : V X 2 1 (WdC g C) 45 [(0, .ref (gCa g c))] [] := by
  unfold fc_Core_stacking_45 at h
  refine v_aload_n O.1 dX4_stacking_45 rfl (q := 46) rfl ?_
  refine c_getC O hc 41 (v := .int (C c 41)) (by decide) (O.lk q913) rfl (fun _ => rfl) dX4_stacking_46 (q := 49) rfl ?_
  refine v_iconst O.1 dX4_stacking_49 (v := 5) rfl (q := 50) rfl ?_
  refine v_icmp_ne O.1 dX4_stacking_50 (t := 54) (by decide) (q := 53) rfl (fun c1 => ?_) (fun c1 => ?_)
  · rw [if_neg c1] at h
    refine v_aload_n O.1 dX4_stacking_54 rfl (q := 55) rfl ?_
    refine v_dup O.1 dX4_stacking_55 rfl (q := 56) rfl ?_
    refine c_getC O hc 42 (v := .int (C c 42)) (by decide) (O.lk q915) rfl (fun _ => rfl) dX4_stacking_56 (q := 59) rfl ?_
    refine v_iconst O.1 dX4_stacking_59 (v := 1) rfl (q := 60) rfl ?_
    refine v_iadd O.1 dX4_stacking_60 (q := 61) rfl ?_
    obtain ⟨C2, e2, h⟩ := stp_some h
    refine c_putC O hc 42 (u := ((C c 42) + 1)) (ty := .int) (by decide) (by decide) (O.lk q915) rfl rfl rfl rfl rfl (fun _ => rfl) dX4_stacking_61 (q := 64) rfl e2 ?_
    refine v_aload_n O.1 dX4_stacking_64 rfl (q := 65) rfl ?_
    refine c_getC O hc 42 (v := .int (C2 c 42)) (by decide) (O.lk q915) rfl (fun _ => rfl) dX4_stacking_65 (q := 68) rfl ?_
    refine v_bipush O.1 dX4_stacking_68 (v := 6) (by decide) (q := 70) rfl ?_
    refine v_icmp_ge O.1 dX4_stacking_70 (t := 74) (by decide) (q := 73) rfl (fun c3 => ?_) (fun c3 => ?_)
    · rw [if_pos c3] at h
      refine v_aload_n O.1 dX4_stacking_74 rfl (q := 75) rfl ?_
      refine c_getC O hc 25 (v := .ref (cCh g c (C2 c 25))) (by decide) (O.lk q875) rfl (fun _ => rfl) dX4_stacking_75 (q := 78) rfl ?_
      refine v_aload_n O.1 dX4_stacking_78 rfl (q := 79) rfl ?_
      refine c_getC O hc 47 (v := .int (C2 c 47)) (by decide) (O.lk q926) rfl (fun _ => rfl) dX4_stacking_79 (q := 82) rfl ?_
      refine v_aload_n O.1 dX4_stacking_82 rfl (q := 83) rfl ?_
      obtain ⟨r4, C4, e4, h⟩ := bnd_some h
      refine c_callVi (As := []) (rest := [.int (C2 c 47), .ref (cCh g c (C2 c 25))]) (n := 0) (ci := 2) (p := (RX4, TX4, 55)) O (cC_lt (j := 0) hc (by decide)) rfl (fun _ _ => ⟨_, cCell_core hc⟩) (metc_Core_next _ g c hc C2 C4 r4 e4) (lw_V q204 q205 q206 q63 q207) (by decide +kernel) (by decide) (by decide) rfl rfl (Nat.le_of_ble_eq_true rfl) dX4_stacking_83 (q := 86) rfl (b' := 1) rfl ?_
      obtain ⟨r5, C5, e5, h⟩ := bnd_some h
      refine c_of (rest := []) O hc e5 q312 (by decide) rfl (Nat.le_of_ble_eq_true rfl) dX4_stacking_86 (q := 91) rfl ?_
      refine v_istore_n (lv' := [(1, .int r5), (0, .ref (gCa g c))]) O.1 dX4_stacking_91 (by decide) rfl (q := 92) rfl ?_
      refine v_iload_n O.1 dX4_stacking_92 rfl (q := 93) rfl ?_
      refine v_if_ge O.1 dX4_stacking_93 (t := 102) (by decide) (q := 96) rfl (fun c6 => ?_) (fun c6 => ?_)
      · rw [if_pos c6] at h
        refine v_iload_n O.1 dX4_stacking_102 rfl (q := 103) rfl ?_
        refine v_aload_n O.1 dX4_stacking_103 rfl (q := 104) rfl ?_
        refine c_getC O hc 47 (v := .int (C5 c 47)) (by decide) (O.lk q926) rfl (fun _ => rfl) dX4_stacking_104 (q := 107) rfl ?_
        refine v_icmp_eq O.1 dX4_stacking_107 (t := 120) (by decide) (q := 110) rfl (fun c7 => ?_) (fun c7 => ?_)
        · rw [if_pos c7] at h
          exact v_sub [1, 0] rfl (bc_Core_stacking_120 hc O r5 C5 h)
        · rw [if_neg c7] at h
          refine v_aload_n O.1 dX4_stacking_110 rfl (q := 111) rfl ?_
          refine c_getC O hc 11 (v := .ref (gCa g (c + 9))) (by decide) (O.lk q858) rfl (fun _ => rfl) dX4_stacking_111 (q := 114) rfl ?_
          refine v_iconst O.1 dX4_stacking_114 (v := 3) rfl (q := 115) rfl ?_
          refine v_dup2 O.1 dX4_stacking_115 rfl rfl (q := 116) rfl ?_
          refine c_iald O (cIA_counts hc) (by decide) (by decide) (j := 3) dX4_stacking_116 (q := 117) rfl ?_
          refine v_iconst O.1 dX4_stacking_117 (v := 1) rfl (q := 118) rfl ?_
          refine v_iadd O.1 dX4_stacking_118 (q := 119) rfl ?_
          obtain ⟨C8, e8, h⟩ := stp_some h
          refine c_iast O (cIA_counts hc) (by decide) (by decide) (j := 3) dX4_stacking_119 (q := 120) rfl e8 ?_
          exact v_sub [1, 0] rfl (bc_Core_stacking_120 hc O r5 C8 h)
      · rw [if_neg c6] at h
        refine v_aload_n O.1 dX4_stacking_96 rfl (q := 97) rfl ?_
        refine v_iconst O.1 dX4_stacking_97 (v := 3) rfl (q := 98) rfl ?_
        obtain ⟨r9, C9, e9, h⟩ := bnd_some h
        refine c_callVv (As := [.int 3]) (rest := []) (n := 1) (ci := 2) (p := (RX4, TX4, 55)) O (cC_lt (j := 0) hc (by decide)) rfl (fun _ _ => ⟨_, cCell_core hc⟩) (metc_Core_turns _ g c hc 3 C5 C9 r9 e9) (lw_V q238 q239 q240 q63 q241) (by decide +kernel) (by decide) (by decide) rfl rfl (Nat.le_of_ble_eq_true rfl) dX4_stacking_98 (q := 101) rfl (b' := 1) rfl ?_
        exact c_vret O h dX4_stacking_101
    · rw [if_neg c3] at h
      exact c_vret O h dX4_stacking_73
  · rw [if_pos c1] at h
    exact c_vret O h dX4_stacking_53
def fc_Core_stacking_19 (c : Nat)  (C : Mem) : Option (Unit × Mem) :=
  if (C c 48) = 0 then
    bnd (fc_Core_framed c (C c 42) C) fun r2 C2 =>
    bnd (fc_Core_pushes c r2 C2) fun r3 C3 =>
    if r3 = 0 then
      bnd (fc_Core_breaks c C3) fun r5 C5 =>
      fc_Core_stacking_45 c C5
    else
      fc_Core_stacking_45 c C3
  else
    fc_Core_stacking_45 c C
set_option maxHeartbeats 4000000 in
theorem bc_Core_stacking_19 {g : gC} {X : Cxt} {r : Unit} {C' : Mem} {c : Nat} (hc : cC c) (O : OkC g X cX4_stacking 2 none RX4 7 3 (cQv g r C'))  (C : Mem) (h : fc_Core_stacking_19 c  C = some (r, C')) : V X 2 2 (WdC g C) 19 [(0, .ref (gCa g c))] [] := by
  unfold fc_Core_stacking_19 at h
  refine v_aload_n O.1 dX4_stacking_19 rfl (q := 20) rfl ?_
  refine c_getC O hc 48 (v := .int (C c 48)) (by decide) (O.lk q927) rfl (fun _ => rfl) dX4_stacking_20 (q := 23) rfl ?_
  refine v_if_ne O.1 dX4_stacking_23 (t := 45) (by decide) (q := 26) rfl (fun c1 => ?_) (fun c1 => ?_)
  · rw [if_neg c1] at h
    exact v_less (b' := 1) (by decide) (v_sub [0] rfl (bc_Core_stacking_45 hc O C h))
  · rw [if_pos c1] at h
    refine v_aload_n O.1 dX4_stacking_26 rfl (q := 27) rfl ?_
    refine v_aload_n O.1 dX4_stacking_27 rfl (q := 28) rfl ?_
    refine v_aload_n O.1 dX4_stacking_28 rfl (q := 29) rfl ?_
    refine c_getC O hc 42 (v := .int (C c 42)) (by decide) (O.lk q915) rfl (fun _ => rfl) dX4_stacking_29 (q := 32) rfl ?_
    obtain ⟨r2, C2, e2, h⟩ := bnd_some h
    refine c_callVi (As := [.int (C c 42)]) (rest := [.ref (gCa g c)]) (n := 1) (ci := 2) (p := (RX4, TX4, 55)) O (cC_lt (j := 0) hc (by decide)) rfl (fun _ _ => ⟨_, cCell_core hc⟩) (metc_Core_framed _ g c hc (C c 42) C C2 r2 e2) (lw_V q303 q305 qs6 q63 q306) (by decide +kernel) (by decide) (by decide) rfl rfl (Nat.le_of_ble_eq_true rfl) dX4_stacking_32 (q := 35) rfl (b' := 2) rfl ?_
    obtain ⟨r3, C3, e3, h⟩ := bnd_some h
    refine c_callVi (As := [.int r2]) (rest := []) (n := 1) (ci := 2) (p := (RX4, TX4, 55)) O (cC_lt (j := 0) hc (by decide)) rfl (fun _ _ => ⟨_, cCell_core hc⟩) (metc_Core_pushes _ g c hc r2 C2 C3 r3 e3) (lw_V q307 q308 q309 q63 q310) (by decide +kernel) (by decide) (by decide) rfl rfl (Nat.le_of_ble_eq_true rfl) dX4_stacking_35 (q := 38) rfl (b' := 2) rfl ?_
    refine v_if_ne O.1 dX4_stacking_38 (t := 45) (by decide) (q := 41) rfl (fun c4 => ?_) (fun c4 => ?_)
    · rw [if_neg c4] at h
      exact v_less (b' := 1) (by decide) (v_sub [0] rfl (bc_Core_stacking_45 hc O C3 h))
    · rw [if_pos c4] at h
      refine v_aload_n O.1 dX4_stacking_41 rfl (q := 42) rfl ?_
      obtain ⟨r5, C5, e5, h⟩ := bnd_some h
      refine c_callVv (As := []) (rest := []) (n := 0) (ci := 2) (p := (RX4, TX4, 55)) O (cC_lt (j := 0) hc (by decide)) rfl (fun _ _ => ⟨_, cCell_core hc⟩) (metc_Core_breaks _ g c hc C3 C5 r5 e5) (lw_V q250 q252 qs5 q63 q253) (by decide +kernel) (by decide) (by decide) rfl rfl (Nat.le_of_ble_eq_true rfl) dX4_stacking_42 (q := 45) rfl (b' := 1) rfl ?_
      exact v_sub [0] rfl (bc_Core_stacking_45 hc O C5 h)
def fc_Core_stacking (c : Nat)  (C : Mem) : Option (Unit × Mem) :=
  if (C c 42) = 0 then
    if (C c 45) = 1 then
      bnd (fc_Core_reserves c C) fun r3 C3 =>
      fc_Core_stacking_19 c C3
    else
      fc_Core_stacking_19 c C
  else
    fc_Core_stacking_19 c C
set_option maxHeartbeats 4000000 in
theorem bc_Core_stacking {g : gC} {X : Cxt} {r : Unit} {C' : Mem} {c : Nat} (hc : cC c) (O : OkC g X cX4_stacking 2 none RX4 7 3 (cQv g r C'))  (C : Mem) (h : fc_Core_stacking c  C = some (r, C')) : V X 2 3 (WdC g C) 0 [(0, .ref (gCa g c))] [] := by
  unfold fc_Core_stacking at h
  refine v_aload_n O.1 dX4_stacking_0 rfl (q := 1) rfl ?_
  refine c_getC O hc 42 (v := .int (C c 42)) (by decide) (O.lk q915) rfl (fun _ => rfl) dX4_stacking_1 (q := 4) rfl ?_
  refine v_if_ne O.1 dX4_stacking_4 (t := 19) (by decide) (q := 7) rfl (fun c1 => ?_) (fun c1 => ?_)
  · rw [if_neg c1] at h
    exact v_less (b' := 2) (by decide) (v_sub [0] rfl (bc_Core_stacking_19 hc O C h))
  · rw [if_pos c1] at h
    refine v_aload_n O.1 dX4_stacking_7 rfl (q := 8) rfl ?_
    refine c_getC O hc 45 (v := .int (C c 45)) (by decide) (O.lk q922) rfl (fun _ => rfl) dX4_stacking_8 (q := 11) rfl ?_
    refine v_iconst O.1 dX4_stacking_11 (v := 1) rfl (q := 12) rfl ?_
    refine v_icmp_ne O.1 dX4_stacking_12 (t := 19) (by decide) (q := 15) rfl (fun c2 => ?_) (fun c2 => ?_)
    · rw [if_neg c2] at h
      exact v_less (b' := 2) (by decide) (v_sub [0] rfl (bc_Core_stacking_19 hc O C h))
    · rw [if_pos c2] at h
      refine v_aload_n O.1 dX4_stacking_15 rfl (q := 16) rfl ?_
      obtain ⟨r3, C3, e3, h⟩ := bnd_some h
      refine c_callVv (As := []) (rest := []) (n := 0) (ci := 2) (p := (RX4, TX4, 55)) O (cC_lt (j := 0) hc (by decide)) rfl (fun _ _ => ⟨_, cCell_core hc⟩) (metc_Core_reserves _ g c hc C C3 r3 e3) (lw_V q246 q248 qs4 q63 q249) (by decide +kernel) (by decide) (by decide) rfl rfl (Nat.le_of_ble_eq_true rfl) dX4_stacking_16 (q := 19) rfl (b' := 2) rfl ?_
      exact v_sub [0] rfl (bc_Core_stacking_19 hc O C3 h)
theorem metc_Core_stacking (l : Launch) (g : gC) (c : Nat) (hc : cC c) (C C' : Mem) (r : Unit) (h : fc_Core_stacking c C = some (r, C')) : MetC l g yX4_stacking cX4_stacking 2 none 7 3 [.ref (gCa g c)] C (cQv g r C') :=
  c_met (by decide) rfl (Nat.le_of_ble_eq_true rfl) (fun X O => bc_Core_stacking hc O C h)
/-! RankEntry$Core.returns()V -/
def fc_Core_returns_243 (c : Nat)  (C : Mem) : Option (Unit × Mem) :=
  some ((), C)
set_option maxHeartbeats 4000000 in
theorem bc_Core_returns_243 {g : gC} {X : Cxt} {r : Unit} {C' : Mem} {c : Nat} (hc : cC c) (O : OkC g X cX4_returns 4 none RX4 3 1 (cQv g r C'))  (C : Mem) (h : fc_Core_returns_243 c  C = some (r, C')) : V X 4 0 (WdC g C) 243 [] [] := by
  unfold fc_Core_returns_243 at h
  exact c_vret O h dX4_returns_243
def fc_Core_returns_229 (c : Nat) (y3 : Int32) (C : Mem) : Option (Unit × Mem) :=
  bnd (fc_Core_notes c 5 y3 (C c 37) (C c 32) C) fun r2 C2 =>
  fc_Core_returns_243 c C2
set_option maxHeartbeats 4000000 in
theorem bc_Core_returns_229 {g : gC} {X : Cxt} {r : Unit} {C' : Mem} {c : Nat} (hc : cC c) (O : OkC g X cX4_returns 4 none RX4 3 1 (cQv g r C')) (y3 : Int32) (a : Nat) (C : Mem) (h : fc_Core_returns_229 c y3 C = some (r, C')) : V X 4 0 (PN g C a 13 [.int 0, .int 0, .int 0]) 229 [(0, .ref (gCa g c))] [.int y3, .ref a, .ref a, .ref (gCa g c)] := by
  unfold fc_Core_returns_229 at h
  refine v_aload_n O.1 dX4_returns_229 rfl (q := 230) rfl ?_
  refine c_getCP O (C := C) PN.wd hc 37 (v := .int (C c 37)) (by decide) (O.lk q905) rfl (fun _ => rfl) dX4_returns_230 (q := 233) rfl ?_
  refine v_aload_n O.1 dX4_returns_233 rfl (q := 234) rfl ?_
  refine c_getCP O (C := C) PN.wd hc 32 (v := .int (C c 32)) (by decide) (O.lk q893) rfl (fun _ => rfl) dX4_returns_234 (q := 237) rfl ?_
  refine c_init_Returned (rest := [.ref a, .ref (gCa g c)]) O q673 (by decide) rfl (Nat.le_of_ble_eq_true rfl) dX4_returns_237 (q := 240) rfl ?_
  obtain ⟨r2, C2, e2, h⟩ := bnd_some h
  refine c_notes (rest := []) O hc e2 q283 (by decide) rfl (Nat.le_of_ble_eq_true rfl) dX4_returns_240 (q := 243) rfl ?_
  exact v_sub [] rfl (bc_Core_returns_243 hc O C2 h)
def fc_Core_returns_186 (c : Nat) (y2 : Int32) (y1 : Int32) (C : Mem) : Option (Unit × Mem) :=
  stp (up2 C c 32 (y1 - y2)) fun C1 =>
  bnd (fc_Core_turns c 0 C1) fun r2 C2 =>
  if (C2 c 28) = 0 then
    if (C2 c 33) = 0 then
      fc_Core_returns_229 c (-1) C2
    else
      gd (inb ((C2 c 33) - 1) 21) <|
      fc_Core_returns_229 c (C2 (c + 6) ((C2 c 33) - 1).toNatClampNeg) C2
  else
    fc_Core_returns_243 c C2
set_option maxHeartbeats 4000000 in
theorem bc_Core_returns_186 {g : gC} {X : Cxt} {r : Unit} {C' : Mem} {c : Nat} (hc : cC c) (O : OkC g X cX4_returns 4 none RX4 3 1 (cQv g r C')) (y2 : Int32) (y1 : Int32) (C : Mem) (h : fc_Core_returns_186 c y2 y1 C = some (r, C')) : V X 4 1 (WdC g C) 186 [(0, .ref (gCa g c))] [.int y2, .int y1, .ref (gCa g c)] := by
  unfold fc_Core_returns_186 at h
  refine v_isub O.1 dX4_returns_186 (q := 187) rfl ?_
  obtain ⟨C1, e1, h⟩ := stp_some h
  refine c_putC O hc 32 (u := (y1 - y2)) (ty := .int) (by decide) (by decide) (O.lk q893) rfl rfl rfl rfl rfl (fun _ => rfl) dX4_returns_187 (q := 190) rfl e1 ?_
  refine v_aload_n O.1 dX4_returns_190 rfl (q := 191) rfl ?_
  refine v_iconst O.1 dX4_returns_191 (v := 0) rfl (q := 192) rfl ?_
  obtain ⟨r2, C2, e2, h⟩ := bnd_some h
  refine c_callVv (As := [.int 0]) (rest := []) (n := 1) (ci := 2) (p := (RX4, TX4, 55)) O (cC_lt (j := 0) hc (by decide)) rfl (fun _ _ => ⟨_, cCell_core hc⟩) (metc_Core_turns _ g c hc 0 C1 C2 r2 e2) (lw_V q238 q239 q240 q63 q241) (by decide +kernel) (by decide) (by decide) rfl rfl (Nat.le_of_ble_eq_true rfl) dX4_returns_192 (q := 195) rfl (b' := 1) rfl ?_
  refine v_aload_n O.1 dX4_returns_195 rfl (q := 196) rfl ?_
  refine c_getC O hc 28 (v := .int (C2 c 28)) (by decide) (O.lk q879) rfl (fun _ => rfl) dX4_returns_196 (q := 199) rfl ?_
  refine v_if_ne O.1 dX4_returns_199 (t := 243) (by decide) (q := 202) rfl (fun c3 => ?_) (fun c3 => ?_)
  · rw [if_neg c3] at h
    exact v_less (b' := 0) (by decide) (v_sub [] rfl (bc_Core_returns_243 hc O C2 h))
  · rw [if_pos c3] at h
    refine v_aload_n O.1 dX4_returns_202 rfl (q := 203) rfl ?_
    refine c_newE (ci := 13) (N := 3) (Cn := RX13) (T := TX13) (ty := tyX13) (fs := [.int 0, .int 0, .int 0]) (b := 0) O rfl (by decide) in_X13 tyX13_ok q671 q672 q77 (fun j hj => by match j, hj with | 0, _ => rfl | 1, _ => rfl | 2, _ => rfl | j + 3, hj => exact absurd hj (by omega)) dX4_returns_203 (q := 206) rfl (fun a4 => ?_)
    refine v_dup O.1 dX4_returns_206 rfl (q := 207) rfl ?_
    refine v_aload_n O.1 dX4_returns_207 rfl (q := 208) rfl ?_
    refine c_getCP O (C := C2) PN.wd hc 33 (v := .int (C2 c 33)) (by decide) (O.lk q895) rfl (fun _ => rfl) dX4_returns_208 (q := 211) rfl ?_
    refine v_if_ne O.1 dX4_returns_211 (t := 218) (by decide) (q := 214) rfl (fun c5 => ?_) (fun c5 => ?_)
    · rw [if_neg c5] at h
      refine v_aload_n O.1 dX4_returns_218 rfl (q := 219) rfl ?_
      refine c_getCP O (C := C2) PN.wd hc 8 (v := .ref (gCa g (c + 6))) (by decide) (O.lk q852) rfl (fun _ => rfl) dX4_returns_219 (q := 222) rfl ?_
      refine v_aload_n O.1 dX4_returns_222 rfl (q := 223) rfl ?_
      refine c_getCP O (C := C2) PN.wd hc 33 (v := .int (C2 c 33)) (by decide) (O.lk q895) rfl (fun _ => rfl) dX4_returns_223 (q := 226) rfl ?_
      refine v_iconst O.1 dX4_returns_226 (v := 1) rfl (q := 227) rfl ?_
      refine v_isub O.1 dX4_returns_227 (q := 228) rfl ?_
      obtain ⟨g6, h⟩ := gd_some h
      refine c_ialdP O (C := C2) PN.wd (cIA_nest hc) g6 rfl (j := ((C2 c 33) - 1).toNatClampNeg) dX4_returns_228 (q := 229) rfl ?_
      exact v_sub [0] rfl (bc_Core_returns_229 hc O (C2 (c + 6) ((C2 c 33) - 1).toNatClampNeg) a4 C2 h)
    · rw [if_pos c5] at h
      refine v_iconst O.1 dX4_returns_214 (v := (-1)) rfl (q := 215) rfl ?_
      refine v_goto O.1 dX4_returns_215 (t := 229) (by decide) ?_
      exact v_sub [0] rfl (bc_Core_returns_229 hc O (-1) a4 C2 h)
def fc_Core_returns_164 (c : Nat) (y1 : Int32) (C : Mem) : Option (Unit × Mem) :=
  stp (up2 C c 45 y1) fun C1 =>
  if (C1 c 49) = 0 then
    fc_Core_returns_186 c 6 (C1 c 32) C1
  else
    fc_Core_returns_186 c 10 (C1 c 32) C1
set_option maxHeartbeats 4000000 in
theorem bc_Core_returns_164 {g : gC} {X : Cxt} {r : Unit} {C' : Mem} {c : Nat} (hc : cC c) (O : OkC g X cX4_returns 4 none RX4 3 1 (cQv g r C')) (y1 : Int32) (C : Mem) (h : fc_Core_returns_164 c y1 C = some (r, C')) : V X 4 1 (WdC g C) 164 [(0, .ref (gCa g c))] [.int y1, .ref (gCa g c)] := by
  unfold fc_Core_returns_164 at h
  obtain ⟨C1, e1, h⟩ := stp_some h
  refine c_putC O hc 45 (u := y1) (ty := .int) (by decide) (by decide) (O.lk q922) rfl rfl rfl rfl rfl (fun _ => rfl) dX4_returns_164 (q := 167) rfl e1 ?_
  refine v_aload_n O.1 dX4_returns_167 rfl (q := 168) rfl ?_
  refine v_dup O.1 dX4_returns_168 rfl (q := 169) rfl ?_
  refine c_getC O hc 32 (v := .int (C1 c 32)) (by decide) (O.lk q893) rfl (fun _ => rfl) dX4_returns_169 (q := 172) rfl ?_
  refine v_aload_n O.1 dX4_returns_172 rfl (q := 173) rfl ?_
  refine c_getC O hc 49 (v := .int (C1 c 49)) (by decide) (O.lk q928) rfl (fun _ => rfl) dX4_returns_173 (q := 176) rfl ?_
  refine v_if_eq O.1 dX4_returns_176 (t := 184) (by decide) (q := 179) rfl (fun c2 => ?_) (fun c2 => ?_)
  · rw [if_pos c2] at h
    refine v_bipush O.1 dX4_returns_184 (v := 6) (by decide) (q := 186) rfl ?_
    exact v_sub [0] rfl (bc_Core_returns_186 hc O 6 (C1 c 32) C1 h)
  · rw [if_neg c2] at h
    refine v_bipush O.1 dX4_returns_179 (v := 10) (by decide) (q := 181) rfl ?_
    refine v_goto O.1 dX4_returns_181 (t := 186) (by decide) ?_
    exact v_sub [0] rfl (bc_Core_returns_186 hc O 10 (C1 c 32) C1 h)
def fc_Core_returns_89b (c : Nat) (K89 : Int32 → Int32 → Mem → Option (Unit × Mem)) (x1 : Int32) (x3 : Int32) (C : Mem) : Option (Unit × Mem) :=
  if 4 ≤ x3 then
    gd (inb ((C c 32) - 2) 96) <|
    stp (up2 C c 31 (C (c + 4) ((C c 32) - 2).toNatClampNeg)) fun C3 =>
    stp (up2 C3 c 29 (x1 &&& 1)) fun C4 =>
    stp (up2 C4 c 30 ((x1 >>> (1 &&& 31)) &&& 1)) fun C5 =>
    if (C5 c 49) = 0 then
      fc_Core_returns_164 c 0 C5
    else
      fc_Core_returns_164 c 1 C5
  else
    gd (inb (((C c 32) - 6) + x3) 96) <|
    gd (inb x3 8) <|
    stp (up2 C (c + 1) x3.toNatClampNeg (C (c + 4) (((C c 32) - 6) + x3).toNatClampNeg)) fun C9 =>
    K89 x1 (x3 + 1) C9
set_option maxHeartbeats 4000000 in
theorem bc_Core_returns_89b {g : gC} {X : Cxt} {r : Unit} {C' : Mem} {c : Nat} (hc : cC c) (O : OkC g X cX4_returns 4 none RX4 3 1 (cQv g r C')) {K89 : Int32 → Int32 → Mem → Option (Unit × Mem)} (hK89 : ∀ (x1 : Int32) (x3 : Int32) (C : Mem), K89 x1 x3 C = some (r, C') → V X 4 1 (WdC g C) 89 [(0, .ref (gCa g c)), (1, .int x1), (3, .int x3)] []) (x1 : Int32) (x3 : Int32) (C : Mem) (h : fc_Core_returns_89b c K89 x1 x3 C = some (r, C')) : V X 4 1 (WdC g C) 89 [(0, .ref (gCa g c)), (1, .int x1), (3, .int x3)] [] := by
  unfold fc_Core_returns_89b at h
  refine v_iload_n O.1 dX4_returns_89 rfl (q := 90) rfl ?_
  refine v_iconst O.1 dX4_returns_90 (v := 4) rfl (q := 91) rfl ?_
  refine v_icmp_ge O.1 dX4_returns_91 (t := 120) (by decide) (q := 94) rfl (fun c1 => ?_) (fun c1 => ?_)
  · rw [if_pos c1] at h
    refine v_aload_n O.1 dX4_returns_120 rfl (q := 121) rfl ?_
    refine v_aload_n O.1 dX4_returns_121 rfl (q := 122) rfl ?_
    refine c_getC O hc 6 (v := .ref (gCa g (c + 4))) (by decide) (O.lk q844) rfl (fun _ => rfl) dX4_returns_122 (q := 125) rfl ?_
    refine v_aload_n O.1 dX4_returns_125 rfl (q := 126) rfl ?_
    refine c_getC O hc 32 (v := .int (C c 32)) (by decide) (O.lk q893) rfl (fun _ => rfl) dX4_returns_126 (q := 129) rfl ?_
    refine v_iconst O.1 dX4_returns_129 (v := 2) rfl (q := 130) rfl ?_
    refine v_isub O.1 dX4_returns_130 (q := 131) rfl ?_
    obtain ⟨g2, h⟩ := gd_some h
    refine c_iald O (cIA_stack hc) g2 rfl (j := ((C c 32) - 2).toNatClampNeg) dX4_returns_131 (q := 132) rfl ?_
    obtain ⟨C3, e3, h⟩ := stp_some h
    refine c_putC O hc 31 (u := (C (c + 4) ((C c 32) - 2).toNatClampNeg)) (ty := .int) (by decide) (by decide) (O.lk q889) rfl rfl rfl rfl rfl (fun _ => rfl) dX4_returns_132 (q := 135) rfl e3 ?_
    refine v_aload_n O.1 dX4_returns_135 rfl (q := 136) rfl ?_
    refine v_iload_n O.1 dX4_returns_136 rfl (q := 137) rfl ?_
    refine v_iconst O.1 dX4_returns_137 (v := 1) rfl (q := 138) rfl ?_
    refine v_iand O.1 dX4_returns_138 (q := 139) rfl ?_
    obtain ⟨C4, e4, h⟩ := stp_some h
    refine c_putC O hc 29 (u := (x1 &&& 1)) (ty := .int) (by decide) (by decide) (O.lk q881) rfl rfl rfl rfl rfl (fun _ => rfl) dX4_returns_139 (q := 142) rfl e4 ?_
    refine v_aload_n O.1 dX4_returns_142 rfl (q := 143) rfl ?_
    refine v_iload_n O.1 dX4_returns_143 rfl (q := 144) rfl ?_
    refine v_iconst O.1 dX4_returns_144 (v := 1) rfl (q := 145) rfl ?_
    refine v_ishr O.1 dX4_returns_145 (q := 146) rfl ?_
    refine v_iconst O.1 dX4_returns_146 (v := 1) rfl (q := 147) rfl ?_
    refine v_iand O.1 dX4_returns_147 (q := 148) rfl ?_
    obtain ⟨C5, e5, h⟩ := stp_some h
    refine c_putC O hc 30 (u := ((x1 >>> (1 &&& 31)) &&& 1)) (ty := .int) (by decide) (by decide) (O.lk q884) rfl rfl rfl rfl rfl (fun _ => rfl) dX4_returns_148 (q := 151) rfl e5 ?_
    refine v_aload_n O.1 dX4_returns_151 rfl (q := 152) rfl ?_
    refine v_aload_n O.1 dX4_returns_152 rfl (q := 153) rfl ?_
    refine c_getC O hc 49 (v := .int (C5 c 49)) (by decide) (O.lk q928) rfl (fun _ => rfl) dX4_returns_153 (q := 156) rfl ?_
    refine v_if_eq O.1 dX4_returns_156 (t := 163) (by decide) (q := 159) rfl (fun c6 => ?_) (fun c6 => ?_)
    · rw [if_pos c6] at h
      refine v_iconst O.1 dX4_returns_163 (v := 0) rfl (q := 164) rfl ?_
      exact v_sub [0] rfl (bc_Core_returns_164 hc O 0 C5 h)
    · rw [if_neg c6] at h
      refine v_iconst O.1 dX4_returns_159 (v := 1) rfl (q := 160) rfl ?_
      refine v_goto O.1 dX4_returns_160 (t := 164) (by decide) ?_
      exact v_sub [0] rfl (bc_Core_returns_164 hc O 1 C5 h)
  · rw [if_neg c1] at h
    refine v_aload_n O.1 dX4_returns_94 rfl (q := 95) rfl ?_
    refine c_getC O hc 3 (v := .ref (gCa g (c + 1))) (by decide) (O.lk q833) rfl (fun _ => rfl) dX4_returns_95 (q := 98) rfl ?_
    refine v_iload_n O.1 dX4_returns_98 rfl (q := 99) rfl ?_
    refine v_aload_n O.1 dX4_returns_99 rfl (q := 100) rfl ?_
    refine c_getC O hc 6 (v := .ref (gCa g (c + 4))) (by decide) (O.lk q844) rfl (fun _ => rfl) dX4_returns_100 (q := 103) rfl ?_
    refine v_aload_n O.1 dX4_returns_103 rfl (q := 104) rfl ?_
    refine c_getC O hc 32 (v := .int (C c 32)) (by decide) (O.lk q893) rfl (fun _ => rfl) dX4_returns_104 (q := 107) rfl ?_
    refine v_bipush O.1 dX4_returns_107 (v := 6) (by decide) (q := 109) rfl ?_
    refine v_isub O.1 dX4_returns_109 (q := 110) rfl ?_
    refine v_iload_n O.1 dX4_returns_110 rfl (q := 111) rfl ?_
    refine v_iadd O.1 dX4_returns_111 (q := 112) rfl ?_
    obtain ⟨g7, h⟩ := gd_some h
    refine c_iald O (cIA_stack hc) g7 rfl (j := (((C c 32) - 6) + x3).toNatClampNeg) dX4_returns_112 (q := 113) rfl ?_
    obtain ⟨g8, h⟩ := gd_some h
    obtain ⟨C9, e9, h⟩ := stp_some h
    refine c_iast O (cIA_r hc) g8 rfl (j := x3.toNatClampNeg) dX4_returns_113 (q := 114) rfl e9 ?_
    refine v_iinc (lv' := [(3, .int (x3 + 1)), (0, .ref (gCa g c)), (1, .int x1)]) (v := (x3 + 1)) O.1 dX4_returns_114 rfl rfl (by decide) rfl (q := 117) rfl ?_
    refine v_goto O.1 dX4_returns_117 (t := 89) (by decide) ?_
    exact v_sub [1, 2, 0] rfl (hK89 x1 (x3 + 1) C9 h)
def fc_Core_returns_89 (c : Nat) (n : Nat) : Int32 → Int32 → Mem → Option (Unit × Mem) := lpc (fc_Core_returns_89b c) (fun _ _ _ => none) n
theorem bc_Core_returns_89 {g : gC} {X : Cxt} {r : Unit} {C' : Mem} {c : Nat} (hc : cC c) (O : OkC g X cX4_returns 4 none RX4 3 1 (cQv g r C')) : ∀ (n : Nat) (x1 : Int32) (x3 : Int32) (C : Mem), fc_Core_returns_89 c n x1 x3 C = some (r, C') → V X 4 1 (WdC g C) 89 [(0, .ref (gCa g c)), (1, .int x1), (3, .int x3)] [] := by
  intro n
  induction n with
  | zero =>
    intro x1 x3 C h
    cases h
  | succ n ih =>
    intro x1 x3 C h
    exact bc_Core_returns_89b hc O ih x1 x3 C h
def fc_Core_returns_87 (c : Nat) (x1 : Int32) (C : Mem) : Option (Unit × Mem) :=
  fc_Core_returns_89 c 600 x1 0 C
set_option maxHeartbeats 4000000 in
theorem bc_Core_returns_87 {g : gC} {X : Cxt} {r : Unit} {C' : Mem} {c : Nat} (hc : cC c) (O : OkC g X cX4_returns 4 none RX4 3 1 (cQv g r C')) (x1 : Int32) (C : Mem) (h : fc_Core_returns_87 c x1 C = some (r, C')) : V X 4 1 (WdC g C) 87 [(0, .ref (gCa g c)), (1, .int x1)] [] := by
  unfold fc_Core_returns_87 at h
  refine v_iconst O.1 dX4_returns_87 (v := 0) rfl (q := 88) rfl ?_
  refine v_istore_n (lv' := [(3, .int 0), (0, .ref (gCa g c)), (1, .int x1)]) O.1 dX4_returns_88 (by decide) rfl (q := 89) rfl ?_
  exact v_sub [1, 2, 0] rfl (bc_Core_returns_89 hc O 600 x1 0 C h)
def fc_Core_returns_33b (c : Nat) (K33 : Int32 → Int32 → Int32 → Mem → Option (Unit × Mem)) (x1 : Int32) (x2 : Int32) (x3 : Int32) (C : Mem) : Option (Unit × Mem) :=
  if 4 ≤ x3 then
    fc_Core_returns_87 c x1 C
  else
    gd (inb (x2 + x3) 96) <|
    bnd (fc_Core_number (C (c + 4) (x2 + x3).toNatClampNeg) C) fun r3 C3 =>
    gd (inb x3 4) <|
    stp (up2 C3 (c + 2) x3.toNatClampNeg r3.toInt32) fun C5 =>
    K33 x1 x2 (x3 + 1) C5
set_option maxHeartbeats 4000000 in
theorem bc_Core_returns_33b {g : gC} {X : Cxt} {r : Unit} {C' : Mem} {c : Nat} (hc : cC c) (O : OkC g X cX4_returns 4 none RX4 3 1 (cQv g r C')) {K33 : Int32 → Int32 → Int32 → Mem → Option (Unit × Mem)} (hK33 : ∀ (x1 : Int32) (x2 : Int32) (x3 : Int32) (C : Mem), K33 x1 x2 x3 C = some (r, C') → V X 4 1 (WdC g C) 33 [(0, .ref (gCa g c)), (1, .int x1), (2, .int x2), (3, .int x3)] []) (x1 : Int32) (x2 : Int32) (x3 : Int32) (C : Mem) (h : fc_Core_returns_33b c K33 x1 x2 x3 C = some (r, C')) : V X 4 1 (WdC g C) 33 [(0, .ref (gCa g c)), (1, .int x1), (2, .int x2), (3, .int x3)] [] := by
  unfold fc_Core_returns_33b at h
  refine v_iload_n O.1 dX4_returns_33 rfl (q := 34) rfl ?_
  refine v_iconst O.1 dX4_returns_34 (v := 4) rfl (q := 35) rfl ?_
  refine v_icmp_ge O.1 dX4_returns_35 (t := 61) (by decide) (q := 38) rfl (fun c1 => ?_) (fun c1 => ?_)
  · rw [if_pos c1] at h
    refine v_goto O.1 dX4_returns_61 (t := 87) (by decide) ?_
    exact v_sub [0, 1] rfl (bc_Core_returns_87 hc O x1 C h)
  · rw [if_neg c1] at h
    refine v_aload_n O.1 dX4_returns_38 rfl (q := 39) rfl ?_
    refine c_getC O hc 4 (v := .ref (gCa g (c + 2))) (by decide) (O.lk q835) rfl (fun _ => rfl) dX4_returns_39 (q := 42) rfl ?_
    refine v_iload_n O.1 dX4_returns_42 rfl (q := 43) rfl ?_
    refine v_aload_n O.1 dX4_returns_43 rfl (q := 44) rfl ?_
    refine c_getC O hc 6 (v := .ref (gCa g (c + 4))) (by decide) (O.lk q844) rfl (fun _ => rfl) dX4_returns_44 (q := 47) rfl ?_
    refine v_iload_n O.1 dX4_returns_47 rfl (q := 48) rfl ?_
    refine v_iload_n O.1 dX4_returns_48 rfl (q := 49) rfl ?_
    refine v_iadd O.1 dX4_returns_49 (q := 50) rfl ?_
    obtain ⟨g2, h⟩ := gd_some h
    refine c_iald O (cIA_stack hc) g2 rfl (j := (x2 + x3).toNatClampNeg) dX4_returns_50 (q := 51) rfl ?_
    obtain ⟨r3, C3, e3, h⟩ := bnd_some h
    refine c_callSf (As := [.int (C (c + 4) (x2 + x3).toNatClampNeg)]) (rest := [.int x3, .ref (gCa g (c + 2))]) (n := 1) O (metc_Core_number _ g (C (c + 4) (x2 + x3).toNatClampNeg) C C3 r3 e3) (lw_S q666 q667 q63 q668) (by decide +kernel) (by decide) (by decide) rfl rfl (Nat.le_of_ble_eq_true rfl) dX4_returns_51 (q := 54) rfl (b' := 1) rfl ?_
    obtain ⟨g4, h⟩ := gd_some h
    obtain ⟨C5, e5, h⟩ := stp_some h
    refine c_fast O hc g4 rfl (j := x3.toNatClampNeg) dX4_returns_54 (q := 55) rfl e5 ?_
    refine v_iinc (lv' := [(3, .int (x3 + 1)), (0, .ref (gCa g c)), (1, .int x1), (2, .int x2)]) (v := (x3 + 1)) O.1 dX4_returns_55 rfl rfl (by decide) rfl (q := 58) rfl ?_
    refine v_goto O.1 dX4_returns_58 (t := 33) (by decide) ?_
    exact v_sub [1, 2, 3, 0] rfl (hK33 x1 x2 (x3 + 1) C5 h)
def fc_Core_returns_33 (c : Nat) (n : Nat) : Int32 → Int32 → Int32 → Mem → Option (Unit × Mem) := lpc (fc_Core_returns_33b c) (fun _ _ _ _ => none) n
theorem bc_Core_returns_33 {g : gC} {X : Cxt} {r : Unit} {C' : Mem} {c : Nat} (hc : cC c) (O : OkC g X cX4_returns 4 none RX4 3 1 (cQv g r C')) : ∀ (n : Nat) (x1 : Int32) (x2 : Int32) (x3 : Int32) (C : Mem), fc_Core_returns_33 c n x1 x2 x3 C = some (r, C') → V X 4 1 (WdC g C) 33 [(0, .ref (gCa g c)), (1, .int x1), (2, .int x2), (3, .int x3)] [] := by
  intro n
  induction n with
  | zero =>
    intro x1 x2 x3 C h
    cases h
  | succ n ih =>
    intro x1 x2 x3 C h
    exact bc_Core_returns_33b hc O ih x1 x2 x3 C h
def fc_Core_returns (c : Nat)  (C : Mem) : Option (Unit × Mem) :=
  gd (inb ((C c 32) - 1) 96) <|
  bnd (fc_Core_isSaved c C) fun r2 C2 =>
  if r2 = 0 then
    if (C2 c 49) = 0 then
      fc_Core_returns_87 c ((C (c + 4) ((C c 32) - 1).toNatClampNeg) - 23040) C2
    else
      stp (up2 C2 c 46 (-1)) fun C5 =>
      stp (up2 C5 (c + 9) 6 ((C5 (c + 9) 6) + 1)) fun C6 =>
      fc_Core_returns_87 c ((C (c + 4) ((C c 32) - 1).toNatClampNeg) - 23040) C6
  else
    fc_Core_returns_33 c 600 ((C (c + 4) ((C c 32) - 1).toNatClampNeg) - 23040) ((C c 32) - 10) 0 C2
set_option maxHeartbeats 4000000 in
theorem bc_Core_returns {g : gC} {X : Cxt} {r : Unit} {C' : Mem} {c : Nat} (hc : cC c) (O : OkC g X cX4_returns 4 none RX4 3 1 (cQv g r C'))  (C : Mem) (h : fc_Core_returns c  C = some (r, C')) : V X 4 1 (WdC g C) 0 [(0, .ref (gCa g c))] [] := by
  unfold fc_Core_returns at h
  refine v_aload_n O.1 dX4_returns_0 rfl (q := 1) rfl ?_
  refine c_getC O hc 6 (v := .ref (gCa g (c + 4))) (by decide) (O.lk q844) rfl (fun _ => rfl) dX4_returns_1 (q := 4) rfl ?_
  refine v_aload_n O.1 dX4_returns_4 rfl (q := 5) rfl ?_
  refine c_getC O hc 32 (v := .int (C c 32)) (by decide) (O.lk q893) rfl (fun _ => rfl) dX4_returns_5 (q := 8) rfl ?_
  refine v_iconst O.1 dX4_returns_8 (v := 1) rfl (q := 9) rfl ?_
  refine v_isub O.1 dX4_returns_9 (q := 10) rfl ?_
  obtain ⟨g1, h⟩ := gd_some h
  refine c_iald O (cIA_stack hc) g1 rfl (j := ((C c 32) - 1).toNatClampNeg) dX4_returns_10 (q := 11) rfl ?_
  refine v_sipush O.1 dX4_returns_11 (v := 23040) (by decide) (q := 14) rfl ?_
  refine v_isub O.1 dX4_returns_14 (q := 15) rfl ?_
  refine v_istore_n (lv' := [(1, .int ((C (c + 4) ((C c 32) - 1).toNatClampNeg) - 23040)), (0, .ref (gCa g c))]) O.1 dX4_returns_15 (by decide) rfl (q := 16) rfl ?_
  refine v_aload_n O.1 dX4_returns_16 rfl (q := 17) rfl ?_
  refine c_getC O hc 32 (v := .int (C c 32)) (by decide) (O.lk q893) rfl (fun _ => rfl) dX4_returns_17 (q := 20) rfl ?_
  refine v_bipush O.1 dX4_returns_20 (v := 10) (by decide) (q := 22) rfl ?_
  refine v_isub O.1 dX4_returns_22 (q := 23) rfl ?_
  refine v_istore_n (lv' := [(2, .int ((C c 32) - 10)), (1, .int ((C (c + 4) ((C c 32) - 1).toNatClampNeg) - 23040)), (0, .ref (gCa g c))]) O.1 dX4_returns_23 (by decide) rfl (q := 24) rfl ?_
  refine v_aload_n O.1 dX4_returns_24 rfl (q := 25) rfl ?_
  obtain ⟨r2, C2, e2, h⟩ := bnd_some h
  refine c_callVi (As := []) (rest := []) (n := 0) (ci := 2) (p := (RX4, TX4, 55)) O (cC_lt (j := 0) hc (by decide)) rfl (fun _ _ => ⟨_, cCell_core hc⟩) (metc_Core_isSaved _ g c hc C C2 r2 e2) (lw_V q658 q660 qs14 q63 q661) (by decide +kernel) (by decide) (by decide) rfl rfl (Nat.le_of_ble_eq_true rfl) dX4_returns_25 (q := 28) rfl (b' := 1) rfl ?_
  refine v_if_eq O.1 dX4_returns_28 (t := 64) (by decide) (q := 31) rfl (fun c3 => ?_) (fun c3 => ?_)
  · rw [if_pos c3] at h
    refine v_aload_n O.1 dX4_returns_64 rfl (q := 65) rfl ?_
    refine c_getC O hc 49 (v := .int (C2 c 49)) (by decide) (O.lk q928) rfl (fun _ => rfl) dX4_returns_65 (q := 68) rfl ?_
    refine v_if_eq O.1 dX4_returns_68 (t := 87) (by decide) (q := 71) rfl (fun c4 => ?_) (fun c4 => ?_)
    · rw [if_pos c4] at h
      exact v_sub [2, 1] rfl (bc_Core_returns_87 hc O ((C (c + 4) ((C c 32) - 1).toNatClampNeg) - 23040) C2 h)
    · rw [if_neg c4] at h
      refine v_aload_n O.1 dX4_returns_71 rfl (q := 72) rfl ?_
      refine v_iconst O.1 dX4_returns_72 (v := (-1)) rfl (q := 73) rfl ?_
      obtain ⟨C5, e5, h⟩ := stp_some h
      refine c_putC O hc 46 (u := (-1)) (ty := .int) (by decide) (by decide) (O.lk q924) rfl rfl rfl rfl rfl (fun _ => rfl) dX4_returns_73 (q := 76) rfl e5 ?_
      refine v_aload_n O.1 dX4_returns_76 rfl (q := 77) rfl ?_
      refine c_getC O hc 11 (v := .ref (gCa g (c + 9))) (by decide) (O.lk q858) rfl (fun _ => rfl) dX4_returns_77 (q := 80) rfl ?_
      refine v_bipush O.1 dX4_returns_80 (v := 6) (by decide) (q := 82) rfl ?_
      refine v_dup2 O.1 dX4_returns_82 rfl rfl (q := 83) rfl ?_
      refine c_iald O (cIA_counts hc) (by decide) (by decide) (j := 6) dX4_returns_83 (q := 84) rfl ?_
      refine v_iconst O.1 dX4_returns_84 (v := 1) rfl (q := 85) rfl ?_
      refine v_iadd O.1 dX4_returns_85 (q := 86) rfl ?_
      obtain ⟨C6, e6, h⟩ := stp_some h
      refine c_iast O (cIA_counts hc) (by decide) (by decide) (j := 6) dX4_returns_86 (q := 87) rfl e6 ?_
      exact v_sub [2, 1] rfl (bc_Core_returns_87 hc O ((C (c + 4) ((C c 32) - 1).toNatClampNeg) - 23040) C6 h)
  · rw [if_neg c3] at h
    refine v_iconst O.1 dX4_returns_31 (v := 0) rfl (q := 32) rfl ?_
    refine v_istore_n (lv' := [(3, .int 0), (2, .int ((C c 32) - 10)), (1, .int ((C (c + 4) ((C c 32) - 1).toNatClampNeg) - 23040)), (0, .ref (gCa g c))]) O.1 dX4_returns_32 (by decide) rfl (q := 33) rfl ?_
    exact v_sub [3, 2, 1, 0] rfl (bc_Core_returns_33 hc O 600 ((C (c + 4) ((C c 32) - 1).toNatClampNeg) - 23040) ((C c 32) - 10) 0 C2 h)
theorem metc_Core_returns (l : Launch) (g : gC) (c : Nat) (hc : cC c) (C C' : Mem) (r : Unit) (h : fc_Core_returns c C = some (r, C')) : MetC l g yX4_returns cX4_returns 4 none 3 1 [.ref (gCa g c)] C (cQv g r C') :=
  c_met (by decide) rfl (Nat.le_of_ble_eq_true rfl) (fun X O => bc_Core_returns hc O C h)
/-! RankEntry$Core.unstacking()V -/
def fc_Core_unstacking_55 (c : Nat)  (C : Mem) : Option (Unit × Mem) :=
  bnd (fc_Core_turns c 2 C) fun r1 C1 =>
  bnd (fc_Core_chaining c C1) fun r2 C2 =>
  some ((), C2)
set_option maxHeartbeats 4000000 in
theorem bc_Core_unstacking_55 {g : gC} {X : Cxt} {r : Unit} {C' : Mem} {c : Nat} (hc : cC c) (O : OkC g X cX4_unstacking 3 none RX4 7 2 (cQv g r C'))  (C : Mem) (h : fc_Core_unstacking_55 c  C = some (r, C')) : V X 3 1 (WdC g C) 55 [(0, .ref (gCa g c))] [] := by
  unfold fc_Core_unstacking_55 at h
  refine v_aload_n O.1 dX4_unstacking_55 rfl (q := 56) rfl ?_
  refine v_iconst O.1 dX4_unstacking_56 (v := 2) rfl (q := 57) rfl ?_
  obtain ⟨r1, C1, e1, h⟩ := bnd_some h
  refine c_callVv (As := [.int 2]) (rest := []) (n := 1) (ci := 2) (p := (RX4, TX4, 55)) O (cC_lt (j := 0) hc (by decide)) rfl (fun _ _ => ⟨_, cCell_core hc⟩) (metc_Core_turns _ g c hc 2 C C1 r1 e1) (lw_V q238 q239 q240 q63 q241) (by decide +kernel) (by decide) (by decide) rfl rfl (Nat.le_of_ble_eq_true rfl) dX4_unstacking_57 (q := 60) rfl (b' := 1) rfl ?_
  refine v_aload_n O.1 dX4_unstacking_60 rfl (q := 61) rfl ?_
  obtain ⟨r2, C2, e2, h⟩ := bnd_some h
  refine c_callVv (As := []) (rest := []) (n := 0) (ci := 2) (p := (RX4, TX4, 55)) O (cC_lt (j := 0) hc (by decide)) rfl (fun _ _ => ⟨_, cCell_core hc⟩) (metc_Core_chaining _ g c hc C1 C2 r2 e2) (lw_V q650 q629 qs11 q63 q630) (by decide +kernel) (by decide) (by decide) rfl rfl (Nat.le_of_ble_eq_true rfl) dX4_unstacking_61 (q := 64) rfl (b' := 0) rfl ?_
  exact c_vret O h dX4_unstacking_64
def fc_Core_unstacking_103 (c : Nat)  (C : Mem) : Option (Unit × Mem) :=
  some ((), C)
set_option maxHeartbeats 4000000 in
theorem bc_Core_unstacking_103 {g : gC} {X : Cxt} {r : Unit} {C' : Mem} {c : Nat} (hc : cC c) (O : OkC g X cX4_unstacking 3 none RX4 7 2 (cQv g r C'))  (C : Mem) (h : fc_Core_unstacking_103 c  C = some (r, C')) : V X 3 0 (WdC g C) 103 [] [] := by
  unfold fc_Core_unstacking_103 at h
  exact c_vret O h dX4_unstacking_103
def fc_Core_unstacking_139 (c : Nat)  (C : Mem) : Option (Unit × Mem) :=
  some ((), C)
set_option maxHeartbeats 4000000 in
theorem bc_Core_unstacking_139 {g : gC} {X : Cxt} {r : Unit} {C' : Mem} {c : Nat} (hc : cC c) (O : OkC g X cX4_unstacking 3 none RX4 7 2 (cQv g r C'))  (C : Mem) (h : fc_Core_unstacking_139 c  C = some (r, C')) : V X 3 0 (WdC g C) 139 [] [] := by
  unfold fc_Core_unstacking_139 at h
  exact c_vret O h dX4_unstacking_139
def fc_Core_unstacking_132 (c : Nat) (y1 : Int32) (y0 : Int32) (C : Mem) : Option (Unit × Mem) :=
  if y0 = y1 then
    bnd (fc_Core_returns c C) fun r2 C2 =>
    fc_Core_unstacking_139 c C2
  else
    fc_Core_unstacking_139 c C
set_option maxHeartbeats 4000000 in
theorem bc_Core_unstacking_132 {g : gC} {X : Cxt} {r : Unit} {C' : Mem} {c : Nat} (hc : cC c) (O : OkC g X cX4_unstacking 3 none RX4 7 2 (cQv g r C')) (y1 : Int32) (y0 : Int32) (C : Mem) (h : fc_Core_unstacking_132 c y1 y0 C = some (r, C')) : V X 3 1 (WdC g C) 132 [(0, .ref (gCa g c))] [.int y1, .int y0] := by
  unfold fc_Core_unstacking_132 at h
  refine v_icmp_ne O.1 dX4_unstacking_132 (t := 139) (by decide) (q := 135) rfl (fun c1 => ?_) (fun c1 => ?_)
  · rw [if_neg c1] at h
    exact v_less (b' := 0) (by decide) (v_sub [] rfl (bc_Core_unstacking_139 hc O C h))
  · rw [if_pos c1] at h
    refine v_aload_n O.1 dX4_unstacking_135 rfl (q := 136) rfl ?_
    obtain ⟨r2, C2, e2, h⟩ := bnd_some h
    refine c_callVv (As := []) (rest := []) (n := 0) (ci := 2) (p := (RX4, TX4, 55)) O (cC_lt (j := 0) hc (by decide)) rfl (fun _ _ => ⟨_, cCell_core hc⟩) (metc_Core_returns _ g c hc C C2 r2 e2) (lw_V q662 q664 qs15 q63 q665) (by decide +kernel) (by decide) (by decide) rfl rfl (Nat.le_of_ble_eq_true rfl) dX4_unstacking_136 (q := 139) rfl (b' := 0) rfl ?_
    exact v_sub [] rfl (bc_Core_unstacking_139 hc O C2 h)
def fc_Core_unstacking_80 (c : Nat) (y0 : Int32) (C : Mem) : Option (Unit × Mem) :=
  if y0 < 0 then
    stp (up2 C c 42 ((C c 42) + 1)) fun C2 =>
    bnd (fc_Core_isSaved c C2) fun r3 C3 =>
    if r3 = 0 then
      fc_Core_unstacking_132 c 6 (C2 c 42) C3
    else
      fc_Core_unstacking_132 c 10 (C2 c 42) C3
  else
    bnd (fc_Core_raises c y0 C) fun r5 C5 =>
    if (C5 c 41) = 5 then
      fc_Core_unstacking_103 c C5
    else
      bnd (fc_Core_turns c 2 C5) fun r7 C7 =>
      fc_Core_unstacking_103 c C7
set_option maxHeartbeats 4000000 in
theorem bc_Core_unstacking_80 {g : gC} {X : Cxt} {r : Unit} {C' : Mem} {c : Nat} (hc : cC c) (O : OkC g X cX4_unstacking 3 none RX4 7 2 (cQv g r C')) (y0 : Int32) (C : Mem) (h : fc_Core_unstacking_80 c y0 C = some (r, C')) : V X 3 1 (WdC g C) 80 [(0, .ref (gCa g c))] [.int y0] := by
  unfold fc_Core_unstacking_80 at h
  refine v_istore_n (lv' := [(2, .int y0), (0, .ref (gCa g c))]) O.1 dX4_unstacking_80 (by decide) rfl (q := 81) rfl ?_
  refine v_iload_n O.1 dX4_unstacking_81 rfl (q := 82) rfl ?_
  refine v_if_lt O.1 dX4_unstacking_82 (t := 104) (by decide) (q := 85) rfl (fun c1 => ?_) (fun c1 => ?_)
  · rw [if_pos c1] at h
    refine v_aload_n O.1 dX4_unstacking_104 rfl (q := 105) rfl ?_
    refine v_dup O.1 dX4_unstacking_105 rfl (q := 106) rfl ?_
    refine c_getC O hc 42 (v := .int (C c 42)) (by decide) (O.lk q915) rfl (fun _ => rfl) dX4_unstacking_106 (q := 109) rfl ?_
    refine v_iconst O.1 dX4_unstacking_109 (v := 1) rfl (q := 110) rfl ?_
    refine v_iadd O.1 dX4_unstacking_110 (q := 111) rfl ?_
    obtain ⟨C2, e2, h⟩ := stp_some h
    refine c_putC O hc 42 (u := ((C c 42) + 1)) (ty := .int) (by decide) (by decide) (O.lk q915) rfl rfl rfl rfl rfl (fun _ => rfl) dX4_unstacking_111 (q := 114) rfl e2 ?_
    refine v_aload_n O.1 dX4_unstacking_114 rfl (q := 115) rfl ?_
    refine c_getC O hc 42 (v := .int (C2 c 42)) (by decide) (O.lk q915) rfl (fun _ => rfl) dX4_unstacking_115 (q := 118) rfl ?_
    refine v_aload_n O.1 dX4_unstacking_118 rfl (q := 119) rfl ?_
    obtain ⟨r3, C3, e3, h⟩ := bnd_some h
    refine c_callVi (As := []) (rest := [.int (C2 c 42)]) (n := 0) (ci := 2) (p := (RX4, TX4, 55)) O (cC_lt (j := 0) hc (by decide)) rfl (fun _ _ => ⟨_, cCell_core hc⟩) (metc_Core_isSaved _ g c hc C2 C3 r3 e3) (lw_V q658 q660 qs14 q63 q661) (by decide +kernel) (by decide) (by decide) rfl rfl (Nat.le_of_ble_eq_true rfl) dX4_unstacking_119 (q := 122) rfl (b' := 1) rfl ?_
    refine v_if_eq O.1 dX4_unstacking_122 (t := 130) (by decide) (q := 125) rfl (fun c4 => ?_) (fun c4 => ?_)
    · rw [if_pos c4] at h
      refine v_bipush O.1 dX4_unstacking_130 (v := 6) (by decide) (q := 132) rfl ?_
      exact v_sub [1] rfl (bc_Core_unstacking_132 hc O 6 (C2 c 42) C3 h)
    · rw [if_neg c4] at h
      refine v_bipush O.1 dX4_unstacking_125 (v := 10) (by decide) (q := 127) rfl ?_
      refine v_goto O.1 dX4_unstacking_127 (t := 132) (by decide) ?_
      exact v_sub [1] rfl (bc_Core_unstacking_132 hc O 10 (C2 c 42) C3 h)
  · rw [if_neg c1] at h
    refine v_aload_n O.1 dX4_unstacking_85 rfl (q := 86) rfl ?_
    refine v_iload_n O.1 dX4_unstacking_86 rfl (q := 87) rfl ?_
    obtain ⟨r5, C5, e5, h⟩ := bnd_some h
    refine c_callVv (As := [.int y0]) (rest := []) (n := 1) (ci := 2) (p := (RX4, TX4, 55)) O (cC_lt (j := 0) hc (by decide)) rfl (fun _ _ => ⟨_, cCell_core hc⟩) (metc_Core_raises _ g c hc y0 C C5 r5 e5) (lw_V q254 q255 q256 q63 q257) (by decide +kernel) (by decide) (by decide) rfl rfl (Nat.le_of_ble_eq_true rfl) dX4_unstacking_87 (q := 90) rfl (b' := 0) rfl ?_
    refine v_aload_n O.1 dX4_unstacking_90 rfl (q := 91) rfl ?_
    refine c_getC O hc 41 (v := .int (C5 c 41)) (by decide) (O.lk q913) rfl (fun _ => rfl) dX4_unstacking_91 (q := 94) rfl ?_
    refine v_iconst O.1 dX4_unstacking_94 (v := 5) rfl (q := 95) rfl ?_
    refine v_icmp_eq O.1 dX4_unstacking_95 (t := 103) (by decide) (q := 98) rfl (fun c6 => ?_) (fun c6 => ?_)
    · rw [if_pos c6] at h
      exact v_sub [] rfl (bc_Core_unstacking_103 hc O C5 h)
    · rw [if_neg c6] at h
      refine v_aload_n O.1 dX4_unstacking_98 rfl (q := 99) rfl ?_
      refine v_iconst O.1 dX4_unstacking_99 (v := 2) rfl (q := 100) rfl ?_
      obtain ⟨r7, C7, e7, h⟩ := bnd_some h
      refine c_callVv (As := [.int 2]) (rest := []) (n := 1) (ci := 2) (p := (RX4, TX4, 55)) O (cC_lt (j := 0) hc (by decide)) rfl (fun _ _ => ⟨_, cCell_core hc⟩) (metc_Core_turns _ g c hc 2 C5 C7 r7 e7) (lw_V q238 q239 q240 q63 q241) (by decide +kernel) (by decide) (by decide) rfl rfl (Nat.le_of_ble_eq_true rfl) dX4_unstacking_100 (q := 103) rfl (b' := 0) rfl ?_
      exact v_sub [] rfl (bc_Core_unstacking_103 hc O C7 h)
def fc_Core_unstacking (c : Nat)  (C : Mem) : Option (Unit × Mem) :=
  bnd (fc_Core_next c C) fun r1 C1 =>
  bnd (fv_may (C1 c 26) r1 C1) fun r2 C2 =>
  if r2 = 0 then
    if (C2 c 42) = 0 then
      bnd (fc_Core_looks c C2) fun r5 C5 =>
      fc_Core_unstacking_80 c r5 C5
    else
      fc_Core_unstacking_80 c (-1) C2
  else
    stp (up2 C2 (c + 9) 4 ((C2 (c + 9) 4) + 1)) fun C6 =>
    if (C6 c 28) = 0 then
      bnd (fc_Core_notes c 4 r1 (C6 c 37) (C6 c 42) C6) fun r10 C10 =>
      fc_Core_unstacking_55 c C10
    else
      fc_Core_unstacking_55 c C6
set_option maxHeartbeats 4000000 in
theorem bc_Core_unstacking {g : gC} {X : Cxt} {r : Unit} {C' : Mem} {c : Nat} (hc : cC c) (O : OkC g X cX4_unstacking 3 none RX4 7 2 (cQv g r C'))  (C : Mem) (h : fc_Core_unstacking c  C = some (r, C')) : V X 3 2 (WdC g C) 0 [(0, .ref (gCa g c))] [] := by
  unfold fc_Core_unstacking at h
  refine v_aload_n O.1 dX4_unstacking_0 rfl (q := 1) rfl ?_
  obtain ⟨r1, C1, e1, h⟩ := bnd_some h
  refine c_callVi (As := []) (rest := []) (n := 0) (ci := 2) (p := (RX4, TX4, 55)) O (cC_lt (j := 0) hc (by decide)) rfl (fun _ _ => ⟨_, cCell_core hc⟩) (metc_Core_next _ g c hc C C1 r1 e1) (lw_V q204 q205 q206 q63 q207) (by decide +kernel) (by decide) (by decide) rfl rfl (Nat.le_of_ble_eq_true rfl) dX4_unstacking_1 (q := 4) rfl (b' := 2) rfl ?_
  refine v_istore_n (lv' := [(1, .int r1), (0, .ref (gCa g c))]) O.1 dX4_unstacking_4 (by decide) rfl (q := 5) rfl ?_
  refine v_aload_n O.1 dX4_unstacking_5 rfl (q := 6) rfl ?_
  refine c_getC O hc 26 (v := .ref (cMc g (C1 c 26))) (by decide) (O.lk q876) rfl (fun _ => rfl) dX4_unstacking_6 (q := 9) rfl ?_
  refine v_iload_n O.1 dX4_unstacking_9 rfl (q := 10) rfl ?_
  obtain ⟨r2, C2, e2, h⟩ := bnd_some h
  refine c_may (rest := []) O e2 q520 (by decide) rfl (Nat.le_of_ble_eq_true rfl) dX4_unstacking_10 (q := 15) rfl ?_
  refine v_if_eq O.1 dX4_unstacking_15 (t := 65) (by decide) (q := 18) rfl (fun c3 => ?_) (fun c3 => ?_)
  · rw [if_pos c3] at h
    refine v_aload_n O.1 dX4_unstacking_65 rfl (q := 66) rfl ?_
    refine c_getC O hc 42 (v := .int (C2 c 42)) (by decide) (O.lk q915) rfl (fun _ => rfl) dX4_unstacking_66 (q := 69) rfl ?_
    refine v_if_ne O.1 dX4_unstacking_69 (t := 79) (by decide) (q := 72) rfl (fun c4 => ?_) (fun c4 => ?_)
    · rw [if_neg c4] at h
      refine v_iconst O.1 dX4_unstacking_79 (v := (-1)) rfl (q := 80) rfl ?_
      exact v_less (b' := 1) (by decide) (v_sub [1] rfl (bc_Core_unstacking_80 hc O (-1) C2 h))
    · rw [if_pos c4] at h
      refine v_aload_n O.1 dX4_unstacking_72 rfl (q := 73) rfl ?_
      obtain ⟨r5, C5, e5, h⟩ := bnd_some h
      refine c_callVi (As := []) (rest := []) (n := 0) (ci := 2) (p := (RX4, TX4, 55)) O (cC_lt (j := 0) hc (by decide)) rfl (fun _ _ => ⟨_, cCell_core hc⟩) (metc_Core_looks _ g c hc C2 C5 r5 e5) (lw_V q651 q653 qs13 q63 q654) (by decide +kernel) (by decide) (by decide) rfl rfl (Nat.le_of_ble_eq_true rfl) dX4_unstacking_73 (q := 76) rfl (b' := 2) rfl ?_
      refine v_goto O.1 dX4_unstacking_76 (t := 80) (by decide) ?_
      exact v_less (b' := 1) (by decide) (v_sub [1] rfl (bc_Core_unstacking_80 hc O r5 C5 h))
  · rw [if_neg c3] at h
    refine v_aload_n O.1 dX4_unstacking_18 rfl (q := 19) rfl ?_
    refine c_getC O hc 11 (v := .ref (gCa g (c + 9))) (by decide) (O.lk q858) rfl (fun _ => rfl) dX4_unstacking_19 (q := 22) rfl ?_
    refine v_iconst O.1 dX4_unstacking_22 (v := 4) rfl (q := 23) rfl ?_
    refine v_dup2 O.1 dX4_unstacking_23 rfl rfl (q := 24) rfl ?_
    refine c_iald O (cIA_counts hc) (by decide) (by decide) (j := 4) dX4_unstacking_24 (q := 25) rfl ?_
    refine v_iconst O.1 dX4_unstacking_25 (v := 1) rfl (q := 26) rfl ?_
    refine v_iadd O.1 dX4_unstacking_26 (q := 27) rfl ?_
    obtain ⟨C6, e6, h⟩ := stp_some h
    refine c_iast O (cIA_counts hc) (by decide) (by decide) (j := 4) dX4_unstacking_27 (q := 28) rfl e6 ?_
    refine v_aload_n O.1 dX4_unstacking_28 rfl (q := 29) rfl ?_
    refine c_getC O hc 28 (v := .int (C6 c 28)) (by decide) (O.lk q879) rfl (fun _ => rfl) dX4_unstacking_29 (q := 32) rfl ?_
    refine v_if_ne O.1 dX4_unstacking_32 (t := 55) (by decide) (q := 35) rfl (fun c7 => ?_) (fun c7 => ?_)
    · rw [if_neg c7] at h
      exact v_less (b' := 1) (by decide) (v_sub [1] rfl (bc_Core_unstacking_55 hc O C6 h))
    · rw [if_pos c7] at h
      refine v_aload_n O.1 dX4_unstacking_35 rfl (q := 36) rfl ?_
      refine c_newE (ci := 12) (N := 3) (Cn := RX12) (T := TX12) (ty := tyX12) (fs := [.int 0, .int 0, .int 0]) (b := 1) O rfl (by decide) in_X12 tyX12_ok q634 q635 q76 (fun j hj => by match j, hj with | 0, _ => rfl | 1, _ => rfl | 2, _ => rfl | j + 3, hj => exact absurd hj (by omega)) dX4_unstacking_36 (q := 39) rfl (fun a8 => ?_)
      refine v_dup O.1 dX4_unstacking_39 rfl (q := 40) rfl ?_
      refine v_iload_n O.1 dX4_unstacking_40 rfl (q := 41) rfl ?_
      refine v_aload_n O.1 dX4_unstacking_41 rfl (q := 42) rfl ?_
      refine c_getCP O (C := C6) PN.wd hc 37 (v := .int (C6 c 37)) (by decide) (O.lk q905) rfl (fun _ => rfl) dX4_unstacking_42 (q := 45) rfl ?_
      refine v_aload_n O.1 dX4_unstacking_45 rfl (q := 46) rfl ?_
      refine c_getCP O (C := C6) PN.wd hc 42 (v := .int (C6 c 42)) (by decide) (O.lk q915) rfl (fun _ => rfl) dX4_unstacking_46 (q := 49) rfl ?_
      refine c_init_Abandoned (rest := [.ref a8, .ref (gCa g c)]) O q636 (by decide) rfl (Nat.le_of_ble_eq_true rfl) dX4_unstacking_49 (q := 52) rfl ?_
      obtain ⟨r10, C10, e10, h⟩ := bnd_some h
      refine c_notes (rest := []) O hc e10 q283 (by decide) rfl (Nat.le_of_ble_eq_true rfl) dX4_unstacking_52 (q := 55) rfl ?_
      exact v_sub [1] rfl (bc_Core_unstacking_55 hc O C10 h)
theorem metc_Core_unstacking (l : Launch) (g : gC) (c : Nat) (hc : cC c) (C C' : Mem) (r : Unit) (h : fc_Core_unstacking c C = some (r, C')) : MetC l g yX4_unstacking cX4_unstacking 3 none 7 2 [.ref (gCa g c)] C (cQv g r C') :=
  c_met (by decide) rfl (Nat.le_of_ble_eq_true rfl) (fun X O => bc_Core_unstacking hc O C h)
