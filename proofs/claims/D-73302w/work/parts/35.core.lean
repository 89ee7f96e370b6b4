/-! RankEntry$Core.needs(I)V -/
def fc_Core_needs (c : Nat) (x1 : Int32) (C : Mem) : Option ((Unit ⊕ Int32) × Mem) :=
  if x1 ≤ (C c 32) then
    some (Sum.inl (), C)
  else
    some (Sum.inr 19, C)
set_option maxHeartbeats 4000000 in
theorem bc_Core_needs {g : gC} {X : Cxt} {r : (Unit ⊕ Int32)} {C' : Mem} {c : Nat} (hc : cC c) (OX : OkX g c X cX4_needs 2 none RX4 0 0 (xQv g r C') r C') (x1 : Int32) (C : Mem) (h : fc_Core_needs c x1 C = some (r, C')) : V X 2 0 (WdC g C) 0 [(0, .ref (gCa g c)), (1, .int x1)] [] := by
  have O := OX.1
  unfold fc_Core_needs at h
  refine v_aload_n O.1 dX4_needs_0 rfl (q := 1) rfl ?_
  refine c_getC O hc 32 (v := .int (C c 32)) (by decide) (O.lk q893) rfl (fun _ => rfl) dX4_needs_1 (q := 4) rfl ?_
  refine v_iload_n O.1 dX4_needs_4 rfl (q := 5) rfl ?_
  refine v_icmp_ge O.1 dX4_needs_5 (t := 13) (by decide) (q := 8) rfl (fun c1 => ?_) (fun c1 => ?_)
  · rw [if_pos c1] at h
    exact x_vret OX h dX4_needs_13
  · rw [if_neg c1] at h
    refine v_aload_n O.1 dX4_needs_8 rfl (q := 9) rfl ?_
    refine c_getC O hc 2 (v := .ref (gCa g (c + 21))) (by decide) (O.lk q831) rfl (fun _ => rfl) dX4_needs_9 (q := 12) rfl ?_
    exact x_throw 19 OX hc (Or.inr rfl) h rfl dX4_needs_12
theorem metc_Core_needs (l : Launch) (g : gC) (c : Nat) (hc : cC c) (x1 : Int32) (C C' : Mem) (r : (Unit ⊕ Int32)) (h : fc_Core_needs c x1 C = some (r, C')) : MetX l g c yX4_needs cX4_needs 2 none 0 0 [.ref (gCa g c), .int x1] C (xQv g r C') r C' :=
  x_met (by decide) rfl (Nat.le_of_ble_eq_true rfl) (fun X OX => bc_Core_needs hc OX x1 C h)
/-! RankEntry$Core.comesFloat(IF)V -/
def fc_Core_comesFloat_14 (c : Nat)  (C : Mem) : Option ((Unit ⊕ Int32) × Mem) :=
  some (Sum.inr 18, C)
set_option maxHeartbeats 4000000 in
theorem bc_Core_comesFloat_14 {g : gC} {X : Cxt} {r : (Unit ⊕ Int32)} {C' : Mem} {c : Nat} (hc : cC c) (OX : OkX g c X cX4_comesFloat 3 none RX4 1 0 (xQv g r C') r C')  (C : Mem) (h : fc_Core_comesFloat_14 c  C = some (r, C')) : V X 3 0 (WdC g C) 14 [(0, .ref (gCa g c))] [] := by
  have O := OX.1
  unfold fc_Core_comesFloat_14 at h
  refine v_aload_n O.1 dX4_comesFloat_14 rfl (q := 15) rfl ?_
  refine c_getC O hc 1 (v := .ref (gCa g (c + 20))) (by decide) (O.lk q828) rfl (fun _ => rfl) dX4_comesFloat_15 (q := 18) rfl ?_
  exact x_throw 18 OX hc (Or.inl rfl) h rfl dX4_comesFloat_18
def fc_Core_comesFloat (c : Nat) (x1 : Int32) (x2 : UInt32) (C : Mem) : Option ((Unit ⊕ Int32) × Mem) :=
  if 0 < (Op.cmpValue (FP.fcmp x2 (2139095039 : UInt32)) .l) then
    fc_Core_comesFloat_14 c C
  else
    if 0 ≤ (Op.cmpValue (FP.fcmp x2 (4286578687 : UInt32)) .g) then
      bnd (fc_Core_setsFloat c x1 x2 C) fun r3 C3 =>
      some (Sum.inl (), C3)
    else
      fc_Core_comesFloat_14 c C
set_option maxHeartbeats 4000000 in
theorem bc_Core_comesFloat {g : gC} {X : Cxt} {r : (Unit ⊕ Int32)} {C' : Mem} {c : Nat} (hc : cC c) (OX : OkX g c X cX4_comesFloat 3 none RX4 1 0 (xQv g r C') r C') (x1 : Int32) (x2 : UInt32) (C : Mem) (h : fc_Core_comesFloat c x1 x2 C = some (r, C')) : V X 3 0 (WdC g C) 0 [(0, .ref (gCa g c)), (1, .int x1), (2, .float x2)] [] := by
  have O := OX.1
  unfold fc_Core_comesFloat at h
  refine v_fload_n O.1 dX4_comesFloat_0 rfl (q := 1) rfl ?_
  refine v_ldcf O.1 dX4_comesFloat_1 q553 (q := 3) rfl ?_
  refine v_fcmp O.1 dX4_comesFloat_3 (q := 4) rfl ?_
  refine v_if_gt O.1 dX4_comesFloat_4 (t := 14) (by decide) (q := 7) rfl (fun c1 => ?_) (fun c1 => ?_)
  · rw [if_pos c1] at h
    exact v_sub [0] rfl (bc_Core_comesFloat_14 hc OX C h)
  · rw [if_neg c1] at h
    refine v_fload_n O.1 dX4_comesFloat_7 rfl (q := 8) rfl ?_
    refine v_ldcf O.1 dX4_comesFloat_8 q554 (q := 10) rfl ?_
    refine v_fcmp O.1 dX4_comesFloat_10 (q := 11) rfl ?_
    refine v_if_ge O.1 dX4_comesFloat_11 (t := 19) (by decide) (q := 14) rfl (fun c2 => ?_) (fun c2 => ?_)
    · rw [if_pos c2] at h
      refine v_aload_n O.1 dX4_comesFloat_19 rfl (q := 20) rfl ?_
      refine v_iload_n O.1 dX4_comesFloat_20 rfl (q := 21) rfl ?_
      refine v_fload_n O.1 dX4_comesFloat_21 rfl (q := 22) rfl ?_
      obtain ⟨r3, C3, e3, h⟩ := bnd_some h
      refine c_callVv (As := [.int x1, .float x2]) (rest := []) (n := 2) (ci := 2) (p := (RX4, TX4, 55)) O (cC_lt (j := 0) hc (by decide)) rfl (fun _ _ => ⟨_, cCell_core hc⟩) (metc_Core_setsFloat _ g c hc x1 x2 C C3 r3 e3) (lw_V q555 q543 q544 q63 q545) (by decide +kernel) (by decide) (by decide) rfl rfl (Nat.le_of_ble_eq_true rfl) dX4_comesFloat_22 (q := 25) rfl (b' := 0) rfl ?_
      exact x_vret OX h dX4_comesFloat_25
    · rw [if_neg c2] at h
      exact v_sub [0] rfl (bc_Core_comesFloat_14 hc OX C h)
theorem metc_Core_comesFloat (l : Launch) (g : gC) (c : Nat) (hc : cC c) (x1 : Int32) (x2 : UInt32) (C C' : Mem) (r : (Unit ⊕ Int32)) (h : fc_Core_comesFloat c x1 x2 C = some (r, C')) : MetX l g c yX4_comesFloat cX4_comesFloat 3 none 1 0 [.ref (gCa g c), .int x1, .float x2] C (xQv g r C') r C' :=
  x_met (by decide) rfl (Nat.le_of_ble_eq_true rfl) (fun X OX => bc_Core_comesFloat hc OX x1 x2 C h)
/-! RankEntry$Core.ends()V -/
def fc_Core_ends_110 (c : Nat) (y1 : Int32) (C : Mem) : Option ((Unit ⊕ Int32) × Mem) :=
  bnd (fc_Core_turns c y1 C) fun r1 C1 =>
  some (Sum.inl (), C1)
set_option maxHeartbeats 4000000 in
theorem bc_Core_ends_110 {g : gC} {X : Cxt} {r : (Unit ⊕ Int32)} {C' : Mem} {c : Nat} (hc : cC c) (OX : OkX g c X cX4_ends 2 none RX4 6 1 (xQv g r C') r C') (y1 : Int32) (C : Mem) (h : fc_Core_ends_110 c y1 C = some (r, C')) : V X 2 0 (WdC g C) 110 [] [.int y1, .ref (gCa g c)] := by
  have O := OX.1
  unfold fc_Core_ends_110 at h
  obtain ⟨r1, C1, e1, h⟩ := bnd_some h
  refine c_callVv (As := [.int y1]) (rest := []) (n := 1) (ci := 2) (p := (RX4, TX4, 55)) O (cC_lt (j := 0) hc (by decide)) rfl (fun _ _ => ⟨_, cCell_core hc⟩) (metc_Core_turns _ g c hc y1 C C1 r1 e1) (lw_V q238 q239 q240 q63 q241) (by decide +kernel) (by decide) (by decide) rfl rfl (Nat.le_of_ble_eq_true rfl) dX4_ends_110 (q := 113) rfl (b' := 0) rfl ?_
  exact x_vret OX h dX4_ends_113
def fc_Core_ends_88 (c : Nat)  (C : Mem) : Option ((Unit ⊕ Int32) × Mem) :=
  bnd (fc_Core_next c C) fun r1 C1 =>
  bnd (fv_may (C c 26) r1 C1) fun r2 C2 =>
  if r2 = 0 then
    fc_Core_ends_110 c 3 C2
  else
    fc_Core_ends_110 c 2 C2
set_option maxHeartbeats 4000000 in
theorem bc_Core_ends_88 {g : gC} {X : Cxt} {r : (Unit ⊕ Int32)} {C' : Mem} {c : Nat} (hc : cC c) (OX : OkX g c X cX4_ends 2 none RX4 6 1 (xQv g r C') r C')  (C : Mem) (h : fc_Core_ends_88 c  C = some (r, C')) : V X 2 0 (WdC g C) 88 [(0, .ref (gCa g c))] [] := by
  have O := OX.1
  unfold fc_Core_ends_88 at h
  refine v_aload_n O.1 dX4_ends_88 rfl (q := 89) rfl ?_
  refine v_aload_n O.1 dX4_ends_89 rfl (q := 90) rfl ?_
  refine c_getC O hc 26 (v := .ref (cMc g (C c 26))) (by decide) (O.lk q876) rfl (fun _ => rfl) dX4_ends_90 (q := 93) rfl ?_
  refine v_aload_n O.1 dX4_ends_93 rfl (q := 94) rfl ?_
  obtain ⟨r1, C1, e1, h⟩ := bnd_some h
  refine c_callVi (As := []) (rest := [.ref (cMc g (C c 26)), .ref (gCa g c)]) (n := 0) (ci := 2) (p := (RX4, TX4, 55)) O (cC_lt (j := 0) hc (by decide)) rfl (fun _ _ => ⟨_, cCell_core hc⟩) (metc_Core_next _ g c hc C C1 r1 e1) (lw_V q204 q205 q206 q63 q207) (by decide +kernel) (by decide) (by decide) rfl rfl (Nat.le_of_ble_eq_true rfl) dX4_ends_94 (q := 97) rfl (b' := 0) rfl ?_
  obtain ⟨r2, C2, e2, h⟩ := bnd_some h
  refine c_may (rest := [.ref (gCa g c)]) O e2 q520 (by decide) rfl (Nat.le_of_ble_eq_true rfl) dX4_ends_97 (q := 102) rfl ?_
  refine v_if_eq O.1 dX4_ends_102 (t := 109) (by decide) (q := 105) rfl (fun c3 => ?_) (fun c3 => ?_)
  · rw [if_pos c3] at h
    refine v_iconst O.1 dX4_ends_109 (v := 3) rfl (q := 110) rfl ?_
    exact v_sub [] rfl (bc_Core_ends_110 hc OX 3 C2 h)
  · rw [if_neg c3] at h
    refine v_iconst O.1 dX4_ends_105 (v := 2) rfl (q := 106) rfl ?_
    refine v_goto O.1 dX4_ends_106 (t := 110) (by decide) ?_
    exact v_sub [] rfl (bc_Core_ends_110 hc OX 2 C2 h)
def fc_Core_ends_72 (c : Nat) (x1 : Nat) (C : Mem) : Option ((Unit ⊕ Int32) × Mem) :=
  bnd (fv_ends x1 C) fun r1 C1 =>
  if r1 = 0 then
    fc_Core_ends_88 c C1
  else
    bnd (fc_Core_becomes c (nI (cK x1)) C1) fun r3 C3 =>
    fc_Core_ends_88 c C3
set_option maxHeartbeats 4000000 in
theorem bc_Core_ends_72 {g : gC} {X : Cxt} {r : (Unit ⊕ Int32)} {C' : Mem} {c : Nat} (hc : cC c) (OX : OkX g c X cX4_ends 2 none RX4 6 1 (xQv g r C') r C') (x1 : Nat) (hs_1 : cS x1) (C : Mem) (h : fc_Core_ends_72 c x1 C = some (r, C')) : V X 2 0 (WdC g C) 72 [(0, .ref (gCa g c)), (1, .ref (gCa g x1))] [] := by
  have O := OX.1
  unfold fc_Core_ends_72 at h
  refine v_aload_n O.1 dX4_ends_72 rfl (q := 73) rfl ?_
  obtain ⟨r1, C1, e1, h⟩ := bnd_some h
  refine c_v_ends (rest := []) O hs_1 e1 q506 (by decide) rfl (Nat.le_of_ble_eq_true rfl) dX4_ends_73 (q := 76) rfl ?_
  refine v_if_eq O.1 dX4_ends_76 (t := 88) (by decide) (q := 79) rfl (fun c2 => ?_) (fun c2 => ?_)
  · rw [if_pos c2] at h
    exact v_sub [0] rfl (bc_Core_ends_88 hc OX C1 h)
  · rw [if_neg c2] at h
    refine v_aload_n O.1 dX4_ends_79 rfl (q := 80) rfl ?_
    refine v_aload_n O.1 dX4_ends_80 rfl (q := 81) rfl ?_
    refine c_getS O hs_1 0 (by decide) (O.lk q733) rfl rfl rfl rfl (v := .int (nI (cK x1))) rfl dX4_ends_81 (q := 84) rfl ?_
    obtain ⟨r3, C3, e3, h⟩ := bnd_some h
    refine c_callVi (As := [.int (nI (cK x1))]) (rest := []) (n := 1) (ci := 2) (p := (RX4, TX4, 55)) O (cC_lt (j := 0) hc (by decide)) rfl (fun _ _ => ⟨_, cCell_core hc⟩) (metc_Core_becomes _ g c hc (nI (cK x1)) C1 C3 r3 e3) (lw_V q287 q288 q289 q63 q290) (by decide +kernel) (by decide) (by decide) rfl rfl (Nat.le_of_ble_eq_true rfl) dX4_ends_84 (q := 87) rfl (b' := 0) rfl ?_
    refine v_pop O.1 dX4_ends_87 rfl (q := 88) rfl ?_
    exact v_sub [0] rfl (bc_Core_ends_88 hc OX C3 h)
def fc_Core_ends (c : Nat)  (C : Mem) : Option ((Unit ⊕ Int32) × Mem) :=
  if (C c 33) = 0 then
    some (Sum.inr 18, C)
  else
    stp (up2 C c 33 ((C c 33) - 1)) fun C2 =>
    gd (inb (C2 c 33) 21) <|
    gd (inb (C2 (c + 6) (C2 c 33).toNatClampNeg) 21) <|
    if (C2 c 28) = 0 then
      bnd (fc_Core_notes c 2 (nI (cK (c + 22 + (C2 (c + 6) (C2 c 33).toNatClampNeg).toNatClampNeg))) (C2 c 37) ((C2 c 37) - (C2 (c + 22 + (C2 (c + 6) (C2 c 33).toNatClampNeg).toNatClampNeg) 7)) C2) fun r8 C8 =>
      fc_Core_ends_72 c (c + 22 + (C2 (c + 6) (C2 c 33).toNatClampNeg).toNatClampNeg) C8
    else
      fc_Core_ends_72 c (c + 22 + (C2 (c + 6) (C2 c 33).toNatClampNeg).toNatClampNeg) C2
set_option maxHeartbeats 4000000 in
theorem bc_Core_ends {g : gC} {X : Cxt} {r : (Unit ⊕ Int32)} {C' : Mem} {c : Nat} (hc : cC c) (OX : OkX g c X cX4_ends 2 none RX4 6 1 (xQv g r C') r C')  (C : Mem) (h : fc_Core_ends c  C = some (r, C')) : V X 2 1 (WdC g C) 0 [(0, .ref (gCa g c))] [] := by
  have O := OX.1
  unfold fc_Core_ends at h
  refine v_aload_n O.1 dX4_ends_0 rfl (q := 1) rfl ?_
  refine c_getC O hc 33 (v := .int (C c 33)) (by decide) (O.lk q895) rfl (fun _ => rfl) dX4_ends_1 (q := 4) rfl ?_
  refine v_if_ne O.1 dX4_ends_4 (t := 12) (by decide) (q := 7) rfl (fun c1 => ?_) (fun c1 => ?_)
  · rw [if_neg c1] at h
    refine v_aload_n O.1 dX4_ends_12 rfl (q := 13) rfl ?_
    refine v_dup O.1 dX4_ends_13 rfl (q := 14) rfl ?_
    refine c_getC O hc 33 (v := .int (C c 33)) (by decide) (O.lk q895) rfl (fun _ => rfl) dX4_ends_14 (q := 17) rfl ?_
    refine v_iconst O.1 dX4_ends_17 (v := 1) rfl (q := 18) rfl ?_
    refine v_isub O.1 dX4_ends_18 (q := 19) rfl ?_
    obtain ⟨C2, e2, h⟩ := stp_some h
    refine c_putC O hc 33 (u := ((C c 33) - 1)) (ty := .int) (by decide) (by decide) (O.lk q895) rfl rfl rfl rfl rfl (fun _ => rfl) dX4_ends_19 (q := 22) rfl e2 ?_
    refine v_aload_n O.1 dX4_ends_22 rfl (q := 23) rfl ?_
    refine c_getC O hc 7 (v := .ref (gCa g (c + 5))) (by decide) (O.lk q848) rfl (fun _ => rfl) dX4_ends_23 (q := 26) rfl ?_
    refine v_aload_n O.1 dX4_ends_26 rfl (q := 27) rfl ?_
    refine c_getC O hc 8 (v := .ref (gCa g (c + 6))) (by decide) (O.lk q852) rfl (fun _ => rfl) dX4_ends_27 (q := 30) rfl ?_
    refine v_aload_n O.1 dX4_ends_30 rfl (q := 31) rfl ?_
    refine c_getC O hc 33 (v := .int (C2 c 33)) (by decide) (O.lk q895) rfl (fun _ => rfl) dX4_ends_31 (q := 34) rfl ?_
    obtain ⟨g3, h⟩ := gd_some h
    refine c_iald O (cIA_nest hc) g3 rfl (j := (C2 c 33).toNatClampNeg) dX4_ends_34 (q := 35) rfl ?_
    obtain ⟨g4, h⟩ := gd_some h
    refine c_all O hc g4 rfl (j := (C2 (c + 6) (C2 c 33).toNatClampNeg).toNatClampNeg) dX4_ends_35 (q := 36) rfl ?_
    refine v_astore_n (lv' := [(1, .ref (gCa g (c + 22 + (C2 (c + 6) (C2 c 33).toNatClampNeg).toNatClampNeg))), (0, .ref (gCa g c))]) O.1 dX4_ends_36 (by decide) rfl (q := 37) rfl ?_
    refine v_aload_n O.1 dX4_ends_37 rfl (q := 38) rfl ?_
    refine c_getC O hc 28 (v := .int (C2 c 28)) (by decide) (O.lk q879) rfl (fun _ => rfl) dX4_ends_38 (q := 41) rfl ?_
    refine v_if_ne O.1 dX4_ends_41 (t := 72) (by decide) (q := 44) rfl (fun c5 => ?_) (fun c5 => ?_)
    · rw [if_neg c5] at h
      exact v_less (b' := 0) (by decide) (v_sub [1, 0] rfl (bc_Core_ends_72 hc OX (c + 22 + (C2 (c + 6) (C2 c 33).toNatClampNeg).toNatClampNeg) (cS_of hc (inb_lt g4)) C2 h))
    · rw [if_pos c5] at h
      refine v_aload_n O.1 dX4_ends_44 rfl (q := 45) rfl ?_
      refine c_newE (ci := 10) (N := 3) (Cn := RX11) (T := TX11) (ty := tyX11) (fs := [.int 0, .int 0, .int 0]) (b := 0) O rfl (by decide) in_X11 tyX11_ok q490 q491 q75 (fun j hj => by match j, hj with | 0, _ => rfl | 1, _ => rfl | 2, _ => rfl | j + 3, hj => exact absurd hj (by omega)) dX4_ends_45 (q := 48) rfl (fun a6 => ?_)
      refine v_dup O.1 dX4_ends_48 rfl (q := 49) rfl ?_
      refine v_aload_n O.1 dX4_ends_49 rfl (q := 50) rfl ?_
      refine c_getSP O (C := C2) PN.wd (cS_of hc (inb_lt g4)) 0 (by decide) (O.lk q733) rfl rfl rfl rfl (v := .int (nI (cK (c + 22 + (C2 (c + 6) (C2 c 33).toNatClampNeg).toNatClampNeg)))) rfl dX4_ends_50 (q := 53) rfl ?_
      refine v_aload_n O.1 dX4_ends_53 rfl (q := 54) rfl ?_
      refine c_getCP O (C := C2) PN.wd hc 37 (v := .int (C2 c 37)) (by decide) (O.lk q905) rfl (fun _ => rfl) dX4_ends_54 (q := 57) rfl ?_
      refine v_aload_n O.1 dX4_ends_57 rfl (q := 58) rfl ?_
      refine c_getCP O (C := C2) PN.wd hc 37 (v := .int (C2 c 37)) (by decide) (O.lk q905) rfl (fun _ => rfl) dX4_ends_58 (q := 61) rfl ?_
      refine v_aload_n O.1 dX4_ends_61 rfl (q := 62) rfl ?_
      refine c_getSP O (C := C2) PN.wd (cS_of hc (inb_lt g4)) 7 (by decide) (O.lk q756) rfl rfl rfl rfl (v := .int (C2 (c + 22 + (C2 (c + 6) (C2 c 33).toNatClampNeg).toNatClampNeg) 7)) rfl dX4_ends_62 (q := 65) rfl ?_
      refine v_isub O.1 dX4_ends_65 (q := 66) rfl ?_
      refine c_init_Ended (rest := [.ref a6, .ref (gCa g c)]) O q492 (by decide) rfl (Nat.le_of_ble_eq_true rfl) dX4_ends_66 (q := 69) rfl ?_
      obtain ⟨r8, C8, e8, h⟩ := bnd_some h
      refine c_notes (rest := []) O hc e8 q283 (by decide) rfl (Nat.le_of_ble_eq_true rfl) dX4_ends_69 (q := 72) rfl ?_
      exact v_sub [1, 0] rfl (bc_Core_ends_72 hc OX (c + 22 + (C2 (c + 6) (C2 c 33).toNatClampNeg).toNatClampNeg) (cS_of hc (inb_lt g4)) C8 h)
  · rw [if_pos c1] at h
    refine v_aload_n O.1 dX4_ends_7 rfl (q := 8) rfl ?_
    refine c_getC O hc 1 (v := .ref (gCa g (c + 20))) (by decide) (O.lk q828) rfl (fun _ => rfl) dX4_ends_8 (q := 11) rfl ?_
    exact x_throw 18 OX hc (Or.inl rfl) h rfl dX4_ends_11
theorem metc_Core_ends (l : Launch) (g : gC) (c : Nat) (hc : cC c) (C C' : Mem) (r : (Unit ⊕ Int32)) (h : fc_Core_ends c C = some (r, C')) : MetX l g c yX4_ends cX4_ends 2 none 6 1 [.ref (gCa g c)] C (xQv g r C') r C' :=
  x_met (by decide) rfl (Nat.le_of_ble_eq_true rfl) (fun X OX => bc_Core_ends hc OX C h)
