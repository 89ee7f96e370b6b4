/-! RankEntry$Core.nextBelow(I)I -/
def fc_Core_nextBelow_50 (c : Nat) (K4 : Int32 → Int32 → Int32 → Mem → Option (Int32 × Mem)) (x1 : Int32) (x2 : Int32) (x3 : Int32) (C : Mem) : Option (Int32 × Mem) :=
  K4 x1 x2 (x3 + 1) C
set_option maxHeartbeats 4000000 in
theorem bc_Core_nextBelow_50 {g : gC} {X : Cxt} {r : Int32} {C' : Mem} {c : Nat} (hc : cC c) (O : OkC g X cX4_nextBelow 5 (some .int) RX4 4 0 (cQi g r C')) {K4 : Int32 → Int32 → Int32 → Mem → Option (Int32 × Mem)} (hK4 : ∀ (x1 : Int32) (x2 : Int32) (x3 : Int32) (C : Mem), K4 x1 x2 x3 C = some (r, C') → V X 5 0 (WdC g C) 4 [(0, .ref (gCa g c)), (1, .int x1), (2, cSn g c x2), (3, .int x3)] []) (x1 : Int32) (x2 : Int32) (x3 : Int32) (C : Mem) (h : fc_Core_nextBelow_50 c K4 x1 x2 x3 C = some (r, C')) : V X 5 0 (WdC g C) 50 [(0, .ref (gCa g c)), (1, .int x1), (2, cSn g c x2), (3, .int x3)] [] := by
  unfold fc_Core_nextBelow_50 at h
  refine v_iinc (lv' := [(3, .int (x3 + 1)), (0, .ref (gCa g c)), (1, .int x1), (2, cSn g c x2)]) (v := (x3 + 1)) O.1 dX4_nextBelow_50 rfl rfl (by decide) (by first | rfl | simp [List.filter, cSn_cat, cOn_cat, show ((1 : Fin 4) : Nat) = 1 from rfl, show ((2 : Fin 4) : Nat) = 2 from rfl, show ((3 : Fin 4) : Nat) = 3 from rfl]) (q := 53) rfl ?_
  refine v_goto O.1 dX4_nextBelow_53 (t := 4) (by decide) ?_
  exact v_sub [1, 2, 3, 0] rfl (hK4 x1 x2 (x3 + 1) C h)
def fc_Core_nextBelow_47 (c : Nat) (K4 : Int32 → Int32 → Int32 → Mem → Option (Int32 × Mem)) (x1 : Int32) (x3 : Int32) (x4 : Int32) (C : Mem) : Option (Int32 × Mem) :=
  gd (inb x4 21) <|
  fc_Core_nextBelow_50 c K4 x1 x4 x3 C
set_option maxHeartbeats 4000000 in
theorem bc_Core_nextBelow_47 {g : gC} {X : Cxt} {r : Int32} {C' : Mem} {c : Nat} (hc : cC c) (O : OkC g X cX4_nextBelow 5 (some .int) RX4 4 0 (cQi g r C')) {K4 : Int32 → Int32 → Int32 → Mem → Option (Int32 × Mem)} (hK4 : ∀ (x1 : Int32) (x2 : Int32) (x3 : Int32) (C : Mem), K4 x1 x2 x3 C = some (r, C') → V X 5 0 (WdC g C) 4 [(0, .ref (gCa g c)), (1, .int x1), (2, cSn g c x2), (3, .int x3)] []) (x1 : Int32) (x3 : Int32) (x4 : Int32) (C : Mem) (h : fc_Core_nextBelow_47 c K4 x1 x3 x4 C = some (r, C')) : V X 5 0 (WdC g C) 47 [(0, .ref (gCa g c)), (1, .int x1), (3, .int x3), (4, cSn g c x4)] [] := by
  unfold fc_Core_nextBelow_47 at h
  obtain ⟨g1, h⟩ := gd_some h
  refine v_aloadq O.1 (cSn_in g1) dX4_nextBelow_47 rfl (q := 49) rfl ?_
  refine v_astore_nq (lv' := [(2, cSn g c x4), (0, .ref (gCa g c)), (1, .int x1), (3, .int x3), (4, cSn g c x4)]) (w := cSn g c x4) O.1 (cSn_in g1) dX4_nextBelow_49 (by decide) (by first | rfl | simp [List.filter, cSn_cat, cOn_cat, show ((1 : Fin 4) : Nat) = 1 from rfl, show ((2 : Fin 4) : Nat) = 2 from rfl, show ((3 : Fin 4) : Nat) = 3 from rfl]) (q := 50) rfl ?_
  exact v_sub [1, 2, 0, 3] rfl (bc_Core_nextBelow_50 hc O hK4 x1 x4 x3 C h)
def fc_Core_nextBelow_68 (c : Nat) (y0 : Int32) (C : Mem) : Option (Int32 × Mem) :=
  some (y0, C)
set_option maxHeartbeats 4000000 in
theorem bc_Core_nextBelow_68 {g : gC} {X : Cxt} {r : Int32} {C' : Mem} {c : Nat} (hc : cC c) (O : OkC g X cX4_nextBelow 5 (some .int) RX4 4 0 (cQi g r C')) (y0 : Int32) (C : Mem) (h : fc_Core_nextBelow_68 c y0 C = some (r, C')) : V X 5 0 (WdC g C) 68 [] [.int y0] := by
  unfold fc_Core_nextBelow_68 at h
  exact c_iret O h dX4_nextBelow_68
def fc_Core_nextBelow_4b (c : Nat) (K4 : Int32 → Int32 → Int32 → Mem → Option (Int32 × Mem)) (x1 : Int32) (x2 : Int32) (x3 : Int32) (C : Mem) : Option (Int32 × Mem) :=
  if 21 ≤ x3 then
    if x2 < 0 then
      fc_Core_nextBelow_68 c (-1) C
    else
      gd (inb x2 21) <|
      fc_Core_nextBelow_68 c (nI (cK (c + 22 + x2.toNatClampNeg))) C
  else
    gd (inb x3 21) <|
    gd (inb x3 21) <|
    bnd (fc_Core_canBelow c (c + 22 + x3.toNatClampNeg) x1 C) fun r6 C6 =>
    if r6 = 0 then
      fc_Core_nextBelow_50 c K4 x1 x2 x3 C6
    else
      if x2 < 0 then
        fc_Core_nextBelow_47 c K4 x1 x3 x3 C6
      else
        gd (inb x3 21) <|
        gd (inb x2 21) <|
        bnd (fv_is (c + 22 + x3.toNatClampNeg) (c + 22 + x2.toNatClampNeg) (C6 c 27) C6) fun r11 C11 =>
        if r11 = 0 then
          fc_Core_nextBelow_50 c K4 x1 x2 x3 C11
        else
          fc_Core_nextBelow_47 c K4 x1 x3 x3 C11
set_option maxHeartbeats 4000000 in
theorem bc_Core_nextBelow_4b {g : gC} {X : Cxt} {r : Int32} {C' : Mem} {c : Nat} (hc : cC c) (O : OkC g X cX4_nextBelow 5 (some .int) RX4 4 0 (cQi g r C')) {K4 : Int32 → Int32 → Int32 → Mem → Option (Int32 × Mem)} (hK4 : ∀ (x1 : Int32) (x2 : Int32) (x3 : Int32) (C : Mem), K4 x1 x2 x3 C = some (r, C') → V X 5 0 (WdC g C) 4 [(0, .ref (gCa g c)), (1, .int x1), (2, cSn g c x2), (3, .int x3)] []) (x1 : Int32) (x2 : Int32) (x3 : Int32) (C : Mem) (h : fc_Core_nextBelow_4b c K4 x1 x2 x3 C = some (r, C')) : V X 5 0 (WdC g C) 4 [(0, .ref (gCa g c)), (1, .int x1), (2, cSn g c x2), (3, .int x3)] [] := by
  unfold fc_Core_nextBelow_4b at h
  refine v_iload_n O.1 dX4_nextBelow_4 rfl (q := 5) rfl ?_
  refine v_bipush O.1 dX4_nextBelow_5 (v := 21) (by decide) (q := 7) rfl ?_
  refine v_icmp_ge O.1 dX4_nextBelow_7 (t := 56) (by decide) (q := 10) rfl (fun c1 => ?_) (fun c1 => ?_)
  · rw [if_pos c1] at h
    refine v_aload_nr O.1 (cSn_or _ _ _) dX4_nextBelow_56 rfl (q := 57) rfl ?_
    refine v_ifnonnull (p := x2 < 0) O.1 (fun z => cSn_n z) (fun z => cSn_r z) dX4_nextBelow_57 (t := 64) (by decide) (q := 60) rfl (fun c2 => ?_) (fun c2 => ?_)
    · rw [if_neg c2] at h
      obtain ⟨g3, h⟩ := gd_some h
      refine v_aload_nq O.1 (cSn_in g3) dX4_nextBelow_64 rfl (q := 65) rfl ?_
      refine c_getS O (cS_of hc (inb_lt g3)) 0 (by decide) (O.lk q733) rfl rfl rfl rfl (v := .int (nI (cK (c + 22 + x2.toNatClampNeg)))) rfl dX4_nextBelow_65 (q := 68) rfl ?_
      exact v_sub [] rfl (bc_Core_nextBelow_68 hc O (nI (cK (c + 22 + x2.toNatClampNeg))) C h)
    · rw [if_pos c2] at h
      refine v_iconst O.1 dX4_nextBelow_60 (v := (-1)) rfl (q := 61) rfl ?_
      refine v_goto O.1 dX4_nextBelow_61 (t := 68) (by decide) ?_
      exact v_sub [] rfl (bc_Core_nextBelow_68 hc O (-1) C h)
  · rw [if_neg c1] at h
    refine v_aload_n O.1 dX4_nextBelow_10 rfl (q := 11) rfl ?_
    refine c_getC O hc 7 (v := .ref (gCa g (c + 5))) (by decide) (O.lk q848) rfl (fun _ => rfl) dX4_nextBelow_11 (q := 14) rfl ?_
    refine v_iload_n O.1 dX4_nextBelow_14 rfl (q := 15) rfl ?_
    obtain ⟨g4, h⟩ := gd_some h
    refine c_all O hc g4 rfl (j := x3.toNatClampNeg) dX4_nextBelow_15 (q := 16) rfl ?_
    refine v_astoreq (lv' := [(4, cSn g c x3), (0, .ref (gCa g c)), (1, .int x1), (2, cSn g c x2), (3, .int x3)]) (w := cSn g c x3) O.1 (cSn_in g4) dX4_nextBelow_16 (by decide) (by first | rfl | simp [List.filter, cSn_cat, cOn_cat, show ((1 : Fin 4) : Nat) = 1 from rfl, show ((2 : Fin 4) : Nat) = 2 from rfl, show ((3 : Fin 4) : Nat) = 3 from rfl]) (q := 18) rfl ?_
    refine v_aload_n O.1 dX4_nextBelow_18 rfl (q := 19) rfl ?_
    obtain ⟨g5, h⟩ := gd_some h
    refine v_aloadq O.1 (cSn_in g5) dX4_nextBelow_19 rfl (q := 21) rfl ?_
    refine v_iload_n O.1 dX4_nextBelow_21 rfl (q := 22) rfl ?_
    obtain ⟨r6, C6, e6, h⟩ := bnd_some h
    refine c_callVi (As := [.ref (gCa g (c + 22 + x3.toNatClampNeg)), .int x1]) (rest := []) (n := 2) (ci := 2) (p := (RX4, TX4, 55)) O (cC_lt (j := 0) hc (by decide)) rfl (fun _ _ => ⟨_, cCell_core hc⟩) (metc_Core_canBelow _ g c hc (c + 22 + x3.toNatClampNeg) (cS_of hc (inb_lt g5)) x1 C C6 r6 e6) (lw_V q230 q232 qs2 q63 q233) (by decide +kernel) (by decide) (by decide) rfl rfl (Nat.le_of_ble_eq_true rfl) dX4_nextBelow_22 (q := 25) rfl (b' := 0) rfl ?_
    refine v_if_eq O.1 dX4_nextBelow_25 (t := 50) (by decide) (q := 28) rfl (fun c7 => ?_) (fun c7 => ?_)
    · rw [if_pos c7] at h
      exact v_sub [1, 2, 3, 4] rfl (bc_Core_nextBelow_50 hc O hK4 x1 x2 x3 C6 h)
    · rw [if_neg c7] at h
      refine v_aload_nr O.1 (cSn_or _ _ _) dX4_nextBelow_28 rfl (q := 29) rfl ?_
      refine v_ifnull (p := x2 < 0) O.1 (fun z => cSn_n z) (fun z => cSn_r z) dX4_nextBelow_29 (t := 47) (by decide) (q := 32) rfl (fun c8 => ?_) (fun c8 => ?_)
      · rw [if_pos c8] at h
        exact v_sub [1, 2, 4, 0] rfl (bc_Core_nextBelow_47 hc O hK4 x1 x3 x3 C6 h)
      · rw [if_neg c8] at h
        refine v_aload_n O.1 dX4_nextBelow_32 rfl (q := 33) rfl ?_
        refine c_getA O hc (O.lk q877) dX4_nextBelow_33 (q := 36) rfl (fun a => ?_)
        obtain ⟨g9, h⟩ := gd_some h
        refine v_aloadq O.1 (cSn_in g9) dX4_nextBelow_36 rfl (q := 38) rfl ?_
        obtain ⟨g10, h⟩ := gd_some h
        refine v_aload_nq O.1 (cSn_in g10) dX4_nextBelow_38 rfl (q := 39) rfl ?_
        obtain ⟨r11, C11, e11, h⟩ := bnd_some h
        refine c_is (rest := []) O (c := c) (cS_of hc (inb_lt g9)) (cS_of hc (inb_lt g10)) e11 q235 (by decide) rfl (Nat.le_of_ble_eq_true rfl) dX4_nextBelow_39 (q := 44) rfl ?_
        refine v_if_eq O.1 dX4_nextBelow_44 (t := 50) (by decide) (q := 47) rfl (fun c12 => ?_) (fun c12 => ?_)
        · rw [if_pos c12] at h
          exact v_sub [1, 2, 3, 4] rfl (bc_Core_nextBelow_50 hc O hK4 x1 x2 x3 C11 h)
        · rw [if_neg c12] at h
          exact v_sub [1, 2, 4, 0] rfl (bc_Core_nextBelow_47 hc O hK4 x1 x3 x3 C11 h)
def fc_Core_nextBelow_4 (c : Nat) (n : Nat) : Int32 → Int32 → Int32 → Mem → Option (Int32 × Mem) := lpc (fc_Core_nextBelow_4b c) (fun _ _ _ _ => none) n
theorem bc_Core_nextBelow_4 {g : gC} {X : Cxt} {r : Int32} {C' : Mem} {c : Nat} (hc : cC c) (O : OkC g X cX4_nextBelow 5 (some .int) RX4 4 0 (cQi g r C')) : ∀ (n : Nat) (x1 : Int32) (x2 : Int32) (x3 : Int32) (C : Mem), fc_Core_nextBelow_4 c n x1 x2 x3 C = some (r, C') → V X 5 0 (WdC g C) 4 [(0, .ref (gCa g c)), (1, .int x1), (2, cSn g c x2), (3, .int x3)] [] := by
  intro n
  induction n with
  | zero =>
    intro x1 x2 x3 C h
    cases h
  | succ n ih =>
    intro x1 x2 x3 C h
    exact bc_Core_nextBelow_4b hc O ih x1 x2 x3 C h
def fc_Core_nextBelow (c : Nat) (x1 : Int32) (C : Mem) : Option (Int32 × Mem) :=
  fc_Core_nextBelow_4 c 600 x1 (-1) 0 C
set_option maxHeartbeats 4000000 in
theorem bc_Core_nextBelow {g : gC} {X : Cxt} {r : Int32} {C' : Mem} {c : Nat} (hc : cC c) (O : OkC g X cX4_nextBelow 5 (some .int) RX4 4 0 (cQi g r C')) (x1 : Int32) (C : Mem) (h : fc_Core_nextBelow c x1 C = some (r, C')) : V X 5 0 (WdC g C) 0 [(0, .ref (gCa g c)), (1, .int x1)] [] := by
  unfold fc_Core_nextBelow at h
  refine v_null (w := cSn g c (-1)) O.1 rfl dX4_nextBelow_0 (q := 1) rfl ?_
  refine v_astore_nr (lv' := [(2, cSn g c (-1)), (0, .ref (gCa g c)), (1, .int x1)]) O.1 (cSn_or _ _ _) dX4_nextBelow_1 (by decide) (by first | rfl | simp [List.filter, cSn_cat, cOn_cat, show ((1 : Fin 4) : Nat) = 1 from rfl, show ((2 : Fin 4) : Nat) = 2 from rfl, show ((3 : Fin 4) : Nat) = 3 from rfl]) (q := 2) rfl ?_
  refine v_iconst O.1 dX4_nextBelow_2 (v := 0) rfl (q := 3) rfl ?_
  refine v_istore_n (lv' := [(3, .int 0), (2, cSn g c (-1)), (0, .ref (gCa g c)), (1, .int x1)]) O.1 dX4_nextBelow_3 (by decide) (by first | rfl | simp [List.filter, cSn_cat, cOn_cat, show ((1 : Fin 4) : Nat) = 1 from rfl, show ((2 : Fin 4) : Nat) = 2 from rfl, show ((3 : Fin 4) : Nat) = 3 from rfl]) (q := 4) rfl ?_
  exact v_sub [2, 3, 1, 0] rfl (bc_Core_nextBelow_4 hc O 600 x1 (-1) 0 C h)
theorem metc_Core_nextBelow (l : Launch) (g : gC) (c : Nat) (hc : cC c) (x1 : Int32) (C C' : Mem) (r : Int32) (h : fc_Core_nextBelow c x1 C = some (r, C')) : MetC l g yX4_nextBelow cX4_nextBelow 5 (some .int) 4 0 [.ref (gCa g c), .int x1] C (cQi g r C') :=
  c_met (by decide) rfl (Nat.le_of_ble_eq_true rfl) (fun X O => bc_Core_nextBelow hc O x1 C h)
/-! RankEntry$Core.next()I -/
def fc_Core_next (c : Nat)  (C : Mem) : Option (Int32 × Mem) :=
  bnd (fc_Core_limit c C) fun r1 C1 =>
  bnd (fc_Core_nextBelow c r1 C1) fun r2 C2 =>
  some (r2, C2)
set_option maxHeartbeats 4000000 in
theorem bc_Core_next {g : gC} {X : Cxt} {r : Int32} {C' : Mem} {c : Nat} (hc : cC c) (O : OkC g X cX4_next 1 (some .int) RX4 5 0 (cQi g r C'))  (C : Mem) (h : fc_Core_next c  C = some (r, C')) : V X 1 0 (WdC g C) 0 [(0, .ref (gCa g c))] [] := by
  unfold fc_Core_next at h
  refine v_aload_n O.1 dX4_next_0 rfl (q := 1) rfl ?_
  refine v_aload_n O.1 dX4_next_1 rfl (q := 2) rfl ?_
  obtain ⟨r1, C1, e1, h⟩ := bnd_some h
  refine c_callVi (As := []) (rest := [.ref (gCa g c)]) (n := 0) (ci := 2) (p := (RX4, TX4, 55)) O (cC_lt (j := 0) hc (by decide)) rfl (fun _ _ => ⟨_, cCell_core hc⟩) (metc_Core_limit _ g c hc C C1 r1 e1) (lw_V q208 q209 q210 q63 q211) (by decide +kernel) (by decide) (by decide) rfl rfl (Nat.le_of_ble_eq_true rfl) dX4_next_2 (q := 5) rfl (b' := 0) rfl ?_
  obtain ⟨r2, C2, e2, h⟩ := bnd_some h
  refine c_callVi (As := [.int r1]) (rest := []) (n := 1) (ci := 2) (p := (RX4, TX4, 55)) O (cC_lt (j := 0) hc (by decide)) rfl (fun _ _ => ⟨_, cCell_core hc⟩) (metc_Core_nextBelow _ g c hc r1 C1 C2 r2 e2) (lw_V q226 q227 q228 q63 q229) (by decide +kernel) (by decide) (by decide) rfl rfl (Nat.le_of_ble_eq_true rfl) dX4_next_5 (q := 8) rfl (b' := 0) rfl ?_
  exact c_iret O h dX4_next_8
theorem metc_Core_next (l : Launch) (g : gC) (c : Nat) (hc : cC c) (C C' : Mem) (r : Int32) (h : fc_Core_next c C = some (r, C')) : MetC l g yX4_next cX4_next 1 (some .int) 5 0 [.ref (gCa g c)] C (cQi g r C') :=
  c_met (by decide) rfl (Nat.le_of_ble_eq_true rfl) (fun X O => bc_Core_next hc O C h)
/-! RankEntry$Core.isQuiet()Z -/
def fc_Core_isQuiet_26 (c : Nat) (y0 : Int32) (C : Mem) : Option (Int32 × Mem) :=
  gd (isB y0) <|
  some (y0, C)
set_option maxHeartbeats 4000000 in
theorem bc_Core_isQuiet_26 {g : gC} {X : Cxt} {r : Int32} {C' : Mem} {c : Nat} (hc : cC c) (O : OkC g X cX4_isQuiet 1 (some .boolean) RX4 6 0 (cQi g r C')) (y0 : Int32) (C : Mem) (h : fc_Core_isQuiet_26 c y0 C = some (r, C')) : V X 1 0 (WdC g C) 26 [] [.int y0] := by
  unfold fc_Core_isQuiet_26 at h
  obtain ⟨g1, h⟩ := gd_some h
  exact c_zret O g1 h dX4_isQuiet_26
def fc_Core_isQuiet_25 (c : Nat)  (C : Mem) : Option (Int32 × Mem) :=
  fc_Core_isQuiet_26 c 0 C
set_option maxHeartbeats 4000000 in
theorem bc_Core_isQuiet_25 {g : gC} {X : Cxt} {r : Int32} {C' : Mem} {c : Nat} (hc : cC c) (O : OkC g X cX4_isQuiet 1 (some .boolean) RX4 6 0 (cQi g r C'))  (C : Mem) (h : fc_Core_isQuiet_25 c  C = some (r, C')) : V X 1 0 (WdC g C) 25 [] [] := by
  unfold fc_Core_isQuiet_25 at h
  refine v_iconst O.1 dX4_isQuiet_25 (v := 0) rfl (q := 26) rfl ?_
  exact v_sub [] rfl (bc_Core_isQuiet_26 hc O 0 C h)
def fc_Core_isQuiet (c : Nat)  (C : Mem) : Option (Int32 × Mem) :=
  if (C c 41) = 0 then
    if (C c 33) = 0 then
      bnd (fc_Core_next c C) fun r3 C3 =>
      if 0 ≤ r3 then
        fc_Core_isQuiet_25 c C3
      else
        fc_Core_isQuiet_26 c 1 C3
    else
      fc_Core_isQuiet_25 c C
  else
    fc_Core_isQuiet_25 c C
set_option maxHeartbeats 4000000 in
theorem bc_Core_isQuiet {g : gC} {X : Cxt} {r : Int32} {C' : Mem} {c : Nat} (hc : cC c) (O : OkC g X cX4_isQuiet 1 (some .boolean) RX4 6 0 (cQi g r C'))  (C : Mem) (h : fc_Core_isQuiet c  C = some (r, C')) : V X 1 0 (WdC g C) 0 [(0, .ref (gCa g c))] [] := by
  unfold fc_Core_isQuiet at h
  refine v_aload_n O.1 dX4_isQuiet_0 rfl (q := 1) rfl ?_
  refine c_getC O hc 41 (v := .int (C c 41)) (by decide) (O.lk q913) rfl (fun _ => rfl) dX4_isQuiet_1 (q := 4) rfl ?_
  refine v_if_ne O.1 dX4_isQuiet_4 (t := 25) (by decide) (q := 7) rfl (fun c1 => ?_) (fun c1 => ?_)
  · rw [if_neg c1] at h
    exact v_sub [] rfl (bc_Core_isQuiet_25 hc O C h)
  · rw [if_pos c1] at h
    refine v_aload_n O.1 dX4_isQuiet_7 rfl (q := 8) rfl ?_
    refine c_getC O hc 33 (v := .int (C c 33)) (by decide) (O.lk q895) rfl (fun _ => rfl) dX4_isQuiet_8 (q := 11) rfl ?_
    refine v_if_ne O.1 dX4_isQuiet_11 (t := 25) (by decide) (q := 14) rfl (fun c2 => ?_) (fun c2 => ?_)
    · rw [if_neg c2] at h
      exact v_sub [] rfl (bc_Core_isQuiet_25 hc O C h)
    · rw [if_pos c2] at h
      refine v_aload_n O.1 dX4_isQuiet_14 rfl (q := 15) rfl ?_
      obtain ⟨r3, C3, e3, h⟩ := bnd_some h
      refine c_callVi (As := []) (rest := []) (n := 0) (ci := 2) (p := (RX4, TX4, 55)) O (cC_lt (j := 0) hc (by decide)) rfl (fun _ _ => ⟨_, cCell_core hc⟩) (metc_Core_next _ g c hc C C3 r3 e3) (lw_V q204 q205 q206 q63 q207) (by decide +kernel) (by decide) (by decide) rfl rfl (Nat.le_of_ble_eq_true rfl) dX4_isQuiet_15 (q := 18) rfl (b' := 0) rfl ?_
      refine v_if_ge O.1 dX4_isQuiet_18 (t := 25) (by decide) (q := 21) rfl (fun c4 => ?_) (fun c4 => ?_)
      · rw [if_pos c4] at h
        exact v_sub [] rfl (bc_Core_isQuiet_25 hc O C3 h)
      · rw [if_neg c4] at h
        refine v_iconst O.1 dX4_isQuiet_21 (v := 1) rfl (q := 22) rfl ?_
        refine v_goto O.1 dX4_isQuiet_22 (t := 26) (by decide) ?_
        exact v_sub [] rfl (bc_Core_isQuiet_26 hc O 1 C3 h)
theorem metc_Core_isQuiet (l : Launch) (g : gC) (c : Nat) (hc : cC c) (C C' : Mem) (r : Int32) (h : fc_Core_isQuiet c C = some (r, C')) : MetC l g yX4_isQuiet cX4_isQuiet 1 (some .boolean) 6 0 [.ref (gCa g c)] C (cQi g r C') :=
  c_met (by decide) rfl (Nat.le_of_ble_eq_true rfl) (fun X O => bc_Core_isQuiet hc O C h)
