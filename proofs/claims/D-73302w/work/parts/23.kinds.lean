def fc_Lev_drops_19 (o : Nat) (y0 : Int32) (C : Mem) : Option (Int32 × Mem) :=
  gd (isB y0) <|
  some (y0, C)
set_option maxHeartbeats 4000000 in
theorem bc_Lev_drops_19 {g : gC} {X : Cxt} {r : Int32} {C' : Mem} {o : Nat} (hs : cLv o) (O : OkC g X cX16_drops 1 (some .boolean) RX16 1 0 (cQi g r C')) (y0 : Int32) (C : Mem) (h : fc_Lev_drops_19 o y0 C = some (r, C')) : V X 1 0 (WdC g C) 19 [] [.int y0] := by
  unfold fc_Lev_drops_19 at h
  obtain ⟨g1, h⟩ := gd_some h
  exact c_zret O g1 h dX16_drops_19
def fc_Lev_drops_18 (o : Nat)  (C : Mem) : Option (Int32 × Mem) :=
  fc_Lev_drops_19 o 0 C
set_option maxHeartbeats 4000000 in
theorem bc_Lev_drops_18 {g : gC} {X : Cxt} {r : Int32} {C' : Mem} {o : Nat} (hs : cLv o) (O : OkC g X cX16_drops 1 (some .boolean) RX16 1 0 (cQi g r C'))  (C : Mem) (h : fc_Lev_drops_18 o  C = some (r, C')) : V X 1 0 (WdC g C) 18 [] [] := by
  unfold fc_Lev_drops_18 at h
  refine v_iconst O.1 dX16_drops_18 (v := 0) rfl (q := 19) rfl ?_
  exact v_sub [] rfl (bc_Lev_drops_19 hs O 0 C h)
def fc_Lev_drops (o : Nat)  (C : Mem) : Option (Int32 × Mem) :=
  if (C o 9) = 0 then
    bnd (fc_Src_drops o C) fun r2 C2 =>
    if r2 = 0 then
      fc_Lev_drops_18 o C2
    else
      fc_Lev_drops_19 o 1 C2
  else
    fc_Lev_drops_18 o C
set_option maxHeartbeats 4000000 in
theorem bc_Lev_drops {g : gC} {X : Cxt} {r : Int32} {C' : Mem} {o : Nat} (hs : cLv o) (O : OkC g X cX16_drops 1 (some .boolean) RX16 1 0 (cQi g r C'))  (C : Mem) (h : fc_Lev_drops o  C = some (r, C')) : V X 1 0 (WdC g C) 0 [(0, .ref (gCa g o))] [] := by
  unfold fc_Lev_drops at h
  refine v_aload_n O.1 dX16_drops_0 rfl (q := 1) rfl ?_
  refine c_getH O hs (O.lk q783) dX16_drops_1 (q := 4) rfl ?_
  refine v_if_ne O.1 dX16_drops_4 (t := 18) (by decide) (q := 7) rfl (fun c1 => ?_) (fun c1 => ?_)
  · rw [if_neg c1] at h
    exact v_sub [] rfl (bc_Lev_drops_18 hs O C h)
  · rw [if_pos c1] at h
    refine v_aload_n O.1 dX16_drops_7 rfl (q := 8) rfl ?_
    obtain ⟨r2, C2, e2, h⟩ := bnd_some h
    refine c_callSUi (As := []) (rest := []) (n := 0) O hs.1 (metc_Src_drops _ g o hs.1 C C2 r2 e2) q470 q471 q463 q475 (by decide +kernel) (by decide) (by decide) rfl rfl (Nat.le_of_ble_eq_true rfl) dX16_drops_8 (q := 11) rfl (b' := 0) rfl ?_
    refine v_if_eq O.1 dX16_drops_11 (t := 18) (by decide) (q := 14) rfl (fun c3 => ?_) (fun c3 => ?_)
    · rw [if_pos c3] at h
      exact v_sub [] rfl (bc_Lev_drops_18 hs O C2 h)
    · rw [if_neg c3] at h
      refine v_iconst O.1 dX16_drops_14 (v := 1) rfl (q := 15) rfl ?_
      refine v_goto O.1 dX16_drops_15 (t := 19) (by decide) ?_
      exact v_sub [] rfl (bc_Lev_drops_19 hs O 1 C2 h)
theorem metc_Lev_drops (l : Launch) (g : gC) (o : Nat) (hs : cLv o) (C C' : Mem) (r : Int32) (h : fc_Lev_drops o C = some (r, C')) : MetC l g yX16_drops cX16_drops 1 (some .boolean) 1 0 [.ref (gCa g o)] C (cQi g r C') :=
  c_met (by decide) rfl (Nat.le_of_ble_eq_true rfl) (fun X O => bc_Lev_drops hs O C h)
def fc_Lev_ends_19 (o : Nat) (y0 : Int32) (C : Mem) : Option (Int32 × Mem) :=
  gd (isB y0) <|
  some (y0, C)
set_option maxHeartbeats 4000000 in
theorem bc_Lev_ends_19 {g : gC} {X : Cxt} {r : Int32} {C' : Mem} {o : Nat} (hs : cLv o) (O : OkC g X cX16_ends 1 (some .boolean) RX16 1 0 (cQi g r C')) (y0 : Int32) (C : Mem) (h : fc_Lev_ends_19 o y0 C = some (r, C')) : V X 1 0 (WdC g C) 19 [] [.int y0] := by
  unfold fc_Lev_ends_19 at h
  obtain ⟨g1, h⟩ := gd_some h
  exact c_zret O g1 h dX16_ends_19
def fc_Lev_ends_14 (o : Nat)  (C : Mem) : Option (Int32 × Mem) :=
  fc_Lev_ends_19 o 1 C
set_option maxHeartbeats 4000000 in
theorem bc_Lev_ends_14 {g : gC} {X : Cxt} {r : Int32} {C' : Mem} {o : Nat} (hs : cLv o) (O : OkC g X cX16_ends 1 (some .boolean) RX16 1 0 (cQi g r C'))  (C : Mem) (h : fc_Lev_ends_14 o  C = some (r, C')) : V X 1 0 (WdC g C) 14 [] [] := by
  unfold fc_Lev_ends_14 at h
  refine v_iconst O.1 dX16_ends_14 (v := 1) rfl (q := 15) rfl ?_
  refine v_goto O.1 dX16_ends_15 (t := 19) (by decide) ?_
  exact v_sub [] rfl (bc_Lev_ends_19 hs O 1 C h)
def fc_Lev_ends (o : Nat)  (C : Mem) : Option (Int32 × Mem) :=
  bnd (fc_Src_ends o C) fun r1 C1 =>
  if r1 = 0 then
    if (C1 o 9) = 0 then
      fc_Lev_ends_19 o 0 C1
    else
      fc_Lev_ends_14 o C1
  else
    fc_Lev_ends_14 o C1
set_option maxHeartbeats 4000000 in
theorem bc_Lev_ends {g : gC} {X : Cxt} {r : Int32} {C' : Mem} {o : Nat} (hs : cLv o) (O : OkC g X cX16_ends 1 (some .boolean) RX16 1 0 (cQi g r C'))  (C : Mem) (h : fc_Lev_ends o  C = some (r, C')) : V X 1 0 (WdC g C) 0 [(0, .ref (gCa g o))] [] := by
  unfold fc_Lev_ends at h
  refine v_aload_n O.1 dX16_ends_0 rfl (q := 1) rfl ?_
  obtain ⟨r1, C1, e1, h⟩ := bnd_some h
  refine c_callSUi (As := []) (rest := []) (n := 0) O hs.1 (metc_Src_ends _ g o hs.1 C C1 r1 e1) q514 q515 q507 q517 (by decide +kernel) (by decide) (by decide) rfl rfl (Nat.le_of_ble_eq_true rfl) dX16_ends_1 (q := 4) rfl (b' := 0) rfl ?_
  refine v_if_ne O.1 dX16_ends_4 (t := 14) (by decide) (q := 7) rfl (fun c2 => ?_) (fun c2 => ?_)
  · rw [if_neg c2] at h
    exact v_sub [] rfl (bc_Lev_ends_14 hs O C1 h)
  · rw [if_pos c2] at h
    refine v_aload_n O.1 dX16_ends_7 rfl (q := 8) rfl ?_
    refine c_getH O hs (O.lk q783) dX16_ends_8 (q := 11) rfl ?_
    refine v_if_eq O.1 dX16_ends_11 (t := 18) (by decide) (q := 14) rfl (fun c3 => ?_) (fun c3 => ?_)
    · rw [if_pos c3] at h
      refine v_iconst O.1 dX16_ends_18 (v := 0) rfl (q := 19) rfl ?_
      exact v_sub [] rfl (bc_Lev_ends_19 hs O 0 C1 h)
    · rw [if_neg c3] at h
      exact v_sub [] rfl (bc_Lev_ends_14 hs O C1 h)
theorem metc_Lev_ends (l : Launch) (g : gC) (o : Nat) (hs : cLv o) (C C' : Mem) (r : Int32) (h : fc_Lev_ends o C = some (r, C')) : MetC l g yX16_ends cX16_ends 1 (some .boolean) 1 0 [.ref (gCa g o)] C (cQi g r C') :=
  c_met (by decide) rfl (Nat.le_of_ble_eq_true rfl) (fun X O => bc_Lev_ends hs O C h)
def fc_Lev_forgets (o : Nat)  (C : Mem) : Option (Unit × Mem) :=
  bnd (fc_Src_forgets o C) fun r1 C1 =>
  stp (up2 C1 o 9 0) fun C2 =>
  some ((), C2)
set_option maxHeartbeats 4000000 in
theorem bc_Lev_forgets {g : gC} {X : Cxt} {r : Unit} {C' : Mem} {o : Nat} (hs : cLv o) (O : OkC g X cX16_forgets 1 none RX16 1 0 (cQv g r C'))  (C : Mem) (h : fc_Lev_forgets o  C = some (r, C')) : V X 1 0 (WdC g C) 0 [(0, .ref (gCa g o))] [] := by
  unfold fc_Lev_forgets at h
  refine v_aload_n O.1 dX16_forgets_0 rfl (q := 1) rfl ?_
  obtain ⟨r1, C1, e1, h⟩ := bnd_some h
  refine c_callSUv (As := []) (rest := []) (n := 0) O hs.1 (metc_Src_forgets _ g o hs.1 C C1 r1 e1) q1181 q1182 q1174 q1184 (by decide +kernel) (by decide) (by decide) rfl rfl (Nat.le_of_ble_eq_true rfl) dX16_forgets_1 (q := 4) rfl (b' := 0) rfl ?_
  refine v_aload_n O.1 dX16_forgets_4 rfl (q := 5) rfl ?_
  refine v_iconst O.1 dX16_forgets_5 (v := 0) rfl (q := 6) rfl ?_
  obtain ⟨C2, e2, h⟩ := stp_some h
  refine c_putH O hs (O.lk q783) (by decide) dX16_forgets_6 (q := 9) rfl e2 ?_
  exact c_vret O h dX16_forgets_9
theorem metc_Lev_forgets (l : Launch) (g : gC) (o : Nat) (hs : cLv o) (C C' : Mem) (r : Unit) (h : fc_Lev_forgets o C = some (r, C')) : MetC l g yX16_forgets cX16_forgets 1 none 1 0 [.ref (gCa g o)] C (cQv g r C') :=
  c_met (by decide) rfl (Nat.le_of_ble_eq_true rfl) (fun X O => bc_Lev_forgets hs O C h)
section CVIRT2
variable {g : gC} {X : Cxt} {cc : ByteArray} {nL b lvl mc : Nat} {ret : Option FieldType} {own : String} {Qc : Array Value → State → Outcome → State → Prop} {pc q : Nat} {lv : List (Nat × Value)} {st rest : List Value} {C C' : Mem}
def fv_sub (o : Nat) (x1 : Int32) (C : Mem) : Option (Int32 × Mem) := if cK o = 20 then fc_Hard_sub o x1 C else fc_Src_sub o x1 C
set_option maxHeartbeats 1000000 in
theorem c_v_sub {r : Int32} (O : OkC g X cc nL ret own lvl mc Qc) {o idx : Nat} {x1 : Int32} (hs : cS o) (h : fv_sub o x1 C = some (r, C')) (hl : Cond.methodLink own idx ⟨"RankEntry$Source", "sub", "(I)I"⟩ ∈ lw_all) (hlv : 1 + 1 ≤ lvl) (hst : st = ([.int x1] : List Value).reverse ++ .ref (gCa g o) :: rest) (hr : (rest.map fun v => v.category).sum ≤ 8) (d : decode cc pc = .ok (.invokevirtual idx, 3)) (hq : pc + 3 = q) (kk : V X nL b (WdC g C') q lv (.int r :: rest)) : V X nL b (WdC g C) pc lv st := by
  unfold fv_sub at h
  have hk := (cS_lt hs).2.1
  rcases cSc_or (cK o) with hc | hc | hc | hc
  · rw [if_neg (by have := cSc_5 hc; omega)] at h
    exact c_callUi (As := [.int x1]) (rest := rest) (x := ⟨"RankEntry$Source", "sub", "(I)I"⟩) (owner := "RankEntry$Source") (n := 1) (ci := 5) (p := (RX15, TX15, 9)) O (cS_lt hs).1 rfl (fun _ _ => ⟨_, by rw [cCell_S hs, hc]⟩) (metc_Src_sub _ g o hs x1 C C' r h) (va_cwU 1 O.1.ts (lw_U hl q711 q717 q710 q78 q718) rfl rfl rfl rfl (by decide +kernel) (c_room O (by omega) (by decide))) rfl hst hr d hq rfl kk
  · rw [if_neg (by have := cSc_6 hc; omega)] at h
    exact c_callUi (As := [.int x1]) (rest := rest) (x := ⟨"RankEntry$Source", "sub", "(I)I"⟩) (owner := "RankEntry$Source") (n := 1) (ci := 6) (p := (RX16, TX16, 10)) O (cS_lt hs).1 rfl (fun _ _ => ⟨_, by rw [cCell_S hs, hc]⟩) (metc_Src_sub _ g o hs x1 C C' r h) (va_cwU 1 O.1.ts (lw_U hl q711 q716 q710 q78 q718) rfl rfl rfl rfl (by decide +kernel) (c_room O (by omega) (by decide))) rfl hst hr d hq rfl kk
  · rw [if_neg (by have := cSc_7 hc; omega)] at h
    exact c_callUi (As := [.int x1]) (rest := rest) (x := ⟨"RankEntry$Source", "sub", "(I)I"⟩) (owner := "RankEntry$Source") (n := 1) (ci := 7) (p := (RX17, TX17, 9)) O (cS_lt hs).1 rfl (fun _ _ => ⟨_, by rw [cCell_S hs, hc]⟩) (metc_Src_sub _ g o hs x1 C C' r h) (va_cwU 1 O.1.ts (lw_U hl q711 q715 q710 q78 q718) rfl rfl rfl rfl (by decide +kernel) (c_room O (by omega) (by decide))) rfl hst hr d hq rfl kk
  · rw [if_pos (by have := cSc_8 hc; omega)] at h
    exact c_callUi (As := [.int x1]) (rest := rest) (x := ⟨"RankEntry$Source", "sub", "(I)I"⟩) (owner := "RankEntry$Source") (n := 1) (ci := 8) (p := (RX18, TX18, 9)) O (cS_lt hs).1 rfl (fun _ _ => ⟨_, by rw [cCell_S hs, hc]⟩) (metc_Hard_sub _ g o hs x1 C C' r h) (va_cwO 1 O.1.ts (lw_O hl q711 q710 q712 q713 q82 q714) rfl rfl rfl q718 (by decide +kernel) (c_room O (by omega) (by decide))) rfl hst hr d hq rfl kk
def fv_drops (o : Nat) (C : Mem) : Option (Int32 × Mem) := if 8 ≤ cK o ∧ cK o < 16 then fc_Lev_drops o C else fc_Src_drops o C
set_option maxHeartbeats 1000000 in
theorem c_v_drops {r : Int32} (O : OkC g X cc nL ret own lvl mc Qc) {o idx : Nat} (hs : cS o) (h : fv_drops o C = some (r, C')) (hl : Cond.methodLink own idx ⟨"RankEntry$Source", "drops", "()Z"⟩ ∈ lw_all) (hlv : 1 + 1 ≤ lvl) (hst : st = ([] : List Value).reverse ++ .ref (gCa g o) :: rest) (hr : (rest.map fun v => v.category).sum ≤ 8) (d : decode cc pc = .ok (.invokevirtual idx, 3)) (hq : pc + 3 = q) (kk : V X nL b (WdC g C') q lv (.int r :: rest)) : V X nL b (WdC g C) pc lv st := by
  unfold fv_drops at h
  have hk := (cS_lt hs).2.1
  rcases cSc_or (cK o) with hc | hc | hc | hc
  · rw [if_neg (by have := cSc_5 hc; omega)] at h
    exact c_callUi (As := []) (rest := rest) (x := ⟨"RankEntry$Source", "drops", "()Z"⟩) (owner := "RankEntry$Source") (n := 0) (ci := 5) (p := (RX15, TX15, 9)) O (cS_lt hs).1 rfl (fun _ _ => ⟨_, by rw [cCell_S hs, hc]⟩) (metc_Src_drops _ g o hs C C' r h) (va_cwU 0 O.1.ts (lw_U hl q464 q476 q463 q78 q475) rfl rfl rfl rfl (by decide +kernel) (c_room O (by omega) (by decide))) rfl hst hr d hq rfl kk
  · rw [if_pos (cSc_6 hc)] at h
    exact c_callUi (As := []) (rest := rest) (x := ⟨"RankEntry$Source", "drops", "()Z"⟩) (owner := "RankEntry$Source") (n := 0) (ci := 6) (p := (RX16, TX16, 10)) O (cS_lt hs).1 rfl (fun _ _ => ⟨_, by rw [cCell_S hs, hc]⟩) (metc_Lev_drops _ g o ⟨hs, cSc_6 hc⟩ C C' r h) (va_cwO 0 O.1.ts (lw_O hl q464 q463 q467 q468 q80 q469) rfl rfl rfl q475 (by decide +kernel) (c_room O (by omega) (by decide))) rfl hst hr d hq rfl kk
  · rw [if_neg (by have := cSc_7 hc; omega)] at h
    exact c_callUi (As := []) (rest := rest) (x := ⟨"RankEntry$Source", "drops", "()Z"⟩) (owner := "RankEntry$Source") (n := 0) (ci := 7) (p := (RX17, TX17, 9)) O (cS_lt hs).1 rfl (fun _ _ => ⟨_, by rw [cCell_S hs, hc]⟩) (metc_Src_drops _ g o hs C C' r h) (va_cwU 0 O.1.ts (lw_U hl q464 q466 q463 q78 q475) rfl rfl rfl rfl (by decide +kernel) (c_room O (by omega) (by decide))) rfl hst hr d hq rfl kk
  · rw [if_neg (by have := cSc_8 hc; omega)] at h
    exact c_callUi (As := []) (rest := rest) (x := ⟨"RankEntry$Source", "drops", "()Z"⟩) (owner := "RankEntry$Source") (n := 0) (ci := 8) (p := (RX18, TX18, 9)) O (cS_lt hs).1 rfl (fun _ _ => ⟨_, by rw [cCell_S hs, hc]⟩) (metc_Src_drops _ g o hs C C' r h) (va_cwU 0 O.1.ts (lw_U hl q464 q465 q463 q78 q475) rfl rfl rfl rfl (by decide +kernel) (c_room O (by omega) (by decide))) rfl hst hr d hq rfl kk
def fv_ends (o : Nat) (C : Mem) : Option (Int32 × Mem) := if 8 ≤ cK o ∧ cK o < 16 then fc_Lev_ends o C else fc_Src_ends o C
set_option maxHeartbeats 1000000 in
theorem c_v_ends {r : Int32} (O : OkC g X cc nL ret own lvl mc Qc) {o idx : Nat} (hs : cS o) (h : fv_ends o C = some (r, C')) (hl : Cond.methodLink own idx ⟨"RankEntry$Source", "ends", "()Z"⟩ ∈ lw_all) (hlv : 1 + 1 ≤ lvl) (hst : st = ([] : List Value).reverse ++ .ref (gCa g o) :: rest) (hr : (rest.map fun v => v.category).sum ≤ 8) (d : decode cc pc = .ok (.invokevirtual idx, 3)) (hq : pc + 3 = q) (kk : V X nL b (WdC g C') q lv (.int r :: rest)) : V X nL b (WdC g C) pc lv st := by
  unfold fv_ends at h
  have hk := (cS_lt hs).2.1
  rcases cSc_or (cK o) with hc | hc | hc | hc
  · rw [if_neg (by have := cSc_5 hc; omega)] at h
    exact c_callUi (As := []) (rest := rest) (x := ⟨"RankEntry$Source", "ends", "()Z"⟩) (owner := "RankEntry$Source") (n := 0) (ci := 5) (p := (RX15, TX15, 9)) O (cS_lt hs).1 rfl (fun _ _ => ⟨_, by rw [cCell_S hs, hc]⟩) (metc_Src_ends _ g o hs C C' r h) (va_cwU 0 O.1.ts (lw_U hl q508 q518 q507 q78 q517) rfl rfl rfl rfl (by decide +kernel) (c_room O (by omega) (by decide))) rfl hst hr d hq rfl kk
  · rw [if_pos (cSc_6 hc)] at h
    exact c_callUi (As := []) (rest := rest) (x := ⟨"RankEntry$Source", "ends", "()Z"⟩) (owner := "RankEntry$Source") (n := 0) (ci := 6) (p := (RX16, TX16, 10)) O (cS_lt hs).1 rfl (fun _ _ => ⟨_, by rw [cCell_S hs, hc]⟩) (metc_Lev_ends _ g o ⟨hs, cSc_6 hc⟩ C C' r h) (va_cwO 0 O.1.ts (lw_O hl q508 q507 q511 q512 q80 q513) rfl rfl rfl q517 (by decide +kernel) (c_room O (by omega) (by decide))) rfl hst hr d hq rfl kk
  · rw [if_neg (by have := cSc_7 hc; omega)] at h
    exact c_callUi (As := []) (rest := rest) (x := ⟨"RankEntry$Source", "ends", "()Z"⟩) (owner := "RankEntry$Source") (n := 0) (ci := 7) (p := (RX17, TX17, 9)) O (cS_lt hs).1 rfl (fun _ _ => ⟨_, by rw [cCell_S hs, hc]⟩) (metc_Src_ends _ g o hs C C' r h) (va_cwU 0 O.1.ts (lw_U hl q508 q510 q507 q78 q517) rfl rfl rfl rfl (by decide +kernel) (c_room O (by omega) (by decide))) rfl hst hr d hq rfl kk
  · rw [if_neg (by have := cSc_8 hc; omega)] at h
    exact c_callUi (As := []) (rest := rest) (x := ⟨"RankEntry$Source", "ends", "()Z"⟩) (owner := "RankEntry$Source") (n := 0) (ci := 8) (p := (RX18, TX18, 9)) O (cS_lt hs).1 rfl (fun _ _ => ⟨_, by rw [cCell_S hs, hc]⟩) (metc_Src_ends _ g o hs C C' r h) (va_cwU 0 O.1.ts (lw_U hl q508 q509 q507 q78 q517) rfl rfl rfl rfl (by decide +kernel) (c_room O (by omega) (by decide))) rfl hst hr d hq rfl kk
def fv_isHeld (o : Nat) (C : Mem) : Option (Int32 × Mem) := if 8 ≤ cK o ∧ cK o < 16 then fc_Lev_isHeld o C else fc_Src_isHeld o C
set_option maxHeartbeats 1000000 in
theorem c_v_isHeld {r : Int32} (O : OkC g X cc nL ret own lvl mc Qc) {o idx : Nat} (hs : cS o) (h : fv_isHeld o C = some (r, C')) (hl : Cond.methodLink own idx ⟨"RankEntry$Source", "isHeld", "()Z"⟩ ∈ lw_all) (hlv : 0 + 1 ≤ lvl) (hst : st = ([] : List Value).reverse ++ .ref (gCa g o) :: rest) (hr : (rest.map fun v => v.category).sum ≤ 8) (d : decode cc pc = .ok (.invokevirtual idx, 3)) (hq : pc + 3 = q) (kk : V X nL b (WdC g C') q lv (.int r :: rest)) : V X nL b (WdC g C) pc lv st := by
  unfold fv_isHeld at h
  have hk := (cS_lt hs).2.1
  rcases cSc_or (cK o) with hc | hc | hc | hc
  · rw [if_neg (by have := cSc_5 hc; omega)] at h
    exact c_callUi (As := []) (rest := rest) (x := ⟨"RankEntry$Source", "isHeld", "()Z"⟩) (owner := "RankEntry$Source") (n := 0) (ci := 5) (p := (RX15, TX15, 9)) O (cS_lt hs).1 rfl (fun _ _ => ⟨_, by rw [cCell_S hs, hc]⟩) (metc_Src_isHeld _ g o hs C C' r h) (va_cwU 0 O.1.ts (lw_U hl q1202 q1208 q1201 q78 q1209) rfl rfl rfl rfl (by decide +kernel) (c_room O (by omega) (by decide))) rfl hst hr d hq rfl kk
  · rw [if_pos (cSc_6 hc)] at h
    exact c_callUi (As := []) (rest := rest) (x := ⟨"RankEntry$Source", "isHeld", "()Z"⟩) (owner := "RankEntry$Source") (n := 0) (ci := 6) (p := (RX16, TX16, 10)) O (cS_lt hs).1 rfl (fun _ _ => ⟨_, by rw [cCell_S hs, hc]⟩) (metc_Lev_isHeld _ g o ⟨hs, cSc_6 hc⟩ C C' r h) (va_cwO 0 O.1.ts (lw_O hl q1202 q1201 q1205 q1206 q80 q1207) rfl rfl rfl q1209 (by decide +kernel) (c_room O (by omega) (by decide))) rfl hst hr d hq rfl kk
  · rw [if_neg (by have := cSc_7 hc; omega)] at h
    exact c_callUi (As := []) (rest := rest) (x := ⟨"RankEntry$Source", "isHeld", "()Z"⟩) (owner := "RankEntry$Source") (n := 0) (ci := 7) (p := (RX17, TX17, 9)) O (cS_lt hs).1 rfl (fun _ _ => ⟨_, by rw [cCell_S hs, hc]⟩) (metc_Src_isHeld _ g o hs C C' r h) (va_cwU 0 O.1.ts (lw_U hl q1202 q1204 q1201 q78 q1209) rfl rfl rfl rfl (by decide +kernel) (c_room O (by omega) (by decide))) rfl hst hr d hq rfl kk
  · rw [if_neg (by have := cSc_8 hc; omega)] at h
    exact c_callUi (As := []) (rest := rest) (x := ⟨"RankEntry$Source", "isHeld", "()Z"⟩) (owner := "RankEntry$Source") (n := 0) (ci := 8) (p := (RX18, TX18, 9)) O (cS_lt hs).1 rfl (fun _ _ => ⟨_, by rw [cCell_S hs, hc]⟩) (metc_Src_isHeld _ g o hs C C' r h) (va_cwU 0 O.1.ts (lw_U hl q1202 q1203 q1201 q78 q1209) rfl rfl rfl rfl (by decide +kernel) (c_room O (by omega) (by decide))) rfl hst hr d hq rfl kk
def fv_forgets (o : Nat) (C : Mem) : Option (Unit × Mem) := if 8 ≤ cK o ∧ cK o < 16 then fc_Lev_forgets o C else fc_Src_forgets o C
set_option maxHeartbeats 1000000 in
theorem c_v_forgets {r : Unit} (O : OkC g X cc nL ret own lvl mc Qc) {o idx : Nat} (hs : cS o) (h : fv_forgets o C = some (r, C')) (hl : Cond.methodLink own idx ⟨"RankEntry$Source", "forgets", "()V"⟩ ∈ lw_all) (hlv : 1 + 1 ≤ lvl) (hst : st = ([] : List Value).reverse ++ .ref (gCa g o) :: rest) (hr : (rest.map fun v => v.category).sum ≤ 8) (d : decode cc pc = .ok (.invokevirtual idx, 3)) (hq : pc + 3 = q) (kk : V X nL b (WdC g C') q lv ( rest)) : V X nL b (WdC g C) pc lv st := by
  unfold fv_forgets at h
  have hk := (cS_lt hs).2.1
  rcases cSc_or (cK o) with hc | hc | hc | hc
  · rw [if_neg (by have := cSc_5 hc; omega)] at h
    exact c_callUv (As := []) (rest := rest) (x := ⟨"RankEntry$Source", "forgets", "()V"⟩) (owner := "RankEntry$Source") (n := 0) (ci := 5) (p := (RX15, TX15, 9)) O (cS_lt hs).1 rfl (fun _ _ => ⟨_, by rw [cCell_S hs, hc]⟩) (metc_Src_forgets _ g o hs C C' r h) (va_cwU 0 O.1.ts (lw_U hl q1175 q1185 q1174 q78 q1184) rfl rfl rfl rfl (by decide +kernel) (c_room O (by omega) (by decide))) rfl hst hr d hq rfl kk
  · rw [if_pos (cSc_6 hc)] at h
    exact c_callUv (As := []) (rest := rest) (x := ⟨"RankEntry$Source", "forgets", "()V"⟩) (owner := "RankEntry$Source") (n := 0) (ci := 6) (p := (RX16, TX16, 10)) O (cS_lt hs).1 rfl (fun _ _ => ⟨_, by rw [cCell_S hs, hc]⟩) (metc_Lev_forgets _ g o ⟨hs, cSc_6 hc⟩ C C' r h) (va_cwO 0 O.1.ts (lw_O hl q1175 q1174 q1178 q1179 q80 q1180) rfl rfl rfl q1184 (by decide +kernel) (c_room O (by omega) (by decide))) rfl hst hr d hq rfl kk
  · rw [if_neg (by have := cSc_7 hc; omega)] at h
    exact c_callUv (As := []) (rest := rest) (x := ⟨"RankEntry$Source", "forgets", "()V"⟩) (owner := "RankEntry$Source") (n := 0) (ci := 7) (p := (RX17, TX17, 9)) O (cS_lt hs).1 rfl (fun _ _ => ⟨_, by rw [cCell_S hs, hc]⟩) (metc_Src_forgets _ g o hs C C' r h) (va_cwU 0 O.1.ts (lw_U hl q1175 q1177 q1174 q78 q1184) rfl rfl rfl rfl (by decide +kernel) (c_room O (by omega) (by decide))) rfl hst hr d hq rfl kk
  · rw [if_neg (by have := cSc_8 hc; omega)] at h
    exact c_callUv (As := []) (rest := rest) (x := ⟨"RankEntry$Source", "forgets", "()V"⟩) (owner := "RankEntry$Source") (n := 0) (ci := 8) (p := (RX18, TX18, 9)) O (cS_lt hs).1 rfl (fun _ _ => ⟨_, by rw [cCell_S hs, hc]⟩) (metc_Src_forgets _ g o hs C C' r h) (va_cwU 0 O.1.ts (lw_U hl q1175 q1176 q1174 q78 q1184) rfl rfl rfl rfl (by decide +kernel) (c_room O (by omega) (by decide))) rfl hst hr d hq rfl kk
end CVIRT2
def fc_Lev_takes (o : Nat) (o1 : Nat)  (C : Mem) : Option (Unit × Mem) :=
  bnd (fc_Src_takes o o1 C) fun r1 C1 =>
  bnd (fv_isHeld o1 C1) fun r2 C2 =>
  gd (isB r2) <|
  stp (up2 C2 o 9 r2) fun C4 =>
  some ((), C4)
set_option maxHeartbeats 4000000 in
theorem bc_Lev_takes {g : gC} {X : Cxt} {r : Unit} {C' : Mem} {o : Nat} {o1 : Nat} (hs : cLv o) (hs1 : cS o1) (O : OkC g X cX16_takes 2 none RX16 1 0 (cQv g r C'))  (C : Mem) (h : fc_Lev_takes o o1  C = some (r, C')) : V X 2 0 (WdC g C) 0 [(0, .ref (gCa g o)), (1, .ref (gCa g o1))] [] := by
  unfold fc_Lev_takes at h
  refine v_aload_n O.1 dX16_takes_0 rfl (q := 1) rfl ?_
  refine v_aload_n O.1 dX16_takes_1 rfl (q := 2) rfl ?_
  obtain ⟨r1, C1, e1, h⟩ := bnd_some h
  refine c_callSUv (As := [.ref (gCa g o1)]) (rest := []) (n := 1) O hs.1 (metc_Src_takes _ g o hs.1 o1 hs1 C C1 r1 e1) q1257 q1258 q1250 q1260 (by decide +kernel) (by decide) (by decide) rfl rfl (Nat.le_of_ble_eq_true rfl) dX16_takes_2 (q := 5) rfl (b' := 0) rfl ?_
  refine v_aload_n O.1 dX16_takes_5 rfl (q := 6) rfl ?_
  refine v_aload_n O.1 dX16_takes_6 rfl (q := 7) rfl ?_
  obtain ⟨r2, C2, e2, h⟩ := bnd_some h
  refine c_v_isHeld (rest := [.ref (gCa g o)]) O hs1 e2 q1261 (by decide) rfl (Nat.le_of_ble_eq_true rfl) dX16_takes_7 (q := 10) rfl ?_
  obtain ⟨g3, h⟩ := gd_some h
  obtain ⟨C4, e4, h⟩ := stp_some h
  refine c_putH O hs (O.lk q783) g3 dX16_takes_10 (q := 13) rfl e4 ?_
  exact c_vret O h dX16_takes_13
theorem metc_Lev_takes (l : Launch) (g : gC) (o : Nat) (hs : cLv o) (o1 : Nat) (hs1 : cS o1) (C C' : Mem) (r : Unit) (h : fc_Lev_takes o o1 C = some (r, C')) : MetC l g yX16_takes cX16_takes 2 none 1 0 [.ref (gCa g o), .ref (gCa g o1)] C (cQv g r C') :=
  c_met (by decide) rfl (Nat.le_of_ble_eq_true rfl) (fun X O => bc_Lev_takes hs hs1 O C h)
section CVIRT3
variable {g : gC} {X : Cxt} {cc : ByteArray} {nL b lvl mc : Nat} {ret : Option FieldType} {own : String} {Qc : Array Value → State → Outcome → State → Prop} {pc q : Nat} {lv : List (Nat × Value)} {st rest : List Value} {C C' : Mem}
def fv_takes (o : Nat) (o1 : Nat) (C : Mem) : Option (Unit × Mem) := if 8 ≤ cK o ∧ cK o < 16 then fc_Lev_takes o o1 C else fc_Src_takes o o1 C
set_option maxHeartbeats 1000000 in
theorem c_v_takes {r : Unit} (O : OkC g X cc nL ret own lvl mc Qc) {o idx : Nat} {o1 : Nat} (hs : cS o) (hs1 : cS o1) (h : fv_takes o o1 C = some (r, C')) (hl : Cond.methodLink own idx ⟨"RankEntry$Source", "takes", "(LRankEntry$Source;)V"⟩ ∈ lw_all) (hlv : 1 + 1 ≤ lvl) (hst : st = ([.ref (gCa g o1)] : List Value).reverse ++ .ref (gCa g o) :: rest) (hr : (rest.map fun v => v.category).sum ≤ 8) (d : decode cc pc = .ok (.invokevirtual idx, 3)) (hq : pc + 3 = q) (kk : V X nL b (WdC g C') q lv ( rest)) : V X nL b (WdC g C) pc lv st := by
  unfold fv_takes at h
  have hk := (cS_lt hs).2.1
  rcases cSc_or (cK o) with hc | hc | hc | hc
  · rw [if_neg (by have := cSc_5 hc; omega)] at h
    exact c_callUv (As := [.ref (gCa g o1)]) (rest := rest) (x := ⟨"RankEntry$Source", "takes", "(LRankEntry$Source;)V"⟩) (owner := "RankEntry$Source") (n := 1) (ci := 5) (p := (RX15, TX15, 9)) O (cS_lt hs).1 rfl (fun _ _ => ⟨_, by rw [cCell_S hs, hc]⟩) (metc_Src_takes _ g o hs o1 hs1 C C' r h) (va_cwU 1 O.1.ts (lw_U hl q1251 q1262 q1250 q78 q1260) rfl rfl rfl rfl (by decide +kernel) (c_room O (by omega) (by decide))) rfl hst hr d hq rfl kk
  · rw [if_pos (cSc_6 hc)] at h
    exact c_callUv (As := [.ref (gCa g o1)]) (rest := rest) (x := ⟨"RankEntry$Source", "takes", "(LRankEntry$Source;)V"⟩) (owner := "RankEntry$Source") (n := 1) (ci := 6) (p := (RX16, TX16, 10)) O (cS_lt hs).1 rfl (fun _ _ => ⟨_, by rw [cCell_S hs, hc]⟩) (metc_Lev_takes _ g o ⟨hs, cSc_6 hc⟩ o1 hs1 C C' r h) (va_cwO 1 O.1.ts (lw_O hl q1251 q1250 q1254 q1255 q80 q1256) rfl rfl rfl q1260 (by decide +kernel) (c_room O (by omega) (by decide))) rfl hst hr d hq rfl kk
  · rw [if_neg (by have := cSc_7 hc; omega)] at h
    exact c_callUv (As := [.ref (gCa g o1)]) (rest := rest) (x := ⟨"RankEntry$Source", "takes", "(LRankEntry$Source;)V"⟩) (owner := "RankEntry$Source") (n := 1) (ci := 7) (p := (RX17, TX17, 9)) O (cS_lt hs).1 rfl (fun _ _ => ⟨_, by rw [cCell_S hs, hc]⟩) (metc_Src_takes _ g o hs o1 hs1 C C' r h) (va_cwU 1 O.1.ts (lw_U hl q1251 q1253 q1250 q78 q1260) rfl rfl rfl rfl (by decide +kernel) (c_room O (by omega) (by decide))) rfl hst hr d hq rfl kk
  · rw [if_neg (by have := cSc_8 hc; omega)] at h
    exact c_callUv (As := [.ref (gCa g o1)]) (rest := rest) (x := ⟨"RankEntry$Source", "takes", "(LRankEntry$Source;)V"⟩) (owner := "RankEntry$Source") (n := 1) (ci := 8) (p := (RX18, TX18, 9)) O (cS_lt hs).1 rfl (fun _ _ => ⟨_, by rw [cCell_S hs, hc]⟩) (metc_Src_takes _ g o hs o1 hs1 C C' r h) (va_cwU 1 O.1.ts (lw_U hl q1251 q1252 q1250 q78 q1260) rfl rfl rfl rfl (by decide +kernel) (c_room O (by omega) (by decide))) rfl hst hr d hq rfl kk
end CVIRT3
