/-- a source of the core c, or none -/
def cSn (g : gC) (c : Nat) (t : Int32) : Value := if t < 0 then .null else .ref (gCa g (c + 22 + t.toNatClampNeg))
/-- a constant of Op (1 .. 29), or none -/
def cOn (g : gC) (t : Int32) : Value := if t < 1 then .null else .ref (gCo g (t.toNatClampNeg - 1))
def inO (t : Int32) : Bool := decide (1 ≤ t) && decide (t ≤ 29)
theorem cSn_in {g : gC} {c n : Nat} {t : Int32} (h : inb t n = true) : cSn g c t = .ref (gCa g (c + 22 + t.toNatClampNeg)) := by
  simp only [inb, Bool.and_eq_true, decide_eq_true_eq] at h
  unfold cSn
  rw [if_neg (Int32.not_lt.mpr h.1)]
theorem cOn_in {g : gC} {t : Int32} (h : inO t = true) : cOn g t = .ref (gCo g (t.toNatClampNeg - 1)) := by
  simp only [inO, Bool.and_eq_true, decide_eq_true_eq] at h
  unfold cOn
  rw [if_neg (Int32.not_lt.mpr h.1)]
theorem cSn_or (g : gC) (c : Nat) (t : Int32) : cSn g c t = .null ∨ ∃ x, cSn g c t = .ref x := by
  unfold cSn
  split
  · exact Or.inl rfl
  · exact Or.inr ⟨_, rfl⟩
theorem cOn_or (g : gC) (t : Int32) : cOn g t = .null ∨ ∃ x, cOn g t = .ref x := by
  unfold cOn
  split
  · exact Or.inl rfl
  · exact Or.inr ⟨_, rfl⟩
theorem cSn_n {g : gC} {c : Nat} {t : Int32} (h : t < 0) : cSn g c t = .null := if_pos h
theorem cOn_n {g : gC} {t : Int32} (h : t < 1) : cOn g t = .null := if_pos h
theorem cSn_r {g : gC} {c : Nat} {t : Int32} (h : ¬ t < 0) : ∃ x, cSn g c t = .ref x := ⟨_, if_neg h⟩
theorem cOn_r {g : gC} {t : Int32} (h : ¬ t < 1) : ∃ x, cOn g t = .ref x := ⟨_, if_neg h⟩
theorem cSn_cat {g : gC} {c : Nat} {t : Int32} : ((cSn g c t).category == 2) = false := by
  rcases cSn_or g c t with h | ⟨x, h⟩ <;> rw [h] <;> rfl
theorem cOn_cat {g : gC} {t : Int32} : ((cOn g t).category == 2) = false := by
  rcases cOn_or g t with h | ⟨x, h⟩ <;> rw [h] <;> rfl
section VNULL
variable {X : Cxt} {cc : ByteArray} {nL b lvl mc : Nat} {ret : Option FieldType} {own : String} {P : Heap → Prop} {pc q : Nat} {lv lv' : List (Nat × Value)} {st : List Value} {w : Value}
theorem v_aload_nq (O : Ok X cc nL ret own lvl mc) {i : Fin 4} {x : Nat} (hw : w = .ref x) (d : decode cc pc = .ok (.aload_n i, 1)) (hl : lvg lv (i : Nat) = some w) (hq : pc + 1 = q) (k : V X nL b P q lv (.ref x :: st)) : V X nL b P pc lv st := by
  subst hw
  exact v_aload_n O d hl hq k
theorem v_aloadq (O : Ok X cc nL ret own lvl mc) {i x : Nat} (hw : w = .ref x) (d : decode cc pc = .ok (.aload i, 2)) (hl : lvg lv i = some w) (hq : pc + 2 = q) (k : V X nL b P q lv (.ref x :: st)) : V X nL b P pc lv st := by
  subst hw
  exact v_aload O d hl hq k
theorem v_aload_nr (O : Ok X cc nL ret own lvl mc) {i : Fin 4} (hw : w = .null ∨ ∃ x, w = .ref x) (d : decode cc pc = .ok (.aload_n i, 1)) (hl : lvg lv (i : Nat) = some w) (hq : pc + 1 = q) (k : V X nL b P q lv (w :: st)) : V X nL b P pc lv st := by
  rcases hw with rfl | ⟨x, rfl⟩
  · subst hq
    exact fun H lo ce sl ls h1 h2 h3 h4 h5 => lv_aload_nN O.ex O.bc d rfl (lvg_has h5 hl) (k H lo ce sl ls h1 h2 h3 h4 h5)
  · exact v_aload_n O d hl hq k
theorem v_aloadr (O : Ok X cc nL ret own lvl mc) {i : Nat} (hw : w = .null ∨ ∃ x, w = .ref x) (d : decode cc pc = .ok (.aload i, 2)) (hl : lvg lv i = some w) (hq : pc + 2 = q) (k : V X nL b P q lv (w :: st)) : V X nL b P pc lv st := by
  rcases hw with rfl | ⟨x, rfl⟩
  · subst hq
    exact fun H lo ce sl ls h1 h2 h3 h4 h5 => lv_aloadN O.ex O.bc d (lvg_has h5 hl) (k H lo ce sl ls h1 h2 h3 h4 h5)
  · exact v_aload O d hl hq k
theorem v_astore_nq (O : Ok X cc nL ret own lvl mc) {i : Fin 4} {x : Nat} (hw : w = .ref x) (d : decode cc pc = .ok (.astore_n i, 1)) (hn : (i : Nat) < nL) (hl : ((i : Nat), w) :: lv.filter (fun q => !(q.1 == (i : Nat)) && !(q.1 + 1 == (i : Nat) && q.2.category == 2)) = lv') (hq : pc + 1 = q) (k : V X nL b P q lv' st) : V X nL b P pc lv (.ref x :: st) := by
  subst hw
  exact v_astore_n O d hn hl hq k
theorem v_astoreq (O : Ok X cc nL ret own lvl mc) {i x : Nat} (hw : w = .ref x) (d : decode cc pc = .ok (.astore i, 2)) (hn : i < nL) (hl : (i, w) :: lv.filter (fun q => !(q.1 == i) && !(q.1 + 1 == i && q.2.category == 2)) = lv') (hq : pc + 2 = q) (k : V X nL b P q lv' st) : V X nL b P pc lv (.ref x :: st) := by
  subst hw
  exact v_astore O d hn hl hq k
theorem v_astore_nr (O : Ok X cc nL ret own lvl mc) {i : Fin 4} (hw : w = .null ∨ ∃ x, w = .ref x) (d : decode cc pc = .ok (.astore_n i, 1)) (hn : (i : Nat) < nL) (hl : ((i : Nat), w) :: lv.filter (fun q => !(q.1 == (i : Nat)) && !(q.1 + 1 == (i : Nat) && q.2.category == 2)) = lv') (hq : pc + 1 = q) (k : V X nL b P q lv' st) : V X nL b P pc lv (w :: st) := by
  rcases hw with rfl | ⟨x, rfl⟩
  · subst hq
    exact fun H lo ce sl ls h1 h2 h3 h4 h5 => lv_astore_nN O.ex O.bc d rfl h5 hn hl (fun ls' h5' => k H lo ce sl ls' h1 h2 h3 h4 h5')
  · exact v_astore_n O d hn hl hq k
theorem v_astorer (O : Ok X cc nL ret own lvl mc) {i : Nat} (hw : w = .null ∨ ∃ x, w = .ref x) (d : decode cc pc = .ok (.astore i, 2)) (hn : i < nL) (hl : (i, w) :: lv.filter (fun q => !(q.1 == i) && !(q.1 + 1 == i && q.2.category == 2)) = lv') (hq : pc + 2 = q) (k : V X nL b P q lv' st) : V X nL b P pc lv (w :: st) := by
  rcases hw with rfl | ⟨x, rfl⟩
  · subst hq
    exact fun H lo ce sl ls h1 h2 h3 h4 h5 => lv_astoreN O.ex O.bc d h5 hn hl (fun ls' h5' => k H lo ce sl ls' h1 h2 h3 h4 h5')
  · exact v_astore O d hn hl hq k
theorem v_null (O : Ok X cc nL ret own lvl mc) (hw : w = .null) (d : decode cc pc = .ok (.aconst_null, 1)) (hq : pc + 1 = q) (k : V X nL b P q lv (w :: st)) : V X nL b P pc lv st := by
  subst hq
  subst hw
  exact fun H lo ce sl ls h1 h2 h3 h4 h5 => lv_null O.ex O.bc d (k H lo ce sl ls h1 h2 h3 h4 h5)
theorem v_ifnull (O : Ok X cc nL ret own lvl mc) {p : Prop} (hn : p → w = .null) (hr : ¬ p → ∃ x, w = .ref x) {off : Int} {t : Nat} (d : decode cc pc = .ok (.ifnull off, 3)) (ht : (pc : Int) + off = (t : Int)) (hq : pc + 3 = q) (kt : p → V X nL b P t lv st) (kf : ¬ p → V X nL b P q lv st) : V X nL b P pc lv (w :: st) := by
  subst hq
  intro H lo ce sl ls h1 h2 h3 h4 h5
  by_cases hp : p
  · rw [hn hp]
    exact lv_ifnullN O.ex O.bc d ht (kt hp H lo ce sl ls h1 h2 h3 h4 h5)
  · obtain ⟨x, hx⟩ := hr hp
    rw [hx]
    exact lv_ifnull O.ex O.bc d (kf hp H lo ce sl ls h1 h2 h3 h4 h5)
theorem v_ifnonnull (O : Ok X cc nL ret own lvl mc) {p : Prop} (hn : p → w = .null) (hr : ¬ p → ∃ x, w = .ref x) {off : Int} {t : Nat} (d : decode cc pc = .ok (.ifnonnull off, 3)) (ht : (pc : Int) + off = (t : Int)) (hq : pc + 3 = q) (kt : ¬ p → V X nL b P t lv st) (kf : p → V X nL b P q lv st) : V X nL b P pc lv (w :: st) := by
  subst hq
  intro H lo ce sl ls h1 h2 h3 h4 h5
  by_cases hp : p
  · rw [hn hp]
    exact lv_ifnonnullN O.ex O.bc d (kf hp H lo ce sl ls h1 h2 h3 h4 h5)
  · obtain ⟨x, hx⟩ := hr hp
    rw [hx]
    exact lv_ifnonnull O.ex O.bc d ht (kt hp H lo ce sl ls h1 h2 h3 h4 h5)
end VNULL
/-! RankEntry$Core.lambda$new$0(II)I -/
def fc_Core_lambda_new_0 (x0 : Int32) (x1 : Int32) (C : Mem) : Option (Int32 × Mem) :=
  some (x1, C)
set_option maxHeartbeats 4000000 in
theorem bc_Core_lambda_new_0 {g : gC} {X : Cxt} {r : Int32} {C' : Mem} (O : OkC g X cX4_lambda_new_0 2 (some .int) RX4 0 0 (cQi g r C')) (x0 : Int32) (x1 : Int32) (C : Mem) (h : fc_Core_lambda_new_0 x0 x1 C = some (r, C')) : V X 2 0 (WdC g C) 0 [(0, .int x0), (1, .int x1)] [] := by
  unfold fc_Core_lambda_new_0 at h
  refine v_iload_n O.1 dX4_lambda_new_0_0 rfl (q := 1) rfl ?_
  exact c_iret O h dX4_lambda_new_0_1
theorem metc_Core_lambda_new_0 (l : Launch) (g : gC) (x0 : Int32) (x1 : Int32) (C C' : Mem) (r : Int32) (h : fc_Core_lambda_new_0 x0 x1 C = some (r, C')) : MetC l g yX4_lambda_new_0 cX4_lambda_new_0 2 (some .int) 0 0 [.int x0, .int x1] C (cQi g r C') :=
  c_met (by decide) rfl (Nat.le_of_ble_eq_true rfl) (fun X O => bc_Core_lambda_new_0 O x0 x1 C h)
/-! RankEntry$Core.lambda$new$1(II)I -/
def fc_Core_lambda_new_1_13 (c : Nat) (y0 : Int32) (C : Mem) : Option (Int32 × Mem) :=
  some (y0, C)
set_option maxHeartbeats 4000000 in
theorem bc_Core_lambda_new_1_13 {g : gC} {X : Cxt} {r : Int32} {C' : Mem} {c : Nat} (hc : cC c) (O : OkC g X cX4_lambda_new_1 3 (some .int) RX4 4 0 (cQi g r C')) (y0 : Int32) (C : Mem) (h : fc_Core_lambda_new_1_13 c y0 C = some (r, C')) : V X 3 0 (WdC g C) 13 [] [.int y0] := by
  unfold fc_Core_lambda_new_1_13 at h
  exact c_iret O h dX4_lambda_new_1_13
def fc_Core_lambda_new_1 (c : Nat) (x1 : Int32) (x2 : Int32) (C : Mem) : Option (Int32 × Mem) :=
  bnd (fc_Core_can c x1 C) fun r1 C1 =>
  if r1 = 0 then
    fc_Core_lambda_new_1_13 c x2 C1
  else
    fc_Core_lambda_new_1_13 c x1 C1
set_option maxHeartbeats 4000000 in
theorem bc_Core_lambda_new_1 {g : gC} {X : Cxt} {r : Int32} {C' : Mem} {c : Nat} (hc : cC c) (O : OkC g X cX4_lambda_new_1 3 (some .int) RX4 4 0 (cQi g r C')) (x1 : Int32) (x2 : Int32) (C : Mem) (h : fc_Core_lambda_new_1 c x1 x2 C = some (r, C')) : V X 3 0 (WdC g C) 0 [(0, .ref (gCa g c)), (1, .int x1), (2, .int x2)] [] := by
  unfold fc_Core_lambda_new_1 at h
  refine v_aload_n O.1 dX4_lambda_new_1_0 rfl (q := 1) rfl ?_
  refine v_iload_n O.1 dX4_lambda_new_1_1 rfl (q := 2) rfl ?_
  obtain ⟨r1, C1, e1, h⟩ := bnd_some h
  refine c_callVi (As := [.int x1]) (rest := []) (n := 1) (ci := 2) (p := (RX4, TX4, 55)) O (cC_lt (j := 0) hc (by decide)) rfl (fun _ _ => ⟨_, cCell_core hc⟩) (metc_Core_can _ g c hc x1 C C1 r1 e1) (lw_V q695 q696 q697 q63 q698) (by decide +kernel) (by decide) (by decide) rfl rfl (Nat.le_of_ble_eq_true rfl) dX4_lambda_new_1_2 (q := 5) rfl (b' := 0) rfl ?_
  refine v_if_eq O.1 dX4_lambda_new_1_5 (t := 12) (by decide) (q := 8) rfl (fun c2 => ?_) (fun c2 => ?_)
  · rw [if_pos c2] at h
    refine v_iload_n O.1 dX4_lambda_new_1_12 rfl (q := 13) rfl ?_
    exact v_sub [] rfl (bc_Core_lambda_new_1_13 hc O x2 C1 h)
  · rw [if_neg c2] at h
    refine v_iload_n O.1 dX4_lambda_new_1_8 rfl (q := 9) rfl ?_
    refine v_goto O.1 dX4_lambda_new_1_9 (t := 13) (by decide) ?_
    exact v_sub [] rfl (bc_Core_lambda_new_1_13 hc O x1 C1 h)
theorem metc_Core_lambda_new_1 (l : Launch) (g : gC) (c : Nat) (hc : cC c) (x1 : Int32) (x2 : Int32) (C C' : Mem) (r : Int32) (h : fc_Core_lambda_new_1 c x1 x2 C = some (r, C')) : MetC l g yX4_lambda_new_1 cX4_lambda_new_1 3 (some .int) 4 0 [.ref (gCa g c), .int x1, .int x2] C (cQi g r C') :=
  c_met (by decide) rfl (Nat.le_of_ble_eq_true rfl) (fun X O => bc_Core_lambda_new_1 hc O x1 x2 C h)
/-! RankEntry$Core.lambda$new$2(I)Z -/
def fc_Core_lambda_new_2_9 (y0 : Int32) (C : Mem) : Option (Int32 × Mem) :=
  gd (isB y0) <|
  some (y0, C)
set_option maxHeartbeats 4000000 in
theorem bc_Core_lambda_new_2_9 {g : gC} {X : Cxt} {r : Int32} {C' : Mem} (O : OkC g X cX4_lambda_new_2 1 (some .boolean) RX4 0 0 (cQi g r C')) (y0 : Int32) (C : Mem) (h : fc_Core_lambda_new_2_9 y0 C = some (r, C')) : V X 1 0 (WdC g C) 9 [] [.int y0] := by
  unfold fc_Core_lambda_new_2_9 at h
  obtain ⟨g1, h⟩ := gd_some h
  exact c_zret O g1 h dX4_lambda_new_2_9
def fc_Core_lambda_new_2 (x0 : Int32) (C : Mem) : Option (Int32 × Mem) :=
  if x0 < 0 then
    fc_Core_lambda_new_2_9 0 C
  else
    fc_Core_lambda_new_2_9 1 C
set_option maxHeartbeats 4000000 in
theorem bc_Core_lambda_new_2 {g : gC} {X : Cxt} {r : Int32} {C' : Mem} (O : OkC g X cX4_lambda_new_2 1 (some .boolean) RX4 0 0 (cQi g r C')) (x0 : Int32) (C : Mem) (h : fc_Core_lambda_new_2 x0 C = some (r, C')) : V X 1 0 (WdC g C) 0 [(0, .int x0)] [] := by
  unfold fc_Core_lambda_new_2 at h
  refine v_iload_n O.1 dX4_lambda_new_2_0 rfl (q := 1) rfl ?_
  refine v_if_lt O.1 dX4_lambda_new_2_1 (t := 8) (by decide) (q := 4) rfl (fun c1 => ?_) (fun c1 => ?_)
  · rw [if_pos c1] at h
    refine v_iconst O.1 dX4_lambda_new_2_8 (v := 0) rfl (q := 9) rfl ?_
    exact v_sub [] rfl (bc_Core_lambda_new_2_9 O 0 C h)
  · rw [if_neg c1] at h
    refine v_iconst O.1 dX4_lambda_new_2_4 (v := 1) rfl (q := 5) rfl ?_
    refine v_goto O.1 dX4_lambda_new_2_5 (t := 9) (by decide) ?_
    exact v_sub [] rfl (bc_Core_lambda_new_2_9 O 1 C h)
theorem metc_Core_lambda_new_2 (l : Launch) (g : gC) (x0 : Int32) (C C' : Mem) (r : Int32) (h : fc_Core_lambda_new_2 x0 C = some (r, C')) : MetC l g yX4_lambda_new_2 cX4_lambda_new_2 1 (some .boolean) 0 0 [.int x0] C (cQi g r C') :=
  c_met (by decide) rfl (Nat.le_of_ble_eq_true rfl) (fun X O => bc_Core_lambda_new_2 O x0 C h)
/-! RankEntry$Core.lambda$new$3(I)Z -/
def fc_Core_lambda_new_3 (x0 : Int32) (C : Mem) : Option (Int32 × Mem) :=
  some (0, C)
set_option maxHeartbeats 4000000 in
theorem bc_Core_lambda_new_3 {g : gC} {X : Cxt} {r : Int32} {C' : Mem} (O : OkC g X cX4_lambda_new_3 1 (some .boolean) RX4 0 0 (cQi g r C')) (x0 : Int32) (C : Mem) (h : fc_Core_lambda_new_3 x0 C = some (r, C')) : V X 1 0 (WdC g C) 0 [(0, .int x0)] [] := by
  unfold fc_Core_lambda_new_3 at h
  refine v_iconst O.1 dX4_lambda_new_3_0 (v := 0) rfl (q := 1) rfl ?_
  exact c_zret O (by decide) h dX4_lambda_new_3_1
theorem metc_Core_lambda_new_3 (l : Launch) (g : gC) (x0 : Int32) (C C' : Mem) (r : Int32) (h : fc_Core_lambda_new_3 x0 C = some (r, C')) : MetC l g yX4_lambda_new_3 cX4_lambda_new_3 1 (some .boolean) 0 0 [.int x0] C (cQi g r C') :=
  c_met (by decide) rfl (Nat.le_of_ble_eq_true rfl) (fun X O => bc_Core_lambda_new_3 O x0 C h)
/-! RankEntry.lambda$by$0(ILRankEntry$Source;LRankEntry$Source;)Z -/
def fc_RE_lambda_by_0_59 (o1 : Nat) (o2 : Nat) (y0 : Int32) (C : Mem) : Option (Int32 × Mem) :=
  gd (isB y0) <|
  some (y0, C)
set_option maxHeartbeats 4000000 in
theorem bc_RE_lambda_by_0_59 {g : gC} {X : Cxt} {r : Int32} {C' : Mem} {o1 : Nat} {o2 : Nat} (hs1 : cS o1) (hs2 : cS o2) (O : OkC g X cX1_lambda_by_0 5 (some .boolean) RX1 2 0 (cQi g r C')) (y0 : Int32) (C : Mem) (h : fc_RE_lambda_by_0_59 o1 o2 y0 C = some (r, C')) : V X 5 0 (WdC g C) 59 [] [.int y0] := by
  unfold fc_RE_lambda_by_0_59 at h
  obtain ⟨g1, h⟩ := gd_some h
  exact c_zret O g1 h dX1_lambda_by_0_59
def fc_RE_lambda_by_0_54 (o1 : Nat) (o2 : Nat)  (C : Mem) : Option (Int32 × Mem) :=
  fc_RE_lambda_by_0_59 o1 o2 1 C
set_option maxHeartbeats 4000000 in
theorem bc_RE_lambda_by_0_54 {g : gC} {X : Cxt} {r : Int32} {C' : Mem} {o1 : Nat} {o2 : Nat} (hs1 : cS o1) (hs2 : cS o2) (O : OkC g X cX1_lambda_by_0 5 (some .boolean) RX1 2 0 (cQi g r C'))  (C : Mem) (h : fc_RE_lambda_by_0_54 o1 o2  C = some (r, C')) : V X 5 0 (WdC g C) 54 [] [] := by
  unfold fc_RE_lambda_by_0_54 at h
  refine v_iconst O.1 dX1_lambda_by_0_54 (v := 1) rfl (q := 55) rfl ?_
  refine v_goto O.1 dX1_lambda_by_0_55 (t := 59) (by decide) ?_
  exact v_sub [] rfl (bc_RE_lambda_by_0_59 hs1 hs2 O 1 C h)
def fc_RE_lambda_by_0_58 (o1 : Nat) (o2 : Nat)  (C : Mem) : Option (Int32 × Mem) :=
  fc_RE_lambda_by_0_59 o1 o2 0 C
set_option maxHeartbeats 4000000 in
theorem bc_RE_lambda_by_0_58 {g : gC} {X : Cxt} {r : Int32} {C' : Mem} {o1 : Nat} {o2 : Nat} (hs1 : cS o1) (hs2 : cS o2) (O : OkC g X cX1_lambda_by_0 5 (some .boolean) RX1 2 0 (cQi g r C'))  (C : Mem) (h : fc_RE_lambda_by_0_58 o1 o2  C = some (r, C')) : V X 5 0 (WdC g C) 58 [] [] := by
  unfold fc_RE_lambda_by_0_58 at h
  refine v_iconst O.1 dX1_lambda_by_0_58 (v := 0) rfl (q := 59) rfl ?_
  exact v_sub [] rfl (bc_RE_lambda_by_0_59 hs1 hs2 O 0 C h)
def fc_RE_lambda_by_0 (o1 : Nat) (o2 : Nat) (x0 : Int32) (C : Mem) : Option (Int32 × Mem) :=
  bnd (fv_group o1 x0 C) fun r1 C1 =>
  bnd (fv_group o2 x0 C1) fun r2 C2 =>
  bnd (fv_sub o1 x0 C2) fun r3 C3 =>
  bnd (fv_sub o2 x0 C3) fun r4 C4 =>
  if (r1 - r2) < 0 then
    fc_RE_lambda_by_0_54 o1 o2 C4
  else
    if (r1 - r2) = 0 then
      if (r3 - r4) < 0 then
        fc_RE_lambda_by_0_54 o1 o2 C4
      else
        if (r3 - r4) = 0 then
          if (nI (cK o2)) ≤ (nI (cK o1)) then
            fc_RE_lambda_by_0_58 o1 o2 C4
          else
            fc_RE_lambda_by_0_54 o1 o2 C4
        else
          fc_RE_lambda_by_0_58 o1 o2 C4
    else
      fc_RE_lambda_by_0_58 o1 o2 C4
set_option maxHeartbeats 4000000 in
theorem bc_RE_lambda_by_0 {g : gC} {X : Cxt} {r : Int32} {C' : Mem} {o1 : Nat} {o2 : Nat} (hs1 : cS o1) (hs2 : cS o2) (O : OkC g X cX1_lambda_by_0 5 (some .boolean) RX1 2 0 (cQi g r C')) (x0 : Int32) (C : Mem) (h : fc_RE_lambda_by_0 o1 o2 x0 C = some (r, C')) : V X 5 0 (WdC g C) 0 [(0, .int x0), (1, .ref (gCa g o1)), (2, .ref (gCa g o2))] [] := by
  unfold fc_RE_lambda_by_0 at h
  refine v_aload_n O.1 dX1_lambda_by_0_0 rfl (q := 1) rfl ?_
  refine v_iload_n O.1 dX1_lambda_by_0_1 rfl (q := 2) rfl ?_
  obtain ⟨r1, C1, e1, h⟩ := bnd_some h
  refine c_v_group (rest := []) O hs1 e1 q708 (by decide) rfl (Nat.le_of_ble_eq_true rfl) dX1_lambda_by_0_2 (q := 5) rfl ?_
  refine v_aload_n O.1 dX1_lambda_by_0_5 rfl (q := 6) rfl ?_
  refine v_iload_n O.1 dX1_lambda_by_0_6 rfl (q := 7) rfl ?_
  obtain ⟨r2, C2, e2, h⟩ := bnd_some h
  refine c_v_group (rest := [.int r1]) O hs2 e2 q708 (by decide) rfl (Nat.le_of_ble_eq_true rfl) dX1_lambda_by_0_7 (q := 10) rfl ?_
  refine v_isub O.1 dX1_lambda_by_0_10 (q := 11) rfl ?_
  refine v_istore_n (lv' := [(3, .int (r1 - r2)), (0, .int x0), (1, .ref (gCa g o1)), (2, .ref (gCa g o2))]) O.1 dX1_lambda_by_0_11 (by decide) rfl (q := 12) rfl ?_
  refine v_aload_n O.1 dX1_lambda_by_0_12 rfl (q := 13) rfl ?_
  refine v_iload_n O.1 dX1_lambda_by_0_13 rfl (q := 14) rfl ?_
  obtain ⟨r3, C3, e3, h⟩ := bnd_some h
  refine c_v_sub (rest := []) O hs1 e3 q709 (by decide) rfl (Nat.le_of_ble_eq_true rfl) dX1_lambda_by_0_14 (q := 17) rfl ?_
  refine v_aload_n O.1 dX1_lambda_by_0_17 rfl (q := 18) rfl ?_
  refine v_iload_n O.1 dX1_lambda_by_0_18 rfl (q := 19) rfl ?_
  obtain ⟨r4, C4, e4, h⟩ := bnd_some h
  refine c_v_sub (rest := [.int r3]) O hs2 e4 q709 (by decide) rfl (Nat.le_of_ble_eq_true rfl) dX1_lambda_by_0_19 (q := 22) rfl ?_
  refine v_isub O.1 dX1_lambda_by_0_22 (q := 23) rfl ?_
  refine v_istore (lv' := [(4, .int (r3 - r4)), (3, .int (r1 - r2)), (0, .int x0), (1, .ref (gCa g o1)), (2, .ref (gCa g o2))]) O.1 dX1_lambda_by_0_23 (by decide) rfl (q := 25) rfl ?_
  refine v_iload_n O.1 dX1_lambda_by_0_25 rfl (q := 26) rfl ?_
  refine v_if_lt O.1 dX1_lambda_by_0_26 (t := 54) (by decide) (q := 29) rfl (fun c5 => ?_) (fun c5 => ?_)
  · rw [if_pos c5] at h
    exact v_sub [] rfl (bc_RE_lambda_by_0_54 hs1 hs2 O C4 h)
  · rw [if_neg c5] at h
    refine v_iload_n O.1 dX1_lambda_by_0_29 rfl (q := 30) rfl ?_
    refine v_if_ne O.1 dX1_lambda_by_0_30 (t := 58) (by decide) (q := 33) rfl (fun c6 => ?_) (fun c6 => ?_)
    · rw [if_neg c6] at h
      exact v_sub [] rfl (bc_RE_lambda_by_0_58 hs1 hs2 O C4 h)
    · rw [if_pos c6] at h
      refine v_iload O.1 dX1_lambda_by_0_33 rfl (q := 35) rfl ?_
      refine v_if_lt O.1 dX1_lambda_by_0_35 (t := 54) (by decide) (q := 38) rfl (fun c7 => ?_) (fun c7 => ?_)
      · rw [if_pos c7] at h
        exact v_sub [] rfl (bc_RE_lambda_by_0_54 hs1 hs2 O C4 h)
      · rw [if_neg c7] at h
        refine v_iload O.1 dX1_lambda_by_0_38 rfl (q := 40) rfl ?_
        refine v_if_ne O.1 dX1_lambda_by_0_40 (t := 58) (by decide) (q := 43) rfl (fun c8 => ?_) (fun c8 => ?_)
        · rw [if_neg c8] at h
          exact v_sub [] rfl (bc_RE_lambda_by_0_58 hs1 hs2 O C4 h)
        · rw [if_pos c8] at h
          refine v_aload_n O.1 dX1_lambda_by_0_43 rfl (q := 44) rfl ?_
          refine c_getS O hs1 0 (by decide) (O.lk q734) rfl rfl rfl rfl (v := .int (nI (cK o1))) rfl dX1_lambda_by_0_44 (q := 47) rfl ?_
          refine v_aload_n O.1 dX1_lambda_by_0_47 rfl (q := 48) rfl ?_
          refine c_getS O hs2 0 (by decide) (O.lk q734) rfl rfl rfl rfl (v := .int (nI (cK o2))) rfl dX1_lambda_by_0_48 (q := 51) rfl ?_
          refine v_icmp_ge O.1 dX1_lambda_by_0_51 (t := 58) (by decide) (q := 54) rfl (fun c9 => ?_) (fun c9 => ?_)
          · rw [if_pos c9] at h
            exact v_sub [] rfl (bc_RE_lambda_by_0_58 hs1 hs2 O C4 h)
          · rw [if_neg c9] at h
            exact v_sub [] rfl (bc_RE_lambda_by_0_54 hs1 hs2 O C4 h)
theorem metc_RE_lambda_by_0 (l : Launch) (g : gC) (x0 : Int32) (o1 : Nat) (hs1 : cS o1) (o2 : Nat) (hs2 : cS o2) (C C' : Mem) (r : Int32) (h : fc_RE_lambda_by_0 o1 o2 x0 C = some (r, C')) : MetC l g yX1_lambda_by_0 cX1_lambda_by_0 5 (some .boolean) 2 0 [.int x0, .ref (gCa g o1), .ref (gCa g o2)] C (cQi g r C') :=
  c_met (by decide) rfl (Nat.le_of_ble_eq_true rfl) (fun X O => bc_RE_lambda_by_0 hs1 hs2 O x0 C h)
section CFUN
variable {g : gC} {X : Cxt} {cc : ByteArray} {nL b lvl mc : Nat} {ret : Option FieldType} {own : String} {Qc : Array Value → State → Outcome → State → Prop} {pc q : Nat} {lv : List (Nat × Value)} {st rest : List Value} {C C' : Mem}
/-- the one object of a site that captures nothing -/
theorem OkC.one (O : OkC g X cc nL ret own lvl mc Qc) {x : MethodName} {pc0 ix k j : Nat} {σ : Lambda.Shape} (hq : (x, pc0, ix, σ, k, some j) ∈ lamSites) {H : Heap} {lo : List Loc} (h2 : va_S (xA X) (xs X).heap H lo) : ∃ cell, H[gCo g j]? = some cell ∧ cell.cls = gCk g k ∧ cell.vm = .none := by
  obtain ⟨d, dk, -, -, -, -, h⟩ := O.2.1.site hq
  obtain ⟨cell, h3, h4, h5⟩ := h j rfl
  refine ⟨cell, ?_, h4, h5⟩
  have hlt := O.2.1.lam.2.1 j (lamSites_ok _ hq j rfl).1 (lamSites_ok _ hq j rfl).2
  rw [(O.S h2).2.1 _ (Nat.lt_of_lt_of_le hlt O.2.1.2.2.1) (fun z => absurd z.1 (Nat.not_le.mpr hlt))]
  exact h3
def fv_of (c : Nat) (v x1 x2 : Int32) (C : Mem) : Option (Int32 × Mem) := if v = 0 then fc_Core_lambda_new_0 x1 x2 C else fc_Core_lambda_new_1 c x1 x2 C
/-- choice.of(first, next) -/
theorem c_of {r : Int32} (O : OkC g X cc nL ret own lvl mc Qc) {c idx : Nat} (hc : cC c) {v x1 x2 : Int32} (h : fv_of c v x1 x2 C = some (r, C')) (hl : Cond.methodLink own idx ⟨"RankEntry$Choice", "of", "(II)I"⟩ ∈ lw_all) (hlv : 6 ≤ lvl) (hst : st = .int x2 :: .int x1 :: .ref (cCh g c v) :: rest) (hr : (rest.map fun v => v.category).sum ≤ 8) (d : decode cc pc = .ok (.invokeinterface idx 3, 5)) (hq : pc + 5 = q) (kk : V X nL b (WdC g C') q lv (.int r :: rest)) : V X nL b (WdC g C) pc lv st := by
  unfold fv_of at h
  by_cases hv : v = 0
  · rw [if_pos hv] at h
    have hm : (yCi, 180, 92, lshL, 16, some 30) ∈ lamSites := by simp [lamSites]
    refine c_lami (a := gCo g 30) (As := [.int x1, .int x2]) (lvl' := 1) (b' := b) (mc' := 0) O hm lf_L (by simp [lamFaces]) ⟨rfl, rfl, by decide +kernel⟩ hl (by decide +kernel) (fun H lo h1 h2 => O.one hm h2) (show (parseMethodDescriptor "(II)I").map (fun d => d.parameters.length) = some 2 by decide +kernel) (by omega) (by decide) ?_ (by rw [hst]; unfold cCh; rw [if_pos hv]; rfl) hr d hq rfl kk
    exact fun U f methk ck h1 hWU hKU e1 e2 e3 e4 => fwd_L O (y := ⟨"RankEntry$Core", "lambda$new$0", "(II)I"⟩) x1 x2 hm lf_L ⟨rfl, rfl, by decide +kernel⟩ (by decide) q63 q690 q691 (by decide) (by decide +kernel) (metc_Core_lambda_new_0 _ g x1 x2 C C' r h) h1 hWU hKU e1 e2 e3 e4
  · rw [if_neg hv] at h
    have hm : (yCi, 190, 100, lshE, 17, none) ∈ lamSites := by simp [lamSites]
    refine c_lami (a := gCa g (c + 19)) (As := [.int x1, .int x2]) (lvl' := 5) (b' := b) (mc' := 0) O hm lf_E (by simp [lamFaces]) ⟨rfl, rfl, by decide +kernel⟩ hl (by decide +kernel) (fun H lo h1 h2 => by obtain ⟨cell, z1, z2, z3, z4⟩ := c_lamc7 h1 hc; exact ⟨cell, z1, z2, z3⟩) (show (parseMethodDescriptor "(II)I").map (fun d => d.parameters.length) = some 2 by decide +kernel) (by omega) (by decide) ?_ (by rw [hst]; unfold cCh; rw [if_neg hv]; rfl) hr d hq rfl kk
    exact fwd_E O (y := ⟨"RankEntry$Core", "lambda$new$1", "(II)I"⟩) x1 x2 hm lf_E lg_E ⟨rfl, rfl, by decide +kernel⟩ (by decide) rfl hc (fun H h1 => c_lamc7 h1 hc) q63 q693 q694 qs17 (by decide) (by decide +kernel) (metc_Core_lambda_new_1 _ g c hc x1 x2 C C' r h)
def fv_may (v x1 : Int32) (C : Mem) : Option (Int32 × Mem) := if v = 0 then (bnd (fc_Core_lambda_new_2 x1 C) fun r C1 => gd (isB r) (some (r, C1))) else (bnd (fc_Core_lambda_new_3 x1 C) fun r C1 => gd (isB r) (some (r, C1)))
/-- mayChain.may(next) -/
theorem c_may {r : Int32} (O : OkC g X cc nL ret own lvl mc Qc) {idx : Nat} {v x1 : Int32} (h : fv_may v x1 C = some (r, C')) (hl : Cond.methodLink own idx ⟨"RankEntry$Chains", "may", "(I)Z"⟩ ∈ lw_all) (hlv : 2 ≤ lvl) (hst : st = .int x1 :: .ref (cMc g v) :: rest) (hr : (rest.map fun v => v.category).sum ≤ 8) (d : decode cc pc = .ok (.invokeinterface idx 2, 5)) (hq : pc + 5 = q) (kk : V X nL b (WdC g C') q lv (.int r :: rest)) : V X nL b (WdC g C) pc lv st := by
  unfold fv_may at h
  by_cases hv : v = 0
  · rw [if_pos hv] at h
    obtain ⟨r1, C1, e1, h⟩ := bnd_some h
    obtain ⟨hz, h⟩ := gd_some h
    cases h
    have hm : (yCi, 199, 106, lshC "lambda$new$2", 18, some 31) ∈ lamSites := by simp [lamSites]
    refine c_lami (a := gCo g 31) (As := [.int x1]) (lvl' := 1) (b' := b) (mc' := 0) O hm lf_C2 (by simp [lamFaces]) ⟨rfl, rfl, by decide +kernel⟩ hl (by decide +kernel) (fun H lo h1 h2 => O.one hm h2) (show (parseMethodDescriptor "(I)Z").map (fun d => d.parameters.length) = some 1 by decide +kernel) (by omega) (by decide) ?_ (by rw [hst]; unfold cMc; rw [if_pos hv]; rfl) hr d hq rfl kk
    exact fun U f methk ck h1 hWU hKU e3 e4 e5 e6 => fwd_C O (y := ⟨"RankEntry$Core", "lambda$new$2", "(I)Z"⟩) x1 hm lf_C2 ⟨rfl, rfl, by decide +kernel⟩ (by decide) hz q63 q699 q700 (by decide) (by decide +kernel) (metc_Core_lambda_new_2 _ g x1 C _ r e1) h1 hWU hKU e3 e4 e5 e6
  · rw [if_neg hv] at h
    obtain ⟨r1, C1, e1, h⟩ := bnd_some h
    obtain ⟨hz, h⟩ := gd_some h
    cases h
    have hm : (yCi, 208, 114, lshC "lambda$new$3", 19, some 32) ∈ lamSites := by simp [lamSites]
    refine c_lami (a := gCo g 32) (As := [.int x1]) (lvl' := 1) (b' := b) (mc' := 0) O hm lf_C3 (by simp [lamFaces]) ⟨rfl, rfl, by decide +kernel⟩ hl (by decide +kernel) (fun H lo h1 h2 => O.one hm h2) (show (parseMethodDescriptor "(I)Z").map (fun d => d.parameters.length) = some 1 by decide +kernel) (by omega) (by decide) ?_ (by rw [hst]; unfold cMc; rw [if_neg hv]; rfl) hr d hq rfl kk
    exact fun U f methk ck h1 hWU hKU e3 e4 e5 e6 => fwd_C O (y := ⟨"RankEntry$Core", "lambda$new$3", "(I)Z"⟩) x1 hm lf_C3 ⟨rfl, rfl, by decide +kernel⟩ (by decide) hz q63 q701 q702 (by decide) (by decide +kernel) (metc_Core_lambda_new_3 _ g x1 C _ r e1) h1 hWU hKU e3 e4 e5 e6
/-- the world, with the object of 'ahead' at a -/
def PA (g : gC) (C : Mem) (c a : Nat) : Heap → Prop := fun H => WdC g C H ∧ H[a]? = some (arrV (gCk g 20) 1 (fun _ => .int (C c 27)))
theorem c_getA (O : OkC g X cc nL ret own lvl mc Qc) {c idx : Nat} (hc : cC c) (hl : Lk X own idx "RankEntry$Core" "ahead" "LRankEntry$Ahead;") (d : decode cc pc = .ok (.getfield idx, 3)) (hq : pc + 3 = q) (kk : ∀ a, V X nL b (PA g C c a) q lv (.ref a :: st)) : V X nL b (WdC g C) pc lv (.ref (gCa g c) :: st) := by
  subst hq
  intro H lo ce sl ls h1 h2 h3 h4 h5
  have h1' := h1
  obtain ⟨Y, ah, ev, hP, hD, hY⟩ := h1'
  have hg1 : (cWs g C ah ev ++ Y)[c]? = some (gCa g c, .inr (2, cFs g c (C c) (ah c))) := by rw [cWs_get (o := c) (cC_lt (j := 0) hc (by decide)), cCell_core hc]
  have ha : H[ah c]? = some (arrV (gCk g 20) 1 (fun _ => .int (C c 27))) := by
    obtain ⟨i, hi⟩ := List.mem_iff_getElem?.mp (hY c hc).1
    have h := hP (95 + i) (ah c, lamE g (C c 27)) (by rw [List.getElem?_append_right (by rw [cWs_len]; omega), cWs_len]; simpa using hi)
    exact h
  have key := kk (ah c) H lo ce sl ls ⟨h1, ha⟩ h2 h3 h4 h5
  rcases hl with hl | ⟨host, hl⟩
  · exact va_get O.1.ex O.1.bc O.1.ts in_X4 O.1.ow O.2.1.1 hP c hg1 rfl 27 (by decide) hl (fun x hx => hx) rfl d key
  · exact va_getN O.1.ex O.1.bc O.1.ts in_X4 O.1.ow O.2.1.1 hP c hg1 rfl 27 (by decide) hl (fun x hx => hx) rfl d key
def fv_is (o1 o2 : Nat) (v : Int32) (C : Mem) : Option (Int32 × Mem) := bnd (fc_RE_lambda_by_0 o1 o2 v C) fun r C1 => gd (isB r) (some (r, C1))
/-- ahead.is(one, other) -/
theorem c_is {r : Int32} (O : OkC g X cc nL ret own lvl mc Qc) {c a o1 o2 idx : Nat} (hs1 : cS o1) (hs2 : cS o2) (h : fv_is o1 o2 (C c 27) C = some (r, C')) (hl : Cond.methodLink own idx ⟨"RankEntry$Ahead", "is", "(LRankEntry$Source;LRankEntry$Source;)Z"⟩ ∈ lw_all) (hlv : 4 ≤ lvl) (hst : st = .ref (gCa g o2) :: .ref (gCa g o1) :: .ref a :: rest) (hr : (rest.map fun v => v.category).sum ≤ 8) (d : decode cc pc = .ok (.invokeinterface idx 3, 5)) (hq : pc + 5 = q) (kk : V X nL b (WdC g C') q lv (.int r :: rest)) : V X nL b (PA g C c a) pc lv st := by
  obtain ⟨r1, C1, e1, h⟩ := bnd_some h
  obtain ⟨hz, h⟩ := gd_some h
  cases h
  subst hq
  subst hst
  intro H lo ce sl ls h0 h2 h3 h4 h5
  obtain ⟨h1, hcell⟩ := h0
  have S2 := O.S h2
  have hm : (yBy, 1, 1, lshA, 20, none) ∈ lamSites := by simp [lamSites]
  obtain ⟨d0, dk, hd, hdn, hmade, hcan, -⟩ := O.2.1.site hm
  obtain ⟨hfr, hlo⟩ := c_room (maxL := 3) (mc' := 0) (lvl' := 3) O hlv (by decide)
  have hrun := lam_run5 (p := xp X) (l := xl X) (e := xe X) (R := xR X) (R' := rmz 3 0) (s := xs X) (m := xm X) (args := xa X) (below := xb X) (meth := xh X) (c := xc X) (H := H) (locs := lo) (cells := ce) (slots := sl) (pc := pc) (ls := ls) (rest := rest) O.1.ex O.1.bc O.1.ow lf_A hd hdn (cell := arrV (gCk g 20) 1 (fun _ => .int (C c 27))) hmade hcan (x := ⟨"RankEntry$Ahead", "is", "(LRankEntry$Source;LRankEntry$Source;)Z"⟩) ⟨rfl, rfl, by decide +kernel⟩ (by decide) (idx := idx) (count := 3) (O.1.ts _ hl) (O.2.1.lam.2.2 _ (by simp [lamFaces])) (by decide +kernel) hcell rfl (As := [.ref (gCa g o1), .ref (gCa g o2)]) (fun sig h => by
      have hn : (parseMethodDescriptor "(LRankEntry$Source;LRankEntry$Source;)Z").map (fun d => d.parameters.length) = some 2 := by decide +kernel
      rw [h] at hn
      exact (Option.some.inj hn).symm) hfr hlo ⟨by show ce + 0 ≤ _; omega, by show sl + 0 ≤ _; omega⟩ (Qc := cQi g r C') (free := cA g)
    (fun U f methk ck hU hWU z1 z2 z3 z4 => by subst hU; exact fwd_A O (y := ⟨"RankEntry", "lambda$by$0", "(ILRankEntry$Source;LRankEntry$Source;)Z"⟩) (C c 27) (gCa g o1) (gCa g o2) hm lf_A ⟨rfl, rfl, by decide +kernel⟩ (by decide) hz q59 q706 q707 (by decide) (by decide +kernel) (metc_RE_lambda_by_0 _ g (C c 27) o1 hs1 o2 hs2 C _ r e1) h1 lg_A hcell hWU (O.2.1.moved S2 rfl hWU) z1 z2 z3 z4) (h5.1.trans O.1.ml.symm) hr d
  refine va_callFi (A1 := cA g) (A0 := cA g) hrun S2 (fun q _ h => h) (fun q h => h) (fun r1 u t H1 lo1 ht hvm hw hB1 hz1 hk hS1 => ?_)
  obtain ⟨rfl, rfl⟩ := hw
  exact kk H1 lo1 _ _ ls (by rw [← ht]; exact hB1) (by rw [O.2.2.1]; exact hS1) (by show ce + 0 + b ≤ _; omega) (by show sl + 0 + 8 * b ≤ _; omega) h5
end CFUN
