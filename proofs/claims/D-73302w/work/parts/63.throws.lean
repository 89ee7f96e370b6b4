/-! READERS THAT MAY THROW an exception of the library: the answer is a value, or thrown -/
def yX {α : Type} (g : gC) (E0 : String) (r : α ⊕ Int32) (C' : Mem) : String → Nat → State → State → Prop := vx_X (fun (u : Mem) => u = C') (fun E _ u t => r = .inr 0 ∧ E = E0 ∧ WdC g u t.heap) (cA g)
abbrev MetY (l : Launch) (g : gC) (E0 : String) (y : MethodName) (cc : ByteArray) (nL : Nat) (lvl mc : Nat) (as : List Value) (C : Mem) (r : Int32 ⊕ Int32) (C' : Mem) : Prop := vx_Met l y (ws_ y cc nL (some .int)) (rmz lvl mc) (cPc g as C) (xQi g r C') (yX g E0 r C') mc (8 * mc) (cA g)
def OkY (g : gC) (E0 : String) (X : Cxt) (cc : ByteArray) (nL : Nat) (own : String) (lvl mc : Nat) (r : Int32 ⊕ Int32) (C' : Mem) : Prop := OkC g X cc nL (some .int) own lvl mc (xQi g r C') ∧ (∀ t, vx_MQ (xb X) (xQi g r C') (yX g E0 r C') (xa X) (xs X) mc (8 * mc) (cA g) t → xQ X t) ∧ (∀ x ∈ (xc X).exceptionTable.toList, False) ∧ (xl X).stackTraces = false
theorem y_met {l : Launch} (hls : l.stackTraces = false) {g : gC} {E0 : String} {y : MethodName} {cc : ByteArray} {nL : Nat} {own : String} {lvl mc : Nat} {as : List Value} {C C' : Mem} {r : Int32 ⊕ Int32} (hy : plainName y.cls = true) (hc : y.cls = own) (hlen : (lg_sl as).length ≤ nL) (h : ∀ X, OkY g E0 X cc nL own lvl mc r C' → V X nL mc (WdC g C) 0 (lv_args 0 as) []) : MetY l g E0 y cc nL lvl mc as C r C' := by
  refine vx_ofW (cc := cc) (maxL := nL) (ret := some .int) hy rfl ?_
  intro p e s m args below meth c' s₁ B hml ht hv
  obtain ⟨rfl, hW, hK⟩ := hv
  have hts := atoms_spec (ws := ws_ y cc nL (some .int)) B.pre
  have hts : ∀ w ∈ lw_all, w.before _ s = true := fun w h => hts w (List.mem_cons_of_mem _ h)
  have hown : s.vm.findClass y.cls = some m.cls := findClass_of_methodNamed B.named
  rw [hc] at hown
  have hl := lv_entry as hlen
  rw [lg_entry_eq]
  exact h (p, l, e, rmz lvl mc, s, m, as.toArray, below, meth, c', vx_MQ below (xQi g r C') (yX g E0 r C') as.toArray s mc (8 * mc) (cA g), cA g) ⟨⟨⟨B.exec, B.bytes, hml, hown, hts, B.returns, B.notSynchronized, rfl⟩, hK, rfl, fun t h => by
    obtain ⟨o, b1, b2, b3, b4⟩ := h
    exact ⟨o, b1, b2, Or.inl ⟨b3, b4⟩⟩⟩, fun _ h => h, ht, hls⟩ s.heap [] 0 0 _ hW va_S.rf (by rw [Nat.zero_add]; exact Nat.le_refl _) (by rw [Nat.zero_add]; exact Nat.le_refl _) hl
theorem WdC.kept {g : gC} {C : Mem} {H H' : Heap} (h : WdC g C H) (hk : ∀ q : Nat, q < H.size → H'[q]? = H[q]?) : WdC g C H' := by
  obtain ⟨Y, ah, ev, hP, hD, hY⟩ := h
  exact ⟨Y, ah, ev, hP.kept (fun k x hx => hk x.1 ((hP k x hx).lt)), hD, hY⟩
def nmsE : List String := ["java/lang/RuntimeException", "java/lang/Exception"]
section CREAD
variable {g : gC} {X : Cxt} {cc : ByteArray} {nL b lvl mc : Nat} {own : String} {pc q : Nat} {lv : List (Nat × Value)} {C C' : Mem} {r : Int32 ⊕ Int32} {E : String}
theorem y_iret {v : Int32} (OX : OkY g E X cc nL own lvl mc r C') (h : some ((Sum.inl v : Int32 ⊕ Int32), C) = some (r, C')) (d : decode cc pc = .ok (.ireturn, 1)) : V X nL b (WdC g C) pc lv [.int v] := by
  have O := OX.1
  intro H lo ce sl ls h1 h2 h3 h4 h5
  unfold xW
  refine wq_mono O.2.2.2 ?_
  rw [O.1.rm] at h3 h4
  refine W.widen (k := mc) (n := 8 * mc) (Nat.le_trans (Nat.le_add_right _ _) h3) (Nat.le_trans (Nat.le_add_right _ _) h4) ?_
  have S2 := O.S h2
  cases h
  exact W.iret O.1.ex O.1.bc O.1.rt (fun t ht hW => ⟨⟨_, _, rfl, ⟨rfl, rfl⟩, show WdC g _ t.heap by rw [ht]; exact h1⟩, S2.F ht⟩) S2.2.2 d O.1.lk
theorem y_throw {ik ic : Nat} {B : List Cond} (OX : OkY g E X cc nL own lvl mc r C') (hlv : 6 ≤ lvl) (hb : 1 ≤ b) (h : some ((Sum.inr 0 : Int32 ⊕ Int32), C) = some (r, C')) (hE : Bundle.fit E = true) (hk : Cond.classLink own ik E ∈ lw_all) (hini : Cond.initialized E ∈ lw_all) (hgo : ∀ w ∈ (vx_at0 own ic E nmsE).filter goodWord, w ∈ lw_all) (hba : ∀ w ∈ (vx_at0 own ic E nmsE).filter (fun w => !goodWord w), w ∈ B) (hB : ∀ w ∈ B, w ∈ lw_tbl) (hN : ∀ w ∈ B, isNest w = true ∧ w.onTables = true) (hot : ∀ w ∈ Cond.classLink own ik E :: Cond.initialized E :: vx_at0 own ic E nmsE, vx_ot w = true) (d0 : decode cc pc = .ok (.new ik, 3)) (d3 : decode cc (pc + 3) = .ok (.dup, 1)) (d4 : decode cc (pc + 4) = .ok (.invokespecial ic, 3)) (d7 : decode cc (pc + 7) = .ok (.athrow, 1)) : V X nL b (WdC g C) pc lv [] := by
  intro H lo ce sl ls h1 h2 h3 h4 h5
  have O := OX.1
  have S2 := O.S h2
  unfold xW
  refine wq_mono OX.2.1 ?_
  have h3' := h3
  have h4' := h4
  rw [O.1.rm] at h3' h4'
  have h3' : ce + b ≤ mc := h3'
  have h4' : sl + 8 * b ≤ 8 * mc := h4'
  refine vx_throw0 (rest := []) (names := nmsE) O.1.ex O.1.bc OX.2.2.2 O.1.ow hE (by decide +kernel) (O.1.ts _ hk) (O.1.ts _ hini) (vx_hat (fun w hw => O.1.ts _ (hgo w hw)) hba (fun w hw => va_any (hN w hw).2 (O.2.1.nest _ (List.mem_filter.mpr ⟨hB w hw, (hN w hw).1⟩)))) hot O.2.1.thr.1 O.2.1.thr.2 S2 (h5.1.trans O.1.ml.symm) d0 d3 d4 d7 (fun x hx => (OX.2.2.1 x hx).elim) ?_ ?_ (by omega) (by omega) O.1.lk (fun q9 t hvm hle hkp => ?_) S2.2.2 (by omega) (by omega)
  · rw [O.1.rm]
    show 2 + 3 < lvl
    omega
  · rw [O.1.rm]
    show 0 + (13 * (2 + 1) + 42) ≤ 60 * lvl + 3200
    omega
  · cases h
    exact ⟨C, rfl, ⟨rfl, rfl, h1.kept hkp⟩, by have := S2.1; omega, fun q z1 z2 => (hkp q (Nat.lt_of_lt_of_le z1 S2.1)).trans (S2.2.1 q z1 z2)⟩
theorem hgo_n : ∀ w ∈ (vx_at0 "RankEntry" 159 "java/util/NoSuchElementException" nmsE).filter goodWord, w ∈ lw_all := lw_in _ [64, 153, 162, 167, 170, 172, 154, 155, 97, 98, 156, 161, 168, 184, 143, 185, 145, 186, 147, 157, 159, 149, 1534, 1535, 1536, 1537, 1537, 1538, 1539, 177, 177, 178, 179, 154, 1533, 1523, 1527, 166, 1528, 1529, 1530, 1531, 182, 151, 1532] (by decide +kernel) (by decide +kernel)
theorem hba_n : (vx_at0 "RankEntry" 159 "java/util/NoSuchElementException" nmsE).filter (fun w => !goodWord w) = [.declares ⟨"java/lang/RuntimeException", "<init>", "()V"⟩, .declares ⟨"java/lang/Exception", "<init>", "()V"⟩, .declares ⟨"java/lang/Throwable", "<init>", "()V"⟩, .castable "java/util/NoSuchElementException" "java/util/NoSuchElementException"] := by decide +kernel
theorem y_thrown (OX : OkY g "java/util/NoSuchElementException" X cc nL "RankEntry" lvl mc r C') (hlv : 6 ≤ lvl) (hb : 1 ≤ b) (h : some ((Sum.inr 0 : Int32 ⊕ Int32), C) = some (r, C')) (d0 : decode cc pc = .ok (.new 157, 3)) (d3 : decode cc (pc + 3) = .ok (.dup, 1)) (d4 : decode cc (pc + 4) = .ok (.invokespecial 159, 3)) (d7 : decode cc (pc + 7) = .ok (.athrow, 1)) : V X nL b (WdC g C) pc lv [] :=
  y_throw OX hlv hb h (by decide +kernel) q1522 q86 hgo_n (fun w hw => by rw [hba_n] at hw; exact hw) (List.forall_mem_cons.mpr ⟨q1525, List.forall_mem_cons.mpr ⟨q136, List.forall_mem_cons.mpr ⟨q138, List.forall_mem_cons.mpr ⟨q1524, List.forall_mem_nil _⟩⟩⟩⟩) (by decide +kernel) (by decide +kernel) d0 d3 d4 d7
theorem hgo_i : ∀ w ∈ (vx_at0 "RankEntry" 175 "java/lang/IndexOutOfBoundsException" nmsE).filter goodWord, w ∈ lw_all := lw_in _ [64, 153, 162, 167, 170, 172, 154, 155, 97, 98, 156, 161, 168, 184, 143, 185, 145, 186, 147, 157, 159, 149, 1592, 1593, 1594, 1537, 1537, 1538, 1539, 177, 177, 178, 179, 154, 1591, 1583, 1585, 165, 1586, 1587, 1588, 1589, 182, 151, 1590] (by decide +kernel) (by decide +kernel)
theorem hba_i : (vx_at0 "RankEntry" 175 "java/lang/IndexOutOfBoundsException" nmsE).filter (fun w => !goodWord w) = [.declares ⟨"java/lang/RuntimeException", "<init>", "()V"⟩, .declares ⟨"java/lang/Exception", "<init>", "()V"⟩, .declares ⟨"java/lang/Throwable", "<init>", "()V"⟩, .castable "java/lang/IndexOutOfBoundsException" "java/lang/IndexOutOfBoundsException"] := by decide +kernel
theorem y_throwi (OX : OkY g "java/lang/IndexOutOfBoundsException" X cc nL "RankEntry" lvl mc r C') (hlv : 6 ≤ lvl) (hb : 1 ≤ b) (h : some ((Sum.inr 0 : Int32 ⊕ Int32), C) = some (r, C')) (d0 : decode cc pc = .ok (.new 173, 3)) (d3 : decode cc (pc + 3) = .ok (.dup, 1)) (d4 : decode cc (pc + 4) = .ok (.invokespecial 175, 3)) (d7 : decode cc (pc + 7) = .ok (.athrow, 1)) : V X nL b (WdC g C) pc lv [] :=
  y_throw OX hlv hb h (by decide +kernel) q1582 q87 hgo_i (fun w hw => by rw [hba_i] at hw; exact hw) (List.forall_mem_cons.mpr ⟨q1525, List.forall_mem_cons.mpr ⟨q136, List.forall_mem_cons.mpr ⟨q138, List.forall_mem_cons.mpr ⟨q1584, List.forall_mem_nil _⟩⟩⟩⟩) (by decide +kernel) (by decide +kernel) d0 d3 d4 d7
end CREAD
/-! RankEntry.reg -/
def fc_RE_reg_51 (y0 : Int32) (C : Mem) : Option ((Int32 ⊕ Int32) × Mem) :=
  some (Sum.inl y0, C)
set_option maxHeartbeats 4000000 in
theorem bc_RE_reg_51 {g : gC} {X : Cxt} {r : (Int32 ⊕ Int32)} {C' : Mem} (OX : OkY g "java/util/NoSuchElementException" X cX1_reg 2 RX1 6 1 r C') (y0 : Int32) (C : Mem) (h : fc_RE_reg_51 y0 C = some (r, C')) : V X 2 0 (WdC g C) 51 [] [.int y0] := by
  have O := OX.1
  unfold fc_RE_reg_51 at h
  exact y_iret OX h dX1_reg_51
def fc_RE_reg (x1 : Int32) (C : Mem) : Option ((Int32 ⊕ Int32) × Mem) :=
  bnd (fc_RE_within x1 0 11 C) fun r1 C1 =>
  if r1 = 0 then
    some (Sum.inr 0, C1)
  else
    if 8 ≤ x1 then
      gd (inb (x1 - 8) 4) <|
      bnd (fc_Fl_floatToIntBits ((C1 (9 + 2) (x1 - 8).toNatClampNeg).toUInt32) C1) fun r5 C5 =>
      fc_RE_reg_51 r5 C5
    else
      gd (inb x1 8) <|
      fc_RE_reg_51 (C1 (9 + 1) x1.toNatClampNeg) C1
set_option maxHeartbeats 4000000 in
theorem bc_RE_reg {g : gC} {X : Cxt} {r : (Int32 ⊕ Int32)} {C' : Mem} (OX : OkY g "java/util/NoSuchElementException" X cX1_reg 2 RX1 6 1 r C') (x1 : Int32) (C : Mem) (h : fc_RE_reg x1 C = some (r, C')) : V X 2 1 (WdC g C) 0 [(0, .ref (gCa g 0)), (1, .int x1)] [] := by
  have O := OX.1
  unfold fc_RE_reg at h
  refine v_iload_n O.1 dX1_reg_0 rfl (q := 1) rfl ?_
  refine v_iconst O.1 dX1_reg_1 (v := 0) rfl (q := 2) rfl ?_
  refine v_bipush O.1 dX1_reg_2 (v := 11) (by decide) (q := 4) rfl ?_
  obtain ⟨r1, C1, e1, h⟩ := bnd_some h
  refine c_callSi (As := [.int x1, .int 0, .int 11]) (rest := []) (n := 3) O (metc_RE_within _ g x1 0 11 C C1 r1 e1) (lw_S q1094 q656 q59 q657) (by decide +kernel) (by decide) (by decide) rfl rfl (Nat.le_of_ble_eq_true rfl) dX1_reg_4 (q := 7) rfl (b' := 1) rfl ?_
  refine v_if_ne O.1 dX1_reg_7 (t := 18) (by decide) (q := 10) rfl (fun c2 => ?_) (fun c2 => ?_)
  · rw [if_neg c2] at h
    refine v_iload_n O.1 dX1_reg_18 rfl (q := 19) rfl ?_
    refine v_bipush O.1 dX1_reg_19 (v := 8) (by decide) (q := 21) rfl ?_
    refine v_icmp_ge O.1 dX1_reg_21 (t := 36) (by decide) (q := 24) rfl (fun c3 => ?_) (fun c3 => ?_)
    · rw [if_pos c3] at h
      refine v_aload_n O.1 dX1_reg_36 rfl (q := 37) rfl ?_
      refine c_getR O 1 (v := .ref (gCa g 9)) (by decide) (O.lk q1078) rfl (fun _ _ => ⟨_, rfl, rfl⟩) dX1_reg_37 (q := 40) rfl ?_
      refine c_getC O cC_9 4 (v := .ref (gCa g (9 + 2))) (by decide) (O.lkn q839) rfl (fun _ => rfl) dX1_reg_40 (q := 43) rfl ?_
      refine v_iload_n O.1 dX1_reg_43 rfl (q := 44) rfl ?_
      refine v_bipush O.1 dX1_reg_44 (v := 8) (by decide) (q := 46) rfl ?_
      refine v_isub O.1 dX1_reg_46 (q := 47) rfl ?_
      obtain ⟨g4, h⟩ := gd_some h
      refine c_fald O cC_9 g4 rfl (j := (x1 - 8).toNatClampNeg) dX1_reg_47 (q := 48) rfl ?_
      obtain ⟨r5, C5, e5, h⟩ := bnd_some h
      refine c_callSi (As := [.float ((C1 (9 + 2) (x1 - 8).toNatClampNeg).toUInt32)]) (rest := []) (n := 1) O (metc_Fl_floatToIntBits _ g ((C1 (9 + 2) (x1 - 8).toNatClampNeg).toUInt32) C1 C5 r5 e5) (lw_S q1542 q410 q71 q411) (by decide +kernel) (by decide) (by decide) rfl rfl (Nat.le_of_ble_eq_true rfl) dX1_reg_48 (q := 51) rfl (b' := 1) rfl ?_
      exact v_less (b' := 0) (by decide) (v_sub [] rfl (bc_RE_reg_51 OX r5 C5 h))
    · rw [if_neg c3] at h
      refine v_aload_n O.1 dX1_reg_24 rfl (q := 25) rfl ?_
      refine c_getR O 1 (v := .ref (gCa g 9)) (by decide) (O.lk q1078) rfl (fun _ _ => ⟨_, rfl, rfl⟩) dX1_reg_25 (q := 28) rfl ?_
      refine c_getC O cC_9 3 (v := .ref (gCa g (9 + 1))) (by decide) (O.lkn q834) rfl (fun _ => rfl) dX1_reg_28 (q := 31) rfl ?_
      refine v_iload_n O.1 dX1_reg_31 rfl (q := 32) rfl ?_
      obtain ⟨g6, h⟩ := gd_some h
      refine c_iald O (cIA_r cC_9) g6 rfl (j := x1.toNatClampNeg) dX1_reg_32 (q := 33) rfl ?_
      refine v_goto O.1 dX1_reg_33 (t := 51) (by decide) ?_
      exact v_less (b' := 0) (by decide) (v_sub [] rfl (bc_RE_reg_51 OX (C1 (9 + 1) x1.toNatClampNeg) C1 h))
  · rw [if_pos c2] at h
    exact y_thrown OX (by decide) (by decide) h dX1_reg_10 dX1_reg_13 dX1_reg_14 dX1_reg_17
theorem metc_RE_reg (l : Launch) (hl : l.stackTraces = false) (g : gC) (x1 : Int32) (C C' : Mem) (r : (Int32 ⊕ Int32)) (h : fc_RE_reg x1 C = some (r, C')) : MetY l g "java/util/NoSuchElementException" yX1_reg cX1_reg 2 6 1 [.ref (gCa g 0), .int x1] C r C' :=
  y_met hl (by decide) rfl (Nat.le_of_ble_eq_true rfl) (fun X OX => bc_RE_reg OX x1 C h)
/-! RankEntry.word -/
def fc_RE_word (x1 : Int32) (C : Mem) : Option ((Int32 ⊕ Int32) × Mem) :=
  bnd (fc_RE_within x1 0 95 C) fun r1 C1 =>
  if r1 = 0 then
    some (Sum.inr 0, C1)
  else
    gd (inb x1 96) <|
    some (Sum.inl (C1 (9 + 4) x1.toNatClampNeg), C1)
set_option maxHeartbeats 4000000 in
theorem bc_RE_word {g : gC} {X : Cxt} {r : (Int32 ⊕ Int32)} {C' : Mem} (OX : OkY g "java/lang/IndexOutOfBoundsException" X cX1_word 2 RX1 6 1 r C') (x1 : Int32) (C : Mem) (h : fc_RE_word x1 C = some (r, C')) : V X 2 1 (WdC g C) 0 [(0, .ref (gCa g 0)), (1, .int x1)] [] := by
  have O := OX.1
  unfold fc_RE_word at h
  refine v_iload_n O.1 dX1_word_0 rfl (q := 1) rfl ?_
  refine v_iconst O.1 dX1_word_1 (v := 0) rfl (q := 2) rfl ?_
  refine v_bipush O.1 dX1_word_2 (v := 95) (by decide) (q := 4) rfl ?_
  obtain ⟨r1, C1, e1, h⟩ := bnd_some h
  refine c_callSi (As := [.int x1, .int 0, .int 95]) (rest := []) (n := 3) O (metc_RE_within _ g x1 0 95 C C1 r1 e1) (lw_S q1094 q656 q59 q657) (by decide +kernel) (by decide) (by decide) rfl rfl (Nat.le_of_ble_eq_true rfl) dX1_word_4 (q := 7) rfl (b' := 1) rfl ?_
  refine v_if_ne O.1 dX1_word_7 (t := 18) (by decide) (q := 10) rfl (fun c2 => ?_) (fun c2 => ?_)
  · rw [if_neg c2] at h
    refine v_aload_n O.1 dX1_word_18 rfl (q := 19) rfl ?_
    refine c_getR O 1 (v := .ref (gCa g 9)) (by decide) (O.lk q1078) rfl (fun _ _ => ⟨_, rfl, rfl⟩) dX1_word_19 (q := 22) rfl ?_
    refine c_getC O cC_9 6 (v := .ref (gCa g (9 + 4))) (by decide) (O.lkn q847) rfl (fun _ => rfl) dX1_word_22 (q := 25) rfl ?_
    refine v_iload_n O.1 dX1_word_25 rfl (q := 26) rfl ?_
    obtain ⟨g3, h⟩ := gd_some h
    refine c_iald O (cIA_stack cC_9) g3 rfl (j := x1.toNatClampNeg) dX1_word_26 (q := 27) rfl ?_
    exact y_iret OX h dX1_word_27
  · rw [if_pos c2] at h
    exact y_throwi OX (by decide) (by decide) h dX1_word_10 dX1_word_13 dX1_word_14 dX1_word_17
theorem metc_RE_word (l : Launch) (hl : l.stackTraces = false) (g : gC) (x1 : Int32) (C C' : Mem) (r : (Int32 ⊕ Int32)) (h : fc_RE_word x1 C = some (r, C')) : MetY l g "java/lang/IndexOutOfBoundsException" yX1_word cX1_word 2 6 1 [.ref (gCa g 0), .int x1] C r C' :=
  y_met hl (by decide) rfl (Nat.le_of_ble_eq_true rfl) (fun X OX => bc_RE_word OX x1 C h)
/-! RankEntry.data -/
def fc_RE_data (x1 : Int32) (C : Mem) : Option ((Int32 ⊕ Int32) × Mem) :=
  bnd (fc_RE_within x1 0 15 C) fun r1 C1 =>
  if r1 = 0 then
    some (Sum.inr 0, C1)
  else
    gd (inb x1 16) <|
    some (Sum.inl (C1 (9 + 3) x1.toNatClampNeg), C1)
set_option maxHeartbeats 4000000 in
theorem bc_RE_data {g : gC} {X : Cxt} {r : (Int32 ⊕ Int32)} {C' : Mem} (OX : OkY g "java/lang/IndexOutOfBoundsException" X cX1_data 2 RX1 6 1 r C') (x1 : Int32) (C : Mem) (h : fc_RE_data x1 C = some (r, C')) : V X 2 1 (WdC g C) 0 [(0, .ref (gCa g 0)), (1, .int x1)] [] := by
  have O := OX.1
  unfold fc_RE_data at h
  refine v_iload_n O.1 dX1_data_0 rfl (q := 1) rfl ?_
  refine v_iconst O.1 dX1_data_1 (v := 0) rfl (q := 2) rfl ?_
  refine v_bipush O.1 dX1_data_2 (v := 15) (by decide) (q := 4) rfl ?_
  obtain ⟨r1, C1, e1, h⟩ := bnd_some h
  refine c_callSi (As := [.int x1, .int 0, .int 15]) (rest := []) (n := 3) O (metc_RE_within _ g x1 0 15 C C1 r1 e1) (lw_S q1094 q656 q59 q657) (by decide +kernel) (by decide) (by decide) rfl rfl (Nat.le_of_ble_eq_true rfl) dX1_data_4 (q := 7) rfl (b' := 1) rfl ?_
  refine v_if_ne O.1 dX1_data_7 (t := 18) (by decide) (q := 10) rfl (fun c2 => ?_) (fun c2 => ?_)
  · rw [if_neg c2] at h
    refine v_aload_n O.1 dX1_data_18 rfl (q := 19) rfl ?_
    refine c_getR O 1 (v := .ref (gCa g 9)) (by decide) (O.lk q1078) rfl (fun _ _ => ⟨_, rfl, rfl⟩) dX1_data_19 (q := 22) rfl ?_
    refine c_getC O cC_9 5 (v := .ref (gCa g (9 + 3))) (by decide) (O.lkn q843) rfl (fun _ => rfl) dX1_data_22 (q := 25) rfl ?_
    refine v_iload_n O.1 dX1_data_25 rfl (q := 26) rfl ?_
    obtain ⟨g3, h⟩ := gd_some h
    refine c_iald O (cIA_data cC_9) g3 rfl (j := x1.toNatClampNeg) dX1_data_26 (q := 27) rfl ?_
    exact y_iret OX h dX1_data_27
  · rw [if_pos c2] at h
    exact y_throwi OX (by decide) (by decide) h dX1_data_10 dX1_data_13 dX1_data_14 dX1_data_17
theorem metc_RE_data (l : Launch) (hl : l.stackTraces = false) (g : gC) (x1 : Int32) (C C' : Mem) (r : (Int32 ⊕ Int32)) (h : fc_RE_data x1 C = some (r, C')) : MetY l g "java/lang/IndexOutOfBoundsException" yX1_data cX1_data 2 6 1 [.ref (gCa g 0), .int x1] C r C' :=
  y_met hl (by decide) rfl (Nat.le_of_ble_eq_true rfl) (fun X OX => bc_RE_data OX x1 C h)
/-! RankEntry.out -/
def fc_RE_out_21  (C : Mem) : Option ((Int32 ⊕ Int32) × Mem) :=
  some (Sum.inr 0, C)
set_option maxHeartbeats 4000000 in
theorem bc_RE_out_21 {g : gC} {X : Cxt} {r : (Int32 ⊕ Int32)} {C' : Mem} (OX : OkY g "java/util/NoSuchElementException" X cX1_out 2 RX1 6 1 r C')  (C : Mem) (h : fc_RE_out_21  C = some (r, C')) : V X 2 1 (WdC g C) 21 [] [] := by
  have O := OX.1
  unfold fc_RE_out_21 at h
  exact y_thrown OX (by decide) (by decide) h dX1_out_21 dX1_out_24 dX1_out_25 dX1_out_28
def fc_RE_out (x1 : Int32) (C : Mem) : Option ((Int32 ⊕ Int32) × Mem) :=
  if x1 < 0 then
    fc_RE_out_21 C
  else
    if 64 ≤ x1 then
      fc_RE_out_21 C
    else
      if x1 < (C 9 50) then
        gd (inb x1 64) <|
        some (Sum.inl (C (9 + 10) x1.toNatClampNeg), C)
      else
        fc_RE_out_21 C
set_option maxHeartbeats 4000000 in
theorem bc_RE_out {g : gC} {X : Cxt} {r : (Int32 ⊕ Int32)} {C' : Mem} (OX : OkY g "java/util/NoSuchElementException" X cX1_out 2 RX1 6 1 r C') (x1 : Int32) (C : Mem) (h : fc_RE_out x1 C = some (r, C')) : V X 2 1 (WdC g C) 0 [(0, .ref (gCa g 0)), (1, .int x1)] [] := by
  have O := OX.1
  unfold fc_RE_out at h
  refine v_iload_n O.1 dX1_out_0 rfl (q := 1) rfl ?_
  refine v_if_lt O.1 dX1_out_1 (t := 21) (by decide) (q := 4) rfl (fun c1 => ?_) (fun c1 => ?_)
  · rw [if_pos c1] at h
    exact v_sub [] rfl (bc_RE_out_21 OX C h)
  · rw [if_neg c1] at h
    refine v_iload_n O.1 dX1_out_4 rfl (q := 5) rfl ?_
    refine v_bipush O.1 dX1_out_5 (v := 64) (by decide) (q := 7) rfl ?_
    refine v_icmp_ge O.1 dX1_out_7 (t := 21) (by decide) (q := 10) rfl (fun c2 => ?_) (fun c2 => ?_)
    · rw [if_pos c2] at h
      exact v_sub [] rfl (bc_RE_out_21 OX C h)
    · rw [if_neg c2] at h
      refine v_iload_n O.1 dX1_out_10 rfl (q := 11) rfl ?_
      refine v_aload_n O.1 dX1_out_11 rfl (q := 12) rfl ?_
      refine c_getR O 1 (v := .ref (gCa g 9)) (by decide) (O.lk q1078) rfl (fun _ _ => ⟨_, rfl, rfl⟩) dX1_out_12 (q := 15) rfl ?_
      refine c_getC O cC_9 50 (v := .int (C 9 50)) (by decide) (O.lkn q930) rfl (fun _ => rfl) dX1_out_15 (q := 18) rfl ?_
      refine v_icmp_lt O.1 dX1_out_18 (t := 29) (by decide) (q := 21) rfl (fun c3 => ?_) (fun c3 => ?_)
      · rw [if_pos c3] at h
        refine v_aload_n O.1 dX1_out_29 rfl (q := 30) rfl ?_
        refine c_getR O 1 (v := .ref (gCa g 9)) (by decide) (O.lk q1078) rfl (fun _ _ => ⟨_, rfl, rfl⟩) dX1_out_30 (q := 33) rfl ?_
        refine c_getC O cC_9 12 (v := .ref (gCa g (9 + 10))) (by decide) (O.lkn q861) rfl (fun _ => rfl) dX1_out_33 (q := 36) rfl ?_
        refine v_iload_n O.1 dX1_out_36 rfl (q := 37) rfl ?_
        obtain ⟨g4, h⟩ := gd_some h
        refine c_iald O (cIA_out cC_9) g4 rfl (j := x1.toNatClampNeg) dX1_out_37 (q := 38) rfl ?_
        exact y_iret OX h dX1_out_38
      · rw [if_neg c3] at h
        exact v_sub [] rfl (bc_RE_out_21 OX C h)
theorem metc_RE_out (l : Launch) (hl : l.stackTraces = false) (g : gC) (x1 : Int32) (C C' : Mem) (r : (Int32 ⊕ Int32)) (h : fc_RE_out x1 C = some (r, C')) : MetY l g "java/util/NoSuchElementException" yX1_out cX1_out 2 6 1 [.ref (gCa g 0), .int x1] C r C' :=
  y_met hl (by decide) rfl (Nat.le_of_ble_eq_true rfl) (fun X OX => bc_RE_out OX x1 C h)
/-! RankEntry.event -/
def fc_RE_event_23  (C : Mem) : Option ((Int32 ⊕ Int32) × Mem) :=
  some (Sum.inr 0, C)
set_option maxHeartbeats 4000000 in
theorem bc_RE_event_23 {g : gC} {X : Cxt} {r : (Int32 ⊕ Int32)} {C' : Mem} (OX : OkY g "java/util/NoSuchElementException" X cX1_event 4 RX1 6 1 r C')  (C : Mem) (h : fc_RE_event_23  C = some (r, C')) : V X 4 1 (WdC g C) 23 [] [] := by
  have O := OX.1
  unfold fc_RE_event_23 at h
  exact y_thrown OX (by decide) (by decide) h dX1_event_23 dX1_event_26 dX1_event_27 dX1_event_30
def fc_RE_event_99 (y0 : Int32) (C : Mem) : Option ((Int32 ⊕ Int32) × Mem) :=
  some (Sum.inl y0, C)
set_option maxHeartbeats 4000000 in
theorem bc_RE_event_99 {g : gC} {X : Cxt} {r : (Int32 ⊕ Int32)} {C' : Mem} (OX : OkY g "java/util/NoSuchElementException" X cX1_event 4 RX1 6 1 r C') (y0 : Int32) (C : Mem) (h : fc_RE_event_99 y0 C = some (r, C')) : V X 4 0 (WdC g C) 99 [] [.int y0] := by
  have O := OX.1
  unfold fc_RE_event_99 at h
  exact y_iret OX h dX1_event_99
def fc_RE_event (x1 : Int32) (x2 : Int32) (C : Mem) : Option ((Int32 ⊕ Int32) × Mem) :=
  if x1 < 0 then
    fc_RE_event_23 C
  else
    bnd (fc_RE_count 16 C) fun r2 C2 =>
    if r2 ≤ x1 then
      fc_RE_event_23 C2
    else
      bnd (fc_RE_within x2 0 3 C2) fun r4 C4 =>
      if r4 = 0 then
        fc_RE_event_23 C4
      else
        gd (inb ((((C4 9 51) - 1) - x1) - (((C4 9 51) - 1) - x1) / 24 * 24) 24) <|
        gd (decide (¬ C4 (9 + 11) (8 * ((((C4 9 51) - 1) - x1) - (((C4 9 51) - 1) - x1) / 24 * 24).toNatClampNeg) < 0)) <|
        if x2 = 0 then
          fc_RE_event_99 (fv_kind (C4 (9 + 11) (8 * ((((C4 9 51) - 1) - x1) - (((C4 9 51) - 1) - x1) / 24 * 24).toNatClampNeg))) C4
        else
          if x2 = 1 then
            fc_RE_event_99 (C4 (9 + 11) (8 * ((((C4 9 51) - 1) - x1) - (((C4 9 51) - 1) - x1) / 24 * 24).toNatClampNeg + 1)) C4
          else
            if x2 = 2 then
              fc_RE_event_99 (C4 (9 + 11) (8 * ((((C4 9 51) - 1) - x1) - (((C4 9 51) - 1) - x1) / 24 * 24).toNatClampNeg + 2)) C4
            else
              fc_RE_event_99 (C4 (9 + 11) (8 * ((((C4 9 51) - 1) - x1) - (((C4 9 51) - 1) - x1) / 24 * 24).toNatClampNeg + 3)) C4
set_option maxHeartbeats 4000000 in
theorem bc_RE_event {g : gC} {X : Cxt} {r : (Int32 ⊕ Int32)} {C' : Mem} (OX : OkY g "java/util/NoSuchElementException" X cX1_event 4 RX1 6 1 r C') (x1 : Int32) (x2 : Int32) (C : Mem) (h : fc_RE_event x1 x2 C = some (r, C')) : V X 4 1 (WdC g C) 0 [(0, .ref (gCa g 0)), (1, .int x1), (2, .int x2)] [] := by
  have O := OX.1
  unfold fc_RE_event at h
  refine v_iload_n O.1 dX1_event_0 rfl (q := 1) rfl ?_
  refine v_if_lt O.1 dX1_event_1 (t := 23) (by decide) (q := 4) rfl (fun c1 => ?_) (fun c1 => ?_)
  · rw [if_pos c1] at h
    exact v_sub [] rfl (bc_RE_event_23 OX C h)
  · rw [if_neg c1] at h
    refine v_iload_n O.1 dX1_event_4 rfl (q := 5) rfl ?_
    refine v_aload_n O.1 dX1_event_5 rfl (q := 6) rfl ?_
    refine v_bipush O.1 dX1_event_6 (v := 16) (by decide) (q := 8) rfl ?_
    obtain ⟨r2, C2, e2, h⟩ := bnd_some h
    refine c_callVi (As := [.int 16]) (rest := [.int x1]) (n := 1) (ci := 0) (p := (RX1, TX1, 4)) O (by decide) rfl (fun _ _ => ⟨_, rfl⟩) (metc_RE_count _ g  16 C C2 r2 e2) (lw_V q1618 q1221 q1222 q59 q1223) (by decide +kernel) (by decide) (by decide) rfl rfl (Nat.le_of_ble_eq_true rfl) dX1_event_8 (q := 11) rfl (b' := 1) rfl ?_
    refine v_icmp_ge O.1 dX1_event_11 (t := 23) (by decide) (q := 14) rfl (fun c3 => ?_) (fun c3 => ?_)
    · rw [if_pos c3] at h
      exact v_sub [] rfl (bc_RE_event_23 OX C2 h)
    · rw [if_neg c3] at h
      refine v_iload_n O.1 dX1_event_14 rfl (q := 15) rfl ?_
      refine v_iconst O.1 dX1_event_15 (v := 0) rfl (q := 16) rfl ?_
      refine v_iconst O.1 dX1_event_16 (v := 3) rfl (q := 17) rfl ?_
      obtain ⟨r4, C4, e4, h⟩ := bnd_some h
      refine c_callSi (As := [.int x2, .int 0, .int 3]) (rest := []) (n := 3) O (metc_RE_within _ g x2 0 3 C2 C4 r4 e4) (lw_S q1094 q656 q59 q657) (by decide +kernel) (by decide) (by decide) rfl rfl (Nat.le_of_ble_eq_true rfl) dX1_event_17 (q := 20) rfl (b' := 1) rfl ?_
      refine v_if_ne O.1 dX1_event_20 (t := 31) (by decide) (q := 23) rfl (fun c5 => ?_) (fun c5 => ?_)
      · rw [if_neg c5] at h
        refine v_aload_n O.1 dX1_event_31 rfl (q := 32) rfl ?_
        refine c_getR O 1 (v := .ref (gCa g 9)) (by decide) (O.lk q1078) rfl (fun _ _ => ⟨_, rfl, rfl⟩) dX1_event_32 (q := 35) rfl ?_
        refine c_getC O cC_9 13 (v := .ref (gCa g (9 + 11))) (by decide) (O.lkn q863) rfl (fun _ => rfl) dX1_event_35 (q := 38) rfl ?_
        refine v_aload_n O.1 dX1_event_38 rfl (q := 39) rfl ?_
        refine c_getR O 1 (v := .ref (gCa g 9)) (by decide) (O.lk q1078) rfl (fun _ _ => ⟨_, rfl, rfl⟩) dX1_event_39 (q := 42) rfl ?_
        refine c_getC O cC_9 51 (v := .int (C4 9 51)) (by decide) (O.lkn q932) rfl (fun _ => rfl) dX1_event_42 (q := 45) rfl ?_
        refine v_iconst O.1 dX1_event_45 (v := 1) rfl (q := 46) rfl ?_
        refine v_isub O.1 dX1_event_46 (q := 47) rfl ?_
        refine v_iload_n O.1 dX1_event_47 rfl (q := 48) rfl ?_
        refine v_isub O.1 dX1_event_48 (q := 49) rfl ?_
        refine v_bipush O.1 dX1_event_49 (v := 24) (by decide) (q := 51) rfl ?_
        refine v_irem O.1 dX1_event_51 (by decide) (q := 52) rfl ?_
        obtain ⟨g6, h⟩ := gd_some h
        obtain ⟨g7, h⟩ := gd_some h
        refine c_evld O cC_9 g6 (of_decide_eq_true g7) dX1_event_52 (q := 53) rfl (fun a => ?_)
        refine v_astore_n (lv' := [(3, .ref a), (0, .ref (gCa g 0)), (1, .int x1), (2, .int x2)]) O.1 dX1_event_53 (by decide) rfl (q := 54) rfl ?_
        refine v_iload_n O.1 dX1_event_54 rfl (q := 55) rfl ?_
        refine v_if_ne O.1 dX1_event_55 (t := 65) (by decide) (q := 58) rfl (fun c8 => ?_) (fun c8 => ?_)
        · rw [if_neg c8] at h
          refine v_iload_n O.1 dX1_event_65 rfl (q := 66) rfl ?_
          refine v_iconst O.1 dX1_event_66 (v := 1) rfl (q := 67) rfl ?_
          refine v_icmp_ne O.1 dX1_event_67 (t := 79) (by decide) (q := 70) rfl (fun c9 => ?_) (fun c9 => ?_)
          · rw [if_neg c9] at h
            refine v_iload_n O.1 dX1_event_79 rfl (q := 80) rfl ?_
            refine v_iconst O.1 dX1_event_80 (v := 2) rfl (q := 81) rfl ?_
            refine v_icmp_ne O.1 dX1_event_81 (t := 93) (by decide) (q := 84) rfl (fun c10 => ?_) (fun c10 => ?_)
            · rw [if_neg c10] at h
              refine v_aload_n O.1 dX1_event_93 rfl (q := 94) rfl ?_
              refine e_more (rest := []) O q1694 (by decide) rfl (Nat.le_of_ble_eq_true rfl) dX1_event_94 (q := 99) rfl ?_
              exact v_less (b' := 0) (by decide) (v_sub [] rfl (bc_RE_event_99 OX (C4 (9 + 11) (8 * ((((C4 9 51) - 1) - x1) - (((C4 9 51) - 1) - x1) / 24 * 24).toNatClampNeg + 3)) C4 h))
            · rw [if_pos c10] at h
              refine v_aload_n O.1 dX1_event_84 rfl (q := 85) rfl ?_
              refine e_clock (rest := []) O q1665 (by decide) rfl (Nat.le_of_ble_eq_true rfl) dX1_event_85 (q := 90) rfl ?_
              refine v_goto O.1 dX1_event_90 (t := 99) (by decide) ?_
              exact v_less (b' := 0) (by decide) (v_sub [] rfl (bc_RE_event_99 OX (C4 (9 + 11) (8 * ((((C4 9 51) - 1) - x1) - (((C4 9 51) - 1) - x1) / 24 * 24).toNatClampNeg + 2)) C4 h))
          · rw [if_pos c9] at h
            refine v_aload_n O.1 dX1_event_70 rfl (q := 71) rfl ?_
            refine e_source (rest := []) O q1631 (by decide) rfl (Nat.le_of_ble_eq_true rfl) dX1_event_71 (q := 76) rfl ?_
            refine v_goto O.1 dX1_event_76 (t := 99) (by decide) ?_
            exact v_less (b' := 0) (by decide) (v_sub [] rfl (bc_RE_event_99 OX (C4 (9 + 11) (8 * ((((C4 9 51) - 1) - x1) - (((C4 9 51) - 1) - x1) / 24 * 24).toNatClampNeg + 1)) C4 h))
        · rw [if_pos c8] at h
          refine v_aload_n O.1 dX1_event_58 rfl (q := 59) rfl ?_
          refine e_kind (rest := []) O q1619 (by decide) rfl (Nat.le_of_ble_eq_true rfl) dX1_event_59 (q := 62) rfl ?_
          refine v_goto O.1 dX1_event_62 (t := 99) (by decide) ?_
          exact v_less (b' := 0) (by decide) (v_sub [] rfl (bc_RE_event_99 OX (fv_kind (C4 (9 + 11) (8 * ((((C4 9 51) - 1) - x1) - (((C4 9 51) - 1) - x1) / 24 * 24).toNatClampNeg))) C4 h))
      · rw [if_pos c5] at h
        exact v_sub [] rfl (bc_RE_event_23 OX C4 h)
theorem metc_RE_event (l : Launch) (hl : l.stackTraces = false) (g : gC) (x1 : Int32) (x2 : Int32) (C C' : Mem) (r : (Int32 ⊕ Int32)) (h : fc_RE_event x1 x2 C = some (r, C')) : MetY l g "java/util/NoSuchElementException" yX1_event cX1_event 4 6 1 [.ref (gCa g 0), .int x1, .int x2] C r C' :=
  y_met hl (by decide) rfl (Nat.le_of_ble_eq_true rfl) (fun X OX => bc_RE_event OX x1 x2 C h)
