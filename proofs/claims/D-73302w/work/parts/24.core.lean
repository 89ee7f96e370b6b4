/-- a whole row -/
def upr (C : Mem) (o : Nat) (r : Nat → Int32) : Mem := fun o' => if o' = o then r else C o'
theorem upr_s {C : Mem} {o : Nat} {r : Nat → Int32} : upr C o r o = r := by simp [upr]
theorem upr_n {C : Mem} {o o' : Nat} {r : Nat → Int32} (h : o' ≠ o) : upr C o r o' = C o' := by simp [upr, h]
theorem cWs_setr {g : gC} {C : Mem} {ah : Nat → Nat} {ev : Nat → Nat → Option Nat} {X : va_W} {o : Nat} {r : Nat → Int32} {e : va_E} (h : o < 95) (he : e = cCell g (upr C o r) ah ev o) : (cWs g C ah ev ++ X).set o (gCa g o, e) = cWs g (upr C o r) ah ev ++ X := by
  subst he
  rw [List.set_append_left _ _ (by rw [cWs_len]; exact h)]
  congr 1
  refine wl_set rfl (fun o' ho => ?_)
  simp only [cCell]
  rw [upr_n ho]
theorem Dy.upr {g : gC} {C : Mem} {X : va_W} {ah : Nat → Nat} {ev : Nat → Nat → Option Nat} {o : Nat} {r : Nat → Int32} (h : Dy g C X ah ev) (hp : ∀ k, cPl o k) : Dy g (upr C o r) X ah ev := by
  intro c hc
  obtain ⟨h1, h2⟩ := h c hc
  have e1 : c ≠ o := fun he => (hp 27).2.2 (by rw [← he]; exact hc) rfl
  have e2 : c + 11 ≠ o := by
    rcases hc with rfl | rfl
    · exact Ne.symm (hp 0).1
    · exact Ne.symm (hp 0).2.1
  rw [upr_n e1, upr_n e2]
  exact ⟨h1, h2⟩
theorem c_metF {l : Launch} {g : gC} {y : MethodName} {cc : ByteArray} {nL : Nat} {ret : Option FieldType} {own : String} {lvl mc : Nat} {as : List Value} {C : Mem} {Qc : Array Value → State → Outcome → State → Prop} (hy : plainFor y = true) (hc : y.cls = own) (hlen : (lg_sl as).length ≤ nL) (h : ∀ X, OkC g X cc nL ret own lvl mc Qc → V X nL mc (WdC g C) 0 (lv_args 0 as) []) : MetC l g y cc nL ret lvl mc as C Qc := by
  refine MetFree.of_bodySF (code := cc) (maxLocals := nL) (ret := ret) hy ?_ ?_
  · intro args s m h hn
    obtain ⟨meth, c, h1, h2, h3, h4, h5, h6, -, -⟩ := Cond.code_spec hn (atoms_spec (ws := ws_ y cc nL ret) h _ List.mem_cons_self)
    exact ⟨meth, c, h1, h2, h3, h4, h5, h6⟩
  · intro p e s m args below meth c s₁ B hml hP _
    have hh0 : s₁.heap = s.heap := by rw [B.state]; rfl
    obtain ⟨rfl, hW, hK⟩ := hP
    have hts := atoms_spec (ws := ws_ y cc nL ret) B.pre
    have hts : ∀ w ∈ lw_all, w.before _ s = true := fun w h => hts w (List.mem_cons_of_mem _ h)
    have hown : s.vm.findClass y.cls = some m.cls := findClass_of_methodNamed B.named
    rw [hc] at hown
    have hl := lv_entry as hlen
    rw [lg_entry_eq]
    obtain ⟨t, a1, o, b1, b2, b3⟩ := h (p, l, e, rmz lvl mc, s, m, as.toArray, below, meth, c, MQ below Qc as.toArray s mc (8 * mc) (cA g), cA g) ⟨⟨B.exec, B.bytes, hml, hown, hts, B.returns, B.notSynchronized, rfl⟩, hK, rfl, fun _ h => h⟩ s.heap [] 0 0 _ hW va_S.rf (by rw [Nat.zero_add]; exact Nat.le_refl _) (by rw [Nat.zero_add]; exact Nat.le_refl _) hl s₁ hh0 (Stand.of_body B)
    exact ⟨t, o, a1, b1, b2, ⟨b3.1, b3.2⟩⟩
section CMORE
variable {g : gC} {X : Cxt} {cc : ByteArray} {nL b lvl mc : Nat} {ret : Option FieldType} {own : String} {Qc : Array Value → State → Outcome → State → Prop} {pc q : Nat} {lv : List (Nat × Value)} {st rest : List Value} {C C' : Mem}
/-- System.arraycopy of the whole of an array of ints into another of the same length -/
theorem c_copy (O : OkC g X cc nL ret own lvl mc Qc) {o1 o2 n idx : Nat} {v : Int32} (hI1 : cIA o1 n) (hI2 : cIA o2 n) (hv : ¬ v < 0) (hn : v.toNatClampNeg = n) (hl : Cond.methodLink own idx arraycopyName ∈ lw_all) (hlv : 1 ≤ lvl) (hr : (st.map fun v => v.category).sum ≤ 8) (d : decode cc pc = .ok (.invokestatic idx, 3)) (hq : pc + 3 = q) (hC : C' = upr C o2 (va_cpy (C o1) (C o2) 0 0 n)) (kk : V X nL b (WdC g C') q lv st) : V X nL b (WdC g C) pc lv (.int v :: .int 0 :: .ref (gCa g o2) :: .int 0 :: .ref (gCa g o1) :: st) := by
  subst hq
  subst hC
  subst hn
  intro H lo ce sl ls h1 h2 h3 h4 h5
  obtain ⟨Y, ah, ev, hP, hD, hY⟩ := h1
  have hts := O.1.ts
  refine va_copyi O.1.ex O.1.bc (by rw [O.1.ml]; exact h5.1.symm) O.1.ow (hts _ hl) (hts _ q1248) (hts _ q1247) (hts _ q90) O.2.1.1 hP hD (O.S h2) o1 o2 0 0 (by rw [cWs_get hI1.1, hI1.2.2]) (by rw [cWs_get hI2.1, hI2.2.2]) rfl rfl rfl (by decide) (by decide) hv (by rw [show (0 : Int32).toNatClampNeg = 0 from rfl]; omega) (by rw [show (0 : Int32).toNatClampNeg = 0 from rfl]; omega) (fun i hi => rfl) (by rw [O.1.rm]; exact hlv) ?_ d (fun H1 lo1 p1 p2 p3 => ?_)
  · rw [O.1.rm]
    show _ + (nativeFrameWords "java/lang/System" "arraycopy" 5 + 11) ≤ 60 * lvl + 3200
    have hw : nativeFrameWords "java/lang/System" "arraycopy" 5 ≤ 30 := by decide
    omega
  · rw [show (0 : Int32).toNatClampNeg = 0 from rfl] at p1 p2
    rw [cWs_setr (r := va_cpy (C o1) (C o2) 0 0 v.toNatClampNeg) hI2.1 (by rw [hI2.2.2, upr_s])] at p1 p2
    exact kk H1 lo1 ce sl ls ⟨Y, ah, ev, p1, p2, hY.upr hI2.2.1⟩ (by rw [O.2.2.1]; exact p3) h3 h4 h5
/-- Float.floatToRawIntBits -/
theorem c_raw (O : OkC g X cc nL ret own lvl mc Qc) {P : Heap → Prop} {v : UInt32} {idx : Nat} (hl : Cond.methodLink own idx ⟨"java/lang/Float", "floatToRawIntBits", "(F)I"⟩ ∈ lw_all) (hlv : 1 ≤ lvl) (hr : (st.map fun v => v.category).sum ≤ 8) (d : decode cc pc = .ok (.invokestatic idx, 3)) (hq : pc + 3 = q) (kk : V X nL b P q lv (.int v.toInt32 :: st)) : V X nL b P pc lv (.float v :: st) := by
  subst hq
  intro H lo ce sl ls h1 h2 h3 h4 h5
  have hts := O.1.ts
  exact vn_f2i O.1.ex O.1.bc (by rw [O.1.ml]; exact h5.1.symm) O.1.ow (hts _ hl) (hts _ q417) (hts _ q416) (hts _ q71) (by rw [O.1.rm]; exact hlv) (by rw [O.1.rm]; show _ + 15 ≤ 60 * lvl + 3200; omega) d (kk H lo ce sl ls h1 h2 h3 h4 h5)
theorem cBlk_a {g : gC} {r : Nat → Int32} {a a' : Nat} {e : Nat → Option Nat} {c j : Nat} (hj : j ≠ 0) : cBlk g r a e c j = cBlk g r a' e c j := by
  match j, hj with
  | 0, hj => exact absurd rfl hj
  | 1, _ => rfl | 2, _ => rfl | 3, _ => rfl | 4, _ => rfl | 5, _ => rfl | 6, _ => rfl | 7, _ => rfl | 8, _ => rfl | 9, _ => rfl | 10, _ => rfl | 11, _ => rfl | 12, _ => rfl | 13, _ => rfl | 14, _ => rfl | 15, _ => rfl | 16, _ => rfl | 17, _ => rfl | 18, _ => rfl | 19, _ => rfl | 20, _ => rfl | 21, _ => rfl
  | j + 22, _ => rfl
/-- 'ahead' of one core becomes that of the other -/
theorem c_setA {g : gC} {C : Mem} {ah : Nat → Nat} {ev : Nat → Nat → Option Nat} {Y : va_W} {c a : Nat} {u : Int32} (hc : cC c) : (cWs g C ah ev ++ Y).set c (gCa g c, .inr (2, (cFs g c (C c) (ah c)).set 27 (.ref a))) = cWs g (up2 C c 27 u) (va_up ah c a) ev ++ Y := by
  have hlt : c < 95 := cC_lt (j := 0) hc (by decide)
  rw [List.set_append_left _ _ (by rw [cWs_len]; exact hlt)]
  congr 1
  refine wl_set ?_ (fun o' ho => ?_)
  · rw [cCell_core hc, up2_s]
    simp only [va_up, if_true]
    rfl
  · simp only [cCell]
    rw [up2_n ho]
    by_cases h9 : o' < 9
    · rw [if_pos h9, if_pos h9]
    · rw [if_neg h9, if_neg h9]
      by_cases hb : cB o' = c
      · have hj : cJ o' ≠ 0 := fun h0 => ho (by unfold cB at hb; rw [h0] at hb; exact hb)
        rw [cBlk_a hj]
      · simp only [va_up, if_neg hb]
theorem c_cpA (O : OkC g X cc nL ret own lvl mc Qc) {c c1 i1 i2 : Nat} (hc : cC c) (hc1 : cC c1) (hl1 : Lk X own i1 "RankEntry$Core" "ahead" "LRankEntry$Ahead;") (hl2 : Cond.fieldLink own i2 "RankEntry$Core" "ahead" "LRankEntry$Ahead;" ∈ lw_all) (d1 : decode cc pc = .ok (.getfield i1, 3)) (d2 : decode cc (pc + 3) = .ok (.putfield i2, 3)) (hq : pc + 6 = q) (hC : C' = up2 C c 27 (C c1 27)) (kk : V X nL b (WdC g C') q lv st) : V X nL b (WdC g C) pc lv (.ref (gCa g c1) :: .ref (gCa g c) :: st) := by
  subst hq
  subst hC
  intro H lo ce sl ls h1 h2 h3 h4 h5
  obtain ⟨Y, ah, ev, hP, hD, hY⟩ := h1
  have hlt : c < 95 := cC_lt (j := 0) hc (by decide)
  have hg1 : (cWs g C ah ev ++ Y)[c1]? = some (gCa g c1, .inr (2, cFs g c1 (C c1) (ah c1))) := by rw [cWs_get (o := c1) (cC_lt (j := 0) hc1 (by decide)), cCell_core hc1]
  have hg : (cWs g C ah ev ++ Y)[c]? = some (gCa g c, .inr (2, cFs g c (C c) (ah c))) := by rw [cWs_get hlt, cCell_core hc]
  have key : xW X H lo ce sl (F0 (xm X) (pc + 3) ls (.ref (ah c1) :: .ref (gCa g c) :: st)) := by
    refine va_put O.1.ex O.1.bc O.1.ts in_X4 tyX4 tyX4_ok nmX4 O.1.ow O.2.1.1 hP hD (O.S h2) c hg rfl 27 (by decide) (O.1.ts _ hl2) (fun x hx => hx) rfl (ty := .object "RankEntry$Ahead") rfl rfl rfl (Nat.le_of_ble_eq_true rfl) d2 (fun H1 lo1 p1 p2 p3 => ?_)
    rw [c_setA (u := C c1 27) hc] at p1 p2
    refine kk H1 lo1 ce sl ls ⟨Y, _, ev, p1, p2, ?_⟩ (by rw [O.2.2.1]; exact p3) h3 h4 h5
    intro c2 hc2
    have e2 : up2 C c 27 (C c1 27) (c2 + 11) = C (c2 + 11) := up2_n (by rcases hc with rfl | rfl <;> rcases hc2 with rfl | rfl <;> decide)
    rw [e2]
    refine ⟨?_, (hY c2 hc2).2⟩
    by_cases he : c2 = c
    · subst he
      rw [up2_s]
      simp only [va_up, if_true, upd]
      exact (hY c1 hc1).1
    · rw [up2_n he]
      simp only [va_up, if_neg he]
      exact (hY c2 hc2).1
  rcases hl1 with hl | ⟨host, hl⟩
  · exact va_get O.1.ex O.1.bc O.1.ts in_X4 O.1.ow O.2.1.1 hP c1 hg1 rfl 27 (by decide) hl (fun x hx => hx) rfl d1 key
  · exact va_getN O.1.ex O.1.bc O.1.ts in_X4 O.1.ow O.2.1.1 hP c1 hg1 rfl 27 (by decide) hl (fun x hx => hx) rfl d1 key
end CMORE
/-! java/lang/Float.isNaN(F)Z -/
def fc_Fl_isNaN_11 (y0 : Int32) (C : Mem) : Option (Int32 × Mem) :=
  gd (isB y0) <|
  some (y0, C)
set_option maxHeartbeats 4000000 in
theorem bc_Fl_isNaN_11 {g : gC} {X : Cxt} {r : Int32} {C' : Mem} (O : OkC g X cJ3_isNaN 1 (some .boolean) RJ3 0 0 (cQi g r C')) (y0 : Int32) (C : Mem) (h : fc_Fl_isNaN_11 y0 C = some (r, C')) : V X 1 0 (WdC g C) 11 [] [.int y0] := by
  unfold fc_Fl_isNaN_11 at h
  obtain ⟨g1, h⟩ := gd_some h
  exact c_zret O g1 h dJ3_isNaN_11
def fc_Fl_isNaN (x0 : UInt32) (C : Mem) : Option (Int32 × Mem) :=
  if (Op.cmpValue (FP.fcmp x0 x0) .l) = 0 then
    fc_Fl_isNaN_11 0 C
  else
    fc_Fl_isNaN_11 1 C
set_option maxHeartbeats 4000000 in
theorem bc_Fl_isNaN {g : gC} {X : Cxt} {r : Int32} {C' : Mem} (O : OkC g X cJ3_isNaN 1 (some .boolean) RJ3 0 0 (cQi g r C')) (x0 : UInt32) (C : Mem) (h : fc_Fl_isNaN x0 C = some (r, C')) : V X 1 0 (WdC g C) 0 [(0, .float x0)] [] := by
  unfold fc_Fl_isNaN at h
  refine v_fload_n O.1 dJ3_isNaN_0 rfl (q := 1) rfl ?_
  refine v_fload_n O.1 dJ3_isNaN_1 rfl (q := 2) rfl ?_
  refine v_fcmp O.1 dJ3_isNaN_2 (q := 3) rfl ?_
  refine v_if_eq O.1 dJ3_isNaN_3 (t := 10) (by decide) (q := 6) rfl (fun c1 => ?_) (fun c1 => ?_)
  · rw [if_pos c1] at h
    refine v_iconst O.1 dJ3_isNaN_10 (v := 0) rfl (q := 11) rfl ?_
    exact v_sub [] rfl (bc_Fl_isNaN_11 O 0 C h)
  · rw [if_neg c1] at h
    refine v_iconst O.1 dJ3_isNaN_6 (v := 1) rfl (q := 7) rfl ?_
    refine v_goto O.1 dJ3_isNaN_7 (t := 11) (by decide) ?_
    exact v_sub [] rfl (bc_Fl_isNaN_11 O 1 C h)
theorem metc_Fl_isNaN (l : Launch) (g : gC) (x0 : UInt32) (C C' : Mem) (r : Int32) (h : fc_Fl_isNaN x0 C = some (r, C')) : MetC l g yJ3_isNaN cJ3_isNaN 1 (some .boolean) 0 0 [.float x0] C (cQi g r C') :=
  c_metF (by decide +kernel) rfl (Nat.le_of_ble_eq_true rfl) (fun X O => bc_Fl_isNaN O x0 C h)
/-! java/lang/Float.floatToIntBits(F)I -/
def fc_Fl_floatToIntBits (x0 : UInt32) (C : Mem) : Option (Int32 × Mem) :=
  bnd (fc_Fl_isNaN x0 C) fun r1 C1 =>
  if r1 = 0 then
    some (x0.toInt32, C1)
  else
    some (2143289344, C1)
set_option maxHeartbeats 4000000 in
theorem bc_Fl_floatToIntBits {g : gC} {X : Cxt} {r : Int32} {C' : Mem} (O : OkC g X cJ3_floatToIntBits 1 (some .int) RJ3 1 0 (cQi g r C')) (x0 : UInt32) (C : Mem) (h : fc_Fl_floatToIntBits x0 C = some (r, C')) : V X 1 0 (WdC g C) 0 [(0, .float x0)] [] := by
  unfold fc_Fl_floatToIntBits at h
  refine v_fload_n O.1 dJ3_floatToIntBits_0 rfl (q := 1) rfl ?_
  obtain ⟨r1, C1, e1, h⟩ := bnd_some h
  refine c_callSi (As := [.float x0]) (rest := []) (n := 1) O (metc_Fl_isNaN _ g x0 C C1 r1 e1) (lw_S q412 q413 q71 q414) (by decide +kernel) (by decide) (by decide) rfl rfl (Nat.le_of_ble_eq_true rfl) dJ3_floatToIntBits_1 (q := 4) rfl (b' := 0) rfl ?_
  refine v_if_ne O.1 dJ3_floatToIntBits_4 (t := 12) (by decide) (q := 7) rfl (fun c2 => ?_) (fun c2 => ?_)
  · rw [if_neg c2] at h
    refine v_ldc O.1 dJ3_floatToIntBits_12 q418 (q := 14) rfl ?_
    exact c_iret O h dJ3_floatToIntBits_14
  · rw [if_pos c2] at h
    refine v_fload_n O.1 dJ3_floatToIntBits_7 rfl (q := 8) rfl ?_
    refine c_raw O q415 (by decide) (Nat.le_of_ble_eq_true rfl) dJ3_floatToIntBits_8 (q := 11) rfl ?_
    exact c_iret O h dJ3_floatToIntBits_11
theorem metc_Fl_floatToIntBits (l : Launch) (g : gC) (x0 : UInt32) (C C' : Mem) (r : Int32) (h : fc_Fl_floatToIntBits x0 C = some (r, C')) : MetC l g yJ3_floatToIntBits cJ3_floatToIntBits 1 (some .int) 1 0 [.float x0] C (cQi g r C') :=
  c_metF (by decide +kernel) rfl (Nat.le_of_ble_eq_true rfl) (fun X O => bc_Fl_floatToIntBits O x0 C h)
/-! RankEntry$Core.becomes(I)Z -/
def fc_Core_becomes_29 (c : Nat) (x2 : Int32) (C : Mem) : Option (Int32 × Mem) :=
  gd (isB x2) <|
  some (x2, C)
set_option maxHeartbeats 4000000 in
theorem bc_Core_becomes_29 {g : gC} {X : Cxt} {r : Int32} {C' : Mem} {c : Nat} (hc : cC c) (O : OkC g X cX4_becomes 3 (some .boolean) RX4 1 0 (cQi g r C')) (x2 : Int32) (C : Mem) (h : fc_Core_becomes_29 c x2 C = some (r, C')) : V X 3 0 (WdC g C) 29 [(2, .int x2)] [] := by
  unfold fc_Core_becomes_29 at h
  refine v_iload_n O.1 dX4_becomes_29 rfl (q := 30) rfl ?_
  obtain ⟨g1, h⟩ := gd_some h
  exact c_zret O g1 h dX4_becomes_30
def fc_Core_becomes (c : Nat) (x1 : Int32) (C : Mem) : Option (Int32 × Mem) :=
  gd (inb x1 21) <|
  bnd (fv_becomes (c + 22 + x1.toNatClampNeg) (C c 37) C) fun r2 C2 =>
  if r2 = 0 then
    stp (up2 C2 (c + 9) 9 ((C2 (c + 9) 9) + 1)) fun C4 =>
    fc_Core_becomes_29 c r2 C4
  else
    fc_Core_becomes_29 c r2 C2
set_option maxHeartbeats 4000000 in
theorem bc_Core_becomes {g : gC} {X : Cxt} {r : Int32} {C' : Mem} {c : Nat} (hc : cC c) (O : OkC g X cX4_becomes 3 (some .boolean) RX4 1 0 (cQi g r C')) (x1 : Int32) (C : Mem) (h : fc_Core_becomes c x1 C = some (r, C')) : V X 3 0 (WdC g C) 0 [(0, .ref (gCa g c)), (1, .int x1)] [] := by
  unfold fc_Core_becomes at h
  refine v_aload_n O.1 dX4_becomes_0 rfl (q := 1) rfl ?_
  refine c_getC O hc 7 (v := .ref (gCa g (c + 5))) (by decide) (O.lk q848) rfl (fun _ => rfl) dX4_becomes_1 (q := 4) rfl ?_
  refine v_iload_n O.1 dX4_becomes_4 rfl (q := 5) rfl ?_
  obtain ⟨g1, h⟩ := gd_some h
  refine c_all O hc g1 rfl (j := x1.toNatClampNeg) dX4_becomes_5 (q := 6) rfl ?_
  refine v_aload_n O.1 dX4_becomes_6 rfl (q := 7) rfl ?_
  refine c_getC O hc 37 (v := .int (C c 37)) (by decide) (O.lk q905) rfl (fun _ => rfl) dX4_becomes_7 (q := 10) rfl ?_
  obtain ⟨r2, C2, e2, h⟩ := bnd_some h
  refine c_v_becomes (rest := []) O (cS_of hc (inb_lt g1)) e2 q291 (by decide) rfl (Nat.le_of_ble_eq_true rfl) dX4_becomes_10 (q := 13) rfl ?_
  refine v_istore_n (lv' := [(2, .int r2), (0, .ref (gCa g c)), (1, .int x1)]) O.1 dX4_becomes_13 (by decide) rfl (q := 14) rfl ?_
  refine v_iload_n O.1 dX4_becomes_14 rfl (q := 15) rfl ?_
  refine v_if_ne O.1 dX4_becomes_15 (t := 29) (by decide) (q := 18) rfl (fun c3 => ?_) (fun c3 => ?_)
  · rw [if_neg c3] at h
    exact v_sub [0] rfl (bc_Core_becomes_29 hc O r2 C2 h)
  · rw [if_pos c3] at h
    refine v_aload_n O.1 dX4_becomes_18 rfl (q := 19) rfl ?_
    refine c_getC O hc 11 (v := .ref (gCa g (c + 9))) (by decide) (O.lk q858) rfl (fun _ => rfl) dX4_becomes_19 (q := 22) rfl ?_
    refine v_bipush O.1 dX4_becomes_22 (v := 9) (by decide) (q := 24) rfl ?_
    refine v_dup2 O.1 dX4_becomes_24 rfl rfl (q := 25) rfl ?_
    refine c_iald O (cIA_counts hc) (by decide) (by decide) (j := 9) dX4_becomes_25 (q := 26) rfl ?_
    refine v_iconst O.1 dX4_becomes_26 (v := 1) rfl (q := 27) rfl ?_
    refine v_iadd O.1 dX4_becomes_27 (q := 28) rfl ?_
    obtain ⟨C4, e4, h⟩ := stp_some h
    refine c_iast O (cIA_counts hc) (by decide) (by decide) (j := 9) dX4_becomes_28 (q := 29) rfl e4 ?_
    exact v_sub [0] rfl (bc_Core_becomes_29 hc O r2 C4 h)
theorem metc_Core_becomes (l : Launch) (g : gC) (c : Nat) (hc : cC c) (x1 : Int32) (C C' : Mem) (r : Int32) (h : fc_Core_becomes c x1 C = some (r, C')) : MetC l g yX4_becomes cX4_becomes 3 (some .boolean) 1 0 [.ref (gCa g c), .int x1] C (cQi g r C') :=
  c_met (by decide) rfl (Nat.le_of_ble_eq_true rfl) (fun X O => bc_Core_becomes hc O x1 C h)
/-! RankEntry$Core.openLimit()I -/
def fc_Core_openLimit_62 (c : Nat) (K25 : Int32 → Int32 → Mem → Option (Int32 × Mem)) (x2 : Int32) (y0 : Int32) (C : Mem) : Option (Int32 × Mem) :=
  K25 y0 (x2 + 1) C
set_option maxHeartbeats 4000000 in
theorem bc_Core_openLimit_62 {g : gC} {X : Cxt} {r : Int32} {C' : Mem} {c : Nat} (hc : cC c) (O : OkC g X cX4_openLimit 4 (some .int) RX4 1 0 (cQi g r C')) {K25 : Int32 → Int32 → Mem → Option (Int32 × Mem)} (hK25 : ∀ (x1 : Int32) (x2 : Int32) (C : Mem), K25 x1 x2 C = some (r, C') → V X 4 0 (WdC g C) 25 [(0, .ref (gCa g c)), (1, .int x1), (2, .int x2)] []) (x2 : Int32) (y0 : Int32) (C : Mem) (h : fc_Core_openLimit_62 c K25 x2 y0 C = some (r, C')) : V X 4 0 (WdC g C) 62 [(0, .ref (gCa g c)), (2, .int x2)] [.int y0] := by
  unfold fc_Core_openLimit_62 at h
  refine v_istore_n (lv' := [(1, .int y0), (0, .ref (gCa g c)), (2, .int x2)]) O.1 dX4_openLimit_62 (by decide) rfl (q := 63) rfl ?_
  refine v_iinc (lv' := [(2, .int (x2 + 1)), (1, .int y0), (0, .ref (gCa g c))]) (v := (x2 + 1)) O.1 dX4_openLimit_63 rfl rfl (by decide) rfl (q := 66) rfl ?_
  refine v_goto O.1 dX4_openLimit_66 (t := 25) (by decide) ?_
  exact v_sub [2, 1, 0] rfl (hK25 y0 (x2 + 1) C h)
def fc_Core_openLimit_25b (c : Nat) (K25 : Int32 → Int32 → Mem → Option (Int32 × Mem)) (x1 : Int32) (x2 : Int32) (C : Mem) : Option (Int32 × Mem) :=
  if (C c 33) ≤ x2 then
    some (x1, C)
  else
    gd (inb x2 21) <|
    gd (inb (C (c + 6) x2.toNatClampNeg) 21) <|
    bnd (fv_group (c + 22 + (C (c + 6) x2.toNatClampNeg).toNatClampNeg) (C c 34) C) fun r4 C4 =>
    if x1 ≤ r4 then
      fc_Core_openLimit_62 c K25 x2 x1 C4
    else
      fc_Core_openLimit_62 c K25 x2 r4 C4
set_option maxHeartbeats 4000000 in
theorem bc_Core_openLimit_25b {g : gC} {X : Cxt} {r : Int32} {C' : Mem} {c : Nat} (hc : cC c) (O : OkC g X cX4_openLimit 4 (some .int) RX4 1 0 (cQi g r C')) {K25 : Int32 → Int32 → Mem → Option (Int32 × Mem)} (hK25 : ∀ (x1 : Int32) (x2 : Int32) (C : Mem), K25 x1 x2 C = some (r, C') → V X 4 0 (WdC g C) 25 [(0, .ref (gCa g c)), (1, .int x1), (2, .int x2)] []) (x1 : Int32) (x2 : Int32) (C : Mem) (h : fc_Core_openLimit_25b c K25 x1 x2 C = some (r, C')) : V X 4 0 (WdC g C) 25 [(0, .ref (gCa g c)), (1, .int x1), (2, .int x2)] [] := by
  unfold fc_Core_openLimit_25b at h
  refine v_iload_n O.1 dX4_openLimit_25 rfl (q := 26) rfl ?_
  refine v_aload_n O.1 dX4_openLimit_26 rfl (q := 27) rfl ?_
  refine c_getC O hc 33 (v := .int (C c 33)) (by decide) (O.lk q895) rfl (fun _ => rfl) dX4_openLimit_27 (q := 30) rfl ?_
  refine v_icmp_ge O.1 dX4_openLimit_30 (t := 69) (by decide) (q := 33) rfl (fun c1 => ?_) (fun c1 => ?_)
  · rw [if_pos c1] at h
    refine v_iload_n O.1 dX4_openLimit_69 rfl (q := 70) rfl ?_
    exact c_iret O h dX4_openLimit_70
  · rw [if_neg c1] at h
    refine v_aload_n O.1 dX4_openLimit_33 rfl (q := 34) rfl ?_
    refine c_getC O hc 7 (v := .ref (gCa g (c + 5))) (by decide) (O.lk q848) rfl (fun _ => rfl) dX4_openLimit_34 (q := 37) rfl ?_
    refine v_aload_n O.1 dX4_openLimit_37 rfl (q := 38) rfl ?_
    refine c_getC O hc 8 (v := .ref (gCa g (c + 6))) (by decide) (O.lk q852) rfl (fun _ => rfl) dX4_openLimit_38 (q := 41) rfl ?_
    refine v_iload_n O.1 dX4_openLimit_41 rfl (q := 42) rfl ?_
    obtain ⟨g2, h⟩ := gd_some h
    refine c_iald O (cIA_nest hc) g2 rfl (j := x2.toNatClampNeg) dX4_openLimit_42 (q := 43) rfl ?_
    obtain ⟨g3, h⟩ := gd_some h
    refine c_all O hc g3 rfl (j := (C (c + 6) x2.toNatClampNeg).toNatClampNeg) dX4_openLimit_43 (q := 44) rfl ?_
    refine v_aload_n O.1 dX4_openLimit_44 rfl (q := 45) rfl ?_
    refine c_getC O hc 34 (v := .int (C c 34)) (by decide) (O.lk q897) rfl (fun _ => rfl) dX4_openLimit_45 (q := 48) rfl ?_
    obtain ⟨r4, C4, e4, h⟩ := bnd_some h
    refine c_v_group (rest := []) O (cS_of hc (inb_lt g3)) e4 q216 (by decide) rfl (Nat.le_of_ble_eq_true rfl) dX4_openLimit_48 (q := 51) rfl ?_
    refine v_istore_n (lv' := [(3, .int r4), (0, .ref (gCa g c)), (1, .int x1), (2, .int x2)]) O.1 dX4_openLimit_51 (by decide) rfl (q := 52) rfl ?_
    refine v_iload_n O.1 dX4_openLimit_52 rfl (q := 53) rfl ?_
    refine v_iload_n O.1 dX4_openLimit_53 rfl (q := 54) rfl ?_
    refine v_icmp_ge O.1 dX4_openLimit_54 (t := 61) (by decide) (q := 57) rfl (fun c5 => ?_) (fun c5 => ?_)
    · rw [if_pos c5] at h
      refine v_iload_n O.1 dX4_openLimit_61 rfl (q := 62) rfl ?_
      exact v_sub [1, 3] rfl (bc_Core_openLimit_62 hc O hK25 x2 x1 C4 h)
    · rw [if_neg c5] at h
      refine v_iload_n O.1 dX4_openLimit_57 rfl (q := 58) rfl ?_
      refine v_goto O.1 dX4_openLimit_58 (t := 62) (by decide) ?_
      exact v_sub [1, 3] rfl (bc_Core_openLimit_62 hc O hK25 x2 r4 C4 h)
def fc_Core_openLimit_25 (c : Nat) (n : Nat) : Int32 → Int32 → Mem → Option (Int32 × Mem) := lpc (fc_Core_openLimit_25b c) (fun _ _ _ => none) n
theorem bc_Core_openLimit_25 {g : gC} {X : Cxt} {r : Int32} {C' : Mem} {c : Nat} (hc : cC c) (O : OkC g X cX4_openLimit 4 (some .int) RX4 1 0 (cQi g r C')) : ∀ (n : Nat) (x1 : Int32) (x2 : Int32) (C : Mem), fc_Core_openLimit_25 c n x1 x2 C = some (r, C') → V X 4 0 (WdC g C) 25 [(0, .ref (gCa g c)), (1, .int x1), (2, .int x2)] [] := by
  intro n
  induction n with
  | zero =>
    intro x1 x2 C h
    cases h
  | succ n ih =>
    intro x1 x2 C h
    exact bc_Core_openLimit_25b hc O ih x1 x2 C h
def fc_Core_openLimit_22 (c : Nat) (y0 : Int32) (C : Mem) : Option (Int32 × Mem) :=
  fc_Core_openLimit_25 c 600 y0 0 C
set_option maxHeartbeats 4000000 in
theorem bc_Core_openLimit_22 {g : gC} {X : Cxt} {r : Int32} {C' : Mem} {c : Nat} (hc : cC c) (O : OkC g X cX4_openLimit 4 (some .int) RX4 1 0 (cQi g r C')) (y0 : Int32) (C : Mem) (h : fc_Core_openLimit_22 c y0 C = some (r, C')) : V X 4 0 (WdC g C) 22 [(0, .ref (gCa g c))] [.int y0] := by
  unfold fc_Core_openLimit_22 at h
  refine v_istore_n (lv' := [(1, .int y0), (0, .ref (gCa g c))]) O.1 dX4_openLimit_22 (by decide) rfl (q := 23) rfl ?_
  refine v_iconst O.1 dX4_openLimit_23 (v := 0) rfl (q := 24) rfl ?_
  refine v_istore_n (lv' := [(2, .int 0), (1, .int y0), (0, .ref (gCa g c))]) O.1 dX4_openLimit_24 (by decide) rfl (q := 25) rfl ?_
  exact v_sub [2, 1, 0] rfl (bc_Core_openLimit_25 hc O 600 y0 0 C h)
def fc_Core_openLimit (c : Nat)  (C : Mem) : Option (Int32 × Mem) :=
  if (C c 35) ≤ 0 then
    fc_Core_openLimit_22 c 256 C
  else
    fc_Core_openLimit_22 c ((C c 35) >>> ((C c 34) &&& 31)) C
set_option maxHeartbeats 4000000 in
theorem bc_Core_openLimit {g : gC} {X : Cxt} {r : Int32} {C' : Mem} {c : Nat} (hc : cC c) (O : OkC g X cX4_openLimit 4 (some .int) RX4 1 0 (cQi g r C'))  (C : Mem) (h : fc_Core_openLimit c  C = some (r, C')) : V X 4 0 (WdC g C) 0 [(0, .ref (gCa g c))] [] := by
  unfold fc_Core_openLimit at h
  refine v_aload_n O.1 dX4_openLimit_0 rfl (q := 1) rfl ?_
  refine c_getC O hc 35 (v := .int (C c 35)) (by decide) (O.lk q900) rfl (fun _ => rfl) dX4_openLimit_1 (q := 4) rfl ?_
  refine v_if_le O.1 dX4_openLimit_4 (t := 19) (by decide) (q := 7) rfl (fun c1 => ?_) (fun c1 => ?_)
  · rw [if_pos c1] at h
    refine v_sipush O.1 dX4_openLimit_19 (v := 256) (by decide) (q := 22) rfl ?_
    exact v_sub [0] rfl (bc_Core_openLimit_22 hc O 256 C h)
  · rw [if_neg c1] at h
    refine v_aload_n O.1 dX4_openLimit_7 rfl (q := 8) rfl ?_
    refine c_getC O hc 35 (v := .int (C c 35)) (by decide) (O.lk q900) rfl (fun _ => rfl) dX4_openLimit_8 (q := 11) rfl ?_
    refine v_aload_n O.1 dX4_openLimit_11 rfl (q := 12) rfl ?_
    refine c_getC O hc 34 (v := .int (C c 34)) (by decide) (O.lk q897) rfl (fun _ => rfl) dX4_openLimit_12 (q := 15) rfl ?_
    refine v_ishr O.1 dX4_openLimit_15 (q := 16) rfl ?_
    refine v_goto O.1 dX4_openLimit_16 (t := 22) (by decide) ?_
    exact v_sub [0] rfl (bc_Core_openLimit_22 hc O ((C c 35) >>> ((C c 34) &&& 31)) C h)
theorem metc_Core_openLimit (l : Launch) (g : gC) (c : Nat) (hc : cC c) (C C' : Mem) (r : Int32) (h : fc_Core_openLimit c C = some (r, C')) : MetC l g yX4_openLimit cX4_openLimit 4 (some .int) 1 0 [.ref (gCa g c)] C (cQi g r C') :=
  c_met (by decide) rfl (Nat.le_of_ble_eq_true rfl) (fun X O => bc_Core_openLimit hc O C h)
/-! RankEntry$Core.limit()I -/
def fc_Core_limit_22 (c : Nat) (y0 : Int32) (C : Mem) : Option (Int32 × Mem) :=
  some (y0, C)
set_option maxHeartbeats 4000000 in
theorem bc_Core_limit_22 {g : gC} {X : Cxt} {r : Int32} {C' : Mem} {c : Nat} (hc : cC c) (O : OkC g X cX4_limit 2 (some .int) RX4 2 0 (cQi g r C')) (y0 : Int32) (C : Mem) (h : fc_Core_limit_22 c y0 C = some (r, C')) : V X 2 0 (WdC g C) 22 [] [.int y0] := by
  unfold fc_Core_limit_22 at h
  exact c_iret O h dX4_limit_22
def fc_Core_limit_21 (c : Nat) (x1 : Int32) (C : Mem) : Option (Int32 × Mem) :=
  fc_Core_limit_22 c x1 C
set_option maxHeartbeats 4000000 in
theorem bc_Core_limit_21 {g : gC} {X : Cxt} {r : Int32} {C' : Mem} {c : Nat} (hc : cC c) (O : OkC g X cX4_limit 2 (some .int) RX4 2 0 (cQi g r C')) (x1 : Int32) (C : Mem) (h : fc_Core_limit_21 c x1 C = some (r, C')) : V X 2 0 (WdC g C) 21 [(1, .int x1)] [] := by
  unfold fc_Core_limit_21 at h
  refine v_iload_n O.1 dX4_limit_21 rfl (q := 22) rfl ?_
  exact v_sub [] rfl (bc_Core_limit_22 hc O x1 C h)
def fc_Core_limit (c : Nat)  (C : Mem) : Option (Int32 × Mem) :=
  bnd (fc_Core_openLimit c C) fun r1 C1 =>
  if (C1 c 36) = 1 then
    if r1 ≤ 0 then
      fc_Core_limit_21 c r1 C1
    else
      fc_Core_limit_22 c 0 C1
  else
    fc_Core_limit_21 c r1 C1
set_option maxHeartbeats 4000000 in
theorem bc_Core_limit {g : gC} {X : Cxt} {r : Int32} {C' : Mem} {c : Nat} (hc : cC c) (O : OkC g X cX4_limit 2 (some .int) RX4 2 0 (cQi g r C'))  (C : Mem) (h : fc_Core_limit c  C = some (r, C')) : V X 2 0 (WdC g C) 0 [(0, .ref (gCa g c))] [] := by
  unfold fc_Core_limit at h
  refine v_aload_n O.1 dX4_limit_0 rfl (q := 1) rfl ?_
  obtain ⟨r1, C1, e1, h⟩ := bnd_some h
  refine c_callVi (As := []) (rest := []) (n := 0) (ci := 2) (p := (RX4, TX4, 55)) O (cC_lt (j := 0) hc (by decide)) rfl (fun _ _ => ⟨_, cCell_core hc⟩) (metc_Core_openLimit _ g c hc C C1 r1 e1) (lw_V q212 q213 q214 q63 q215) (by decide +kernel) (by decide) (by decide) rfl rfl (Nat.le_of_ble_eq_true rfl) dX4_limit_1 (q := 4) rfl (b' := 0) rfl ?_
  refine v_istore_n (lv' := [(1, .int r1), (0, .ref (gCa g c))]) O.1 dX4_limit_4 (by decide) rfl (q := 5) rfl ?_
  refine v_aload_n O.1 dX4_limit_5 rfl (q := 6) rfl ?_
  refine c_getC O hc 36 (v := .int (C1 c 36)) (by decide) (O.lk q903) rfl (fun _ => rfl) dX4_limit_6 (q := 9) rfl ?_
  refine v_iconst O.1 dX4_limit_9 (v := 1) rfl (q := 10) rfl ?_
  refine v_icmp_ne O.1 dX4_limit_10 (t := 21) (by decide) (q := 13) rfl (fun c2 => ?_) (fun c2 => ?_)
  · rw [if_neg c2] at h
    exact v_sub [0] rfl (bc_Core_limit_21 hc O r1 C1 h)
  · rw [if_pos c2] at h
    refine v_iload_n O.1 dX4_limit_13 rfl (q := 14) rfl ?_
    refine v_if_le O.1 dX4_limit_14 (t := 21) (by decide) (q := 17) rfl (fun c3 => ?_) (fun c3 => ?_)
    · rw [if_pos c3] at h
      exact v_sub [0] rfl (bc_Core_limit_21 hc O r1 C1 h)
    · rw [if_neg c3] at h
      refine v_iconst O.1 dX4_limit_17 (v := 0) rfl (q := 18) rfl ?_
      refine v_goto O.1 dX4_limit_18 (t := 22) (by decide) ?_
      exact v_sub [] rfl (bc_Core_limit_22 hc O 0 C1 h)
theorem metc_Core_limit (l : Launch) (g : gC) (c : Nat) (hc : cC c) (C C' : Mem) (r : Int32) (h : fc_Core_limit c C = some (r, C')) : MetC l g yX4_limit cX4_limit 2 (some .int) 2 0 [.ref (gCa g c)] C (cQi g r C') :=
  c_met (by decide) rfl (Nat.le_of_ble_eq_true rfl) (fun X O => bc_Core_limit hc O C h)
/-! RankEntry$Core.canBelow(LRankEntry$Source;I)Z -/
def fc_Core_canBelow_31 (c : Nat) (o1 : Nat) (y0 : Int32) (C : Mem) : Option (Int32 × Mem) :=
  gd (isB y0) <|
  some (y0, C)
set_option maxHeartbeats 4000000 in
theorem bc_Core_canBelow_31 {g : gC} {X : Cxt} {r : Int32} {C' : Mem} {c : Nat} {o1 : Nat} (hc : cC c) (hs1 : cS o1) (O : OkC g X cX4_canBelow 3 (some .boolean) RX4 1 0 (cQi g r C')) (y0 : Int32) (C : Mem) (h : fc_Core_canBelow_31 c o1 y0 C = some (r, C')) : V X 3 0 (WdC g C) 31 [] [.int y0] := by
  unfold fc_Core_canBelow_31 at h
  obtain ⟨g1, h⟩ := gd_some h
  exact c_zret O g1 h dX4_canBelow_31
def fc_Core_canBelow_30 (c : Nat) (o1 : Nat)  (C : Mem) : Option (Int32 × Mem) :=
  fc_Core_canBelow_31 c o1 0 C
set_option maxHeartbeats 4000000 in
theorem bc_Core_canBelow_30 {g : gC} {X : Cxt} {r : Int32} {C' : Mem} {c : Nat} {o1 : Nat} (hc : cC c) (hs1 : cS o1) (O : OkC g X cX4_canBelow 3 (some .boolean) RX4 1 0 (cQi g r C'))  (C : Mem) (h : fc_Core_canBelow_30 c o1  C = some (r, C')) : V X 3 0 (WdC g C) 30 [] [] := by
  unfold fc_Core_canBelow_30 at h
  refine v_iconst O.1 dX4_canBelow_30 (v := 0) rfl (q := 31) rfl ?_
  exact v_sub [] rfl (bc_Core_canBelow_31 hc hs1 O 0 C h)
def fc_Core_canBelow (c : Nat) (o1 : Nat) (x2 : Int32) (C : Mem) : Option (Int32 × Mem) :=
  if (C o1 4) = 0 then
    fc_Core_canBelow_30 c o1 C
  else
    if (C o1 3) = 0 then
      fc_Core_canBelow_30 c o1 C
    else
      bnd (fv_group o1 (C c 34) C) fun r3 C3 =>
      if x2 ≤ r3 then
        fc_Core_canBelow_30 c o1 C3
      else
        fc_Core_canBelow_31 c o1 1 C3
set_option maxHeartbeats 4000000 in
theorem bc_Core_canBelow {g : gC} {X : Cxt} {r : Int32} {C' : Mem} {c : Nat} {o1 : Nat} (hc : cC c) (hs1 : cS o1) (O : OkC g X cX4_canBelow 3 (some .boolean) RX4 1 0 (cQi g r C')) (x2 : Int32) (C : Mem) (h : fc_Core_canBelow c o1 x2 C = some (r, C')) : V X 3 0 (WdC g C) 0 [(0, .ref (gCa g c)), (1, .ref (gCa g o1)), (2, .int x2)] [] := by
  unfold fc_Core_canBelow at h
  refine v_aload_n O.1 dX4_canBelow_0 rfl (q := 1) rfl ?_
  refine c_getS O hs1 4 (by decide) (O.lk q747) rfl rfl rfl rfl (v := .int (C o1 4)) rfl dX4_canBelow_1 (q := 4) rfl ?_
  refine v_if_eq O.1 dX4_canBelow_4 (t := 30) (by decide) (q := 7) rfl (fun c1 => ?_) (fun c1 => ?_)
  · rw [if_pos c1] at h
    exact v_sub [] rfl (bc_Core_canBelow_30 hc hs1 O C h)
  · rw [if_neg c1] at h
    refine v_aload_n O.1 dX4_canBelow_7 rfl (q := 8) rfl ?_
    refine c_getS O hs1 3 (by decide) (O.lk q745) rfl rfl rfl rfl (v := .int (C o1 3)) rfl dX4_canBelow_8 (q := 11) rfl ?_
    refine v_if_eq O.1 dX4_canBelow_11 (t := 30) (by decide) (q := 14) rfl (fun c2 => ?_) (fun c2 => ?_)
    · rw [if_pos c2] at h
      exact v_sub [] rfl (bc_Core_canBelow_30 hc hs1 O C h)
    · rw [if_neg c2] at h
      refine v_aload_n O.1 dX4_canBelow_14 rfl (q := 15) rfl ?_
      refine v_aload_n O.1 dX4_canBelow_15 rfl (q := 16) rfl ?_
      refine c_getC O hc 34 (v := .int (C c 34)) (by decide) (O.lk q897) rfl (fun _ => rfl) dX4_canBelow_16 (q := 19) rfl ?_
      obtain ⟨r3, C3, e3, h⟩ := bnd_some h
      refine c_v_group (rest := []) O hs1 e3 q216 (by decide) rfl (Nat.le_of_ble_eq_true rfl) dX4_canBelow_19 (q := 22) rfl ?_
      refine v_iload_n O.1 dX4_canBelow_22 rfl (q := 23) rfl ?_
      refine v_icmp_ge O.1 dX4_canBelow_23 (t := 30) (by decide) (q := 26) rfl (fun c4 => ?_) (fun c4 => ?_)
      · rw [if_pos c4] at h
        exact v_sub [] rfl (bc_Core_canBelow_30 hc hs1 O C3 h)
      · rw [if_neg c4] at h
        refine v_iconst O.1 dX4_canBelow_26 (v := 1) rfl (q := 27) rfl ?_
        refine v_goto O.1 dX4_canBelow_27 (t := 31) (by decide) ?_
        exact v_sub [] rfl (bc_Core_canBelow_31 hc hs1 O 1 C3 h)
theorem metc_Core_canBelow (l : Launch) (g : gC) (c : Nat) (hc : cC c) (o1 : Nat) (hs1 : cS o1) (x2 : Int32) (C C' : Mem) (r : Int32) (h : fc_Core_canBelow c o1 x2 C = some (r, C')) : MetC l g yX4_canBelow cX4_canBelow 3 (some .boolean) 1 0 [.ref (gCa g c), .ref (gCa g o1), .int x2] C (cQi g r C') :=
  c_met (by decide) rfl (Nat.le_of_ble_eq_true rfl) (fun X O => bc_Core_canBelow hc hs1 O x2 C h)
/-! RankEntry$Core.can(I)Z -/
def fc_Core_can (c : Nat) (x1 : Int32) (C : Mem) : Option (Int32 × Mem) :=
  gd (inb x1 21) <|
  bnd (fc_Core_limit c C) fun r2 C2 =>
  bnd (fc_Core_canBelow c (c + 22 + x1.toNatClampNeg) r2 C2) fun r3 C3 =>
  gd (isB r3) <|
  some (r3, C3)
set_option maxHeartbeats 4000000 in
theorem bc_Core_can {g : gC} {X : Cxt} {r : Int32} {C' : Mem} {c : Nat} (hc : cC c) (O : OkC g X cX4_can 2 (some .boolean) RX4 3 0 (cQi g r C')) (x1 : Int32) (C : Mem) (h : fc_Core_can c x1 C = some (r, C')) : V X 2 0 (WdC g C) 0 [(0, .ref (gCa g c)), (1, .int x1)] [] := by
  unfold fc_Core_can at h
  refine v_aload_n O.1 dX4_can_0 rfl (q := 1) rfl ?_
  refine v_aload_n O.1 dX4_can_1 rfl (q := 2) rfl ?_
  refine c_getC O hc 7 (v := .ref (gCa g (c + 5))) (by decide) (O.lk q848) rfl (fun _ => rfl) dX4_can_2 (q := 5) rfl ?_
  refine v_iload_n O.1 dX4_can_5 rfl (q := 6) rfl ?_
  obtain ⟨g1, h⟩ := gd_some h
  refine c_all O hc g1 rfl (j := x1.toNatClampNeg) dX4_can_6 (q := 7) rfl ?_
  refine v_aload_n O.1 dX4_can_7 rfl (q := 8) rfl ?_
  obtain ⟨r2, C2, e2, h⟩ := bnd_some h
  refine c_callVi (As := []) (rest := [.ref (gCa g (c + 22 + x1.toNatClampNeg)), .ref (gCa g c)]) (n := 0) (ci := 2) (p := (RX4, TX4, 55)) O (cC_lt (j := 0) hc (by decide)) rfl (fun _ _ => ⟨_, cCell_core hc⟩) (metc_Core_limit _ g c hc C C2 r2 e2) (lw_V q208 q209 q210 q63 q211) (by decide +kernel) (by decide) (by decide) rfl rfl (Nat.le_of_ble_eq_true rfl) dX4_can_8 (q := 11) rfl (b' := 0) rfl ?_
  obtain ⟨r3, C3, e3, h⟩ := bnd_some h
  refine c_callVi (As := [.ref (gCa g (c + 22 + x1.toNatClampNeg)), .int r2]) (rest := []) (n := 2) (ci := 2) (p := (RX4, TX4, 55)) O (cC_lt (j := 0) hc (by decide)) rfl (fun _ _ => ⟨_, cCell_core hc⟩) (metc_Core_canBelow _ g c hc (c + 22 + x1.toNatClampNeg) (cS_of hc (inb_lt g1)) r2 C2 C3 r3 e3) (lw_V q230 q232 qs2 q63 q233) (by decide +kernel) (by decide) (by decide) rfl rfl (Nat.le_of_ble_eq_true rfl) dX4_can_11 (q := 14) rfl (b' := 0) rfl ?_
  obtain ⟨g4, h⟩ := gd_some h
  exact c_zret O g4 h dX4_can_14
theorem metc_Core_can (l : Launch) (g : gC) (c : Nat) (hc : cC c) (x1 : Int32) (C C' : Mem) (r : Int32) (h : fc_Core_can c x1 C = some (r, C')) : MetC l g yX4_can cX4_can 2 (some .boolean) 3 0 [.ref (gCa g c), .int x1] C (cQi g r C') :=
  c_met (by decide) rfl (Nat.le_of_ble_eq_true rfl) (fun X O => bc_Core_can hc O x1 C h)
/-! RankEntry$Core.becoming(I)I -/
def fc_Core_becoming_61 (c : Nat) (y0 : Int32) (C : Mem) : Option (Int32 × Mem) :=
  some (y0, C)
set_option maxHeartbeats 4000000 in
theorem bc_Core_becoming_61 {g : gC} {X : Cxt} {r : Int32} {C' : Mem} {c : Nat} (hc : cC c) (O : OkC g X cX4_becoming 3 (some .int) RX4 3 0 (cQi g r C')) (y0 : Int32) (C : Mem) (h : fc_Core_becoming_61 c y0 C = some (r, C')) : V X 3 0 (WdC g C) 61 [] [.int y0] := by
  unfold fc_Core_becoming_61 at h
  exact c_iret O h dX4_becoming_61
def fc_Core_becoming_54 (c : Nat)  (C : Mem) : Option (Int32 × Mem) :=
  fc_Core_becoming_61 c (-2) C
set_option maxHeartbeats 4000000 in
theorem bc_Core_becoming_54 {g : gC} {X : Cxt} {r : Int32} {C' : Mem} {c : Nat} (hc : cC c) (O : OkC g X cX4_becoming 3 (some .int) RX4 3 0 (cQi g r C'))  (C : Mem) (h : fc_Core_becoming_54 c  C = some (r, C')) : V X 3 0 (WdC g C) 54 [] [] := by
  unfold fc_Core_becoming_54 at h
  refine v_bipush O.1 dX4_becoming_54 (v := (-2)) (by decide) (q := 56) rfl ?_
  refine v_goto O.1 dX4_becoming_56 (t := 61) (by decide) ?_
  exact v_sub [] rfl (bc_Core_becoming_61 hc O (-2) C h)
def fc_Core_becoming_33 (c : Nat)  (C : Mem) : Option (Int32 × Mem) :=
  if (C (c + 22 + 20) 5) = 0 then
    if (C c 41) = 5 then
      fc_Core_becoming_54 c C
    else
      fc_Core_becoming_61 c 20 C
  else
    fc_Core_becoming_54 c C
set_option maxHeartbeats 4000000 in
theorem bc_Core_becoming_33 {g : gC} {X : Cxt} {r : Int32} {C' : Mem} {c : Nat} (hc : cC c) (O : OkC g X cX4_becoming 3 (some .int) RX4 3 0 (cQi g r C'))  (C : Mem) (h : fc_Core_becoming_33 c  C = some (r, C')) : V X 3 0 (WdC g C) 33 [(0, .ref (gCa g c))] [] := by
  unfold fc_Core_becoming_33 at h
  refine v_aload_n O.1 dX4_becoming_33 rfl (q := 34) rfl ?_
  refine c_getC O hc 7 (v := .ref (gCa g (c + 5))) (by decide) (O.lk q848) rfl (fun _ => rfl) dX4_becoming_34 (q := 37) rfl ?_
  refine v_bipush O.1 dX4_becoming_37 (v := 20) (by decide) (q := 39) rfl ?_
  refine c_all O hc (by decide) (by decide) (j := 20) dX4_becoming_39 (q := 40) rfl ?_
  refine c_getS O (cS_of hc (by decide)) 5 (by decide) (O.lk q752) rfl rfl rfl rfl (v := .int (C (c + 22 + 20) 5)) rfl dX4_becoming_40 (q := 43) rfl ?_
  refine v_if_ne O.1 dX4_becoming_43 (t := 54) (by decide) (q := 46) rfl (fun c1 => ?_) (fun c1 => ?_)
  · rw [if_neg c1] at h
    exact v_sub [] rfl (bc_Core_becoming_54 hc O C h)
  · rw [if_pos c1] at h
    refine v_aload_n O.1 dX4_becoming_46 rfl (q := 47) rfl ?_
    refine c_getC O hc 41 (v := .int (C c 41)) (by decide) (O.lk q913) rfl (fun _ => rfl) dX4_becoming_47 (q := 50) rfl ?_
    refine v_iconst O.1 dX4_becoming_50 (v := 5) rfl (q := 51) rfl ?_
    refine v_icmp_ne O.1 dX4_becoming_51 (t := 59) (by decide) (q := 54) rfl (fun c2 => ?_) (fun c2 => ?_)
    · rw [if_neg c2] at h
      refine v_bipush O.1 dX4_becoming_59 (v := 20) (by decide) (q := 61) rfl ?_
      exact v_sub [] rfl (bc_Core_becoming_61 hc O 20 C h)
    · rw [if_pos c2] at h
      exact v_sub [] rfl (bc_Core_becoming_54 hc O C h)
def fc_Core_becoming (c : Nat) (x1 : Int32) (C : Mem) : Option (Int32 × Mem) :=
  gd (inb x1 21) <|
  if (C (c + 22 + x1.toNatClampNeg) 3) = 0 then
    fc_Core_becoming_33 c C
  else
    bnd (fv_group (c + 22 + x1.toNatClampNeg) (C c 34) C) fun r3 C3 =>
    bnd (fc_Core_limit c C3) fun r4 C4 =>
    if r4 ≤ r3 then
      fc_Core_becoming_33 c C4
    else
      fc_Core_becoming_61 c x1 C4
set_option maxHeartbeats 4000000 in
theorem bc_Core_becoming {g : gC} {X : Cxt} {r : Int32} {C' : Mem} {c : Nat} (hc : cC c) (O : OkC g X cX4_becoming 3 (some .int) RX4 3 0 (cQi g r C')) (x1 : Int32) (C : Mem) (h : fc_Core_becoming c x1 C = some (r, C')) : V X 3 0 (WdC g C) 0 [(0, .ref (gCa g c)), (1, .int x1)] [] := by
  unfold fc_Core_becoming at h
  refine v_aload_n O.1 dX4_becoming_0 rfl (q := 1) rfl ?_
  refine c_getC O hc 7 (v := .ref (gCa g (c + 5))) (by decide) (O.lk q848) rfl (fun _ => rfl) dX4_becoming_1 (q := 4) rfl ?_
  refine v_iload_n O.1 dX4_becoming_4 rfl (q := 5) rfl ?_
  obtain ⟨g1, h⟩ := gd_some h
  refine c_all O hc g1 rfl (j := x1.toNatClampNeg) dX4_becoming_5 (q := 6) rfl ?_
  refine v_astore_n (lv' := [(2, .ref (gCa g (c + 22 + x1.toNatClampNeg))), (0, .ref (gCa g c)), (1, .int x1)]) O.1 dX4_becoming_6 (by decide) rfl (q := 7) rfl ?_
  refine v_aload_n O.1 dX4_becoming_7 rfl (q := 8) rfl ?_
  refine c_getS O (cS_of hc (inb_lt g1)) 3 (by decide) (O.lk q745) rfl rfl rfl rfl (v := .int (C (c + 22 + x1.toNatClampNeg) 3)) rfl dX4_becoming_8 (q := 11) rfl ?_
  refine v_if_eq O.1 dX4_becoming_11 (t := 33) (by decide) (q := 14) rfl (fun c2 => ?_) (fun c2 => ?_)
  · rw [if_pos c2] at h
    exact v_sub [1] rfl (bc_Core_becoming_33 hc O C h)
  · rw [if_neg c2] at h
    refine v_aload_n O.1 dX4_becoming_14 rfl (q := 15) rfl ?_
    refine v_aload_n O.1 dX4_becoming_15 rfl (q := 16) rfl ?_
    refine c_getC O hc 34 (v := .int (C c 34)) (by decide) (O.lk q897) rfl (fun _ => rfl) dX4_becoming_16 (q := 19) rfl ?_
    obtain ⟨r3, C3, e3, h⟩ := bnd_some h
    refine c_v_group (rest := []) O (cS_of hc (inb_lt g1)) e3 q216 (by decide) rfl (Nat.le_of_ble_eq_true rfl) dX4_becoming_19 (q := 22) rfl ?_
    refine v_aload_n O.1 dX4_becoming_22 rfl (q := 23) rfl ?_
    obtain ⟨r4, C4, e4, h⟩ := bnd_some h
    refine c_callVi (As := []) (rest := [.int r3]) (n := 0) (ci := 2) (p := (RX4, TX4, 55)) O (cC_lt (j := 0) hc (by decide)) rfl (fun _ _ => ⟨_, cCell_core hc⟩) (metc_Core_limit _ g c hc C3 C4 r4 e4) (lw_V q208 q209 q210 q63 q211) (by decide +kernel) (by decide) (by decide) rfl rfl (Nat.le_of_ble_eq_true rfl) dX4_becoming_23 (q := 26) rfl (b' := 0) rfl ?_
    refine v_icmp_ge O.1 dX4_becoming_26 (t := 33) (by decide) (q := 29) rfl (fun c5 => ?_) (fun c5 => ?_)
    · rw [if_pos c5] at h
      exact v_sub [1] rfl (bc_Core_becoming_33 hc O C4 h)
    · rw [if_neg c5] at h
      refine v_iload_n O.1 dX4_becoming_29 rfl (q := 30) rfl ?_
      refine v_goto O.1 dX4_becoming_30 (t := 61) (by decide) ?_
      exact v_sub [] rfl (bc_Core_becoming_61 hc O x1 C4 h)
theorem metc_Core_becoming (l : Launch) (g : gC) (c : Nat) (hc : cC c) (x1 : Int32) (C C' : Mem) (r : Int32) (h : fc_Core_becoming c x1 C = some (r, C')) : MetC l g yX4_becoming cX4_becoming 3 (some .int) 3 0 [.ref (gCa g c), .int x1] C (cQi g r C') :=
  c_met (by decide) rfl (Nat.le_of_ble_eq_true rfl) (fun X O => bc_Core_becoming hc O x1 C h)
/-! RankEntry$Core.looks()I -/
def fc_Core_looks_109 (c : Nat) (y0 : Int32) (C : Mem) : Option (Int32 × Mem) :=
  some (y0, C)
set_option maxHeartbeats 4000000 in
theorem bc_Core_looks_109 {g : gC} {X : Cxt} {r : Int32} {C' : Mem} {c : Nat} (hc : cC c) (O : OkC g X cX4_looks 2 (some .int) RX4 1 0 (cQi g r C')) (y0 : Int32) (C : Mem) (h : fc_Core_looks_109 c y0 C = some (r, C')) : V X 2 0 (WdC g C) 109 [] [.int y0] := by
  unfold fc_Core_looks_109 at h
  exact c_iret O h dX4_looks_109
def fc_Core_looks_82 (c : Nat)  (C : Mem) : Option (Int32 × Mem) :=
  gd (inb ((C c 32) - 2) 96) <|
  bnd (fc_RE_within (C (c + 4) ((C c 32) - 2).toNatClampNeg) 0 511 C) fun r2 C2 =>
  if r2 = 0 then
    fc_Core_looks_109 c 18 C2
  else
    fc_Core_looks_109 c (-1) C2
set_option maxHeartbeats 4000000 in
theorem bc_Core_looks_82 {g : gC} {X : Cxt} {r : Int32} {C' : Mem} {c : Nat} (hc : cC c) (O : OkC g X cX4_looks 2 (some .int) RX4 1 0 (cQi g r C'))  (C : Mem) (h : fc_Core_looks_82 c  C = some (r, C')) : V X 2 0 (WdC g C) 82 [(0, .ref (gCa g c))] [] := by
  unfold fc_Core_looks_82 at h
  refine v_aload_n O.1 dX4_looks_82 rfl (q := 83) rfl ?_
  refine c_getC O hc 6 (v := .ref (gCa g (c + 4))) (by decide) (O.lk q844) rfl (fun _ => rfl) dX4_looks_83 (q := 86) rfl ?_
  refine v_aload_n O.1 dX4_looks_86 rfl (q := 87) rfl ?_
  refine c_getC O hc 32 (v := .int (C c 32)) (by decide) (O.lk q893) rfl (fun _ => rfl) dX4_looks_87 (q := 90) rfl ?_
  refine v_iconst O.1 dX4_looks_90 (v := 2) rfl (q := 91) rfl ?_
  refine v_isub O.1 dX4_looks_91 (q := 92) rfl ?_
  obtain ⟨g1, h⟩ := gd_some h
  refine c_iald O (cIA_stack hc) g1 rfl (j := ((C c 32) - 2).toNatClampNeg) dX4_looks_92 (q := 93) rfl ?_
  refine v_iconst O.1 dX4_looks_93 (v := 0) rfl (q := 94) rfl ?_
  refine v_sipush O.1 dX4_looks_94 (v := 511) (by decide) (q := 97) rfl ?_
  obtain ⟨r2, C2, e2, h⟩ := bnd_some h
  refine c_callSNi (As := [.int (C (c + 4) ((C c 32) - 2).toNatClampNeg), .int 0, .int 511]) (rest := []) (n := 3) O (metc_RE_within _ g (C (c + 4) ((C c 32) - 2).toNatClampNeg) 0 511 C C2 r2 e2) q655 q656 q59 q657 (by decide +kernel) (by decide) (by decide) rfl rfl (Nat.le_of_ble_eq_true rfl) dX4_looks_97 (q := 100) rfl (b' := 0) rfl ?_
  refine v_if_eq O.1 dX4_looks_100 (t := 107) (by decide) (q := 103) rfl (fun c3 => ?_) (fun c3 => ?_)
  · rw [if_pos c3] at h
    refine v_bipush O.1 dX4_looks_107 (v := 18) (by decide) (q := 109) rfl ?_
    exact v_sub [] rfl (bc_Core_looks_109 hc O 18 C2 h)
  · rw [if_neg c3] at h
    refine v_iconst O.1 dX4_looks_103 (v := (-1)) rfl (q := 104) rfl ?_
    refine v_goto O.1 dX4_looks_104 (t := 109) (by decide) ?_
    exact v_sub [] rfl (bc_Core_looks_109 hc O (-1) C2 h)
def fc_Core_looks_60 (c : Nat) (y1 : Int32) (C : Mem) : Option (Int32 × Mem) :=
  gd (isB y1) <|
  stp (up2 C c 49 y1) fun C2 =>
  if (C2 c 49) = 0 then
    fc_Core_looks_82 c C2
  else
    if 10 ≤ (C2 c 32) then
      fc_Core_looks_82 c C2
    else
      some (19, C2)
set_option maxHeartbeats 4000000 in
theorem bc_Core_looks_60 {g : gC} {X : Cxt} {r : Int32} {C' : Mem} {c : Nat} (hc : cC c) (O : OkC g X cX4_looks 2 (some .int) RX4 1 0 (cQi g r C')) (y1 : Int32) (C : Mem) (h : fc_Core_looks_60 c y1 C = some (r, C')) : V X 2 0 (WdC g C) 60 [(0, .ref (gCa g c))] [.int y1, .ref (gCa g c)] := by
  unfold fc_Core_looks_60 at h
  obtain ⟨g1, h⟩ := gd_some h
  obtain ⟨C2, e2, h⟩ := stp_some h
  refine c_putC O hc 49 (u := y1) (ty := .boolean) (by decide) (by decide) (O.lk q928) rfl rfl rfl (isB_nar g1) (isB_fit g1) (fun _ => rfl) dX4_looks_60 (q := 63) rfl e2 ?_
  refine v_aload_n O.1 dX4_looks_63 rfl (q := 64) rfl ?_
  refine c_getC O hc 49 (v := .int (C2 c 49)) (by decide) (O.lk q928) rfl (fun _ => rfl) dX4_looks_64 (q := 67) rfl ?_
  refine v_if_eq O.1 dX4_looks_67 (t := 82) (by decide) (q := 70) rfl (fun c3 => ?_) (fun c3 => ?_)
  · rw [if_pos c3] at h
    exact v_sub [0] rfl (bc_Core_looks_82 hc O C2 h)
  · rw [if_neg c3] at h
    refine v_aload_n O.1 dX4_looks_70 rfl (q := 71) rfl ?_
    refine c_getC O hc 32 (v := .int (C2 c 32)) (by decide) (O.lk q893) rfl (fun _ => rfl) dX4_looks_71 (q := 74) rfl ?_
    refine v_bipush O.1 dX4_looks_74 (v := 10) (by decide) (q := 76) rfl ?_
    refine v_icmp_ge O.1 dX4_looks_76 (t := 82) (by decide) (q := 79) rfl (fun c4 => ?_) (fun c4 => ?_)
    · rw [if_pos c4] at h
      exact v_sub [0] rfl (bc_Core_looks_82 hc O C2 h)
    · rw [if_neg c4] at h
      refine v_bipush O.1 dX4_looks_79 (v := 19) (by decide) (q := 81) rfl ?_
      exact c_iret O h dX4_looks_81
def fc_Core_looks (c : Nat)  (C : Mem) : Option (Int32 × Mem) :=
  stp (up2 C c 49 0) fun C1 =>
  if 6 ≤ (C1 c 32) then
    gd (inb ((C1 c 32) - 1) 96) <|
    bnd (fc_RE_within (C1 (c + 4) ((C1 c 32) - 1).toNatClampNeg) 23040 23047 C1) fun r4 C4 =>
    if r4 = 0 then
      some (18, C4)
    else
      if ((C1 (c + 4) ((C1 c 32) - 1).toNatClampNeg) - 23040) < 4 then
        fc_Core_looks_60 c 0 C4
      else
        fc_Core_looks_60 c 1 C4
  else
    some (19, C1)
set_option maxHeartbeats 4000000 in
theorem bc_Core_looks {g : gC} {X : Cxt} {r : Int32} {C' : Mem} {c : Nat} (hc : cC c) (O : OkC g X cX4_looks 2 (some .int) RX4 1 0 (cQi g r C'))  (C : Mem) (h : fc_Core_looks c  C = some (r, C')) : V X 2 0 (WdC g C) 0 [(0, .ref (gCa g c))] [] := by
  unfold fc_Core_looks at h
  refine v_aload_n O.1 dX4_looks_0 rfl (q := 1) rfl ?_
  refine v_iconst O.1 dX4_looks_1 (v := 0) rfl (q := 2) rfl ?_
  obtain ⟨C1, e1, h⟩ := stp_some h
  refine c_putC O hc 49 (u := 0) (ty := .boolean) (by decide) (by decide) (O.lk q928) rfl rfl rfl rfl rfl (fun _ => rfl) dX4_looks_2 (q := 5) rfl e1 ?_
  refine v_aload_n O.1 dX4_looks_5 rfl (q := 6) rfl ?_
  refine c_getC O hc 32 (v := .int (C1 c 32)) (by decide) (O.lk q893) rfl (fun _ => rfl) dX4_looks_6 (q := 9) rfl ?_
  refine v_bipush O.1 dX4_looks_9 (v := 6) (by decide) (q := 11) rfl ?_
  refine v_icmp_ge O.1 dX4_looks_11 (t := 17) (by decide) (q := 14) rfl (fun c2 => ?_) (fun c2 => ?_)
  · rw [if_pos c2] at h
    refine v_aload_n O.1 dX4_looks_17 rfl (q := 18) rfl ?_
    refine c_getC O hc 6 (v := .ref (gCa g (c + 4))) (by decide) (O.lk q844) rfl (fun _ => rfl) dX4_looks_18 (q := 21) rfl ?_
    refine v_aload_n O.1 dX4_looks_21 rfl (q := 22) rfl ?_
    refine c_getC O hc 32 (v := .int (C1 c 32)) (by decide) (O.lk q893) rfl (fun _ => rfl) dX4_looks_22 (q := 25) rfl ?_
    refine v_iconst O.1 dX4_looks_25 (v := 1) rfl (q := 26) rfl ?_
    refine v_isub O.1 dX4_looks_26 (q := 27) rfl ?_
    obtain ⟨g3, h⟩ := gd_some h
    refine c_iald O (cIA_stack hc) g3 rfl (j := ((C1 c 32) - 1).toNatClampNeg) dX4_looks_27 (q := 28) rfl ?_
    refine v_istore_n (lv' := [(1, .int (C1 (c + 4) ((C1 c 32) - 1).toNatClampNeg)), (0, .ref (gCa g c))]) O.1 dX4_looks_28 (by decide) rfl (q := 29) rfl ?_
    refine v_iload_n O.1 dX4_looks_29 rfl (q := 30) rfl ?_
    refine v_sipush O.1 dX4_looks_30 (v := 23040) (by decide) (q := 33) rfl ?_
    refine v_sipush O.1 dX4_looks_33 (v := 23047) (by decide) (q := 36) rfl ?_
    obtain ⟨r4, C4, e4, h⟩ := bnd_some h
    refine c_callSNi (As := [.int (C1 (c + 4) ((C1 c 32) - 1).toNatClampNeg), .int 23040, .int 23047]) (rest := []) (n := 3) O (metc_RE_within _ g (C1 (c + 4) ((C1 c 32) - 1).toNatClampNeg) 23040 23047 C1 C4 r4 e4) q655 q656 q59 q657 (by decide +kernel) (by decide) (by decide) rfl rfl (Nat.le_of_ble_eq_true rfl) dX4_looks_36 (q := 39) rfl (b' := 0) rfl ?_
    refine v_if_ne O.1 dX4_looks_39 (t := 45) (by decide) (q := 42) rfl (fun c5 => ?_) (fun c5 => ?_)
    · rw [if_neg c5] at h
      refine v_aload_n O.1 dX4_looks_45 rfl (q := 46) rfl ?_
      refine v_iload_n O.1 dX4_looks_46 rfl (q := 47) rfl ?_
      refine v_sipush O.1 dX4_looks_47 (v := 23040) (by decide) (q := 50) rfl ?_
      refine v_isub O.1 dX4_looks_50 (q := 51) rfl ?_
      refine v_iconst O.1 dX4_looks_51 (v := 4) rfl (q := 52) rfl ?_
      refine v_icmp_lt O.1 dX4_looks_52 (t := 59) (by decide) (q := 55) rfl (fun c6 => ?_) (fun c6 => ?_)
      · rw [if_pos c6] at h
        refine v_iconst O.1 dX4_looks_59 (v := 0) rfl (q := 60) rfl ?_
        exact v_sub [1] rfl (bc_Core_looks_60 hc O 0 C4 h)
      · rw [if_neg c6] at h
        refine v_iconst O.1 dX4_looks_55 (v := 1) rfl (q := 56) rfl ?_
        refine v_goto O.1 dX4_looks_56 (t := 60) (by decide) ?_
        exact v_sub [1] rfl (bc_Core_looks_60 hc O 1 C4 h)
    · rw [if_pos c5] at h
      refine v_bipush O.1 dX4_looks_42 (v := 18) (by decide) (q := 44) rfl ?_
      exact c_iret O h dX4_looks_44
  · rw [if_neg c2] at h
    refine v_bipush O.1 dX4_looks_14 (v := 19) (by decide) (q := 16) rfl ?_
    exact c_iret O h dX4_looks_16
theorem metc_Core_looks (l : Launch) (g : gC) (c : Nat) (hc : cC c) (C C' : Mem) (r : Int32) (h : fc_Core_looks c C = some (r, C')) : MetC l g yX4_looks cX4_looks 2 (some .int) 1 0 [.ref (gCa g c)] C (cQi g r C') :=
  c_met (by decide) rfl (Nat.le_of_ble_eq_true rfl) (fun X O => bc_Core_looks hc O C h)
/-! RankEntry$Core.saving()V -/
def fc_Core_saving (c : Nat)  (C : Mem) : Option (Unit × Mem) :=
  gd (inb (C c 42) 4) <|
  bnd (fc_Fl_floatToIntBits ((C (c + 2) (C c 42).toNatClampNeg).toUInt32) C) fun r2 C2 =>
  gd (inb ((C c 46) + (C c 42)) 96) <|
  stp (up2 C2 (c + 4) ((C c 46) + (C c 42)).toNatClampNeg r2) fun C4 =>
  stp (up2 C4 c 42 ((C4 c 42) + 1)) fun C5 =>
  if 4 ≤ (C5 c 42) then
    stp (up2 C5 c 46 (-1)) fun C7 =>
    stp (up2 C7 (c + 9) 5 ((C7 (c + 9) 5) + 1)) fun C8 =>
    bnd (fc_Core_turns c 0 C8) fun r9 C9 =>
    some ((), C9)
  else
    some ((), C5)
set_option maxHeartbeats 4000000 in
theorem bc_Core_saving {g : gC} {X : Cxt} {r : Unit} {C' : Mem} {c : Nat} (hc : cC c) (O : OkC g X cX4_saving 1 none RX4 2 0 (cQv g r C'))  (C : Mem) (h : fc_Core_saving c  C = some (r, C')) : V X 1 0 (WdC g C) 0 [(0, .ref (gCa g c))] [] := by
  unfold fc_Core_saving at h
  refine v_aload_n O.1 dX4_saving_0 rfl (q := 1) rfl ?_
  refine c_getC O hc 6 (v := .ref (gCa g (c + 4))) (by decide) (O.lk q844) rfl (fun _ => rfl) dX4_saving_1 (q := 4) rfl ?_
  refine v_aload_n O.1 dX4_saving_4 rfl (q := 5) rfl ?_
  refine c_getC O hc 46 (v := .int (C c 46)) (by decide) (O.lk q924) rfl (fun _ => rfl) dX4_saving_5 (q := 8) rfl ?_
  refine v_aload_n O.1 dX4_saving_8 rfl (q := 9) rfl ?_
  refine c_getC O hc 42 (v := .int (C c 42)) (by decide) (O.lk q915) rfl (fun _ => rfl) dX4_saving_9 (q := 12) rfl ?_
  refine v_iadd O.1 dX4_saving_12 (q := 13) rfl ?_
  refine v_aload_n O.1 dX4_saving_13 rfl (q := 14) rfl ?_
  refine c_getC O hc 4 (v := .ref (gCa g (c + 2))) (by decide) (O.lk q835) rfl (fun _ => rfl) dX4_saving_14 (q := 17) rfl ?_
  refine v_aload_n O.1 dX4_saving_17 rfl (q := 18) rfl ?_
  refine c_getC O hc 42 (v := .int (C c 42)) (by decide) (O.lk q915) rfl (fun _ => rfl) dX4_saving_18 (q := 21) rfl ?_
  obtain ⟨g1, h⟩ := gd_some h
  refine c_fald O hc g1 rfl (j := (C c 42).toNatClampNeg) dX4_saving_21 (q := 22) rfl ?_
  obtain ⟨r2, C2, e2, h⟩ := bnd_some h
  refine c_callSi (As := [.float ((C (c + 2) (C c 42).toNatClampNeg).toUInt32)]) (rest := [.int ((C c 46) + (C c 42)), .ref (gCa g (c + 4))]) (n := 1) O (metc_Fl_floatToIntBits _ g ((C (c + 2) (C c 42).toNatClampNeg).toUInt32) C C2 r2 e2) (lw_S q409 q410 q71 q411) (by decide +kernel) (by decide) (by decide) rfl rfl (Nat.le_of_ble_eq_true rfl) dX4_saving_22 (q := 25) rfl (b' := 0) rfl ?_
  obtain ⟨g3, h⟩ := gd_some h
  obtain ⟨C4, e4, h⟩ := stp_some h
  refine c_iast O (cIA_stack hc) g3 rfl (j := ((C c 46) + (C c 42)).toNatClampNeg) dX4_saving_25 (q := 26) rfl e4 ?_
  refine v_aload_n O.1 dX4_saving_26 rfl (q := 27) rfl ?_
  refine v_dup O.1 dX4_saving_27 rfl (q := 28) rfl ?_
  refine c_getC O hc 42 (v := .int (C4 c 42)) (by decide) (O.lk q915) rfl (fun _ => rfl) dX4_saving_28 (q := 31) rfl ?_
  refine v_iconst O.1 dX4_saving_31 (v := 1) rfl (q := 32) rfl ?_
  refine v_iadd O.1 dX4_saving_32 (q := 33) rfl ?_
  obtain ⟨C5, e5, h⟩ := stp_some h
  refine c_putC O hc 42 (u := ((C4 c 42) + 1)) (ty := .int) (by decide) (by decide) (O.lk q915) rfl rfl rfl rfl rfl (fun _ => rfl) dX4_saving_33 (q := 36) rfl e5 ?_
  refine v_aload_n O.1 dX4_saving_36 rfl (q := 37) rfl ?_
  refine c_getC O hc 42 (v := .int (C5 c 42)) (by decide) (O.lk q915) rfl (fun _ => rfl) dX4_saving_37 (q := 40) rfl ?_
  refine v_iconst O.1 dX4_saving_40 (v := 4) rfl (q := 41) rfl ?_
  refine v_icmp_ge O.1 dX4_saving_41 (t := 45) (by decide) (q := 44) rfl (fun c6 => ?_) (fun c6 => ?_)
  · rw [if_pos c6] at h
    refine v_aload_n O.1 dX4_saving_45 rfl (q := 46) rfl ?_
    refine v_iconst O.1 dX4_saving_46 (v := (-1)) rfl (q := 47) rfl ?_
    obtain ⟨C7, e7, h⟩ := stp_some h
    refine c_putC O hc 46 (u := (-1)) (ty := .int) (by decide) (by decide) (O.lk q924) rfl rfl rfl rfl rfl (fun _ => rfl) dX4_saving_47 (q := 50) rfl e7 ?_
    refine v_aload_n O.1 dX4_saving_50 rfl (q := 51) rfl ?_
    refine c_getC O hc 11 (v := .ref (gCa g (c + 9))) (by decide) (O.lk q858) rfl (fun _ => rfl) dX4_saving_51 (q := 54) rfl ?_
    refine v_iconst O.1 dX4_saving_54 (v := 5) rfl (q := 55) rfl ?_
    refine v_dup2 O.1 dX4_saving_55 rfl rfl (q := 56) rfl ?_
    refine c_iald O (cIA_counts hc) (by decide) (by decide) (j := 5) dX4_saving_56 (q := 57) rfl ?_
    refine v_iconst O.1 dX4_saving_57 (v := 1) rfl (q := 58) rfl ?_
    refine v_iadd O.1 dX4_saving_58 (q := 59) rfl ?_
    obtain ⟨C8, e8, h⟩ := stp_some h
    refine c_iast O (cIA_counts hc) (by decide) (by decide) (j := 5) dX4_saving_59 (q := 60) rfl e8 ?_
    refine v_aload_n O.1 dX4_saving_60 rfl (q := 61) rfl ?_
    refine v_iconst O.1 dX4_saving_61 (v := 0) rfl (q := 62) rfl ?_
    obtain ⟨r9, C9, e9, h⟩ := bnd_some h
    refine c_callVv (As := [.int 0]) (rest := []) (n := 1) (ci := 2) (p := (RX4, TX4, 55)) O (cC_lt (j := 0) hc (by decide)) rfl (fun _ _ => ⟨_, cCell_core hc⟩) (metc_Core_turns _ g c hc 0 C8 C9 r9 e9) (lw_V q238 q239 q240 q63 q241) (by decide +kernel) (by decide) (by decide) rfl rfl (Nat.le_of_ble_eq_true rfl) dX4_saving_62 (q := 65) rfl (b' := 0) rfl ?_
    exact c_vret O h dX4_saving_65
  · rw [if_neg c6] at h
    exact c_vret O h dX4_saving_44
theorem metc_Core_saving (l : Launch) (g : gC) (c : Nat) (hc : cC c) (C C' : Mem) (r : Unit) (h : fc_Core_saving c C = some (r, C')) : MetC l g yX4_saving cX4_saving 1 none 2 0 [.ref (gCa g c)] C (cQv g r C') :=
  c_met (by decide) rfl (Nat.le_of_ble_eq_true rfl) (fun X O => bc_Core_saving hc O C h)
/-! RankEntry$Core.number(I)F -/
def fc_Core_number_94 (y0 : UInt32) (C : Mem) : Option (UInt32 × Mem) :=
  some (y0, C)
set_option maxHeartbeats 4000000 in
theorem bc_Core_number_94 {g : gC} {X : Cxt} {r : UInt32} {C' : Mem} (O : OkC g X cX4_number 5 (some .float) RX4 0 0 (cQf g r C')) (y0 : UInt32) (C : Mem) (h : fc_Core_number_94 y0 C = some (r, C')) : V X 5 0 (WdC g C) 94 [] [.float y0] := by
  unfold fc_Core_number_94 at h
  exact c_fret O h dX4_number_94
def fc_Core_number_69b (K69 : Int32 → UInt32 → Int32 → Mem → Option (UInt32 × Mem)) (x0 : Int32) (x3 : UInt32) (x4 : Int32) (C : Mem) : Option (UInt32 × Mem) :=
  if 0 ≤ x4 then
    if 0 ≤ x0 then
      fc_Core_number_94 x3 C
    else
      fc_Core_number_94 (FP.fneg x3) C
  else
    gd (n32 (FP.fdiv x3 FP.fconst2)) <|
    K69 x0 (FP.fdiv x3 FP.fconst2) (x4 + 1) C
set_option maxHeartbeats 4000000 in
theorem bc_Core_number_69b {g : gC} {X : Cxt} {r : UInt32} {C' : Mem} (O : OkC g X cX4_number 5 (some .float) RX4 0 0 (cQf g r C')) {K69 : Int32 → UInt32 → Int32 → Mem → Option (UInt32 × Mem)} (hK69 : ∀ (x0 : Int32) (x3 : UInt32) (x4 : Int32) (C : Mem), K69 x0 x3 x4 C = some (r, C') → V X 5 0 (WdC g C) 69 [(0, .int x0), (3, .float x3), (4, .int x4)] []) (x0 : Int32) (x3 : UInt32) (x4 : Int32) (C : Mem) (h : fc_Core_number_69b K69 x0 x3 x4 C = some (r, C')) : V X 5 0 (WdC g C) 69 [(0, .int x0), (3, .float x3), (4, .int x4)] [] := by
  unfold fc_Core_number_69b at h
  refine v_iload O.1 dX4_number_69 rfl (q := 71) rfl ?_
  refine v_if_ge O.1 dX4_number_71 (t := 84) (by decide) (q := 74) rfl (fun c1 => ?_) (fun c1 => ?_)
  · rw [if_pos c1] at h
    refine v_iload_n O.1 dX4_number_84 rfl (q := 85) rfl ?_
    refine v_if_ge O.1 dX4_number_85 (t := 93) (by decide) (q := 88) rfl (fun c2 => ?_) (fun c2 => ?_)
    · rw [if_pos c2] at h
      refine v_fload_n O.1 dX4_number_93 rfl (q := 94) rfl ?_
      exact v_sub [] rfl (bc_Core_number_94 O x3 C h)
    · rw [if_neg c2] at h
      refine v_fload_n O.1 dX4_number_88 rfl (q := 89) rfl ?_
      refine v_fneg O.1 dX4_number_89 (q := 90) rfl ?_
      refine v_goto O.1 dX4_number_90 (t := 94) (by decide) ?_
      exact v_sub [] rfl (bc_Core_number_94 O (FP.fneg x3) C h)
  · rw [if_neg c1] at h
    refine v_fload_n O.1 dX4_number_74 rfl (q := 75) rfl ?_
    refine v_fconst2 O.1 dX4_number_75 (q := 76) rfl ?_
    obtain ⟨g3, h⟩ := gd_some h
    refine v_fdiv O.1 dX4_number_76 (n32_n g3) (q := 77) rfl ?_
    refine v_fstore_n (lv' := [(3, .float (FP.fdiv x3 FP.fconst2)), (0, .int x0), (4, .int x4)]) O.1 dX4_number_77 (by decide) rfl (q := 78) rfl ?_
    refine v_iinc (lv' := [(4, .int (x4 + 1)), (3, .float (FP.fdiv x3 FP.fconst2)), (0, .int x0)]) (v := (x4 + 1)) O.1 dX4_number_78 rfl rfl (by decide) rfl (q := 81) rfl ?_
    refine v_goto O.1 dX4_number_81 (t := 69) (by decide) ?_
    exact v_sub [2, 1, 0] rfl (hK69 x0 (FP.fdiv x3 FP.fconst2) (x4 + 1) C h)
def fc_Core_number_69 (n : Nat) : Int32 → UInt32 → Int32 → Mem → Option (UInt32 × Mem) := lpc (fc_Core_number_69b) (fun _ _ _ _ => none) n
theorem bc_Core_number_69 {g : gC} {X : Cxt} {r : UInt32} {C' : Mem} (O : OkC g X cX4_number 5 (some .float) RX4 0 0 (cQf g r C')) : ∀ (n : Nat) (x0 : Int32) (x3 : UInt32) (x4 : Int32) (C : Mem), fc_Core_number_69 n x0 x3 x4 C = some (r, C') → V X 5 0 (WdC g C) 69 [(0, .int x0), (3, .float x3), (4, .int x4)] [] := by
  intro n
  induction n with
  | zero =>
    intro x0 x3 x4 C h
    cases h
  | succ n ih =>
    intro x0 x3 x4 C h
    exact bc_Core_number_69b O ih x0 x3 x4 C h
def fc_Core_number_54b (K54 : Int32 → UInt32 → Int32 → Mem → Option (UInt32 × Mem)) (x0 : Int32) (x3 : UInt32) (x4 : Int32) (C : Mem) : Option (UInt32 × Mem) :=
  if x4 ≤ 0 then
    fc_Core_number_69 600 x0 x3 x4 C
  else
    gd (n32 (FP.fmul x3 FP.fconst2)) <|
    K54 x0 (FP.fmul x3 FP.fconst2) (x4 + (-1)) C
set_option maxHeartbeats 4000000 in
theorem bc_Core_number_54b {g : gC} {X : Cxt} {r : UInt32} {C' : Mem} (O : OkC g X cX4_number 5 (some .float) RX4 0 0 (cQf g r C')) {K54 : Int32 → UInt32 → Int32 → Mem → Option (UInt32 × Mem)} (hK54 : ∀ (x0 : Int32) (x3 : UInt32) (x4 : Int32) (C : Mem), K54 x0 x3 x4 C = some (r, C') → V X 5 0 (WdC g C) 54 [(0, .int x0), (3, .float x3), (4, .int x4)] []) (x0 : Int32) (x3 : UInt32) (x4 : Int32) (C : Mem) (h : fc_Core_number_54b K54 x0 x3 x4 C = some (r, C')) : V X 5 0 (WdC g C) 54 [(0, .int x0), (3, .float x3), (4, .int x4)] [] := by
  unfold fc_Core_number_54b at h
  refine v_iload O.1 dX4_number_54 rfl (q := 56) rfl ?_
  refine v_if_le O.1 dX4_number_56 (t := 69) (by decide) (q := 59) rfl (fun c1 => ?_) (fun c1 => ?_)
  · rw [if_pos c1] at h
    exact v_sub [0, 1, 2] rfl (bc_Core_number_69 O 600 x0 x3 x4 C h)
  · rw [if_neg c1] at h
    refine v_fload_n O.1 dX4_number_59 rfl (q := 60) rfl ?_
    refine v_fconst2 O.1 dX4_number_60 (q := 61) rfl ?_
    obtain ⟨g2, h⟩ := gd_some h
    refine v_fmul O.1 dX4_number_61 (n32_n g2) (q := 62) rfl ?_
    refine v_fstore_n (lv' := [(3, .float (FP.fmul x3 FP.fconst2)), (0, .int x0), (4, .int x4)]) O.1 dX4_number_62 (by decide) rfl (q := 63) rfl ?_
    refine v_iinc (lv' := [(4, .int (x4 + (-1))), (3, .float (FP.fmul x3 FP.fconst2)), (0, .int x0)]) (v := (x4 + (-1))) O.1 dX4_number_63 rfl rfl (by decide) rfl (q := 66) rfl ?_
    refine v_goto O.1 dX4_number_66 (t := 54) (by decide) ?_
    exact v_sub [2, 1, 0] rfl (hK54 x0 (FP.fmul x3 FP.fconst2) (x4 + (-1)) C h)
def fc_Core_number_54 (n : Nat) : Int32 → UInt32 → Int32 → Mem → Option (UInt32 × Mem) := lpc (fc_Core_number_54b) (fun _ _ _ _ => none) n
theorem bc_Core_number_54 {g : gC} {X : Cxt} {r : UInt32} {C' : Mem} (O : OkC g X cX4_number 5 (some .float) RX4 0 0 (cQf g r C')) : ∀ (n : Nat) (x0 : Int32) (x3 : UInt32) (x4 : Int32) (C : Mem), fc_Core_number_54 n x0 x3 x4 C = some (r, C') → V X 5 0 (WdC g C) 54 [(0, .int x0), (3, .float x3), (4, .int x4)] [] := by
  intro n
  induction n with
  | zero =>
    intro x0 x3 x4 C h
    cases h
  | succ n ih =>
    intro x0 x3 x4 C h
    exact bc_Core_number_54b O ih x0 x3 x4 C h
def fc_Core_number_48 (x0 : Int32) (x3 : UInt32) (y0 : Int32) (C : Mem) : Option (UInt32 × Mem) :=
  fc_Core_number_54 600 x0 x3 (y0 - 150) C
set_option maxHeartbeats 4000000 in
theorem bc_Core_number_48 {g : gC} {X : Cxt} {r : UInt32} {C' : Mem} (O : OkC g X cX4_number 5 (some .float) RX4 0 0 (cQf g r C')) (x0 : Int32) (x3 : UInt32) (y0 : Int32) (C : Mem) (h : fc_Core_number_48 x0 x3 y0 C = some (r, C')) : V X 5 0 (WdC g C) 48 [(0, .int x0), (3, .float x3)] [.int y0] := by
  unfold fc_Core_number_48 at h
  refine v_sipush O.1 dX4_number_48 (v := 150) (by decide) (q := 51) rfl ?_
  refine v_isub O.1 dX4_number_51 (q := 52) rfl ?_
  refine v_istore (lv' := [(4, .int (y0 - 150)), (0, .int x0), (3, .float x3)]) O.1 dX4_number_52 (by decide) rfl (q := 54) rfl ?_
  exact v_sub [1, 2, 0] rfl (bc_Core_number_54 O 600 x0 x3 (y0 - 150) C h)
def fc_Core_number_37 (x0 : Int32) (x1 : Int32) (y0 : Int32) (C : Mem) : Option (UInt32 × Mem) :=
  if x1 = 0 then
    fc_Core_number_48 x0 (FP.i2f y0) 1 C
  else
    fc_Core_number_48 x0 (FP.i2f y0) x1 C
set_option maxHeartbeats 4000000 in
theorem bc_Core_number_37 {g : gC} {X : Cxt} {r : UInt32} {C' : Mem} (O : OkC g X cX4_number 5 (some .float) RX4 0 0 (cQf g r C')) (x0 : Int32) (x1 : Int32) (y0 : Int32) (C : Mem) (h : fc_Core_number_37 x0 x1 y0 C = some (r, C')) : V X 5 0 (WdC g C) 37 [(0, .int x0), (1, .int x1)] [.int y0] := by
  unfold fc_Core_number_37 at h
  refine v_i2f O.1 dX4_number_37 (q := 38) rfl ?_
  refine v_fstore_n (lv' := [(3, .float (FP.i2f y0)), (0, .int x0), (1, .int x1)]) O.1 dX4_number_38 (by decide) rfl (q := 39) rfl ?_
  refine v_iload_n O.1 dX4_number_39 rfl (q := 40) rfl ?_
  refine v_if_ne O.1 dX4_number_40 (t := 47) (by decide) (q := 43) rfl (fun c1 => ?_) (fun c1 => ?_)
  · rw [if_neg c1] at h
    refine v_iload_n O.1 dX4_number_47 rfl (q := 48) rfl ?_
    exact v_sub [1, 0] rfl (bc_Core_number_48 O x0 (FP.i2f y0) x1 C h)
  · rw [if_pos c1] at h
    refine v_iconst O.1 dX4_number_43 (v := 1) rfl (q := 44) rfl ?_
    refine v_goto O.1 dX4_number_44 (t := 48) (by decide) ?_
    exact v_sub [1, 0] rfl (bc_Core_number_48 O x0 (FP.i2f y0) 1 C h)
def fc_Core_number (x0 : Int32) (C : Mem) : Option (UInt32 × Mem) :=
  if ((x0 >>> (23 &&& 31)) &&& 255) = 255 then
    some (FP.fconst0, C)
  else
    if ((x0 >>> (23 &&& 31)) &&& 255) = 0 then
      fc_Core_number_37 x0 ((x0 >>> (23 &&& 31)) &&& 255) (x0 &&& 8388607) C
    else
      fc_Core_number_37 x0 ((x0 >>> (23 &&& 31)) &&& 255) ((x0 &&& 8388607) + 8388608) C
set_option maxHeartbeats 4000000 in
theorem bc_Core_number {g : gC} {X : Cxt} {r : UInt32} {C' : Mem} (O : OkC g X cX4_number 5 (some .float) RX4 0 0 (cQf g r C')) (x0 : Int32) (C : Mem) (h : fc_Core_number x0 C = some (r, C')) : V X 5 0 (WdC g C) 0 [(0, .int x0)] [] := by
  unfold fc_Core_number at h
  refine v_iload_n O.1 dX4_number_0 rfl (q := 1) rfl ?_
  refine v_bipush O.1 dX4_number_1 (v := 23) (by decide) (q := 3) rfl ?_
  refine v_ishr O.1 dX4_number_3 (q := 4) rfl ?_
  refine v_sipush O.1 dX4_number_4 (v := 255) (by decide) (q := 7) rfl ?_
  refine v_iand O.1 dX4_number_7 (q := 8) rfl ?_
  refine v_istore_n (lv' := [(1, .int ((x0 >>> (23 &&& 31)) &&& 255)), (0, .int x0)]) O.1 dX4_number_8 (by decide) rfl (q := 9) rfl ?_
  refine v_iload_n O.1 dX4_number_9 rfl (q := 10) rfl ?_
  refine v_sipush O.1 dX4_number_10 (v := 255) (by decide) (q := 13) rfl ?_
  refine v_icmp_ne O.1 dX4_number_13 (t := 18) (by decide) (q := 16) rfl (fun c1 => ?_) (fun c1 => ?_)
  · rw [if_neg c1] at h
    refine v_iload_n O.1 dX4_number_18 rfl (q := 19) rfl ?_
    refine v_ldcw O.1 dX4_number_19 q669 (q := 22) rfl ?_
    refine v_iand O.1 dX4_number_22 (q := 23) rfl ?_
    refine v_istore_n (lv' := [(2, .int (x0 &&& 8388607)), (1, .int ((x0 >>> (23 &&& 31)) &&& 255)), (0, .int x0)]) O.1 dX4_number_23 (by decide) rfl (q := 24) rfl ?_
    refine v_iload_n O.1 dX4_number_24 rfl (q := 25) rfl ?_
    refine v_if_ne O.1 dX4_number_25 (t := 32) (by decide) (q := 28) rfl (fun c2 => ?_) (fun c2 => ?_)
    · rw [if_neg c2] at h
      refine v_iload_n O.1 dX4_number_32 rfl (q := 33) rfl ?_
      refine v_ldcw O.1 dX4_number_33 q670 (q := 36) rfl ?_
      refine v_iadd O.1 dX4_number_36 (q := 37) rfl ?_
      exact v_sub [2, 1] rfl (bc_Core_number_37 O x0 ((x0 >>> (23 &&& 31)) &&& 255) ((x0 &&& 8388607) + 8388608) C h)
    · rw [if_pos c2] at h
      refine v_iload_n O.1 dX4_number_28 rfl (q := 29) rfl ?_
      refine v_goto O.1 dX4_number_29 (t := 37) (by decide) ?_
      exact v_sub [2, 1] rfl (bc_Core_number_37 O x0 ((x0 >>> (23 &&& 31)) &&& 255) (x0 &&& 8388607) C h)
  · rw [if_pos c1] at h
    refine v_fconst0 O.1 dX4_number_16 (q := 17) rfl ?_
    exact c_fret O h dX4_number_17
theorem metc_Core_number (l : Launch) (g : gC) (x0 : Int32) (C C' : Mem) (r : UInt32) (h : fc_Core_number x0 C = some (r, C')) : MetC l g yX4_number cX4_number 5 (some .float) 0 0 [.int x0] C (cQf g r C') :=
  c_met (by decide) rfl (Nat.le_of_ble_eq_true rfl) (fun X O => bc_Core_number O x0 C h)
/-! RankEntry$Core.isAs(LRankEntry$Core;)Z -/
def fc_Core_isAs_102 (c : Nat) (ka1 : Nat) (K52 : Int32 → Int32 → Mem → Option (Int32 × Mem)) (x3 : Int32) (y0 : Int32) (C : Mem) : Option (Int32 × Mem) :=
  K52 y0 (x3 + 1) C
set_option maxHeartbeats 4000000 in
theorem bc_Core_isAs_102 {g : gC} {X : Cxt} {r : Int32} {C' : Mem} {c : Nat} {ka1 : Nat} (hc : cC c) (hka1 : cC ka1) (O : OkC g X cX4_isAs 4 (some .boolean) RX4 2 0 (cQi g r C')) {K52 : Int32 → Int32 → Mem → Option (Int32 × Mem)} (hK52 : ∀ (x2 : Int32) (x3 : Int32) (C : Mem), K52 x2 x3 C = some (r, C') → V X 4 0 (WdC g C) 52 [(0, .ref (gCa g c)), (1, .ref (gCa g ka1)), (2, .int x2), (3, .int x3)] []) (x3 : Int32) (y0 : Int32) (C : Mem) (h : fc_Core_isAs_102 c ka1 K52 x3 y0 C = some (r, C')) : V X 4 0 (WdC g C) 102 [(0, .ref (gCa g c)), (1, .ref (gCa g ka1)), (3, .int x3)] [.int y0] := by
  unfold fc_Core_isAs_102 at h
  refine v_istore_n (lv' := [(2, .int y0), (0, .ref (gCa g c)), (1, .ref (gCa g ka1)), (3, .int x3)]) O.1 dX4_isAs_102 (by decide) rfl (q := 103) rfl ?_
  refine v_iinc (lv' := [(3, .int (x3 + 1)), (2, .int y0), (0, .ref (gCa g c)), (1, .ref (gCa g ka1))]) (v := (x3 + 1)) O.1 dX4_isAs_103 rfl rfl (by decide) rfl (q := 106) rfl ?_
  refine v_goto O.1 dX4_isAs_106 (t := 52) (by decide) ?_
  exact v_sub [2, 3, 1, 0] rfl (hK52 y0 (x3 + 1) C h)
def fc_Core_isAs_101 (c : Nat) (ka1 : Nat) (K52 : Int32 → Int32 → Mem → Option (Int32 × Mem)) (x3 : Int32) (C : Mem) : Option (Int32 × Mem) :=
  fc_Core_isAs_102 c ka1 K52 x3 0 C
set_option maxHeartbeats 4000000 in
theorem bc_Core_isAs_101 {g : gC} {X : Cxt} {r : Int32} {C' : Mem} {c : Nat} {ka1 : Nat} (hc : cC c) (hka1 : cC ka1) (O : OkC g X cX4_isAs 4 (some .boolean) RX4 2 0 (cQi g r C')) {K52 : Int32 → Int32 → Mem → Option (Int32 × Mem)} (hK52 : ∀ (x2 : Int32) (x3 : Int32) (C : Mem), K52 x2 x3 C = some (r, C') → V X 4 0 (WdC g C) 52 [(0, .ref (gCa g c)), (1, .ref (gCa g ka1)), (2, .int x2), (3, .int x3)] []) (x3 : Int32) (C : Mem) (h : fc_Core_isAs_101 c ka1 K52 x3 C = some (r, C')) : V X 4 0 (WdC g C) 101 [(0, .ref (gCa g c)), (1, .ref (gCa g ka1)), (3, .int x3)] [] := by
  unfold fc_Core_isAs_101 at h
  refine v_iconst O.1 dX4_isAs_101 (v := 0) rfl (q := 102) rfl ?_
  exact v_sub [0, 1, 2] rfl (bc_Core_isAs_102 hc hka1 O hK52 x3 0 C h)
def fc_Core_isAs_52b (c : Nat) (ka1 : Nat) (K52 : Int32 → Int32 → Mem → Option (Int32 × Mem)) (x2 : Int32) (x3 : Int32) (C : Mem) : Option (Int32 × Mem) :=
  if 4 ≤ x3 then
    gd (isB x2) <|
    some (x2, C)
  else
    if x2 = 0 then
      fc_Core_isAs_101 c ka1 K52 x3 C
    else
      gd (inb x3 8) <|
      gd (inb x3 8) <|
      if (C (c + 1) x3.toNatClampNeg) = (C (ka1 + 1) x3.toNatClampNeg) then
        gd (inb x3 4) <|
        bnd (fc_Fl_floatToIntBits ((C (c + 2) x3.toNatClampNeg).toUInt32) C) fun r8 C8 =>
        gd (inb x3 4) <|
        bnd (fc_Fl_floatToIntBits ((C8 (ka1 + 2) x3.toNatClampNeg).toUInt32) C8) fun r10 C10 =>
        if r8 = r10 then
          fc_Core_isAs_102 c ka1 K52 x3 1 C10
        else
          fc_Core_isAs_101 c ka1 K52 x3 C10
      else
        fc_Core_isAs_101 c ka1 K52 x3 C
set_option maxHeartbeats 4000000 in
theorem bc_Core_isAs_52b {g : gC} {X : Cxt} {r : Int32} {C' : Mem} {c : Nat} {ka1 : Nat} (hc : cC c) (hka1 : cC ka1) (O : OkC g X cX4_isAs 4 (some .boolean) RX4 2 0 (cQi g r C')) {K52 : Int32 → Int32 → Mem → Option (Int32 × Mem)} (hK52 : ∀ (x2 : Int32) (x3 : Int32) (C : Mem), K52 x2 x3 C = some (r, C') → V X 4 0 (WdC g C) 52 [(0, .ref (gCa g c)), (1, .ref (gCa g ka1)), (2, .int x2), (3, .int x3)] []) (x2 : Int32) (x3 : Int32) (C : Mem) (h : fc_Core_isAs_52b c ka1 K52 x2 x3 C = some (r, C')) : V X 4 0 (WdC g C) 52 [(0, .ref (gCa g c)), (1, .ref (gCa g ka1)), (2, .int x2), (3, .int x3)] [] := by
  unfold fc_Core_isAs_52b at h
  refine v_iload_n O.1 dX4_isAs_52 rfl (q := 53) rfl ?_
  refine v_iconst O.1 dX4_isAs_53 (v := 4) rfl (q := 54) rfl ?_
  refine v_icmp_ge O.1 dX4_isAs_54 (t := 109) (by decide) (q := 57) rfl (fun c1 => ?_) (fun c1 => ?_)
  · rw [if_pos c1] at h
    refine v_iload_n O.1 dX4_isAs_109 rfl (q := 110) rfl ?_
    obtain ⟨g2, h⟩ := gd_some h
    exact c_zret O g2 h dX4_isAs_110
  · rw [if_neg c1] at h
    refine v_iload_n O.1 dX4_isAs_57 rfl (q := 58) rfl ?_
    refine v_if_eq O.1 dX4_isAs_58 (t := 101) (by decide) (q := 61) rfl (fun c3 => ?_) (fun c3 => ?_)
    · rw [if_pos c3] at h
      exact v_sub [0, 1, 3] rfl (bc_Core_isAs_101 hc hka1 O hK52 x3 C h)
    · rw [if_neg c3] at h
      refine v_aload_n O.1 dX4_isAs_61 rfl (q := 62) rfl ?_
      refine c_getC O hc 3 (v := .ref (gCa g (c + 1))) (by decide) (O.lk q833) rfl (fun _ => rfl) dX4_isAs_62 (q := 65) rfl ?_
      refine v_iload_n O.1 dX4_isAs_65 rfl (q := 66) rfl ?_
      obtain ⟨g4, h⟩ := gd_some h
      refine c_iald O (cIA_r hc) g4 rfl (j := x3.toNatClampNeg) dX4_isAs_66 (q := 67) rfl ?_
      refine v_aload_n O.1 dX4_isAs_67 rfl (q := 68) rfl ?_
      refine c_getC O hka1 3 (v := .ref (gCa g (ka1 + 1))) (by decide) (O.lk q833) rfl (fun _ => rfl) dX4_isAs_68 (q := 71) rfl ?_
      refine v_iload_n O.1 dX4_isAs_71 rfl (q := 72) rfl ?_
      obtain ⟨g5, h⟩ := gd_some h
      refine c_iald O (cIA_r hka1) g5 rfl (j := x3.toNatClampNeg) dX4_isAs_72 (q := 73) rfl ?_
      refine v_icmp_ne O.1 dX4_isAs_73 (t := 101) (by decide) (q := 76) rfl (fun c6 => ?_) (fun c6 => ?_)
      · rw [if_neg c6] at h
        exact v_sub [0, 1, 3] rfl (bc_Core_isAs_101 hc hka1 O hK52 x3 C h)
      · rw [if_pos c6] at h
        refine v_aload_n O.1 dX4_isAs_76 rfl (q := 77) rfl ?_
        refine c_getC O hc 4 (v := .ref (gCa g (c + 2))) (by decide) (O.lk q835) rfl (fun _ => rfl) dX4_isAs_77 (q := 80) rfl ?_
        refine v_iload_n O.1 dX4_isAs_80 rfl (q := 81) rfl ?_
        obtain ⟨g7, h⟩ := gd_some h
        refine c_fald O hc g7 rfl (j := x3.toNatClampNeg) dX4_isAs_81 (q := 82) rfl ?_
        obtain ⟨r8, C8, e8, h⟩ := bnd_some h
        refine c_callSi (As := [.float ((C (c + 2) x3.toNatClampNeg).toUInt32)]) (rest := []) (n := 1) O (metc_Fl_floatToIntBits _ g ((C (c + 2) x3.toNatClampNeg).toUInt32) C C8 r8 e8) (lw_S q409 q410 q71 q411) (by decide +kernel) (by decide) (by decide) rfl rfl (Nat.le_of_ble_eq_true rfl) dX4_isAs_82 (q := 85) rfl (b' := 0) rfl ?_
        refine v_aload_n O.1 dX4_isAs_85 rfl (q := 86) rfl ?_
        refine c_getC O hka1 4 (v := .ref (gCa g (ka1 + 2))) (by decide) (O.lk q835) rfl (fun _ => rfl) dX4_isAs_86 (q := 89) rfl ?_
        refine v_iload_n O.1 dX4_isAs_89 rfl (q := 90) rfl ?_
        obtain ⟨g9, h⟩ := gd_some h
        refine c_fald O hka1 g9 rfl (j := x3.toNatClampNeg) dX4_isAs_90 (q := 91) rfl ?_
        obtain ⟨r10, C10, e10, h⟩ := bnd_some h
        refine c_callSi (As := [.float ((C8 (ka1 + 2) x3.toNatClampNeg).toUInt32)]) (rest := [.int r8]) (n := 1) O (metc_Fl_floatToIntBits _ g ((C8 (ka1 + 2) x3.toNatClampNeg).toUInt32) C8 C10 r10 e10) (lw_S q409 q410 q71 q411) (by decide +kernel) (by decide) (by decide) rfl rfl (Nat.le_of_ble_eq_true rfl) dX4_isAs_91 (q := 94) rfl (b' := 0) rfl ?_
        refine v_icmp_ne O.1 dX4_isAs_94 (t := 101) (by decide) (q := 97) rfl (fun c11 => ?_) (fun c11 => ?_)
        · rw [if_neg c11] at h
          exact v_sub [0, 1, 3] rfl (bc_Core_isAs_101 hc hka1 O hK52 x3 C10 h)
        · rw [if_pos c11] at h
          refine v_iconst O.1 dX4_isAs_97 (v := 1) rfl (q := 98) rfl ?_
          refine v_goto O.1 dX4_isAs_98 (t := 102) (by decide) ?_
          exact v_sub [0, 1, 3] rfl (bc_Core_isAs_102 hc hka1 O hK52 x3 1 C10 h)
def fc_Core_isAs_52 (c : Nat) (ka1 : Nat) (n : Nat) : Int32 → Int32 → Mem → Option (Int32 × Mem) := lpc (fc_Core_isAs_52b c ka1) (fun _ _ _ => none) n
theorem bc_Core_isAs_52 {g : gC} {X : Cxt} {r : Int32} {C' : Mem} {c : Nat} {ka1 : Nat} (hc : cC c) (hka1 : cC ka1) (O : OkC g X cX4_isAs 4 (some .boolean) RX4 2 0 (cQi g r C')) : ∀ (n : Nat) (x2 : Int32) (x3 : Int32) (C : Mem), fc_Core_isAs_52 c ka1 n x2 x3 C = some (r, C') → V X 4 0 (WdC g C) 52 [(0, .ref (gCa g c)), (1, .ref (gCa g ka1)), (2, .int x2), (3, .int x3)] [] := by
  intro n
  induction n with
  | zero =>
    intro x2 x3 C h
    cases h
  | succ n ih =>
    intro x2 x3 C h
    exact bc_Core_isAs_52b hc hka1 O ih x2 x3 C h
def fc_Core_isAs_49 (c : Nat) (ka1 : Nat) (y0 : Int32) (C : Mem) : Option (Int32 × Mem) :=
  fc_Core_isAs_52 c ka1 600 y0 0 C
set_option maxHeartbeats 4000000 in
theorem bc_Core_isAs_49 {g : gC} {X : Cxt} {r : Int32} {C' : Mem} {c : Nat} {ka1 : Nat} (hc : cC c) (hka1 : cC ka1) (O : OkC g X cX4_isAs 4 (some .boolean) RX4 2 0 (cQi g r C')) (y0 : Int32) (C : Mem) (h : fc_Core_isAs_49 c ka1 y0 C = some (r, C')) : V X 4 0 (WdC g C) 49 [(0, .ref (gCa g c)), (1, .ref (gCa g ka1))] [.int y0] := by
  unfold fc_Core_isAs_49 at h
  refine v_istore_n (lv' := [(2, .int y0), (0, .ref (gCa g c)), (1, .ref (gCa g ka1))]) O.1 dX4_isAs_49 (by decide) rfl (q := 50) rfl ?_
  refine v_iconst O.1 dX4_isAs_50 (v := 0) rfl (q := 51) rfl ?_
  refine v_istore_n (lv' := [(3, .int 0), (2, .int y0), (0, .ref (gCa g c)), (1, .ref (gCa g ka1))]) O.1 dX4_isAs_51 (by decide) rfl (q := 52) rfl ?_
  exact v_sub [2, 3, 1, 0] rfl (bc_Core_isAs_52 hc hka1 O 600 y0 0 C h)
def fc_Core_isAs_48 (c : Nat) (ka1 : Nat)  (C : Mem) : Option (Int32 × Mem) :=
  fc_Core_isAs_49 c ka1 0 C
set_option maxHeartbeats 4000000 in
theorem bc_Core_isAs_48 {g : gC} {X : Cxt} {r : Int32} {C' : Mem} {c : Nat} {ka1 : Nat} (hc : cC c) (hka1 : cC ka1) (O : OkC g X cX4_isAs 4 (some .boolean) RX4 2 0 (cQi g r C'))  (C : Mem) (h : fc_Core_isAs_48 c ka1  C = some (r, C')) : V X 4 0 (WdC g C) 48 [(0, .ref (gCa g c)), (1, .ref (gCa g ka1))] [] := by
  unfold fc_Core_isAs_48 at h
  refine v_iconst O.1 dX4_isAs_48 (v := 0) rfl (q := 49) rfl ?_
  exact v_sub [0, 1] rfl (bc_Core_isAs_49 hc hka1 O 0 C h)
def fc_Core_isAs (c : Nat) (ka1 : Nat)  (C : Mem) : Option (Int32 × Mem) :=
  if (C c 31) = (C ka1 31) then
    if (C c 29) = (C ka1 29) then
      if (C c 30) = (C ka1 30) then
        if (C c 32) = (C ka1 32) then
          fc_Core_isAs_49 c ka1 1 C
        else
          fc_Core_isAs_48 c ka1 C
      else
        fc_Core_isAs_48 c ka1 C
    else
      fc_Core_isAs_48 c ka1 C
  else
    fc_Core_isAs_48 c ka1 C
set_option maxHeartbeats 4000000 in
theorem bc_Core_isAs {g : gC} {X : Cxt} {r : Int32} {C' : Mem} {c : Nat} {ka1 : Nat} (hc : cC c) (hka1 : cC ka1) (O : OkC g X cX4_isAs 4 (some .boolean) RX4 2 0 (cQi g r C'))  (C : Mem) (h : fc_Core_isAs c ka1  C = some (r, C')) : V X 4 0 (WdC g C) 0 [(0, .ref (gCa g c)), (1, .ref (gCa g ka1))] [] := by
  unfold fc_Core_isAs at h
  refine v_aload_n O.1 dX4_isAs_0 rfl (q := 1) rfl ?_
  refine c_getC O hc 31 (v := .int (C c 31)) (by decide) (O.lk q889) rfl (fun _ => rfl) dX4_isAs_1 (q := 4) rfl ?_
  refine v_aload_n O.1 dX4_isAs_4 rfl (q := 5) rfl ?_
  refine c_getC O hka1 31 (v := .int (C ka1 31)) (by decide) (O.lk q889) rfl (fun _ => rfl) dX4_isAs_5 (q := 8) rfl ?_
  refine v_icmp_ne O.1 dX4_isAs_8 (t := 48) (by decide) (q := 11) rfl (fun c1 => ?_) (fun c1 => ?_)
  · rw [if_neg c1] at h
    exact v_sub [0, 1] rfl (bc_Core_isAs_48 hc hka1 O C h)
  · rw [if_pos c1] at h
    refine v_aload_n O.1 dX4_isAs_11 rfl (q := 12) rfl ?_
    refine c_getC O hc 29 (v := .int (C c 29)) (by decide) (O.lk q881) rfl (fun _ => rfl) dX4_isAs_12 (q := 15) rfl ?_
    refine v_aload_n O.1 dX4_isAs_15 rfl (q := 16) rfl ?_
    refine c_getC O hka1 29 (v := .int (C ka1 29)) (by decide) (O.lk q881) rfl (fun _ => rfl) dX4_isAs_16 (q := 19) rfl ?_
    refine v_icmp_ne O.1 dX4_isAs_19 (t := 48) (by decide) (q := 22) rfl (fun c2 => ?_) (fun c2 => ?_)
    · rw [if_neg c2] at h
      exact v_sub [0, 1] rfl (bc_Core_isAs_48 hc hka1 O C h)
    · rw [if_pos c2] at h
      refine v_aload_n O.1 dX4_isAs_22 rfl (q := 23) rfl ?_
      refine c_getC O hc 30 (v := .int (C c 30)) (by decide) (O.lk q884) rfl (fun _ => rfl) dX4_isAs_23 (q := 26) rfl ?_
      refine v_aload_n O.1 dX4_isAs_26 rfl (q := 27) rfl ?_
      refine c_getC O hka1 30 (v := .int (C ka1 30)) (by decide) (O.lk q884) rfl (fun _ => rfl) dX4_isAs_27 (q := 30) rfl ?_
      refine v_icmp_ne O.1 dX4_isAs_30 (t := 48) (by decide) (q := 33) rfl (fun c3 => ?_) (fun c3 => ?_)
      · rw [if_neg c3] at h
        exact v_sub [0, 1] rfl (bc_Core_isAs_48 hc hka1 O C h)
      · rw [if_pos c3] at h
        refine v_aload_n O.1 dX4_isAs_33 rfl (q := 34) rfl ?_
        refine c_getC O hc 32 (v := .int (C c 32)) (by decide) (O.lk q893) rfl (fun _ => rfl) dX4_isAs_34 (q := 37) rfl ?_
        refine v_aload_n O.1 dX4_isAs_37 rfl (q := 38) rfl ?_
        refine c_getC O hka1 32 (v := .int (C ka1 32)) (by decide) (O.lk q893) rfl (fun _ => rfl) dX4_isAs_38 (q := 41) rfl ?_
        refine v_icmp_ne O.1 dX4_isAs_41 (t := 48) (by decide) (q := 44) rfl (fun c4 => ?_) (fun c4 => ?_)
        · rw [if_neg c4] at h
          exact v_sub [0, 1] rfl (bc_Core_isAs_48 hc hka1 O C h)
        · rw [if_pos c4] at h
          refine v_iconst O.1 dX4_isAs_44 (v := 1) rfl (q := 45) rfl ?_
          refine v_goto O.1 dX4_isAs_45 (t := 49) (by decide) ?_
          exact v_sub [0, 1] rfl (bc_Core_isAs_49 hc hka1 O 1 C h)
theorem metc_Core_isAs (l : Launch) (g : gC) (c : Nat) (hc : cC c) (ka1 : Nat) (hka1 : cC ka1) (C C' : Mem) (r : Int32) (h : fc_Core_isAs c ka1 C = some (r, C')) : MetC l g yX4_isAs cX4_isAs 4 (some .boolean) 2 0 [.ref (gCa g c), .ref (gCa g ka1)] C (cQi g r C') :=
  c_met (by decide) rfl (Nat.le_of_ble_eq_true rfl) (fun X O => bc_Core_isAs hc hka1 O C h)
/-! RankEntry$Core.forgets()V -/
def fc_Core_forgets_108b (c : Nat) (K108 : Int32 → Mem → Option (Unit × Mem)) (x1 : Int32) (C : Mem) : Option (Unit × Mem) :=
  if 14 ≤ x1 then
    stp (up2 C c 29 0) fun C2 =>
    stp (up2 C2 c 30 0) fun C3 =>
    stp (up2 C3 c 31 0) fun C4 =>
    stp (up2 C4 c 32 0) fun C5 =>
    stp (up2 C5 c 33 0) fun C6 =>
    stp (up2 C6 c 35 0) fun C7 =>
    stp (up2 C7 c 36 0) fun C8 =>
    stp (up2 C8 c 37 0) fun C9 =>
    stp (up2 C9 c 39 (C9 c 38)) fun C10 =>
    stp (up2 C10 c 40 0) fun C11 =>
    bnd (fc_Core_turns c 0 C11) fun r12 C12 =>
    stp (up2 C12 c 43 0) fun C13 =>
    stp (up2 C13 c 44 0) fun C14 =>
    stp (up2 C14 c 45 0) fun C15 =>
    stp (up2 C15 c 46 (-1)) fun C16 =>
    stp (up2 C16 c 50 0) fun C17 =>
    stp (up2 C17 c 51 0) fun C18 =>
    some ((), C18)
  else
    gd (inb x1 14) <|
    stp (up2 C (c + 9) x1.toNatClampNeg 0) fun C20 =>
    K108 (x1 + 1) C20
set_option maxHeartbeats 4000000 in
theorem bc_Core_forgets_108b {g : gC} {X : Cxt} {r : Unit} {C' : Mem} {c : Nat} (hc : cC c) (O : OkC g X cX4_forgets 2 none RX4 2 0 (cQv g r C')) {K108 : Int32 → Mem → Option (Unit × Mem)} (hK108 : ∀ (x1 : Int32) (C : Mem), K108 x1 C = some (r, C') → V X 2 0 (WdC g C) 108 [(0, .ref (gCa g c)), (1, .int x1)] []) (x1 : Int32) (C : Mem) (h : fc_Core_forgets_108b c K108 x1 C = some (r, C')) : V X 2 0 (WdC g C) 108 [(0, .ref (gCa g c)), (1, .int x1)] [] := by
  unfold fc_Core_forgets_108b at h
  refine v_iload_n O.1 dX4_forgets_108 rfl (q := 109) rfl ?_
  refine v_bipush O.1 dX4_forgets_109 (v := 14) (by decide) (q := 111) rfl ?_
  refine v_icmp_ge O.1 dX4_forgets_111 (t := 127) (by decide) (q := 114) rfl (fun c1 => ?_) (fun c1 => ?_)
  · rw [if_pos c1] at h
    refine v_aload_n O.1 dX4_forgets_127 rfl (q := 128) rfl ?_
    refine v_iconst O.1 dX4_forgets_128 (v := 0) rfl (q := 129) rfl ?_
    obtain ⟨C2, e2, h⟩ := stp_some h
    refine c_putC O hc 29 (u := 0) (ty := .int) (by decide) (by decide) (O.lk q881) rfl rfl rfl rfl rfl (fun _ => rfl) dX4_forgets_129 (q := 132) rfl e2 ?_
    refine v_aload_n O.1 dX4_forgets_132 rfl (q := 133) rfl ?_
    refine v_iconst O.1 dX4_forgets_133 (v := 0) rfl (q := 134) rfl ?_
    obtain ⟨C3, e3, h⟩ := stp_some h
    refine c_putC O hc 30 (u := 0) (ty := .int) (by decide) (by decide) (O.lk q884) rfl rfl rfl rfl rfl (fun _ => rfl) dX4_forgets_134 (q := 137) rfl e3 ?_
    refine v_aload_n O.1 dX4_forgets_137 rfl (q := 138) rfl ?_
    refine v_iconst O.1 dX4_forgets_138 (v := 0) rfl (q := 139) rfl ?_
    obtain ⟨C4, e4, h⟩ := stp_some h
    refine c_putC O hc 31 (u := 0) (ty := .int) (by decide) (by decide) (O.lk q889) rfl rfl rfl rfl rfl (fun _ => rfl) dX4_forgets_139 (q := 142) rfl e4 ?_
    refine v_aload_n O.1 dX4_forgets_142 rfl (q := 143) rfl ?_
    refine v_iconst O.1 dX4_forgets_143 (v := 0) rfl (q := 144) rfl ?_
    obtain ⟨C5, e5, h⟩ := stp_some h
    refine c_putC O hc 32 (u := 0) (ty := .int) (by decide) (by decide) (O.lk q893) rfl rfl rfl rfl rfl (fun _ => rfl) dX4_forgets_144 (q := 147) rfl e5 ?_
    refine v_aload_n O.1 dX4_forgets_147 rfl (q := 148) rfl ?_
    refine v_iconst O.1 dX4_forgets_148 (v := 0) rfl (q := 149) rfl ?_
    obtain ⟨C6, e6, h⟩ := stp_some h
    refine c_putC O hc 33 (u := 0) (ty := .int) (by decide) (by decide) (O.lk q895) rfl rfl rfl rfl rfl (fun _ => rfl) dX4_forgets_149 (q := 152) rfl e6 ?_
    refine v_aload_n O.1 dX4_forgets_152 rfl (q := 153) rfl ?_
    refine v_iconst O.1 dX4_forgets_153 (v := 0) rfl (q := 154) rfl ?_
    obtain ⟨C7, e7, h⟩ := stp_some h
    refine c_putC O hc 35 (u := 0) (ty := .int) (by decide) (by decide) (O.lk q900) rfl rfl rfl rfl rfl (fun _ => rfl) dX4_forgets_154 (q := 157) rfl e7 ?_
    refine v_aload_n O.1 dX4_forgets_157 rfl (q := 158) rfl ?_
    refine v_iconst O.1 dX4_forgets_158 (v := 0) rfl (q := 159) rfl ?_
    obtain ⟨C8, e8, h⟩ := stp_some h
    refine c_putC O hc 36 (u := 0) (ty := .int) (by decide) (by decide) (O.lk q903) rfl rfl rfl rfl rfl (fun _ => rfl) dX4_forgets_159 (q := 162) rfl e8 ?_
    refine v_aload_n O.1 dX4_forgets_162 rfl (q := 163) rfl ?_
    refine v_iconst O.1 dX4_forgets_163 (v := 0) rfl (q := 164) rfl ?_
    obtain ⟨C9, e9, h⟩ := stp_some h
    refine c_putC O hc 37 (u := 0) (ty := .int) (by decide) (by decide) (O.lk q905) rfl rfl rfl rfl rfl (fun _ => rfl) dX4_forgets_164 (q := 167) rfl e9 ?_
    refine v_aload_n O.1 dX4_forgets_167 rfl (q := 168) rfl ?_
    refine v_aload_n O.1 dX4_forgets_168 rfl (q := 169) rfl ?_
    refine c_getC O hc 38 (v := .int (C9 c 38)) (by decide) (O.lk q907) rfl (fun _ => rfl) dX4_forgets_169 (q := 172) rfl ?_
    obtain ⟨C10, e10, h⟩ := stp_some h
    refine c_putC O hc 39 (u := (C9 c 38)) (ty := .int) (by decide) (by decide) (O.lk q909) rfl rfl rfl rfl rfl (fun _ => rfl) dX4_forgets_172 (q := 175) rfl e10 ?_
    refine v_aload_n O.1 dX4_forgets_175 rfl (q := 176) rfl ?_
    refine v_iconst O.1 dX4_forgets_176 (v := 0) rfl (q := 177) rfl ?_
    obtain ⟨C11, e11, h⟩ := stp_some h
    refine c_putC O hc 40 (u := 0) (ty := .int) (by decide) (by decide) (O.lk q911) rfl rfl rfl rfl rfl (fun _ => rfl) dX4_forgets_177 (q := 180) rfl e11 ?_
    refine v_aload_n O.1 dX4_forgets_180 rfl (q := 181) rfl ?_
    refine v_iconst O.1 dX4_forgets_181 (v := 0) rfl (q := 182) rfl ?_
    obtain ⟨r12, C12, e12, h⟩ := bnd_some h
    refine c_callVv (As := [.int 0]) (rest := []) (n := 1) (ci := 2) (p := (RX4, TX4, 55)) O (cC_lt (j := 0) hc (by decide)) rfl (fun _ _ => ⟨_, cCell_core hc⟩) (metc_Core_turns _ g c hc 0 C11 C12 r12 e12) (lw_V q238 q239 q240 q63 q241) (by decide +kernel) (by decide) (by decide) rfl rfl (Nat.le_of_ble_eq_true rfl) dX4_forgets_182 (q := 185) rfl (b' := 0) rfl ?_
    refine v_aload_n O.1 dX4_forgets_185 rfl (q := 186) rfl ?_
    refine v_iconst O.1 dX4_forgets_186 (v := 0) rfl (q := 187) rfl ?_
    obtain ⟨C13, e13, h⟩ := stp_some h
    refine c_putC O hc 43 (u := 0) (ty := .int) (by decide) (by decide) (O.lk q917) rfl rfl rfl rfl rfl (fun _ => rfl) dX4_forgets_187 (q := 190) rfl e13 ?_
    refine v_aload_n O.1 dX4_forgets_190 rfl (q := 191) rfl ?_
    refine v_iconst O.1 dX4_forgets_191 (v := 0) rfl (q := 192) rfl ?_
    obtain ⟨C14, e14, h⟩ := stp_some h
    refine c_putC O hc 44 (u := 0) (ty := .boolean) (by decide) (by decide) (O.lk q920) rfl rfl rfl rfl rfl (fun _ => rfl) dX4_forgets_192 (q := 195) rfl e14 ?_
    refine v_aload_n O.1 dX4_forgets_195 rfl (q := 196) rfl ?_
    refine v_iconst O.1 dX4_forgets_196 (v := 0) rfl (q := 197) rfl ?_
    obtain ⟨C15, e15, h⟩ := stp_some h
    refine c_putC O hc 45 (u := 0) (ty := .int) (by decide) (by decide) (O.lk q922) rfl rfl rfl rfl rfl (fun _ => rfl) dX4_forgets_197 (q := 200) rfl e15 ?_
    refine v_aload_n O.1 dX4_forgets_200 rfl (q := 201) rfl ?_
    refine v_iconst O.1 dX4_forgets_201 (v := (-1)) rfl (q := 202) rfl ?_
    obtain ⟨C16, e16, h⟩ := stp_some h
    refine c_putC O hc 46 (u := (-1)) (ty := .int) (by decide) (by decide) (O.lk q924) rfl rfl rfl rfl rfl (fun _ => rfl) dX4_forgets_202 (q := 205) rfl e16 ?_
    refine v_aload_n O.1 dX4_forgets_205 rfl (q := 206) rfl ?_
    refine v_iconst O.1 dX4_forgets_206 (v := 0) rfl (q := 207) rfl ?_
    obtain ⟨C17, e17, h⟩ := stp_some h
    refine c_putC O hc 50 (u := 0) (ty := .int) (by decide) (by decide) (O.lk q929) rfl rfl rfl rfl rfl (fun _ => rfl) dX4_forgets_207 (q := 210) rfl e17 ?_
    refine v_aload_n O.1 dX4_forgets_210 rfl (q := 211) rfl ?_
    refine v_iconst O.1 dX4_forgets_211 (v := 0) rfl (q := 212) rfl ?_
    obtain ⟨C18, e18, h⟩ := stp_some h
    refine c_putC O hc 51 (u := 0) (ty := .int) (by decide) (by decide) (O.lk q931) rfl rfl rfl rfl rfl (fun _ => rfl) dX4_forgets_212 (q := 215) rfl e18 ?_
    exact c_vret O h dX4_forgets_215
  · rw [if_neg c1] at h
    refine v_aload_n O.1 dX4_forgets_114 rfl (q := 115) rfl ?_
    refine c_getC O hc 11 (v := .ref (gCa g (c + 9))) (by decide) (O.lk q858) rfl (fun _ => rfl) dX4_forgets_115 (q := 118) rfl ?_
    refine v_iload_n O.1 dX4_forgets_118 rfl (q := 119) rfl ?_
    refine v_iconst O.1 dX4_forgets_119 (v := 0) rfl (q := 120) rfl ?_
    obtain ⟨g19, h⟩ := gd_some h
    obtain ⟨C20, e20, h⟩ := stp_some h
    refine c_iast O (cIA_counts hc) g19 rfl (j := x1.toNatClampNeg) dX4_forgets_120 (q := 121) rfl e20 ?_
    refine v_iinc (lv' := [(1, .int (x1 + 1)), (0, .ref (gCa g c))]) (v := (x1 + 1)) O.1 dX4_forgets_121 rfl rfl (by decide) rfl (q := 124) rfl ?_
    refine v_goto O.1 dX4_forgets_124 (t := 108) (by decide) ?_
    exact v_sub [1, 0] rfl (hK108 (x1 + 1) C20 h)
def fc_Core_forgets_108 (c : Nat) (n : Nat) : Int32 → Mem → Option (Unit × Mem) := lpc (fc_Core_forgets_108b c) (fun _ _ => none) n
theorem bc_Core_forgets_108 {g : gC} {X : Cxt} {r : Unit} {C' : Mem} {c : Nat} (hc : cC c) (O : OkC g X cX4_forgets 2 none RX4 2 0 (cQv g r C')) : ∀ (n : Nat) (x1 : Int32) (C : Mem), fc_Core_forgets_108 c n x1 C = some (r, C') → V X 2 0 (WdC g C) 108 [(0, .ref (gCa g c)), (1, .int x1)] [] := by
  intro n
  induction n with
  | zero =>
    intro x1 C h
    cases h
  | succ n ih =>
    intro x1 C h
    exact bc_Core_forgets_108b hc O ih x1 C h
def fc_Core_forgets_85b (c : Nat) (K85 : Int32 → Mem → Option (Unit × Mem)) (x1 : Int32) (C : Mem) : Option (Unit × Mem) :=
  if 21 ≤ x1 then
    fc_Core_forgets_108 c 600 0 C
  else
    gd (inb x1 21) <|
    bnd (fv_forgets (c + 22 + x1.toNatClampNeg) C) fun r3 C3 =>
    K85 (x1 + 1) C3
set_option maxHeartbeats 4000000 in
theorem bc_Core_forgets_85b {g : gC} {X : Cxt} {r : Unit} {C' : Mem} {c : Nat} (hc : cC c) (O : OkC g X cX4_forgets 2 none RX4 2 0 (cQv g r C')) {K85 : Int32 → Mem → Option (Unit × Mem)} (hK85 : ∀ (x1 : Int32) (C : Mem), K85 x1 C = some (r, C') → V X 2 0 (WdC g C) 85 [(0, .ref (gCa g c)), (1, .int x1)] []) (x1 : Int32) (C : Mem) (h : fc_Core_forgets_85b c K85 x1 C = some (r, C')) : V X 2 0 (WdC g C) 85 [(0, .ref (gCa g c)), (1, .int x1)] [] := by
  unfold fc_Core_forgets_85b at h
  refine v_iload_n O.1 dX4_forgets_85 rfl (q := 86) rfl ?_
  refine v_bipush O.1 dX4_forgets_86 (v := 21) (by decide) (q := 88) rfl ?_
  refine v_icmp_ge O.1 dX4_forgets_88 (t := 106) (by decide) (q := 91) rfl (fun c1 => ?_) (fun c1 => ?_)
  · rw [if_pos c1] at h
    refine v_iconst O.1 dX4_forgets_106 (v := 0) rfl (q := 107) rfl ?_
    refine v_istore_n (lv' := [(1, .int 0), (0, .ref (gCa g c))]) O.1 dX4_forgets_107 (by decide) rfl (q := 108) rfl ?_
    exact v_sub [1, 0] rfl (bc_Core_forgets_108 hc O 600 0 C h)
  · rw [if_neg c1] at h
    refine v_aload_n O.1 dX4_forgets_91 rfl (q := 92) rfl ?_
    refine c_getC O hc 7 (v := .ref (gCa g (c + 5))) (by decide) (O.lk q848) rfl (fun _ => rfl) dX4_forgets_92 (q := 95) rfl ?_
    refine v_iload_n O.1 dX4_forgets_95 rfl (q := 96) rfl ?_
    obtain ⟨g2, h⟩ := gd_some h
    refine c_all O hc g2 rfl (j := x1.toNatClampNeg) dX4_forgets_96 (q := 97) rfl ?_
    obtain ⟨r3, C3, e3, h⟩ := bnd_some h
    refine c_v_forgets (rest := []) O (cS_of hc (inb_lt g2)) e3 q1173 (by decide) rfl (Nat.le_of_ble_eq_true rfl) dX4_forgets_97 (q := 100) rfl ?_
    refine v_iinc (lv' := [(1, .int (x1 + 1)), (0, .ref (gCa g c))]) (v := (x1 + 1)) O.1 dX4_forgets_100 rfl rfl (by decide) rfl (q := 103) rfl ?_
    refine v_goto O.1 dX4_forgets_103 (t := 85) (by decide) ?_
    exact v_sub [1, 0] rfl (hK85 (x1 + 1) C3 h)
def fc_Core_forgets_85 (c : Nat) (n : Nat) : Int32 → Mem → Option (Unit × Mem) := lpc (fc_Core_forgets_85b c) (fun _ _ => none) n
theorem bc_Core_forgets_85 {g : gC} {X : Cxt} {r : Unit} {C' : Mem} {c : Nat} (hc : cC c) (O : OkC g X cX4_forgets 2 none RX4 2 0 (cQv g r C')) : ∀ (n : Nat) (x1 : Int32) (C : Mem), fc_Core_forgets_85 c n x1 C = some (r, C') → V X 2 0 (WdC g C) 85 [(0, .ref (gCa g c)), (1, .int x1)] [] := by
  intro n
  induction n with
  | zero =>
    intro x1 C h
    cases h
  | succ n ih =>
    intro x1 C h
    exact bc_Core_forgets_85b hc O ih x1 C h
def fc_Core_forgets_64b (c : Nat) (K64 : Int32 → Mem → Option (Unit × Mem)) (x1 : Int32) (C : Mem) : Option (Unit × Mem) :=
  if 96 ≤ x1 then
    fc_Core_forgets_85 c 600 0 C
  else
    gd (inb x1 96) <|
    stp (up2 C (c + 4) x1.toNatClampNeg 0) fun C3 =>
    K64 (x1 + 1) C3
set_option maxHeartbeats 4000000 in
theorem bc_Core_forgets_64b {g : gC} {X : Cxt} {r : Unit} {C' : Mem} {c : Nat} (hc : cC c) (O : OkC g X cX4_forgets 2 none RX4 2 0 (cQv g r C')) {K64 : Int32 → Mem → Option (Unit × Mem)} (hK64 : ∀ (x1 : Int32) (C : Mem), K64 x1 C = some (r, C') → V X 2 0 (WdC g C) 64 [(0, .ref (gCa g c)), (1, .int x1)] []) (x1 : Int32) (C : Mem) (h : fc_Core_forgets_64b c K64 x1 C = some (r, C')) : V X 2 0 (WdC g C) 64 [(0, .ref (gCa g c)), (1, .int x1)] [] := by
  unfold fc_Core_forgets_64b at h
  refine v_iload_n O.1 dX4_forgets_64 rfl (q := 65) rfl ?_
  refine v_bipush O.1 dX4_forgets_65 (v := 96) (by decide) (q := 67) rfl ?_
  refine v_icmp_ge O.1 dX4_forgets_67 (t := 83) (by decide) (q := 70) rfl (fun c1 => ?_) (fun c1 => ?_)
  · rw [if_pos c1] at h
    refine v_iconst O.1 dX4_forgets_83 (v := 0) rfl (q := 84) rfl ?_
    refine v_istore_n (lv' := [(1, .int 0), (0, .ref (gCa g c))]) O.1 dX4_forgets_84 (by decide) rfl (q := 85) rfl ?_
    exact v_sub [1, 0] rfl (bc_Core_forgets_85 hc O 600 0 C h)
  · rw [if_neg c1] at h
    refine v_aload_n O.1 dX4_forgets_70 rfl (q := 71) rfl ?_
    refine c_getC O hc 6 (v := .ref (gCa g (c + 4))) (by decide) (O.lk q844) rfl (fun _ => rfl) dX4_forgets_71 (q := 74) rfl ?_
    refine v_iload_n O.1 dX4_forgets_74 rfl (q := 75) rfl ?_
    refine v_iconst O.1 dX4_forgets_75 (v := 0) rfl (q := 76) rfl ?_
    obtain ⟨g2, h⟩ := gd_some h
    obtain ⟨C3, e3, h⟩ := stp_some h
    refine c_iast O (cIA_stack hc) g2 rfl (j := x1.toNatClampNeg) dX4_forgets_76 (q := 77) rfl e3 ?_
    refine v_iinc (lv' := [(1, .int (x1 + 1)), (0, .ref (gCa g c))]) (v := (x1 + 1)) O.1 dX4_forgets_77 rfl rfl (by decide) rfl (q := 80) rfl ?_
    refine v_goto O.1 dX4_forgets_80 (t := 64) (by decide) ?_
    exact v_sub [1, 0] rfl (hK64 (x1 + 1) C3 h)
def fc_Core_forgets_64 (c : Nat) (n : Nat) : Int32 → Mem → Option (Unit × Mem) := lpc (fc_Core_forgets_64b c) (fun _ _ => none) n
theorem bc_Core_forgets_64 {g : gC} {X : Cxt} {r : Unit} {C' : Mem} {c : Nat} (hc : cC c) (O : OkC g X cX4_forgets 2 none RX4 2 0 (cQv g r C')) : ∀ (n : Nat) (x1 : Int32) (C : Mem), fc_Core_forgets_64 c n x1 C = some (r, C') → V X 2 0 (WdC g C) 64 [(0, .ref (gCa g c)), (1, .int x1)] [] := by
  intro n
  induction n with
  | zero =>
    intro x1 C h
    cases h
  | succ n ih =>
    intro x1 C h
    exact bc_Core_forgets_64b hc O ih x1 C h
def fc_Core_forgets_43b (c : Nat) (K43 : Int32 → Mem → Option (Unit × Mem)) (x1 : Int32) (C : Mem) : Option (Unit × Mem) :=
  if 16 ≤ x1 then
    fc_Core_forgets_64 c 600 0 C
  else
    gd (inb x1 16) <|
    stp (up2 C (c + 3) x1.toNatClampNeg 0) fun C3 =>
    K43 (x1 + 1) C3
set_option maxHeartbeats 4000000 in
theorem bc_Core_forgets_43b {g : gC} {X : Cxt} {r : Unit} {C' : Mem} {c : Nat} (hc : cC c) (O : OkC g X cX4_forgets 2 none RX4 2 0 (cQv g r C')) {K43 : Int32 → Mem → Option (Unit × Mem)} (hK43 : ∀ (x1 : Int32) (C : Mem), K43 x1 C = some (r, C') → V X 2 0 (WdC g C) 43 [(0, .ref (gCa g c)), (1, .int x1)] []) (x1 : Int32) (C : Mem) (h : fc_Core_forgets_43b c K43 x1 C = some (r, C')) : V X 2 0 (WdC g C) 43 [(0, .ref (gCa g c)), (1, .int x1)] [] := by
  unfold fc_Core_forgets_43b at h
  refine v_iload_n O.1 dX4_forgets_43 rfl (q := 44) rfl ?_
  refine v_bipush O.1 dX4_forgets_44 (v := 16) (by decide) (q := 46) rfl ?_
  refine v_icmp_ge O.1 dX4_forgets_46 (t := 62) (by decide) (q := 49) rfl (fun c1 => ?_) (fun c1 => ?_)
  · rw [if_pos c1] at h
    refine v_iconst O.1 dX4_forgets_62 (v := 0) rfl (q := 63) rfl ?_
    refine v_istore_n (lv' := [(1, .int 0), (0, .ref (gCa g c))]) O.1 dX4_forgets_63 (by decide) rfl (q := 64) rfl ?_
    exact v_sub [1, 0] rfl (bc_Core_forgets_64 hc O 600 0 C h)
  · rw [if_neg c1] at h
    refine v_aload_n O.1 dX4_forgets_49 rfl (q := 50) rfl ?_
    refine c_getC O hc 5 (v := .ref (gCa g (c + 3))) (by decide) (O.lk q840) rfl (fun _ => rfl) dX4_forgets_50 (q := 53) rfl ?_
    refine v_iload_n O.1 dX4_forgets_53 rfl (q := 54) rfl ?_
    refine v_iconst O.1 dX4_forgets_54 (v := 0) rfl (q := 55) rfl ?_
    obtain ⟨g2, h⟩ := gd_some h
    obtain ⟨C3, e3, h⟩ := stp_some h
    refine c_iast O (cIA_data hc) g2 rfl (j := x1.toNatClampNeg) dX4_forgets_55 (q := 56) rfl e3 ?_
    refine v_iinc (lv' := [(1, .int (x1 + 1)), (0, .ref (gCa g c))]) (v := (x1 + 1)) O.1 dX4_forgets_56 rfl rfl (by decide) rfl (q := 59) rfl ?_
    refine v_goto O.1 dX4_forgets_59 (t := 43) (by decide) ?_
    exact v_sub [1, 0] rfl (hK43 (x1 + 1) C3 h)
def fc_Core_forgets_43 (c : Nat) (n : Nat) : Int32 → Mem → Option (Unit × Mem) := lpc (fc_Core_forgets_43b c) (fun _ _ => none) n
theorem bc_Core_forgets_43 {g : gC} {X : Cxt} {r : Unit} {C' : Mem} {c : Nat} (hc : cC c) (O : OkC g X cX4_forgets 2 none RX4 2 0 (cQv g r C')) : ∀ (n : Nat) (x1 : Int32) (C : Mem), fc_Core_forgets_43 c n x1 C = some (r, C') → V X 2 0 (WdC g C) 43 [(0, .ref (gCa g c)), (1, .int x1)] [] := by
  intro n
  induction n with
  | zero =>
    intro x1 C h
    cases h
  | succ n ih =>
    intro x1 C h
    exact bc_Core_forgets_43b hc O ih x1 C h
def fc_Core_forgets_23b (c : Nat) (K23 : Int32 → Mem → Option (Unit × Mem)) (x1 : Int32) (C : Mem) : Option (Unit × Mem) :=
  if 4 ≤ x1 then
    fc_Core_forgets_43 c 600 0 C
  else
    gd (inb x1 4) <|
    stp (up2 C (c + 2) x1.toNatClampNeg FP.fconst0.toInt32) fun C3 =>
    K23 (x1 + 1) C3
set_option maxHeartbeats 4000000 in
theorem bc_Core_forgets_23b {g : gC} {X : Cxt} {r : Unit} {C' : Mem} {c : Nat} (hc : cC c) (O : OkC g X cX4_forgets 2 none RX4 2 0 (cQv g r C')) {K23 : Int32 → Mem → Option (Unit × Mem)} (hK23 : ∀ (x1 : Int32) (C : Mem), K23 x1 C = some (r, C') → V X 2 0 (WdC g C) 23 [(0, .ref (gCa g c)), (1, .int x1)] []) (x1 : Int32) (C : Mem) (h : fc_Core_forgets_23b c K23 x1 C = some (r, C')) : V X 2 0 (WdC g C) 23 [(0, .ref (gCa g c)), (1, .int x1)] [] := by
  unfold fc_Core_forgets_23b at h
  refine v_iload_n O.1 dX4_forgets_23 rfl (q := 24) rfl ?_
  refine v_iconst O.1 dX4_forgets_24 (v := 4) rfl (q := 25) rfl ?_
  refine v_icmp_ge O.1 dX4_forgets_25 (t := 41) (by decide) (q := 28) rfl (fun c1 => ?_) (fun c1 => ?_)
  · rw [if_pos c1] at h
    refine v_iconst O.1 dX4_forgets_41 (v := 0) rfl (q := 42) rfl ?_
    refine v_istore_n (lv' := [(1, .int 0), (0, .ref (gCa g c))]) O.1 dX4_forgets_42 (by decide) rfl (q := 43) rfl ?_
    exact v_sub [1, 0] rfl (bc_Core_forgets_43 hc O 600 0 C h)
  · rw [if_neg c1] at h
    refine v_aload_n O.1 dX4_forgets_28 rfl (q := 29) rfl ?_
    refine c_getC O hc 4 (v := .ref (gCa g (c + 2))) (by decide) (O.lk q835) rfl (fun _ => rfl) dX4_forgets_29 (q := 32) rfl ?_
    refine v_iload_n O.1 dX4_forgets_32 rfl (q := 33) rfl ?_
    refine v_fconst0 O.1 dX4_forgets_33 (q := 34) rfl ?_
    obtain ⟨g2, h⟩ := gd_some h
    obtain ⟨C3, e3, h⟩ := stp_some h
    refine c_fast O hc g2 rfl (j := x1.toNatClampNeg) dX4_forgets_34 (q := 35) rfl e3 ?_
    refine v_iinc (lv' := [(1, .int (x1 + 1)), (0, .ref (gCa g c))]) (v := (x1 + 1)) O.1 dX4_forgets_35 rfl rfl (by decide) rfl (q := 38) rfl ?_
    refine v_goto O.1 dX4_forgets_38 (t := 23) (by decide) ?_
    exact v_sub [1, 0] rfl (hK23 (x1 + 1) C3 h)
def fc_Core_forgets_23 (c : Nat) (n : Nat) : Int32 → Mem → Option (Unit × Mem) := lpc (fc_Core_forgets_23b c) (fun _ _ => none) n
theorem bc_Core_forgets_23 {g : gC} {X : Cxt} {r : Unit} {C' : Mem} {c : Nat} (hc : cC c) (O : OkC g X cX4_forgets 2 none RX4 2 0 (cQv g r C')) : ∀ (n : Nat) (x1 : Int32) (C : Mem), fc_Core_forgets_23 c n x1 C = some (r, C') → V X 2 0 (WdC g C) 23 [(0, .ref (gCa g c)), (1, .int x1)] [] := by
  intro n
  induction n with
  | zero =>
    intro x1 C h
    cases h
  | succ n ih =>
    intro x1 C h
    exact bc_Core_forgets_23b hc O ih x1 C h
def fc_Core_forgets_2b (c : Nat) (K2 : Int32 → Mem → Option (Unit × Mem)) (x1 : Int32) (C : Mem) : Option (Unit × Mem) :=
  if 8 ≤ x1 then
    fc_Core_forgets_23 c 600 0 C
  else
    gd (inb x1 8) <|
    stp (up2 C (c + 1) x1.toNatClampNeg 0) fun C3 =>
    K2 (x1 + 1) C3
set_option maxHeartbeats 4000000 in
theorem bc_Core_forgets_2b {g : gC} {X : Cxt} {r : Unit} {C' : Mem} {c : Nat} (hc : cC c) (O : OkC g X cX4_forgets 2 none RX4 2 0 (cQv g r C')) {K2 : Int32 → Mem → Option (Unit × Mem)} (hK2 : ∀ (x1 : Int32) (C : Mem), K2 x1 C = some (r, C') → V X 2 0 (WdC g C) 2 [(0, .ref (gCa g c)), (1, .int x1)] []) (x1 : Int32) (C : Mem) (h : fc_Core_forgets_2b c K2 x1 C = some (r, C')) : V X 2 0 (WdC g C) 2 [(0, .ref (gCa g c)), (1, .int x1)] [] := by
  unfold fc_Core_forgets_2b at h
  refine v_iload_n O.1 dX4_forgets_2 rfl (q := 3) rfl ?_
  refine v_bipush O.1 dX4_forgets_3 (v := 8) (by decide) (q := 5) rfl ?_
  refine v_icmp_ge O.1 dX4_forgets_5 (t := 21) (by decide) (q := 8) rfl (fun c1 => ?_) (fun c1 => ?_)
  · rw [if_pos c1] at h
    refine v_iconst O.1 dX4_forgets_21 (v := 0) rfl (q := 22) rfl ?_
    refine v_istore_n (lv' := [(1, .int 0), (0, .ref (gCa g c))]) O.1 dX4_forgets_22 (by decide) rfl (q := 23) rfl ?_
    exact v_sub [1, 0] rfl (bc_Core_forgets_23 hc O 600 0 C h)
  · rw [if_neg c1] at h
    refine v_aload_n O.1 dX4_forgets_8 rfl (q := 9) rfl ?_
    refine c_getC O hc 3 (v := .ref (gCa g (c + 1))) (by decide) (O.lk q833) rfl (fun _ => rfl) dX4_forgets_9 (q := 12) rfl ?_
    refine v_iload_n O.1 dX4_forgets_12 rfl (q := 13) rfl ?_
    refine v_iconst O.1 dX4_forgets_13 (v := 0) rfl (q := 14) rfl ?_
    obtain ⟨g2, h⟩ := gd_some h
    obtain ⟨C3, e3, h⟩ := stp_some h
    refine c_iast O (cIA_r hc) g2 rfl (j := x1.toNatClampNeg) dX4_forgets_14 (q := 15) rfl e3 ?_
    refine v_iinc (lv' := [(1, .int (x1 + 1)), (0, .ref (gCa g c))]) (v := (x1 + 1)) O.1 dX4_forgets_15 rfl rfl (by decide) rfl (q := 18) rfl ?_
    refine v_goto O.1 dX4_forgets_18 (t := 2) (by decide) ?_
    exact v_sub [1, 0] rfl (hK2 (x1 + 1) C3 h)
def fc_Core_forgets_2 (c : Nat) (n : Nat) : Int32 → Mem → Option (Unit × Mem) := lpc (fc_Core_forgets_2b c) (fun _ _ => none) n
theorem bc_Core_forgets_2 {g : gC} {X : Cxt} {r : Unit} {C' : Mem} {c : Nat} (hc : cC c) (O : OkC g X cX4_forgets 2 none RX4 2 0 (cQv g r C')) : ∀ (n : Nat) (x1 : Int32) (C : Mem), fc_Core_forgets_2 c n x1 C = some (r, C') → V X 2 0 (WdC g C) 2 [(0, .ref (gCa g c)), (1, .int x1)] [] := by
  intro n
  induction n with
  | zero =>
    intro x1 C h
    cases h
  | succ n ih =>
    intro x1 C h
    exact bc_Core_forgets_2b hc O ih x1 C h
def fc_Core_forgets (c : Nat)  (C : Mem) : Option (Unit × Mem) :=
  fc_Core_forgets_2 c 600 0 C
set_option maxHeartbeats 4000000 in
theorem bc_Core_forgets {g : gC} {X : Cxt} {r : Unit} {C' : Mem} {c : Nat} (hc : cC c) (O : OkC g X cX4_forgets 2 none RX4 2 0 (cQv g r C'))  (C : Mem) (h : fc_Core_forgets c  C = some (r, C')) : V X 2 0 (WdC g C) 0 [(0, .ref (gCa g c))] [] := by
  unfold fc_Core_forgets at h
  refine v_iconst O.1 dX4_forgets_0 (v := 0) rfl (q := 1) rfl ?_
  refine v_istore_n (lv' := [(1, .int 0), (0, .ref (gCa g c))]) O.1 dX4_forgets_1 (by decide) rfl (q := 2) rfl ?_
  exact v_sub [1, 0] rfl (bc_Core_forgets_2 hc O 600 0 C h)
theorem metc_Core_forgets (l : Launch) (g : gC) (c : Nat) (hc : cC c) (C C' : Mem) (r : Unit) (h : fc_Core_forgets c C = some (r, C')) : MetC l g yX4_forgets cX4_forgets 2 none 2 0 [.ref (gCa g c)] C (cQv g r C') :=
  c_met (by decide) rfl (Nat.le_of_ble_eq_true rfl) (fun X O => bc_Core_forgets hc O C h)
/-! RankEntry$Core.takes(LRankEntry$Core;)V -/
def fc_Core_takes_72b (c : Nat) (ka1 : Nat) (K72 : Int32 → Mem → Option (Unit × Mem)) (x2 : Int32) (C : Mem) : Option (Unit × Mem) :=
  if 21 ≤ x2 then
    stp (upr C (c + 6) (va_cpy (C (ka1 + 6)) (C (c + 6)) 0 0 21)) fun C2 =>
    stp (upr C2 (c + 7) (va_cpy (C2 (ka1 + 7)) (C2 (c + 7)) 0 0 32)) fun C3 =>
    stp (upr C3 (c + 8) (va_cpy (C3 (ka1 + 8)) (C3 (c + 8)) 0 0 32)) fun C4 =>
    stp (up2 C4 c 29 (C4 ka1 29)) fun C5 =>
    stp (up2 C5 c 30 (C5 ka1 30)) fun C6 =>
    stp (up2 C6 c 31 (C6 ka1 31)) fun C7 =>
    stp (up2 C7 c 32 (C7 ka1 32)) fun C8 =>
    stp (up2 C8 c 33 (C8 ka1 33)) fun C9 =>
    stp (up2 C9 c 34 (C9 ka1 34)) fun C10 =>
    stp (up2 C10 c 27 (C10 ka1 27)) fun C11 =>
    stp (up2 C11 c 35 (C11 ka1 35)) fun C12 =>
    stp (up2 C12 c 36 (C12 ka1 36)) fun C13 =>
    stp (up2 C13 c 37 (C13 ka1 37)) fun C14 =>
    stp (up2 C14 c 38 (C14 ka1 38)) fun C15 =>
    stp (up2 C15 c 39 (C15 ka1 39)) fun C16 =>
    stp (up2 C16 c 40 (C16 ka1 40)) fun C17 =>
    bnd (fc_Core_turns c (C17 ka1 41) C17) fun r18 C18 =>
    stp (up2 C18 c 42 (C18 ka1 42)) fun C19 =>
    stp (up2 C19 c 43 (C19 ka1 43)) fun C20 =>
    gd (isB (C20 ka1 44)) <|
    stp (up2 C20 c 44 (C20 ka1 44)) fun C22 =>
    stp (up2 C22 c 45 (C22 ka1 45)) fun C23 =>
    stp (up2 C23 c 46 (C23 ka1 46)) fun C24 =>
    stp (up2 C24 c 47 (C24 ka1 47)) fun C25 =>
    gd (isB (C25 ka1 48)) <|
    stp (up2 C25 c 48 (C25 ka1 48)) fun C27 =>
    gd (isB (C27 ka1 49)) <|
    stp (up2 C27 c 49 (C27 ka1 49)) fun C29 =>
    some ((), C29)
  else
    gd (inb x2 21) <|
    gd (inb x2 21) <|
    bnd (fv_takes (c + 22 + x2.toNatClampNeg) (ka1 + 22 + x2.toNatClampNeg) C) fun r32 C32 =>
    K72 (x2 + 1) C32
set_option maxHeartbeats 4000000 in
theorem bc_Core_takes_72b {g : gC} {X : Cxt} {r : Unit} {C' : Mem} {c : Nat} {ka1 : Nat} (hc : cC c) (hka1 : cC ka1) (O : OkC g X cX4_takes 3 none RX4 2 0 (cQv g r C')) {K72 : Int32 → Mem → Option (Unit × Mem)} (hK72 : ∀ (x2 : Int32) (C : Mem), K72 x2 C = some (r, C') → V X 3 0 (WdC g C) 72 [(0, .ref (gCa g c)), (1, .ref (gCa g ka1)), (2, .int x2)] []) (x2 : Int32) (C : Mem) (h : fc_Core_takes_72b c ka1 K72 x2 C = some (r, C')) : V X 3 0 (WdC g C) 72 [(0, .ref (gCa g c)), (1, .ref (gCa g ka1)), (2, .int x2)] [] := by
  unfold fc_Core_takes_72b at h
  refine v_iload_n O.1 dX4_takes_72 rfl (q := 73) rfl ?_
  refine v_bipush O.1 dX4_takes_73 (v := 21) (by decide) (q := 75) rfl ?_
  refine v_icmp_ge O.1 dX4_takes_75 (t := 99) (by decide) (q := 78) rfl (fun c1 => ?_) (fun c1 => ?_)
  · rw [if_pos c1] at h
    refine v_aload_n O.1 dX4_takes_99 rfl (q := 100) rfl ?_
    refine c_getC O hka1 8 (v := .ref (gCa g (ka1 + 6))) (by decide) (O.lk q852) rfl (fun _ => rfl) dX4_takes_100 (q := 103) rfl ?_
    refine v_iconst O.1 dX4_takes_103 (v := 0) rfl (q := 104) rfl ?_
    refine v_aload_n O.1 dX4_takes_104 rfl (q := 105) rfl ?_
    refine c_getC O hc 8 (v := .ref (gCa g (c + 6))) (by decide) (O.lk q852) rfl (fun _ => rfl) dX4_takes_105 (q := 108) rfl ?_
    refine v_iconst O.1 dX4_takes_108 (v := 0) rfl (q := 109) rfl ?_
    refine v_bipush O.1 dX4_takes_109 (v := 21) (by decide) (q := 111) rfl ?_
    obtain ⟨C2, e2, h⟩ := stp_some h
    refine c_copy O (n := 21) (cIA_nest hka1) (cIA_nest hc) (by decide) (by decide) q1246 (by decide) (Nat.le_of_ble_eq_true rfl) dX4_takes_111 (q := 114) rfl e2 ?_
    refine v_aload_n O.1 dX4_takes_114 rfl (q := 115) rfl ?_
    refine c_getC O hka1 9 (v := .ref (gCa g (ka1 + 7))) (by decide) (O.lk q854) rfl (fun _ => rfl) dX4_takes_115 (q := 118) rfl ?_
    refine v_iconst O.1 dX4_takes_118 (v := 0) rfl (q := 119) rfl ?_
    refine v_aload_n O.1 dX4_takes_119 rfl (q := 120) rfl ?_
    refine c_getC O hc 9 (v := .ref (gCa g (c + 7))) (by decide) (O.lk q854) rfl (fun _ => rfl) dX4_takes_120 (q := 123) rfl ?_
    refine v_iconst O.1 dX4_takes_123 (v := 0) rfl (q := 124) rfl ?_
    refine v_bipush O.1 dX4_takes_124 (v := 32) (by decide) (q := 126) rfl ?_
    obtain ⟨C3, e3, h⟩ := stp_some h
    refine c_copy O (n := 32) (cIA_due hka1) (cIA_due hc) (by decide) (by decide) q1246 (by decide) (Nat.le_of_ble_eq_true rfl) dX4_takes_126 (q := 129) rfl e3 ?_
    refine v_aload_n O.1 dX4_takes_129 rfl (q := 130) rfl ?_
    refine c_getC O hka1 10 (v := .ref (gCa g (ka1 + 8))) (by decide) (O.lk q856) rfl (fun _ => rfl) dX4_takes_130 (q := 133) rfl ?_
    refine v_iconst O.1 dX4_takes_133 (v := 0) rfl (q := 134) rfl ?_
    refine v_aload_n O.1 dX4_takes_134 rfl (q := 135) rfl ?_
    refine c_getC O hc 10 (v := .ref (gCa g (c + 8))) (by decide) (O.lk q856) rfl (fun _ => rfl) dX4_takes_135 (q := 138) rfl ?_
    refine v_iconst O.1 dX4_takes_138 (v := 0) rfl (q := 139) rfl ?_
    refine v_bipush O.1 dX4_takes_139 (v := 32) (by decide) (q := 141) rfl ?_
    obtain ⟨C4, e4, h⟩ := stp_some h
    refine c_copy O (n := 32) (cIA_dueOf hka1) (cIA_dueOf hc) (by decide) (by decide) q1246 (by decide) (Nat.le_of_ble_eq_true rfl) dX4_takes_141 (q := 144) rfl e4 ?_
    refine v_aload_n O.1 dX4_takes_144 rfl (q := 145) rfl ?_
    refine v_aload_n O.1 dX4_takes_145 rfl (q := 146) rfl ?_
    refine c_getC O hka1 29 (v := .int (C4 ka1 29)) (by decide) (O.lk q881) rfl (fun _ => rfl) dX4_takes_146 (q := 149) rfl ?_
    obtain ⟨C5, e5, h⟩ := stp_some h
    refine c_putC O hc 29 (u := (C4 ka1 29)) (ty := .int) (by decide) (by decide) (O.lk q881) rfl rfl rfl rfl rfl (fun _ => rfl) dX4_takes_149 (q := 152) rfl e5 ?_
    refine v_aload_n O.1 dX4_takes_152 rfl (q := 153) rfl ?_
    refine v_aload_n O.1 dX4_takes_153 rfl (q := 154) rfl ?_
    refine c_getC O hka1 30 (v := .int (C5 ka1 30)) (by decide) (O.lk q884) rfl (fun _ => rfl) dX4_takes_154 (q := 157) rfl ?_
    obtain ⟨C6, e6, h⟩ := stp_some h
    refine c_putC O hc 30 (u := (C5 ka1 30)) (ty := .int) (by decide) (by decide) (O.lk q884) rfl rfl rfl rfl rfl (fun _ => rfl) dX4_takes_157 (q := 160) rfl e6 ?_
    refine v_aload_n O.1 dX4_takes_160 rfl (q := 161) rfl ?_
    refine v_aload_n O.1 dX4_takes_161 rfl (q := 162) rfl ?_
    refine c_getC O hka1 31 (v := .int (C6 ka1 31)) (by decide) (O.lk q889) rfl (fun _ => rfl) dX4_takes_162 (q := 165) rfl ?_
    obtain ⟨C7, e7, h⟩ := stp_some h
    refine c_putC O hc 31 (u := (C6 ka1 31)) (ty := .int) (by decide) (by decide) (O.lk q889) rfl rfl rfl rfl rfl (fun _ => rfl) dX4_takes_165 (q := 168) rfl e7 ?_
    refine v_aload_n O.1 dX4_takes_168 rfl (q := 169) rfl ?_
    refine v_aload_n O.1 dX4_takes_169 rfl (q := 170) rfl ?_
    refine c_getC O hka1 32 (v := .int (C7 ka1 32)) (by decide) (O.lk q893) rfl (fun _ => rfl) dX4_takes_170 (q := 173) rfl ?_
    obtain ⟨C8, e8, h⟩ := stp_some h
    refine c_putC O hc 32 (u := (C7 ka1 32)) (ty := .int) (by decide) (by decide) (O.lk q893) rfl rfl rfl rfl rfl (fun _ => rfl) dX4_takes_173 (q := 176) rfl e8 ?_
    refine v_aload_n O.1 dX4_takes_176 rfl (q := 177) rfl ?_
    refine v_aload_n O.1 dX4_takes_177 rfl (q := 178) rfl ?_
    refine c_getC O hka1 33 (v := .int (C8 ka1 33)) (by decide) (O.lk q895) rfl (fun _ => rfl) dX4_takes_178 (q := 181) rfl ?_
    obtain ⟨C9, e9, h⟩ := stp_some h
    refine c_putC O hc 33 (u := (C8 ka1 33)) (ty := .int) (by decide) (by decide) (O.lk q895) rfl rfl rfl rfl rfl (fun _ => rfl) dX4_takes_181 (q := 184) rfl e9 ?_
    refine v_aload_n O.1 dX4_takes_184 rfl (q := 185) rfl ?_
    refine v_aload_n O.1 dX4_takes_185 rfl (q := 186) rfl ?_
    refine c_getC O hka1 34 (v := .int (C9 ka1 34)) (by decide) (O.lk q897) rfl (fun _ => rfl) dX4_takes_186 (q := 189) rfl ?_
    obtain ⟨C10, e10, h⟩ := stp_some h
    refine c_putC O hc 34 (u := (C9 ka1 34)) (ty := .int) (by decide) (by decide) (O.lk q897) rfl rfl rfl rfl rfl (fun _ => rfl) dX4_takes_189 (q := 192) rfl e10 ?_
    refine v_aload_n O.1 dX4_takes_192 rfl (q := 193) rfl ?_
    refine v_aload_n O.1 dX4_takes_193 rfl (q := 194) rfl ?_
    obtain ⟨C11, e11, h⟩ := stp_some h
    refine c_cpA O hc hka1 (O.lk q877) q877 dX4_takes_194 dX4_takes_197 (q := 200) rfl e11 ?_
    refine v_aload_n O.1 dX4_takes_200 rfl (q := 201) rfl ?_
    refine v_aload_n O.1 dX4_takes_201 rfl (q := 202) rfl ?_
    refine c_getC O hka1 35 (v := .int (C11 ka1 35)) (by decide) (O.lk q900) rfl (fun _ => rfl) dX4_takes_202 (q := 205) rfl ?_
    obtain ⟨C12, e12, h⟩ := stp_some h
    refine c_putC O hc 35 (u := (C11 ka1 35)) (ty := .int) (by decide) (by decide) (O.lk q900) rfl rfl rfl rfl rfl (fun _ => rfl) dX4_takes_205 (q := 208) rfl e12 ?_
    refine v_aload_n O.1 dX4_takes_208 rfl (q := 209) rfl ?_
    refine v_aload_n O.1 dX4_takes_209 rfl (q := 210) rfl ?_
    refine c_getC O hka1 36 (v := .int (C12 ka1 36)) (by decide) (O.lk q903) rfl (fun _ => rfl) dX4_takes_210 (q := 213) rfl ?_
    obtain ⟨C13, e13, h⟩ := stp_some h
    refine c_putC O hc 36 (u := (C12 ka1 36)) (ty := .int) (by decide) (by decide) (O.lk q903) rfl rfl rfl rfl rfl (fun _ => rfl) dX4_takes_213 (q := 216) rfl e13 ?_
    refine v_aload_n O.1 dX4_takes_216 rfl (q := 217) rfl ?_
    refine v_aload_n O.1 dX4_takes_217 rfl (q := 218) rfl ?_
    refine c_getC O hka1 37 (v := .int (C13 ka1 37)) (by decide) (O.lk q905) rfl (fun _ => rfl) dX4_takes_218 (q := 221) rfl ?_
    obtain ⟨C14, e14, h⟩ := stp_some h
    refine c_putC O hc 37 (u := (C13 ka1 37)) (ty := .int) (by decide) (by decide) (O.lk q905) rfl rfl rfl rfl rfl (fun _ => rfl) dX4_takes_221 (q := 224) rfl e14 ?_
    refine v_aload_n O.1 dX4_takes_224 rfl (q := 225) rfl ?_
    refine v_aload_n O.1 dX4_takes_225 rfl (q := 226) rfl ?_
    refine c_getC O hka1 38 (v := .int (C14 ka1 38)) (by decide) (O.lk q907) rfl (fun _ => rfl) dX4_takes_226 (q := 229) rfl ?_
    obtain ⟨C15, e15, h⟩ := stp_some h
    refine c_putC O hc 38 (u := (C14 ka1 38)) (ty := .int) (by decide) (by decide) (O.lk q907) rfl rfl rfl rfl rfl (fun _ => rfl) dX4_takes_229 (q := 232) rfl e15 ?_
    refine v_aload_n O.1 dX4_takes_232 rfl (q := 233) rfl ?_
    refine v_aload_n O.1 dX4_takes_233 rfl (q := 234) rfl ?_
    refine c_getC O hka1 39 (v := .int (C15 ka1 39)) (by decide) (O.lk q909) rfl (fun _ => rfl) dX4_takes_234 (q := 237) rfl ?_
    obtain ⟨C16, e16, h⟩ := stp_some h
    refine c_putC O hc 39 (u := (C15 ka1 39)) (ty := .int) (by decide) (by decide) (O.lk q909) rfl rfl rfl rfl rfl (fun _ => rfl) dX4_takes_237 (q := 240) rfl e16 ?_
    refine v_aload_n O.1 dX4_takes_240 rfl (q := 241) rfl ?_
    refine v_aload_n O.1 dX4_takes_241 rfl (q := 242) rfl ?_
    refine c_getC O hka1 40 (v := .int (C16 ka1 40)) (by decide) (O.lk q911) rfl (fun _ => rfl) dX4_takes_242 (q := 245) rfl ?_
    obtain ⟨C17, e17, h⟩ := stp_some h
    refine c_putC O hc 40 (u := (C16 ka1 40)) (ty := .int) (by decide) (by decide) (O.lk q911) rfl rfl rfl rfl rfl (fun _ => rfl) dX4_takes_245 (q := 248) rfl e17 ?_
    refine v_aload_n O.1 dX4_takes_248 rfl (q := 249) rfl ?_
    refine v_aload_n O.1 dX4_takes_249 rfl (q := 250) rfl ?_
    refine c_getC O hka1 41 (v := .int (C17 ka1 41)) (by decide) (O.lk q913) rfl (fun _ => rfl) dX4_takes_250 (q := 253) rfl ?_
    obtain ⟨r18, C18, e18, h⟩ := bnd_some h
    refine c_callVv (As := [.int (C17 ka1 41)]) (rest := []) (n := 1) (ci := 2) (p := (RX4, TX4, 55)) O (cC_lt (j := 0) hc (by decide)) rfl (fun _ _ => ⟨_, cCell_core hc⟩) (metc_Core_turns _ g c hc (C17 ka1 41) C17 C18 r18 e18) (lw_V q238 q239 q240 q63 q241) (by decide +kernel) (by decide) (by decide) rfl rfl (Nat.le_of_ble_eq_true rfl) dX4_takes_253 (q := 256) rfl (b' := 0) rfl ?_
    refine v_aload_n O.1 dX4_takes_256 rfl (q := 257) rfl ?_
    refine v_aload_n O.1 dX4_takes_257 rfl (q := 258) rfl ?_
    refine c_getC O hka1 42 (v := .int (C18 ka1 42)) (by decide) (O.lk q915) rfl (fun _ => rfl) dX4_takes_258 (q := 261) rfl ?_
    obtain ⟨C19, e19, h⟩ := stp_some h
    refine c_putC O hc 42 (u := (C18 ka1 42)) (ty := .int) (by decide) (by decide) (O.lk q915) rfl rfl rfl rfl rfl (fun _ => rfl) dX4_takes_261 (q := 264) rfl e19 ?_
    refine v_aload_n O.1 dX4_takes_264 rfl (q := 265) rfl ?_
    refine v_aload_n O.1 dX4_takes_265 rfl (q := 266) rfl ?_
    refine c_getC O hka1 43 (v := .int (C19 ka1 43)) (by decide) (O.lk q917) rfl (fun _ => rfl) dX4_takes_266 (q := 269) rfl ?_
    obtain ⟨C20, e20, h⟩ := stp_some h
    refine c_putC O hc 43 (u := (C19 ka1 43)) (ty := .int) (by decide) (by decide) (O.lk q917) rfl rfl rfl rfl rfl (fun _ => rfl) dX4_takes_269 (q := 272) rfl e20 ?_
    refine v_aload_n O.1 dX4_takes_272 rfl (q := 273) rfl ?_
    refine v_aload_n O.1 dX4_takes_273 rfl (q := 274) rfl ?_
    refine c_getC O hka1 44 (v := .int (C20 ka1 44)) (by decide) (O.lk q920) rfl (fun _ => rfl) dX4_takes_274 (q := 277) rfl ?_
    obtain ⟨g21, h⟩ := gd_some h
    obtain ⟨C22, e22, h⟩ := stp_some h
    refine c_putC O hc 44 (u := (C20 ka1 44)) (ty := .boolean) (by decide) (by decide) (O.lk q920) rfl rfl rfl (isB_nar g21) (isB_fit g21) (fun _ => rfl) dX4_takes_277 (q := 280) rfl e22 ?_
    refine v_aload_n O.1 dX4_takes_280 rfl (q := 281) rfl ?_
    refine v_aload_n O.1 dX4_takes_281 rfl (q := 282) rfl ?_
    refine c_getC O hka1 45 (v := .int (C22 ka1 45)) (by decide) (O.lk q922) rfl (fun _ => rfl) dX4_takes_282 (q := 285) rfl ?_
    obtain ⟨C23, e23, h⟩ := stp_some h
    refine c_putC O hc 45 (u := (C22 ka1 45)) (ty := .int) (by decide) (by decide) (O.lk q922) rfl rfl rfl rfl rfl (fun _ => rfl) dX4_takes_285 (q := 288) rfl e23 ?_
    refine v_aload_n O.1 dX4_takes_288 rfl (q := 289) rfl ?_
    refine v_aload_n O.1 dX4_takes_289 rfl (q := 290) rfl ?_
    refine c_getC O hka1 46 (v := .int (C23 ka1 46)) (by decide) (O.lk q924) rfl (fun _ => rfl) dX4_takes_290 (q := 293) rfl ?_
    obtain ⟨C24, e24, h⟩ := stp_some h
    refine c_putC O hc 46 (u := (C23 ka1 46)) (ty := .int) (by decide) (by decide) (O.lk q924) rfl rfl rfl rfl rfl (fun _ => rfl) dX4_takes_293 (q := 296) rfl e24 ?_
    refine v_aload_n O.1 dX4_takes_296 rfl (q := 297) rfl ?_
    refine v_aload_n O.1 dX4_takes_297 rfl (q := 298) rfl ?_
    refine c_getC O hka1 47 (v := .int (C24 ka1 47)) (by decide) (O.lk q926) rfl (fun _ => rfl) dX4_takes_298 (q := 301) rfl ?_
    obtain ⟨C25, e25, h⟩ := stp_some h
    refine c_putC O hc 47 (u := (C24 ka1 47)) (ty := .int) (by decide) (by decide) (O.lk q926) rfl rfl rfl rfl rfl (fun _ => rfl) dX4_takes_301 (q := 304) rfl e25 ?_
    refine v_aload_n O.1 dX4_takes_304 rfl (q := 305) rfl ?_
    refine v_aload_n O.1 dX4_takes_305 rfl (q := 306) rfl ?_
    refine c_getC O hka1 48 (v := .int (C25 ka1 48)) (by decide) (O.lk q927) rfl (fun _ => rfl) dX4_takes_306 (q := 309) rfl ?_
    obtain ⟨g26, h⟩ := gd_some h
    obtain ⟨C27, e27, h⟩ := stp_some h
    refine c_putC O hc 48 (u := (C25 ka1 48)) (ty := .boolean) (by decide) (by decide) (O.lk q927) rfl rfl rfl (isB_nar g26) (isB_fit g26) (fun _ => rfl) dX4_takes_309 (q := 312) rfl e27 ?_
    refine v_aload_n O.1 dX4_takes_312 rfl (q := 313) rfl ?_
    refine v_aload_n O.1 dX4_takes_313 rfl (q := 314) rfl ?_
    refine c_getC O hka1 49 (v := .int (C27 ka1 49)) (by decide) (O.lk q928) rfl (fun _ => rfl) dX4_takes_314 (q := 317) rfl ?_
    obtain ⟨g28, h⟩ := gd_some h
    obtain ⟨C29, e29, h⟩ := stp_some h
    refine c_putC O hc 49 (u := (C27 ka1 49)) (ty := .boolean) (by decide) (by decide) (O.lk q928) rfl rfl rfl (isB_nar g28) (isB_fit g28) (fun _ => rfl) dX4_takes_317 (q := 320) rfl e29 ?_
    exact c_vret O h dX4_takes_320
  · rw [if_neg c1] at h
    refine v_aload_n O.1 dX4_takes_78 rfl (q := 79) rfl ?_
    refine c_getC O hc 7 (v := .ref (gCa g (c + 5))) (by decide) (O.lk q848) rfl (fun _ => rfl) dX4_takes_79 (q := 82) rfl ?_
    refine v_iload_n O.1 dX4_takes_82 rfl (q := 83) rfl ?_
    obtain ⟨g30, h⟩ := gd_some h
    refine c_all O hc g30 rfl (j := x2.toNatClampNeg) dX4_takes_83 (q := 84) rfl ?_
    refine v_aload_n O.1 dX4_takes_84 rfl (q := 85) rfl ?_
    refine c_getC O hka1 7 (v := .ref (gCa g (ka1 + 5))) (by decide) (O.lk q848) rfl (fun _ => rfl) dX4_takes_85 (q := 88) rfl ?_
    refine v_iload_n O.1 dX4_takes_88 rfl (q := 89) rfl ?_
    obtain ⟨g31, h⟩ := gd_some h
    refine c_all O hka1 g31 rfl (j := x2.toNatClampNeg) dX4_takes_89 (q := 90) rfl ?_
    obtain ⟨r32, C32, e32, h⟩ := bnd_some h
    refine c_v_takes (rest := []) O (cS_of hc (inb_lt g30)) (cS_of hka1 (inb_lt g31)) e32 q1249 (by decide) rfl (Nat.le_of_ble_eq_true rfl) dX4_takes_90 (q := 93) rfl ?_
    refine v_iinc (lv' := [(2, .int (x2 + 1)), (0, .ref (gCa g c)), (1, .ref (gCa g ka1))]) (v := (x2 + 1)) O.1 dX4_takes_93 rfl rfl (by decide) rfl (q := 96) rfl ?_
    refine v_goto O.1 dX4_takes_96 (t := 72) (by decide) ?_
    exact v_sub [1, 2, 0] rfl (hK72 (x2 + 1) C32 h)
def fc_Core_takes_72 (c : Nat) (ka1 : Nat) (n : Nat) : Int32 → Mem → Option (Unit × Mem) := lpc (fc_Core_takes_72b c ka1) (fun _ _ => none) n
theorem bc_Core_takes_72 {g : gC} {X : Cxt} {r : Unit} {C' : Mem} {c : Nat} {ka1 : Nat} (hc : cC c) (hka1 : cC ka1) (O : OkC g X cX4_takes 3 none RX4 2 0 (cQv g r C')) : ∀ (n : Nat) (x2 : Int32) (C : Mem), fc_Core_takes_72 c ka1 n x2 C = some (r, C') → V X 3 0 (WdC g C) 72 [(0, .ref (gCa g c)), (1, .ref (gCa g ka1)), (2, .int x2)] [] := by
  intro n
  induction n with
  | zero =>
    intro x2 C h
    cases h
  | succ n ih =>
    intro x2 C h
    exact bc_Core_takes_72b hc hka1 O ih x2 C h
def fc_Core_takes_17b (c : Nat) (ka1 : Nat) (K17 : Int32 → Mem → Option (Unit × Mem)) (x2 : Int32) (C : Mem) : Option (Unit × Mem) :=
  if 4 ≤ x2 then
    stp (upr C (c + 3) (va_cpy (C (ka1 + 3)) (C (c + 3)) 0 0 16)) fun C2 =>
    stp (upr C2 (c + 4) (va_cpy (C2 (ka1 + 4)) (C2 (c + 4)) 0 0 96)) fun C3 =>
    fc_Core_takes_72 c ka1 600 0 C3
  else
    gd (inb x2 4) <|
    gd (inb x2 4) <|
    stp (up2 C (c + 2) x2.toNatClampNeg ((C (ka1 + 2) x2.toNatClampNeg).toUInt32).toInt32) fun C6 =>
    K17 (x2 + 1) C6
set_option maxHeartbeats 4000000 in
theorem bc_Core_takes_17b {g : gC} {X : Cxt} {r : Unit} {C' : Mem} {c : Nat} {ka1 : Nat} (hc : cC c) (hka1 : cC ka1) (O : OkC g X cX4_takes 3 none RX4 2 0 (cQv g r C')) {K17 : Int32 → Mem → Option (Unit × Mem)} (hK17 : ∀ (x2 : Int32) (C : Mem), K17 x2 C = some (r, C') → V X 3 0 (WdC g C) 17 [(0, .ref (gCa g c)), (1, .ref (gCa g ka1)), (2, .int x2)] []) (x2 : Int32) (C : Mem) (h : fc_Core_takes_17b c ka1 K17 x2 C = some (r, C')) : V X 3 0 (WdC g C) 17 [(0, .ref (gCa g c)), (1, .ref (gCa g ka1)), (2, .int x2)] [] := by
  unfold fc_Core_takes_17b at h
  refine v_iload_n O.1 dX4_takes_17 rfl (q := 18) rfl ?_
  refine v_iconst O.1 dX4_takes_18 (v := 4) rfl (q := 19) rfl ?_
  refine v_icmp_ge O.1 dX4_takes_19 (t := 40) (by decide) (q := 22) rfl (fun c1 => ?_) (fun c1 => ?_)
  · rw [if_pos c1] at h
    refine v_aload_n O.1 dX4_takes_40 rfl (q := 41) rfl ?_
    refine c_getC O hka1 5 (v := .ref (gCa g (ka1 + 3))) (by decide) (O.lk q840) rfl (fun _ => rfl) dX4_takes_41 (q := 44) rfl ?_
    refine v_iconst O.1 dX4_takes_44 (v := 0) rfl (q := 45) rfl ?_
    refine v_aload_n O.1 dX4_takes_45 rfl (q := 46) rfl ?_
    refine c_getC O hc 5 (v := .ref (gCa g (c + 3))) (by decide) (O.lk q840) rfl (fun _ => rfl) dX4_takes_46 (q := 49) rfl ?_
    refine v_iconst O.1 dX4_takes_49 (v := 0) rfl (q := 50) rfl ?_
    refine v_bipush O.1 dX4_takes_50 (v := 16) (by decide) (q := 52) rfl ?_
    obtain ⟨C2, e2, h⟩ := stp_some h
    refine c_copy O (n := 16) (cIA_data hka1) (cIA_data hc) (by decide) (by decide) q1246 (by decide) (Nat.le_of_ble_eq_true rfl) dX4_takes_52 (q := 55) rfl e2 ?_
    refine v_aload_n O.1 dX4_takes_55 rfl (q := 56) rfl ?_
    refine c_getC O hka1 6 (v := .ref (gCa g (ka1 + 4))) (by decide) (O.lk q844) rfl (fun _ => rfl) dX4_takes_56 (q := 59) rfl ?_
    refine v_iconst O.1 dX4_takes_59 (v := 0) rfl (q := 60) rfl ?_
    refine v_aload_n O.1 dX4_takes_60 rfl (q := 61) rfl ?_
    refine c_getC O hc 6 (v := .ref (gCa g (c + 4))) (by decide) (O.lk q844) rfl (fun _ => rfl) dX4_takes_61 (q := 64) rfl ?_
    refine v_iconst O.1 dX4_takes_64 (v := 0) rfl (q := 65) rfl ?_
    refine v_bipush O.1 dX4_takes_65 (v := 96) (by decide) (q := 67) rfl ?_
    obtain ⟨C3, e3, h⟩ := stp_some h
    refine c_copy O (n := 96) (cIA_stack hka1) (cIA_stack hc) (by decide) (by decide) q1246 (by decide) (Nat.le_of_ble_eq_true rfl) dX4_takes_67 (q := 70) rfl e3 ?_
    refine v_iconst O.1 dX4_takes_70 (v := 0) rfl (q := 71) rfl ?_
    refine v_istore_n (lv' := [(2, .int 0), (0, .ref (gCa g c)), (1, .ref (gCa g ka1))]) O.1 dX4_takes_71 (by decide) rfl (q := 72) rfl ?_
    exact v_sub [1, 2, 0] rfl (bc_Core_takes_72 hc hka1 O 600 0 C3 h)
  · rw [if_neg c1] at h
    refine v_aload_n O.1 dX4_takes_22 rfl (q := 23) rfl ?_
    refine c_getC O hc 4 (v := .ref (gCa g (c + 2))) (by decide) (O.lk q835) rfl (fun _ => rfl) dX4_takes_23 (q := 26) rfl ?_
    refine v_iload_n O.1 dX4_takes_26 rfl (q := 27) rfl ?_
    refine v_aload_n O.1 dX4_takes_27 rfl (q := 28) rfl ?_
    refine c_getC O hka1 4 (v := .ref (gCa g (ka1 + 2))) (by decide) (O.lk q835) rfl (fun _ => rfl) dX4_takes_28 (q := 31) rfl ?_
    refine v_iload_n O.1 dX4_takes_31 rfl (q := 32) rfl ?_
    obtain ⟨g4, h⟩ := gd_some h
    refine c_fald O hka1 g4 rfl (j := x2.toNatClampNeg) dX4_takes_32 (q := 33) rfl ?_
    obtain ⟨g5, h⟩ := gd_some h
    obtain ⟨C6, e6, h⟩ := stp_some h
    refine c_fast O hc g5 rfl (j := x2.toNatClampNeg) dX4_takes_33 (q := 34) rfl e6 ?_
    refine v_iinc (lv' := [(2, .int (x2 + 1)), (0, .ref (gCa g c)), (1, .ref (gCa g ka1))]) (v := (x2 + 1)) O.1 dX4_takes_34 rfl rfl (by decide) rfl (q := 37) rfl ?_
    refine v_goto O.1 dX4_takes_37 (t := 17) (by decide) ?_
    exact v_sub [1, 2, 0] rfl (hK17 (x2 + 1) C6 h)
def fc_Core_takes_17 (c : Nat) (ka1 : Nat) (n : Nat) : Int32 → Mem → Option (Unit × Mem) := lpc (fc_Core_takes_17b c ka1) (fun _ _ => none) n
theorem bc_Core_takes_17 {g : gC} {X : Cxt} {r : Unit} {C' : Mem} {c : Nat} {ka1 : Nat} (hc : cC c) (hka1 : cC ka1) (O : OkC g X cX4_takes 3 none RX4 2 0 (cQv g r C')) : ∀ (n : Nat) (x2 : Int32) (C : Mem), fc_Core_takes_17 c ka1 n x2 C = some (r, C') → V X 3 0 (WdC g C) 17 [(0, .ref (gCa g c)), (1, .ref (gCa g ka1)), (2, .int x2)] [] := by
  intro n
  induction n with
  | zero =>
    intro x2 C h
    cases h
  | succ n ih =>
    intro x2 C h
    exact bc_Core_takes_17b hc hka1 O ih x2 C h
def fc_Core_takes (c : Nat) (ka1 : Nat)  (C : Mem) : Option (Unit × Mem) :=
  stp (upr C (c + 1) (va_cpy (C (ka1 + 1)) (C (c + 1)) 0 0 8)) fun C1 =>
  fc_Core_takes_17 c ka1 600 0 C1
set_option maxHeartbeats 4000000 in
theorem bc_Core_takes {g : gC} {X : Cxt} {r : Unit} {C' : Mem} {c : Nat} {ka1 : Nat} (hc : cC c) (hka1 : cC ka1) (O : OkC g X cX4_takes 3 none RX4 2 0 (cQv g r C'))  (C : Mem) (h : fc_Core_takes c ka1  C = some (r, C')) : V X 3 0 (WdC g C) 0 [(0, .ref (gCa g c)), (1, .ref (gCa g ka1))] [] := by
  unfold fc_Core_takes at h
  refine v_aload_n O.1 dX4_takes_0 rfl (q := 1) rfl ?_
  refine c_getC O hka1 3 (v := .ref (gCa g (ka1 + 1))) (by decide) (O.lk q833) rfl (fun _ => rfl) dX4_takes_1 (q := 4) rfl ?_
  refine v_iconst O.1 dX4_takes_4 (v := 0) rfl (q := 5) rfl ?_
  refine v_aload_n O.1 dX4_takes_5 rfl (q := 6) rfl ?_
  refine c_getC O hc 3 (v := .ref (gCa g (c + 1))) (by decide) (O.lk q833) rfl (fun _ => rfl) dX4_takes_6 (q := 9) rfl ?_
  refine v_iconst O.1 dX4_takes_9 (v := 0) rfl (q := 10) rfl ?_
  refine v_bipush O.1 dX4_takes_10 (v := 8) (by decide) (q := 12) rfl ?_
  obtain ⟨C1, e1, h⟩ := stp_some h
  refine c_copy O (n := 8) (cIA_r hka1) (cIA_r hc) (by decide) (by decide) q1246 (by decide) (Nat.le_of_ble_eq_true rfl) dX4_takes_12 (q := 15) rfl e1 ?_
  refine v_iconst O.1 dX4_takes_15 (v := 0) rfl (q := 16) rfl ?_
  refine v_istore_n (lv' := [(2, .int 0), (0, .ref (gCa g c)), (1, .ref (gCa g ka1))]) O.1 dX4_takes_16 (by decide) rfl (q := 17) rfl ?_
  exact v_sub [1, 2, 0] rfl (bc_Core_takes_17 hc hka1 O 600 0 C1 h)
theorem metc_Core_takes (l : Launch) (g : gC) (c : Nat) (hc : cC c) (ka1 : Nat) (hka1 : cC ka1) (C C' : Mem) (r : Unit) (h : fc_Core_takes c ka1 C = some (r, C')) : MetC l g yX4_takes cX4_takes 3 none 2 0 [.ref (gCa g c), .ref (gCa g ka1)] C (cQv g r C') :=
  c_met (by decide) rfl (Nat.le_of_ble_eq_true rfl) (fun X O => bc_Core_takes hc hka1 O C h)
