theorem cSc_5 {k : Nat} (h : cSc k = 5) : k < 8 := by
  unfold cSc at h
  split at h
  · assumption
  · split at h
    · cases h
    · split at h <;> cases h
theorem cSc_6 {k : Nat} (h : cSc k = 6) : 8 ≤ k ∧ k < 16 := by
  unfold cSc at h
  split at h
  · cases h
  · split at h
    · omega
    · split at h <;> cases h
theorem cSc_7 {k : Nat} (h : cSc k = 7) : 16 ≤ k ∧ k < 20 := by
  unfold cSc at h
  split at h
  · cases h
  · split at h
    · cases h
    · split at h
      · omega
      · cases h
theorem cSc_8 {k : Nat} (h : cSc k = 8) : 20 ≤ k := by
  unfold cSc at h
  split at h
  · cases h
  · split at h
    · cases h
    · split at h
      · cases h
      · omega
theorem lw_U {own : String} {idx : Nat} {C owner : String} {x y : MethodName} {b : ByteArray} {L : Nat} {r : Option FieldType} (h1 : Cond.methodLink own idx x ∈ lw_all) (h2 : Cond.sameMethod x.cls owner x.name x.desc ∈ lw_all) (h3 : Cond.selects C x y ∈ lw_all) (h4 : Cond.instanceMethod y ∈ lw_all) (h5 : Cond.initialized y.cls ∈ lw_all) (h6 : Cond.code y b L r ∈ lw_all) : GoodIn lw_all (va_wsU own idx C owner x y (ws_ y b L r)) := by
  refine lw_app ?_ (lw_meth h6)
  intro w hw
  simp only [List.mem_cons, List.not_mem_nil, or_false] at hw
  rcases hw with e | e | e | e | e <;> rw [e] <;> assumption
theorem lw_O {own : String} {idx : Nat} {C owner : String} {x y : MethodName} {b : ByteArray} {L : Nat} {r : Option FieldType} (h1 : Cond.methodLink own idx x ∈ lw_all) (h2 : Cond.sameMethod x.cls owner x.name x.desc ∈ lw_all) (h2' : Cond.instanceMethod ⟨owner, x.name, x.desc⟩ ∈ lw_all) (h3 : Cond.selects C x y ∈ lw_all) (h4 : Cond.instanceMethod y ∈ lw_all) (h5 : Cond.initialized y.cls ∈ lw_all) (h6 : Cond.code y b L r ∈ lw_all) : GoodIn lw_all (va_wsO own idx C owner x y (ws_ y b L r)) := by
  refine lw_app ?_ (lw_meth h6)
  intro w hw
  simp only [List.mem_cons, List.not_mem_nil, or_false] at hw
  rcases hw with e | e | e | e | e | e <;> rw [e] <;> assumption
section CVIRT
variable {g : gC} {X : Cxt} {cc : ByteArray} {nL b lvl mc : Nat} {ret : Option FieldType} {own : String} {Qc : Array Value → State → Outcome → State → Prop} {pc q : Nat} {lv : List (Nat × Value)} {st rest : List Value} {C C' : Mem}
def fv_group (o : Nat) (x1 : Int32) (C : Mem) : Option (Int32 × Mem) := if cK o = 20 then fc_Hard_group o x1 C else fc_Src_group o x1 C
set_option maxHeartbeats 1000000 in
theorem c_v_group {r : Int32} (O : OkC g X cc nL ret own lvl mc Qc) {o idx : Nat} {x1 : Int32} (hs : cS o) (h : fv_group o x1 C = some (r, C')) (hl : Cond.methodLink own idx ⟨"RankEntry$Source", "group", "(I)I"⟩ ∈ lw_all) (hlv : 0 + 1 ≤ lvl) (hst : st = ([.int x1] : List Value).reverse ++ .ref (gCa g o) :: rest) (hr : (rest.map fun v => v.category).sum ≤ 8) (d : decode cc pc = .ok (.invokevirtual idx, 3)) (hq : pc + 3 = q) (kk : V X nL b (WdC g C') q lv (.int r :: rest)) : V X nL b (WdC g C) pc lv st := by
  unfold fv_group at h
  have hk := (cS_lt hs).2.1
  rcases cSc_or (cK o) with hc | hc | hc | hc
  · rw [if_neg (by have := cSc_5 hc; omega)] at h
    exact c_callUi (As := [.int x1]) (rest := rest) (x := ⟨"RankEntry$Source", "group", "(I)I"⟩) (owner := "RankEntry$Source") (n := 1) (ci := 5) (p := (RX15, TX15, 9)) O (cS_lt hs).1 rfl (fun _ _ => ⟨_, by rw [cCell_S hs, hc]⟩) (metc_Src_group _ g o hs x1 C C' r h) (va_cwU 1 O.1.ts (lw_U hl q218 q224 q217 q78 q225) rfl rfl rfl rfl (by decide +kernel) (c_room O (by omega) (by decide))) rfl hst hr d hq rfl kk
  · rw [if_neg (by have := cSc_6 hc; omega)] at h
    exact c_callUi (As := [.int x1]) (rest := rest) (x := ⟨"RankEntry$Source", "group", "(I)I"⟩) (owner := "RankEntry$Source") (n := 1) (ci := 6) (p := (RX16, TX16, 10)) O (cS_lt hs).1 rfl (fun _ _ => ⟨_, by rw [cCell_S hs, hc]⟩) (metc_Src_group _ g o hs x1 C C' r h) (va_cwU 1 O.1.ts (lw_U hl q218 q223 q217 q78 q225) rfl rfl rfl rfl (by decide +kernel) (c_room O (by omega) (by decide))) rfl hst hr d hq rfl kk
  · rw [if_neg (by have := cSc_7 hc; omega)] at h
    exact c_callUi (As := [.int x1]) (rest := rest) (x := ⟨"RankEntry$Source", "group", "(I)I"⟩) (owner := "RankEntry$Source") (n := 1) (ci := 7) (p := (RX17, TX17, 9)) O (cS_lt hs).1 rfl (fun _ _ => ⟨_, by rw [cCell_S hs, hc]⟩) (metc_Src_group _ g o hs x1 C C' r h) (va_cwU 1 O.1.ts (lw_U hl q218 q222 q217 q78 q225) rfl rfl rfl rfl (by decide +kernel) (c_room O (by omega) (by decide))) rfl hst hr d hq rfl kk
  · rw [if_pos (by have := cSc_8 hc; omega)] at h
    exact c_callUi (As := [.int x1]) (rest := rest) (x := ⟨"RankEntry$Source", "group", "(I)I"⟩) (owner := "RankEntry$Source") (n := 1) (ci := 8) (p := (RX18, TX18, 9)) O (cS_lt hs).1 rfl (fun _ _ => ⟨_, by rw [cCell_S hs, hc]⟩) (metc_Hard_group _ g o hs x1 C C' r h) (va_cwO 1 O.1.ts (lw_O hl q218 q217 q219 q220 q82 q221) rfl rfl rfl q225 (by decide +kernel) (c_room O (by omega) (by decide))) rfl hst hr d hq rfl kk
def fv_told (o : Nat) (C : Mem) : Option (Int32 × Mem) := if cK o = 20 then fc_Hard_told o C else fc_Src_told o C
set_option maxHeartbeats 1000000 in
theorem c_v_told {r : Int32} (O : OkC g X cc nL ret own lvl mc Qc) {o idx : Nat} (hs : cS o) (h : fv_told o C = some (r, C')) (hl : Cond.methodLink own idx ⟨"RankEntry$Source", "told", "()I"⟩ ∈ lw_all) (hlv : 0 + 1 ≤ lvl) (hst : st = ([] : List Value).reverse ++ .ref (gCa g o) :: rest) (hr : (rest.map fun v => v.category).sum ≤ 8) (d : decode cc pc = .ok (.invokevirtual idx, 3)) (hq : pc + 3 = q) (kk : V X nL b (WdC g C') q lv (.int r :: rest)) : V X nL b (WdC g C) pc lv st := by
  unfold fv_told at h
  have hk := (cS_lt hs).2.1
  rcases cSc_or (cK o) with hc | hc | hc | hc
  · rw [if_neg (by have := cSc_5 hc; omega)] at h
    exact c_callUi (As := []) (rest := rest) (x := ⟨"RankEntry$Source", "told", "()I"⟩) (owner := "RankEntry$Source") (n := 0) (ci := 5) (p := (RX15, TX15, 9)) O (cS_lt hs).1 rfl (fun _ _ => ⟨_, by rw [cCell_S hs, hc]⟩) (metc_Src_told _ g o hs C C' r h) (va_cwU 0 O.1.ts (lw_U hl q1192 q1198 q1191 q78 q1199) rfl rfl rfl rfl (by decide +kernel) (c_room O (by omega) (by decide))) rfl hst hr d hq rfl kk
  · rw [if_neg (by have := cSc_6 hc; omega)] at h
    exact c_callUi (As := []) (rest := rest) (x := ⟨"RankEntry$Source", "told", "()I"⟩) (owner := "RankEntry$Source") (n := 0) (ci := 6) (p := (RX16, TX16, 10)) O (cS_lt hs).1 rfl (fun _ _ => ⟨_, by rw [cCell_S hs, hc]⟩) (metc_Src_told _ g o hs C C' r h) (va_cwU 0 O.1.ts (lw_U hl q1192 q1197 q1191 q78 q1199) rfl rfl rfl rfl (by decide +kernel) (c_room O (by omega) (by decide))) rfl hst hr d hq rfl kk
  · rw [if_neg (by have := cSc_7 hc; omega)] at h
    exact c_callUi (As := []) (rest := rest) (x := ⟨"RankEntry$Source", "told", "()I"⟩) (owner := "RankEntry$Source") (n := 0) (ci := 7) (p := (RX17, TX17, 9)) O (cS_lt hs).1 rfl (fun _ _ => ⟨_, by rw [cCell_S hs, hc]⟩) (metc_Src_told _ g o hs C C' r h) (va_cwU 0 O.1.ts (lw_U hl q1192 q1196 q1191 q78 q1199) rfl rfl rfl rfl (by decide +kernel) (c_room O (by omega) (by decide))) rfl hst hr d hq rfl kk
  · rw [if_pos (by have := cSc_8 hc; omega)] at h
    exact c_callUi (As := []) (rest := rest) (x := ⟨"RankEntry$Source", "told", "()I"⟩) (owner := "RankEntry$Source") (n := 0) (ci := 8) (p := (RX18, TX18, 9)) O (cS_lt hs).1 rfl (fun _ _ => ⟨_, by rw [cCell_S hs, hc]⟩) (metc_Hard_told _ g o hs C C' r h) (va_cwO 0 O.1.ts (lw_O hl q1192 q1191 q1193 q1194 q82 q1195) rfl rfl rfl q1199 (by decide +kernel) (c_room O (by omega) (by decide))) rfl hst hr d hq rfl kk
def fv_becomes (o : Nat) (x1 : Int32) (C : Mem) : Option (Int32 × Mem) := fc_Src_becomes o x1 C
set_option maxHeartbeats 1000000 in
theorem c_v_becomes {r : Int32} (O : OkC g X cc nL ret own lvl mc Qc) {o idx : Nat} {x1 : Int32} (hs : cS o) (h : fv_becomes o x1 C = some (r, C')) (hl : Cond.methodLink own idx ⟨"RankEntry$Source", "becomes", "(I)Z"⟩ ∈ lw_all) (hlv : 0 + 1 ≤ lvl) (hst : st = ([.int x1] : List Value).reverse ++ .ref (gCa g o) :: rest) (hr : (rest.map fun v => v.category).sum ≤ 8) (d : decode cc pc = .ok (.invokevirtual idx, 3)) (hq : pc + 3 = q) (kk : V X nL b (WdC g C') q lv (.int r :: rest)) : V X nL b (WdC g C) pc lv st := by
  unfold fv_becomes at h
  have hk := (cS_lt hs).2.1
  rcases cSc_or (cK o) with hc | hc | hc | hc
  · skip
    exact c_callUi (As := [.int x1]) (rest := rest) (x := ⟨"RankEntry$Source", "becomes", "(I)Z"⟩) (owner := "RankEntry$Source") (n := 1) (ci := 5) (p := (RX15, TX15, 9)) O (cS_lt hs).1 rfl (fun _ _ => ⟨_, by rw [cCell_S hs, hc]⟩) (metc_Src_becomes _ g o hs x1 C C' r h) (va_cwU 1 O.1.ts (lw_U hl q293 q297 q292 q78 q298) rfl rfl rfl rfl (by decide +kernel) (c_room O (by omega) (by decide))) rfl hst hr d hq rfl kk
  · skip
    exact c_callUi (As := [.int x1]) (rest := rest) (x := ⟨"RankEntry$Source", "becomes", "(I)Z"⟩) (owner := "RankEntry$Source") (n := 1) (ci := 6) (p := (RX16, TX16, 10)) O (cS_lt hs).1 rfl (fun _ _ => ⟨_, by rw [cCell_S hs, hc]⟩) (metc_Src_becomes _ g o hs x1 C C' r h) (va_cwU 1 O.1.ts (lw_U hl q293 q296 q292 q78 q298) rfl rfl rfl rfl (by decide +kernel) (c_room O (by omega) (by decide))) rfl hst hr d hq rfl kk
  · skip
    exact c_callUi (As := [.int x1]) (rest := rest) (x := ⟨"RankEntry$Source", "becomes", "(I)Z"⟩) (owner := "RankEntry$Source") (n := 1) (ci := 7) (p := (RX17, TX17, 9)) O (cS_lt hs).1 rfl (fun _ _ => ⟨_, by rw [cCell_S hs, hc]⟩) (metc_Src_becomes _ g o hs x1 C C' r h) (va_cwU 1 O.1.ts (lw_U hl q293 q295 q292 q78 q298) rfl rfl rfl rfl (by decide +kernel) (c_room O (by omega) (by decide))) rfl hst hr d hq rfl kk
  · skip
    exact c_callUi (As := [.int x1]) (rest := rest) (x := ⟨"RankEntry$Source", "becomes", "(I)Z"⟩) (owner := "RankEntry$Source") (n := 1) (ci := 8) (p := (RX18, TX18, 9)) O (cS_lt hs).1 rfl (fun _ _ => ⟨_, by rw [cCell_S hs, hc]⟩) (metc_Src_becomes _ g o hs x1 C C' r h) (va_cwU 1 O.1.ts (lw_U hl q293 q294 q292 q78 q298) rfl rfl rfl rfl (by decide +kernel) (c_room O (by omega) (by decide))) rfl hst hr d hq rfl kk
def fv_begins (o : Nat) (x1 : Int32) (C : Mem) : Option (Unit × Mem) := fc_Src_begins o x1 C
set_option maxHeartbeats 1000000 in
theorem c_v_begins {r : Unit} (O : OkC g X cc nL ret own lvl mc Qc) {o idx : Nat} {x1 : Int32} (hs : cS o) (h : fv_begins o x1 C = some (r, C')) (hl : Cond.methodLink own idx ⟨"RankEntry$Source", "begins", "(I)V"⟩ ∈ lw_all) (hlv : 0 + 1 ≤ lvl) (hst : st = ([.int x1] : List Value).reverse ++ .ref (gCa g o) :: rest) (hr : (rest.map fun v => v.category).sum ≤ 8) (d : decode cc pc = .ok (.invokevirtual idx, 3)) (hq : pc + 3 = q) (kk : V X nL b (WdC g C') q lv ( rest)) : V X nL b (WdC g C) pc lv st := by
  unfold fv_begins at h
  have hk := (cS_lt hs).2.1
  rcases cSc_or (cK o) with hc | hc | hc | hc
  · skip
    exact c_callUv (As := [.int x1]) (rest := rest) (x := ⟨"RankEntry$Source", "begins", "(I)V"⟩) (owner := "RankEntry$Source") (n := 1) (ci := 5) (p := (RX15, TX15, 9)) O (cS_lt hs).1 rfl (fun _ _ => ⟨_, by rw [cCell_S hs, hc]⟩) (metc_Src_begins _ g o hs x1 C C' r h) (va_cwU 1 O.1.ts (lw_U hl q321 q325 q320 q78 q326) rfl rfl rfl rfl (by decide +kernel) (c_room O (by omega) (by decide))) rfl hst hr d hq rfl kk
  · skip
    exact c_callUv (As := [.int x1]) (rest := rest) (x := ⟨"RankEntry$Source", "begins", "(I)V"⟩) (owner := "RankEntry$Source") (n := 1) (ci := 6) (p := (RX16, TX16, 10)) O (cS_lt hs).1 rfl (fun _ _ => ⟨_, by rw [cCell_S hs, hc]⟩) (metc_Src_begins _ g o hs x1 C C' r h) (va_cwU 1 O.1.ts (lw_U hl q321 q324 q320 q78 q326) rfl rfl rfl rfl (by decide +kernel) (c_room O (by omega) (by decide))) rfl hst hr d hq rfl kk
  · skip
    exact c_callUv (As := [.int x1]) (rest := rest) (x := ⟨"RankEntry$Source", "begins", "(I)V"⟩) (owner := "RankEntry$Source") (n := 1) (ci := 7) (p := (RX17, TX17, 9)) O (cS_lt hs).1 rfl (fun _ _ => ⟨_, by rw [cCell_S hs, hc]⟩) (metc_Src_begins _ g o hs x1 C C' r h) (va_cwU 1 O.1.ts (lw_U hl q321 q323 q320 q78 q326) rfl rfl rfl rfl (by decide +kernel) (c_room O (by omega) (by decide))) rfl hst hr d hq rfl kk
  · skip
    exact c_callUv (As := [.int x1]) (rest := rest) (x := ⟨"RankEntry$Source", "begins", "(I)V"⟩) (owner := "RankEntry$Source") (n := 1) (ci := 8) (p := (RX18, TX18, 9)) O (cS_lt hs).1 rfl (fun _ _ => ⟨_, by rw [cCell_S hs, hc]⟩) (metc_Src_begins _ g o hs x1 C C' r h) (va_cwU 1 O.1.ts (lw_U hl q321 q322 q320 q78 q326) rfl rfl rfl rfl (by decide +kernel) (c_room O (by omega) (by decide))) rfl hst hr d hq rfl kk
end CVIRT
def fc_Src_sub (o : Nat) (x1 : Int32) (C : Mem) : Option (Int32 × Mem) :=
  bnd (fv_group o x1 C) fun r1 C1 =>
  some (((C o 1) - (r1 <<< (x1 &&& 31))), C1)
set_option maxHeartbeats 4000000 in
theorem bc_Src_sub {g : gC} {X : Cxt} {r : Int32} {C' : Mem} {o : Nat} (hs : cS o) (O : OkC g X cX14_sub 2 (some .int) RX14 1 0 (cQi g r C')) (x1 : Int32) (C : Mem) (h : fc_Src_sub o x1 C = some (r, C')) : V X 2 0 (WdC g C) 0 [(0, .ref (gCa g o)), (1, .int x1)] [] := by
  unfold fc_Src_sub at h
  refine v_aload_n O.1 dX14_sub_0 rfl (q := 1) rfl ?_
  refine c_getS O hs 1 (by decide) (O.lk q735) rfl rfl rfl rfl (v := .int (C o 1)) rfl dX14_sub_1 (q := 4) rfl ?_
  refine v_aload_n O.1 dX14_sub_4 rfl (q := 5) rfl ?_
  refine v_iload_n O.1 dX14_sub_5 rfl (q := 6) rfl ?_
  obtain ⟨r1, C1, e1, h⟩ := bnd_some h
  refine c_v_group (rest := [.int (C o 1)]) O hs e1 q719 (by decide) rfl (Nat.le_of_ble_eq_true rfl) dX14_sub_6 (q := 9) rfl ?_
  refine v_iload_n O.1 dX14_sub_9 rfl (q := 10) rfl ?_
  refine v_ishl O.1 dX14_sub_10 (q := 11) rfl ?_
  refine v_isub O.1 dX14_sub_11 (q := 12) rfl ?_
  exact c_iret O h dX14_sub_12
theorem metc_Src_sub (l : Launch) (g : gC) (o : Nat) (hs : cS o) (x1 : Int32) (C C' : Mem) (r : Int32) (h : fc_Src_sub o x1 C = some (r, C')) : MetC l g yX14_sub cX14_sub 2 (some .int) 1 0 [.ref (gCa g o), .int x1] C (cQi g r C') :=
  c_met (by decide) rfl (Nat.le_of_ble_eq_true rfl) (fun X O => bc_Src_sub hs O x1 C h)
section CSUP
variable {g : gC} {X : Cxt} {cc : ByteArray} {nL b lvl mc : Nat} {ret : Option FieldType} {own : String} {Qc : Array Value → State → Outcome → State → Prop} {pc q : Nat} {lv : List (Nat × Value)} {st rest : List Value} {C C' : Mem}
theorem sub2 {vm : Vm} {a b : ClassId} {k kb : Class} (hk : vm.classes[a]? = some k) (hs : k.super = some b) (hb : vm.classes[b]? = some kb) : vm.isSubclass a b = true := by
  unfold Vm.isSubclass
  have hn : 0 < vm.classes.size := Nat.lt_of_le_of_lt (Nat.zero_le _) (Array.getElem?_eq_some_iff.mp hk).1
  obtain ⟨n, hn⟩ : ∃ n, vm.classes.size = n + 1 := ⟨vm.classes.size - 1, by omega⟩
  rw [hn]
  simp [Vm.isSubclassAux, hk, hs]
/-- super.m(..) of a level: the line's, which is the source's -/
theorem c_callSUi {r : Int32} (O : OkC g X cc nL ret "RankEntry$Level" lvl mc Qc) {idx maxL n lvl' b' mc' o : Nat} {nme dsc : String} {by_ : ByteArray} {rt : Option FieldType} {As : List Value} (hs : cS o) (hM : MetC (xl X) g ⟨"RankEntry$Source", nme, dsc⟩ by_ maxL rt lvl' mc' (.ref (gCa g o) :: As) C (cQi g r C')) (hl : Cond.methodLink "RankEntry$Level" idx ⟨"RankEntry$Line", nme, dsc⟩ ∈ lw_all) (hsm : Cond.sameMethod "RankEntry$Line" "RankEntry$Source" nme dsc ∈ lw_all) (hin : Cond.instanceMethod ⟨"RankEntry$Source", nme, dsc⟩ ∈ lw_all) (hco : Cond.code ⟨"RankEntry$Source", nme, dsc⟩ by_ maxL rt ∈ lw_all) (hd : nme ≠ "<init>" ∧ (parseMethodDescriptor dsc).map (fun d => d.parameters.length) = some n) (hlv : lvl' + 1 ≤ lvl) (hml : maxL ≤ 40) (hn : As.length = n) (hst : st = As.reverse ++ .ref (gCa g o) :: rest) (hr : (rest.map fun v => v.category).sum ≤ 8) (d : decode cc pc = .ok (.invokespecial idx, 3)) (hq : pc + 3 = q) (hb : b' + mc' = b) (kk : V X nL b' (WdC g C') q lv (.int r :: rest)) : V X nL b (WdC g C) pc lv st := by
  subst hq
  subst hst
  subst hb
  intro H lo ce sl ls h1 h2 h3 h4 h5
  have S2 := O.S h2
  have hts := O.1.ts
  obtain ⟨hfr, hlo⟩ := c_room (maxL := maxL) (mc' := mc') O hlv hml
  have hK : Back (xl X) (xR X) (xp X) (xe X) (xb X) (xs X) (xa X) ⟨"RankEntry$Source", nme, dsc⟩ 3 8 (PreOf (xR X) mc' (8 * mc') (cPc g (.ref (gCa g o) :: As) C)) (PostOf (cQi g r C') mc' (8 * mc') (cA g)) :=
    back_of (bytes := by_) (maxL := maxL) (ret := rt) hM cPc_blind rfl rfl hfr hlo (pay_in hts (lw_meth hco)) List.mem_cons_self (fun a' U hW => word_at hW (Or.inl (by first | rfl | simp [Cond.onTables, Cond.keeps, Cond.steady])) (hts _ q78))
  obtain ⟨cellB, hcB, hoB, kB, hkB⟩ : ∃ cell : Cell, H[gCa g o]? = some cell ∧ cell.vm.isStatics = false ∧ ∃ k : Class, (xs X).vm.classes[cell.cls]? = some k := by
    have key : ∀ (ci : Nat) (p : vw_C), cSc (cK o) = ci → cCl[ci]? = some p → ∃ cell : Cell, H[gCa g o]? = some cell ∧ cell.vm.isStatics = false ∧ ∃ k : Class, (xs X).vm.classes[cell.cls]? = some k := by
      intro ci p hc hp
      obtain ⟨cell, a1, a2, a3⟩ := c_recv O h1 (cS_lt hs).1 hp (fun _ _ => ⟨_, by rw [cCell_S hs, hc]⟩)
      obtain ⟨k, hk, -⟩ := Vm.findClass_spec a3
      exact ⟨cell, a1, a2, k, hk⟩
    rcases cSc_or (cK o) with hc | hc | hc | hc
    · exact key 5 _ hc rfl
    · exact key 6 _ hc rfl
    · exact key 7 _ hc rfl
    · exact key 8 _ hc rfl
  have hrun : va_Run (xp X) (xl X) (xe X) (xR X) (xs X) (xm X) (xa X) (xb X) (xh X) (xc X) H lo ce sl mc' (8 * mc') (F0 (xm X) pc ls (As.reverse ++ .ref (gCa g o) :: rest)) rest (cQi g r C' (Value.ref (gCa g o) :: As).toArray) (cA g) := by
    intro T hT Z
    obtain ⟨mk, methM, hnamed, hmethM, hstM, habM⟩ := Cond.instanceMethod_spec (hts _ hin)
    obtain ⟨methM', cM, hmethM', -, -, -, -, -, -, hsigM⟩ := Cond.code_spec hnamed (hts _ hco)
    cases hmethM.symm.trans hmethM'
    obtain ⟨ps, dk, kp, hps, hdk, hkp, hsuper, -, -, hnid⟩ := Cond.superclass_spec O.1.ow (hts _ q473)
    obtain ⟨ps2, dk2, kp2, hps2, hdk2, hkp2, hsuper2, -, -, -⟩ := Cond.superclass_spec hps (hts _ q474)
    have hpm : ps2 = mk.cls := Option.some.inj (hps2.symm.trans (findClass_of_methodNamed hnamed))
    have hsub : (xs X).vm.isSubclass ps mk.cls = true := by rw [← hpm]; exact sub2 hdk2 hsuper2 hkp2
    have hlen : As.length = methM.sig.parameters.length := by
      have h2' := hd.2
      rw [hsigM] at h2'
      rw [hn]
      exact (Option.some.inj h2').symm
    obtain ⟨vm₁, X₁, hstep₁⟩ := Z.invokespecialUp O.1.ex O.1.ow (hts _ hl) (hts _ hsm) hnamed hmethM hstM habM hd.1 hdk hnid hps hsuper hsub (a := gCa g o) (cell := cellB) (by rw [hT]; exact hcB)
      (fun z h => by rw [h] at hoB; cases hoB) hkB (g := F0 (xm X) pc ls (As.reverse ++ .ref (gCa g o) :: rest)) rfl (argsL := As) (rest := rest) hlen rfl (by rw [O.1.bc]; exact d)
    obtain ⟨v, B, X', ⟨g', mk', t, L, e1, e2, hq, e3, hL, e4, e5⟩, hsteps⟩ := hK (xm X) (xh X) (xc X) ⟨T.setVm vm₁, lo, ce, sl⟩ { F0 (xm X) pc ls (As.reverse ++ .ref (gCa g o) :: rest) with stack := rest } (.invokespecial idx) mk (Value.ref (gCa g o) :: As).toArray X₁ rfl (h5.1.trans O.1.ml.symm) (by rw [O.1.bc]; exact d) (lv_room hr) (X₁.named hnamed) ⟨by show ce + mc' ≤ _; omega, by show sl + 8 * mc' ≤ _; omega, O.pre h1 h2 _ hT X₁.warmed⟩
    obtain ⟨U', l2, c2, s2⟩ := B
    dsimp only at X' e1 e2 e3 e4 e5 hsteps
    subst e3; subst e4; subst e5
    exact ⟨v, (T.setVm vm₁).calling g' mk' (Value.ref (gCa g o) :: As).toArray, t, U', L, hT, X', hL, e1, e2, hq, fun target h => hstep₁ _ (by rw [doInvoke_state]; exact hsteps.trans h)⟩
  refine va_calli (A1 := cA g) (A0 := cA g) hrun S2 (fun q _ h => h) (fun q h => h) (fun r1 u t H1 lo1 ht hvm hw hB hz hk hS1 => ?_)
  obtain ⟨rfl, rfl⟩ := hw
  exact kk H1 lo1 _ _ ls (by rw [← ht]; exact hB) (by rw [O.2.2.1]; exact hS1) (by omega) (by omega) h5
/-- a nest mate's static method -/
theorem c_callSNi {r : Int32} (O : OkC g X cc nL ret own lvl mc Qc) {idx maxL n lvl' b' mc' : Nat} {y : MethodName} {host : String} {by_ : ByteArray} {rt : Option FieldType} {As : List Value} (hM : MetC (xl X) g y by_ maxL rt lvl' mc' As C (cQi g r C')) (hl : Cond.methodLinkNest own idx y host ∈ lw_tbl) (hst' : Cond.static y ∈ lw_all) (hini : Cond.initialized y.cls ∈ lw_all) (hco : Cond.code y by_ maxL rt ∈ lw_all) (hd : y.cls ≠ "java/lang/invoke/MethodHandle" ∧ y.cls ≠ "java/lang/invoke/VarHandle" ∧ (parseMethodDescriptor y.desc).map (fun d => d.parameters.length) = some n) (hlv : lvl' + 1 ≤ lvl) (hml : maxL ≤ 40) (hn : As.length = n) (hst : st = As.reverse ++ rest) (hr : (rest.map fun v => v.category).sum ≤ 8) (d : decode cc pc = .ok (.invokestatic idx, 3)) (hq : pc + 3 = q) (hb : b' + mc' = b) (kk : V X nL b' (WdC g C') q lv (.int r :: rest)) : V X nL b (WdC g C) pc lv st := by
  subst hq
  subst hst
  subst hb
  intro H lo ce sl ls h1 h2 h3 h4 h5
  have S2 := O.S h2
  refine va_calli (A1 := cA g) (A0 := cA g) (va_runSN (As := As) (rest := rest) ⟨O.1.ex, O.1.bc, O.1.ml, O.1.ow, O.1.ts⟩ hM ⟨va_cnB n O.1.ts (lw_meth hco) rfl rfl rfl (O.2.1.nest _ (List.mem_filter.mpr ⟨hl, rfl⟩)) (O.1.ts _ hini) hd (c_room O hlv hml), O.1.ts _ hst', trivial⟩ ⟨cPc_blind, O.pre h1 h2⟩ rfl hn h5.1 rfl (lv_room hr) d ⟨by omega, by omega⟩) S2 (fun q _ h => h) (fun q h => h) (fun r1 u t H1 lo1 ht hvm hw hB hz hk hS1 => ?_)
  obtain ⟨rfl, rfl⟩ := hw
  exact kk H1 lo1 _ _ ls (by rw [← ht]; exact hB) (by rw [O.2.2.1]; exact hS1) (by omega) (by omega) h5
/-- super.m(..) of a level: the line's, which is the source's -/
theorem c_callSUv {r : Unit} (O : OkC g X cc nL ret "RankEntry$Level" lvl mc Qc) {idx maxL n lvl' b' mc' o : Nat} {nme dsc : String} {by_ : ByteArray} {rt : Option FieldType} {As : List Value} (hs : cS o) (hM : MetC (xl X) g ⟨"RankEntry$Source", nme, dsc⟩ by_ maxL rt lvl' mc' (.ref (gCa g o) :: As) C (cQv g r C')) (hl : Cond.methodLink "RankEntry$Level" idx ⟨"RankEntry$Line", nme, dsc⟩ ∈ lw_all) (hsm : Cond.sameMethod "RankEntry$Line" "RankEntry$Source" nme dsc ∈ lw_all) (hin : Cond.instanceMethod ⟨"RankEntry$Source", nme, dsc⟩ ∈ lw_all) (hco : Cond.code ⟨"RankEntry$Source", nme, dsc⟩ by_ maxL rt ∈ lw_all) (hd : nme ≠ "<init>" ∧ (parseMethodDescriptor dsc).map (fun d => d.parameters.length) = some n) (hlv : lvl' + 1 ≤ lvl) (hml : maxL ≤ 40) (hn : As.length = n) (hst : st = As.reverse ++ .ref (gCa g o) :: rest) (hr : (rest.map fun v => v.category).sum ≤ 8) (d : decode cc pc = .ok (.invokespecial idx, 3)) (hq : pc + 3 = q) (hb : b' + mc' = b) (kk : V X nL b' (WdC g C') q lv ( rest)) : V X nL b (WdC g C) pc lv st := by
  subst hq
  subst hst
  subst hb
  intro H lo ce sl ls h1 h2 h3 h4 h5
  have S2 := O.S h2
  have hts := O.1.ts
  obtain ⟨hfr, hlo⟩ := c_room (maxL := maxL) (mc' := mc') O hlv hml
  have hK : Back (xl X) (xR X) (xp X) (xe X) (xb X) (xs X) (xa X) ⟨"RankEntry$Source", nme, dsc⟩ 3 8 (PreOf (xR X) mc' (8 * mc') (cPc g (.ref (gCa g o) :: As) C)) (PostOf (cQv g r C') mc' (8 * mc') (cA g)) :=
    back_of (bytes := by_) (maxL := maxL) (ret := rt) hM cPc_blind rfl rfl hfr hlo (pay_in hts (lw_meth hco)) List.mem_cons_self (fun a' U hW => word_at hW (Or.inl (by first | rfl | simp [Cond.onTables, Cond.keeps, Cond.steady])) (hts _ q78))
  obtain ⟨cellB, hcB, hoB, kB, hkB⟩ : ∃ cell : Cell, H[gCa g o]? = some cell ∧ cell.vm.isStatics = false ∧ ∃ k : Class, (xs X).vm.classes[cell.cls]? = some k := by
    have key : ∀ (ci : Nat) (p : vw_C), cSc (cK o) = ci → cCl[ci]? = some p → ∃ cell : Cell, H[gCa g o]? = some cell ∧ cell.vm.isStatics = false ∧ ∃ k : Class, (xs X).vm.classes[cell.cls]? = some k := by
      intro ci p hc hp
      obtain ⟨cell, a1, a2, a3⟩ := c_recv O h1 (cS_lt hs).1 hp (fun _ _ => ⟨_, by rw [cCell_S hs, hc]⟩)
      obtain ⟨k, hk, -⟩ := Vm.findClass_spec a3
      exact ⟨cell, a1, a2, k, hk⟩
    rcases cSc_or (cK o) with hc | hc | hc | hc
    · exact key 5 _ hc rfl
    · exact key 6 _ hc rfl
    · exact key 7 _ hc rfl
    · exact key 8 _ hc rfl
  have hrun : va_Run (xp X) (xl X) (xe X) (xR X) (xs X) (xm X) (xa X) (xb X) (xh X) (xc X) H lo ce sl mc' (8 * mc') (F0 (xm X) pc ls (As.reverse ++ .ref (gCa g o) :: rest)) rest (cQv g r C' (Value.ref (gCa g o) :: As).toArray) (cA g) := by
    intro T hT Z
    obtain ⟨mk, methM, hnamed, hmethM, hstM, habM⟩ := Cond.instanceMethod_spec (hts _ hin)
    obtain ⟨methM', cM, hmethM', -, -, -, -, -, -, hsigM⟩ := Cond.code_spec hnamed (hts _ hco)
    cases hmethM.symm.trans hmethM'
    obtain ⟨ps, dk, kp, hps, hdk, hkp, hsuper, -, -, hnid⟩ := Cond.superclass_spec O.1.ow (hts _ q473)
    obtain ⟨ps2, dk2, kp2, hps2, hdk2, hkp2, hsuper2, -, -, -⟩ := Cond.superclass_spec hps (hts _ q474)
    have hpm : ps2 = mk.cls := Option.some.inj (hps2.symm.trans (findClass_of_methodNamed hnamed))
    have hsub : (xs X).vm.isSubclass ps mk.cls = true := by rw [← hpm]; exact sub2 hdk2 hsuper2 hkp2
    have hlen : As.length = methM.sig.parameters.length := by
      have h2' := hd.2
      rw [hsigM] at h2'
      rw [hn]
      exact (Option.some.inj h2').symm
    obtain ⟨vm₁, X₁, hstep₁⟩ := Z.invokespecialUp O.1.ex O.1.ow (hts _ hl) (hts _ hsm) hnamed hmethM hstM habM hd.1 hdk hnid hps hsuper hsub (a := gCa g o) (cell := cellB) (by rw [hT]; exact hcB)
      (fun z h => by rw [h] at hoB; cases hoB) hkB (g := F0 (xm X) pc ls (As.reverse ++ .ref (gCa g o) :: rest)) rfl (argsL := As) (rest := rest) hlen rfl (by rw [O.1.bc]; exact d)
    obtain ⟨v, B, X', ⟨g', mk', t, L, e1, e2, hq, e3, hL, e4, e5⟩, hsteps⟩ := hK (xm X) (xh X) (xc X) ⟨T.setVm vm₁, lo, ce, sl⟩ { F0 (xm X) pc ls (As.reverse ++ .ref (gCa g o) :: rest) with stack := rest } (.invokespecial idx) mk (Value.ref (gCa g o) :: As).toArray X₁ rfl (h5.1.trans O.1.ml.symm) (by rw [O.1.bc]; exact d) (lv_room hr) (X₁.named hnamed) ⟨by show ce + mc' ≤ _; omega, by show sl + 8 * mc' ≤ _; omega, O.pre h1 h2 _ hT X₁.warmed⟩
    obtain ⟨U', l2, c2, s2⟩ := B
    dsimp only at X' e1 e2 e3 e4 e5 hsteps
    subst e3; subst e4; subst e5
    exact ⟨v, (T.setVm vm₁).calling g' mk' (Value.ref (gCa g o) :: As).toArray, t, U', L, hT, X', hL, e1, e2, hq, fun target h => hstep₁ _ (by rw [doInvoke_state]; exact hsteps.trans h)⟩
  refine va_callv (A1 := cA g) (A0 := cA g) hrun S2 (fun q _ h => h) (fun q h => h) (fun u t H1 lo1 ht hvm hw hB hz hk hS1 => ?_)
  subst hw
  exact kk H1 lo1 _ _ ls (by rw [← ht]; exact hB) (by rw [O.2.2.1]; exact hS1) (by omega) (by omega) h5
/-- a nest mate's static method -/
theorem c_callSNv {r : Unit} (O : OkC g X cc nL ret own lvl mc Qc) {idx maxL n lvl' b' mc' : Nat} {y : MethodName} {host : String} {by_ : ByteArray} {rt : Option FieldType} {As : List Value} (hM : MetC (xl X) g y by_ maxL rt lvl' mc' As C (cQv g r C')) (hl : Cond.methodLinkNest own idx y host ∈ lw_tbl) (hst' : Cond.static y ∈ lw_all) (hini : Cond.initialized y.cls ∈ lw_all) (hco : Cond.code y by_ maxL rt ∈ lw_all) (hd : y.cls ≠ "java/lang/invoke/MethodHandle" ∧ y.cls ≠ "java/lang/invoke/VarHandle" ∧ (parseMethodDescriptor y.desc).map (fun d => d.parameters.length) = some n) (hlv : lvl' + 1 ≤ lvl) (hml : maxL ≤ 40) (hn : As.length = n) (hst : st = As.reverse ++ rest) (hr : (rest.map fun v => v.category).sum ≤ 8) (d : decode cc pc = .ok (.invokestatic idx, 3)) (hq : pc + 3 = q) (hb : b' + mc' = b) (kk : V X nL b' (WdC g C') q lv ( rest)) : V X nL b (WdC g C) pc lv st := by
  subst hq
  subst hst
  subst hb
  intro H lo ce sl ls h1 h2 h3 h4 h5
  have S2 := O.S h2
  refine va_callv (A1 := cA g) (A0 := cA g) (va_runSN (As := As) (rest := rest) ⟨O.1.ex, O.1.bc, O.1.ml, O.1.ow, O.1.ts⟩ hM ⟨va_cnB n O.1.ts (lw_meth hco) rfl rfl rfl (O.2.1.nest _ (List.mem_filter.mpr ⟨hl, rfl⟩)) (O.1.ts _ hini) hd (c_room O hlv hml), O.1.ts _ hst', trivial⟩ ⟨cPc_blind, O.pre h1 h2⟩ rfl hn h5.1 rfl (lv_room hr) d ⟨by omega, by omega⟩) S2 (fun q _ h => h) (fun q h => h) (fun u t H1 lo1 ht hvm hw hB hz hk hS1 => ?_)
  subst hw
  exact kk H1 lo1 _ _ ls (by rw [← ht]; exact hB) (by rw [O.2.2.1]; exact hS1) (by omega) (by omega) h5
end CSUP
