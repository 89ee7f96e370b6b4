/-! RankEntry.room: an array of its own lives through the calls -/
def gAdd (g : gC) (a : Nat) : gC := (g.1, g.2.1, g.2.2.1, g.2.2.2.1, g.2.2.2.2.1, g.2.2.2.2.2.1, fun q => gCf g q ∨ q = a)
theorem gAdd_le {g : gC} {a q : Nat} (h : cA (gAdd g a) q) : cA g q := ⟨h.1, fun z => h.2 (Or.inl z)⟩
theorem gAdd_ne {g : gC} {a q : Nat} (h : cA (gAdd g a) q) : ¬ q = a := fun z => h.2 (Or.inr z)
theorem gAdd_mk {g : gC} {a q : Nat} (h : cA g q) (hn : ¬ q = a) : cA (gAdd g a) q := ⟨h.1, fun z => z.elim h.2 hn⟩
theorem KC.add {g : gC} {U : State} {a : Nat} (h : KC g U) (ha : a < U.heap.size) : KC (gAdd g a) U := by
  obtain ⟨h1, h2, h3, h4, h5, h6, h7, h8, x1, x2, v, ce, x3, x4, x6, x5⟩ := h
  refine ⟨h1, fun q hq => ?_, h3, h4, fun i hi => ?_, ⟨h6.1.narrow (fun _ => gAdd_le), h6.2.narrow (fun _ => gAdd_le)⟩, h7, h8, x1, x2, v, ce, x3.narrow (fun _ => gAdd_le), x4, x6, fun z => x5 (gAdd_le z)⟩
  · rcases hq with hq | hq
    · exact h2 q hq
    · rw [hq]; exact ha
  · obtain ⟨a1, a2, a3⟩ := h5 i hi
    exact ⟨a1.narrow (fun _ => gAdd_le), a2.narrow (fun _ => gAdd_le), a3.narrow (fun _ => gAdd_le)⟩
def PR (g : gC) (kA : ClassId) (C : Mem) (a : Nat) (r : Nat → Int32) : Heap → Prop := fun H => WdC (gAdd g a) C H ∧ H[a]? = some (vp_cell kA (257, .inl r)) ∧ cA g a
theorem PR.wd {g : gC} {kA : ClassId} {C : Mem} {a : Nat} {r : Nat → Int32} : ∀ H, PR g kA C a r H → WdC g C H := fun H h => by
  obtain ⟨⟨Y, ah, ev, hP, hD, hY⟩, -, -⟩ := h
  exact ⟨Y, ah, ev, hP, hD.weaken (fun _ _ _ => gAdd_le), hY⟩
theorem PR.mk {g : gC} {kA : ClassId} {C : Mem} {a : Nat} {r : Nat → Int32} {H : Heap} {Y : va_W} {ah : Nat → Nat} {ev : Nat → Nat → Option Nat} (hP : va_P g.1 cCl ((cWs g C ah ev ++ Y) ++ [(a, .inl (kA, 257, .inl r))]) H) (hD : va_D (cA g) ((cWs g C ah ev ++ Y) ++ [(a, .inl (kA, 257, .inl r))])) (hY : Dy g C Y ah ev) : PR g kA C a r H := by
  have e0 : ((cWs g C ah ev ++ Y) ++ [(a, (.inl (kA, 257, .inl r) : va_E))])[(cWs g C ah ev ++ Y).length]? = some (a, .inl (kA, 257, .inl r)) := by simp
  have el : ∀ (k : Nat) (x : Nat × va_E), (cWs g C ah ev ++ Y)[k]? = some x → ((cWs g C ah ev ++ Y) ++ [(a, (.inl (kA, 257, .inl r) : va_E))])[k]? = some x := fun k x hx => by
    rw [List.getElem?_append_left (List.getElem?_eq_some_iff.mp hx).1]
    exact hx
  refine ⟨⟨Y, ah, ev, fun k x hx => hP k x (el k x hx), ⟨fun i j p q hi hj e => hD.1 i j p q (el i p hi) (el j q hj) e, fun k x hx => gAdd_mk (hD.2 k x (el k x hx)) (fun z => ?_)⟩, hY⟩, hP _ _ e0, hD.2 _ _ e0⟩
  have := hD.1 k _ x _ (el k x hx) e0 z
  have h2 : k < (cWs g C ah ev ++ Y).length := (List.getElem?_eq_some_iff.mp hx).1
  omega
theorem PR.un {g : gC} {kA : ClassId} {C : Mem} {a : Nat} {r : Nat → Int32} {H : Heap} (h : PR g kA C a r H) : ∃ Y ah ev, va_P g.1 cCl ((cWs g C ah ev ++ Y) ++ [(a, .inl (kA, 257, .inl r))]) H ∧ va_D (cA g) ((cWs g C ah ev ++ Y) ++ [(a, .inl (kA, 257, .inl r))]) ∧ Dy g C Y ah ev := by
  obtain ⟨⟨Y, ah, ev, hP, hD, hY⟩, h2, h3⟩ := h
  have one : ∀ (k : Nat) (x : Nat × va_E), ([(a, (.inl (kA, 257, .inl r) : va_E))] : va_W)[k]? = some x → k = 0 ∧ x = (a, .inl (kA, 257, .inl r)) := fun k x hx => by
    have hz : k < 1 := (List.getElem?_eq_some_iff.mp hx).1
    have hk : k = 0 := by omega
    subst hk
    cases hx
    exact ⟨rfl, rfl⟩
  refine ⟨Y, ah, ev, va_P.app hP (fun k x hx => ?_), va_D.app (hD.weaken (fun _ _ _ => gAdd_le)) ⟨fun i j p q hi hj _ => ?_, fun k x hx => ?_⟩ (fun i j p q hi hj e => ?_), hY⟩
  · obtain ⟨-, rfl⟩ := one k x hx
    exact h2
  · rw [(one i p hi).1, (one j q hj).1]
  · obtain ⟨-, rfl⟩ := one k x hx
    exact h3
  · obtain ⟨-, rfl⟩ := one j q hj
    exact gAdd_ne (hD.2 i p hi) e
section CROOM
variable {g : gC} {X : Cxt} {cc : ByteArray} {nL b lvl mc : Nat} {ret : Option FieldType} {own : String} {Qc : Array Value → State → Outcome → State → Prop} {pc q : Nat} {lv : List (Nat × Value)} {st rest : List Value} {C C' : Mem} {kA : ClassId} {a : Nat} {r : Nat → Int32}
theorem r_iald (O : OkC g X cc nL ret own lvl mc Qc) (hK : va_K g.1 cCl (cTy g ++ [(kA, .int)]) (xs X)) {j : Nat} {i : Int32} (hin : inb i 257 = true) (hj : i.toNatClampNeg = j) (d : decode cc pc = .ok (.iaload, 1)) (hq : pc + 1 = q) (kk : V X nL b (PR g kA C a r) q lv (.int (r j) :: st)) : V X nL b (PR g kA C a r) pc lv (.int i :: .ref a :: st) := by
  subst hq
  subst hj
  intro H lo ce sl ls h1 h2 h3 h4 h5
  obtain ⟨Y, ah, ev, hP, hD, hY⟩ := h1.un
  exact va_iald O.1.ex O.1.bc hK hP (cWs g C ah ev ++ Y).length 6 (by simp) rfl (inb_in hin) d (kk H lo ce sl ls h1 h2 h3 h4 h5)
theorem r_iast (O : OkC g X cc nL ret own lvl mc Qc) (hK : va_K g.1 cCl (cTy g ++ [(kA, .int)]) (xs X)) {j : Nat} {i v : Int32} (hin : inb i 257 = true) (hj : i.toNatClampNeg = j) (d : decode cc pc = .ok (.iastore, 1)) (hq : pc + 1 = q) (kk : V X nL b (PR g kA C a (upd r j v)) q lv st) : V X nL b (PR g kA C a r) pc lv (.int v :: .int i :: .ref a :: st) := by
  subst hq
  subst hj
  intro H lo ce sl ls h1 h2 h3 h4 h5
  obtain ⟨Y, ah, ev, hP, hD, hY⟩ := h1.un
  refine va_iast (f := r) (n := 257) (cA := kA) O.1.ex O.1.bc hK hP hD (O.S h2) (cWs g C ah ev ++ Y).length 6 (by simp) rfl (inb_in hin) d (fun H1 lo1 p1 p2 p3 => ?_)
  have e : (((cWs g C ah ev ++ Y) ++ [(a, (.inl (kA, 257, .inl r) : va_E))]).set (cWs g C ah ev ++ Y).length (a, .inl (kA, 257, .inl (upd r i.toNatClampNeg v)))) = (cWs g C ah ev ++ Y) ++ [(a, .inl (kA, 257, .inl (upd r i.toNatClampNeg v)))] := by simp
  rw [e] at p1 p2
  exact kk H1 lo1 ce sl ls (PR.mk p1 p2 hY) (by rw [O.2.2.1]; exact p3) h3 h4 h5
theorem PR.pre (O : OkC g X cc nL ret own lvl mc Qc) {as : List Value} {H : Heap} {lo : List Loc} (h1 : PR g kA C a r H) (h2 : va_S (xA X) (xs X).heap H lo) : ∀ U : State, U.heap = H → (xs X).WarmedH U.vm → cPc (gAdd g a) as C as.toArray U := fun U hU hW => ⟨rfl, by rw [hU]; exact h1.1, (O.2.1.moved (O.S h2) hU hW).add (by rw [hU]; exact (Array.getElem?_eq_some_iff.mp h1.2.1).1)⟩
theorem r_callVi {v : Int32} (O : OkC g X cc nL ret own lvl mc Qc) {idx maxL n lvl' o ci : Nat} {y : MethodName} {by_ : ByteArray} {rt : Option FieldType} {As : List Value} {p : vw_C} (ho : o < 95) (hci : cCl[ci]? = some p) (hv : ∀ ah ev, ∃ fs, cCell g C ah ev o = .inr (ci, fs)) (hM : MetC (xl X) (gAdd g a) y by_ maxL rt lvl' 0 (.ref (gCa g o) :: As) C (cQi (gAdd g a) v C')) (hG : GoodIn lw_all (wsV own idx p.1 y (ws_ y by_ maxL rt))) (hd : y.cls = p.1 ∧ y.cls ≠ "java/lang/invoke/MethodHandle" ∧ y.cls ≠ "java/lang/invoke/VarHandle" ∧ (parseMethodDescriptor y.desc).map (fun d => d.parameters.length) = some n) (hlv : lvl' + 1 ≤ lvl) (hml : maxL ≤ 40) (hn : As.length = n) (hst : st = As.reverse ++ .ref (gCa g o) :: rest) (hr : (rest.map fun v => v.category).sum ≤ 8) (d : decode cc pc = .ok (.invokevirtual idx, 3)) (hq : pc + 3 = q) (kk : V X nL b (PR g kA C' a r) q lv (.int v :: rest)) : V X nL b (PR g kA C a r) pc lv st := by
  subst hq
  subst hst
  intro H lo ce sl ls h1 h2 h3 h4 h5
  have S2 := O.S h2
  have hlt : a < H.size := (Array.getElem?_eq_some_iff.mp h1.2.1).1
  refine va_calli (A1 := cA (gAdd g a)) (A0 := cA g) (va_runV (As := As) (rest := rest) ⟨O.1.ex, O.1.bc, O.1.ml, O.1.ow, O.1.ts⟩ hM (cwV n O.1.ts hG rfl rfl rfl hd (c_room O hlv hml)) ⟨cPc_blind, c_recv O (PR.wd H h1) ho hci hv, PR.pre O h1 h2⟩ rfl hn h5.1 rfl (lv_room hr) d ⟨by omega, by omega⟩) S2 (fun q _ h => gAdd_le h) (fun q h => gAdd_le h) (fun r1 u t H1 lo1 ht hvm hw hB hz hk hS1 => ?_)
  obtain ⟨rfl, rfl⟩ := hw
  exact kk H1 lo1 _ _ ls ⟨by rw [← ht]; exact hB, by rw [hk a hlt (fun z => gAdd_ne z rfl)]; exact h1.2.1, h1.2.2⟩ (by rw [O.2.2.1]; exact hS1) (by omega) (by omega) h5
theorem r_callUi {v : Int32} (O : OkC g X cc nL ret own lvl mc Qc) {idx maxL n lvl' o ci : Nat} {x y : MethodName} {owner : String} {by_ : ByteArray} {rt : Option FieldType} {As : List Value} {p : vw_C} (ho : o < 95) (hci : cCl[ci]? = some p) (hv : ∀ ah ev, ∃ fs, cCell g C ah ev o = .inr (ci, fs)) (hM : MetC (xl X) (gAdd g a) y by_ maxL rt lvl' 0 (.ref (gCa g o) :: As) C (cQi (gAdd g a) v C')) (hG : va_CU (xR X) (xs X) (xa X) own p.1 owner idx x y by_ maxL rt (ws_ y by_ maxL rt) (rmz lvl' 0) 0 (8 * 0) n) (hn : As.length = n) (hst : st = As.reverse ++ .ref (gCa g o) :: rest) (hr : (rest.map fun v => v.category).sum ≤ 8) (d : decode cc pc = .ok (.invokevirtual idx, 3)) (hq : pc + 3 = q) (kk : V X nL b (PR g kA C' a r) q lv (.int v :: rest)) : V X nL b (PR g kA C a r) pc lv st := by
  subst hq
  subst hst
  intro H lo ce sl ls h1 h2 h3 h4 h5
  have S2 := O.S h2
  have hlt : a < H.size := (Array.getElem?_eq_some_iff.mp h1.2.1).1
  refine va_calli (A1 := cA (gAdd g a)) (A0 := cA g) (va_runU (As := As) (rest := rest) ⟨O.1.ex, O.1.bc, O.1.ml, O.1.ow, O.1.ts⟩ hM hG ⟨cPc_blind, c_recv O (PR.wd H h1) ho hci hv, PR.pre O h1 h2⟩ rfl hn h5.1 rfl (lv_room hr) d ⟨by omega, by omega⟩) S2 (fun q _ h => gAdd_le h) (fun q h => gAdd_le h) (fun r1 u t H1 lo1 ht hvm hw hB hz hk hS1 => ?_)
  obtain ⟨rfl, rfl⟩ := hw
  exact kk H1 lo1 _ _ ls ⟨by rw [← ht]; exact hB, by rw [hk a hlt (fun z => gAdd_ne z rfl)]; exact h1.2.1, h1.2.2⟩ (by rw [O.2.2.1]; exact hS1) (by omega) (by omega) h5
set_option maxHeartbeats 1000000 in
theorem r_group {v : Int32} (O : OkC g X cc nL ret own lvl mc Qc) {o idx : Nat} {x1 : Int32} (hs : cS o) (h : fv_group o x1 C = some (v, C')) (hl : Cond.methodLink own idx ⟨"RankEntry$Source", "group", "(I)I"⟩ ∈ lw_all) (hlv : 0 + 1 ≤ lvl) (hst : st = ([.int x1] : List Value).reverse ++ .ref (gCa g o) :: rest) (hr : (rest.map fun v => v.category).sum ≤ 8) (d : decode cc pc = .ok (.invokevirtual idx, 3)) (hq : pc + 3 = q) (kk : V X nL b (PR g kA C' a r) q lv (.int v :: rest)) : V X nL b (PR g kA C a r) pc lv st := by
  unfold fv_group at h
  have hk := (cS_lt hs).2.1
  rcases cSc_or (cK o) with hc | hc | hc | hc
  · rw [if_neg (by have := cSc_5 hc; omega)] at h
    exact r_callUi (As := [.int x1]) (rest := rest) (x := ⟨"RankEntry$Source", "group", "(I)I"⟩) (owner := "RankEntry$Source") (n := 1) (ci := 5) (p := (RX15, TX15, 9)) O (cS_lt hs).1 rfl (fun _ _ => ⟨_, by rw [cCell_S hs, hc]⟩) (metc_Src_group _ (gAdd g a) o hs x1 C C' v h) (va_cwU 1 O.1.ts (lw_U hl q218 q224 q217 q78 q225) rfl rfl rfl rfl (by decide +kernel) (c_room O (by omega) (by decide))) rfl hst hr d hq kk
  · rw [if_neg (by have := cSc_6 hc; omega)] at h
    exact r_callUi (As := [.int x1]) (rest := rest) (x := ⟨"RankEntry$Source", "group", "(I)I"⟩) (owner := "RankEntry$Source") (n := 1) (ci := 6) (p := (RX16, TX16, 10)) O (cS_lt hs).1 rfl (fun _ _ => ⟨_, by rw [cCell_S hs, hc]⟩) (metc_Src_group _ (gAdd g a) o hs x1 C C' v h) (va_cwU 1 O.1.ts (lw_U hl q218 q223 q217 q78 q225) rfl rfl rfl rfl (by decide +kernel) (c_room O (by omega) (by decide))) rfl hst hr d hq kk
  · rw [if_neg (by have := cSc_7 hc; omega)] at h
    exact r_callUi (As := [.int x1]) (rest := rest) (x := ⟨"RankEntry$Source", "group", "(I)I"⟩) (owner := "RankEntry$Source") (n := 1) (ci := 7) (p := (RX17, TX17, 9)) O (cS_lt hs).1 rfl (fun _ _ => ⟨_, by rw [cCell_S hs, hc]⟩) (metc_Src_group _ (gAdd g a) o hs x1 C C' v h) (va_cwU 1 O.1.ts (lw_U hl q218 q222 q217 q78 q225) rfl rfl rfl rfl (by decide +kernel) (c_room O (by omega) (by decide))) rfl hst hr d hq kk
  · rw [if_pos (by have := cSc_8 hc; omega)] at h
    exact r_callUi (As := [.int x1]) (rest := rest) (x := ⟨"RankEntry$Source", "group", "(I)I"⟩) (owner := "RankEntry$Source") (n := 1) (ci := 8) (p := (RX18, TX18, 9)) O (cS_lt hs).1 rfl (fun _ _ => ⟨_, by rw [cCell_S hs, hc]⟩) (metc_Hard_group _ (gAdd g a) o hs x1 C C' v h) (va_cwO 1 O.1.ts (lw_O hl q218 q217 q219 q220 q82 q221) rfl rfl rfl q225 (by decide +kernel) (c_room O (by omega) (by decide))) rfl hst hr d hq kk
end CROOM
/-! the second loop: the sum -/
def rmB (x1 : Int32) (r : Nat → Int32) (C : Mem) : Nat → Int32 → Int32 → Option (Int32 × Mem)
  | 0, _, _ => none
  | n + 1, s, j => if 256 < j then some (s, C) else gd (inb j 257) <| if r j.toNatClampNeg = 0 then rmB x1 r C n (s + 0) (j + 1) else if x1 = 0 then rmB x1 r C n (s + ((r j.toNatClampNeg - 1) + 6)) (j + 1) else rmB x1 r C n (s + ((r j.toNatClampNeg - 1) + 10)) (j + 1)
theorem rmB_s {x1 : Int32} {r : Nat → Int32} {C : Mem} {n : Nat} {s j : Int32} : rmB x1 r C (n + 1) s j = (if 256 < j then some (s, C) else gd (inb j 257) <| if r j.toNatClampNeg = 0 then rmB x1 r C n (s + 0) (j + 1) else if x1 = 0 then rmB x1 r C n (s + ((r j.toNatClampNeg - 1) + 6)) (j + 1) else rmB x1 r C n (s + ((r j.toNatClampNeg - 1) + 10)) (j + 1)) := rfl
/-- the first: the most of each group -/
def rmA (x1 : Int32) : Nat → Int32 → (Nat → Int32) → Mem → Option (Int32 × Mem)
  | 0, _, _, _ => none
  | n + 1, k, r, C => if 21 ≤ k then rmB x1 r C 600 0 0 else gd (inb k 21) <| if C (9 + 22 + k.toNatClampNeg) 3 = 0 then rmA x1 n (k + 1) r C else bnd (fc_RE_pushes k C) fun v C1 => if 0 ≤ v then bnd (fv_group (9 + 22 + k.toNatClampNeg) (C1 9 34) C1) fun y C2 => gd (inb (y + 1) 257) <| if v + 1 ≤ r (y + 1).toNatClampNeg then rmA x1 n (k + 1) (upd r (y + 1).toNatClampNeg (r (y + 1).toNatClampNeg)) C2 else rmA x1 n (k + 1) (upd r (y + 1).toNatClampNeg (v + 1)) C2 else some ((-1), C1)
theorem rmA_s {x1 : Int32} {r : Nat → Int32} {C : Mem} {n : Nat} {k : Int32} : rmA x1 (n + 1) k r C = (if 21 ≤ k then rmB x1 r C 600 0 0 else gd (inb k 21) <| if C (9 + 22 + k.toNatClampNeg) 3 = 0 then rmA x1 n (k + 1) r C else bnd (fc_RE_pushes k C) fun v C1 => if 0 ≤ v then bnd (fv_group (9 + 22 + k.toNatClampNeg) (C1 9 34) C1) fun y C2 => gd (inb (y + 1) 257) <| if v + 1 ≤ r (y + 1).toNatClampNeg then rmA x1 n (k + 1) (upd r (y + 1).toNatClampNeg (r (y + 1).toNatClampNeg)) C2 else rmA x1 n (k + 1) (upd r (y + 1).toNatClampNeg (v + 1)) C2 else some ((-1), C1)) := rfl
def fc_RE_room (x1 : Int32) (C : Mem) : Option (Int32 × Mem) := rmA x1 600 0 (fun _ => 0) C
section WROOM
variable {g : gC} {X : Cxt} {res : Int32} {C' : Mem} {kA : ClassId} {a : Nat}
abbrev OkR (g : gC) (X : Cxt) (res : Int32) (C' : Mem) : Prop := OkC g X cX1_room 7 (some .int) RX1 6 33 (cQi g res C')
set_option maxHeartbeats 1000000 in
theorem rmB_w (O : OkR g X res C') (hK : va_K g.1 cCl (cTy g ++ [(kA, .int)]) (xs X)) {x1 : Int32} {r : Nat → Int32} {C : Mem} : ∀ (n : Nat) (s j : Int32), rmB x1 r C n s j = some (res, C') → V X 7 0 (PR g kA C a r) 103 [(0, .ref (gCa g 0)), (1, .int x1), (2, .ref a), (3, .int s), (4, .int j)] [] := by
  intro n
  induction n with
  | zero => intro s j h; cases h
  | succ n ih =>
    intro s j h
    rw [rmB_s] at h
    have tail : ∀ z : Int32, rmB x1 r C n (s + z) (j + 1) = some (res, C') → V X 7 0 (PR g kA C a r) 141 [(0, .ref (gCa g 0)), (1, .int x1), (2, .ref a), (3, .int s), (4, .int j)] [.int z, .int s] := fun z hz => by
      refine v_iadd O.1 dX1_room_141 (q := 142) rfl ?_
      refine v_istore_n (lv' := [(3, .int (s + z)), (0, .ref (gCa g 0)), (1, .int x1), (2, .ref a), (4, .int j)]) O.1 dX1_room_142 (by decide) rfl (q := 143) rfl ?_
      refine v_iinc (lv' := [(4, .int (j + 1)), (3, .int (s + z)), (0, .ref (gCa g 0)), (1, .int x1), (2, .ref a)]) (v := (j + 1)) O.1 dX1_room_143 rfl rfl (by decide) rfl (q := 146) rfl ?_
      refine v_goto O.1 dX1_room_146 (t := 103) (by decide) ?_
      exact v_sub [2, 3, 4, 1, 0] rfl (ih _ _ hz)
    refine v_iload O.1 dX1_room_103 rfl (q := 105) rfl ?_
    refine v_sipush O.1 dX1_room_105 (v := 256) (by decide) (q := 108) rfl ?_
    refine v_icmp_gt O.1 dX1_room_108 (t := 149) (by decide) (q := 111) rfl (fun c => ?_) (fun c => ?_)
    · rw [if_pos c] at h
      refine v_iload_n O.1 dX1_room_149 rfl (q := 150) rfl ?_
      exact v_world PR.wd (c_iret O h dX1_room_150)
    · rw [if_neg c] at h
      obtain ⟨g1, h⟩ := gd_some h
      refine v_iload_n O.1 dX1_room_111 rfl (q := 112) rfl ?_
      refine v_aload_n O.1 dX1_room_112 rfl (q := 113) rfl ?_
      refine v_iload O.1 dX1_room_113 rfl (q := 115) rfl ?_
      refine r_iald O hK g1 rfl dX1_room_115 (q := 116) rfl ?_
      refine v_if_ne O.1 dX1_room_116 (t := 123) (by decide) (q := 119) rfl (fun c2 => ?_) (fun c2 => ?_)
      · rw [if_neg c2] at h
        refine v_aload_n O.1 dX1_room_123 rfl (q := 124) rfl ?_
        refine v_iload O.1 dX1_room_124 rfl (q := 126) rfl ?_
        refine r_iald O hK g1 rfl dX1_room_126 (q := 127) rfl ?_
        refine v_iconst O.1 dX1_room_127 (v := 1) rfl (q := 128) rfl ?_
        refine v_isub O.1 dX1_room_128 (q := 129) rfl ?_
        refine v_iload_n O.1 dX1_room_129 rfl (q := 130) rfl ?_
        refine v_if_eq O.1 dX1_room_130 (t := 138) (by decide) (q := 133) rfl (fun c3 => ?_) (fun c3 => ?_)
        · rw [if_pos c3] at h
          refine v_bipush O.1 dX1_room_138 (v := 6) (by decide) (q := 140) rfl ?_
          refine v_iadd O.1 dX1_room_140 (q := 141) rfl ?_
          exact tail _ h
        · rw [if_neg c3] at h
          refine v_bipush O.1 dX1_room_133 (v := 10) (by decide) (q := 135) rfl ?_
          refine v_goto O.1 dX1_room_135 (t := 140) (by decide) ?_
          refine v_iadd O.1 dX1_room_140 (q := 141) rfl ?_
          exact tail _ h
      · rw [if_pos c2] at h
        refine v_iconst O.1 dX1_room_119 (v := 0) rfl (q := 120) rfl ?_
        refine v_goto O.1 dX1_room_120 (t := 141) (by decide) ?_
        exact tail _ h
set_option maxHeartbeats 2000000 in
theorem rmA_w (O : OkR g X res C') (hK : va_K g.1 cCl (cTy g ++ [(kA, .int)]) (xs X)) {x1 : Int32} : ∀ (n : Nat) (k : Int32) (r : Nat → Int32) (C : Mem), rmA x1 n k r C = some (res, C') → V X 7 0 (PR g kA C a r) 8 [(0, .ref (gCa g 0)), (1, .int x1), (2, .ref a), (3, .int k)] [] := by
  intro n
  induction n with
  | zero => intro k r C h; cases h
  | succ n ih =>
    intro k r C h
    rw [rmA_s] at h
    have tail : ∀ (r' : Nat → Int32) (C2 : Mem) (lv : List (Nat × Value)) (e : Value), rmA x1 n (k + 1) r' C2 = some (res, C') → V X 7 0 (PR g kA C2 a r') 92 [(0, .ref (gCa g 0)), (1, .int x1), (2, .ref a), (3, .int k)] [] := fun r' C2 _ _ hz => by
      refine v_iinc (lv' := [(3, .int (k + 1)), (0, .ref (gCa g 0)), (1, .int x1), (2, .ref a)]) (v := (k + 1)) O.1 dX1_room_92 rfl rfl (by decide) rfl (q := 95) rfl ?_
      refine v_goto O.1 dX1_room_95 (t := 8) (by decide) ?_
      exact v_sub [1, 2, 3, 0] rfl (ih _ _ _ hz)
    refine v_iload_n O.1 dX1_room_8 rfl (q := 9) rfl ?_
    refine v_bipush O.1 dX1_room_9 (v := 21) (by decide) (q := 11) rfl ?_
    refine v_icmp_ge O.1 dX1_room_11 (t := 98) (by decide) (q := 14) rfl (fun c => ?_) (fun c => ?_)
    · rw [if_pos c] at h
      refine v_iconst O.1 dX1_room_98 (v := 0) rfl (q := 99) rfl ?_
      refine v_istore_n (lv' := [(3, .int 0), (0, .ref (gCa g 0)), (1, .int x1), (2, .ref a)]) O.1 dX1_room_99 (by decide) rfl (q := 100) rfl ?_
      refine v_iconst O.1 dX1_room_100 (v := 0) rfl (q := 101) rfl ?_
      refine v_istore (lv' := [(4, .int 0), (3, .int 0), (0, .ref (gCa g 0)), (1, .int x1), (2, .ref a)]) O.1 dX1_room_101 (by decide) rfl (q := 103) rfl ?_
      exact v_sub [2, 3, 4, 1, 0] rfl (rmB_w O hK 600 0 0 h)
    · rw [if_neg c] at h
      obtain ⟨g1, h⟩ := gd_some h
      refine v_aload_n O.1 dX1_room_14 rfl (q := 15) rfl ?_
      refine c_getRP O (C := C) PR.wd 1 (v := .ref (gCa g 9)) (by decide) (O.lk q1078) rfl (fun _ _ => ⟨_, rfl, rfl⟩) dX1_room_15 (q := 18) rfl ?_
      refine c_getCP O (C := C) PR.wd cC_9 7 (v := .ref (gCa g (9 + 5))) (by decide) (O.lkn q851) rfl (fun _ => rfl) dX1_room_18 (q := 21) rfl ?_
      refine v_iload_n O.1 dX1_room_21 rfl (q := 22) rfl ?_
      refine c_allP O (C := C) PR.wd cC_9 g1 rfl (j := k.toNatClampNeg) dX1_room_22 (q := 23) rfl ?_
      have hs : cS (9 + 22 + k.toNatClampNeg) := cS_of cC_9 (inb_lt g1)
      refine v_astore (lv' := [(4, .ref (gCa g (9 + 22 + k.toNatClampNeg))), (0, .ref (gCa g 0)), (1, .int x1), (2, .ref a), (3, .int k)]) O.1 dX1_room_23 (by decide) rfl (q := 25) rfl ?_
      refine v_aload O.1 dX1_room_25 rfl (q := 27) rfl ?_
      refine c_getSP O (C := C) PR.wd hs 3 (by decide) (O.lk q744) rfl rfl rfl rfl (v := .int (C (9 + 22 + k.toNatClampNeg) 3)) rfl dX1_room_27 (q := 30) rfl ?_
      refine v_if_ne O.1 dX1_room_30 (t := 36) (by decide) (q := 33) rfl (fun c2 => ?_) (fun c2 => ?_)
      · rw [if_neg c2] at h
        obtain ⟨v, C1, e1, h⟩ := bnd_some h
        refine v_aload_n O.1 dX1_room_36 rfl (q := 37) rfl ?_
        refine v_iload_n O.1 dX1_room_37 rfl (q := 38) rfl ?_
        refine r_callVi (As := [.int k]) (rest := []) (n := 1) (o := 0) (ci := 0) (p := (RX1, TX1, 4)) O (by decide) rfl (fun _ _ => ⟨_, rfl⟩) (metc_RE_pushes _ (gAdd g a) k C C1 v e1) (lw_V q1513 q1506 q1507 q59 q1508) (by decide +kernel) (by decide) (by decide) rfl rfl (Nat.le_of_ble_eq_true rfl) dX1_room_38 (q := 41) rfl ?_
        refine v_istore (lv' := [(5, .int v), (4, .ref (gCa g (9 + 22 + k.toNatClampNeg))), (0, .ref (gCa g 0)), (1, .int x1), (2, .ref a), (3, .int k)]) O.1 dX1_room_41 (by decide) rfl (q := 43) rfl ?_
        refine v_iload O.1 dX1_room_43 rfl (q := 45) rfl ?_
        refine v_if_ge O.1 dX1_room_45 (t := 50) (by decide) (q := 48) rfl (fun c3 => ?_) (fun c3 => ?_)
        · rw [if_pos c3] at h
          obtain ⟨w, C2, e2, h⟩ := bnd_some h
          obtain ⟨g2, h⟩ := gd_some h
          refine v_aload O.1 dX1_room_50 rfl (q := 52) rfl ?_
          refine v_aload_n O.1 dX1_room_52 rfl (q := 53) rfl ?_
          refine c_getRP O (C := C1) PR.wd 1 (v := .ref (gCa g 9)) (by decide) (O.lk q1078) rfl (fun _ _ => ⟨_, rfl, rfl⟩) dX1_room_53 (q := 56) rfl ?_
          refine c_getCP O (C := C1) PR.wd cC_9 34 (v := .int (C1 9 34)) (by decide) (O.lkn q898) rfl (fun _ => rfl) dX1_room_56 (q := 59) rfl ?_
          refine r_group (rest := []) O hs e2 q708 (by decide) rfl (Nat.le_of_ble_eq_true rfl) dX1_room_59 (q := 62) rfl ?_
          refine v_iconst O.1 dX1_room_62 (v := 1) rfl (q := 63) rfl ?_
          refine v_iadd O.1 dX1_room_63 (q := 64) rfl ?_
          refine v_istore (lv' := [(6, .int (w + 1)), (5, .int v), (4, .ref (gCa g (9 + 22 + k.toNatClampNeg))), (0, .ref (gCa g 0)), (1, .int x1), (2, .ref a), (3, .int k)]) O.1 dX1_room_64 (by decide) rfl (q := 66) rfl ?_
          refine v_aload_n O.1 dX1_room_66 rfl (q := 67) rfl ?_
          refine v_iload O.1 dX1_room_67 rfl (q := 69) rfl ?_
          refine v_iload O.1 dX1_room_69 rfl (q := 71) rfl ?_
          refine v_iconst O.1 dX1_room_71 (v := 1) rfl (q := 72) rfl ?_
          refine v_iadd O.1 dX1_room_72 (q := 73) rfl ?_
          refine v_aload_n O.1 dX1_room_73 rfl (q := 74) rfl ?_
          refine v_iload O.1 dX1_room_74 rfl (q := 76) rfl ?_
          refine r_iald O hK g2 rfl dX1_room_76 (q := 77) rfl ?_
          refine v_icmp_le O.1 dX1_room_77 (t := 87) (by decide) (q := 80) rfl (fun c4 => ?_) (fun c4 => ?_)
          · rw [if_pos c4] at h
            refine v_aload_n O.1 dX1_room_87 rfl (q := 88) rfl ?_
            refine v_iload O.1 dX1_room_88 rfl (q := 90) rfl ?_
            refine r_iald O hK g2 rfl dX1_room_90 (q := 91) rfl ?_
            refine r_iast O hK g2 rfl dX1_room_91 (q := 92) rfl ?_
            exact v_sub [3, 4, 5, 6] rfl (tail _ _ [] .null h)
          · rw [if_neg c4] at h
            refine v_iload O.1 dX1_room_80 rfl (q := 82) rfl ?_
            refine v_iconst O.1 dX1_room_82 (v := 1) rfl (q := 83) rfl ?_
            refine v_iadd O.1 dX1_room_83 (q := 84) rfl ?_
            refine v_goto O.1 dX1_room_84 (t := 91) (by decide) ?_
            refine r_iast O hK g2 rfl dX1_room_91 (q := 92) rfl ?_
            exact v_sub [3, 4, 5, 6] rfl (tail _ _ [] .null h)
        · rw [if_neg c3] at h
          refine v_iconst O.1 dX1_room_48 (v := (-1)) rfl (q := 49) rfl ?_
          exact v_world PR.wd (c_iret O h dX1_room_49)
      · rw [if_pos c2] at h
        refine v_goto O.1 dX1_room_33 (t := 92) (by decide) ?_
        exact v_sub [1, 2, 3, 4] rfl (tail _ _ [] .null h)
theorem bc_RE_room (O : OkR g X res C') (x1 : Int32) (C : Mem) (h : fc_RE_room x1 C = some (res, C')) : V X 7 33 (WdC g C) 0 [(0, .ref (gCa g 0)), (1, .int x1)] [] := by
  refine v_sipush O.1 dX1_room_0 (v := 257) (by decide) (q := 3) rfl ?_
  intro H lo ce sl ls h1 h2 h3 h4 h5
  obtain ⟨Y, ah, ev, hP, hD, hY⟩ := h1
  refine va_newa O.1.ex O.1.bc (atype := .int) (O.1.ts _ q281) (ty := .int) rfl O.2.1.1 hP hD (O.S h2) O.free (a0 := (257, .inl (fun _ => 0))) (fun _ => rfl) (by decide) (N' := 257) rfl (by decide) (by omega) (by omega) dX1_room_3 (fun a kA H1 hK p1 p2 p3 => ?_)
  have key : V X 7 0 (PR g kA C a (fun _ => 0)) 5 [(0, .ref (gCa g 0)), (1, .int x1)] [.ref a] := by
    refine v_astore_n (lv' := [(2, .ref a), (0, .ref (gCa g 0)), (1, .int x1)]) O.1 dX1_room_5 (by decide) rfl (q := 6) rfl ?_
    refine v_iconst O.1 dX1_room_6 (v := 0) rfl (q := 7) rfl ?_
    refine v_istore_n (lv' := [(3, .int 0), (2, .ref a), (0, .ref (gCa g 0)), (1, .int x1)]) O.1 dX1_room_7 (by decide) rfl (q := 8) rfl ?_
    exact v_sub [2, 3, 1, 0] rfl (rmA_w O hK 600 0 _ C h)
  exact key H1 lo _ _ ls (PR.mk p1 p2 hY) (by rw [O.2.2.1]; exact p3) (by omega) (by omega) h5
end WROOM
theorem metc_RE_room (l : Launch) (g : gC) (x1 : Int32) (C C' : Mem) (r : Int32) (h : fc_RE_room x1 C = some (r, C')) : MetC l g yX1_room cX1_room 7 (some .int) 6 33 [.ref (gCa g 0), .int x1] C (cQi g r C') :=
  c_met (by decide) rfl (Nat.le_of_ble_eq_true rfl) (fun X O => bc_RE_room O x1 C h)
