/-! METHODS THAT MAY THROW A TRAP of their core: the answer is a value or a fault (18, 19) -/
def bndx {α β : Type} (x : Option ((α ⊕ Int32) × Mem)) (k : α → Mem → Option ((β ⊕ Int32) × Mem)) : Option ((β ⊕ Int32) × Mem) := match x with
  | none => none
  | some (.inl r, s) => k r s
  | some (.inr f, s) => some (.inr f, s)
theorem bndx_some {α β : Type} {x : Option ((α ⊕ Int32) × Mem)} {k : α → Mem → Option ((β ⊕ Int32) × Mem)} {z : (β ⊕ Int32) × Mem} (h : bndx x k = some z) : (∃ r s, x = some (.inl r, s) ∧ k r s = some z) ∨ (∃ f s, x = some (.inr f, s) ∧ z = (.inr f, s)) := by
  match x, h with
  | some (.inl r, s), h => exact Or.inl ⟨r, s, rfl, h⟩
  | some (.inr f, s), h => exact Or.inr ⟨f, s, rfl, (Option.some.inj h).symm⟩
/-- .. and caught -/
def bndc {α β : Type} (x : Option ((α ⊕ Int32) × Mem)) (k : α → Mem → Option β) (kx : Int32 → Mem → Option β) : Option β := match x with
  | none => none
  | some (.inl r, s) => k r s
  | some (.inr f, s) => kx f s
theorem bndc_some {α β : Type} {x : Option ((α ⊕ Int32) × Mem)} {k : α → Mem → Option β} {kx : Int32 → Mem → Option β} {z : β} (h : bndc x k kx = some z) : (∃ r s, x = some (.inl r, s) ∧ k r s = some z) ∨ (∃ f s, x = some (.inr f, s) ∧ kx f s = some z) := by
  match x, h with
  | some (.inl r, s), h => exact Or.inl ⟨r, s, rfl, h⟩
  | some (.inr f, s), h => exact Or.inr ⟨f, s, rfl, h⟩
def isT (f : Int32) : Prop := f = 18 ∨ f = 19
def xX {α : Type} (g : gC) (c : Nat) (r : α ⊕ Int32) (C' : Mem) : String → Nat → State → State → Prop := vx_X (fun (u : Mem) => u = C') (fun E q u t => ∃ f, r = .inr f ∧ isT f ∧ E = "RankEntry$Trap" ∧ q = gCa g (c + 2 + f.toNatClampNeg) ∧ WdC g u t.heap) (cA g)
def xQi (g : gC) (r : Int32 ⊕ Int32) (C' : Mem) : Array Value → State → Outcome → State → Prop := va_Qi (fun r' (u : Mem) => r = .inl r' ∧ u = C') (fun u t => WdC g u t.heap) (cA g)
def xQv (g : gC) (r : Unit ⊕ Int32) (C' : Mem) : Array Value → State → Outcome → State → Prop := va_Qv (fun (u : Mem) => r = .inl () ∧ u = C') (fun u t => WdC g u t.heap) (cA g)
abbrev MetX {α : Type} (l : Launch) (g : gC) (c : Nat) (y : MethodName) (cc : ByteArray) (nL : Nat) (ret : Option FieldType) (lvl mc : Nat) (as : List Value) (C : Mem) (Qc : Array Value → State → Outcome → State → Prop) (r : α ⊕ Int32) (C' : Mem) : Prop := vx_Met l y (ws_ y cc nL ret) (rmz lvl mc) (cPc g as C) Qc (xX g c r C') mc (8 * mc) (cA g)
def OkX {α : Type} (g : gC) (c : Nat) (X : Cxt) (cc : ByteArray) (nL : Nat) (ret : Option FieldType) (own : String) (lvl mc : Nat) (Qc : Array Value → State → Outcome → State → Prop) (r : α ⊕ Int32) (C' : Mem) : Prop := OkC g X cc nL ret own lvl mc Qc ∧ (∀ t, vx_MQ (xb X) Qc (xX g c r C') (xa X) (xs X) mc (8 * mc) (cA g) t → xQ X t) ∧ (∀ x ∈ (xc X).exceptionTable.toList, False)
theorem x_met {α : Type} {l : Launch} {g : gC} {c : Nat} {y : MethodName} {cc : ByteArray} {nL : Nat} {ret : Option FieldType} {own : String} {lvl mc : Nat} {as : List Value} {C C' : Mem} {Qc : Array Value → State → Outcome → State → Prop} {r : α ⊕ Int32} (hy : plainName y.cls = true) (hc : y.cls = own) (hlen : (lg_sl as).length ≤ nL) (h : ∀ X, OkX g c X cc nL ret own lvl mc Qc r C' → V X nL mc (WdC g C) 0 (lv_args 0 as) []) : MetX l g c y cc nL ret lvl mc as C Qc r C' := by
  refine vx_ofW (cc := cc) (maxL := nL) (ret := ret) hy rfl ?_
  intro p e s m args below meth c' s₁ B hml ht hv
  obtain ⟨rfl, hW, hK⟩ := hv
  have hts := atoms_spec (ws := ws_ y cc nL ret) B.pre
  have hts : ∀ w ∈ lw_all, w.before _ s = true := fun w h => hts w (List.mem_cons_of_mem _ h)
  have hown : s.vm.findClass y.cls = some m.cls := findClass_of_methodNamed B.named
  rw [hc] at hown
  have hl := lv_entry as hlen
  rw [lg_entry_eq]
  exact h (p, l, e, rmz lvl mc, s, m, as.toArray, below, meth, c', vx_MQ below Qc (xX g c r C') as.toArray s mc (8 * mc) (cA g), cA g) ⟨⟨⟨B.exec, B.bytes, hml, hown, hts, B.returns, B.notSynchronized, rfl⟩, hK, rfl, fun t h => by
    obtain ⟨o, b1, b2, b3, b4⟩ := h
    exact ⟨o, b1, b2, Or.inl ⟨b3, b4⟩⟩⟩, fun _ h => h, ht⟩ s.heap [] 0 0 _ hW va_S.rf (by rw [Nat.zero_add]; exact Nat.le_refl _) (by rw [Nat.zero_add]; exact Nat.le_refl _) hl
section CTHROW
variable {g : gC} {X : Cxt} {cc : ByteArray} {nL b lvl mc : Nat} {ret : Option FieldType} {own : String} {Qc : Array Value → State → Outcome → State → Prop} {pc q : Nat} {lv : List (Nat × Value)} {st rest : List Value} {C C' C1 : Mem} {c : Nat}
theorem c_trap {s : State} {H : Heap} {f : Int32} (hK : KC g s) (h1 : WdC g C H) (hc : cC c) (hf : isT f) : ∃ ce : Cell, H[gCa g (c + 2 + f.toNatClampNeg)]? = some ce ∧ ce.vm = .none ∧ s.vm.findClass "RankEntry$Trap" = some ce.cls := by
  obtain ⟨Y, ah, ev, hP, hD, hY⟩ := h1
  have key : ∃ (o : Nat) (fs : List Value), o < 95 ∧ c + 2 + f.toNatClampNeg = o ∧ cCell g C ah ev o = .inr (4, fs) := by
    rcases hf with rfl | rfl
    · exact ⟨c + 20, _, cC_lt hc (by decide), rfl, cCell_blk hc (by decide)⟩
    · exact ⟨c + 21, _, cC_lt hc (by decide), rfl, cCell_blk hc (by decide)⟩
  obtain ⟨o, fs, ho, e1, e2⟩ := key
  rw [e1]
  obtain ⟨q', z1, cell, g1, g2, g3, -⟩ := hP o (gCa g o, .inr (4, fs)) (by rw [cWs_get ho, e2])
  exact ⟨cell, g1, g3, by rw [g2]; exact (hK.1.1 4 (RX5, TX5, 7) rfl).2.1⟩
/-- the fault of a trap -/
theorem c_getT (O : OkC g X cc nL ret own lvl mc Qc) {idx : Nat} {f : Int32} (hc : cC c) (hf : isT f) (hl : Lk X own idx "RankEntry$Trap" "fault" "I") (d : decode cc pc = .ok (.getfield idx, 3)) (hq : pc + 3 = q) (kk : V X nL b (WdC g C) q lv (.int f :: st)) : V X nL b (WdC g C) pc lv (.ref (gCa g (c + 2 + f.toNatClampNeg)) :: st) := by
  rcases hf with rfl | rfl
  · exact c_get O (o := c + 20) (ci := 4) (Cn := RX5) (T := TX5) (N := 7) 6 (cC_lt hc (by decide)) in_X5 rfl (by decide) hl rfl (fun ah ev => ⟨_, cCell_blk hc (by decide), rfl⟩) d hq kk
  · exact c_get O (o := c + 21) (ci := 4) (Cn := RX5) (T := TX5) (N := 7) 6 (cC_lt hc (by decide)) in_X5 rfl (by decide) hl rfl (fun ah ev => ⟨_, cCell_blk hc (by decide), rfl⟩) d hq kk
theorem x_vret {r : Unit ⊕ Int32} (OX : OkX g c X cc nL none own lvl mc (xQv g r C') r C') (h : some ((Sum.inl () : Unit ⊕ Int32), C) = some (r, C')) (d : decode cc pc = .ok (.return_, 1)) : V X nL b (WdC g C) pc lv [] := by
  have O := OX.1
  intro H lo ce sl ls h1 h2 h3 h4 h5
  unfold xW
  refine wq_mono O.2.2.2 ?_
  rw [O.1.rm] at h3 h4
  refine W.widen (k := mc) (n := 8 * mc) (Nat.le_trans (Nat.le_add_right _ _) h3) (Nat.le_trans (Nat.le_add_right _ _) h4) ?_
  have S2 := O.S h2
  cases h
  exact W.vret O.1.ex O.1.bc O.1.rt (fun t ht hW => ⟨⟨_, rfl, ⟨rfl, rfl⟩, show WdC g _ t.heap by rw [ht]; exact h1⟩, S2.F ht⟩) S2.2.2 d O.1.lk
theorem x_zret {r : Int32 ⊕ Int32} {v : Int32} (OX : OkX g c X cc nL (some .boolean) own lvl mc (xQi g r C') r C') (hB : isB v = true) (h : some ((Sum.inl v : Int32 ⊕ Int32), C) = some (r, C')) (d : decode cc pc = .ok (.ireturn, 1)) : V X nL b (WdC g C) pc lv [.int v] := by
  have O := OX.1
  intro H lo ce sl ls h1 h2 h3 h4 h5
  unfold xW
  refine wq_mono O.2.2.2 ?_
  rw [O.1.rm] at h3 h4
  refine W.widen (k := mc) (n := 8 * mc) (Nat.le_trans (Nat.le_add_right _ _) h3) (Nat.le_trans (Nat.le_add_right _ _) h4) ?_
  have S2 := O.S h2
  cases h
  exact W.zret O.1.ex O.1.bc O.1.rt (isB_nar hB) (fun t ht hW => ⟨⟨_, _, rfl, ⟨rfl, rfl⟩, show WdC g _ t.heap by rw [ht]; exact h1⟩, S2.F ht⟩) S2.2.2 d O.1.lk
/-- a trap on its way out -/
theorem x_out {α : Type} {r : α ⊕ Int32} {f : Int32} (OX : OkX g c X cc nL ret own lvl mc Qc r C') (hc : cC c) (hf : isT f) (h : r = .inr f ∧ C' = C) {H : Heap} {lo : List Loc} {ce sl : Nat} {ls : Array Slot} {st : List Value} (h1 : WdC g C H) (h2 : va_S (xA X) (xs X).heap H lo) (h3 : ce ≤ mc) (h4 : sl ≤ 8 * mc) : vx_W (xp X) (xl X) (xe X) (xR X) (xs X) (xm X) (xa X) (xb X) (xh X) (xc X) H lo ce sl (xQ X) (F0 (xm X) pc ls st) (gCa g (c + 2 + f.toNatClampNeg)) := by
  have O := OX.1
  obtain ⟨cell, z1, z2, z3⟩ := c_trap O.2.1 h1 hc hf
  have S2 := O.S h2
  obtain ⟨rfl, rfl⟩ := h
  have k := vx_out (p := xp X) (l := xl X) (e := xe X) (R := xR X) (s := xs X) (m := xm X) (args := xa X) (below := xb X) (meth := xh X) (c := xc X) (locs := lo) (cells := ce) (slots := sl) (ls := ls) (rest := st) (Qc := Qc) (XC := xX (α := α) g c (.inr f) C') (free := cA g) (pc := pc) (mc := mc) (ms := 8 * mc) (fun x hx => (OX.2.2 x hx).elim) O.1.lk z1 z2 z3 (fun t ht hA => ⟨C', rfl, ⟨f, rfl, hf, rfl, rfl, by rw [ht]; exact h1⟩, S2.F ht⟩) S2.2.2 h3 h4
  intro T hT Z
  obtain ⟨t, a1, b1⟩ := k T hT Z
  exact ⟨t, a1, OX.2.1 t b1⟩
/-- throw it -/
theorem x_throw {α : Type} {r : α ⊕ Int32} (f : Int32) (OX : OkX g c X cc nL ret own lvl mc Qc r C') (hc : cC c) (hf : isT f) (h : some ((Sum.inr f : α ⊕ Int32), C) = some (r, C')) {a : Nat} (ha : a = c + 2 + f.toNatClampNeg) (d : decode cc pc = .ok (.athrow, 1)) : V X nL b (WdC g C) pc lv (.ref (gCa g a) :: st) := by
  subst ha
  intro H lo ce sl ls h1 h2 h3 h4 h5
  have O := OX.1
  rw [O.1.rm] at h3 h4
  exact vx_athrow O.1.ex O.1.bc d (x_out OX hc hf (by cases h; exact ⟨rfl, rfl⟩) h1 h2 (Nat.le_trans (Nat.le_add_right _ _) h3) (Nat.le_trans (Nat.le_add_right _ _) h4))
/-- a call that may throw, and doesn't -/
theorem x_callVi {r : Int32} (O : OkC g X cc nL ret own lvl mc Qc) {idx maxL n lvl' b' mc' o ci c0 : Nat} {y : MethodName} {by_ : ByteArray} {rt : Option FieldType} {As : List Value} {p : vw_C} (ho : o < 95) (hci : cCl[ci]? = some p) (hv : ∀ ah ev, ∃ fs, cCell g C ah ev o = .inr (ci, fs)) (hM : MetX (xl X) g c0 y by_ maxL rt lvl' mc' (.ref (gCa g o) :: As) C (xQi g (.inl r) C') (Sum.inl r : Int32 ⊕ Int32) C') (hG : GoodIn lw_all (wsV own idx p.1 y (ws_ y by_ maxL rt))) (hd : y.cls = p.1 ∧ y.cls ≠ "java/lang/invoke/MethodHandle" ∧ y.cls ≠ "java/lang/invoke/VarHandle" ∧ (parseMethodDescriptor y.desc).map (fun d => d.parameters.length) = some n) (hlv : lvl' + 1 ≤ lvl) (hml : maxL ≤ 40) (hn : As.length = n) (hst : st = As.reverse ++ .ref (gCa g o) :: rest) (hr : (rest.map fun v => v.category).sum ≤ 8) (d : decode cc pc = .ok (.invokevirtual idx, 3)) (hq : pc + 3 = q) (hb : b' + mc' = b) (kk : V X nL b' (WdC g C') q lv (.int r :: rest)) : V X nL b (WdC g C) pc lv st := by
  subst hq
  subst hst
  subst hb
  intro H lo ce sl ls h1 h2 h3 h4 h5
  have S2 := O.S h2
  refine vx_calli (A1 := cA g) (A0 := cA g) (AX := cA g) (vx_runV (As := As) (rest := rest) ⟨O.1.ex, O.1.bc, O.1.ml, O.1.ow, O.1.ts⟩ hM (cwV n O.1.ts hG rfl rfl rfl hd (c_room O hlv hml)) ⟨cPc_blind, c_recv O h1 ho hci hv, O.pre h1 h2⟩ rfl hn h5.1 rfl (lv_room hr) d ⟨by omega, by omega⟩) S2 (fun q _ h => h) (fun q h => h) (fun q _ h => h) (fun E ce' q9 u t H1 lo1 ht hA hp hB => by obtain ⟨f, hf, -⟩ := hB; cases hf) (fun r1 u t H1 lo1 ht hvm hw hB hz hk hS1 => ?_)
  obtain ⟨e1, rfl⟩ := hw
  cases e1
  exact kk H1 lo1 _ _ ls (by rw [← ht]; exact hB) (by rw [O.2.2.1]; exact hS1) (by omega) (by omega) h5
/-- .. and does: it goes on to the caller -/
theorem x_callVti {α : Type} {f : Int32} {r : α ⊕ Int32} (OX : OkX g c X cc nL ret own lvl mc Qc r C') (hc : cC c) {idx maxL n lvl' mc' o ci : Nat} {y : MethodName} {by_ : ByteArray} {rt : Option FieldType} {As : List Value} {p : vw_C} (ho : o < 95) (hci : cCl[ci]? = some p) (hv : ∀ ah ev, ∃ fs, cCell g C ah ev o = .inr (ci, fs)) (hM : MetX (xl X) g c y by_ maxL rt lvl' mc' (.ref (gCa g o) :: As) C (xQi g (.inr f) C1) (Sum.inr f : Int32 ⊕ Int32) C1) (hG : GoodIn lw_all (wsV own idx p.1 y (ws_ y by_ maxL rt))) (hd : y.cls = p.1 ∧ y.cls ≠ "java/lang/invoke/MethodHandle" ∧ y.cls ≠ "java/lang/invoke/VarHandle" ∧ (parseMethodDescriptor y.desc).map (fun d => d.parameters.length) = some n) (hlv : lvl' + 1 ≤ lvl) (hml : maxL ≤ 40) (hn : As.length = n) (hst : st = As.reverse ++ .ref (gCa g o) :: rest) (hr : (rest.map fun v => v.category).sum ≤ 8) (d : decode cc pc = .ok (.invokevirtual idx, 3)) (hb : mc' ≤ b) (h : (r, C') = ((Sum.inr f : α ⊕ Int32), C1)) : V X nL b (WdC g C) pc lv st := by
  have O := OX.1
  subst hst
  intro H lo ce sl ls h1 h2 h3 h4 h5
  have S2 := O.S h2
  have h3' := h3
  have h4' := h4
  rw [O.1.rm] at h3' h4'
  have hf' : ce + mc' ≤ mc ∧ sl + 8 * mc' ≤ 8 * mc := ⟨Nat.le_trans (Nat.add_le_add_left hb _) h3', Nat.le_trans (Nat.add_le_add_left (Nat.mul_le_mul_left 8 hb) _) h4'⟩
  refine vx_calli (A1 := cA g) (A0 := cA g) (AX := cA g) (vx_runV (As := As) (rest := rest) ⟨O.1.ex, O.1.bc, O.1.ml, O.1.ow, O.1.ts⟩ hM (cwV n O.1.ts hG rfl rfl rfl hd (c_room O hlv hml)) ⟨cPc_blind, c_recv O h1 ho hci hv, O.pre h1 h2⟩ rfl hn h5.1 rfl (lv_room hr) d ⟨by omega, by omega⟩) S2 (fun q _ h => h) (fun q h => h) (fun q _ h => h) (fun E ce' q9 u t H1 lo1 ht hA hp hB z1 z2 hS1 z3 z4 z5 => ?_) (fun r1 u t H1 lo1 ht hvm hw hB hz hk hS1 => by obtain ⟨e1, -⟩ := hw; cases e1)
  obtain ⟨f', hf, hT, -, hq9, hW⟩ := hB
  cases hf
  subst hp
  subst hq9
  exact x_out OX hc hT ⟨congrArg Prod.fst h, congrArg Prod.snd h⟩ (by rw [← ht]; exact hW) (by rw [O.2.2.1]; exact hS1) hf'.1 hf'.2
/-- a call that may throw, and doesn't -/
theorem x_callVv {r : Unit} (O : OkC g X cc nL ret own lvl mc Qc) {idx maxL n lvl' b' mc' o ci c0 : Nat} {y : MethodName} {by_ : ByteArray} {rt : Option FieldType} {As : List Value} {p : vw_C} (ho : o < 95) (hci : cCl[ci]? = some p) (hv : ∀ ah ev, ∃ fs, cCell g C ah ev o = .inr (ci, fs)) (hM : MetX (xl X) g c0 y by_ maxL rt lvl' mc' (.ref (gCa g o) :: As) C (xQv g (.inl r) C') (Sum.inl r : Unit ⊕ Int32) C') (hG : GoodIn lw_all (wsV own idx p.1 y (ws_ y by_ maxL rt))) (hd : y.cls = p.1 ∧ y.cls ≠ "java/lang/invoke/MethodHandle" ∧ y.cls ≠ "java/lang/invoke/VarHandle" ∧ (parseMethodDescriptor y.desc).map (fun d => d.parameters.length) = some n) (hlv : lvl' + 1 ≤ lvl) (hml : maxL ≤ 40) (hn : As.length = n) (hst : st = As.reverse ++ .ref (gCa g o) :: rest) (hr : (rest.map fun v => v.category).sum ≤ 8) (d : decode cc pc = .ok (.invokevirtual idx, 3)) (hq : pc + 3 = q) (hb : b' + mc' = b) (kk : V X nL b' (WdC g C') q lv (rest)) : V X nL b (WdC g C) pc lv st := by
  subst hq
  subst hst
  subst hb
  intro H lo ce sl ls h1 h2 h3 h4 h5
  have S2 := O.S h2
  refine vx_callv (A1 := cA g) (A0 := cA g) (AX := cA g) (vx_runV (As := As) (rest := rest) ⟨O.1.ex, O.1.bc, O.1.ml, O.1.ow, O.1.ts⟩ hM (cwV n O.1.ts hG rfl rfl rfl hd (c_room O hlv hml)) ⟨cPc_blind, c_recv O h1 ho hci hv, O.pre h1 h2⟩ rfl hn h5.1 rfl (lv_room hr) d ⟨by omega, by omega⟩) S2 (fun q _ h => h) (fun q h => h) (fun q _ h => h) (fun E ce' q9 u t H1 lo1 ht hA hp hB => by obtain ⟨f, hf, -⟩ := hB; cases hf) (fun u t H1 lo1 ht hvm hw hB hz hk hS1 => ?_)
  obtain ⟨e1, rfl⟩ := hw
  cases e1
  exact kk H1 lo1 _ _ ls (by rw [← ht]; exact hB) (by rw [O.2.2.1]; exact hS1) (by omega) (by omega) h5
/-- .. and does: it goes on to the caller -/
theorem x_callVtv {α : Type} {f : Int32} {r : α ⊕ Int32} (OX : OkX g c X cc nL ret own lvl mc Qc r C') (hc : cC c) {idx maxL n lvl' mc' o ci : Nat} {y : MethodName} {by_ : ByteArray} {rt : Option FieldType} {As : List Value} {p : vw_C} (ho : o < 95) (hci : cCl[ci]? = some p) (hv : ∀ ah ev, ∃ fs, cCell g C ah ev o = .inr (ci, fs)) (hM : MetX (xl X) g c y by_ maxL rt lvl' mc' (.ref (gCa g o) :: As) C (xQv g (.inr f) C1) (Sum.inr f : Unit ⊕ Int32) C1) (hG : GoodIn lw_all (wsV own idx p.1 y (ws_ y by_ maxL rt))) (hd : y.cls = p.1 ∧ y.cls ≠ "java/lang/invoke/MethodHandle" ∧ y.cls ≠ "java/lang/invoke/VarHandle" ∧ (parseMethodDescriptor y.desc).map (fun d => d.parameters.length) = some n) (hlv : lvl' + 1 ≤ lvl) (hml : maxL ≤ 40) (hn : As.length = n) (hst : st = As.reverse ++ .ref (gCa g o) :: rest) (hr : (rest.map fun v => v.category).sum ≤ 8) (d : decode cc pc = .ok (.invokevirtual idx, 3)) (hb : mc' ≤ b) (h : (r, C') = ((Sum.inr f : α ⊕ Int32), C1)) : V X nL b (WdC g C) pc lv st := by
  have O := OX.1
  subst hst
  intro H lo ce sl ls h1 h2 h3 h4 h5
  have S2 := O.S h2
  have h3' := h3
  have h4' := h4
  rw [O.1.rm] at h3' h4'
  have hf' : ce + mc' ≤ mc ∧ sl + 8 * mc' ≤ 8 * mc := ⟨Nat.le_trans (Nat.add_le_add_left hb _) h3', Nat.le_trans (Nat.add_le_add_left (Nat.mul_le_mul_left 8 hb) _) h4'⟩
  refine vx_callv (A1 := cA g) (A0 := cA g) (AX := cA g) (vx_runV (As := As) (rest := rest) ⟨O.1.ex, O.1.bc, O.1.ml, O.1.ow, O.1.ts⟩ hM (cwV n O.1.ts hG rfl rfl rfl hd (c_room O hlv hml)) ⟨cPc_blind, c_recv O h1 ho hci hv, O.pre h1 h2⟩ rfl hn h5.1 rfl (lv_room hr) d ⟨by omega, by omega⟩) S2 (fun q _ h => h) (fun q h => h) (fun q _ h => h) (fun E ce' q9 u t H1 lo1 ht hA hp hB z1 z2 hS1 z3 z4 z5 => ?_) (fun u t H1 lo1 ht hvm hw hB hz hk hS1 => by obtain ⟨e1, -⟩ := hw; cases e1)
  obtain ⟨f', hf, hT, -, hq9, hW⟩ := hB
  cases hf
  subst hp
  subst hq9
  exact x_out OX hc hT ⟨congrArg Prod.fst h, congrArg Prod.snd h⟩ (by rw [← ht]; exact hW) (by rw [O.2.2.1]; exact hS1) hf'.1 hf'.2
end CTHROW
