/-! THE COMPONENT'S WORLD. Cells by their numbers: 0 RankEntry, 1 Code, 2 its bytes, 3 its ops, 4 Ways, 5 .. 8 its arrays; a core c (9, 52): c itself, c + 1 .. c + 12 its arrays (r f data stack all nest due dueOf counts out events order), c + 13 .. c + 18 its phases, c + 19 earliest, c + 20 wrong, c + 21 full, c + 22 + k its source k. The memory C says what they hold: C o k the field (or place) k of the cell o; of a core: place 24 which phase, 25 which choice, 26 which chains, 27 the split that 'ahead' was made with; of its events (c + 11): place 8 j the kind (less than 0: none), 8 j + 1, 2, 3 source, clock, more. -/
abbrev gC : Type := va_G × (Nat → Nat) × (Nat → ClassId) × (Nat → Nat) × (Nat → Nat → Value) × Nat × (Nat → Prop)
abbrev gCa (g : gC) : Nat → Nat := g.2.1
abbrev gCk (g : gC) : Nat → ClassId := g.2.2.1
abbrev gCo (g : gC) : Nat → Nat := g.2.2.2.1
abbrev gCt (g : gC) : Nat → Nat → Value := g.2.2.2.2.1
abbrev gCb (g : gC) : Nat := g.2.2.2.2.2.1
abbrev gCf (g : gC) : Nat → Prop := g.2.2.2.2.2.2
abbrev cCl : List vw_C := [(RX1, TX1, 4), (RX2, TX2, 2), (RX4, TX4, 55), (RX19, TX19, 6), (RX5, TX5, 7), (RX15, TX15, 9), (RX16, TX16, 10), (RX17, TX17, 9), (RX18, TX18, 9), (RX7, TX7, 4), (RX11, TX11, 3), (RX6, TX6, 3), (RX12, TX12, 3), (RX13, TX13, 3)]
abbrev cTy (g : gC) : List (ClassId × FieldType) := [(gCk g 0, .int), (gCk g 1, .byte), (gCk g 2, .float), (gCk g 3, .object "RankEntry$Source"), (gCk g 4, .object "RankEntry$Event"), (gCk g 5, .object "RankEntry$Op")]
def cCh (g : gC) (c : Nat) (v : Int32) : Nat := if v = 0 then gCo g 30 else gCa g (c + 19)
def cMc (g : gC) (v : Int32) : Nat := if v = 0 then gCo g 31 else gCo g 32
def cFs (g : gC) (c : Nat) (r : Nat → Int32) (a : Nat) : List Value := [.ref (gCa g 1), .ref (gCa g (c + 20)), .ref (gCa g (c + 21)), .ref (gCa g (c + 1)), .ref (gCa g (c + 2)), .ref (gCa g (c + 3)), .ref (gCa g (c + 4)), .ref (gCa g (c + 5)), .ref (gCa g (c + 6)), .ref (gCa g (c + 7)), .ref (gCa g (c + 8)), .ref (gCa g (c + 9)), .ref (gCa g (c + 10)), .ref (gCa g (c + 11)), .ref (gCa g (c + 13)), .ref (gCa g (c + 14)), .ref (gCa g (c + 15)), .ref (gCa g (c + 16)), .ref (gCa g (c + 17)), .ref (gCa g (c + 18)), .ref (gCo g 30), .ref (gCa g (c + 19)), .ref (gCo g 31), .ref (gCo g 32), .ref (gCa g (c + 13 + (r 24).toNatClampNeg)), .ref (cCh g c (r 25)), .ref (cMc g (r 26)), .ref a, .int (r 28), .int (r 29), .int (r 30), .int (r 31), .int (r 32), .int (r 33), .int (r 34), .int (r 35), .int (r 36), .int (r 37), .int (r 38), .int (r 39), .int (r 40), .int (r 41), .int (r 42), .int (r 43), .int (r 44), .int (r 45), .int (r 46), .int (r 47), .int (r 48), .int (r 49), .int (r 50), .int (r 51), .int (r 52), .int (r 53), .ref (gCa g (c + 12))]
def cSc (k : Nat) : Nat := if k < 8 then 5 else if k < 16 then 6 else if k < 20 then 7 else 8
def cSf (k : Nat) (r : Nat → Int32) : List Value := if 8 ≤ k ∧ k < 16 then [.int (nI k), .int (r 1), .int (r 2), .int (r 3), .int (r 4), .int (r 5), .int (r 6), .int (r 7), .int (r 8), .int (r 9)] else [.int (nI k), .int (r 1), .int (r 2), .int (r 3), .int (r 4), .int (r 5), .int (r 6), .int (r 7), .int (r 8)]
abbrev qr (f : Nat → Option Nat) : (Nat → Int32) ⊕ (Nat → Int64) ⊕ (Nat → UInt32) ⊕ (Nat → UInt64) ⊕ (Nat → Option Nat) := .inr (.inr (.inr (.inr f)))
abbrev qf (f : Nat → UInt32) : (Nat → Int32) ⊕ (Nat → Int64) ⊕ (Nat → UInt32) ⊕ (Nat → UInt64) ⊕ (Nat → Option Nat) := .inr (.inr (.inl f))
def cLow (g : gC) (r : Nat → Int32) (o : Nat) : va_E := match o with
  | 0 => .inr (0, [.ref (gCa g 1), .ref (gCa g 9), .ref (gCa g 52), .ref (gCa g 4)])
  | 1 => .inr (1, [.ref (gCa g 2), .ref (gCa g 3)])
  | 2 => .inl (gCk g 1, 512, .inl r)
  | 3 => .inl (gCk g 5, 29, qr (fun i => some (gCo g i)))
  | 4 => .inr (3, [.ref (gCa g 1), .ref (gCa g 5), .ref (gCa g 6), .ref (gCa g 7), .ref (gCa g 8), .int (r 5)])
  | _ => .inl (gCk g 0, 512, .inl r)
def cBlk (g : gC) (r : Nat → Int32) (a : Nat) (e : Nat → Option Nat) (c j : Nat) : va_E := match j with
  | 0 => .inr (2, cFs g c r a)
  | 1 => .inl (gCk g 0, 8, .inl r)
  | 2 => .inl (gCk g 2, 4, qf (fun i => (r i).toUInt32))
  | 3 => .inl (gCk g 0, 16, .inl r)
  | 4 => .inl (gCk g 0, 96, .inl r)
  | 5 => .inl (gCk g 3, 21, qr (fun i => some (gCa g (c + 22 + i))))
  | 6 => .inl (gCk g 0, 21, .inl r)
  | 7 => .inl (gCk g 0, 32, .inl r)
  | 8 => .inl (gCk g 0, 32, .inl r)
  | 9 => .inl (gCk g 0, 14, .inl r)
  | 10 => .inl (gCk g 0, 64, .inl r)
  | 11 => .inl (gCk g 4, 24, qr e)
  | 12 => .inl (gCk g 0, 300, .inl r)
  | 13 => .inl (gCk g 10, 1, qr (fun _ => some (gCa g c)))
  | 14 => .inl (gCk g 11, 1, qr (fun _ => some (gCa g c)))
  | 15 => .inl (gCk g 12, 1, qr (fun _ => some (gCa g c)))
  | 16 => .inl (gCk g 13, 1, qr (fun _ => some (gCa g c)))
  | 17 => .inl (gCk g 14, 1, qr (fun _ => some (gCa g c)))
  | 18 => .inl (gCk g 15, 1, qr (fun _ => some (gCa g c)))
  | 19 => .inl (gCk g 17, 1, qr (fun _ => some (gCa g c)))
  | 20 => .inr (4, [gCt g (c + 20) 0, gCt g (c + 20) 1, gCt g (c + 20) 2, gCt g (c + 20) 3, gCt g (c + 20) 4, gCt g (c + 20) 5, .int 18])
  | 21 => .inr (4, [gCt g (c + 21) 0, gCt g (c + 21) 1, gCt g (c + 21) 2, gCt g (c + 21) 3, gCt g (c + 21) 4, gCt g (c + 21) 5, .int 19])
  | j + 22 => .inr (cSc j, cSf j r)
def cJ (o : Nat) : Nat := (o - 9) % 43
def cB (o : Nat) : Nat := o - cJ o
def cCell (g : gC) (C : Mem) (ah : Nat → Nat) (ev : Nat → Nat → Option Nat) (o : Nat) : va_E := if o < 9 then cLow g (C o) o else cBlk g (C o) (ah (cB o)) (ev (cB o)) (cB o) (cJ o)
def cWs (g : gC) (C : Mem) (ah : Nat → Nat) (ev : Nat → Nat → Option Nat) : va_W := (List.range 95).map fun o => (gCa g o, cCell g C ah ev o)
/-- what the component may write: what was made since the law began and isn't another's -/
def cA (g : gC) : Nat → Prop := fun q => gCb g ≤ q ∧ ¬ gCf g q
/-- the object of 'ahead', by the split that it holds -/
def lamE (g : gC) (v : Int32) : va_E := .inl (gCk g 20, 1, .inl (fun _ => v))
def evC (k : Int32) : Nat := if k = 0 ∨ k = 1 then 9 else if k = 2 then 10 else if k = 3 then 11 else if k = 4 then 12 else 13
def evE (r : Nat → Int32) (j : Nat) : va_E := .inr (evC (r (8 * j)), [.int (r (8 * j + 1)), .int (r (8 * j + 2)), .int (r (8 * j + 3))] ++ (if r (8 * j) = 0 ∨ r (8 * j) = 1 then [.int (r (8 * j))] else []))
def EvIn (X : va_W) (r : Nat → Int32) (j : Nat) (x : Option Nat) : Prop := if r (8 * j) < 0 then x = none else ∃ a, x = some a ∧ (a, evE r j) ∈ X
def cC (c : Nat) : Prop := c = 9 ∨ c = 52
def Dy (g : gC) (C : Mem) (X : va_W) (ah : Nat → Nat) (ev : Nat → Nat → Option Nat) : Prop := ∀ c, cC c → (ah c, lamE g (C c 27)) ∈ X ∧ ∀ j, j < 24 → EvIn X (C (c + 11)) j (ev c j)
def WdC (g : gC) (C : Mem) (H : Heap) : Prop := ∃ (X : va_W) (ah : Nat → Nat) (ev : Nat → Nat → Option Nat), va_P g.1 cCl (cWs g C ah ev ++ X) H ∧ va_D (cA g) (cWs g C ah ev ++ X) ∧ Dy g C X ah ev
/-- the words that don't ride in lw_all but are carried -/
def isNest : Cond → Bool
  | .fieldLinkNest _ _ _ _ _ _ => true
  | .methodLinkNest _ _ _ _ => true
  | .castable _ _ => true
  | .declares _ => true
  | .publicMethod _ => true
  | .unhidden _ _ _ => true
  | _ => false
def lw_nest : List Cond := lw_tbl.filter isNest
theorem va_Nw.warmPu {x : MethodName} {s U : State} (hW : s.WarmedH U.vm) (hZ : va_Nw (.publicMethod x) s) : va_Nw (.publicMethod x) U := va_tabs rfl (rfl : (s.setVm U.vm).vm = U.vm) (by rw [Cond.publicMethod_setVm hW.alike]; exact hZ)
theorem va_Nw.warmUn {C n d : String} {s U : State} (hW : s.WarmedH U.vm) (hZ : va_Nw (.unhidden C n d) s) : va_Nw (.unhidden C n d) U := va_tabs rfl (rfl : (s.setVm U.vm).vm = U.vm) (by rw [Cond.unhidden_setVm hW.alike]; exact hZ)
theorem nest_moved {s U : State} (hW : s.WarmedH U.vm) {w : Cond} (hw : isNest w = true) (h : va_Nw w s) : va_Nw w U := by
  cases w <;> first | (cases hw; done) | exact va_Nw.warmF hW h | exact va_Nw.warmM hW h | exact va_Nw.warmC hW h | exact va_Nw.warmD hW h | exact va_Nw.warmPu hW h | exact va_Nw.warmUn hW h
theorem nest_tab {w : Cond} (hw : isNest w = true) : w.onTables = true := by
  cases w <;> first | (cases hw; done) | rfl
theorem cC_9 : cC 9 := Or.inl rfl
theorem cC_52 : cC 52 := Or.inr rfl
theorem cCell_blk {g : gC} {C : Mem} {ah : Nat → Nat} {ev : Nat → Nat → Option Nat} {c j : Nat} (hc : cC c) (hj : j < 43) : cCell g C ah ev (c + j) = cBlk g (C (c + j)) (ah c) (ev c) c j := by
  have h1 : cJ (c + j) = j := by
    unfold cJ
    rcases hc with rfl | rfl
    · rw [Nat.add_sub_cancel_left, Nat.mod_eq_of_lt hj]
    · rw [show 52 + j - 9 = j + 43 by omega, Nat.add_mod_right, Nat.mod_eq_of_lt hj]
  have h2 : cB (c + j) = c := by
    unfold cB
    rw [h1]
    omega
  have h3 : ¬ c + j < 9 := by rcases hc with rfl | rfl <;> omega
  unfold cCell
  rw [if_neg h3, h1, h2]
theorem cC_lt {c j : Nat} (hc : cC c) (hj : j < 43) : c + j < 95 := by rcases hc with rfl | rfl <;> omega
theorem cWs_len {g : gC} {C : Mem} {ah : Nat → Nat} {ev : Nat → Nat → Option Nat} : (cWs g C ah ev).length = 95 := by simp [cWs]
theorem cWs_get {g : gC} {C : Mem} {ah : Nat → Nat} {ev : Nat → Nat → Option Nat} {X : va_W} {o : Nat} (h : o < 95) : (cWs g C ah ev ++ X)[o]? = some (gCa g o, cCell g C ah ev o) := by
  rw [List.getElem?_append_left (by rw [cWs_len]; exact h)]
  exact wl_get h
theorem cWs_set {g : gC} {C : Mem} {ah : Nat → Nat} {ev : Nat → Nat → Option Nat} {X : va_W} {o k : Nat} {v : Int32} {e : va_E} (h : o < 95) (he : e = cCell g (up2 C o k v) ah ev o) : (cWs g C ah ev ++ X).set o (gCa g o, e) = cWs g (up2 C o k v) ah ev ++ X := by
  subst he
  rw [List.set_append_left _ _ (by rw [cWs_len]; exact h)]
  congr 1
  refine wl_set rfl (fun o' ho => ?_)
  simp only [cCell]
  rw [up2_n ho]
/-- a plain place: no ghost -/
def cPl (o k : Nat) : Prop := o ≠ 20 ∧ o ≠ 63 ∧ ((o = 9 ∨ o = 52) → k ≠ 27)
theorem Dy.up {g : gC} {C : Mem} {X : va_W} {ah : Nat → Nat} {ev : Nat → Nat → Option Nat} {o k : Nat} {v : Int32} (h : Dy g C X ah ev) (hp : cPl o k) : Dy g (up2 C o k v) X ah ev := by
  intro c hc
  obtain ⟨h1, h2⟩ := h c hc
  have e1 : up2 C o k v c 27 = C c 27 := by
    by_cases ho : c = o
    · subst ho
      rw [up2_s]
      have := hp.2.2 hc
      simp [upd, Ne.symm this]
    · rw [up2_n ho]
  have e2 : up2 C o k v (c + 11) = C (c + 11) := up2_n (by
    rcases hc with rfl | rfl
    · exact Ne.symm hp.1
    · exact Ne.symm hp.2.1)
  rw [e1, e2]
  exact ⟨h1, h2⟩
/-! function objects: the shapes of their sites -/
def lshP (n : String) : Lambda.Shape := { iface := "RankEntry$Phase", name := "go", sam := ⟨[], none⟩, captured := [.object "RankEntry$Core"], kind := 5, implClass := "RankEntry$Core", implName := n, implDesc := ⟨[], none⟩, implItf := false, inst := ⟨[], none⟩ }
def lshL : Lambda.Shape := { iface := "RankEntry$Choice", name := "of", sam := ⟨[.int, .int], some .int⟩, captured := [], kind := 6, implClass := "RankEntry$Core", implName := "lambda$new$0", implDesc := ⟨[.int, .int], some .int⟩, implItf := false, inst := ⟨[.int, .int], some .int⟩ }
def lshE : Lambda.Shape := { iface := "RankEntry$Choice", name := "of", sam := ⟨[.int, .int], some .int⟩, captured := [.object "RankEntry$Core"], kind := 5, implClass := "RankEntry$Core", implName := "lambda$new$1", implDesc := ⟨[.int, .int], some .int⟩, implItf := false, inst := ⟨[.int, .int], some .int⟩ }
def lshC (n : String) : Lambda.Shape := { iface := "RankEntry$Chains", name := "may", sam := ⟨[.int], some .boolean⟩, captured := [], kind := 6, implClass := "RankEntry$Core", implName := n, implDesc := ⟨[.int], some .boolean⟩, implItf := false, inst := ⟨[.int], some .boolean⟩ }
def lshA : Lambda.Shape := { iface := "RankEntry$Ahead", name := "is", sam := ⟨[.object "RankEntry$Source", .object "RankEntry$Source"], some .boolean⟩, captured := [.int], kind := 6, implClass := "RankEntry", implName := "lambda$by$0", implDesc := ⟨[.int, .object "RankEntry$Source", .object "RankEntry$Source"], some .boolean⟩, implItf := false, inst := ⟨[.object "RankEntry$Source", .object "RankEntry$Source"], some .boolean⟩ }
abbrev yCi : MethodName := ⟨"RankEntry$Core", "<init>", "(LRankEntry$Code;)V"⟩
abbrev yBy : MethodName := ⟨"RankEntry", "by", "(I)LRankEntry$Ahead;"⟩
/-- the sites: the method, the place, the entry, the shape, which class, which object -/
def lamSites : List (MethodName × Nat × Nat × Lambda.Shape × Nat × Option Nat) := [(yCi, 121, 64, lshP "running", 10, none), (yCi, 131, 72, lshP "stacking", 11, none), (yCi, 141, 76, lshP "chaining", 12, none), (yCi, 151, 80, lshP "unstacking", 13, none), (yCi, 161, 84, lshP "saving", 14, none), (yCi, 171, 88, lshP "locked", 15, none), (yCi, 180, 92, lshL, 16, some 30), (yCi, 190, 100, lshE, 17, none), (yCi, 199, 106, lshC "lambda$new$2", 18, some 31), (yCi, 208, 114, lshC "lambda$new$3", 19, some 32), (yBy, 1, 1, lshA, 20, none)]
theorem lam_rides {s U : State} (hW : s.WarmedH U.vm) {x : MethodName} {pc index : Nat} {σ : Lambda.Shape} {c : ClassId} {one : Option Addr} (hh : ∀ a, one = some a → U.heap[a]? = s.heap[a]?) (h : s.lambdaAt? x pc index σ = some (c, one)) : U.lambdaAt? x pc index σ = some (c, one) := by
  obtain ⟨m, kc, cf, i0, p0, l, hm, hk, hcf, hsh, hin, hfind, hmade, hcall, hl⟩ := State.lambdaAt?_spec h
  have hcall' : U.lambdaCallable σ c = true := by
    have hA := hW.alike
    simp only [State.lambdaCallable, hA.findClass, hA.assignable, hA.superclasses, hA.declaredIn] at hcall ⊢
    exact hcall
  obtain ⟨kc', hk', he⟩ := hW.alike.2.2 _ _ hk
  have hm' : U.methodNamed? x = some m := by
    have := State.methodNamed?_setVm (s := s) hW.alike x
    rw [hm] at this
    exact this
  have hcf' : kc'.cf = some cf := by rw [he]; exact hcf
  have hin' : (m.idx, pc, index, σ) ∈ Lambda.sitesOf kc' := by rw [he]; exact hin
  have hfind' : (kc'.callSites.find? fun y => y.1 == m.idx && y.2.1 == pc) = some (i0, p0, l) := by rw [he]; exact hfind
  have hmade' := Lambda.isMade_warmer hW hmade
  obtain ⟨m2, k2, hm2, hk2, hjdk, howes⟩ := State.lambdaAt?_road h
  cases hm.symm.trans hm2
  cases hk.symm.trans hk2
  have hjdk' : jdkName kc'.name = false := by rw [he]; exact hjdk
  have howes' : (U.vm.findClass σ.iface).bind (Lambda.owesInit U.vm) = none := by
    rw [hW.alike.findClass]
    cases hfi : s.vm.findClass σ.iface with
    | none => rfl
    | some i => rw [hfi] at howes; simpa [Lambda.owesInit_alike hW.alike] using howes
  have hany : ((Lambda.sitesOf kc').any fun y => decide (y = (m.idx, pc, index, σ))) = true := by simpa using hin'
  rcases hl with ⟨a, cell, rfl, rfl, hcap, hcell, rfl, hvm, hslots⟩ | ⟨rfl, rfl, hcap⟩
  · have hc' : U.heap[a]? = some cell := (hh a rfl).trans hcell
    simp [State.lambdaAt?, guard, hjdk', howes', hm', hk', hcf', hsh, hany, hfind', hc', hcap, hmade', hcall', hvm, hslots]
  · simp [State.lambdaAt?, guard, hjdk', howes', hm', hk', hcf', hsh, hany, hfind', hcap, hmade', hcall']
def lamFaces : List MethodName := [⟨"RankEntry$Phase", "go", "()V"⟩, ⟨"RankEntry$Choice", "of", "(II)I"⟩, ⟨"RankEntry$Chains", "may", "(I)Z"⟩, ⟨"RankEntry$Ahead", "is", "(LRankEntry$Source;LRankEntry$Source;)Z"⟩, ⟨"RankEntry$Event", "source", "()I"⟩, ⟨"RankEntry$Event", "clock", "()I"⟩, ⟨"RankEntry$Event", "more", "()I"⟩]
def Face (x : MethodName) (U : State) : Prop := va_Nw (.declares x) U ∧ va_Nw (.interfaceMethod x.cls x.cls x.name x.desc) U
theorem lamFaces_ok : ∀ x ∈ lamFaces, x.cls ≠ "java/lang/invoke/MethodHandle" ∧ x.cls ≠ "java/lang/invoke/VarHandle" := by decide
theorem Face.moved {x : MethodName} (hx : x.cls ≠ "java/lang/invoke/MethodHandle" ∧ x.cls ≠ "java/lang/invoke/VarHandle") {s U : State} (hvm : s.vm.Alike U.vm) (h : Face x s) : Face x U := by
  obtain ⟨h1, h2⟩ := h
  obtain ⟨r, meth, hn, -⟩ := Cond.declares_spec h1
  exact ⟨va_tabs rfl (rfl : (s.setVm U.vm).vm = U.vm) (A := #[]) (by rw [Cond.declares_setVm hvm]; exact h1), va_tabs rfl (rfl : (s.setVm U.vm).vm = U.vm) (A := #[]) (by rw [Cond.interfaceMethod_setVm hvm (r := r) hn hx]; exact h2)⟩
/-- the 29 constants -/
def opN : List String := ["RankEntry$Op$1", "RankEntry$Op$2", "RankEntry$Op$3", "RankEntry$Op$4", "RankEntry$Op$5", "RankEntry$Op$6", "RankEntry$Op$7", "RankEntry$Op$8", "RankEntry$Op$9", "RankEntry$Op$10", "RankEntry$Op$11", "RankEntry$Op$12", "RankEntry$Op$13", "RankEntry$Op$14", "RankEntry$Op$15", "RankEntry$Op$16", "RankEntry$Op$17", "RankEntry$Op$18", "RankEntry$Op$19", "RankEntry$Op$20", "RankEntry$Op$21", "RankEntry$Op$22", "RankEntry$Op$23", "RankEntry$Op$24", "RankEntry$Op$25", "RankEntry$Op$26", "RankEntry$Op$27", "RankEntry$Op$28", "RankEntry$Op$29"]
def opL : List Int32 := [3, 3, 3, 3, 3, 3, 3, 3, 2, 2, 3, 3, 3, 2, 2, 2, 2, 1, 1, 3, 3, 3, 3, 3, 3, 2, 2, 3, 3]
def opY : List Int32 := [1, 1, 1, 2, 4, 1, 1, 1, 1, 1, 1, 1, 1, 1, 1, 1, 1, 1, 1, 1, 2, 3, 1, 1, 1, 1, 1, 1, 1]
def KOp (g : gC) (U : State) : Prop := ∀ i, i < 29 → va_O (opN.getD i "") (gCo g i) (cA g) U U.heap ∧ va_OF "RankEntry$Op" "length" "I" (.int (opL.getD i 0)) (gCo g i) (cA g) U U.heap ∧ va_OF "RankEntry$Op" "cycles" "I" (.int (opY.getD i 0)) (gCo g i) (cA g) U U.heap
/-- what Throwable's statics say -/
def KTh (g : gC) (U : State) : Prop := vx_Zq Bundle.tN "UNASSIGNED_STACK" Bundle.steD (cA g) U U.heap ∧ vx_Zq Bundle.tN "SUPPRESSED_SENTINEL" Bundle.listD (cA g) U U.heap
/-- what isn't of a kind -/
def ncs : List (String × String) := [("RankEntry$Line", "RankEntry$Level"), ("RankEntry$Inner", "RankEntry$Level"), ("RankEntry$Hard", "RankEntry$Level"), ("RankEntry$Ended", "RankEntry$Began"), ("RankEntry$Raised", "RankEntry$Began"), ("RankEntry$Abandoned", "RankEntry$Began"), ("RankEntry$Returned", "RankEntry$Began"), ("RankEntry$Raised", "RankEntry$Ended"), ("RankEntry$Abandoned", "RankEntry$Ended"), ("RankEntry$Returned", "RankEntry$Ended"), ("RankEntry$Abandoned", "RankEntry$Raised"), ("RankEntry$Returned", "RankEntry$Raised"), ("RankEntry$Returned", "RankEntry$Abandoned")]
def KNc (U : State) : Prop := ∀ q ∈ ncs, va_Nc q.1 q.2 U
/-- what constructors ask of the tables, and the constants' array -/
def KX (g : gC) (U : State) : Prop := va_AO "RankEntry$Source" U ∧ va_AO "RankEntry$Event" U ∧ ∃ (v : Nat) (ce : Cell), va_Z "RankEntry$Op" "$VALUES" "[LRankEntry$Op;" (.ref v) (cA g) U U.heap ∧ U.heap[v]? = some ce ∧ (ce.cls = gCk g 5 ∧ ce.slots = (vp_cell (gCk g 5) (29, qr (fun i => some (gCo g i)))).slots ∧ (∀ k, ce.vm ≠ .statics k) ∧ ce.vm ≠ .unknown) ∧ ¬ cA g v
def KLm (g : gC) (U : State) : Prop := (∀ q ∈ lamSites, U.lambdaAt? q.1 q.2.1 q.2.2.1 q.2.2.2.1 = some (gCk g q.2.2.2.2.1, q.2.2.2.2.2.map (gCo g))) ∧ (∀ i, 30 ≤ i → i ≤ 32 → gCo g i < gCb g) ∧ (∀ x ∈ lamFaces, Face x U)
/-- what the tables and the statics say, at a state -/
def KC (g : gC) (U : State) : Prop := va_K g.1 cCl (cTy g) U ∧ (∀ q, gCf g q → q < U.heap.size) ∧ gCb g ≤ U.heap.size ∧ (∀ w ∈ lw_nest, va_Nw w U) ∧ KOp g U ∧ KTh g U ∧ KNc U ∧ KLm g U ∧ KX g U
theorem KC.nest {g : gC} {U : State} (h : KC g U) : ∀ w ∈ lw_nest, va_Nw w U := h.2.2.2.1
theorem KC.ops {g : gC} {U : State} (h : KC g U) : KOp g U := h.2.2.2.2.1
theorem KC.thr {g : gC} {U : State} (h : KC g U) : KTh g U := h.2.2.2.2.2.1
theorem KC.lam {g : gC} {U : State} (h : KC g U) : KLm g U := h.2.2.2.2.2.2.2.1
theorem KC.kx {g : gC} {U : State} (h : KC g U) : KX g U := h.2.2.2.2.2.2.2.2
theorem KC.nc {g : gC} {U : State} (h : KC g U) : KNc U := h.2.2.2.2.2.2.1
theorem lamSites_ok : ∀ q ∈ lamSites, ∀ j, q.2.2.2.2.2 = some j → 30 ≤ j ∧ j ≤ 32 := by
  intro q hq j hj
  simp only [lamSites, List.mem_cons, List.not_mem_nil, or_false] at hq
  rcases hq with rfl | rfl | rfl | rfl | rfl | rfl | rfl | rfl | rfl | rfl | rfl <;> cases hj <;> decide
theorem KC.moved {g : gC} {s U : State} {H : Heap} {locs : List Loc} (hK : KC g s) (hS : va_S (cA g) s.heap H locs) (hU : U.heap = H) (hW : s.WarmedH U.vm) : KC g U := by
  obtain ⟨h1, h2, h3, h4, h5, h6, h10, ⟨h7, h8, h9⟩, x1, x2, v, ce, x3, x4, x6, x5⟩ := hK
  subst hU
  refine ⟨va_K.moved hW.alike h1, fun q hq => Nat.lt_of_lt_of_le (h2 q hq) hS.1, Nat.le_trans h3 hS.1, fun w hw => nest_moved hW (List.mem_filter.mp hw).2 (h4 w hw), ?_, ?_, fun q hq => va_Nc.moved hW.alike (h10 q hq), ⟨?_, h8, fun x hx => (h9 x hx).moved (lamFaces_ok x hx) hW.alike⟩, va_AO.moved hW.alike x1, va_AO.moved hW.alike x2, v, ce, (va_Z.moved hW.alike x3).kept hS.2.1, ?_, x6, x5⟩
  · intro i hi
    obtain ⟨a1, a2, a3⟩ := h5 i hi
    exact ⟨(va_O.moved hW.alike a1).kept hS.2.1, (va_OF.moved hW.alike a2).kept hS.2.1, (va_OF.moved hW.alike a3).kept hS.2.1⟩
  · exact ⟨(vx_Zq.moved hW.alike h6.1).kept hS.2.1, (vx_Zq.moved hW.alike h6.2).kept hS.2.1⟩
  · intro q hq
    refine lam_rides hW (fun a ha => ?_) (h7 q hq)
    cases hj : q.2.2.2.2.2 with
    | none => rw [hj] at ha; cases ha
    | some j =>
      rw [hj] at ha
      cases ha
      have hlt := h8 j (lamSites_ok q hq j hj).1 (lamSites_ok q hq j hj).2
      exact hS.2.1 _ (Nat.lt_of_lt_of_le hlt h3) (fun z => absurd z.1 (Nat.not_le.mpr hlt))
  · rw [hS.2.1 v (Array.getElem?_eq_some_iff.mp x4).1 x5]
    exact x4
theorem KC.calling {g : gC} {U : State} {f : JFrame} {mk : MethodId} {a : Array Value} (h : KC g U) : KC g (U.calling f mk a) :=
  KC.moved (U := U.calling f mk a) h (va_S.rf (A := cA g)) rfl (State.WarmedH.refl U)
def cQi (g : gC) (r : Int32) (C' : Mem) : Array Value → State → Outcome → State → Prop := va_Qi (fun r' (u : Mem) => r' = r ∧ u = C') (fun u t => WdC g u t.heap) (cA g)
def cQf (g : gC) (r : UInt32) (C' : Mem) : Array Value → State → Outcome → State → Prop := va_Qf (fun r' (u : Mem) => r' = r ∧ u = C') (fun u t => WdC g u t.heap) (cA g)
def cQv (g : gC) (_ : Unit) (C' : Mem) : Array Value → State → Outcome → State → Prop := va_Qv (fun (u : Mem) => u = C') (fun u t => WdC g u t.heap) (cA g)
def cPc (g : gC) (as : List Value) (C : Mem) : Array Value → State → Prop := va_Pc as (fun U => WdC g C U.heap ∧ KC g U)
abbrev MetC (l : Launch) (g : gC) (y : MethodName) (cc : ByteArray) (nL : Nat) (ret : Option FieldType) (lvl mc : Nat) (as : List Value) (C : Mem) (Qc : Array Value → State → Outcome → State → Prop) : Prop := Met l y (ws_ y cc nL ret) (rmz lvl mc) (cPc g as C) Qc mc (8 * mc) (cA g)
theorem wq_mono {p : Program} {l : Launch} {e : Env} {R : Room} {s : State} {m : MethodId} {args : Array Value} {below : List Frame} {meth : Method} {c : Code} {H : Heap} {locs : List Loc} {cells slots : Nat} {Q Q' : State → Prop} {f : JFrame} (h : ∀ t, Q t → Q' t) (k : W p l e R s m args below meth c H locs cells slots Q f) : W p l e R s m args below meth c H locs cells slots Q' f := fun T hT X => by
  obtain ⟨t, a1, b1⟩ := k T hT X
  exact ⟨t, a1, h t b1⟩
def OkC (g : gC) (X : Cxt) (cc : ByteArray) (nL : Nat) (ret : Option FieldType) (own : String) (lvl mc : Nat) (Qc : Array Value → State → Outcome → State → Prop) : Prop := Ok X cc nL ret own lvl mc ∧ KC g (xs X) ∧ xA X = cA g ∧ (∀ t, MQ (xb X) Qc (xa X) (xs X) mc (8 * mc) (cA g) t → xQ X t)
theorem c_met {l : Launch} {g : gC} {y : MethodName} {cc : ByteArray} {nL : Nat} {ret : Option FieldType} {own : String} {lvl mc : Nat} {as : List Value} {C : Mem} {Qc : Array Value → State → Outcome → State → Prop} (hy : plainName y.cls = true) (hc : y.cls = own) (hlen : (lg_sl as).length ≤ nL) (h : ∀ X, OkC g X cc nL ret own lvl mc Qc → V X nL mc (WdC g C) 0 (lv_args 0 as) []) : MetC l g y cc nL ret lvl mc as C Qc := by
  refine Met.ofW (cc := cc) (maxL := nL) (ret := ret) hy rfl ?_
  intro p e s m args below meth c s₁ B hml hv
  obtain ⟨rfl, hW, hK⟩ := hv
  have hts := atoms_spec (ws := ws_ y cc nL ret) B.pre
  have hts : ∀ w ∈ lw_all, w.before _ s = true := fun w h => hts w (List.mem_cons_of_mem _ h)
  have hown : s.vm.findClass y.cls = some m.cls := findClass_of_methodNamed B.named
  rw [hc] at hown
  have hl := lv_entry as hlen
  rw [lg_entry_eq]
  exact h (p, l, e, rmz lvl mc, s, m, as.toArray, below, meth, c, MQ below Qc as.toArray s mc (8 * mc) (cA g), cA g) ⟨⟨B.exec, B.bytes, hml, hown, hts, B.returns, B.notSynchronized, rfl⟩, hK, rfl, fun _ h => h⟩ s.heap [] 0 0 _ hW va_S.rf (by rw [Nat.zero_add]; exact Nat.le_refl _) (by rw [Nat.zero_add]; exact Nat.le_refl _) hl
section CROWS
variable {g : gC} {X : Cxt} {cc : ByteArray} {nL b lvl mc : Nat} {ret : Option FieldType} {own : String} {Qc : Array Value → State → Outcome → State → Prop} {pc q : Nat} {lv : List (Nat × Value)} {st rest : List Value} {C C' : Mem}
theorem OkC.S (O : OkC g X cc nL ret own lvl mc Qc) {H : Heap} {locs : List Loc} (h : va_S (xA X) (xs X).heap H locs) : va_S (cA g) (xs X).heap H locs := by
  rw [O.2.2.1] at h
  exact h
/-- an entry of the pool: a field, plain or a nest mate's -/
def Lk (X : Cxt) (own : String) (idx : Nat) (ref n d : String) : Prop := (Cond.fieldLink own idx ref n d).before (xa X) (xs X) = true ∨ ∃ host, (Cond.fieldLinkNest own idx ref n d host).before (xa X) (xs X) = true
theorem OkC.lk (O : OkC g X cc nL ret own lvl mc Qc) {o : String} {idx : Nat} {ref n d : String} (h : Cond.fieldLink o idx ref n d ∈ lw_all) : Lk X o idx ref n d := Or.inl (O.1.ts _ h)
theorem OkC.lkn (O : OkC g X cc nL ret own lvl mc Qc) {o : String} {idx : Nat} {ref n d host : String} (h : Cond.fieldLinkNest o idx ref n d host ∈ lw_tbl) : Lk X o idx ref n d := Or.inr ⟨host, va_Nw.use rfl (O.2.1.nest _ (List.mem_filter.mpr ⟨h, rfl⟩))⟩
/-- a field of a cell, read -/
theorem c_get (O : OkC g X cc nL ret own lvl mc Qc) {o ci idx : Nat} {ref Cn : String} {T : u_T} {N : Nat} (k : Nat) {v : Value} (ho : o < 95) (hin : ∀ w ∈ u_ws Cn T N, w ∈ lw_all) (hci : cCl[ci]? = some (Cn, T, N)) (hk : k < N) (hl : Lk X own idx ref (T k).2.1 (T k).2.2.1) (hT : (T k).1 = ref) (hv : ∀ ah ev, ∃ fs, cCell g C ah ev o = .inr (ci, fs) ∧ fs[k]? = some v) (d : decode cc pc = .ok (.getfield idx, 3)) (hq : pc + 3 = q) (kk : V X nL b (WdC g C) q lv (v :: st)) : V X nL b (WdC g C) pc lv (.ref (gCa g o) :: st) := by
  subst hq
  intro H lo ce sl ls h1 h2 h3 h4 h5
  have h1' := h1
  obtain ⟨Y, ah, ev, hP, hD, hY⟩ := h1'
  obtain ⟨fs, e1, e2⟩ := hv ah ev
  have hg : (cWs g C ah ev ++ Y)[o]? = some (gCa g o, .inr (ci, fs)) := by rw [cWs_get ho, e1]
  rcases hl with hl | ⟨host, hl⟩
  · exact va_get O.1.ex O.1.bc O.1.ts hin O.1.ow O.2.1.1 hP o hg hci k hk hl (fun x hx => by rw [← hT]; exact hx) e2 d (kk H lo ce sl ls h1 h2 h3 h4 h5)
  · exact va_getN O.1.ex O.1.bc O.1.ts hin O.1.ow O.2.1.1 hP o hg hci k hk hl (fun x hx => by rw [← hT]; exact hx) e2 d (kk H lo ce sl ls h1 h2 h3 h4 h5)
/-- a field of a cell, written: the row's place k' gets u -/
theorem c_put (O : OkC g X cc nL ret own lvl mc Qc) {o ci idx : Nat} {ref Cn : String} {T : u_T} {N : Nat} (k : Nat) {v : Value} {u : Int32} {ty : FieldType} {ty0 : Nat → FieldType} (ho : o < 95) (hp : cPl o k) (hin : ∀ w ∈ u_ws Cn T N, w ∈ lw_all) (hty : ∀ k, k < N → parseFieldDescriptor (T k).2.2.1 = some (ty0 k)) (hnm : ∀ a, a < N → ∀ b, b < N → a ≠ b → (T a).2.1 ≠ (T b).2.1) (hci : cCl[ci]? = some (Cn, T, N)) (hk : k < N) (hl : Lk X own idx ref (T k).2.1 (T k).2.2.1) (hT : (T k).1 = ref) (hfin : (T k).2.2.2 = false) (hd : parseFieldDescriptor (T k).2.2.1 = some ty) (hn : narrow ty v = v) (hf : fits ty v = true) (hv : ∀ ah ev, ∃ fs, cCell g C ah ev o = .inr (ci, fs) ∧ k < fs.length ∧ cCell g (up2 C o k u) ah ev o = .inr (ci, fs.set k v)) (d : decode cc pc = .ok (.putfield idx, 3)) (hq : pc + 3 = q) (hC : C' = up2 C o k u) (kk : V X nL b (WdC g C') q lv st) : V X nL b (WdC g C) pc lv (v :: .ref (gCa g o) :: st) := by
  subst hq
  subst hC
  intro H lo ce sl ls h1 h2 h3 h4 h5
  obtain ⟨Y, ah, ev, hP, hD, hY⟩ := h1
  obtain ⟨fs, e1, e2, e3⟩ := hv ah ev
  have hg : (cWs g C ah ev ++ Y)[o]? = some (gCa g o, .inr (ci, fs)) := by rw [cWs_get ho, e1]
  have fin : ∀ (H1 : Heap) (lo1 : List Loc), va_P g.1 cCl ((cWs g C ah ev ++ Y).set o (gCa g o, .inr (ci, fs.set k v))) H1 → va_D (cA g) ((cWs g C ah ev ++ Y).set o (gCa g o, .inr (ci, fs.set k v))) → va_S (cA g) (xs X).heap H1 lo1 → xW X H1 lo1 ce sl (F0 (xm X) (pc + 3) ls st) := by
    intro H1 lo1 p1 p2 p3
    rw [cWs_set ho e3.symm] at p1 p2
    exact kk H1 lo1 ce sl ls ⟨Y, ah, ev, p1, p2, hY.up hp⟩ (by rw [O.2.2.1]; exact p3) h3 h4 h5
  rcases hl with hl | ⟨host, hl⟩
  · exact va_put O.1.ex O.1.bc O.1.ts hin ty0 hty hnm O.1.ow O.2.1.1 hP hD (O.S h2) o hg hci k hk hl (fun x hx => by rw [← hT]; exact hx) hfin hd hn hf e2 d fin
  · exact va_putN O.1.ex O.1.bc O.1.ts hin ty0 hty hnm O.1.ow O.2.1.1 hP hD (O.S h2) o hg hci k hk hl (fun x hx => by rw [← hT]; exact hx) hfin hd hn hf e2 d fin
/-- a core's field -/
theorem cCell_core {ah : Nat → Nat} {ev : Nat → Nat → Option Nat} {c : Nat} (hc : cC c) : cCell g C ah ev c = .inr (2, cFs g c (C c) (ah c)) := cCell_blk (j := 0) hc (by decide)
theorem c_getC (O : OkC g X cc nL ret own lvl mc Qc) {c idx : Nat} (hc : cC c) (k : Nat) {v : Value} (hk : k < 55) (hl : Lk X own idx "RankEntry$Core" (TX4 k).2.1 (TX4 k).2.2.1) (hT : (TX4 k).1 = "RankEntry$Core") (hv : ∀ a, (cFs g c (C c) a)[k]? = some v) (d : decode cc pc = .ok (.getfield idx, 3)) (hq : pc + 3 = q) (kk : V X nL b (WdC g C) q lv (v :: st)) : V X nL b (WdC g C) pc lv (.ref (gCa g c) :: st) :=
  c_get O k (cC_lt (j := 0) hc (by decide)) in_X4 rfl hk hl hT (fun ah ev => ⟨_, cCell_core hc, hv _⟩) d hq kk
theorem c_putC (O : OkC g X cc nL ret own lvl mc Qc) {c idx : Nat} (hc : cC c) (k : Nat) {v : Value} {u : Int32} {ty : FieldType} (hk : k < 55) (h27 : k ≠ 27) (hl : Lk X own idx "RankEntry$Core" (TX4 k).2.1 (TX4 k).2.2.1) (hT : (TX4 k).1 = "RankEntry$Core") (hfin : (TX4 k).2.2.2 = false) (hd : parseFieldDescriptor (TX4 k).2.2.1 = some ty) (hn : narrow ty v = v) (hf : fits ty v = true) (hs : ∀ a, cFs g c (upd (C c) k u) a = (cFs g c (C c) a).set k v) (d : decode cc pc = .ok (.putfield idx, 3)) (hq : pc + 3 = q) (hC : C' = up2 C c k u) (kk : V X nL b (WdC g C') q lv st) : V X nL b (WdC g C) pc lv (v :: .ref (gCa g c) :: st) :=
  c_put O k (cC_lt (j := 0) hc (by decide)) ⟨by rcases hc with rfl | rfl <;> decide, by rcases hc with rfl | rfl <;> decide, fun _ => h27⟩ in_X4 tyX4_ok nmX4 rfl hk hl hT hfin hd hn hf (fun ah ev => ⟨_, cCell_core hc, hk, by rw [cCell_core hc, up2_s, hs]⟩) d hq hC kk
/-- a source of a core -/
def cS (o : Nat) : Prop := ∃ c k, cC c ∧ k < 21 ∧ o = c + 22 + k
def cK (o : Nat) : Nat := cJ o - 22
theorem cS_k {c k : Nat} (hc : cC c) (hk : k < 21) : cK (c + 22 + k) = k := by
  unfold cK cJ
  rcases hc with rfl | rfl <;> omega
theorem cS_of {c k : Nat} (hc : cC c) (hk : k < 21) : cS (c + 22 + k) := ⟨c, k, hc, hk, rfl⟩
theorem cS_lt {o : Nat} (h : cS o) : o < 95 ∧ cK o < 21 ∧ ∀ k, cPl o k := by
  obtain ⟨c, k, hc, hk, rfl⟩ := h
  rw [cS_k hc hk]
  unfold cPl
  rcases hc with rfl | rfl <;> exact ⟨by omega, by omega, fun k => ⟨by omega, by omega, fun h => by omega⟩⟩
theorem cCell_S {ah : Nat → Nat} {ev : Nat → Nat → Option Nat} {o : Nat} (h : cS o) : cCell g C ah ev o = .inr (cSc (cK o), cSf (cK o) (C o)) := by
  obtain ⟨c, k, hc, hk, rfl⟩ := h
  rw [cS_k hc hk, Nat.add_assoc, cCell_blk hc (by omega), Nat.add_comm 22 k]
  rfl
theorem cSf_get (k : Nat) (r : Nat → Int32) : ∀ j, j < 9 → (cSf k r)[j]? = some (if j = 0 then .int (nI k) else .int (r j)) := by
  intro j hj
  unfold cSf
  by_cases h : 8 ≤ k ∧ k < 16
  · rw [if_pos h]
    match j, hj with
    | 0, _ => rfl | 1, _ => rfl | 2, _ => rfl | 3, _ => rfl | 4, _ => rfl | 5, _ => rfl | 6, _ => rfl | 7, _ => rfl | 8, _ => rfl
    | j + 9, hj => omega
  · rw [if_neg h]
    match j, hj with
    | 0, _ => rfl | 1, _ => rfl | 2, _ => rfl | 3, _ => rfl | 4, _ => rfl | 5, _ => rfl | 6, _ => rfl | 7, _ => rfl | 8, _ => rfl
    | j + 9, hj => omega
theorem cSf_set (k : Nat) (r : Nat → Int32) (u : Int32) : ∀ j, 0 < j → j < 9 → cSf k (upd r j u) = (cSf k r).set j (.int u) := by
  intro j h0 hj
  unfold cSf
  by_cases h : 8 ≤ k ∧ k < 16
  · rw [if_pos h, if_pos h]
    match j, h0, hj with
    | 1, _, _ => rfl | 2, _, _ => rfl | 3, _, _ => rfl | 4, _, _ => rfl | 5, _, _ => rfl | 6, _, _ => rfl | 7, _, _ => rfl | 8, _, _ => rfl
    | j + 9, _, hj => omega
  · rw [if_neg h, if_neg h]
    match j, h0, hj with
    | 1, _, _ => rfl | 2, _, _ => rfl | 3, _, _ => rfl | 4, _, _ => rfl | 5, _, _ => rfl | 6, _, _ => rfl | 7, _, _ => rfl | 8, _, _ => rfl
    | j + 9, _, hj => omega
theorem cSf_len (k : Nat) (r : Nat → Int32) : 9 ≤ (cSf k r).length := by
  unfold cSf
  by_cases h : 8 ≤ k ∧ k < 16
  · rw [if_pos h]; exact Nat.le_of_ble_eq_true rfl
  · rw [if_neg h]; exact Nat.le_of_ble_eq_true rfl
theorem cSc_or (k : Nat) : cSc k = 5 ∨ cSc k = 6 ∨ cSc k = 7 ∨ cSc k = 8 := by
  unfold cSc
  by_cases h1 : k < 8
  · rw [if_pos h1]; exact Or.inl rfl
  · rw [if_neg h1]
    by_cases h2 : k < 16
    · rw [if_pos h2]; exact Or.inr (Or.inl rfl)
    · rw [if_neg h2]
      by_cases h3 : k < 20
      · rw [if_pos h3]; exact Or.inr (Or.inr (Or.inl rfl))
      · rw [if_neg h3]; exact Or.inr (Or.inr (Or.inr rfl))
theorem c_getS (O : OkC g X cc nL ret own lvl mc Qc) {o idx : Nat} (hs : cS o) (k : Nat) (hk : k < 9) (hl : Lk X own idx "RankEntry$Source" (TX15 k).2.1 (TX15 k).2.2.1) (h16 : TX16 k = TX15 k) (h17 : TX17 k = TX15 k) (h18 : TX18 k = TX15 k) (hT : (TX15 k).1 = "RankEntry$Source") {v : Value} (hv : (if k = 0 then Value.int (nI (cK o)) else .int (C o k)) = v) (d : decode cc pc = .ok (.getfield idx, 3)) (hq : pc + 3 = q) (kk : V X nL b (WdC g C) q lv (v :: st)) : V X nL b (WdC g C) pc lv (.ref (gCa g o) :: st) := by
  have ho := (cS_lt hs).1
  have key : ∀ (ci : Nat), cSc (cK o) = ci → ∀ ah ev, ∃ fs, cCell g C ah ev o = .inr (ci, fs) ∧ fs[k]? = some v := fun ci hci ah ev => ⟨_, by rw [cCell_S hs, hci], by rw [cSf_get _ _ k hk, hv]⟩
  rcases cSc_or (cK o) with h | h | h | h
  · exact c_get O k ho in_X15 rfl hk hl hT (key 5 h) d hq kk
  · exact c_get O (T := TX16) k ho in_X16 rfl (by omega) (by rw [h16]; exact hl) (by rw [h16]; exact hT) (key 6 h) d hq kk
  · exact c_get O (T := TX17) k ho in_X17 rfl hk (by rw [h17]; exact hl) (by rw [h17]; exact hT) (key 7 h) d hq kk
  · exact c_get O (T := TX18) k ho in_X18 rfl hk (by rw [h18]; exact hl) (by rw [h18]; exact hT) (key 8 h) d hq kk
theorem c_putS (O : OkC g X cc nL ret own lvl mc Qc) {o idx : Nat} (hs : cS o) (k : Nat) {u : Int32} {ty : FieldType} (h0 : 0 < k) (hk : k < 9) (hl : Lk X own idx "RankEntry$Source" (TX15 k).2.1 (TX15 k).2.2.1) (h16 : TX16 k = TX15 k) (h17 : TX17 k = TX15 k) (h18 : TX18 k = TX15 k) (hT : (TX15 k).1 = "RankEntry$Source") (hfin : (TX15 k).2.2.2 = false) (hd : parseFieldDescriptor (TX15 k).2.2.1 = some ty) (hn : narrow ty (.int u) = .int u) (hf : fits ty (.int u) = true) (d : decode cc pc = .ok (.putfield idx, 3)) (hq : pc + 3 = q) (hC : C' = up2 C o k u) (kk : V X nL b (WdC g C') q lv st) : V X nL b (WdC g C) pc lv (.int u :: .ref (gCa g o) :: st) := by
  obtain ⟨ho, -, hpl⟩ := cS_lt hs
  have key : ∀ (ci : Nat), cSc (cK o) = ci → ∀ ah ev, ∃ fs, cCell g C ah ev o = .inr (ci, fs) ∧ k < fs.length ∧ cCell g (up2 C o k u) ah ev o = .inr (ci, fs.set k (.int u)) := fun ci hci ah ev => ⟨_, by rw [cCell_S hs, hci], Nat.lt_of_lt_of_le hk (cSf_len _ _), by rw [cCell_S hs, hci, up2_s, cSf_set _ _ _ k h0 hk]⟩
  rcases cSc_or (cK o) with h | h | h | h
  · exact c_put O k ho (hpl k) in_X15 tyX15_ok nmX15 rfl hk hl hT hfin hd hn hf (key 5 h) d hq hC kk
  · exact c_put O (T := TX16) k ho (hpl k) in_X16 tyX16_ok nmX16 rfl (by omega) (by rw [h16]; exact hl) (by rw [h16]; exact hT) (by rw [h16]; exact hfin) (by rw [h16]; exact hd) hn hf (key 6 h) d hq hC kk
  · exact c_put O (T := TX17) k ho (hpl k) in_X17 tyX17_ok nmX17 rfl hk (by rw [h17]; exact hl) (by rw [h17]; exact hT) (by rw [h17]; exact hfin) (by rw [h17]; exact hd) hn hf (key 7 h) d hq hC kk
  · exact c_put O (T := TX18) k ho (hpl k) in_X18 tyX18_ok nmX18 rfl hk (by rw [h18]; exact hl) (by rw [h18]; exact hT) (by rw [h18]; exact hfin) (by rw [h18]; exact hd) hn hf (key 8 h) d hq hC kk
/-- a level's 'held' -/
def cLv (o : Nat) : Prop := cS o ∧ 8 ≤ cK o ∧ cK o < 16
theorem cLv_c {o : Nat} (h : cLv o) : cSc (cK o) = 6 := by
  unfold cSc
  rw [if_neg (by have := h.2.1; omega), if_pos h.2.2]
theorem c_getH (O : OkC g X cc nL ret own lvl mc Qc) {o idx : Nat} (hs : cLv o) (hl : Lk X own idx "RankEntry$Level" "held" "Z") (d : decode cc pc = .ok (.getfield idx, 3)) (hq : pc + 3 = q) (kk : V X nL b (WdC g C) q lv (.int (C o 9) :: st)) : V X nL b (WdC g C) pc lv (.ref (gCa g o) :: st) :=
  c_get O (T := TX16) 9 (cS_lt hs.1).1 in_X16 rfl (by decide) hl rfl (fun ah ev => ⟨_, by rw [cCell_S hs.1, cLv_c hs], by unfold cSf; rw [if_pos ⟨hs.2.1, hs.2.2⟩]; rfl⟩) d hq kk
theorem c_putH (O : OkC g X cc nL ret own lvl mc Qc) {o idx : Nat} {u : Int32} (hs : cLv o) (hl : Lk X own idx "RankEntry$Level" "held" "Z") (hB : isB u = true) (d : decode cc pc = .ok (.putfield idx, 3)) (hq : pc + 3 = q) (hC : C' = up2 C o 9 u) (kk : V X nL b (WdC g C') q lv st) : V X nL b (WdC g C) pc lv (.int u :: .ref (gCa g o) :: st) :=
  c_put O (T := TX16) (ty := .boolean) 9 (cS_lt hs.1).1 ((cS_lt hs.1).2.2 9) in_X16 tyX16_ok nmX16 rfl (by decide) hl rfl rfl rfl (isB_nar hB) (isB_fit hB) (fun ah ev => ⟨_, by rw [cCell_S hs.1, cLv_c hs], by unfold cSf; rw [if_pos ⟨hs.2.1, hs.2.2⟩]; exact Nat.le_of_ble_eq_true rfl, by rw [cCell_S hs.1, cLv_c hs, up2_s]; unfold cSf; rw [if_pos ⟨hs.2.1, hs.2.2⟩, if_pos ⟨hs.2.1, hs.2.2⟩]; rfl⟩) d hq hC kk
/-- arrays of ints: the cell o of n places -/
def cIA (o n : Nat) : Prop := o < 95 ∧ (∀ k, cPl o k) ∧ ∀ (g : gC) (C : Mem) (ah : Nat → Nat) (ev : Nat → Nat → Option Nat), cCell g C ah ev o = .inl (gCk g 0, n, .inl (C o))
theorem cIA_r {c : Nat} (hc : cC c) : cIA (c + 1) 8 := ⟨cC_lt hc (by decide), fun k => by unfold cPl; rcases hc with rfl | rfl <;> exact ⟨by decide, by decide, fun h => by omega⟩, fun g C ah ev => by rw [cCell_blk hc (by decide)]; rfl⟩
theorem cIA_data {c : Nat} (hc : cC c) : cIA (c + 3) 16 := ⟨cC_lt hc (by decide), fun k => by unfold cPl; rcases hc with rfl | rfl <;> exact ⟨by decide, by decide, fun h => by omega⟩, fun g C ah ev => by rw [cCell_blk hc (by decide)]; rfl⟩
theorem cIA_stack {c : Nat} (hc : cC c) : cIA (c + 4) 96 := ⟨cC_lt hc (by decide), fun k => by unfold cPl; rcases hc with rfl | rfl <;> exact ⟨by decide, by decide, fun h => by omega⟩, fun g C ah ev => by rw [cCell_blk hc (by decide)]; rfl⟩
theorem cIA_nest {c : Nat} (hc : cC c) : cIA (c + 6) 21 := ⟨cC_lt hc (by decide), fun k => by unfold cPl; rcases hc with rfl | rfl <;> exact ⟨by decide, by decide, fun h => by omega⟩, fun g C ah ev => by rw [cCell_blk hc (by decide)]; rfl⟩
theorem cIA_due {c : Nat} (hc : cC c) : cIA (c + 7) 32 := ⟨cC_lt hc (by decide), fun k => by unfold cPl; rcases hc with rfl | rfl <;> exact ⟨by decide, by decide, fun h => by omega⟩, fun g C ah ev => by rw [cCell_blk hc (by decide)]; rfl⟩
theorem cIA_dueOf {c : Nat} (hc : cC c) : cIA (c + 8) 32 := ⟨cC_lt hc (by decide), fun k => by unfold cPl; rcases hc with rfl | rfl <;> exact ⟨by decide, by decide, fun h => by omega⟩, fun g C ah ev => by rw [cCell_blk hc (by decide)]; rfl⟩
theorem cIA_counts {c : Nat} (hc : cC c) : cIA (c + 9) 14 := ⟨cC_lt hc (by decide), fun k => by unfold cPl; rcases hc with rfl | rfl <;> exact ⟨by decide, by decide, fun h => by omega⟩, fun g C ah ev => by rw [cCell_blk hc (by decide)]; rfl⟩
theorem cIA_out {c : Nat} (hc : cC c) : cIA (c + 10) 64 := ⟨cC_lt hc (by decide), fun k => by unfold cPl; rcases hc with rfl | rfl <;> exact ⟨by decide, by decide, fun h => by omega⟩, fun g C ah ev => by rw [cCell_blk hc (by decide)]; rfl⟩
theorem cIA_order {c : Nat} (hc : cC c) : cIA (c + 12) 300 := ⟨cC_lt hc (by decide), fun k => by unfold cPl; rcases hc with rfl | rfl <;> exact ⟨by decide, by decide, fun h => by omega⟩, fun g C ah ev => by rw [cCell_blk hc (by decide)]; rfl⟩
theorem cIA_w {o : Nat} (h : o = 5 ∨ o = 6 ∨ o = 7 ∨ o = 8) : cIA o 512 := by
  rcases h with rfl | rfl | rfl | rfl <;> exact ⟨by decide, fun k => by unfold cPl; exact ⟨by decide, by decide, fun h => by omega⟩, fun g C ah ev => rfl⟩
theorem c_iald (O : OkC g X cc nL ret own lvl mc Qc) {o n j : Nat} {i : Int32} (hI : cIA o n) (hin : inb i n = true) (hj : i.toNatClampNeg = j) (d : decode cc pc = .ok (.iaload, 1)) (hq : pc + 1 = q) (kk : V X nL b (WdC g C) q lv (.int (C o j) :: st)) : V X nL b (WdC g C) pc lv (.int i :: .ref (gCa g o) :: st) := by
  subst hq
  subst hj
  intro H lo ce sl ls h1 h2 h3 h4 h5
  have h1' := h1
  obtain ⟨Y, ah, ev, hP, hD, hY⟩ := h1'
  exact va_iald O.1.ex O.1.bc O.2.1.1 hP o 0 (by rw [cWs_get hI.1, hI.2.2]) rfl (inb_in hin) d (kk H lo ce sl ls h1 h2 h3 h4 h5)
theorem c_iast (O : OkC g X cc nL ret own lvl mc Qc) {o n j : Nat} {i v : Int32} (hI : cIA o n) (hin : inb i n = true) (hj : i.toNatClampNeg = j) (d : decode cc pc = .ok (.iastore, 1)) (hq : pc + 1 = q) (hC : C' = up2 C o j v) (kk : V X nL b (WdC g C') q lv st) : V X nL b (WdC g C) pc lv (.int v :: .int i :: .ref (gCa g o) :: st) := by
  subst hq
  subst hj
  subst hC
  intro H lo ce sl ls h1 h2 h3 h4 h5
  obtain ⟨Y, ah, ev, hP, hD, hY⟩ := h1
  refine va_iast O.1.ex O.1.bc O.2.1.1 hP hD (O.S h2) o 0 (by rw [cWs_get hI.1, hI.2.2]) rfl (inb_in hin) d (fun H1 lo1 p1 p2 p3 => ?_)
  rw [cWs_set (k := i.toNatClampNeg) (v := v) hI.1 (by rw [hI.2.2, up2_s])] at p1 p2
  exact kk H1 lo1 ce sl ls ⟨Y, ah, ev, p1, p2, hY.up (hI.2.1 _)⟩ (by rw [O.2.2.1]; exact p3) h3 h4 h5
/-- the bytes of the code -/
theorem c_bald (O : OkC g X cc nL ret own lvl mc Qc) {j : Nat} {i : Int32} (hin : inb i 512 = true) (hj : i.toNatClampNeg = j) (d : decode cc pc = .ok (.baload, 1)) (hq : pc + 1 = q) (kk : V X nL b (WdC g C) q lv (.int (C 2 j) :: st)) : V X nL b (WdC g C) pc lv (.int i :: .ref (gCa g 2) :: st) := by
  subst hq
  subst hj
  intro H lo ce sl ls h1 h2 h3 h4 h5
  have h1' := h1
  obtain ⟨Y, ah, ev, hP, hD, hY⟩ := h1'
  exact va_bald O.1.ex O.1.bc O.2.1.1 hP 2 1 (cWs_get (by decide)) rfl (inb_in hin) d (kk H lo ce sl ls h1 h2 h3 h4 h5)
theorem c_bast (O : OkC g X cc nL ret own lvl mc Qc) {j : Nat} {i v : Int32} (hin : inb i 512 = true) (hj : i.toNatClampNeg = j) (d : decode cc pc = .ok (.bastore, 1)) (hq : pc + 1 = q) (hC : C' = up2 C 2 j (vp_nar .byte v)) (kk : V X nL b (WdC g C') q lv st) : V X nL b (WdC g C) pc lv (.int v :: .int i :: .ref (gCa g 2) :: st) := by
  subst hq
  subst hj
  subst hC
  intro H lo ce sl ls h1 h2 h3 h4 h5
  obtain ⟨Y, ah, ev, hP, hD, hY⟩ := h1
  refine va_bast O.1.ex O.1.bc O.2.1.1 hP hD (O.S h2) 2 1 (cWs_get (by decide)) rfl (inb_in hin) d (fun H1 lo1 p1 p2 p3 => ?_)
  rw [cWs_set (k := i.toNatClampNeg) (v := vp_nar .byte v) (by decide) (by show _ = cCell g _ ah ev 2; unfold cCell; rw [if_pos (by decide), up2_s]; rfl)] at p1 p2
  exact kk H1 lo1 ce sl ls ⟨Y, ah, ev, p1, p2, hY.up (by unfold cPl; exact ⟨by decide, by decide, fun h => by omega⟩)⟩ (by rw [O.2.2.1]; exact p3) h3 h4 h5
/-- a core's floats -/
theorem c_fald (O : OkC g X cc nL ret own lvl mc Qc) {c j : Nat} (hc : cC c) {i : Int32} (hin : inb i 4 = true) (hj : i.toNatClampNeg = j) (d : decode cc pc = .ok (.faload, 1)) (hq : pc + 1 = q) (kk : V X nL b (WdC g C) q lv (.float (C (c + 2) j).toUInt32 :: st)) : V X nL b (WdC g C) pc lv (.int i :: .ref (gCa g (c + 2)) :: st) := by
  subst hq
  subst hj
  intro H lo ce sl ls h1 h2 h3 h4 h5
  have h1' := h1
  obtain ⟨Y, ah, ev, hP, hD, hY⟩ := h1'
  exact va_fald (f := fun i => (C (c + 2) i).toUInt32) O.1.ex O.1.bc O.2.1.1 hP (c + 2) 2 (by rw [cWs_get (cC_lt hc (by decide)), cCell_blk hc (by decide)]; rfl) rfl (inb_in hin) d (kk H lo ce sl ls h1 h2 h3 h4 h5)
theorem c_fast (O : OkC g X cc nL ret own lvl mc Qc) {c j : Nat} (hc : cC c) {i : Int32} {v : UInt32} (hin : inb i 4 = true) (hj : i.toNatClampNeg = j) (d : decode cc pc = .ok (.fastore, 1)) (hq : pc + 1 = q) (hC : C' = up2 C (c + 2) j v.toInt32) (kk : V X nL b (WdC g C') q lv st) : V X nL b (WdC g C) pc lv (.float v :: .int i :: .ref (gCa g (c + 2)) :: st) := by
  subst hq
  subst hj
  subst hC
  intro H lo ce sl ls h1 h2 h3 h4 h5
  obtain ⟨Y, ah, ev, hP, hD, hY⟩ := h1
  refine va_fast O.1.ex O.1.bc O.2.1.1 hP hD (O.S h2) (c + 2) 2 (by rw [cWs_get (cC_lt hc (by decide)), cCell_blk hc (by decide)]; rfl) rfl (inb_in hin) d (fun H1 lo1 p1 p2 p3 => ?_)
  have e : (fun x => (upd (C (c + 2)) i.toNatClampNeg v.toInt32 x).toUInt32) = vf_upd (fun x => (C (c + 2) x).toUInt32) i.toNatClampNeg v := by
    funext x
    unfold upd vf_upd
    by_cases hx : x = i.toNatClampNeg
    · rw [if_pos hx, if_pos hx]; simp
    · rw [if_neg hx, if_neg hx]
  rw [cWs_set (k := i.toNatClampNeg) (v := v.toInt32) (cC_lt hc (by decide)) (by rw [cCell_blk hc (by decide), up2_s]; show _ = cBlk g _ _ _ _ 2; unfold cBlk; rw [← e])] at p1 p2
  exact kk H1 lo1 ce sl ls ⟨Y, ah, ev, p1, p2, hY.up (by unfold cPl; rcases hc with rfl | rfl <;> exact ⟨by decide, by decide, fun h => by omega⟩)⟩ (by rw [O.2.2.1]; exact p3) h3 h4 h5
/-- a core's source, out of 'all' -/
theorem c_all (O : OkC g X cc nL ret own lvl mc Qc) {c j : Nat} (hc : cC c) {i : Int32} (hin : inb i 21 = true) (hj : i.toNatClampNeg = j) (d : decode cc pc = .ok (.aaload, 1)) (hq : pc + 1 = q) (kk : V X nL b (WdC g C) q lv (.ref (gCa g (c + 22 + j)) :: st)) : V X nL b (WdC g C) pc lv (.int i :: .ref (gCa g (c + 5)) :: st) := by
  subst hq
  subst hj
  intro H lo ce sl ls h1 h2 h3 h4 h5
  have h1' := h1
  obtain ⟨Y, ah, ev, hP, hD, hY⟩ := h1'
  exact va_aldq (f := fun i => some (gCa g (c + 22 + i))) O.1.ex O.1.bc O.2.1.1 hP (c + 5) 3 (by rw [cWs_get (cC_lt hc (by decide)), cCell_blk hc (by decide)]; rfl) rfl (inb_in hin) d (kk H lo ce sl ls h1 h2 h3 h4 h5)
theorem inb_lt {i : Int32} {n : Nat} (h : inb i n = true) : i.toNatClampNeg < n := by
  simp only [inb, Bool.and_eq_true, decide_eq_true_eq] at h
  exact h.2
theorem c_getR (O : OkC g X cc nL ret own lvl mc Qc) {idx : Nat} (k : Nat) {v : Value} (hk : k < 4) (hl : Lk X own idx "RankEntry" (TX1 k).2.1 (TX1 k).2.2.1) (hT : (TX1 k).1 = "RankEntry") (hv : ∀ ah ev, ∃ fs, cCell g C ah ev 0 = .inr (0, fs) ∧ fs[k]? = some v) (d : decode cc pc = .ok (.getfield idx, 3)) (hq : pc + 3 = q) (kk : V X nL b (WdC g C) q lv (v :: st)) : V X nL b (WdC g C) pc lv (.ref (gCa g 0) :: st) :=
  c_get O k (by decide) in_X1 rfl hk hl hT hv d hq kk
theorem c_getK (O : OkC g X cc nL ret own lvl mc Qc) {idx : Nat} (k : Nat) {v : Value} (hk : k < 2) (hl : Lk X own idx "RankEntry$Code" (TX2 k).2.1 (TX2 k).2.2.1) (hT : (TX2 k).1 = "RankEntry$Code") (hv : ∀ ah ev, ∃ fs, cCell g C ah ev 1 = .inr (1, fs) ∧ fs[k]? = some v) (d : decode cc pc = .ok (.getfield idx, 3)) (hq : pc + 3 = q) (kk : V X nL b (WdC g C) q lv (v :: st)) : V X nL b (WdC g C) pc lv (.ref (gCa g 1) :: st) :=
  c_get O k (by decide) in_X2 rfl hk hl hT hv d hq kk
theorem c_getW (O : OkC g X cc nL ret own lvl mc Qc) {idx : Nat} (k : Nat) {v : Value} (hk : k < 6) (hl : Lk X own idx "RankEntry$Ways" (TX19 k).2.1 (TX19 k).2.2.1) (hT : (TX19 k).1 = "RankEntry$Ways") (hv : ∀ ah ev, ∃ fs, cCell g C ah ev 4 = .inr (3, fs) ∧ fs[k]? = some v) (d : decode cc pc = .ok (.getfield idx, 3)) (hq : pc + 3 = q) (kk : V X nL b (WdC g C) q lv (v :: st)) : V X nL b (WdC g C) pc lv (.ref (gCa g 4) :: st) :=
  c_get O k (by decide) in_X19 rfl hk hl hT hv d hq kk
theorem c_putW (O : OkC g X cc nL ret own lvl mc Qc) {idx : Nat} {u : Int32} (hl : Lk X own idx "RankEntry$Ways" "depth" "I") (d : decode cc pc = .ok (.putfield idx, 3)) (hq : pc + 3 = q) (hC : C' = up2 C 4 5 u) (kk : V X nL b (WdC g C') q lv st) : V X nL b (WdC g C) pc lv (.int u :: .ref (gCa g 4) :: st) :=
  c_put O (T := TX19) (ty := .int) 5 (by decide) (by unfold cPl; exact ⟨by decide, by decide, fun h => by omega⟩) in_X19 tyX19_ok nmX19 rfl (by decide) hl rfl rfl rfl rfl rfl (fun ah ev => ⟨_, rfl, Nat.le_of_ble_eq_true rfl, by unfold cCell; rw [if_pos (by decide), up2_s]; rfl⟩) d hq hC kk
theorem c_iret {r v : Int32} (O : OkC g X cc nL (some .int) own lvl mc (cQi g r C')) (h : some (v, C) = some (r, C')) (d : decode cc pc = .ok (.ireturn, 1)) : V X nL b (WdC g C) pc lv [.int v] := by
  intro H lo ce sl ls h1 h2 h3 h4 h5
  unfold xW
  refine wq_mono O.2.2.2 ?_
  rw [O.1.rm] at h3 h4
  refine W.widen (k := mc) (n := 8 * mc) (Nat.le_trans (Nat.le_add_right _ _) h3) (Nat.le_trans (Nat.le_add_right _ _) h4) ?_
  have S2 := O.S h2
  cases h
  exact W.iret O.1.ex O.1.bc O.1.rt (fun t ht hW => ⟨⟨_, C, rfl, ⟨rfl, rfl⟩, show WdC g _ t.heap by rw [ht]; exact h1⟩, S2.F ht⟩) S2.2.2 d O.1.lk
theorem c_zret {r v : Int32} (O : OkC g X cc nL (some .boolean) own lvl mc (cQi g r C')) (hB : isB v = true) (h : some (v, C) = some (r, C')) (d : decode cc pc = .ok (.ireturn, 1)) : V X nL b (WdC g C) pc lv [.int v] := by
  intro H lo ce sl ls h1 h2 h3 h4 h5
  unfold xW
  refine wq_mono O.2.2.2 ?_
  rw [O.1.rm] at h3 h4
  refine W.widen (k := mc) (n := 8 * mc) (Nat.le_trans (Nat.le_add_right _ _) h3) (Nat.le_trans (Nat.le_add_right _ _) h4) ?_
  have S2 := O.S h2
  cases h
  exact W.zret O.1.ex O.1.bc O.1.rt (isB_nar hB) (fun t ht hW => ⟨⟨_, C, rfl, ⟨rfl, rfl⟩, show WdC g _ t.heap by rw [ht]; exact h1⟩, S2.F ht⟩) S2.2.2 d O.1.lk
theorem c_fret {r v : UInt32} (O : OkC g X cc nL (some .float) own lvl mc (cQf g r C')) (h : some (v, C) = some (r, C')) (d : decode cc pc = .ok (.freturn, 1)) : V X nL b (WdC g C) pc lv [.float v] := by
  intro H lo ce sl ls h1 h2 h3 h4 h5
  unfold xW
  refine wq_mono O.2.2.2 ?_
  rw [O.1.rm] at h3 h4
  refine W.widen (k := mc) (n := 8 * mc) (Nat.le_trans (Nat.le_add_right _ _) h3) (Nat.le_trans (Nat.le_add_right _ _) h4) ?_
  have S2 := O.S h2
  cases h
  exact W.fret O.1.ex O.1.bc O.1.rt (fun t ht hW => ⟨⟨_, C, rfl, ⟨rfl, rfl⟩, show WdC g _ t.heap by rw [ht]; exact h1⟩, S2.F ht⟩) S2.2.2 d O.1.lk
theorem c_vret {r : Unit} (O : OkC g X cc nL none own lvl mc (cQv g r C')) (h : some ((), C) = some (r, C')) (d : decode cc pc = .ok (.return_, 1)) : V X nL b (WdC g C) pc lv [] := by
  intro H lo ce sl ls h1 h2 h3 h4 h5
  unfold xW
  refine wq_mono O.2.2.2 ?_
  rw [O.1.rm] at h3 h4
  refine W.widen (k := mc) (n := 8 * mc) (Nat.le_trans (Nat.le_add_right _ _) h3) (Nat.le_trans (Nat.le_add_right _ _) h4) ?_
  have S2 := O.S h2
  cases h
  exact W.vret O.1.ex O.1.bc O.1.rt (fun t ht hW => ⟨⟨C, rfl, rfl, show WdC g _ t.heap by rw [ht]; exact h1⟩, S2.F ht⟩) S2.2.2 d O.1.lk
theorem c_room {lvl' maxL mc' : Nat} (O : OkC g X cc nL ret own lvl mc Qc) (h : lvl' + 1 ≤ lvl) (h2 : maxL ≤ 40) : (rmz lvl' mc').frames + 1 ≤ (xR X).frames ∧ 8 + (maxL + 11) + (rmz lvl' mc').locals ≤ (xR X).locals := by
  rw [O.1.rm]
  refine ⟨h, ?_⟩
  show 8 + (maxL + 11) + (60 * lvl' + 3200) ≤ 60 * lvl + 3200
  omega
theorem cPc_blind {as : List Value} : FrameBlind (cPc g as C) := fun a U f mk z => by obtain ⟨z0, z1, z2⟩ := z; exact ⟨z0, z1, z2.calling⟩
theorem OkC.pre (O : OkC g X cc nL ret own lvl mc Qc) {as : List Value} {H : Heap} {lo : List Loc} (h1 : WdC g C H) (h2 : va_S (xA X) (xs X).heap H lo) : ∀ U : State, U.heap = H → (xs X).WarmedH U.vm → cPc g as C as.toArray U := fun U hU hW => ⟨rfl, by rw [hU]; exact h1, O.2.1.moved (O.S h2) hU hW⟩
/-- the receiver's class, by its cell -/
theorem c_recv (O : OkC g X cc nL ret own lvl mc Qc) {H : Heap} {o ci : Nat} {p : vw_C} (h1 : WdC g C H) (ho : o < 95) (hci : cCl[ci]? = some p) (hv : ∀ ah ev, ∃ fs, cCell g C ah ev o = .inr (ci, fs)) : ∃ cell : Cell, H[gCa g o]? = some cell ∧ cell.vm.isStatics = false ∧ (xs X).vm.findClass p.1 = some cell.cls := by
  obtain ⟨Y, ah, ev, hP, hD, hY⟩ := h1
  obtain ⟨fs, e⟩ := hv ah ev
  exact va_recv O.2.1.1 hP hci (q0 := o) (by rw [cWs_get ho, e])
theorem c_callVi {r : Int32} (O : OkC g X cc nL ret own lvl mc Qc) {idx maxL n lvl' b' mc' o ci : Nat} {y : MethodName} {by_ : ByteArray} {rt : Option FieldType} {As : List Value} {p : vw_C} (ho : o < 95) (hci : cCl[ci]? = some p) (hv : ∀ ah ev, ∃ fs, cCell g C ah ev o = .inr (ci, fs)) (hM : MetC (xl X) g y by_ maxL rt lvl' mc' (.ref (gCa g o) :: As) C (cQi g r C')) (hG : GoodIn lw_all (wsV own idx p.1 y (ws_ y by_ maxL rt))) (hd : y.cls = p.1 ∧ y.cls ≠ "java/lang/invoke/MethodHandle" ∧ y.cls ≠ "java/lang/invoke/VarHandle" ∧ (parseMethodDescriptor y.desc).map (fun d => d.parameters.length) = some n) (hlv : lvl' + 1 ≤ lvl) (hml : maxL ≤ 40) (hn : As.length = n) (hst : st = As.reverse ++ .ref (gCa g o) :: rest) (hr : (rest.map fun v => v.category).sum ≤ 8) (d : decode cc pc = .ok (.invokevirtual idx, 3)) (hq : pc + 3 = q) (hb : b' + mc' = b) (kk : V X nL b' (WdC g C') q lv (.int r :: rest)) : V X nL b (WdC g C) pc lv st := by
  subst hq
  subst hst
  subst hb
  intro H lo ce sl ls h1 h2 h3 h4 h5
  have S2 := O.S h2
  refine va_calli (A1 := cA g) (A0 := cA g) (va_runV (As := As) (rest := rest) ⟨O.1.ex, O.1.bc, O.1.ml, O.1.ow, O.1.ts⟩ hM (cwV n O.1.ts hG rfl rfl rfl hd (c_room O hlv hml)) ⟨cPc_blind, c_recv O h1 ho hci hv, O.pre h1 h2⟩ rfl hn h5.1 rfl (lv_room hr) d ⟨by omega, by omega⟩) S2 (fun q _ h => h) (fun q h => h) (fun r1 u t H1 lo1 ht hvm hw hB hz hk hS1 => ?_)
  obtain ⟨rfl, rfl⟩ := hw
  exact kk H1 lo1 _ _ ls (by rw [← ht]; exact hB) (by rw [O.2.2.1]; exact hS1) (by omega) (by omega) h5
theorem c_callSi {r : Int32} (O : OkC g X cc nL ret own lvl mc Qc) {idx maxL n lvl' b' mc' : Nat} {y : MethodName} {by_ : ByteArray} {rt : Option FieldType} {As : List Value} (hM : MetC (xl X) g y by_ maxL rt lvl' mc' As C (cQi g r C')) (hG : GoodIn lw_all (va_wsS own idx y (ws_ y by_ maxL rt))) (hd : y.cls ≠ "java/lang/invoke/MethodHandle" ∧ y.cls ≠ "java/lang/invoke/VarHandle" ∧ (parseMethodDescriptor y.desc).map (fun d => d.parameters.length) = some n) (hlv : lvl' + 1 ≤ lvl) (hml : maxL ≤ 40) (hn : As.length = n) (hst : st = As.reverse ++ rest) (hr : (rest.map fun v => v.category).sum ≤ 8) (d : decode cc pc = .ok (.invokestatic idx, 3)) (hq : pc + 3 = q) (hb : b' + mc' = b) (kk : V X nL b' (WdC g C') q lv (.int r :: rest)) : V X nL b (WdC g C) pc lv st := by
  subst hq
  subst hst
  subst hb
  intro H lo ce sl ls h1 h2 h3 h4 h5
  have S2 := O.S h2
  refine va_calli (A1 := cA g) (A0 := cA g) (va_runS (As := As) (rest := rest) ⟨O.1.ex, O.1.bc, O.1.ml, O.1.ow, O.1.ts⟩ hM (va_cwS n O.1.ts hG rfl rfl rfl hd (c_room O hlv hml)) ⟨cPc_blind, O.pre h1 h2⟩ rfl hn h5.1 rfl (lv_room hr) d ⟨by omega, by omega⟩) S2 (fun q _ h => h) (fun q h => h) (fun r1 u t H1 lo1 ht hvm hw hB hz hk hS1 => ?_)
  obtain ⟨rfl, rfl⟩ := hw
  exact kk H1 lo1 _ _ ls (by rw [← ht]; exact hB) (by rw [O.2.2.1]; exact hS1) (by omega) (by omega) h5
theorem c_callUi {r : Int32} (O : OkC g X cc nL ret own lvl mc Qc) {idx maxL n lvl' b' mc' o ci : Nat} {x y : MethodName} {owner : String} {by_ : ByteArray} {rt : Option FieldType} {As : List Value} {p : vw_C} (ho : o < 95) (hci : cCl[ci]? = some p) (hv : ∀ ah ev, ∃ fs, cCell g C ah ev o = .inr (ci, fs)) (hM : MetC (xl X) g y by_ maxL rt lvl' mc' (.ref (gCa g o) :: As) C (cQi g r C')) (hG : va_CU (xR X) (xs X) (xa X) own p.1 owner idx x y by_ maxL rt (ws_ y by_ maxL rt) (rmz lvl' mc') mc' (8 * mc') n) (hn : As.length = n) (hst : st = As.reverse ++ .ref (gCa g o) :: rest) (hr : (rest.map fun v => v.category).sum ≤ 8) (d : decode cc pc = .ok (.invokevirtual idx, 3)) (hq : pc + 3 = q) (hb : b' + mc' = b) (kk : V X nL b' (WdC g C') q lv (.int r :: rest)) : V X nL b (WdC g C) pc lv st := by
  subst hq
  subst hst
  subst hb
  intro H lo ce sl ls h1 h2 h3 h4 h5
  have S2 := O.S h2
  refine va_calli (A1 := cA g) (A0 := cA g) (va_runU (As := As) (rest := rest) ⟨O.1.ex, O.1.bc, O.1.ml, O.1.ow, O.1.ts⟩ hM hG ⟨cPc_blind, c_recv O h1 ho hci hv, O.pre h1 h2⟩ rfl hn h5.1 rfl (lv_room hr) d ⟨by omega, by omega⟩) S2 (fun q _ h => h) (fun q h => h) (fun r1 u t H1 lo1 ht hvm hw hB hz hk hS1 => ?_)
  obtain ⟨rfl, rfl⟩ := hw
  exact kk H1 lo1 _ _ ls (by rw [← ht]; exact hB) (by rw [O.2.2.1]; exact hS1) (by omega) (by omega) h5
theorem c_callVf {r : UInt32} (O : OkC g X cc nL ret own lvl mc Qc) {idx maxL n lvl' b' mc' o ci : Nat} {y : MethodName} {by_ : ByteArray} {rt : Option FieldType} {As : List Value} {p : vw_C} (ho : o < 95) (hci : cCl[ci]? = some p) (hv : ∀ ah ev, ∃ fs, cCell g C ah ev o = .inr (ci, fs)) (hM : MetC (xl X) g y by_ maxL rt lvl' mc' (.ref (gCa g o) :: As) C (cQf g r C')) (hG : GoodIn lw_all (wsV own idx p.1 y (ws_ y by_ maxL rt))) (hd : y.cls = p.1 ∧ y.cls ≠ "java/lang/invoke/MethodHandle" ∧ y.cls ≠ "java/lang/invoke/VarHandle" ∧ (parseMethodDescriptor y.desc).map (fun d => d.parameters.length) = some n) (hlv : lvl' + 1 ≤ lvl) (hml : maxL ≤ 40) (hn : As.length = n) (hst : st = As.reverse ++ .ref (gCa g o) :: rest) (hr : (rest.map fun v => v.category).sum ≤ 8) (d : decode cc pc = .ok (.invokevirtual idx, 3)) (hq : pc + 3 = q) (hb : b' + mc' = b) (kk : V X nL b' (WdC g C') q lv (.float r :: rest)) : V X nL b (WdC g C) pc lv st := by
  subst hq
  subst hst
  subst hb
  intro H lo ce sl ls h1 h2 h3 h4 h5
  have S2 := O.S h2
  refine va_callf (A1 := cA g) (A0 := cA g) (va_runV (As := As) (rest := rest) ⟨O.1.ex, O.1.bc, O.1.ml, O.1.ow, O.1.ts⟩ hM (cwV n O.1.ts hG rfl rfl rfl hd (c_room O hlv hml)) ⟨cPc_blind, c_recv O h1 ho hci hv, O.pre h1 h2⟩ rfl hn h5.1 rfl (lv_room hr) d ⟨by omega, by omega⟩) S2 (fun q _ h => h) (fun q h => h) (fun r1 u t H1 lo1 ht hvm hw hB hz hk hS1 => ?_)
  obtain ⟨rfl, rfl⟩ := hw
  exact kk H1 lo1 _ _ ls (by rw [← ht]; exact hB) (by rw [O.2.2.1]; exact hS1) (by omega) (by omega) h5
theorem c_callSf {r : UInt32} (O : OkC g X cc nL ret own lvl mc Qc) {idx maxL n lvl' b' mc' : Nat} {y : MethodName} {by_ : ByteArray} {rt : Option FieldType} {As : List Value} (hM : MetC (xl X) g y by_ maxL rt lvl' mc' As C (cQf g r C')) (hG : GoodIn lw_all (va_wsS own idx y (ws_ y by_ maxL rt))) (hd : y.cls ≠ "java/lang/invoke/MethodHandle" ∧ y.cls ≠ "java/lang/invoke/VarHandle" ∧ (parseMethodDescriptor y.desc).map (fun d => d.parameters.length) = some n) (hlv : lvl' + 1 ≤ lvl) (hml : maxL ≤ 40) (hn : As.length = n) (hst : st = As.reverse ++ rest) (hr : (rest.map fun v => v.category).sum ≤ 8) (d : decode cc pc = .ok (.invokestatic idx, 3)) (hq : pc + 3 = q) (hb : b' + mc' = b) (kk : V X nL b' (WdC g C') q lv (.float r :: rest)) : V X nL b (WdC g C) pc lv st := by
  subst hq
  subst hst
  subst hb
  intro H lo ce sl ls h1 h2 h3 h4 h5
  have S2 := O.S h2
  refine va_callf (A1 := cA g) (A0 := cA g) (va_runS (As := As) (rest := rest) ⟨O.1.ex, O.1.bc, O.1.ml, O.1.ow, O.1.ts⟩ hM (va_cwS n O.1.ts hG rfl rfl rfl hd (c_room O hlv hml)) ⟨cPc_blind, O.pre h1 h2⟩ rfl hn h5.1 rfl (lv_room hr) d ⟨by omega, by omega⟩) S2 (fun q _ h => h) (fun q h => h) (fun r1 u t H1 lo1 ht hvm hw hB hz hk hS1 => ?_)
  obtain ⟨rfl, rfl⟩ := hw
  exact kk H1 lo1 _ _ ls (by rw [← ht]; exact hB) (by rw [O.2.2.1]; exact hS1) (by omega) (by omega) h5
theorem c_callUf {r : UInt32} (O : OkC g X cc nL ret own lvl mc Qc) {idx maxL n lvl' b' mc' o ci : Nat} {x y : MethodName} {owner : String} {by_ : ByteArray} {rt : Option FieldType} {As : List Value} {p : vw_C} (ho : o < 95) (hci : cCl[ci]? = some p) (hv : ∀ ah ev, ∃ fs, cCell g C ah ev o = .inr (ci, fs)) (hM : MetC (xl X) g y by_ maxL rt lvl' mc' (.ref (gCa g o) :: As) C (cQf g r C')) (hG : va_CU (xR X) (xs X) (xa X) own p.1 owner idx x y by_ maxL rt (ws_ y by_ maxL rt) (rmz lvl' mc') mc' (8 * mc') n) (hn : As.length = n) (hst : st = As.reverse ++ .ref (gCa g o) :: rest) (hr : (rest.map fun v => v.category).sum ≤ 8) (d : decode cc pc = .ok (.invokevirtual idx, 3)) (hq : pc + 3 = q) (hb : b' + mc' = b) (kk : V X nL b' (WdC g C') q lv (.float r :: rest)) : V X nL b (WdC g C) pc lv st := by
  subst hq
  subst hst
  subst hb
  intro H lo ce sl ls h1 h2 h3 h4 h5
  have S2 := O.S h2
  refine va_callf (A1 := cA g) (A0 := cA g) (va_runU (As := As) (rest := rest) ⟨O.1.ex, O.1.bc, O.1.ml, O.1.ow, O.1.ts⟩ hM hG ⟨cPc_blind, c_recv O h1 ho hci hv, O.pre h1 h2⟩ rfl hn h5.1 rfl (lv_room hr) d ⟨by omega, by omega⟩) S2 (fun q _ h => h) (fun q h => h) (fun r1 u t H1 lo1 ht hvm hw hB hz hk hS1 => ?_)
  obtain ⟨rfl, rfl⟩ := hw
  exact kk H1 lo1 _ _ ls (by rw [← ht]; exact hB) (by rw [O.2.2.1]; exact hS1) (by omega) (by omega) h5
theorem c_callVv {r : Unit} (O : OkC g X cc nL ret own lvl mc Qc) {idx maxL n lvl' b' mc' o ci : Nat} {y : MethodName} {by_ : ByteArray} {rt : Option FieldType} {As : List Value} {p : vw_C} (ho : o < 95) (hci : cCl[ci]? = some p) (hv : ∀ ah ev, ∃ fs, cCell g C ah ev o = .inr (ci, fs)) (hM : MetC (xl X) g y by_ maxL rt lvl' mc' (.ref (gCa g o) :: As) C (cQv g r C')) (hG : GoodIn lw_all (wsV own idx p.1 y (ws_ y by_ maxL rt))) (hd : y.cls = p.1 ∧ y.cls ≠ "java/lang/invoke/MethodHandle" ∧ y.cls ≠ "java/lang/invoke/VarHandle" ∧ (parseMethodDescriptor y.desc).map (fun d => d.parameters.length) = some n) (hlv : lvl' + 1 ≤ lvl) (hml : maxL ≤ 40) (hn : As.length = n) (hst : st = As.reverse ++ .ref (gCa g o) :: rest) (hr : (rest.map fun v => v.category).sum ≤ 8) (d : decode cc pc = .ok (.invokevirtual idx, 3)) (hq : pc + 3 = q) (hb : b' + mc' = b) (kk : V X nL b' (WdC g C') q lv ( rest)) : V X nL b (WdC g C) pc lv st := by
  subst hq
  subst hst
  subst hb
  intro H lo ce sl ls h1 h2 h3 h4 h5
  have S2 := O.S h2
  refine va_callv (A1 := cA g) (A0 := cA g) (va_runV (As := As) (rest := rest) ⟨O.1.ex, O.1.bc, O.1.ml, O.1.ow, O.1.ts⟩ hM (cwV n O.1.ts hG rfl rfl rfl hd (c_room O hlv hml)) ⟨cPc_blind, c_recv O h1 ho hci hv, O.pre h1 h2⟩ rfl hn h5.1 rfl (lv_room hr) d ⟨by omega, by omega⟩) S2 (fun q _ h => h) (fun q h => h) (fun u t H1 lo1 ht hvm hw hB hz hk hS1 => ?_)
  subst hw
  exact kk H1 lo1 _ _ ls (by rw [← ht]; exact hB) (by rw [O.2.2.1]; exact hS1) (by omega) (by omega) h5
theorem c_callSv {r : Unit} (O : OkC g X cc nL ret own lvl mc Qc) {idx maxL n lvl' b' mc' : Nat} {y : MethodName} {by_ : ByteArray} {rt : Option FieldType} {As : List Value} (hM : MetC (xl X) g y by_ maxL rt lvl' mc' As C (cQv g r C')) (hG : GoodIn lw_all (va_wsS own idx y (ws_ y by_ maxL rt))) (hd : y.cls ≠ "java/lang/invoke/MethodHandle" ∧ y.cls ≠ "java/lang/invoke/VarHandle" ∧ (parseMethodDescriptor y.desc).map (fun d => d.parameters.length) = some n) (hlv : lvl' + 1 ≤ lvl) (hml : maxL ≤ 40) (hn : As.length = n) (hst : st = As.reverse ++ rest) (hr : (rest.map fun v => v.category).sum ≤ 8) (d : decode cc pc = .ok (.invokestatic idx, 3)) (hq : pc + 3 = q) (hb : b' + mc' = b) (kk : V X nL b' (WdC g C') q lv ( rest)) : V X nL b (WdC g C) pc lv st := by
  subst hq
  subst hst
  subst hb
  intro H lo ce sl ls h1 h2 h3 h4 h5
  have S2 := O.S h2
  refine va_callv (A1 := cA g) (A0 := cA g) (va_runS (As := As) (rest := rest) ⟨O.1.ex, O.1.bc, O.1.ml, O.1.ow, O.1.ts⟩ hM (va_cwS n O.1.ts hG rfl rfl rfl hd (c_room O hlv hml)) ⟨cPc_blind, O.pre h1 h2⟩ rfl hn h5.1 rfl (lv_room hr) d ⟨by omega, by omega⟩) S2 (fun q _ h => h) (fun q h => h) (fun u t H1 lo1 ht hvm hw hB hz hk hS1 => ?_)
  subst hw
  exact kk H1 lo1 _ _ ls (by rw [← ht]; exact hB) (by rw [O.2.2.1]; exact hS1) (by omega) (by omega) h5
theorem c_callUv {r : Unit} (O : OkC g X cc nL ret own lvl mc Qc) {idx maxL n lvl' b' mc' o ci : Nat} {x y : MethodName} {owner : String} {by_ : ByteArray} {rt : Option FieldType} {As : List Value} {p : vw_C} (ho : o < 95) (hci : cCl[ci]? = some p) (hv : ∀ ah ev, ∃ fs, cCell g C ah ev o = .inr (ci, fs)) (hM : MetC (xl X) g y by_ maxL rt lvl' mc' (.ref (gCa g o) :: As) C (cQv g r C')) (hG : va_CU (xR X) (xs X) (xa X) own p.1 owner idx x y by_ maxL rt (ws_ y by_ maxL rt) (rmz lvl' mc') mc' (8 * mc') n) (hn : As.length = n) (hst : st = As.reverse ++ .ref (gCa g o) :: rest) (hr : (rest.map fun v => v.category).sum ≤ 8) (d : decode cc pc = .ok (.invokevirtual idx, 3)) (hq : pc + 3 = q) (hb : b' + mc' = b) (kk : V X nL b' (WdC g C') q lv ( rest)) : V X nL b (WdC g C) pc lv st := by
  subst hq
  subst hst
  subst hb
  intro H lo ce sl ls h1 h2 h3 h4 h5
  have S2 := O.S h2
  refine va_callv (A1 := cA g) (A0 := cA g) (va_runU (As := As) (rest := rest) ⟨O.1.ex, O.1.bc, O.1.ml, O.1.ow, O.1.ts⟩ hM hG ⟨cPc_blind, c_recv O h1 ho hci hv, O.pre h1 h2⟩ rfl hn h5.1 rfl (lv_room hr) d ⟨by omega, by omega⟩) S2 (fun q _ h => h) (fun q h => h) (fun u t H1 lo1 ht hvm hw hB hz hk hS1 => ?_)
  subst hw
  exact kk H1 lo1 _ _ ls (by rw [← ht]; exact hB) (by rw [O.2.2.1]; exact hS1) (by omega) (by omega) h5
end CROWS
