/-! THE JUDGEMENT V: from any heap with P, locals lv, stack st at pc, the machine comes to Q. b: how many cells may still be made (8 slots a cell). -/
abbrev Cxt : Type := Program × Launch × Env × Room × State × MethodId × Array Value × List Frame × Method × Code × (State → Prop) × (Nat → Prop)
abbrev xp (X : Cxt) : Program := X.1
abbrev xl (X : Cxt) : Launch := X.2.1
abbrev xe (X : Cxt) : Env := X.2.2.1
abbrev xR (X : Cxt) : Room := X.2.2.2.1
abbrev xs (X : Cxt) : State := X.2.2.2.2.1
abbrev xm (X : Cxt) : MethodId := X.2.2.2.2.2.1
abbrev xa (X : Cxt) : Array Value := X.2.2.2.2.2.2.1
abbrev xb (X : Cxt) : List Frame := X.2.2.2.2.2.2.2.1
abbrev xh (X : Cxt) : Method := X.2.2.2.2.2.2.2.2.1
abbrev xc (X : Cxt) : Code := X.2.2.2.2.2.2.2.2.2.1
abbrev xQ (X : Cxt) : State → Prop := X.2.2.2.2.2.2.2.2.2.2.1
abbrev xA (X : Cxt) : Nat → Prop := X.2.2.2.2.2.2.2.2.2.2.2
def xW (X : Cxt) (H : Heap) (locs : List Loc) (cells slots : Nat) (g : JFrame) : Prop := W (xp X) (xl X) (xe X) (xR X) (xs X) (xm X) (xa X) (xb X) (xh X) (xc X) H locs cells slots (xQ X) g
/-- the room of a method n calls deep that makes mc cells -/
def rmz (n mc : Nat) : Room := { frames := n, cells := mc, slots := 8 * mc, locals := 60 * n + 3200 }
/-- what a walk of a method's body stands on -/
def Ok (X : Cxt) (cc : ByteArray) (nL : Nat) (ret : Option FieldType) (own : String) (lvl mc : Nat) : Prop :=
  (xp X).tables.exec = Jvm.exec ∧ (xc X).code = cc ∧ (xc X).maxLocals = nL ∧ (xs X).vm.findClass own = some (xm X).cls ∧ (∀ w ∈ lw_all, w.before (xa X) (xs X) = true) ∧ (xh X).sig.returnType = ret ∧ (xh X).locks = false ∧ xR X = rmz lvl mc
theorem Ok.ex {X : Cxt} {cc : ByteArray} {nL : Nat} {ret : Option FieldType} {own : String} {lvl mc : Nat} (O : Ok X cc nL ret own lvl mc) : (xp X).tables.exec = Jvm.exec := O.1
theorem Ok.bc {X : Cxt} {cc : ByteArray} {nL : Nat} {ret : Option FieldType} {own : String} {lvl mc : Nat} (O : Ok X cc nL ret own lvl mc) : (xc X).code = cc := O.2.1
theorem Ok.ml {X : Cxt} {cc : ByteArray} {nL : Nat} {ret : Option FieldType} {own : String} {lvl mc : Nat} (O : Ok X cc nL ret own lvl mc) : (xc X).maxLocals = nL := O.2.2.1
theorem Ok.ow {X : Cxt} {cc : ByteArray} {nL : Nat} {ret : Option FieldType} {own : String} {lvl mc : Nat} (O : Ok X cc nL ret own lvl mc) : (xs X).vm.findClass own = some (xm X).cls := O.2.2.2.1
theorem Ok.ts {X : Cxt} {cc : ByteArray} {nL : Nat} {ret : Option FieldType} {own : String} {lvl mc : Nat} (O : Ok X cc nL ret own lvl mc) : ∀ w ∈ lw_all, w.before (xa X) (xs X) = true := O.2.2.2.2.1
theorem Ok.rt {X : Cxt} {cc : ByteArray} {nL : Nat} {ret : Option FieldType} {own : String} {lvl mc : Nat} (O : Ok X cc nL ret own lvl mc) : (xh X).sig.returnType = ret := O.2.2.2.2.2.1
theorem Ok.lk {X : Cxt} {cc : ByteArray} {nL : Nat} {ret : Option FieldType} {own : String} {lvl mc : Nat} (O : Ok X cc nL ret own lvl mc) : (xh X).locks = false := O.2.2.2.2.2.2.1
theorem Ok.rm {X : Cxt} {cc : ByteArray} {nL : Nat} {ret : Option FieldType} {own : String} {lvl mc : Nat} (O : Ok X cc nL ret own lvl mc) : xR X = rmz lvl mc := O.2.2.2.2.2.2.2
def V (X : Cxt) (nL b : Nat) (P : Heap → Prop) (pc : Nat) (lv : List (Nat × Value)) (st : List Value) : Prop :=
  ∀ (H : Heap) (locs : List Loc) (cells slots : Nat) (ls : Array Slot), P H → va_S (xA X) (xs X).heap H locs → cells + b ≤ (xR X).cells → slots + 8 * b ≤ (xR X).slots → lv_has ls nL lv → xW X H locs cells slots (F0 (xm X) pc ls st)
/-- a local by its number -/
def lvg : List (Nat × Value) → Nat → Option Value
  | [], _ => none
  | (j, v) :: l, i => if j = i then some v else lvg l i
theorem lvg_at {lv : List (Nat × Value)} {i : Nat} {v : Value} (h : lvg lv i = some v) : (i, v) ∈ lv := by
  induction lv with
  | nil => cases h
  | cons q l ih =>
    obtain ⟨j, w⟩ := q
    unfold lvg at h
    by_cases hj : j = i
    · rw [if_pos hj] at h
      cases h
      subst hj
      exact List.mem_cons_self
    · rw [if_neg hj] at h
      exact List.mem_cons_of_mem _ (ih h)
theorem lvg_has {ls : Array Slot} {nL : Nat} {lv : List (Nat × Value)} {i : Nat} {v : Value} (h : lv_has ls nL lv) (hl : lvg lv i = some v) : ls[i]? = some (.val v) := h.2.2 (i, v) (lvg_at hl)
/-- pure steps of the written functions: a guard, a call, a new memory -/
def gd {α : Type} (c : Bool) (k : Option α) : Option α := if c then k else none
def bnd {α β σ : Type} (x : Option (α × σ)) (k : α → σ → Option β) : Option β := match x with
  | none => none
  | some (r, s) => k r s
def stp {σ β : Type} (v : σ) (k : σ → Option β) : Option β := k v
theorem gd_some {α : Type} {c : Bool} {k : Option α} {z : α} (h : gd c k = some z) : c = true ∧ k = some z := by
  cases c with
  | false => cases h
  | true => exact ⟨rfl, h⟩
theorem bnd_some {α β σ : Type} {x : Option (α × σ)} {k : α → σ → Option β} {z : β} (h : bnd x k = some z) : ∃ r s, x = some (r, s) ∧ k r s = some z := by
  cases x with
  | none => cases h
  | some q => exact ⟨q.1, q.2, rfl, h⟩
theorem stp_some {σ β : Type} {v : σ} {k : σ → Option β} {z : β} (h : stp v k = some z) : ∃ s, s = v ∧ k s = some z := ⟨v, rfl, h⟩
/-- a place within an array of n -/
def inb (i : Int32) (n : Nat) : Bool := decide (0 ≤ i) && decide (i.toNatClampNeg < n)
theorem inb_in {i : Int32} {n : Nat} (h : inb i n = true) : vp_in i n := by
  simp only [inb, Bool.and_eq_true, decide_eq_true_eq] at h
  rintro (h1 | h1)
  · exact absurd h1 (Int32.not_lt.mpr h.1)
  · exact absurd h1 (Nat.not_le.mpr h.2)
/-- a truth value -/
def isB (v : Int32) : Bool := decide (v = 0) || decide (v = 1)
theorem isB_or {v : Int32} (h : isB v = true) : v = 0 ∨ v = 1 := by simpa [isB] using h
theorem isB_nar {v : Int32} (h : isB v = true) : narrow .boolean (.int v) = .int v := by
  rcases isB_or h with rfl | rfl <;> rfl
theorem isB_fit {v : Int32} (h : isB v = true) : fits .boolean (.int v) = true := by
  rcases isB_or h with rfl | rfl <;> rfl
theorem isB_vnar {v : Int32} (h : isB v = true) : vp_nar .boolean v = v := by
  rcases isB_or h with rfl | rfl <;> rfl
section VROWS
variable {X : Cxt} {cc : ByteArray} {nL b lvl mc : Nat} {ret : Option FieldType} {own : String} {P : Heap → Prop} {pc q : Nat} {lv lv' : List (Nat × Value)} {st : List Value}
theorem v_less {b' : Nat} (h : b' ≤ b) (k : V X nL b' P pc lv st) : V X nL b P pc lv st := fun H lo ce sl ls h1 h2 h3 h4 h5 => k H lo ce sl ls h1 h2 (by omega) (by omega) h5
theorem v_lv {lv' : List (Nat × Value)} (h : ∀ q ∈ lv', q ∈ lv) (k : V X nL b P pc lv' st) : V X nL b P pc lv st := fun H lo ce sl ls h1 h2 h3 h4 h5 => k H lo ce sl ls h1 h2 h3 h4 ⟨h5.1, h5.2.1, fun q hq => h5.2.2 q (h q hq)⟩
theorem v_world {P' : Heap → Prop} (h : ∀ H, P H → P' H) (k : V X nL b P' pc lv st) : V X nL b P pc lv st := fun H lo ce sl ls h1 h2 h3 h4 h5 => k H lo ce sl ls (h H h1) h2 h3 h4 h5
theorem v_iconst (O : Ok X cc nL ret own lvl mc) {n : Int} {v : Int32} (d : decode cc pc = .ok (.iconst n, 1)) (hv : Int32.ofInt n = v) (hq : pc + 1 = q) (k : V X nL b P q lv (.int v :: st)) : V X nL b P pc lv (st) := by
  subst hq
  exact fun H lo ce sl ls h1 h2 h3 h4 h5 => lv_iconst O.ex O.bc d hv (k H lo ce sl ls h1 h2 h3 h4 h5)
theorem v_bipush (O : Ok X cc nL ret own lvl mc) {n : Int} {v : Int32} (d : decode cc pc = .ok (.bipush n, 2)) (hv : (Int8.ofInt n).toInt32 = v) (hq : pc + 2 = q) (k : V X nL b P q lv (.int v :: st)) : V X nL b P pc lv (st) := by
  subst hq
  exact fun H lo ce sl ls h1 h2 h3 h4 h5 => lv_bipush O.ex O.bc d hv (k H lo ce sl ls h1 h2 h3 h4 h5)
theorem v_sipush (O : Ok X cc nL ret own lvl mc) {n : Int} {v : Int32} (d : decode cc pc = .ok (.sipush n, 3)) (hv : (Int16.ofInt n).toInt32 = v) (hq : pc + 3 = q) (k : V X nL b P q lv (.int v :: st)) : V X nL b P pc lv (st) := by
  subst hq
  exact fun H lo ce sl ls h1 h2 h3 h4 h5 => lv_sipush O.ex O.bc d hv (k H lo ce sl ls h1 h2 h3 h4 h5)
theorem v_lconst (O : Ok X cc nL ret own lvl mc) {n : Fin 2} {v : Int64} (d : decode cc pc = .ok (.lconst n, 1)) (hv : Int64.ofNat (n : Nat) = v) (hq : pc + 1 = q) (k : V X nL b P q lv (.long v :: st)) : V X nL b P pc lv (st) := by
  subst hq
  exact fun H lo ce sl ls h1 h2 h3 h4 h5 => lv_lconst O.ex O.bc d hv (k H lo ce sl ls h1 h2 h3 h4 h5)
theorem v_iload_n (O : Ok X cc nL ret own lvl mc) {i : Fin 4} {x : Int32} (d : decode cc pc = .ok (.iload_n i, 1)) (hl : lvg lv (i : Nat) = some (.int x)) (hq : pc + 1 = q) (k : V X nL b P q lv (.int x :: st)) : V X nL b P pc lv (st) := by
  subst hq
  exact fun H lo ce sl ls h1 h2 h3 h4 h5 => lv_iload_n O.ex O.bc d rfl (lvg_has h5 hl) (k H lo ce sl ls h1 h2 h3 h4 h5)
theorem v_iload (O : Ok X cc nL ret own lvl mc) {i : Nat} {x : Int32} (d : decode cc pc = .ok (.iload i, 2)) (hl : lvg lv i = some (.int x)) (hq : pc + 2 = q) (k : V X nL b P q lv (.int x :: st)) : V X nL b P pc lv (st) := by
  subst hq
  exact fun H lo ce sl ls h1 h2 h3 h4 h5 => lv_iload O.ex O.bc d (lvg_has h5 hl) (k H lo ce sl ls h1 h2 h3 h4 h5)
theorem v_istore_n (O : Ok X cc nL ret own lvl mc) {i : Fin 4} {x : Int32} (d : decode cc pc = .ok (.istore_n i, 1)) (hn : (i : Nat) < nL) (hl : ((i : Nat), Value.int x) :: lv.filter (fun q => !(q.1 == (i : Nat)) && !(q.1 + 1 == (i : Nat) && q.2.category == 2)) = lv') (hq : pc + 1 = q) (k : V X nL b P q lv' st) : V X nL b P pc lv (.int x :: st) := by
  subst hq
  exact fun H lo ce sl ls h1 h2 h3 h4 h5 => lv_istore_n O.ex O.bc d rfl h5 hn hl (fun ls' h5' => k H lo ce sl ls' h1 h2 h3 h4 h5')
theorem v_istore (O : Ok X cc nL ret own lvl mc) {i : Nat} {x : Int32} (d : decode cc pc = .ok (.istore i, 2)) (hn : i < nL) (hl : (i, Value.int x) :: lv.filter (fun q => !(q.1 == i) && !(q.1 + 1 == i && q.2.category == 2)) = lv') (hq : pc + 2 = q) (k : V X nL b P q lv' st) : V X nL b P pc lv (.int x :: st) := by
  subst hq
  exact fun H lo ce sl ls h1 h2 h3 h4 h5 => lv_istore O.ex O.bc d h5 hn hl (fun ls' h5' => k H lo ce sl ls' h1 h2 h3 h4 h5')
theorem v_lload_n (O : Ok X cc nL ret own lvl mc) {i : Fin 4} {x : Int64} (d : decode cc pc = .ok (.lload_n i, 1)) (hl : lvg lv (i : Nat) = some (.long x)) (hq : pc + 1 = q) (k : V X nL b P q lv (.long x :: st)) : V X nL b P pc lv (st) := by
  subst hq
  exact fun H lo ce sl ls h1 h2 h3 h4 h5 => lv_lload_n O.ex O.bc d rfl (lvg_has h5 hl) (k H lo ce sl ls h1 h2 h3 h4 h5)
theorem v_lload (O : Ok X cc nL ret own lvl mc) {i : Nat} {x : Int64} (d : decode cc pc = .ok (.lload i, 2)) (hl : lvg lv i = some (.long x)) (hq : pc + 2 = q) (k : V X nL b P q lv (.long x :: st)) : V X nL b P pc lv (st) := by
  subst hq
  exact fun H lo ce sl ls h1 h2 h3 h4 h5 => lv_lload O.ex O.bc d (lvg_has h5 hl) (k H lo ce sl ls h1 h2 h3 h4 h5)
theorem v_lstore_n (O : Ok X cc nL ret own lvl mc) {i : Fin 4} {x : Int64} (d : decode cc pc = .ok (.lstore_n i, 1)) (hn : (i : Nat) + 1 < nL) (hl : ((i : Nat), Value.long x) :: lv.filter (fun q => !(q.1 == (i : Nat)) && (!(q.1 == (i : Nat) + 1) && !(q.1 + 1 == (i : Nat) && q.2.category == 2))) = lv') (hq : pc + 1 = q) (k : V X nL b P q lv' st) : V X nL b P pc lv (.long x :: st) := by
  subst hq
  exact fun H lo ce sl ls h1 h2 h3 h4 h5 => lv_lstore_n O.ex O.bc d rfl h5 hn hl (fun ls' h5' => k H lo ce sl ls' h1 h2 h3 h4 h5')
theorem v_lstore (O : Ok X cc nL ret own lvl mc) {i : Nat} {x : Int64} (d : decode cc pc = .ok (.lstore i, 2)) (hn : i + 1 < nL) (hl : (i, Value.long x) :: lv.filter (fun q => !(q.1 == i) && (!(q.1 == i + 1) && !(q.1 + 1 == i && q.2.category == 2))) = lv') (hq : pc + 2 = q) (k : V X nL b P q lv' st) : V X nL b P pc lv (.long x :: st) := by
  subst hq
  exact fun H lo ce sl ls h1 h2 h3 h4 h5 => lv_lstore O.ex O.bc d h5 hn hl (fun ls' h5' => k H lo ce sl ls' h1 h2 h3 h4 h5')
theorem v_aload_n (O : Ok X cc nL ret own lvl mc) {i : Fin 4} {x : Nat} (d : decode cc pc = .ok (.aload_n i, 1)) (hl : lvg lv (i : Nat) = some (.ref x)) (hq : pc + 1 = q) (k : V X nL b P q lv (.ref x :: st)) : V X nL b P pc lv (st) := by
  subst hq
  exact fun H lo ce sl ls h1 h2 h3 h4 h5 => lv_aload_n O.ex O.bc d rfl (lvg_has h5 hl) (k H lo ce sl ls h1 h2 h3 h4 h5)
theorem v_aload (O : Ok X cc nL ret own lvl mc) {i : Nat} {x : Nat} (d : decode cc pc = .ok (.aload i, 2)) (hl : lvg lv i = some (.ref x)) (hq : pc + 2 = q) (k : V X nL b P q lv (.ref x :: st)) : V X nL b P pc lv (st) := by
  subst hq
  exact fun H lo ce sl ls h1 h2 h3 h4 h5 => lv_aload O.ex O.bc d (lvg_has h5 hl) (k H lo ce sl ls h1 h2 h3 h4 h5)
theorem v_astore_n (O : Ok X cc nL ret own lvl mc) {i : Fin 4} {x : Nat} (d : decode cc pc = .ok (.astore_n i, 1)) (hn : (i : Nat) < nL) (hl : ((i : Nat), Value.ref x) :: lv.filter (fun q => !(q.1 == (i : Nat)) && !(q.1 + 1 == (i : Nat) && q.2.category == 2)) = lv') (hq : pc + 1 = q) (k : V X nL b P q lv' st) : V X nL b P pc lv (.ref x :: st) := by
  subst hq
  exact fun H lo ce sl ls h1 h2 h3 h4 h5 => lv_astore_n O.ex O.bc d rfl h5 hn hl (fun ls' h5' => k H lo ce sl ls' h1 h2 h3 h4 h5')
theorem v_astore (O : Ok X cc nL ret own lvl mc) {i : Nat} {x : Nat} (d : decode cc pc = .ok (.astore i, 2)) (hn : i < nL) (hl : (i, Value.ref x) :: lv.filter (fun q => !(q.1 == i) && !(q.1 + 1 == i && q.2.category == 2)) = lv') (hq : pc + 2 = q) (k : V X nL b P q lv' st) : V X nL b P pc lv (.ref x :: st) := by
  subst hq
  exact fun H lo ce sl ls h1 h2 h3 h4 h5 => lv_astore O.ex O.bc d h5 hn hl (fun ls' h5' => k H lo ce sl ls' h1 h2 h3 h4 h5')
theorem v_fload_n (O : Ok X cc nL ret own lvl mc) {i : Fin 4} {x : UInt32} (d : decode cc pc = .ok (.fload_n i, 1)) (hl : lvg lv (i : Nat) = some (.float x)) (hq : pc + 1 = q) (k : V X nL b P q lv (.float x :: st)) : V X nL b P pc lv (st) := by
  subst hq
  exact fun H lo ce sl ls h1 h2 h3 h4 h5 => lv_fload_n O.ex O.bc d rfl (lvg_has h5 hl) (k H lo ce sl ls h1 h2 h3 h4 h5)
theorem v_fload (O : Ok X cc nL ret own lvl mc) {i : Nat} {x : UInt32} (d : decode cc pc = .ok (.fload i, 2)) (hl : lvg lv i = some (.float x)) (hq : pc + 2 = q) (k : V X nL b P q lv (.float x :: st)) : V X nL b P pc lv (st) := by
  subst hq
  exact fun H lo ce sl ls h1 h2 h3 h4 h5 => lv_fload O.ex O.bc d (lvg_has h5 hl) (k H lo ce sl ls h1 h2 h3 h4 h5)
theorem v_fstore_n (O : Ok X cc nL ret own lvl mc) {i : Fin 4} {x : UInt32} (d : decode cc pc = .ok (.fstore_n i, 1)) (hn : (i : Nat) < nL) (hl : ((i : Nat), Value.float x) :: lv.filter (fun q => !(q.1 == (i : Nat)) && !(q.1 + 1 == (i : Nat) && q.2.category == 2)) = lv') (hq : pc + 1 = q) (k : V X nL b P q lv' st) : V X nL b P pc lv (.float x :: st) := by
  subst hq
  exact fun H lo ce sl ls h1 h2 h3 h4 h5 => lv_fstore_n O.ex O.bc d rfl h5 hn hl (fun ls' h5' => k H lo ce sl ls' h1 h2 h3 h4 h5')
theorem v_fstore (O : Ok X cc nL ret own lvl mc) {i : Nat} {x : UInt32} (d : decode cc pc = .ok (.fstore i, 2)) (hn : i < nL) (hl : (i, Value.float x) :: lv.filter (fun q => !(q.1 == i) && !(q.1 + 1 == i && q.2.category == 2)) = lv') (hq : pc + 2 = q) (k : V X nL b P q lv' st) : V X nL b P pc lv (.float x :: st) := by
  subst hq
  exact fun H lo ce sl ls h1 h2 h3 h4 h5 => lv_fstore O.ex O.bc d h5 hn hl (fun ls' h5' => k H lo ce sl ls' h1 h2 h3 h4 h5')
theorem v_iinc (O : Ok X cc nL ret own lvl mc) {i : Nat} {n : Int} {x v : Int32} (d : decode cc pc = .ok (.iinc i n, 3)) (hx : lvg lv i = some (.int x)) (hv : x + Int32.ofInt n = v) (hn : i < nL) (hl : (i, Value.int v) :: lv.filter (fun q => !(q.1 == i) && !(q.1 + 1 == i && q.2.category == 2)) = lv') (hq : pc + 3 = q) (k : V X nL b P q lv' st) : V X nL b P pc lv st := by
  subst hq
  obtain ⟨j, hj⟩ := List.getElem?_of_mem (lvg_at hx)
  exact fun H lo ce sl ls h1 h2 h3 h4 h5 => lv_iinc O.ex O.bc d h5 hj hv hn hl (fun ls' h5' => k H lo ce sl ls' h1 h2 h3 h4 h5')
theorem v_iadd (O : Ok X cc nL ret own lvl mc) {x y : Int32} (d : decode cc pc = .ok (.iadd, 1)) (hq : pc + 1 = q) (k : V X nL b P q lv (.int (x + y) :: st)) : V X nL b P pc lv (.int y :: .int x :: st) := by
  subst hq
  exact fun H lo ce sl ls h1 h2 h3 h4 h5 => lv_iadd O.ex O.bc d (k H lo ce sl ls h1 h2 h3 h4 h5)
theorem v_isub (O : Ok X cc nL ret own lvl mc) {x y : Int32} (d : decode cc pc = .ok (.isub, 1)) (hq : pc + 1 = q) (k : V X nL b P q lv (.int (x - y) :: st)) : V X nL b P pc lv (.int y :: .int x :: st) := by
  subst hq
  exact fun H lo ce sl ls h1 h2 h3 h4 h5 => lv_isub O.ex O.bc d (k H lo ce sl ls h1 h2 h3 h4 h5)
theorem v_imul (O : Ok X cc nL ret own lvl mc) {x y : Int32} (d : decode cc pc = .ok (.imul, 1)) (hq : pc + 1 = q) (k : V X nL b P q lv (.int (x * y) :: st)) : V X nL b P pc lv (.int y :: .int x :: st) := by
  subst hq
  exact fun H lo ce sl ls h1 h2 h3 h4 h5 => lv_imul O.ex O.bc d (k H lo ce sl ls h1 h2 h3 h4 h5)
theorem v_iand (O : Ok X cc nL ret own lvl mc) {x y : Int32} (d : decode cc pc = .ok (.iand, 1)) (hq : pc + 1 = q) (k : V X nL b P q lv (.int (x &&& y) :: st)) : V X nL b P pc lv (.int y :: .int x :: st) := by
  subst hq
  exact fun H lo ce sl ls h1 h2 h3 h4 h5 => lv_iand O.ex O.bc d (k H lo ce sl ls h1 h2 h3 h4 h5)
theorem v_ior (O : Ok X cc nL ret own lvl mc) {x y : Int32} (d : decode cc pc = .ok (.ior, 1)) (hq : pc + 1 = q) (k : V X nL b P q lv (.int (x ||| y) :: st)) : V X nL b P pc lv (.int y :: .int x :: st) := by
  subst hq
  exact fun H lo ce sl ls h1 h2 h3 h4 h5 => lv_ior O.ex O.bc d (k H lo ce sl ls h1 h2 h3 h4 h5)
theorem v_ixor (O : Ok X cc nL ret own lvl mc) {x y : Int32} (d : decode cc pc = .ok (.ixor, 1)) (hq : pc + 1 = q) (k : V X nL b P q lv (.int (x ^^^ y) :: st)) : V X nL b P pc lv (.int y :: .int x :: st) := by
  subst hq
  exact fun H lo ce sl ls h1 h2 h3 h4 h5 => lv_ixor O.ex O.bc d (k H lo ce sl ls h1 h2 h3 h4 h5)
theorem v_idiv (O : Ok X cc nL ret own lvl mc) {x y : Int32} (d : decode cc pc = .ok (.idiv, 1)) (hne : ¬ y = 0) (hq : pc + 1 = q) (k : V X nL b P q lv (.int (x / y) :: st)) : V X nL b P pc lv (.int y :: .int x :: st) := by
  subst hq
  exact fun H lo ce sl ls h1 h2 h3 h4 h5 => lv_idiv O.ex O.bc d hne (k H lo ce sl ls h1 h2 h3 h4 h5)
theorem v_irem (O : Ok X cc nL ret own lvl mc) {x y : Int32} (d : decode cc pc = .ok (.irem, 1)) (hne : ¬ y = 0) (hq : pc + 1 = q) (k : V X nL b P q lv (.int (x - x / y * y) :: st)) : V X nL b P pc lv (.int y :: .int x :: st) := by
  subst hq
  exact fun H lo ce sl ls h1 h2 h3 h4 h5 => lv_irem O.ex O.bc d hne (k H lo ce sl ls h1 h2 h3 h4 h5)
theorem v_ineg (O : Ok X cc nL ret own lvl mc) {x : Int32} (d : decode cc pc = .ok (.ineg, 1)) (hq : pc + 1 = q) (k : V X nL b P q lv (.int (-x) :: st)) : V X nL b P pc lv (.int x :: st) := by
  subst hq
  exact fun H lo ce sl ls h1 h2 h3 h4 h5 => lv_ineg O.ex O.bc d (k H lo ce sl ls h1 h2 h3 h4 h5)
theorem v_ladd (O : Ok X cc nL ret own lvl mc) {x y : Int64} (d : decode cc pc = .ok (.ladd, 1)) (hq : pc + 1 = q) (k : V X nL b P q lv (.long (x + y) :: st)) : V X nL b P pc lv (.long y :: .long x :: st) := by
  subst hq
  exact fun H lo ce sl ls h1 h2 h3 h4 h5 => lv_ladd O.ex O.bc d (k H lo ce sl ls h1 h2 h3 h4 h5)
theorem v_lsub (O : Ok X cc nL ret own lvl mc) {x y : Int64} (d : decode cc pc = .ok (.lsub, 1)) (hq : pc + 1 = q) (k : V X nL b P q lv (.long (x - y) :: st)) : V X nL b P pc lv (.long y :: .long x :: st) := by
  subst hq
  exact fun H lo ce sl ls h1 h2 h3 h4 h5 => lv_lsub O.ex O.bc d (k H lo ce sl ls h1 h2 h3 h4 h5)
theorem v_lmul (O : Ok X cc nL ret own lvl mc) {x y : Int64} (d : decode cc pc = .ok (.lmul, 1)) (hq : pc + 1 = q) (k : V X nL b P q lv (.long (x * y) :: st)) : V X nL b P pc lv (.long y :: .long x :: st) := by
  subst hq
  exact fun H lo ce sl ls h1 h2 h3 h4 h5 => lv_lmul O.ex O.bc d (k H lo ce sl ls h1 h2 h3 h4 h5)
theorem v_land (O : Ok X cc nL ret own lvl mc) {x y : Int64} (d : decode cc pc = .ok (.land, 1)) (hq : pc + 1 = q) (k : V X nL b P q lv (.long (x &&& y) :: st)) : V X nL b P pc lv (.long y :: .long x :: st) := by
  subst hq
  exact fun H lo ce sl ls h1 h2 h3 h4 h5 => lv_land O.ex O.bc d (k H lo ce sl ls h1 h2 h3 h4 h5)
theorem v_lor (O : Ok X cc nL ret own lvl mc) {x y : Int64} (d : decode cc pc = .ok (.lor, 1)) (hq : pc + 1 = q) (k : V X nL b P q lv (.long (x ||| y) :: st)) : V X nL b P pc lv (.long y :: .long x :: st) := by
  subst hq
  exact fun H lo ce sl ls h1 h2 h3 h4 h5 => lv_lor O.ex O.bc d (k H lo ce sl ls h1 h2 h3 h4 h5)
theorem v_lneg (O : Ok X cc nL ret own lvl mc) {x : Int64} (d : decode cc pc = .ok (.lneg, 1)) (hq : pc + 1 = q) (k : V X nL b P q lv (.long (-x) :: st)) : V X nL b P pc lv (.long x :: st) := by
  subst hq
  exact fun H lo ce sl ls h1 h2 h3 h4 h5 => lv_lneg O.ex O.bc d (k H lo ce sl ls h1 h2 h3 h4 h5)
theorem v_ishl (O : Ok X cc nL ret own lvl mc) {x y : Int32} (d : decode cc pc = .ok (.ishl, 1)) (hq : pc + 1 = q) (k : V X nL b P q lv (.int (x <<< (y &&& 31)) :: st)) : V X nL b P pc lv (.int y :: .int x :: st) := by
  subst hq
  exact fun H lo ce sl ls h1 h2 h3 h4 h5 => lv_ishl O.ex O.bc d (k H lo ce sl ls h1 h2 h3 h4 h5)
theorem v_ishr (O : Ok X cc nL ret own lvl mc) {x y : Int32} (d : decode cc pc = .ok (.ishr, 1)) (hq : pc + 1 = q) (k : V X nL b P q lv (.int (x >>> (y &&& 31)) :: st)) : V X nL b P pc lv (.int y :: .int x :: st) := by
  subst hq
  exact fun H lo ce sl ls h1 h2 h3 h4 h5 => lv_ishr O.ex O.bc d (k H lo ce sl ls h1 h2 h3 h4 h5)
theorem v_lshl (O : Ok X cc nL ret own lvl mc) {x : Int64} {y : Int32} (d : decode cc pc = .ok (.lshl, 1)) (hq : pc + 1 = q) (k : V X nL b P q lv (.long (x <<< (y.toInt64 &&& 63)) :: st)) : V X nL b P pc lv (.int y :: .long x :: st) := by
  subst hq
  exact fun H lo ce sl ls h1 h2 h3 h4 h5 => lv_lshl O.ex O.bc d rfl (k H lo ce sl ls h1 h2 h3 h4 h5)
theorem v_lshr (O : Ok X cc nL ret own lvl mc) {x : Int64} {y : Int32} (d : decode cc pc = .ok (.lshr, 1)) (hq : pc + 1 = q) (k : V X nL b P q lv (.long (x >>> (y.toInt64 &&& 63)) :: st)) : V X nL b P pc lv (.int y :: .long x :: st) := by
  subst hq
  exact fun H lo ce sl ls h1 h2 h3 h4 h5 => lv_lshr O.ex O.bc d rfl (k H lo ce sl ls h1 h2 h3 h4 h5)
theorem v_i2l (O : Ok X cc nL ret own lvl mc) {x : Int32} (d : decode cc pc = .ok (.i2l, 1)) (hq : pc + 1 = q) (k : V X nL b P q lv (.long x.toInt64 :: st)) : V X nL b P pc lv (.int x :: st) := by
  subst hq
  exact fun H lo ce sl ls h1 h2 h3 h4 h5 => lv_i2l O.ex O.bc d rfl (k H lo ce sl ls h1 h2 h3 h4 h5)
theorem v_l2i (O : Ok X cc nL ret own lvl mc) {x : Int64} (d : decode cc pc = .ok (.l2i, 1)) (hq : pc + 1 = q) (k : V X nL b P q lv (.int x.toInt32 :: st)) : V X nL b P pc lv (.long x :: st) := by
  subst hq
  exact fun H lo ce sl ls h1 h2 h3 h4 h5 => lv_l2i O.ex O.bc d rfl (k H lo ce sl ls h1 h2 h3 h4 h5)
theorem v_i2b (O : Ok X cc nL ret own lvl mc) {x : Int32} (d : decode cc pc = .ok (.i2b, 1)) (hq : pc + 1 = q) (k : V X nL b P q lv (.int x.toInt8.toInt32 :: st)) : V X nL b P pc lv (.int x :: st) := by
  subst hq
  exact fun H lo ce sl ls h1 h2 h3 h4 h5 => lv_i2b O.ex O.bc d rfl (k H lo ce sl ls h1 h2 h3 h4 h5)
theorem v_lcmp (O : Ok X cc nL ret own lvl mc) {x y : Int64} (d : decode cc pc = .ok (.lcmp, 1)) (hq : pc + 1 = q) (k : V X nL b P q lv (.int (lg_cmp x y) :: st)) : V X nL b P pc lv (.long y :: .long x :: st) := by
  subst hq
  exact fun H lo ce sl ls h1 h2 h3 h4 h5 => W.lcmp O.ex O.bc d (k H lo ce sl ls h1 h2 h3 h4 h5)
theorem v_dup (O : Ok X cc nL ret own lvl mc) {u : Value} (d : decode cc pc = .ok (.dup, 1)) (hu : u.category = 1) (hq : pc + 1 = q) (k : V X nL b P q lv (u :: u :: st)) : V X nL b P pc lv (u :: st) := by
  subst hq
  exact fun H lo ce sl ls h1 h2 h3 h4 h5 => lv_dup O.ex O.bc d hu (k H lo ce sl ls h1 h2 h3 h4 h5)
theorem v_pop (O : Ok X cc nL ret own lvl mc) {u : Value} (d : decode cc pc = .ok (.pop, 1)) (hu : u.category = 1) (hq : pc + 1 = q) (k : V X nL b P q lv (st)) : V X nL b P pc lv (u :: st) := by
  subst hq
  exact fun H lo ce sl ls h1 h2 h3 h4 h5 => lv_pop O.ex O.bc d hu (k H lo ce sl ls h1 h2 h3 h4 h5)
theorem v_dup_x1 (O : Ok X cc nL ret own lvl mc) {u v : Value} (d : decode cc pc = .ok (.dup_x1, 1)) (hu : u.category = 1) (hv : v.category = 1) (hq : pc + 1 = q) (k : V X nL b P q lv (u :: v :: u :: st)) : V X nL b P pc lv (u :: v :: st) := by
  subst hq
  exact fun H lo ce sl ls h1 h2 h3 h4 h5 => lv_dup_x1 O.ex O.bc d hu hv (k H lo ce sl ls h1 h2 h3 h4 h5)
theorem v_dup2 (O : Ok X cc nL ret own lvl mc) {u v : Value} (d : decode cc pc = .ok (.dup2, 1)) (hu : u.category = 1) (hv : v.category = 1) (hq : pc + 1 = q) (k : V X nL b P q lv (u :: v :: u :: v :: st)) : V X nL b P pc lv (u :: v :: st) := by
  subst hq
  exact fun H lo ce sl ls h1 h2 h3 h4 h5 => lv_dup2_11 O.ex O.bc d hu hv (k H lo ce sl ls h1 h2 h3 h4 h5)
theorem v_ldc (O : Ok X cc nL ret own lvl mc) {i : Nat} {v : Int32} (d : decode cc pc = .ok (.ldc i, 2)) (hc : Jvm.Cond.constant own i v ∈ lw_all) (hq : pc + 2 = q) (k : V X nL b P q lv (.int v :: st)) : V X nL b P pc lv (st) := by
  subst hq
  exact fun H lo ce sl ls h1 h2 h3 h4 h5 => lv_ldc O.ex O.bc O.ow (O.ts _ hc) d (k H lo ce sl ls h1 h2 h3 h4 h5)
theorem v_ldcw (O : Ok X cc nL ret own lvl mc) {i : Nat} {v : Int32} (d : decode cc pc = .ok (.ldc_w i, 3)) (hc : Jvm.Cond.constant own i v ∈ lw_all) (hq : pc + 3 = q) (k : V X nL b P q lv (.int v :: st)) : V X nL b P pc lv (st) := by
  subst hq
  exact fun H lo ce sl ls h1 h2 h3 h4 h5 => lv_ldcw O.ex O.bc O.ow (O.ts _ hc) d (k H lo ce sl ls h1 h2 h3 h4 h5)
theorem v_ldcf (O : Ok X cc nL ret own lvl mc) {i : Nat} {v : UInt32} (d : decode cc pc = .ok (.ldc i, 2)) (hc : Jvm.Cond.constantFloat own i v ∈ lw_all) (hq : pc + 2 = q) (k : V X nL b P q lv (.float v :: st)) : V X nL b P pc lv (st) := by
  subst hq
  exact fun H lo ce sl ls h1 h2 h3 h4 h5 => lv_ldcf O.ex O.bc O.ow (O.ts _ hc) d (k H lo ce sl ls h1 h2 h3 h4 h5)
theorem v_ldc2 (O : Ok X cc nL ret own lvl mc) {i : Nat} {v : Int64} (d : decode cc pc = .ok (.ldc2_w i, 3)) (hc : Jvm.Cond.constantLong own i v ∈ lw_all) (hq : pc + 3 = q) (k : V X nL b P q lv (.long v :: st)) : V X nL b P pc lv (st) := by
  subst hq
  exact fun H lo ce sl ls h1 h2 h3 h4 h5 => lv_ldc2 O.ex O.bc O.ow (O.ts _ hc) d (k H lo ce sl ls h1 h2 h3 h4 h5)
theorem v_fconst0 (O : Ok X cc nL ret own lvl mc)  (d : decode cc pc = .ok (.fconst 0, 1)) (hq : pc + 1 = q) (k : V X nL b P q lv (.float FP.fconst0 :: st)) : V X nL b P pc lv (st) := by
  subst hq
  exact fun H lo ce sl ls h1 h2 h3 h4 h5 => lv_fconst0 O.ex O.bc d (k H lo ce sl ls h1 h2 h3 h4 h5)
theorem v_fconst2 (O : Ok X cc nL ret own lvl mc)  (d : decode cc pc = .ok (.fconst 2, 1)) (hq : pc + 1 = q) (k : V X nL b P q lv (.float FP.fconst2 :: st)) : V X nL b P pc lv (st) := by
  subst hq
  exact fun H lo ce sl ls h1 h2 h3 h4 h5 => lv_fconst2 O.ex O.bc d (k H lo ce sl ls h1 h2 h3 h4 h5)
theorem v_fadd (O : Ok X cc nL ret own lvl mc) {x y : UInt32} (d : decode cc pc = .ok (.fadd, 1)) (hne : vf_n32 (FP.fadd x y)) (hq : pc + 1 = q) (k : V X nL b P q lv (.float (FP.fadd x y) :: st)) : V X nL b P pc lv (.float y :: .float x :: st) := by
  subst hq
  exact fun H lo ce sl ls h1 h2 h3 h4 h5 => lv_fadd O.ex O.bc d hne (k H lo ce sl ls h1 h2 h3 h4 h5)
theorem v_fmul (O : Ok X cc nL ret own lvl mc) {x y : UInt32} (d : decode cc pc = .ok (.fmul, 1)) (hne : vf_n32 (FP.fmul x y)) (hq : pc + 1 = q) (k : V X nL b P q lv (.float (FP.fmul x y) :: st)) : V X nL b P pc lv (.float y :: .float x :: st) := by
  subst hq
  exact fun H lo ce sl ls h1 h2 h3 h4 h5 => lv_fmul O.ex O.bc d hne (k H lo ce sl ls h1 h2 h3 h4 h5)
theorem v_fdiv (O : Ok X cc nL ret own lvl mc) {x y : UInt32} (d : decode cc pc = .ok (.fdiv, 1)) (hne : vf_n32 (FP.fdiv x y)) (hq : pc + 1 = q) (k : V X nL b P q lv (.float (FP.fdiv x y) :: st)) : V X nL b P pc lv (.float y :: .float x :: st) := by
  subst hq
  exact fun H lo ce sl ls h1 h2 h3 h4 h5 => lv_fdiv O.ex O.bc d hne (k H lo ce sl ls h1 h2 h3 h4 h5)
theorem v_fneg (O : Ok X cc nL ret own lvl mc) {x : UInt32} (d : decode cc pc = .ok (.fneg, 1)) (hq : pc + 1 = q) (k : V X nL b P q lv (.float (FP.fneg x) :: st)) : V X nL b P pc lv (.float x :: st) := by
  subst hq
  exact fun H lo ce sl ls h1 h2 h3 h4 h5 => lv_fneg O.ex O.bc d (k H lo ce sl ls h1 h2 h3 h4 h5)
theorem v_fcmp (O : Ok X cc nL ret own lvl mc) {x y : UInt32} {op : CmpOp} (d : decode cc pc = .ok (.fcmp op, 1)) (hq : pc + 1 = q) (k : V X nL b P q lv (.int (Op.cmpValue (FP.fcmp x y) op) :: st)) : V X nL b P pc lv (.float y :: .float x :: st) := by
  subst hq
  exact fun H lo ce sl ls h1 h2 h3 h4 h5 => lv_fcmp O.ex O.bc d (k H lo ce sl ls h1 h2 h3 h4 h5)
theorem v_i2f (O : Ok X cc nL ret own lvl mc) {x : Int32} (d : decode cc pc = .ok (.i2f, 1)) (hq : pc + 1 = q) (k : V X nL b P q lv (.float (FP.i2f x) :: st)) : V X nL b P pc lv (.int x :: st) := by
  subst hq
  exact fun H lo ce sl ls h1 h2 h3 h4 h5 => lv_i2f O.ex O.bc d (k H lo ce sl ls h1 h2 h3 h4 h5)
theorem v_f2i (O : Ok X cc nL ret own lvl mc) {x : UInt32} (d : decode cc pc = .ok (.f2i, 1)) (hq : pc + 1 = q) (k : V X nL b P q lv (.int (FP.f2i x) :: st)) : V X nL b P pc lv (.float x :: st) := by
  subst hq
  exact fun H lo ce sl ls h1 h2 h3 h4 h5 => lv_f2i O.ex O.bc d (k H lo ce sl ls h1 h2 h3 h4 h5)
theorem v_if_eq (O : Ok X cc nL ret own lvl mc) {x : Int32} {off : Int} {t : Nat} (d : decode cc pc = .ok (.ifCond .eq off, 3)) (ht : (pc : Int) + off = (t : Int)) (hq : pc + 3 = q) (kt : x = 0 → V X nL b P t lv st) (kf : ¬ x = 0 → V X nL b P q lv st) : V X nL b P pc lv (.int x :: st) := by
  subst hq
  exact fun H lo ce sl ls h1 h2 h3 h4 h5 => lv_if_eq O.ex O.bc d ht (fun z => kt z H lo ce sl ls h1 h2 h3 h4 h5) (fun z => kf z H lo ce sl ls h1 h2 h3 h4 h5)
theorem v_icmp_eq (O : Ok X cc nL ret own lvl mc) {x y : Int32} {off : Int} {t : Nat} (d : decode cc pc = .ok (.if_icmp .eq off, 3)) (ht : (pc : Int) + off = (t : Int)) (hq : pc + 3 = q) (kt : x = y → V X nL b P t lv st) (kf : ¬ x = y → V X nL b P q lv st) : V X nL b P pc lv (.int y :: .int x :: st) := by
  subst hq
  exact fun H lo ce sl ls h1 h2 h3 h4 h5 => lv_icmp_eq O.ex O.bc d ht (fun z => kt z H lo ce sl ls h1 h2 h3 h4 h5) (fun z => kf z H lo ce sl ls h1 h2 h3 h4 h5)
theorem v_if_ne (O : Ok X cc nL ret own lvl mc) {x : Int32} {off : Int} {t : Nat} (d : decode cc pc = .ok (.ifCond .ne off, 3)) (ht : (pc : Int) + off = (t : Int)) (hq : pc + 3 = q) (kt : ¬ x = 0 → V X nL b P t lv st) (kf : x = 0 → V X nL b P q lv st) : V X nL b P pc lv (.int x :: st) := by
  subst hq
  exact fun H lo ce sl ls h1 h2 h3 h4 h5 => lv_if_ne O.ex O.bc d ht (fun z => kt z H lo ce sl ls h1 h2 h3 h4 h5) (fun z => kf z H lo ce sl ls h1 h2 h3 h4 h5)
theorem v_icmp_ne (O : Ok X cc nL ret own lvl mc) {x y : Int32} {off : Int} {t : Nat} (d : decode cc pc = .ok (.if_icmp .ne off, 3)) (ht : (pc : Int) + off = (t : Int)) (hq : pc + 3 = q) (kt : ¬ x = y → V X nL b P t lv st) (kf : x = y → V X nL b P q lv st) : V X nL b P pc lv (.int y :: .int x :: st) := by
  subst hq
  exact fun H lo ce sl ls h1 h2 h3 h4 h5 => lv_icmp_ne O.ex O.bc d ht (fun z => kt z H lo ce sl ls h1 h2 h3 h4 h5) (fun z => kf z H lo ce sl ls h1 h2 h3 h4 h5)
theorem v_if_lt (O : Ok X cc nL ret own lvl mc) {x : Int32} {off : Int} {t : Nat} (d : decode cc pc = .ok (.ifCond .lt off, 3)) (ht : (pc : Int) + off = (t : Int)) (hq : pc + 3 = q) (kt : x < 0 → V X nL b P t lv st) (kf : ¬ x < 0 → V X nL b P q lv st) : V X nL b P pc lv (.int x :: st) := by
  subst hq
  exact fun H lo ce sl ls h1 h2 h3 h4 h5 => lv_if_lt O.ex O.bc d ht (fun z => kt z H lo ce sl ls h1 h2 h3 h4 h5) (fun z => kf z H lo ce sl ls h1 h2 h3 h4 h5)
theorem v_icmp_lt (O : Ok X cc nL ret own lvl mc) {x y : Int32} {off : Int} {t : Nat} (d : decode cc pc = .ok (.if_icmp .lt off, 3)) (ht : (pc : Int) + off = (t : Int)) (hq : pc + 3 = q) (kt : x < y → V X nL b P t lv st) (kf : ¬ x < y → V X nL b P q lv st) : V X nL b P pc lv (.int y :: .int x :: st) := by
  subst hq
  exact fun H lo ce sl ls h1 h2 h3 h4 h5 => lv_icmp_lt O.ex O.bc d ht (fun z => kt z H lo ce sl ls h1 h2 h3 h4 h5) (fun z => kf z H lo ce sl ls h1 h2 h3 h4 h5)
theorem v_if_ge (O : Ok X cc nL ret own lvl mc) {x : Int32} {off : Int} {t : Nat} (d : decode cc pc = .ok (.ifCond .ge off, 3)) (ht : (pc : Int) + off = (t : Int)) (hq : pc + 3 = q) (kt : 0 ≤ x → V X nL b P t lv st) (kf : ¬ 0 ≤ x → V X nL b P q lv st) : V X nL b P pc lv (.int x :: st) := by
  subst hq
  exact fun H lo ce sl ls h1 h2 h3 h4 h5 => lv_if_ge O.ex O.bc d ht (fun z => kt z H lo ce sl ls h1 h2 h3 h4 h5) (fun z => kf z H lo ce sl ls h1 h2 h3 h4 h5)
theorem v_icmp_ge (O : Ok X cc nL ret own lvl mc) {x y : Int32} {off : Int} {t : Nat} (d : decode cc pc = .ok (.if_icmp .ge off, 3)) (ht : (pc : Int) + off = (t : Int)) (hq : pc + 3 = q) (kt : y ≤ x → V X nL b P t lv st) (kf : ¬ y ≤ x → V X nL b P q lv st) : V X nL b P pc lv (.int y :: .int x :: st) := by
  subst hq
  exact fun H lo ce sl ls h1 h2 h3 h4 h5 => lv_icmp_ge O.ex O.bc d ht (fun z => kt z H lo ce sl ls h1 h2 h3 h4 h5) (fun z => kf z H lo ce sl ls h1 h2 h3 h4 h5)
theorem v_if_gt (O : Ok X cc nL ret own lvl mc) {x : Int32} {off : Int} {t : Nat} (d : decode cc pc = .ok (.ifCond .gt off, 3)) (ht : (pc : Int) + off = (t : Int)) (hq : pc + 3 = q) (kt : 0 < x → V X nL b P t lv st) (kf : ¬ 0 < x → V X nL b P q lv st) : V X nL b P pc lv (.int x :: st) := by
  subst hq
  exact fun H lo ce sl ls h1 h2 h3 h4 h5 => lv_if_gt O.ex O.bc d ht (fun z => kt z H lo ce sl ls h1 h2 h3 h4 h5) (fun z => kf z H lo ce sl ls h1 h2 h3 h4 h5)
theorem v_icmp_gt (O : Ok X cc nL ret own lvl mc) {x y : Int32} {off : Int} {t : Nat} (d : decode cc pc = .ok (.if_icmp .gt off, 3)) (ht : (pc : Int) + off = (t : Int)) (hq : pc + 3 = q) (kt : y < x → V X nL b P t lv st) (kf : ¬ y < x → V X nL b P q lv st) : V X nL b P pc lv (.int y :: .int x :: st) := by
  subst hq
  exact fun H lo ce sl ls h1 h2 h3 h4 h5 => lv_icmp_gt O.ex O.bc d ht (fun z => kt z H lo ce sl ls h1 h2 h3 h4 h5) (fun z => kf z H lo ce sl ls h1 h2 h3 h4 h5)
theorem v_if_le (O : Ok X cc nL ret own lvl mc) {x : Int32} {off : Int} {t : Nat} (d : decode cc pc = .ok (.ifCond .le off, 3)) (ht : (pc : Int) + off = (t : Int)) (hq : pc + 3 = q) (kt : x ≤ 0 → V X nL b P t lv st) (kf : ¬ x ≤ 0 → V X nL b P q lv st) : V X nL b P pc lv (.int x :: st) := by
  subst hq
  exact fun H lo ce sl ls h1 h2 h3 h4 h5 => lv_if_le O.ex O.bc d ht (fun z => kt z H lo ce sl ls h1 h2 h3 h4 h5) (fun z => kf z H lo ce sl ls h1 h2 h3 h4 h5)
theorem v_icmp_le (O : Ok X cc nL ret own lvl mc) {x y : Int32} {off : Int} {t : Nat} (d : decode cc pc = .ok (.if_icmp .le off, 3)) (ht : (pc : Int) + off = (t : Int)) (hq : pc + 3 = q) (kt : x ≤ y → V X nL b P t lv st) (kf : ¬ x ≤ y → V X nL b P q lv st) : V X nL b P pc lv (.int y :: .int x :: st) := by
  subst hq
  exact fun H lo ce sl ls h1 h2 h3 h4 h5 => lv_icmp_le O.ex O.bc d ht (fun z => kt z H lo ce sl ls h1 h2 h3 h4 h5) (fun z => kf z H lo ce sl ls h1 h2 h3 h4 h5)
theorem v_goto (O : Ok X cc nL ret own lvl mc) {off : Int} {t : Nat} (d : decode cc pc = .ok (.goto off, 3)) (ht : (pc : Int) + off = (t : Int)) (k : V X nL b P t lv st) : V X nL b P pc lv st :=
  fun H lo ce sl ls h1 h2 h3 h4 h5 => lv_goto O.ex O.bc d ht (k H lo ce sl ls h1 h2 h3 h4 h5)
theorem v_tableOut (O : Ok X cc nL ret own lvl mc) {x : Int32} {dflt lo hi : Int} {offs : Array Int} {len t : Nat} (d : decode cc pc = .ok (.tableswitch dflt lo hi offs, len)) (h : x.toInt < lo ∨ hi < x.toInt) (ht : (pc : Int) + dflt = (t : Int)) (k : V X nL b P t lv st) : V X nL b P pc lv (.int x :: st) :=
  fun H lo' ce sl ls h1 h2 h3 h4 h5 => lv_tableOut O.ex O.bc d h ht (k H lo' ce sl ls h1 h2 h3 h4 h5)
theorem v_tableIn (O : Ok X cc nL ret own lvl mc) {x : Int32} {dflt lo hi off : Int} {offs : Array Int} {len t : Nat} (d : decode cc pc = .ok (.tableswitch dflt lo hi offs, len)) (h : ¬ x.toInt < lo) (h' : ¬ hi < x.toInt) (ho : offs[(x.toInt - lo).toNat]? = some off) (ht : (pc : Int) + off = (t : Int)) (k : V X nL b P t lv st) : V X nL b P pc lv (.int x :: st) :=
  fun H lo' ce sl ls h1 h2 h3 h4 h5 => lv_tableIn O.ex O.bc d h h' ho ht (k H lo' ce sl ls h1 h2 h3 h4 h5)
end VROWS
