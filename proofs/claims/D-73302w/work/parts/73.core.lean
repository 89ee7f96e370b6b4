/-! CORE: its constructor -/
def coreV (g : gC) (cd : Nat) (L : List Nat) : List Value := [.ref cd, .ref (L.getD 0 0), .ref (L.getD 1 0), .ref (L.getD 2 0), .ref (L.getD 3 0), .ref (L.getD 4 0), .ref (L.getD 5 0), .ref (L.getD 6 0), .ref (L.getD 7 0), .ref (L.getD 8 0), .ref (L.getD 9 0), .ref (L.getD 10 0), .ref (L.getD 11 0), .ref (L.getD 12 0), .ref (L.getD 13 0), .ref (L.getD 14 0), .ref (L.getD 15 0), .ref (L.getD 16 0), .ref (L.getD 17 0), .ref (L.getD 18 0), .ref (gCo g 30), .ref (L.getD 19 0), .ref (gCo g 31), .ref (gCo g 32), .ref (L.getD 13 0), .ref (gCo g 30), .ref (gCo g 31), .ref (L.getD 20 0), .int 0, .int 0, .int 0, .int 0, .int 0, .int 0, .int 0, .int 0, .int 0, .int 0, .int 0, .int 0, .int 0, .int 0, .int 0, .int 0, .int 0, .int 0, .int (-1), .int 0, .int 0, .int 0, .int 0, .int 0, .int (-1), .int 0, .ref (L.getD 21 0)]
def coreZ (g : gC) (a : Nat) (L : List Nat) (t0 t1 : Nat → Value) (F : Nat → Option Nat) (S : va_W) : va_W := ((L.getD 0 0), .inr (4, trapF t0 18)) :: ((L.getD 1 0), .inr (4, trapF t1 19)) :: ((L.getD 2 0), .inl (gCk g 0, 8, .inl (fun _ => 0))) :: ((L.getD 3 0), .inl (gCk g 2, 4, qf (fun _ => 0))) :: ((L.getD 4 0), .inl (gCk g 0, 16, .inl (fun _ => 0))) :: ((L.getD 5 0), .inl (gCk g 0, 96, .inl (fun _ => 0))) :: ((L.getD 6 0), .inl (gCk g 3, 21, qr F)) :: ((L.getD 7 0), .inl (gCk g 0, 21, .inl (fun _ => 0))) :: ((L.getD 8 0), .inl (gCk g 0, 32, .inl (fun _ => 0))) :: ((L.getD 9 0), .inl (gCk g 0, 32, .inl (fun _ => 0))) :: ((L.getD 10 0), .inl (gCk g 0, 14, .inl (fun _ => 0))) :: ((L.getD 11 0), .inl (gCk g 0, 64, .inl (fun _ => 0))) :: ((L.getD 12 0), .inl (gCk g 4, 24, qr (fun _ => none))) :: ((L.getD 13 0), .inl (gCk g 10, 1, qr (fun _ => some a))) :: ((L.getD 14 0), .inl (gCk g 11, 1, qr (fun _ => some a))) :: ((L.getD 15 0), .inl (gCk g 12, 1, qr (fun _ => some a))) :: ((L.getD 16 0), .inl (gCk g 13, 1, qr (fun _ => some a))) :: ((L.getD 17 0), .inl (gCk g 14, 1, qr (fun _ => some a))) :: ((L.getD 18 0), .inl (gCk g 15, 1, qr (fun _ => some a))) :: ((L.getD 19 0), .inl (gCk g 17, 1, qr (fun _ => some a))) :: ((L.getD 20 0), lamE g 0) :: ((L.getD 21 0), .inl (gCk g 0, 300, .inl (fun _ => 0))) :: S
def srcL (ad : Nat → Nat) (n : Nat) : va_W := (List.range n).map fun j => (ad j, .inr (cSc j, srcF j))
abbrev coU : Type := List Nat × (Nat → Nat) × (Nat → Value) × (Nat → Value) × (Nat → Option Nat)
/-- what a core's constructor leaves -/
def coreL (g : gC) (W : va_W) (a cd : Nat) (u : coU) : Heap → Prop := fun H => Wo g W a 2 (coreV g cd u.1) (coreZ g a u.1 u.2.2.1 u.2.2.2.1 u.2.2.2.2 (srcL u.2.1 21)) H ∧ ∀ j, j < 21 → u.2.2.2.2 j = some (u.2.1 j)
theorem wo_in {g : gC} {W0 Z : va_W} {a ci z cj : Nat} {fs f : List Value} {H : Heap} (h : Wo g (W0 ++ (a, .inr (ci, fs)) :: Z) z cj f [] H) : Wo g W0 a ci fs (Z ++ [(z, .inr (cj, f))]) H := by
  unfold Wo at h ⊢
  rw [wo_app]
  exact h
theorem g_bodyA {l : Launch} {y : MethodName} {cc : ByteArray} {nL : Nat} {ret : Option FieldType} {own : String} {lvl mc : Nat} {as : List Value} {g : gC} {Pw : Heap → Prop} {Qc : Array Value → State → Outcome → State → Prop} (hy : plainFor y = true) (hc : y.cls = own) (hlen : (lg_sl as).length ≤ nL) (h : ∀ X, OkC g X cc nL ret own lvl mc Qc → (xs X).methodNamed? y = some (xm X) → (xh X).name = y.name → xl X = l → V X nL mc Pw 0 (lv_args 0 as) []) : Met l y (ws_ y cc nL ret) (rmz lvl mc) (va_Pc as (fun U => Pw U.heap ∧ KC g U)) Qc mc (8 * mc) (cA g) := by
  refine MetFree.of_bodySF (code := cc) (maxLocals := nL) (ret := ret) hy ?_ ?_
  · intro args s m h hn
    obtain ⟨meth, c, h1, h2, h3, h4, h5, h6, -, -⟩ := Cond.code_spec hn (atoms_spec (ws := ws_ y cc nL ret) h _ List.mem_cons_self)
    exact ⟨meth, c, h1, h2, h3, h4, h5, h6⟩
  · intro p e s m args below meth c s₁ B hml hP _
    have hh0 : s₁.heap = s.heap := by rw [B.state]; rfl
    obtain ⟨rfl, hW, hK⟩ := hP
    have hts := atoms_spec (ws := ws_ y cc nL ret) B.pre
    have hts : ∀ w ∈ lw_all, w.before _ s = true := fun w h => hts w (List.mem_cons_of_mem _ h)
    have hown : s.vm.findClass y.cls = some m.cls := findClass_of_methodNamed B.named
    have hnm := (name_of_methodNamed B.named B.method).1
    rw [hc] at hown
    have hl := lv_entry as hlen
    rw [lg_entry_eq]
    obtain ⟨t, a1, o, b1, b2, b3⟩ := h (p, l, e, rmz lvl mc, s, m, as.toArray, below, meth, c, MQ below Qc as.toArray s mc (8 * mc) (cA g), cA g) ⟨⟨B.exec, B.bytes, hml, hown, hts, B.returns, B.notSynchronized, rfl⟩, hK, rfl, fun _ h => h⟩ B.named hnm rfl s.heap [] 0 0 _ hW va_S.rf (by rw [Nat.zero_add]; exact Nat.le_refl _) (by rw [Nat.zero_add]; exact Nat.le_refl _) hl s₁ hh0 (Stand.of_body B)
    exact ⟨t, o, a1, b1, b2, ⟨b3.1, b3.2⟩⟩
section KCORE
variable {g : gC} {X : Cxt} {cc : ByteArray} {nL b lvl mc : Nat} {ret : Option FieldType} {own : String} {Qc : Array Value → State → Outcome → State → Prop} {pc q : Nat} {lv : List (Nat × Value)} {st rest : List Value} {W0 Z : va_W} {a ci : Nat} {fs : List Value}

theorem g_newT (O : OkC g X cc nL ret own lvl mc Qc) {ws : va_W} {idx b' : Nat} (hcl : Cond.classLink own idx "RankEntry$Trap" ∈ lw_all) (hb : b' + 1 = b) (d : decode cc pc = .ok (.new idx, 3)) (hq : pc + 3 = q) (kk : ∀ z, V X nL b' (PT g ws z) q lv (.ref z :: st)) : V X nL b (Wg g ws) pc lv st := by
  subst hq
  subst hb
  intro H lo ce sl ls h1 h2 h3 h4 h5
  have hts := O.1.ts
  have S2 := O.S h2
  obtain ⟨hP, hD⟩ := h1
  have hKn := O.2.1.1.1 4 (RX5, TX5, 7) rfl
  obtain ⟨c1, k1, hc1, hk1, -, -, -, hn7⟩ := Cond.instantiable_spec (hts _ q134)
  refine W.newcK O.1.ex O.1.bc O.1.ow (hts _ hcl) (hts _ q134) (hts _ q66) (g := F0 (xm X) pc ls st) rfl d (by omega) (by omega) hKn.2.1 rfl (fun H1 kC hkC e1 z1 o1 => ?_)
  cases hc1.symm.trans hKn.2.1
  cases hk1.symm.trans hkC
  have hk : ∀ (k : Nat) (x : Nat × va_E), ws[k]? = some x → H1[x.1]? = H[x.1]? := fun k x hx => o1 x.1 ((hP k x hx).lt)
  refine kk H.size H1 lo _ _ ls ⟨⟨(hP.kept hk).app (fun k x hx => ?_), hD.push hP rfl (O.free _ S2.1)⟩, _, e1, ?_⟩ (by rw [O.2.2.1]; exact ⟨Nat.le_trans S2.1 (by omega), fun x h1 h2 => (o1 x (Nat.lt_of_lt_of_le h1 S2.1)).trans (S2.2.1 x h1 h2), S2.2.2⟩) (by omega) (by omega) h5
  · have hz : k < 1 := (List.getElem?_eq_some_iff.mp hx).1
    rw [show k = 0 by omega] at hx
    cases hx
    exact ⟨_, rfl, (u_born tyX5 hts in_X5 hKn hkC e1 tyX5_ok).to (fun j hj => by
      have hj : j < 7 := hj
      have : j = 0 ∨ j = 1 ∨ j = 2 ∨ j = 3 ∨ j = 4 ∨ j = 5 ∨ j = 6 := by omega
      rcases this with rfl | rfl | rfl | rfl | rfl | rfl | rfl <;> rfl)⟩
  · simp [hn7]
theorem k_indy (O : OkC g X cc nL ret own lvl mc Qc) {x : MethodName} {index k y : Nat} {σ : Lambda.Shape} {C : String} {b' : Nat} (hx : (xs X).methodNamed? x = some (xm X)) (hs : (x, pc, index, σ, k, (none : Option Nat)) ∈ lamSites) (hT : LamT σ x.cls (.object C)) (hcap : σ.captured = [.object C]) (hr : (st.map fun v => v.category).sum ≤ 8) (hb : b' + 1 = b) (d : decode cc pc = .ok (.invokedynamic index, 5)) (hq : pc + 5 = q) (kk : ∀ z, V X nL b' (Wo g W0 a ci fs (Z ++ [(z, .inl (gCk g k, 1, qr (fun _ => some y)))])) q lv (.ref z :: st)) : V X nL b (Wo g W0 a ci fs Z) pc lv (.ref y :: st) := by
  subst hb
  exact g_indy (e := .inl (gCk g k, 1, qr (fun _ => some y))) O hx hs hT hcap rfl rfl ⟨(1, qr (fun _ => some y)), rfl, arr1 (f := fun _ => .ref y)⟩ (by show 1 + (st.map fun v => v.category).sum ≤ 100; omega) d hq (fun z => by have := kk z; unfold Wo at this; rw [wo_app] at this; exact this)
theorem k_const (O : OkC g X cc nL ret own lvl mc Qc) {P : Heap → Prop} {x : MethodName} {index k j : Nat} {σ : Lambda.Shape} (hx : (xs X).methodNamed? x = some (xm X)) (hs : (x, pc, index, σ, k, some j) ∈ lamSites) (hr : (st.map fun v => v.category).sum ≤ 8) (d : decode cc pc = .ok (.invokedynamic index, 5)) (hq : pc + 5 = q) (kk : V X nL b P q lv (.ref (gCo g j) :: st)) : V X nL b P pc lv st := by
  subst hq
  intro H lo ce sl ls h1 h2 h3 h4 h5
  have hsite := O.2.1.lam.1 _ hs
  intro T hT Y
  obtain ⟨m', kc, cf, i0, p0, lk, hm, hk, hcf, hsh, hin, hfind, hmade, hcan, hl⟩ := State.lambdaAt?_spec hsite
  cases hx.symm.trans hm
  rcases hl with ⟨a9, cell, y1, y2, -⟩ | ⟨-, y2, -⟩
  · cases y2
    subst y1
    obtain ⟨t, a1, b1⟩ := kk H lo ce sl ls h1 h2 h3 h4 h5 T hT Y
    refine ⟨t, ?_, b1⟩
    refine Y.lambdaConstant O.1.ex (g := F0 (xm X) pc ls st) rfl (h5.1.trans O.1.ml.symm) (by rw [O.1.bc]; exact d) hk hfind ?_ a1
    rw [show (xe X).platform.lambdaLinkWords = 3072 by rw [Y.admits.platform], O.1.rm]
    show 2 * 0 + (st.map fun v => v.category).sum + 3072 ≤ 60 * lvl + 3200
    omega
  · cases y2
theorem k_by (O : OkC g X cc nL ret own lvl mc Qc) {idx b' : Nat} {v : Int32} {host : String} (hl : Cond.methodLinkNest own idx yX1_by host ∈ lw_tbl) (hlv : 1 ≤ lvl) (hst : st = .int v :: rest) (hr : (rest.map fun v => v.category).sum ≤ 8) (d : decode cc pc = .ok (.invokestatic idx, 3)) (hq : pc + 3 = q) (hb : b' + 1 = b) (kk : ∀ z, V X nL b' (Wo g W0 a ci fs (Z ++ [(z, lamE g v)])) q lv (.ref z :: rest)) : V X nL b (Wo g W0 a ci fs Z) pc lv st :=
  g_callBy O hl hlv hst hr d hq hb (fun z => by have := kk z; unfold Wo at this; rw [wo_app] at this; exact this)
theorem w_get {W0 l : va_W} {k : Nat} : (W0 ++ l)[W0.length + k]? = l[k]? := by
  rw [List.getElem?_append_right (Nat.le_add_right _ _), Nat.add_sub_cancel_left]
theorem w_set {W0 l : va_W} {k : Nat} {x : Nat × va_E} : (W0 ++ l).set (W0.length + k) x = W0 ++ l.set k x := by
  rw [List.set_append_right _ _ (Nat.le_add_right _ _), Nat.add_sub_cancel_left]
/-- all[i] = what was just made -/
theorem k_all (O : OkC g X cc nL ret own lvl mc Qc) {cd z i : Nat} {L : List Nat} {t0 t1 : Nat → Value} {F : Nat → Option Nat} {S : va_W} (hi : i < 21) (d : decode cc pc = .ok (.aastore, 1)) (hq : pc + 1 = q) (kk : V X nL b (Wo g W0 a 2 (coreV g cd L) (coreZ g a L t0 t1 (va_up F i (some z)) (S ++ [(z, .inr (cSc i, srcF i))]))) q lv st) : V X nL b (Wg g ((W0 ++ (a, .inr (2, coreV g cd L)) :: coreZ g a L t0 t1 F S) ++ [(z, .inr (cSc i, srcF i))])) pc lv (.ref z :: .int (nI i) :: .ref (L.getD 6 0) :: st) := by
  subst hq
  intro H lo ce sl ls h1 h2 h3 h4 h5
  obtain ⟨hP, hD⟩ := h1
  have ha : ((W0 ++ (a, .inr (2, coreV g cd L)) :: coreZ g a L t0 t1 F S) ++ [(z, (.inr (cSc i, srcF i) : va_E))])[W0.length + 7]? = some (L.getD 6 0, .inl (gCk g 3, 21, qr F)) := by
    rw [List.append_assoc, w_get]
    rfl
  have hv : ((W0 ++ (a, .inr (2, coreV g cd L)) :: coreZ g a L t0 t1 F S) ++ [(z, (.inr (cSc i, srcF i) : va_E))])[(W0 ++ (a, (.inr (2, coreV g cd L) : va_E)) :: coreZ g a L t0 t1 F S).length]? = some (z, .inr (cSc i, srcF i)) := by simp
  have hin : vp_in (nI i) 21 := inb_in (inb_nI (show i < 21 by omega) (by decide))
  have go : ∀ (r : vw_C), cCl[cSc i]? = some r → Cond.castable r.1 "RankEntry$Source" ∈ lw_tbl → xW X H lo ce sl (F0 (xm X) pc ls (.ref z :: .int (nI i) :: .ref (L.getD 6 0) :: st)) := fun r hr hc => by
    refine va_astqO O.1.ex O.1.bc O.2.1.1 hP hD (O.S h2) (W0.length + 7) 3 (W0 ++ (a, (.inr (2, coreV g cd L) : va_E)) :: coreZ g a L t0 t1 F S).length (cSc i) ha rfl (O.2.1.nest _ (List.mem_filter.mpr ⟨hc, rfl⟩)) hv hr hin d (fun H1 lo1 p1 p2 p3 => ?_)
    rw [List.append_assoc, w_set, nI_clamp (show i < 2 ^ 31 by omega)] at p1 p2
    exact kk H1 lo1 ce sl ls ⟨p1, p2⟩ (by rw [O.2.2.1]; exact p3) h3 h4 h5
  unfold cSc at go
  by_cases c1 : i < 8
  · rw [if_pos c1] at go
    exact go _ rfl q2241
  · rw [if_neg c1] at go
    by_cases c2 : i < 16
    · rw [if_pos c2] at go
      exact go _ rfl q2242
    · rw [if_neg c2] at go
      by_cases c3 : i < 20
      · rw [if_pos c3] at go
        exact go _ rfl q2243
      · rw [if_neg c3] at go
        exact go _ rfl q2244
theorem k_putL (O : OkC g X cc nL ret own lvl mc Qc) {idx : Nat} {ref Cn : String} {T : u_T} {N : Nat} (k : Nat) {fs' : List Value} {v : Value} {ty : FieldType} {ty0 : Nat → FieldType} (hs' : fs.set k v = fs') (hin : ∀ w ∈ u_ws Cn T N, w ∈ lw_all) (hty : ∀ k, k < N → parseFieldDescriptor (T k).2.2.1 = some (ty0 k)) (hnn : ∀ a, a < N → ∀ b, b < N → a ≠ b → (T a).2.1 ≠ (T b).2.1) (hci : cCl[ci]? = some (Cn, T, N)) (hk : k < N) (hl : Cond.fieldLink own idx ref (T k).2.1 (T k).2.2.1 ∈ lw_all) (hs : (T k).1 = ref ∨ Cond.sameField ref (T k).1 (T k).2.1 (T k).2.2.1 ∈ lw_all) (hfin : (T k).2.2.2 = false) (hd : parseFieldDescriptor (T k).2.2.1 = some ty) (hn : narrow ty v = v) (hf : fits ty v = true) (hlf : k < fs.length) (d : decode cc pc = .ok (.putfield idx, 3)) (hq : pc + 3 = q) (kk : V X nL b (Wo g W0 a ci fs' Z) q lv st) : V X nL b (Wo g W0 a ci fs Z) pc lv (v :: .ref a :: st) := by
  subst hs'
  exact k_put O k hin hty hnn hci hk hl hs hfin hd hn hf hlf d hq kk
theorem k_putFL (O : OkC g X cc nL ret own lvl mc Qc) (hnm : (xh X).name = "<init>") {idx : Nat} {Cn : String} {T : u_T} {N : Nat} (k : Nat) {fs' : List Value} {v : Value} {ty : FieldType} {ty0 : Nat → FieldType} (hs' : fs.set k v = fs') (hin : ∀ w ∈ u_ws Cn T N, w ∈ lw_all) (hty : ∀ k, k < N → parseFieldDescriptor (T k).2.2.1 = some (ty0 k)) (hnn : ∀ a, a < N → ∀ b, b < N → a ≠ b → (T a).2.1 ≠ (T b).2.1) (hci : cCl[ci]? = some (Cn, T, N)) (hk : k < N) (hl : Cond.fieldLink own idx own (T k).2.1 (T k).2.2.1 ∈ lw_all) (hT : (T k).1 = own) (hfin : (T k).2.2.2 = true) (hd : parseFieldDescriptor (T k).2.2.1 = some ty) (hn : narrow ty v = v) (hf : fits ty v = true) (hlf : k < fs.length) (d : decode cc pc = .ok (.putfield idx, 3)) (hq : pc + 3 = q) (kk : V X nL b (Wo g W0 a ci fs' Z) q lv st) : V X nL b (Wo g W0 a ci fs Z) pc lv (v :: .ref a :: st) := by
  subst hs'
  exact k_putF O hnm k hin hty hnn hci hk hl hT hfin hd hn hf hlf d hq kk
end KCORE
theorem lt_runs : LamT (lshP "running") "RankEntry$Core" (.object "RankEntry$Core") := LamT.mk (by decide +kernel) (by decide +kernel) (by decide +kernel)
theorem lt_stacks : LamT (lshP "stacking") "RankEntry$Core" (.object "RankEntry$Core") := LamT.mk (by decide +kernel) (by decide +kernel) (by decide +kernel)
theorem lt_chains : LamT (lshP "chaining") "RankEntry$Core" (.object "RankEntry$Core") := LamT.mk (by decide +kernel) (by decide +kernel) (by decide +kernel)
theorem lt_unstacks : LamT (lshP "unstacking") "RankEntry$Core" (.object "RankEntry$Core") := LamT.mk (by decide +kernel) (by decide +kernel) (by decide +kernel)
theorem lt_saves : LamT (lshP "saving") "RankEntry$Core" (.object "RankEntry$Core") := LamT.mk (by decide +kernel) (by decide +kernel) (by decide +kernel)
theorem lt_locks : LamT (lshP "locked") "RankEntry$Core" (.object "RankEntry$Core") := LamT.mk (by decide +kernel) (by decide +kernel) (by decide +kernel)
theorem lt_earliest : LamT lshE "RankEntry$Core" (.object "RankEntry$Core") := LamT.mk (by decide +kernel) (by decide +kernel) (by decide +kernel)
theorem core_loop {l : Launch} {g : gC} {X : Cxt} {W : va_W} {a cd : Nat} {L : List Nat} {t0 t1 : Nat → Value} (O : OkC g X cX4_init 3 none "RankEntry$Core" 6 133 (kQ g (coreL g W a cd))) (hxl : xl X = l) : ∀ (n i : Nat) (F : Nat → Option Nat) (ad : Nat → Nat), i + n = 21 → (∀ j, j < i → F j = some (ad j)) → V X 3 (2 * n) (Wo g W a 2 (coreV g cd L) (coreZ g a L t0 t1 F (srcL ad i))) 274 [(0, .ref a), (1, .ref cd), (2, .int (nI i))] [] := by
  intro n
  induction n with
  | zero =>
    intro i F ad hi hF
    have ei : i = 21 := by omega
    subst ei
    refine v_iload_n O.1 dX4_init_274 rfl (q := 275) rfl ?_
    refine v_bipush O.1 dX4_init_275 (v := 21) (by decide) (q := 277) rfl ?_
    refine v_icmp_ge O.1 dX4_init_277 (t := 296) (by decide) (q := 280) rfl (fun _ => ?_) (fun z => absurd (show (21 : Int32) ≤ nI 21 by decide) z)
    refine v_world (P' := coreL g W a cd (L, ad, t0, t1, F)) (fun H h => ⟨h, hF⟩) ?_
    exact k_vret O (L, ad, t0, t1, F) dX4_init_296
  | succ n ih =>
    intro i F ad hi hF
    refine v_iload_n O.1 dX4_init_274 rfl (q := 275) rfl ?_
    refine v_bipush O.1 dX4_init_275 (v := 21) (by decide) (q := 277) rfl ?_
    refine v_icmp_ge O.1 dX4_init_277 (t := 296) (by decide) (q := 280) rfl (fun z => absurd z (nI_ge (a := i) (b := 21) (by omega) (by decide))) (fun _ => ?_)
    refine v_aload_n O.1 dX4_init_280 rfl (q := 281) rfl ?_
    refine k_get (Cn := RX4) (T := TX4) (N := 55) O 7 (v := .ref (L.getD 6 0)) in_X4 rfl (by decide) q848 rfl rfl dX4_init_281 (q := 284) rfl ?_
    refine v_iload_n O.1 dX4_init_284 rfl (q := 285) rfl ?_
    refine v_iload_n O.1 dX4_init_285 rfl (q := 286) rfl ?_
    refine g_callRN (As := [.int (nI i)]) (rest := [.int (nI i), .ref (L.getD 6 0)]) (n := 1) (b' := 2 * n) (mc' := 2) (lvl' := 4) O (metk_made _ g i (by omega) _) q720 q59 q721 q722 (by decide +kernel) (by decide) (by decide) rfl rfl (Nat.le_of_ble_eq_true rfl) dX4_init_286 (q := 289) rfl (by omega) (fun _ z => ?_)
    refine k_all O (show i < 21 by omega) dX4_init_289 (q := 290) rfl ?_
    refine v_iinc (lv' := [(2, .int (nI (i + 1))), (0, .ref a), (1, .ref cd)]) (v := nI (i + 1)) O.1 dX4_init_290 rfl (nI_1 i) (by decide) rfl (q := 293) rfl ?_
    refine v_goto O.1 dX4_init_293 (t := 274) (by decide) ?_
    refine v_sub [1, 2, 0] rfl ?_
    have e1 : srcL ad i ++ [(z, .inr (cSc i, srcF i))] = srcL (fun j => if j = i then z else ad j) (i + 1) := by
      unfold srcL
      rw [List.range_succ, List.map_append]
      congr 1
      · refine List.map_congr_left (fun j hj => ?_)
        show (ad j, _) = ((if j = i then z else ad j), _)
        rw [if_neg (show ¬ j = i by have := List.mem_range.mp hj; omega)]
      · simp
    rw [e1]
    refine ih (i + 1) _ _ (by omega) (fun j hj => ?_)
    by_cases e : j = i
    · rw [e, if_pos rfl]
      simp [va_up]
    · rw [if_neg e, show va_up F i (some z) j = F j by simp [va_up, e]]
      exact hF j (by omega)
