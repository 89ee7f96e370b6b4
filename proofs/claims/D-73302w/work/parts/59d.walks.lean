/-! WAYS THROUGH THE CODE: the model goes through all ways, each place behind those that lead to it -/
def EB (K : Nat → Nat) (f : Nat → Int) (s p : Nat) (v : Int) : Prop := (∀ n x, pw K f n s p x → x ≤ v) ∧ ∃ n, pw K f n s p v
def Ed (K : Nat → Nat) (D : Nat → Bool) (c w p q : Nat) : Prop := D p = true ∧ gE K p q ∧ (p = c → ∃ w', w' < w ∧ gT K c w' = q)
def lef (K : Nat → Nat) (mt D : Nat → Bool) (q : Nat) : Nat := sm (fun p => if (mt p && !D p) = true then ce K p q else 0) 512
def rem (K : Nat → Nat) (c w q : Nat) : Nat := sm (fun w' => if w ≤ w' ∧ gT K c w' = q then 1 else 0) (gW (K c))
theorem rem_s {K : Nat → Nat} {c w q : Nat} (hw : w < gW (K c)) : rem K c w q = rem K c (w + 1) q + if gT K c w = q then 1 else 0 := by
  have := sm_up (f := fun w' => if w + 1 ≤ w' ∧ gT K c w' = q then 1 else 0) (g := fun w' => if w ≤ w' ∧ gT K c w' = q then 1 else 0) (j := w) (n := gW (K c)) hw (fun i _ hi => by
    show (if w ≤ i ∧ gT K c i = q then 1 else 0) = (if w + 1 ≤ i ∧ gT K c i = q then 1 else 0)
    by_cases z : w ≤ i ∧ gT K c i = q
    · rw [if_pos z, if_pos ⟨by omega, z.2⟩]
    · rw [if_neg z, if_neg (fun y => z ⟨by omega, y.2⟩)])
  have this : rem K c w q + (if w + 1 ≤ w ∧ gT K c w = q then 1 else 0) = rem K c (w + 1) q + (if w ≤ w ∧ gT K c w = q then 1 else 0) := this
  rw [if_neg (fun z => by omega)] at this
  by_cases z : gT K c w = q
  · rw [if_pos ⟨Nat.le_refl _, z⟩] at this
    rw [if_pos z]
    omega
  · rw [if_neg (fun y => z y.2)] at this
    rw [if_neg z]
    omega
theorem rem_end {K : Nat → Nat} {c q : Nat} : rem K c (gW (K c)) q = 0 := sm_zero (fun i hi => if_neg (fun z => by omega))
theorem rem_all {K : Nat → Nat} {c q : Nat} : rem K c 0 q = ce K c q := sm_congr (fun i _ => by
  show (if 0 ≤ i ∧ gT K c i = q then 1 else 0) = (if gT K c i = q then 1 else 0)
  by_cases z : gT K c i = q
  · rw [if_pos ⟨Nat.zero_le _, z⟩, if_pos z]
  · rw [if_neg (fun y => z y.2), if_neg z])
theorem lef_le {K : Nat → Nat} {mt D : Nat → Bool} {q : Nat} : lef K mt D q ≤ 1024 := by
  have := sm_le (f := fun p => if (mt p && !D p) = true then ce K p q else 0) (c := 2) (n := 512) (fun i _ => by
    show (if (mt i && !D i) = true then ce K i q else 0) ≤ 2
    split
    · exact ce_le
    · exact Nat.zero_le _)
  unfold lef
  omega
theorem rem_le {K : Nat → Nat} {c w q : Nat} : rem K c w q ≤ 2 := by
  have := sm_le (f := fun w' => if w ≤ w' ∧ gT K c w' = q then 1 else 0) (c := 1) (n := gW (K c)) (fun i _ => by show (if w ≤ i ∧ gT K c i = q then 1 else 0) ≤ 1; split <;> decide)
  have := gW_le (v := K c)
  unfold rem
  omega
/-- what the look found: places that are come to -/
def MT (K : Nat → Nat) (s : Nat) (mt : Nat → Bool) : Prop := mt s = true ∧ ∀ p, mt p = true → p < 512 ∧ gOk (K p) ∧ (∀ w, w < gW (K p) → mt (gT K p w) = true) ∧ ∃ m, wk K m s p
theorem MT.of {K : Nat → Nat} {s : Nat} {mt : Nat → Bool} (h : MT K s mt) : ∀ {n p : Nat}, wk K n s p → mt p = true := by
  intro n
  induction n with
  | zero =>
    intro p hp
    have hp : s = p := hp
    rw [← hp]; exact h.1
  | succ n ih =>
    intro p hp
    obtain ⟨q, h1, w, hw, h2⟩ := hp
    have := (h.2 q (ih h1)).2.2.1 w hw
    rw [h2] at this
    exact this
/-- the walk's state: n pushed, kk done, of c the ways before w -/
def KI (K : Nat → Nat) (s : Nat) (mt : Nat → Bool) (n kk c w : Nat) (H : Nat → Nat) (D Pp : Nat → Bool) (ey eh : Nat → Int) (M : Mem) : Prop :=
  1 ≤ n ∧ kk ≤ n ∧ H 0 = s ∧
  (∀ i, i < n → mt (H i) = true ∧ M 17 i = nI (H i)) ∧
  (∀ i j, i < j → j < n → ¬ H i = H j) ∧
  (∀ p, D p = true ↔ ∃ i, i < kk ∧ H i = p) ∧
  (∀ p, Pp p = true ↔ ∃ i, i < n ∧ H i = p) ∧
  n = sm (fun p => if Pp p = true then 1 else 0) 512 ∧
  (∀ q, q < 512 → M 14 q = nI (lef K mt D q + rem K c w q)) ∧
  (∀ q, mt q = true → ¬ q = s → (Pp q = true ↔ lef K mt D q + rem K c w q = 0)) ∧
  (∀ j p, j < n → mt p = true → gE K p (H j) → ∃ i, i < j ∧ H i = p) ∧
  (∀ p, D p = true → EB K (fY K) s p (ey p) ∧ EB K (fP K) s p (eh p) ∧ 1 ≤ ey p ∧ ey p ≤ 4 * (kk : Int) ∧ -(kk : Int) ≤ eh p ∧ eh p ≤ (kk : Int)) ∧
  (∀ q, q < 512 → (∀ p, Ed K D c w p q → ey p ≤ (M 15 q).toInt ∧ eh p ≤ (M 16 q).toInt) ∧ ((¬ ∃ p, Ed K D c w p q) → M 15 q = 0 ∧ M 16 q = 0) ∧ ((∃ p, Ed K D c w p q) → (∃ p, Ed K D c w p q ∧ ey p = (M 15 q).toInt) ∧ ∃ p, Ed K D c w p q ∧ eh p = (M 16 q).toInt)) ∧
  (0 ≤ (M 0 23).toInt ∧ (∀ p, D p = true → ey p ≤ (M 0 23).toInt) ∧ ((M 0 23).toInt = 0 ∨ ∃ p, D p = true ∧ ey p = (M 0 23).toInt)) ∧
  (0 ≤ (M 0 24).toInt ∧ (∀ p, D p = true → eh p ≤ (M 0 24).toInt) ∧ ((M 0 24).toInt = 0 ∨ ∃ p, D p = true ∧ eh p = (M 0 24).toInt)) ∧
  CodeM K M
theorem KI.le {K : Nat → Nat} {s n kk c w : Nat} {mt D Pp : Nat → Bool} {H : Nat → Nat} {ey eh : Nat → Int} {M : Mem} (hT : MT K s mt) (h : KI K s mt n kk c w H D Pp ey eh M) : n ≤ sm (fun p => if mt p = true then 1 else 0) 512 ∧ n ≤ 512 := by
  obtain ⟨h1, h2, h3, h4, h5, h6, h7, h8, -⟩ := h
  have a1 := sm_mono (f := fun p => if Pp p = true then 1 else 0) (g := fun p => if mt p = true then 1 else 0) (n := 512) (fun i _ => by
    show (if Pp i = true then 1 else 0) ≤ (if mt i = true then 1 else 0)
    by_cases z : Pp i = true
    · obtain ⟨j, j1, j2⟩ := (h7 i).mp z
      have := (h4 j j1).1
      rw [j2] at this
      rw [if_pos z, if_pos this]
      exact Nat.le_refl _
    · rw [if_neg z]
      exact Nat.zero_le _)
  have a2 := sm_le (f := fun p => if Pp p = true then 1 else 0) (c := 1) (n := 512) (fun i _ => by show (if Pp i = true then 1 else 0) ≤ 1; split <;> decide)
  omega
/-- a place is taken off the heap -/
def aSet (e : Nat → Int) (p : Nat) (v : Int) : Nat → Int := fun q => if q = p then v else e q
theorem aSet_e {e : Nat → Int} {p : Nat} {v : Int} : aSet e p v p = v := if_pos rfl
theorem aSet_n {e : Nat → Int} {p q : Nat} {v : Int} (h : ¬ q = p) : aSet e p v q = e q := if_neg h
def mxJ (a b : Int) : Int := if b ≤ a then a else b
theorem KI.take {K : Nat → Nat} {s n kk c0 : Nat} {mt D Pp : Nat → Bool} {H : Nat → Nat} {ey eh : Nat → Int} {M M' : Mem} (hT : MT K s mt) (h : KI K s mt n kk c0 (gW (K c0)) H D Pp ey eh M) (hk : kk < n)
    (m1 : ∀ o j, (¬ o = 0 ∨ (¬ j = 23 ∧ ¬ j = 24)) → M' o j = M o j)
    (m2 : (M' 0 23).toInt = mxJ (M 0 23).toInt ((M 15 (H kk)).toInt + gY (K (H kk)))) (m3 : (M' 0 24).toInt = mxJ (M 0 24).toInt ((M 16 (H kk)).toInt + gP (K (H kk)))) :
    ∃ D', KI K s mt n (kk + 1) (H kk) 0 H D' Pp (aSet ey (H kk) ((M 15 (H kk)).toInt + gY (K (H kk)))) (aSet eh (H kk) ((M 16 (H kk)).toInt + gP (K (H kk)))) M' ∧ D' (H kk) = true := by
  obtain ⟨h1, h2, h3, h4, h5, h6, h7, h8, h9, h10, h11, h12, h13, h14, h15, h16⟩ := h
  generalize hc : H kk = c at *
  have hmc : mt c = true := by rw [← hc]; exact (h4 kk hk).1
  obtain ⟨c1, c2, c3, c4⟩ := hT.2 c hmc
  have hnd : ∀ p, D p = true → ¬ p = c := fun p hp z => by
    obtain ⟨i, i1, i2⟩ := (h6 p).mp hp
    exact h5 i kk i1 hk (by rw [i2, hc, z])
  have hDc : ¬ D c = true := fun z => hnd c z rfl
  have hy := gY_b (K c) (by have := c2.2.1; omega) c2.1
  have hp : -1 ≤ gP (K c) ∧ gP (K c) ≤ 1 := by
    unfold gP
    split
    · omega
    · split <;> omega
  -- all that lead to it are done
  have hpred : ∀ p, mt p = true → gE K p c → D p = true := fun p hp he => by
    rw [← hc] at he
    obtain ⟨i, i1, i2⟩ := h11 kk p hk hp he
    exact (h6 p).mpr ⟨i, i1, i2⟩
  have hEd : ∀ p q, Ed K D c0 (gW (K c0)) p q ↔ D p = true ∧ gE K p q := fun p q => by
    constructor
    · rintro ⟨a1, a2, -⟩
      exact ⟨a1, a2⟩
    · rintro ⟨a1, a2⟩
      exact ⟨a1, a2, fun z => by subst z; exact a2⟩
  obtain ⟨d1, d2, d3⟩ := h13 c c1
  -- what is best to it
  have key : ∀ (f : Nat → Int) (e : Nat → Int) (x : Int), (∀ p, D p = true → EB K f s p (e p)) → (∀ p, Ed K D c0 (gW (K c0)) p c → e p ≤ x) → ((¬ ∃ p, Ed K D c0 (gW (K c0)) p c) → x = 0) → ((∃ p, Ed K D c0 (gW (K c0)) p c) → ∃ p, Ed K D c0 (gW (K c0)) p c ∧ e p = x) → EB K f s c (x + f c) := by
    intro f e x g1 g2 g3 g4
    refine ⟨fun m y hm => ?_, ?_⟩
    · cases m with
      | zero =>
        obtain ⟨e1, e2⟩ := hm
        subst e1
        have : x = 0 := g3 (fun ⟨p, z⟩ => by
          obtain ⟨z1, z2⟩ := (hEd _ _).mp z
          obtain ⟨i, i1, i2⟩ := (h6 p).mp z1
          have hmp := (h4 i (by omega)).1
          rw [i2] at hmp
          obtain ⟨j, j1, -⟩ := h11 0 p (by omega) hmp (by rw [h3]; exact z2)
          omega)
        omega
      | succ m =>
        obtain ⟨q, z, e1, e2, e3⟩ := hm
        have hq : D q = true := hpred q (hT.of (pw_wk e1)) e2
        have a1 := (g1 q hq).1 m z e1
        have a2 := g2 q ((hEd _ _).mpr ⟨hq, e2⟩)
        omega
    · by_cases z : ∃ p, Ed K D c0 (gW (K c0)) p c
      · obtain ⟨p, z1, z2⟩ := g4 z
        obtain ⟨z3, z4⟩ := (hEd _ _).mp z1
        obtain ⟨m, hm⟩ := (g1 p z3).2
        exact ⟨m + 1, p, e p, hm, z4, by rw [z2]⟩
      · have hx := g3 z
        have hcs : s = c := by
          apply Classical.byContradiction
          intro hne
          obtain ⟨m, hm⟩ := c4
          cases m with
          | zero => exact hne hm
          | succ m =>
            obtain ⟨q, e1, e2⟩ := hm
            exact z ⟨q, (hEd _ _).mpr ⟨hpred q (hT.of e1) e2, e2⟩⟩
        exact ⟨0, hcs, by rw [hx, Int.zero_add, hcs]⟩
  have kY := key (fY K) ey (M 15 c).toInt (fun p hp => (h12 p hp).1) (fun p hp => (d1 p hp).1) (fun z => by rw [(d2 z).1]; rfl) (fun z => (d3 z).1)
  have kP := key (fP K) eh (M 16 c).toInt (fun p hp => (h12 p hp).2.1) (fun p hp => (d1 p hp).2) (fun z => by rw [(d2 z).2]; rfl) (fun z => (d3 z).2)
  have bY : 0 ≤ (M 15 c).toInt ∧ (M 15 c).toInt ≤ 4 * (kk : Int) ∧ -(kk : Int) ≤ (M 16 c).toInt ∧ (M 16 c).toInt ≤ (kk : Int) := by
    by_cases z : ∃ p, Ed K D c0 (gW (K c0)) p c
    · obtain ⟨⟨p, p1, p2⟩, p', p3, p4⟩ := d3 z
      have q1 := h12 p p1.1
      have q2 := h12 p' p3.1
      omega
    · obtain ⟨z1, z2⟩ := d2 z
      rw [z1, z2]
      have : (0 : Int32).toInt = 0 := rfl
      omega
  have hlef : ∀ q, lef K mt (fun p => D p || decide (p = c)) q + rem K c 0 q = lef K mt D q + rem K c0 (gW (K c0)) q := by
    intro q
    rw [rem_end, rem_all]
    have := sm_up (f := fun p => if (mt p && !D p) = true then ce K p q else 0) (g := fun p => if (mt p && !(D p || decide (p = c))) = true then ce K p q else 0) (j := c) (n := 512) c1 (fun i _ hi => by
      show (if (mt i && !(D i || decide (i = c))) = true then ce K i q else 0) = (if (mt i && !D i) = true then ce K i q else 0)
      rw [decide_eq_false hi, Bool.or_false])
    have this : lef K mt (fun p => D p || decide (p = c)) q + (if (mt c && !D c) = true then ce K c q else 0) = lef K mt D q + (if (mt c && !(D c || decide (c = c))) = true then ce K c q else 0) := this
    rw [decide_eq_true rfl, Bool.or_true, Bool.not_true, Bool.and_false, if_neg (show ¬ false = true by decide), hmc, Bool.true_and] at this
    have hf : D c = false := by
      cases z : D c with
      | true => exact absurd z hDc
      | false => rfl
    rw [hf, Bool.not_false, if_pos rfl] at this
    omega
  have hEd2 : ∀ p q, Ed K (fun p => D p || decide (p = c)) c 0 p q ↔ Ed K D c0 (gW (K c0)) p q := fun p q => by
    rw [hEd]
    constructor
    · rintro ⟨a1, a2, a3⟩
      have a1 : (D p || decide (p = c)) = true := a1
      simp only [Bool.or_eq_true, decide_eq_true_eq] at a1
      rcases a1 with a1 | a1
      · exact ⟨a1, a2⟩
      · obtain ⟨w', z, -⟩ := a3 a1
        omega
    · rintro ⟨a1, a2⟩
      exact ⟨by show (D p || decide (p = c)) = true; rw [a1, Bool.true_or], a2, fun z => absurd z (hnd p a1)⟩
  refine ⟨fun p => D p || decide (p = c), ⟨h1, hk, h3, fun i hi => ?_, h5, fun p => ?_, h7, h8, fun q hq => ?_, fun q hq hne => ?_, h11, fun p hp => ?_, fun q hq => ?_, ?_, ?_, h16.fr (fun j _ => m1 1 j (by omega))⟩, by show (D c || decide (c = c)) = true; rw [decide_eq_true rfl, Bool.or_true]⟩
  · rw [m1 17 i (by omega)]
    exact h4 i hi
  · show (D p || decide (p = c)) = true ↔ _
    simp only [Bool.or_eq_true, decide_eq_true_eq]
    rw [h6 p]
    constructor
    · rintro (⟨i, i1, i2⟩ | z)
      · exact ⟨i, by omega, i2⟩
      · exact ⟨kk, by omega, by rw [hc]; exact z.symm⟩
    · rintro ⟨i, i1, i2⟩
      by_cases e : i = kk
      · right; rw [← i2, e, hc]
      · left; exact ⟨i, by omega, i2⟩
  · rw [m1 14 q (by omega), hlef]
    exact h9 q hq
  · rw [hlef]
    exact h10 q hq hne
  · by_cases e : p = c
    · subst e
      rw [aSet_e, aSet_e]
      refine ⟨kY, kP, ?_, ?_, ?_, ?_⟩ <;> omega
    · rw [aSet_n e, aSet_n e]
      have hp : (D p || decide (p = c)) = true := hp
      simp only [Bool.or_eq_true, decide_eq_true_eq] at hp
      obtain ⟨q1, q2, q3, q4, q5, q6⟩ := h12 p (by rcases hp with z | z; exact z; exact absurd z e)
      refine ⟨q1, q2, q3, ?_, ?_, ?_⟩ <;> omega
  · rw [m1 15 q (by omega), m1 16 q (by omega)]
    obtain ⟨g1, g2, g3⟩ := h13 q hq
    have tr : ∀ p, Ed K (fun p => D p || decide (p = c)) c 0 p q → Ed K D c0 (gW (K c0)) p q ∧ ¬ p = c := fun p z => by
      have := (hEd2 p q).mp z
      exact ⟨this, hnd p this.1⟩
    refine ⟨fun p hp => ?_, fun z => g2 (fun ⟨p, y⟩ => z ⟨p, (hEd2 p q).mpr y⟩), fun ⟨p, z⟩ => ?_⟩
    · obtain ⟨y1, y2⟩ := tr p hp
      rw [aSet_n y2, aSet_n y2]
      exact g1 p y1
    · obtain ⟨⟨p1, z1, z2⟩, p2, z3, z4⟩ := g3 ⟨p, (tr p z).1⟩
      exact ⟨⟨p1, (hEd2 _ _).mpr z1, by rw [aSet_n (hnd p1 z1.1)]; exact z2⟩, p2, (hEd2 _ _).mpr z3, by rw [aSet_n (hnd p2 z3.1)]; exact z4⟩
  · obtain ⟨g1, g2, g3⟩ := h14
    rw [m2]
    unfold mxJ
    refine ⟨by split <;> omega, fun p hp => ?_, ?_⟩
    · have hp : (D p || decide (p = c)) = true := hp
      simp only [Bool.or_eq_true, decide_eq_true_eq] at hp
      by_cases e : p = c
      · subst e
        rw [aSet_e]
        split <;> omega
      · rw [aSet_n e]
        have := g2 p (by rcases hp with z | z; exact z; exact absurd z e)
        split <;> omega
    · split
      · rcases g3 with z | ⟨p, z1, z2⟩
        · exact Or.inl z
        · exact Or.inr ⟨p, by show (D p || decide (p = c)) = true; rw [z1, Bool.true_or], by rw [aSet_n (hnd p z1)]; exact z2⟩
      · exact Or.inr ⟨c, by show (D c || decide (c = c)) = true; rw [decide_eq_true rfl, Bool.or_true], aSet_e⟩
  · obtain ⟨g1, g2, g3⟩ := h15
    rw [m3]
    unfold mxJ
    refine ⟨by split <;> omega, fun p hp => ?_, ?_⟩
    · have hp : (D p || decide (p = c)) = true := hp
      simp only [Bool.or_eq_true, decide_eq_true_eq] at hp
      by_cases e : p = c
      · subst e
        rw [aSet_e]
        split <;> omega
      · rw [aSet_n e]
        have := g2 p (by rcases hp with z | z; exact z; exact absurd z e)
        split <;> omega
    · split
      · rcases g3 with z | ⟨p, z1, z2⟩
        · exact Or.inl z
        · exact Or.inr ⟨p, by show (D p || decide (p = c)) = true; rw [z1, Bool.true_or], by rw [aSet_n (hnd p z1)]; exact z2⟩
      · exact Or.inr ⟨c, by show (D c || decide (c = c)) = true; rw [decide_eq_true rfl, Bool.or_true], aSet_e⟩
theorem add_toInt {a b : Int32} (h1 : -2147483648 ≤ a.toInt + b.toInt) (h2 : a.toInt + b.toInt < 2147483648) : (a + b).toInt = a.toInt + b.toInt := by
  rw [Int32.toInt_add]
  exact Int.bmod_eq_of_le (by omega) (by omega)
abbrev V13 (K : Nat → Nat) (D : Nat → Bool) (c w : Nat) (ey eh : Nat → Int) (M : Mem) (q : Nat) : Prop := (∀ p, Ed K D c w p q → ey p ≤ (M 15 q).toInt ∧ eh p ≤ (M 16 q).toInt) ∧ ((¬ ∃ p, Ed K D c w p q) → M 15 q = 0 ∧ M 16 q = 0) ∧ ((∃ p, Ed K D c w p q) → (∃ p, Ed K D c w p q ∧ ey p = (M 15 q).toInt) ∧ ∃ p, Ed K D c w p q ∧ eh p = (M 16 q).toInt)
theorem way_13 {K : Nat → Nat} {c w : Nat} {D : Nat → Bool} {ey eh : Nat → Int} {M M' : Mem} (hD : D c = true) (hw : w < gW (K c)) (h1 : ∀ p, D p = true → 1 ≤ ey p) (h : ∀ q, q < 512 → V13 K D c w ey eh M q) (a : ∀ q, ¬ q = gT K c w → M' 15 q = M 15 q ∧ M' 16 q = M 16 q) (b15 : (M' 15 (gT K c w)).toInt = mxJ (M 15 (gT K c w)).toInt (ey c)) (b16 : (M' 16 (gT K c w)).toInt = if M 15 (gT K c w) = 0 then eh c else mxJ (M 16 (gT K c w)).toInt (eh c)) : ∀ q, q < 512 → V13 K D c (w + 1) ey eh M' q := by
  intro q hq
  obtain ⟨g1, g2, g3⟩ := h q hq
  have up : ∀ p, Ed K D c w p q → Ed K D c (w + 1) p q := fun p ⟨z1, z2, z3⟩ => ⟨z1, z2, fun y => by obtain ⟨w', y1, y2⟩ := z3 y; exact ⟨w', by omega, y2⟩⟩
  by_cases e : q = gT K c w
  · subst e
    have hcE : Ed K D c (w + 1) c (gT K c w) := ⟨hD, ⟨w, hw, rfl⟩, fun _ => ⟨w, by omega, rfl⟩⟩
    have dn : ∀ p, Ed K D c (w + 1) p (gT K c w) → Ed K D c w p (gT K c w) ∨ p = c := fun p ⟨z1, z2, z3⟩ => by
      by_cases y : p = c
      · exact Or.inr y
      · exact Or.inl ⟨z1, z2, fun x => absurd x y⟩
    have z0 : (0 : Int32).toInt = 0 := rfl
    refine ⟨fun p hp => ?_, fun z => absurd ⟨c, hcE⟩ z, fun _ => ?_⟩
    · rw [b15, b16]
      unfold mxJ
      rcases dn p hp with y | y
      · obtain ⟨x1, x2⟩ := g1 p y
        have x3 := h1 p y.1
        have x4 : ¬ M 15 (gT K c w) = 0 := fun x => by rw [x, z0] at x1; omega
        rw [if_neg x4]
        constructor
        · split <;> omega
        · split <;> omega
      · subst y
        constructor
        · split <;> omega
        · split
          · omega
          · split <;> omega
    · by_cases hx : ∃ p, Ed K D c w p (gT K c w)
      · obtain ⟨⟨p, p1, p2⟩, p', p3, p4⟩ := g3 hx
        have x3 := h1 p p1.1
        have x4 : ¬ M 15 (gT K c w) = 0 := fun x => by rw [x, z0] at p2; omega
        rw [b15, b16, if_neg x4]
        unfold mxJ
        constructor
        · split
          · exact ⟨p, up p p1, p2⟩
          · exact ⟨c, hcE, rfl⟩
        · split
          · exact ⟨p', up p' p3, p4⟩
          · exact ⟨c, hcE, rfl⟩
      · obtain ⟨y1, y2⟩ := g2 hx
        have x3 := h1 c hD
        rw [b15, b16, y1, if_pos rfl, z0]
        unfold mxJ
        rw [if_neg (by omega)]
        exact ⟨⟨c, hcE, rfl⟩, c, hcE, rfl⟩
  · obtain ⟨a1, a2⟩ := a q e
    have dn : ∀ p, Ed K D c (w + 1) p q → Ed K D c w p q := fun p ⟨z1, z2, z3⟩ => ⟨z1, z2, fun y => by
      obtain ⟨w', y1, y2⟩ := z3 y
      refine ⟨w', ?_, y2⟩
      rcases Nat.lt_or_ge w' w with x | x
      · exact x
      · have : w' = w := by omega
        rw [this] at y2
        exact absurd y2.symm e⟩
    unfold V13
    rw [a1, a2]
    exact ⟨fun p hp => g1 p (dn p hp), fun z => g2 (fun ⟨p, y⟩ => z ⟨p, up p y⟩), fun ⟨p, z⟩ => by
      obtain ⟨⟨p1, z1, z2⟩, p2, z3, z4⟩ := g3 ⟨p, dn p z⟩
      exact ⟨⟨p1, up p1 z1, z2⟩, p2, up p2 z3, z4⟩⟩
/-- one way on: nobody new -/
theorem KI.old {K : Nat → Nat} {s n kk c w : Nat} {mt D Pp : Nat → Bool} {H : Nat → Nat} {ey eh : Nat → Int} {M M' : Mem} (h : KI K s mt n kk c w H D Pp ey eh M) (hD : D c = true) (hw : w < gW (K c))
    (m1 : ∀ o j, (o < 14 ∨ 16 < o) → M' o j = M o j) (m2 : ∀ q, ¬ q = gT K c w → M' 15 q = M 15 q ∧ M' 16 q = M 16 q) (m3 : ∀ q, q < 512 → M' 14 q = nI (lef K mt D q + rem K c (w + 1) q)) (b15 : (M' 15 (gT K c w)).toInt = mxJ (M 15 (gT K c w)).toInt (ey c)) (b16 : (M' 16 (gT K c w)).toInt = if M 15 (gT K c w) = 0 then eh c else mxJ (M 16 (gT K c w)).toInt (eh c))
    (hpos : 0 < lef K mt D (gT K c w) + rem K c (w + 1) (gT K c w)) : KI K s mt n kk c (w + 1) H D Pp ey eh M' := by
  obtain ⟨h1, h2, h3, h4, h5, h6, h7, h8, h9, h10, h11, h12, h13, h14, h15, h16⟩ := h
  refine ⟨h1, h2, h3, fun i hi => ?_, h5, h6, h7, h8, m3, fun q hq hne => ?_, h11, h12, way_13 hD hw (fun p hp => (h12 p hp).2.2.1) h13 m2 b15 b16, ?_, ?_, h16.fr (fun j _ => m1 1 j (by omega))⟩
  · rw [m1 17 i (by omega)]
    exact h4 i hi
  · rw [h10 q hq hne, rem_s hw]
    by_cases e : gT K c w = q
    · subst e
      rw [if_pos rfl]
      omega
    · rw [if_neg e, Nat.add_zero]
  · rw [m1 0 23 (by omega)]; exact h14
  · rw [m1 0 24 (by omega)]; exact h15
/-- .. all that lead to the next place are done -/
theorem KI.push {K : Nat → Nat} {s n kk c w : Nat} {mt D Pp : Nat → Bool} {H : Nat → Nat} {ey eh : Nat → Int} {M M' : Mem} (hT : MT K s mt) (h : KI K s mt n kk c w H D Pp ey eh M) (hD : D c = true) (hmc : mt c = true) (hw : w < gW (K c))
    (m1 : ∀ o j, (o < 14 ∨ 16 < o) → M' o j = M o j) (m2 : ∀ q, ¬ q = gT K c w → M' 15 q = M 15 q ∧ M' 16 q = M 16 q) (m3 : ∀ q, q < 512 → M' 14 q = nI (lef K mt D q + rem K c (w + 1) q)) (b15 : (M' 15 (gT K c w)).toInt = mxJ (M 15 (gT K c w)).toInt (ey c)) (b16 : (M' 16 (gT K c w)).toInt = if M 15 (gT K c w) = 0 then eh c else mxJ (M 16 (gT K c w)).toInt (eh c))
    (hz : lef K mt D (gT K c w) + rem K c (w + 1) (gT K c w) = 0) : n < 512 ∧ ∃ Pp', KI K s mt (n + 1) kk c (w + 1) (eP H n (gT K c w)) D Pp' ey eh (up2 M' 17 n (nI (gT K c w))) := by
  obtain ⟨h1, h2, h3, h4, h5, h6, h7, h8, h9, h10, h11, h12, h13, h14, h15, h16⟩ := h
  have ht := gT_lt (K := K) (p := c) (w := w)
  have hmt : mt (gT K c w) = true := (hT.2 c hmc).2.2.1 w hw
  have hne : ¬ gT K c w = s := fun z => by
    obtain ⟨i, i1, -⟩ := h11 0 c (by omega) hmc (by rw [h3]; exact ⟨w, hw, z⟩)
    omega
  have hnp : ¬ Pp (gT K c w) = true := fun z => by
    have := (h10 _ hmt hne).mp z
    rw [rem_s hw, if_pos rfl] at this
    omega
  have hno : ∀ i, i < n → ¬ H i = gT K c w := fun i hi z => hnp ((h7 _).mpr ⟨i, hi, z⟩)
  have eo : ∀ i, i < n → eP H n (gT K c w) i = H i := fun i hi => if_neg (by omega)
  have en : eP H n (gT K c w) n = gT K c w := if_pos rfl
  have hlt : n < 512 := by
    rw [h8]
    exact sm_lt (j := gT K c w) ht (if_neg hnp) (fun i _ => by show (if Pp i = true then 1 else 0) ≤ 1; split <;> decide)
  have hs := sm_up (f := fun p => if Pp p = true then 1 else 0) (g := fun p => if (Pp p || decide (p = gT K c w)) = true then 1 else 0) (j := gT K c w) (n := 512) ht (fun i _ hi => by
    show (if (Pp i || decide (i = gT K c w)) = true then 1 else 0) = (if Pp i = true then 1 else 0)
    rw [decide_eq_false hi, Bool.or_false])
  have hs : sm (fun p => if (Pp p || decide (p = gT K c w)) = true then 1 else 0) 512 + (if Pp (gT K c w) = true then 1 else 0) = sm (fun p => if Pp p = true then 1 else 0) 512 + (if (Pp (gT K c w) || decide (gT K c w = gT K c w)) = true then 1 else 0) := hs
  rw [if_neg hnp, decide_eq_true rfl, Bool.or_true, if_pos rfl, Nat.add_zero] at hs
  have hV := way_13 hD hw (fun p hp => (h12 p hp).2.2.1) h13 m2 b15 b16
  refine ⟨hlt, fun p => Pp p || decide (p = gT K c w), by omega, by omega, by rw [eo 0 (by omega)]; exact h3, fun i hi => ?_, fun i j hij hj => ?_, fun p => ?_, fun p => ?_, by show n + 1 = sm (fun p => if (Pp p || decide (p = gT K c w)) = true then 1 else 0) 512; omega, fun q hq => ?_, fun q hq hqs => ?_, fun j p hj hp he => ?_, h12, fun q hq => ?_, ?_, ?_, h16.fr (fun j _ => by rw [up2_x (by omega), m1 1 j (by omega)])⟩
  · by_cases e : i = n
    · subst e
      rw [en, up2_e]
      exact ⟨hmt, rfl⟩
    · rw [eo i (by omega), up2_x (by omega), m1 17 i (by omega)]
      exact h4 i (by omega)
  · by_cases e : j = n
    · subst e
      rw [en, eo i (by omega)]
      exact hno i (by omega)
    · rw [eo i (by omega), eo j (by omega)]
      exact h5 i j hij (by omega)
  · rw [h6 p]
    constructor
    · rintro ⟨i, i1, i2⟩
      exact ⟨i, i1, by rw [eo i (by omega)]; exact i2⟩
    · rintro ⟨i, i1, i2⟩
      rw [eo i (by omega)] at i2
      exact ⟨i, i1, i2⟩
  · show (Pp p || decide (p = gT K c w)) = true ↔ _
    simp only [Bool.or_eq_true, decide_eq_true_eq]
    rw [h7 p]
    constructor
    · rintro (⟨i, i1, i2⟩ | z)
      · exact ⟨i, by omega, by rw [eo i i1]; exact i2⟩
      · exact ⟨n, by omega, by rw [en]; exact z.symm⟩
    · rintro ⟨i, i1, i2⟩
      by_cases e : i = n
      · right; rw [← i2, e, en]
      · left
        rw [eo i (by omega)] at i2
        exact ⟨i, by omega, i2⟩
  · rw [up2_x (by omega)]
    exact m3 q hq
  · show (Pp q || decide (q = gT K c w)) = true ↔ _
    simp only [Bool.or_eq_true, decide_eq_true_eq]
    by_cases e : q = gT K c w
    · rw [e]
      exact ⟨fun _ => hz, fun _ => Or.inr rfl⟩
    · have := h10 q hq hqs
      rw [rem_s hw, if_neg (fun z => e z.symm), Nat.add_zero] at this
      constructor
      · rintro (z | z)
        · exact this.mp z
        · exact absurd z e
      · intro z
        exact Or.inl (this.mpr z)
  · by_cases e : j = n
    · subst e
      rw [en] at he
      have hDp : D p = true := by
        apply Classical.byContradiction
        intro z
        have z1 : D p = false := by
          cases y : D p with
          | true => exact absurd y z
          | false => rfl
        have := sm_ge (f := fun p => if (mt p && !D p) = true then ce K p (gT K c w) else 0) (n := 512) (hT.2 p hp).1
        have this : (if (mt p && !D p) = true then ce K p (gT K c w) else 0) ≤ lef K mt D (gT K c w) := this
        rw [hp, z1, Bool.not_false, Bool.and_self, if_pos rfl] at this
        have := ce_pos.mpr he
        omega
      obtain ⟨i, i1, i2⟩ := (h6 p).mp hDp
      exact ⟨i, by omega, by rw [eo i (by omega)]; exact i2⟩
    · rw [eo j (by omega)] at he
      obtain ⟨i, i1, i2⟩ := h11 j p (by omega) hp he
      exact ⟨i, i1, by rw [eo i (by omega)]; exact i2⟩
  · have := hV q hq
    rw [up2_x (o' := 15) (by omega), up2_x (o' := 16) (by omega)]
    exact this
  · rw [up2_x (by omega), m1 0 23 (by omega)]; exact h14
  · rw [up2_x (by omega), m1 0 24 (by omega)]; exact h15
/-! the code of it -/
theorem i32_le' {a b : Int32} : a ≤ b ↔ a.toInt ≤ b.toInt := i32_le
theorem mx_i32 {a b : Int32} : (if b ≤ a then a else b).toInt = mxJ a.toInt b.toInt := by
  unfold mxJ
  by_cases h : b ≤ a
  · rw [if_pos h, if_pos (i32_le.mp h)]
  · rw [if_neg h, if_neg (fun z => h (i32_le.mpr z))]
theorem edge_v {K70 : Int32 → Int32 → Int32 → Mem → Option (Int32 × Mem)} {K200 : Int32 → Int32 → Int32 → Int32 → Int32 → Int32 → Int32 → Mem → Option (Int32 × Mem)} {x2 x3 x4 x5 cy wd x8 : Int32} {t : Nat} {M : Mem} (ht : t < 512) : ∃ M2, (gd (inb (nI t) 512) <| if (M 15 (nI t).toNatClampNeg) = 0 then fm_walks_251 K70 K200 x2 x3 x4 x5 cy wd x8 (nI t) M else gd (inb (nI t) 512) <| if wd ≤ (M 16 (nI t).toNatClampNeg) then fm_walks_260 K70 K200 x2 x3 x4 x5 cy wd x8 (nI t) M else fm_walks_251 K70 K200 x2 x3 x4 x5 cy wd x8 (nI t) M) = fm_walks_281 K70 K200 x2 x3 x4 x5 cy wd x8 (nI t) M2 ∧ (∀ o j, (o < 15 ∨ 16 < o) → M2 o j = M o j) ∧ (∀ q, ¬ q = t → M2 15 q = M 15 q ∧ M2 16 q = M 16 q) ∧ (M2 15 t).toInt = mxJ (M 15 t).toInt cy.toInt ∧ (M2 16 t).toInt = if M 15 t = 0 then wd.toInt else mxJ (M 16 t).toInt wd.toInt := by
  have hc : (nI t).toNatClampNeg = t := nI_clamp (by omega)
  have hi := inb_nI ht (by decide)
  have b260 : ∀ M1 : Mem, ∃ M2, fm_walks_260 K70 K200 x2 x3 x4 x5 cy wd x8 (nI t) M1 = fm_walks_281 K70 K200 x2 x3 x4 x5 cy wd x8 (nI t) M2 ∧ (∀ o j, (¬ o = 15 ∨ ¬ j = t) → M2 o j = M1 o j) ∧ (M2 15 t).toInt = mxJ (M1 15 t).toInt cy.toInt := by
    intro M1
    unfold fm_walks_260
    rw [hi, gd_t, gd_t, hc]
    by_cases z : cy ≤ M1 15 t
    · rw [if_pos z]
      refine ⟨M1, rfl, fun _ _ _ => rfl, ?_⟩
      unfold mxJ
      rw [if_pos (i32_le.mp z)]
    · rw [if_neg z, stp_e]
      refine ⟨_, rfl, fun o j y => up2_x y, ?_⟩
      unfold mxJ
      rw [if_neg (fun y => z (i32_le.mpr y)), up2_e]
  have b251 : ∃ M2, fm_walks_251 K70 K200 x2 x3 x4 x5 cy wd x8 (nI t) M = fm_walks_281 K70 K200 x2 x3 x4 x5 cy wd x8 (nI t) M2 ∧ (∀ o j, (o < 15 ∨ 16 < o) → M2 o j = M o j) ∧ (∀ q, ¬ q = t → M2 15 q = M 15 q ∧ M2 16 q = M 16 q) ∧ (M2 15 t).toInt = mxJ (M 15 t).toInt cy.toInt ∧ M2 16 t = wd := by
    unfold fm_walks_251
    rw [hi, gd_t, stp_e, hc]
    obtain ⟨M2, e1, e2, e3⟩ := b260 (up2 M 16 t wd)
    refine ⟨M2, e1, fun o j z => by rw [e2 o j (by omega), up2_x (by omega)], fun q z => ⟨by rw [e2 15 q (Or.inr z), up2_x (by omega)], by rw [e2 16 q (by omega), up2_x (by omega)]⟩, ?_, by rw [e2 16 t (by omega), up2_e]⟩
    rw [e3, up2_x (by omega)]
  rw [hi, gd_t, gd_t, hc]
  by_cases c0 : M 15 t = 0
  · rw [if_pos c0, if_pos c0]
    obtain ⟨M2, e1, e2, e3, e4, e5⟩ := b251
    exact ⟨M2, e1, e2, e3, e4, by rw [e5]⟩
  · rw [if_neg c0, if_neg c0]
    by_cases c1 : wd ≤ M 16 t
    · rw [if_pos c1]
      obtain ⟨M2, e1, e2, e3⟩ := b260 M
      refine ⟨M2, e1, fun o j z => e2 o j (by omega), fun q z => ⟨e2 15 q (Or.inr z), e2 16 q (by omega)⟩, e3, ?_⟩
      unfold mxJ
      rw [e2 16 t (by omega), if_pos (i32_le.mp c1)]
    · rw [if_neg c1]
      obtain ⟨M2, e1, e2, e3, e4, e5⟩ := b251
      refine ⟨M2, e1, e2, e3, e4, ?_⟩
      unfold mxJ
      rw [e5, if_neg (fun z => c1 (i32_le.mpr z))]
theorem walk200_s {K70 : Int32 → Int32 → Int32 → Mem → Option (Int32 × Mem)} {n : Nat} {a b c d e f g : Int32} {M : Mem} : fm_walks_200 K70 (n + 1) a b c d e f g M = fm_walks_200b K70 (fm_walks_200 K70 n) a b c d e f g M := rfl
theorem walk_in {K : Nat → Nat} {s k kk c : Nat} {mt D : Nat → Bool} {ey eh : Nat → Int} {K70 : Int32 → Int32 → Int32 → Mem → Option (Int32 × Mem)} {lf cy wd : Int32} (hT : MT K s mt) (hD : D c = true) (hmc : mt c = true) (h18 : ¬ K c = 18) (hcy : cy.toInt = ey c) (hwd : wd.toInt = eh c) : ∀ (e f n w : Nat) (H : Nat → Nat) (Pp : Nat → Bool) (M : Mem), w + e = gW (K c) → KI K s mt n kk c w H D Pp ey eh M → ∃ n' H' Pp' M', fm_walks_200 K70 (f + e + 1) lf (nI n) (nI k) (nI c) cy wd (nI w) M = K70 lf (nI n') (nI (k + 1)) M' ∧ KI K s mt n' kk c (gW (K c)) H' D Pp' ey eh M' ∧ ∀ o j, (o < 13 ∨ 17 < o) → M' o j = M o j := by
  obtain ⟨hc, ho, hsu, -⟩ := hT.2 c hmc
  have eW : gW (K c) = if K c = 12 ∨ K c = 13 then 2 else 1 := by
    unfold gW
    rw [if_neg h18]
  have hW := gW_le (v := K c)
  have b216 : ∀ (n w : Nat) (K200 : Int32 → Int32 → Int32 → Int32 → Int32 → Int32 → Int32 → Mem → Option (Int32 × Mem)) (M : Mem), (if (if K c = 12 ∨ K c = 13 then (1 : Int32) else 0) = 0 then fm_walks_216 K70 K200 lf (nI n) (nI k) (nI c) cy wd (nI w) 1 (nI w) M else fm_walks_216 K70 K200 lf (nI n) (nI k) (nI c) cy wd (nI w) 2 (nI w) M) = fm_walks_216 K70 K200 lf (nI n) (nI k) (nI c) cy wd (nI w) (nI (gW (K c))) (nI w) M := by
    intro n w K200 M
    rw [eW]
    by_cases z : K c = 12 ∨ K c = 13
    · rw [if_pos z, if_pos z, if_neg (show ¬ (1 : Int32) = 0 by decide)]; rfl
    · rw [if_neg z, if_neg z, if_pos rfl]; rfl
  intro e
  induction e with
  | zero =>
    intro f n w H Pp M hw hB
    have ew : w = gW (K c) := by omega
    subst ew
    have hCo : CodeM K M := hB.2.2.2.2.2.2.2.2.2.2.2.2.2.2.2
    rw [show f + 0 + 1 = f + 1 from rfl, walk200_s]
    unfold fm_walks_200b
    rw [branches_v hCo hc, bnd_s, b216]
    unfold fm_walks_216 fm_walks_322
    rw [if_pos (Int32.le_refl _), nI_1]
    exact ⟨n, H, Pp, M, rfl, hB, fun _ _ _ => rfl⟩
  | succ e ih =>
    intro f n w H Pp M hw hB
    have hCo : CodeM K M := hB.2.2.2.2.2.2.2.2.2.2.2.2.2.2.2
    have ht := gT_lt (K := K) (p := c) (w := w)
    have hwl : w < gW (K c) := by omega
    rw [show f + (e + 1) + 1 = (f + e + 1) + 1 by omega, walk200_s]
    unfold fm_walks_200b
    rw [branches_v hCo hc, bnd_s, b216]
    unfold fm_walks_216
    rw [if_neg (nI_ge hwl (by omega)), goesTo_v hCo hc (by have := ho.2.1; omega) (by omega), bnd_s]
    obtain ⟨M2, e1, e2, e3, e4, e5⟩ := edge_v (K70 := K70) (K200 := fm_walks_200 K70 (f + e + 1)) (x2 := lf) (x3 := nI n) (x4 := nI k) (x5 := nI c) (cy := cy) (wd := wd) (x8 := nI w) (M := M) ht
    rw [e1]
    unfold fm_walks_281 fm_walks_316
    have h14 : M2 14 (gT K c w) = nI (lef K mt D (gT K c w) + rem K c w (gT K c w)) := by
      rw [e2 14 _ (by omega)]
      exact hB.2.2.2.2.2.2.2.2.1 _ ht
    have hr := rem_s (q := gT K c w) hwl
    rw [if_pos rfl] at hr
    have l1 := lef_le (K := K) (mt := mt) (D := D) (q := gT K c w)
    have l2 := rem_le (K := K) (c := c) (w := w + 1) (q := gT K c w)
    rw [inb_nI ht (by decide)]
    simp only [gd_t, stp_e]
    rw [nI_clamp (show gT K c w < 2 ^ 31 by omega), up2_e, h14, hr, s_1 (by omega), show lef K mt D (gT K c w) + (rem K c (w + 1) (gT K c w) + 1) - 1 = lef K mt D (gT K c w) + rem K c (w + 1) (gT K c w) by omega, nI_1]
    generalize hM3 : up2 M2 14 (gT K c w) (nI (lef K mt D (gT K c w) + rem K c (w + 1) (gT K c w))) = M3
    have p1 : ∀ o j, (o < 14 ∨ 16 < o) → M3 o j = M o j := fun o j z => by rw [← hM3, up2_x (by omega), e2 o j (by omega)]
    have p2 : ∀ q, ¬ q = gT K c w → M3 15 q = M 15 q ∧ M3 16 q = M 16 q := fun q z => by rw [← hM3, up2_x (by omega), up2_x (by omega)]; exact e3 q z
    have p3 : ∀ q, q < 512 → M3 14 q = nI (lef K mt D q + rem K c (w + 1) q) := fun q hq => by
      rw [← hM3]
      by_cases z : q = gT K c w
      · rw [z, up2_e]
      · rw [up2_x (Or.inr z), e2 14 q (by omega), hB.2.2.2.2.2.2.2.2.1 q hq, rem_s hwl, if_neg (fun y => z y.symm), Nat.add_zero]
    have p4 : (M3 15 (gT K c w)).toInt = mxJ (M 15 (gT K c w)).toInt (ey c) := by rw [← hM3, up2_x (by omega), e4, hcy]
    have p5 : (M3 16 (gT K c w)).toInt = if M 15 (gT K c w) = 0 then eh c else mxJ (M 16 (gT K c w)).toInt (eh c) := by rw [← hM3, up2_x (by omega), e5, hwd]
    by_cases hz : lef K mt D (gT K c w) + rem K c (w + 1) (gT K c w) = 0
    · obtain ⟨hlt, Pp', hB2⟩ := hB.push hT hD hmc hwl p1 p2 p3 p4 p5 hz
      rw [hz, if_pos (show nI 0 ≤ 0 by decide), inb_nI hlt (by decide), gd_t, nI_clamp (show n < 2 ^ 31 by omega), nI_1]
      obtain ⟨n', H', Pp2, M', q1, q2, q3⟩ := ih f (n + 1) (w + 1) _ Pp' _ (by omega) hB2
      exact ⟨n', H', Pp2, M', q1, q2, fun o j z => by rw [q3 o j z, up2_x (by omega), p1 o j (by omega)]⟩
    · have hB2 := hB.old hD hwl p1 p2 p3 p4 p5 (by omega)
      rw [if_neg (show ¬ nI (lef K mt D (gT K c w) + rem K c (w + 1) (gT K c w)) ≤ 0 from nI_ge (a := 0) (by omega) (by omega)), nI_1]
      obtain ⟨n', H', Pp2, M', q1, q2, q3⟩ := ih f n (w + 1) H Pp M3 (by omega) hB2
      exact ⟨n', H', Pp2, M', q1, q2, fun o j z => by rw [q3 o j z, p1 o j (by omega)]⟩
