/-! WAYS THROUGH THE CODE: what the model's walk answers -/
theorem KI.bd {K : Nat → Nat} {s n kk c w q : Nat} {mt D Pp : Nat → Bool} {H : Nat → Nat} {ey eh : Nat → Int} {M : Mem} (h : KI K s mt n kk c w H D Pp ey eh M) (hq : q < 512) : 0 ≤ (M 15 q).toInt ∧ (M 15 q).toInt ≤ 4 * (kk : Int) ∧ -(kk : Int) ≤ (M 16 q).toInt ∧ (M 16 q).toInt ≤ (kk : Int) := by
  obtain ⟨h1, h2, h3, h4, h5, h6, h7, h8, h9, h10, h11, h12, h13, h14, h15, h16⟩ := h
  obtain ⟨d1, d2, d3⟩ := h13 q hq
  by_cases z : ∃ p, Ed K D c w p q
  · obtain ⟨⟨p, p1, p2⟩, p', p3, p4⟩ := d3 z
    have q1 := h12 p p1.1
    have q2 := h12 p' p3.1
    omega
  · obtain ⟨z1, z2⟩ := d2 z
    rw [z1, z2]
    have : (0 : Int32).toInt = 0 := rfl
    omega
theorem dear_v {K70 : Int32 → Int32 → Int32 → Mem → Option (Int32 × Mem)} {x2 x3 x4 x5 cy y1 y0 : Int32} {M : Mem} : ∃ M', fm_walks_146 K70 x2 x3 x4 x5 cy y1 y0 M = fm_walks_179 K70 x2 x3 x4 x5 cy (y0 + y1) M' ∧ (∀ o j, (¬ o = 0 ∨ (¬ j = 23 ∧ ¬ j = 24)) → M' o j = M o j) ∧ (M' 0 23).toInt = mxJ (M 0 23).toInt cy.toInt ∧ (M' 0 24).toInt = mxJ (M 0 24).toInt (y0 + y1).toInt := by
  have b164 : ∀ M1 : Mem, ∃ M', fm_walks_164 K70 x2 x3 x4 x5 cy (y0 + y1) M1 = fm_walks_179 K70 x2 x3 x4 x5 cy (y0 + y1) M' ∧ (∀ o j, (¬ o = 0 ∨ ¬ j = 24) → M' o j = M1 o j) ∧ (M' 0 24).toInt = mxJ (M1 0 24).toInt (y0 + y1).toInt := by
    intro M1
    unfold fm_walks_164
    by_cases z : y0 + y1 ≤ M1 0 24
    · rw [if_pos z]
      refine ⟨M1, rfl, fun _ _ _ => rfl, ?_⟩
      unfold mxJ
      rw [if_pos (i32_le.mp z)]
    · rw [if_neg z, stp_e]
      refine ⟨_, rfl, fun o j y => up2_x y, ?_⟩
      unfold mxJ
      rw [if_neg (fun y => z (i32_le.mpr y)), up2_e]
  unfold fm_walks_146
  by_cases z : cy ≤ M 0 23
  · rw [if_pos z]
    obtain ⟨M', e1, e2, e3⟩ := b164 M
    refine ⟨M', e1, fun o j y => e2 o j (by omega), ?_, e3⟩
    unfold mxJ
    rw [e2 0 23 (by omega), if_pos (i32_le.mp z)]
  · rw [if_neg z, stp_e]
    obtain ⟨M', e1, e2, e3⟩ := b164 (up2 M 0 23 cy)
    refine ⟨M', e1, fun o j y => by rw [e2 o j (by omega), up2_x (by omega)], ?_, by rw [e3, up2_x (by omega)]⟩
    unfold mxJ
    rw [e2 0 23 (by omega), up2_e, if_neg (fun y => z (i32_le.mpr y))]
def WalkR (K : Nat → Nat) (s : Nat) (r : Int32) (M M' : Mem) : Prop := (∀ o j, (o < 13 ∨ 17 < o) → (¬ o = 0 ∨ (¬ j = 23 ∧ ¬ j = 24)) → M' o j = M o j) ∧ ((r = 0 ∧ Bad K s) ∨ (r = 1 ∧ ¬ Bad K s ∧ Best K (fY K) s (M' 0 23).toInt ∧ Best K (fP K) s (M' 0 24).toInt))
def sT (mt : Nat → Bool) : Nat := sm (fun p => if mt p = true then 1 else 0) 512
theorem walk70_s {n : Nat} {a b c : Int32} {M : Mem} : fm_walks_70 (n + 1) a b c M = fm_walks_70b (fm_walks_70 n) a b c M := rfl
theorem chain {U : Nat → Prop} {R : Nat → Nat → Prop} (h : ∀ u, U u → ∃ p, U p ∧ R p u) {u0 : Nat} (h0 : U u0) : ∃ f : Nat → Nat, ∀ i, U (f i) ∧ R (f (i + 1)) (f i) := by
  have hg : ∀ x : { u // U u }, ∃ y : { u // U u }, R y.1 x.1 := fun x => by
    obtain ⟨p, p1, p2⟩ := h x.1 x.2
    exact ⟨⟨p, p1⟩, p2⟩
  refine ⟨fun n => (Nat.rec (motive := fun _ => { u // U u }) ⟨u0, h0⟩ (fun _ x => Classical.choose (hg x)) n).1, fun i => ⟨(Nat.rec (motive := fun _ => { u // U u }) ⟨u0, h0⟩ (fun _ x => Classical.choose (hg x)) i).2, ?_⟩⟩
  exact Classical.choose_spec (hg (Nat.rec (motive := fun _ => { u // U u }) ⟨u0, h0⟩ (fun _ x => Classical.choose (hg x)) i))
/-- at the walk's end -/
theorem KI.fin {K : Nat → Nat} {s n c : Nat} {mt D Pp : Nat → Bool} {H : Nat → Nat} {ey eh : Nat → Int} {M : Mem} (hT : MT K s mt) (h : KI K s mt n n c (gW (K c)) H D Pp ey eh M) : (¬ sT mt = n ∧ Bad K s) ∨ (sT mt = n ∧ ¬ Bad K s ∧ Best K (fY K) s (M 0 23).toInt ∧ Best K (fP K) s (M 0 24).toInt) := by
  have hle := h.le hT
  obtain ⟨h1, h2, h3, h4, h5, h6, h7, h8, h9, h10, h11, h12, h13, h14, h15, h16⟩ := h
  have hDP : ∀ p, D p = true ↔ Pp p = true := fun p => (h6 p).trans (h7 p).symm
  have hPm : ∀ p, Pp p = true → mt p = true := fun p hp => by
    obtain ⟨i, i1, i2⟩ := (h7 p).mp hp
    rw [← i2]
    exact (h4 i i1).1
  by_cases e : sT mt = n
  · right
    have hall : ∀ p, mt p = true → D p = true := by
      intro p hp
      have hp5 := (hT.2 p hp).1
      have := sm_same (f := fun p => if Pp p = true then 1 else 0) (g := fun p => if mt p = true then 1 else 0) (n := 512) (fun i _ => by
        show (if Pp i = true then 1 else 0) ≤ (if mt i = true then 1 else 0)
        by_cases z : Pp i = true
        · rw [if_pos z, if_pos (hPm i z)]; exact Nat.le_refl _
        · rw [if_neg z]; exact Nat.zero_le _) (by rw [← h8]; exact e.symm) p hp5
      have this : (if Pp p = true then 1 else 0) = (if mt p = true then 1 else 0) := this
      rw [if_pos hp] at this
      apply (hDP p).mpr
      apply Classical.byContradiction
      intro z
      rw [if_neg z] at this
      exact absurd this (by decide)
    have hidx : ∀ m p j, j < n → mt p = true → wk K m p (H j) → ∃ i, i + m ≤ j ∧ H i = p := by
      intro m
      induction m with
      | zero =>
        intro p j hj _ hw
        have hw : p = H j := hw
        exact ⟨j, by omega, hw.symm⟩
      | succ m ih =>
        intro p j hj hp hw
        obtain ⟨q, h17, h18⟩ := hw
        have hq : mt q = true := by
          obtain ⟨m2, hm2⟩ := (hT.2 p hp).2.2.2
          exact hT.of (wk_trans hm2 h17)
        obtain ⟨i, i1, i2⟩ := h11 j q hj hq h18
        rw [← i2] at h17
        obtain ⟨i', i3, i4⟩ := ih p i (by omega) hp h17
        exact ⟨i', by omega, i4⟩
    refine ⟨e, ?_, ⟨h14.1, fun m p x hx => ?_, ?_⟩, ⟨h15.1, fun m p x hx => ?_, ?_⟩⟩
    · rintro (⟨m, p, z1, z2⟩ | ⟨m, p, m', z1, z2⟩)
      · exact z2 (hT.2 p (hT.of z1)).2.1
      · obtain ⟨j, j1, j2⟩ := (h6 p).mp (hall p (hT.of z1))
        have hp := hT.of z1
        rw [← j2] at z2 hp
        obtain ⟨i, i1, i2⟩ := hidx (m' + 1) (H j) j j1 hp z2
        exact h5 i j (by omega) j1 i2
    · have hp := hall p (hT.of (pw_wk hx))
      have a1 := (h12 p hp).1.1 m x hx
      have a2 := h14.2.1 p hp
      omega
    · rcases h14.2.2 with z | ⟨p, z1, z2⟩
      · exact Or.inl z
      · obtain ⟨m, hm⟩ := (h12 p z1).1.2
        rw [z2] at hm
        exact Or.inr ⟨m, p, hm⟩
    · have hp := hall p (hT.of (pw_wk hx))
      have a1 := (h12 p hp).2.1.1 m x hx
      have a2 := h15.2.1 p hp
      omega
    · rcases h15.2.2 with z | ⟨p, z1, z2⟩
      · exact Or.inl z
      · obtain ⟨m, hm⟩ := (h12 p z1).2.1.2
        rw [z2] at hm
        exact Or.inr ⟨m, p, hm⟩
  · left
    refine ⟨e, Or.inr ?_⟩
    -- somebody is left, and each who is left has one ahead of it who is left
    have hex : ∃ u, mt u = true ∧ ¬ Pp u = true := by
      apply Classical.byContradiction
      intro z
      apply e
      rw [h8]
      refine sm_congr (fun i _ => ?_)
      show (if mt i = true then 1 else 0) = (if Pp i = true then 1 else 0)
      by_cases y : mt i = true
      · have : Pp i = true := by
          apply Classical.byContradiction
          intro x
          exact z ⟨i, y, x⟩
        rw [if_pos y, if_pos this]
      · rw [if_neg y, if_neg (fun x => y (hPm i x))]
    obtain ⟨u0, u1, u2⟩ := hex
    have step : ∀ u, (mt u = true ∧ ¬ Pp u = true) → ∃ p, (mt p = true ∧ ¬ Pp p = true) ∧ gE K p u := by
      rintro u ⟨a1, a2⟩
      have hus : ¬ u = s := fun z => a2 ((h7 u).mpr ⟨0, by omega, by rw [h3]; exact z.symm⟩)
      have hne : ¬ lef K mt D u + rem K c (gW (K c)) u = 0 := fun z => a2 ((h10 u a1 hus).mpr z)
      rw [rem_end, Nat.add_zero] at hne
      obtain ⟨p, p1, p2⟩ := sm_pos (Nat.pos_of_ne_zero hne)
      have p2 : 0 < (if (mt p && !D p) = true then ce K p u else 0) := p2
      by_cases z : (mt p && !D p) = true
      · rw [if_pos z] at p2
        simp only [Bool.and_eq_true, Bool.not_eq_true'] at z
        refine ⟨p, ⟨z.1, fun y => ?_⟩, ce_pos.mp p2⟩
        have := (hDP p).mpr y
        rw [z.2] at this
        cases this
      · rw [if_neg z] at p2
        exact absurd p2 (Nat.lt_irrefl _)
    obtain ⟨f, hf⟩ := chain step (show mt u0 = true ∧ ¬ Pp u0 = true from ⟨u1, u2⟩)
    obtain ⟨i, j, i1, i2, i3⟩ := pigeon 512 f (fun i _ => (hT.2 _ (hf i).1.1).1)
    have back : ∀ k, wk K k (f (i + k)) (f i) := by
      intro k
      induction k with
      | zero => rfl
      | succ k ih => exact wk_cons.mpr ⟨f (i + k), (hf (i + k)).2, ih⟩
    have hb := back (j - i)
    rw [show i + (j - i) = j by omega, ← i3, show j - i = (j - i - 1) + 1 by omega] at hb
    obtain ⟨m, hm⟩ := (hT.2 _ (hf i).1.1).2.2.2
    exact ⟨m, f i, j - i - 1, hm, hb⟩
theorem gPi (v : Nat) : ∃ z : Int32, z.toInt = gP v ∧ (if v = 9 then (1 : Int32) else if v = 10 then -1 else 0) = z := by
  refine ⟨_, ?_, rfl⟩
  unfold gP
  by_cases h9 : v = 9
  · rw [if_pos h9, if_pos h9]; rfl
  · by_cases h10 : v = 10
    · rw [if_neg h9, if_neg h9, if_pos h10, if_pos h10]; rfl
    · rw [if_neg h9, if_neg h9, if_neg h10, if_neg h10]; rfl
theorem walk_out {K : Nat → Nat} {s : Nat} {mt : Nat → Bool} (hT : MT K s mt) : ∀ (e n kk c0 : Nat) (H : Nat → Nat) (D Pp : Nat → Bool) (ey eh : Nat → Int) (M : Mem), 512 < e + kk → KI K s mt n kk c0 (gW (K c0)) H D Pp ey eh M → ∃ r M', fm_walks_70 e (nI (sT mt - kk)) (nI n) (nI kk) M = some (r, M') ∧ WalkR K s r M M' := by
  intro e
  induction e with
  | zero =>
    intro n kk c0 H D Pp ey eh M he hB
    have := hB.le hT
    have := hB.2.1
    omega
  | succ e ih =>
    intro n kk c0 H D Pp ey eh M he hB
    obtain ⟨hnT, hn⟩ := hB.le hT
    have hnT : n ≤ sT mt := hnT
    have hsT : sT mt ≤ 512 := by
      have := sm_le (f := fun p => if mt p = true then 1 else 0) (c := 1) (n := 512) (fun i _ => by show (if mt i = true then 1 else 0) ≤ 1; split <;> decide)
      unfold sT
      omega
    have hkn := hB.2.1
    have hCo : CodeM K M := hB.2.2.2.2.2.2.2.2.2.2.2.2.2.2.2
    rw [walk70_s]
    unfold fm_walks_70b
    by_cases hk : kk < n
    · obtain ⟨a1, a2⟩ := hB.2.2.2.1 kk hk
      obtain ⟨c1, c2, c3, c4⟩ := hT.2 _ a1
      obtain ⟨b1, b2⟩ := hCo _ c1
      obtain ⟨d1, d2, d3, d4⟩ := hB.bd c1
      have o1 := c2.1
      have o2 := c2.2.1
      have hy := gY_b (K (H kk)) (by omega) o1
      have e9 : (nI (K (H kk)) = 9) = (K (H kk) = 9) := propext (nI_eq (b := 9) (by omega) (by decide))
      have e10 : (nI (K (H kk)) = 10) = (K (H kk) = 10) := propext (nI_eq (b := 10) (by omega) (by decide))
      rw [if_neg (nI_ge hk (by omega)), inb_nI (show kk < 512 by omega) (by decide), gd_t, nI_clamp (show kk < 2 ^ 31 by omega), a2, inb_nI c1 (by decide)]
      simp only [gd_t]
      rw [nI_clamp (show H kk < 2 ^ 31 by omega), b2, inb_nI (show K (H kk) < 30 by omega) (by decide), gd_t, nI_clamp (show K (H kk) < 2 ^ 31 by omega), mTakes_v (K (H kk)) (by omega)]
      simp only [e9, e10]
      obtain ⟨z, z1, z2⟩ := gPi (K (H kk))
      have hz : ∀ F : Int32 → Option (Int32 × Mem), (if K (H kk) = 9 then F 1 else if K (H kk) = 10 then F (-1) else F 0) = F z := by
        intro F
        rw [← z2]
        by_cases h9 : K (H kk) = 9
        · rw [if_pos h9, if_pos h9]
        · by_cases h10 : K (H kk) = 10
          · rw [if_neg h9, if_neg h9, if_pos h10, if_pos h10]
          · rw [if_neg h9, if_neg h9, if_neg h10, if_neg h10]
      have hzz := hz (fun y => fm_walks_146 (fm_walks_70 e) (nI (sT mt - kk)) (nI n) (nI kk) (nI (H kk)) (M 15 (H kk) + nI (gY (K (H kk)))) y (M 16 (H kk)) M)
      have hzz : (if K (H kk) = 9 then fm_walks_146 (fm_walks_70 e) (nI (sT mt - kk)) (nI n) (nI kk) (nI (H kk)) (M 15 (H kk) + nI (gY (K (H kk)))) 1 (M 16 (H kk)) M else if K (H kk) = 10 then fm_walks_146 (fm_walks_70 e) (nI (sT mt - kk)) (nI n) (nI kk) (nI (H kk)) (M 15 (H kk) + nI (gY (K (H kk)))) (-1) (M 16 (H kk)) M else fm_walks_146 (fm_walks_70 e) (nI (sT mt - kk)) (nI n) (nI kk) (nI (H kk)) (M 15 (H kk) + nI (gY (K (H kk)))) 0 (M 16 (H kk)) M) = fm_walks_146 (fm_walks_70 e) (nI (sT mt - kk)) (nI n) (nI kk) (nI (H kk)) (M 15 (H kk) + nI (gY (K (H kk)))) z (M 16 (H kk)) M := hzz
      rw [hzz]
      obtain ⟨M1, f1, f2, f3, f4⟩ := dear_v (K70 := fm_walks_70 e) (x2 := nI (sT mt - kk)) (x3 := nI n) (x4 := nI kk) (x5 := nI (H kk)) (cy := M 15 (H kk) + nI (gY (K (H kk)))) (y1 := z) (y0 := M 16 (H kk)) (M := M)
      rw [f1]
      have hgp : -1 ≤ gP (K (H kk)) ∧ gP (K (H kk)) ≤ 1 := by
        unfold gP
        split
        · omega
        · split <;> omega
      have t1 : (nI (gY (K (H kk)))).toInt = (gY (K (H kk)) : Int) := nI_toInt (by omega)
      have g1 : (M 15 (H kk) + nI (gY (K (H kk)))).toInt = (M 15 (H kk)).toInt + gY (K (H kk)) := by
        rw [add_toInt (by omega) (by omega), t1]
      have g2 : (M 16 (H kk) + z).toInt = (M 16 (H kk)).toInt + gP (K (H kk)) := by
        rw [add_toInt (by omega) (by omega), z1]
      rw [g1] at f3
      rw [g2] at f4
      obtain ⟨D', hB1, hD'⟩ := hB.take hT hk f2 f3 f4
      have fr1 : ∀ o j, (o < 13 ∨ 17 < o) → (¬ o = 0 ∨ (¬ j = 23 ∧ ¬ j = 24)) → M1 o j = M o j := fun o j _ y => f2 o j y
      have e18 : (nI (K (H kk)) = 18) = (K (H kk) = 18) := propext (nI_eq (b := 18) (by omega) (by decide))
      have hlf : nI (sT mt - kk) + (-1) = nI (sT mt - (kk + 1)) := by
        rw [← Int32.sub_eq_add_neg, s_1 (by omega)]
        rfl
      unfold fm_walks_179
      rw [inb_nI c1 (by decide), gd_t, nI_clamp (show H kk < 2 ^ 31 by omega), f2 1 (H kk) (by omega), b2, hlf]
      simp only [e18]
      by_cases h18 : K (H kk) = 18
      · have e0 : gW (K (H kk)) = 0 := by unfold gW; rw [if_pos h18]
        unfold fm_walks_322
        rw [if_pos h18, nI_1]
        rw [show KI K s mt n (kk + 1) (H kk) 0 H D' Pp (aSet ey (H kk) ((M 15 (H kk)).toInt + gY (K (H kk)))) (aSet eh (H kk) ((M 16 (H kk)).toInt + gP (K (H kk)))) M1 = KI K s mt n (kk + 1) (H kk) (gW (K (H kk))) H D' Pp (aSet ey (H kk) ((M 15 (H kk)).toInt + gY (K (H kk)))) (aSet eh (H kk) ((M 16 (H kk)).toInt + gP (K (H kk)))) M1 by rw [e0]] at hB1
        obtain ⟨r, M', r1, r2, r3⟩ := ih n (kk + 1) (H kk) H D' Pp _ _ M1 (by omega) hB1
        exact ⟨r, M', r1, fun o j y1 y2 => by rw [r2 o j y1 y2, fr1 o j y1 y2], r3⟩
      · rw [if_neg h18]
        have hgw := gW_le (v := K (H kk))
        obtain ⟨n', H', Pp', M2, w1, w2, w3⟩ := walk_in (K70 := fm_walks_70 e) (lf := nI (sT mt - (kk + 1))) (cy := M 15 (H kk) + nI (gY (K (H kk)))) (wd := M 16 (H kk) + z) (k := kk) hT hD' a1 h18 (by rw [g1, aSet_e]) (by rw [g2, aSet_e]) (gW (K (H kk))) (599 - gW (K (H kk))) n 0 H Pp M1 (by omega) hB1
        rw [show 599 - gW (K (H kk)) + gW (K (H kk)) + 1 = 600 by omega] at w1
        rw [show fm_walks_200 (fm_walks_70 e) 600 (nI (sT mt - (kk + 1))) (nI n) (nI kk) (nI (H kk)) (M 15 (H kk) + nI (gY (K (H kk)))) (M 16 (H kk) + z) 0 M1 = fm_walks_200 (fm_walks_70 e) 600 (nI (sT mt - (kk + 1))) (nI n) (nI kk) (nI (H kk)) (M 15 (H kk) + nI (gY (K (H kk)))) (M 16 (H kk) + z) (nI 0) M1 from rfl, w1]
        obtain ⟨r, M', r1, r2, r3⟩ := ih n' (kk + 1) (H kk) H' D' Pp' _ _ M2 (by omega) w2
        exact ⟨r, M', r1, fun o j y1 y2 => by rw [r2 o j y1 y2, w3 o j y1, fr1 o j y1 y2], r3⟩
    · have ek : kk = n := by omega
      subst ek
      have hf := hB.fin hT
      unfold fm_walks_337
      rw [if_pos (Int32.le_refl _), isB_0, isB_1, gd_t, gd_t]
      rcases hf with ⟨f1, f2⟩ | ⟨f1, f2, f3, f4⟩
      · rw [if_neg (fun z => f1 (by have := (nI_eq (a := sT mt - kk) (b := 0) (by omega) (by decide)).mp z; omega))]
        exact ⟨0, M, rfl, fun _ _ _ _ => rfl, Or.inl ⟨rfl, f2⟩⟩
      · rw [f1, Nat.sub_self, if_pos (show nI 0 = 0 from rfl)]
        exact ⟨1, M, rfl, fun _ _ _ _ => rfl, Or.inr ⟨rfl, f2, f3, f4⟩⟩
theorem walk33_s {n : Nat} {a b c : Int32} {M : Mem} : fm_walks_33 (n + 1) a b c M = fm_walks_33b (fm_walks_33 n) a b c M := rfl
theorem walk33 {s : Nat} {mt : Nat → Bool} {M : Mem} (h : ∀ p, p < 512 → M 13 p = if mt p = true then 1 else 0) : ∀ (e n i : Nat), i + e = 512 → fm_walks_33 (n + e + 1) (nI s) (nI (sm (fun p => if mt p = true then 1 else 0) i)) (nI i) M = fm_walks_70 600 (nI (sT mt)) 1 0 (up2 M 17 0 (nI s)) := by
  intro e
  induction e with
  | zero =>
    intro n i hi
    have ei : i = 512 := by omega
    subst ei
    rw [show n + 0 + 1 = n + 1 from rfl, walk33_s]
    unfold fm_walks_33b
    rw [if_pos (show (512 : Int32) ≤ nI 512 by decide), stp_e]
    rfl
  | succ e ih =>
    intro n i hi
    rw [show n + (e + 1) + 1 = (n + e + 1) + 1 by omega, walk33_s]
    unfold fm_walks_33b fm_walks_52
    rw [if_neg (show ¬ (512 : Int32) ≤ nI i from nI_ge (b := 512) (by omega) (by decide)), inb_nI (show i < 512 by omega) (by decide), gd_t, nI_clamp (show i < 2 ^ 31 by omega), h i (by omega), nI_1, nI_1]
    have es : sm (fun p => if mt p = true then 1 else 0) (i + 1) = sm (fun p => if mt p = true then 1 else 0) i + (if mt i = true then 1 else 0) := rfl
    have := ih n (i + 1) (by omega)
    rw [es] at this
    by_cases z : mt i = true
    · rw [if_pos z] at this ⊢
      rw [if_neg (show ¬ (1 : Int32) = 0 by decide)]
      exact this
    · rw [if_neg z] at this ⊢
      rw [if_pos rfl]
      exact this
theorem walks_v {K : Nat → Nat} {s : Nat} {M : Mem} (hs : s < 512) (hK : CodeM K M) : ∃ r M', fm_walks (nI s) M = some (r, M') ∧ WalkR K s r M M' := by
  unfold fm_walks fm_walks_27
  rw [stp_e, stp_e]
  obtain ⟨r, M1, e1, e2, e3⟩ := meets_v hs (hK.fr (M' := up2 (up2 M 0 23 0) 0 24 0) (fun j _ => by rw [up2_x (by omega), up2_x (by omega)]))
  rw [e1, bnd_s]
  have fr : ∀ o j, (o < 13 ∨ 17 < o) → (¬ o = 0 ∨ (¬ j = 23 ∧ ¬ j = 24)) → M1 o j = M o j := fun o j y1 y2 => by rw [e2 o j y1, up2_x (by omega), up2_x (by omega)]
  rcases e3 with ⟨r0, hb⟩ | ⟨r1, mt, m1, m2, m3, m4⟩
  · subst r0
    rw [if_pos rfl]
    exact ⟨0, M1, rfl, fr, Or.inl ⟨rfl, hb⟩⟩
  · subst r1
    rw [if_neg (show ¬ (1 : Int32) = 0 by decide), inb_nI hs (by decide), gd_t, nI_clamp (show s < 2 ^ 31 by omega), (m4 s hs).1]
    have hT : MT K s mt := ⟨m2, m3⟩
    have l1 := lef_le (K := K) (mt := mt) (D := fun _ => false) (q := s)
    have el : ∀ q, lef K mt (fun _ => false) q = sm (fun p => if mt p = true then ce K p q else 0) 512 := fun q => sm_congr (fun i _ => by
      show (if (mt i && !false) = true then ce K i q else 0) = (if mt i = true then ce K i q else 0)
      rw [Bool.not_false, Bool.and_true])
    rw [← el]
    by_cases hz : lef K mt (fun _ => false) s = 0
    · rw [hz, if_pos (show nI 0 ≤ 0 by decide)]
      have h33 := walk33 (s := s) m1 512 87 0 (by omega)
      rw [show fm_walks_33 600 (nI s) 0 0 M1 = fm_walks_33 (87 + 512 + 1) (nI s) (nI (sm (fun p => if mt p = true then 1 else 0) 0)) (nI 0) M1 from rfl, h33]
      have nopred : ∀ q p, mt p = true → gE K p q → 0 < lef K mt (fun _ => false) q := fun q p hp he => by
        have := sm_ge (f := fun p => if (mt p && !false) = true then ce K p q else 0) (n := 512) (m3 p hp).1
        have this : (if (mt p && !false) = true then ce K p q else 0) ≤ lef K mt (fun _ => false) q := this
        rw [hp, Bool.not_false, Bool.and_self, if_pos rfl] at this
        have := ce_pos.mpr he
        omega
      have z0 : (0 : Int32).toInt = 0 := rfl
      have hsum : sm (fun p => if decide (p = s) = true then 1 else 0) 512 = 1 := by
        have := sm_up (f := fun _ => 0) (g := fun p => if decide (p = s) = true then 1 else 0) (j := s) (n := 512) hs (fun i hi hn => by
          show (if decide (i = s) = true then 1 else 0) = 0
          rw [decide_eq_false hn]; rfl)
        have this : sm (fun p => if decide (p = s) = true then 1 else 0) 512 + 0 = sm (fun _ => 0) 512 + (if decide (s = s) = true then 1 else 0) := this
        rw [decide_eq_true rfl, if_pos rfl, sm_zero (f := fun _ => 0) (fun i _ => rfl)] at this
        omega
      have hB : KI K s mt 1 0 s (gW (K s)) (fun _ => s) (fun _ => false) (fun p => decide (p = s)) (fun _ => 0) (fun _ => 0) (up2 M1 17 0 (nI s)) := by
        refine ⟨Nat.le_refl _, Nat.zero_le _, rfl, fun i hi => ?_, fun i j hij hj => absurd hij (by omega), fun p => ?_, fun p => ?_, hsum.symm, fun q hq => ?_, fun q hq hne => ?_, fun j p hj hp he => ?_, fun p hp => (by cases hp), fun q hq => ⟨fun p hp => (by cases hp.1), fun _ => ?_, fun ⟨p, hp⟩ => (by cases hp.1)⟩, ⟨?_, fun p hp => (by cases hp), Or.inl ?_⟩, ⟨?_, fun p hp => (by cases hp), Or.inl ?_⟩, hK.fr (fun j _ => by rw [up2_x (by omega), fr 1 j (by omega) (by omega)])⟩
        · have hi0 : i = 0 := by omega
          subst hi0
          exact ⟨m2, up2_e⟩
        · constructor
          · intro z; cases z
          · rintro ⟨i, hi, -⟩; omega
        · simp only [decide_eq_true_eq]
          constructor
          · intro z; exact ⟨0, by omega, z.symm⟩
          · rintro ⟨i, -, z⟩; exact z.symm
        · rw [up2_x (by omega), (m4 q hq).1, rem_end, el, Nat.add_zero]
        · rw [rem_end, Nat.add_zero]
          simp only [decide_eq_true_eq]
          constructor
          · intro z; exact absurd z hne
          · intro z
            exfalso
            obtain ⟨m, hm⟩ := (m3 q hq).2.2.2
            cases m with
            | zero => exact hne hm.symm
            | succ m =>
              obtain ⟨p, p1, p2⟩ := hm
              have := nopred q p (hT.of p1) p2
              omega
        · have := nopred s p hp he
          omega
        · rw [up2_x (o' := 15) (by omega), up2_x (o' := 16) (by omega)]
          exact (m4 q hq).2
        · rw [up2_x (by omega), e2 0 23 (by omega), up2_x (by omega), up2_e, z0]; exact Int.le_refl _
        · rw [up2_x (by omega), e2 0 23 (by omega), up2_x (by omega), up2_e, z0]
        · rw [up2_x (by omega), e2 0 24 (by omega), up2_e, z0]; exact Int.le_refl _
        · rw [up2_x (by omega), e2 0 24 (by omega), up2_e, z0]
      obtain ⟨r, M', w1, w2, w3⟩ := walk_out hT 600 1 0 s _ _ _ _ _ _ (by omega) hB
      refine ⟨r, M', w1, fun o j y1 y2 => ?_, w3⟩
      rw [w2 o j y1 y2, up2_x (by omega), fr o j y1 y2]
    · rw [if_neg (show ¬ nI (lef K mt (fun _ => false) s) ≤ 0 from nI_ge (a := 0) (by omega) (by omega))]
      refine ⟨0, M1, rfl, fr, Or.inl ⟨rfl, Or.inr ?_⟩⟩
      obtain ⟨p, p1, p2⟩ := sm_pos (Nat.pos_of_ne_zero hz)
      have p2 : 0 < (if (mt p && !false) = true then ce K p s else 0) := p2
      by_cases z : mt p = true
      · rw [Bool.not_false, Bool.and_true, if_pos z] at p2
        obtain ⟨m, hm⟩ := (m3 p z).2.2.2
        exact ⟨0, s, m, rfl, p, hm, ce_pos.mp p2⟩
      · rw [Bool.not_false, Bool.and_true, if_neg z] at p2
        exact absurd p2 (Nat.lt_irrefl _)
