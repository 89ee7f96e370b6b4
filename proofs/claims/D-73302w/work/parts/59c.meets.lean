/-! WAYS THROUGH THE CODE: the model's first look, which places are come to -/
def ce (K : Nat → Nat) (p q : Nat) : Nat := sm (fun w => if gT K p w = q then 1 else 0) (gW (K p))
theorem ce_pos {K : Nat → Nat} {p q : Nat} : 0 < ce K p q ↔ gE K p q := by
  constructor
  · intro h
    obtain ⟨w, h1, h2⟩ := sm_pos h
    have h2 : 0 < (if gT K p w = q then 1 else 0) := h2
    refine ⟨w, h1, ?_⟩
    by_cases e : gT K p w = q
    · exact e
    · rw [if_neg e] at h2
      exact absurd h2 (Nat.lt_irrefl _)
  · rintro ⟨w, h1, h2⟩
    have := sm_ge (f := fun w => if gT K p w = q then 1 else 0) h1
    have e : (if gT K p w = q then 1 else 0) = 1 := if_pos h2
    have this : (if gT K p w = q then 1 else 0) ≤ ce K p q := this
    omega
theorem ce_le {K : Nat → Nat} {p q : Nat} : ce K p q ≤ 2 := by
  have h1 := sm_le (f := fun w => if gT K p w = q then 1 else 0) (c := 1) (n := gW (K p)) (fun i _ => by show (if gT K p i = q then 1 else 0) ≤ 1; split <;> decide)
  have h2 := gW_le (v := K p)
  unfold ce
  omega
theorem sm_mono {f g : Nat → Nat} : ∀ {n : Nat}, (∀ i, i < n → f i ≤ g i) → sm f n ≤ sm g n := by
  intro n
  induction n with
  | zero => intro _; exact Nat.le_refl _
  | succ n ih =>
    intro h
    have h1 := ih (fun i hi => h i (by omega))
    have h2 := h n (by omega)
    show sm f n + f n ≤ sm g n + g n
    omega
theorem sm_same {f g : Nat → Nat} : ∀ {n : Nat}, (∀ i, i < n → f i ≤ g i) → sm f n = sm g n → ∀ i, i < n → f i = g i := by
  intro n
  induction n with
  | zero => intro _ _ i hi; omega
  | succ n ih =>
    intro h e i hi
    have h1 := sm_mono (f := f) (g := g) (n := n) (fun i hi => h i (by omega))
    have h2 := h n (by omega)
    have e : sm f n + f n = sm g n + g n := e
    by_cases z : i = n
    · subst z; omega
    · exact ih (fun i hi => h i (by omega)) (by omega) i (by omega)
theorem branches_v {K : Nat → Nat} {M : Mem} (h : CodeM K M) {p : Nat} (hp : p < 512) : fm_branches (nI p) M = some (if K p = 12 ∨ K p = 13 then 1 else 0, M) := by
  obtain ⟨b1, b2⟩ := h p hp
  have e1 : (nI (K p) = 12) = (K p = 12) := propext (nI_eq (b := 12) (by omega) (by decide))
  have e2 : (nI (K p) = 13) = (K p = 13) := propext (nI_eq (b := 13) (by omega) (by decide))
  unfold fm_branches fm_branches_22 fm_branches_27
  rw [inb_nI hp (by decide), gd_t, gd_t, nI_clamp (show p < 2 ^ 31 by omega), b2]
  simp only [e1, e2, isB_0, isB_1, gd_t]
  by_cases h1 : K p = 12
  · rw [if_pos h1, if_pos (Or.inl h1)]
  · by_cases h2 : K p = 13
    · rw [if_neg h1, if_pos h2, if_pos (Or.inr h2)]
    · rw [if_neg h1, if_neg h2, if_neg (by omega)]
theorem goesTo_v {K : Nat → Nat} {M : Mem} (h : CodeM K M) {p w : Nat} (hp : p < 512) (h30 : K p < 30) (hw : w < 2) : fm_goesTo (nI p) (nI w) M = some (nI (gT K p w), M) := by
  obtain ⟨b1, b2⟩ := h p hp
  obtain ⟨c1, c2⟩ := h ((p + 1) % 512) (Nat.mod_lt _ (by decide))
  obtain ⟨d1, d2⟩ := h ((p + 2) % 512) (Nat.mod_lt _ (by decide))
  have e1 : (nI (K p) = 11) = (K p = 11) := propext (nI_eq (b := 11) (by omega) (by decide))
  have e2 : (nI w = 1) = (w = 1) := propext (nI_eq (b := 1) (by omega) (by decide))
  have far : fm_goesTo_16 (nI p) M = some (nI ((256 * K ((p + 1) % 512) + K ((p + 2) % 512)) % 512), M) := by
    unfold fm_goesTo_16 fm_goesTo_68
    rw [nI_1, show nI p + 2 = nI (p + 2) from nI_add p 2, rem512 (show p + 1 < 2 ^ 31 by omega), rem512 (show p + 2 < 2 ^ 31 by omega), inb_nI (show (p + 1) % 512 < 512 from Nat.mod_lt _ (by decide)) (by decide), gd_t, inb_nI (show (p + 2) % 512 < 512 from Nat.mod_lt _ (by decide)) (by decide), gd_t, nI_clamp (show (p + 1) % 512 < 2 ^ 31 by omega), nI_clamp (show (p + 2) % 512 < 2 ^ 31 by omega), c2, d2, mul256, nI_add, rem512 (by omega)]
  unfold fm_goesTo gT
  rw [inb_nI hp (by decide), gd_t, gd_t, nI_clamp (show p < 2 ^ 31 by omega), b2]
  simp only [e1, e2, far]
  by_cases h1 : K p = 11
  · rw [if_pos h1, if_pos (Or.inl h1)]
  · by_cases h2 : w = 1
    · rw [if_neg h1, if_pos h2, if_pos (Or.inr h2)]
    · have := gL_b (K p) h30
      unfold fm_goesTo_68
      rw [if_neg h1, if_neg h2, if_neg (by omega), inb_nI h30 (by decide), gd_t, nI_clamp (show K p < 2 ^ 31 by omega), mLong_v (K p) h30, nI_add, rem512 (by omega)]
theorem CodeM.fr {K : Nat → Nat} {M M' : Mem} (h : CodeM K M) (e : ∀ j, j < 512 → M' 1 j = M 1 j) : CodeM K M' := fun j hj => by
  rw [e j hj]
  exact h j hj
def cnt (K : Nat → Nat) (c q w : Nat) : Nat := sm (fun w' => if gT K c w' = q then 1 else 0) w
def BI (K : Nat → Nat) (s n k c w : Nat) (H : Nat → Nat) (D : Nat → Bool) (M : Mem) : Prop :=
  1 ≤ n ∧ k ≤ n ∧ H 0 = s ∧
  (∀ i, i < n → H i < 512 ∧ M 17 i = nI (H i)) ∧
  (∀ p, p < 512 → (M 13 p = 0 ∧ ∀ i, i < n → ¬ H i = p) ∨ (M 13 p = 1 ∧ ∃ i, i < n ∧ H i = p)) ∧
  (∀ i j, i < j → j < n → ¬ H i = H j) ∧
  n = sm (fun p => if M 13 p = 0 then 0 else 1) 512 ∧
  (∀ i, i < n → ∃ m, wk K m s (H i)) ∧
  (∀ p, D p = true ↔ ∃ i, i < k ∧ H i = p) ∧
  (∀ i, i < k → gOk (K (H i)) ∧ ∀ w', w' < gW (K (H i)) → M 13 (gT K (H i) w') = 1) ∧
  (∀ w', w' < w → M 13 (gT K c w') = 1) ∧
  (∀ q, q < 512 → M 14 q = nI (sm (fun p => if D p = true then ce K p q else 0) 512 + cnt K c q w) ∧ M 15 q = 0 ∧ M 16 q = 0) ∧
  CodeM K M
theorem BI.old {K : Nat → Nat} {s n k c w : Nat} {H : Nat → Nat} {D : Nat → Bool} {M : Mem} (h : BI K s n k c w H D M) (hm : ¬ M 13 (gT K c w) = 0) : BI K s n k c (w + 1) H D (up2 M 14 (gT K c w) (M 14 (gT K c w) + 1)) := by
  obtain ⟨h1, h2, h3, h4, h5, h6, h7, h8, h9, h10, h11, h12, h13⟩ := h
  have ht := gT_lt (K := K) (p := c) (w := w)
  refine ⟨h1, h2, h3, fun i hi => ?_, fun p hp => ?_, h6, ?_, h8, h9, fun i hi => ?_, fun w' hw => ?_, fun q hq => ?_, h13.fr (fun j _ => up2_x (by omega))⟩
  · rw [up2_x (by omega)]; exact h4 i hi
  · rw [up2_x (by omega)]; exact h5 p hp
  · rw [sm_congr (f := fun p => if M 13 p = 0 then 0 else 1) (fun i _ => by show (if up2 M 14 (gT K c w) (M 14 (gT K c w) + 1) 13 i = 0 then 0 else 1) = _; rw [up2_x (by omega)])]
    exact h7
  · obtain ⟨a1, a2⟩ := h10 i hi
    exact ⟨a1, fun w' hw => by rw [up2_x (by omega)]; exact a2 w' hw⟩
  · rw [up2_x (by omega)]
    by_cases e : w' = w
    · subst e
      rcases h5 _ ht with ⟨z, -⟩ | ⟨z, -⟩
      · exact absurd z hm
      · exact z
    · exact h11 w' (by omega)
  · obtain ⟨a1, a2, a3⟩ := h12 q hq
    rw [up2_x (o' := 15) (by omega), up2_x (o' := 16) (by omega)]
    refine ⟨?_, a2, a3⟩
    have ec : cnt K c q (w + 1) = cnt K c q w + if gT K c w = q then 1 else 0 := rfl
    by_cases e : gT K c w = q
    · subst e
      rw [up2_e, a1, nI_1, ec, if_pos rfl, Nat.add_assoc]
    · rw [up2_x (Or.inr (fun z => e z.symm)), a1, ec, if_neg e, Nat.add_zero]
theorem BI.new {K : Nat → Nat} {s n k c w : Nat} {H : Nat → Nat} {D : Nat → Bool} {M : Mem} (h : BI K s n k c w H D M) (hr : ∃ m, wk K m s (gT K c w)) (hm : M 13 (gT K c w) = 0) : n < 512 ∧ BI K s (n + 1) k c (w + 1) (eP H n (gT K c w)) D (up2 (up2 (up2 M 14 (gT K c w) (M 14 (gT K c w) + 1)) 13 (gT K c w) 1) 17 n (nI (gT K c w))) := by
  obtain ⟨h1, h2, h3, h4, h5, h6, h7, h8, h9, h10, h11, h12, h13⟩ := h
  have ht := gT_lt (K := K) (p := c) (w := w)
  have hno : ∀ i, i < n → ¬ H i = gT K c w := by
    rcases h5 _ ht with ⟨-, z⟩ | ⟨z, -⟩
    · exact z
    · rw [hm] at z; exact absurd z (by decide)
  have eo : ∀ i, i < n → eP H n (gT K c w) i = H i := fun i hi => if_neg (by omega)
  have en : eP H n (gT K c w) n = gT K c w := if_pos rfl
  have hlt : n < 512 := by
    rw [h7]
    exact sm_lt (j := gT K c w) ht (if_pos hm) (fun i _ => by show (if M 13 i = 0 then 0 else 1) ≤ 1; split <;> decide)
  have hs := sm_up (f := fun p => if M 13 p = 0 then 0 else 1) (g := fun p => if up2 (up2 (up2 M 14 (gT K c w) (M 14 (gT K c w) + 1)) 13 (gT K c w) 1) 17 n (nI (gT K c w)) 13 p = 0 then 0 else 1) (j := gT K c w) (n := 512) ht (fun i _ hi => by
    show (if up2 (up2 (up2 M 14 (gT K c w) (M 14 (gT K c w) + 1)) 13 (gT K c w) 1) 17 n (nI (gT K c w)) 13 i = 0 then 0 else 1) = (if M 13 i = 0 then 0 else 1)
    rw [up2_x (by omega), up2_x (by omega), up2_x (by omega)])
  have hs : sm (fun p => if up2 (up2 (up2 M 14 (gT K c w) (M 14 (gT K c w) + 1)) 13 (gT K c w) 1) 17 n (nI (gT K c w)) 13 p = 0 then 0 else 1) 512 + (if M 13 (gT K c w) = 0 then 0 else 1) = sm (fun p => if M 13 p = 0 then 0 else 1) 512 + (if up2 (up2 (up2 M 14 (gT K c w) (M 14 (gT K c w) + 1)) 13 (gT K c w) 1) 17 n (nI (gT K c w)) 13 (gT K c w) = 0 then 0 else 1) := hs
  rw [hm, if_pos rfl, up2_x (by omega), up2_e, if_neg (show ¬ (1 : Int32) = 0 by decide)] at hs
  have h13a : ∀ p, p < 512 → M 13 p = 1 → up2 (up2 (up2 M 14 (gT K c w) (M 14 (gT K c w) + 1)) 13 (gT K c w) 1) 17 n (nI (gT K c w)) 13 p = 1 := by
    intro p hp z
    rw [up2_x (by omega)]
    by_cases e : p = gT K c w
    · rw [e, up2_e]
    · rw [up2_x (by omega), up2_x (by omega)]; exact z
  refine ⟨hlt, by omega, by omega, by rw [eo 0 (by omega)]; exact h3, fun i hi => ?_, fun p hp => ?_, fun i j hij hj => ?_, by omega, fun i hi => ?_, fun p => ?_, fun i hi => ?_, fun w' hw => ?_, fun q hq => ?_, h13.fr (fun j _ => by rw [up2_x (by omega), up2_x (by omega), up2_x (by omega)])⟩
  · by_cases e : i = n
    · subst e
      rw [en, up2_e]
      exact ⟨ht, rfl⟩
    · rw [eo i (by omega), up2_x (by omega), up2_x (by omega), up2_x (by omega)]
      exact h4 i (by omega)
  · by_cases e : p = gT K c w
    · right
      subst e
      rw [up2_x (by omega), up2_e]
      exact ⟨rfl, n, by omega, en⟩
    · rw [up2_x (by omega), up2_x (by omega), up2_x (by omega)]
      rcases h5 p hp with ⟨z1, z2⟩ | ⟨z1, i, z2, z3⟩
      · left
        refine ⟨z1, fun i hi => ?_⟩
        by_cases e2 : i = n
        · subst e2
          rw [en]
          exact fun z => e z.symm
        · rw [eo i (by omega)]
          exact z2 i (by omega)
      · right
        exact ⟨z1, i, by omega, by rw [eo i z2]; exact z3⟩
  · by_cases e : j = n
    · subst e
      rw [en, eo i (by omega)]
      exact hno i (by omega)
    · rw [eo i (by omega), eo j (by omega)]
      exact h6 i j hij (by omega)
  · by_cases e : i = n
    · subst e
      rw [en]
      exact hr
    · rw [eo i (by omega)]
      exact h8 i (by omega)
  · rw [h9 p]
    constructor
    · rintro ⟨i, i1, i2⟩
      exact ⟨i, i1, by rw [eo i (by omega)]; exact i2⟩
    · rintro ⟨i, i1, i2⟩
      rw [eo i (by omega)] at i2
      exact ⟨i, i1, i2⟩
  · rw [eo i (by omega)]
    obtain ⟨a1, a2⟩ := h10 i hi
    exact ⟨a1, fun w' hw => h13a _ gT_lt (a2 w' hw)⟩
  · by_cases e : w' = w
    · subst e
      rw [up2_x (by omega), up2_e]
    · exact h13a _ gT_lt (h11 w' (by omega))
  · obtain ⟨a1, a2, a3⟩ := h12 q hq
    rw [up2_x (o' := 15) (by omega), up2_x (o' := 15) (by omega), up2_x (o' := 15) (by omega), up2_x (o' := 16) (by omega), up2_x (o' := 16) (by omega), up2_x (o' := 16) (by omega), up2_x (o' := 14) (by omega), up2_x (o' := 14) (by omega)]
    refine ⟨?_, a2, a3⟩
    have ec : cnt K c q (w + 1) = cnt K c q w + if gT K c w = q then 1 else 0 := rfl
    by_cases e : gT K c w = q
    · subst e
      rw [up2_e, a1, nI_1, ec, if_pos rfl, Nat.add_assoc]
    · rw [up2_x (Or.inr (fun z => e z.symm)), a1, ec, if_neg e, Nat.add_zero]
/-- a place is done -/
theorem BI.next {K : Nat → Nat} {s n k : Nat} {H : Nat → Nat} {D : Nat → Bool} {M : Mem} (h : BI K s n k (H k) (gW (K (H k))) H D M) (hk : k < n) (ho : gOk (K (H k))) (c : Nat) : ∃ D', BI K s n (k + 1) c 0 H D' M := by
  obtain ⟨h1, h2, h3, h4, h5, h6, h7, h8, h9, h10, h11, h12, h13⟩ := h
  have hd : ¬ D (H k) = true := fun z => by
    obtain ⟨i, i1, i2⟩ := (h9 _).mp z
    exact h6 i k i1 hk i2
  refine ⟨fun p => D p || decide (p = H k), h1, hk, h3, h4, h5, h6, h7, h8, fun p => ?_, fun i hi => ?_, fun w' hw => absurd hw (Nat.not_lt_zero _), fun q hq => ?_, h13⟩
  · simp only [Bool.or_eq_true, decide_eq_true_eq]
    rw [h9 p]
    constructor
    · rintro (⟨i, i1, i2⟩ | z)
      · exact ⟨i, by omega, i2⟩
      · exact ⟨k, by omega, z.symm⟩
    · rintro ⟨i, i1, i2⟩
      by_cases e : i = k
      · right; rw [← i2, e]
      · left; exact ⟨i, by omega, i2⟩
  · by_cases e : i = k
    · subst e
      exact ⟨ho, h11⟩
    · exact h10 i (by omega)
  · obtain ⟨a1, a2, a3⟩ := h12 q hq
    refine ⟨?_, a2, a3⟩
    have hs := sm_up (f := fun p => if D p = true then ce K p q else 0) (g := fun p => if (D p || decide (p = H k)) = true then ce K p q else 0) (j := H k) (n := 512) (h4 k hk).1 (fun i _ hi => by
      show (if (D i || decide (i = H k)) = true then ce K i q else 0) = (if D i = true then ce K i q else 0)
      rw [decide_eq_false hi, Bool.or_false])
    have hs : sm (fun p => if (D p || decide (p = H k)) = true then ce K p q else 0) 512 + (if D (H k) = true then ce K (H k) q else 0) = sm (fun p => if D p = true then ce K p q else 0) 512 + (if (D (H k) || decide (H k = H k)) = true then ce K (H k) q else 0) := hs
    rw [if_neg hd, decide_eq_true rfl, Bool.or_true, if_pos rfl, Nat.add_zero] at hs
    have e1 : cnt K (H k) q (gW (K (H k))) = ce K (H k) q := rfl
    have e2 : cnt K c q 0 = 0 := rfl
    rw [a1, hs, e1, e2, Nat.add_zero]
theorem meets_s {K61 : Int32 → Int32 → Mem → Option (Int32 × Mem)} {n : Nat} {a b c d : Int32} {M : Mem} : fm_meets_128 K61 (n + 1) a b c d M = fm_meets_128b K61 (fm_meets_128 K61 n) a b c d M := rfl
theorem meets_in {K : Nat → Nat} {s k c : Nat} {D : Nat → Bool} {K61 : Int32 → Int32 → Mem → Option (Int32 × Mem)} (hc : c < 512) (ho : gOk (K c)) (h18 : ¬ K c = 18) (hr : ∃ m, wk K m s c) : ∀ (e f n w : Nat) (H : Nat → Nat) (M : Mem), w + e = gW (K c) → k < n → BI K s n k c w H D M → ∃ n' H' M', fm_meets_128 K61 (f + e + 1) (nI n) (nI k) (nI c) (nI w) M = K61 (nI n') (nI (k + 1)) M' ∧ n ≤ n' ∧ BI K s n' k c (gW (K c)) H' D M' ∧ H' k = H k ∧ ∀ o j, (o < 13 ∨ 17 < o) → M' o j = M o j := by
  have eW : gW (K c) = if K c = 12 ∨ K c = 13 then 2 else 1 := by
    unfold gW
    rw [if_neg h18]
  have hW := gW_le (v := K c)
  have b144 : ∀ (n w : Nat) (K128 : Int32 → Int32 → Int32 → Int32 → Mem → Option (Int32 × Mem)) (M : Mem), (if (if K c = 12 ∨ K c = 13 then (1 : Int32) else 0) = 0 then fm_meets_144 K61 K128 (nI n) (nI k) (nI c) (nI w) 1 (nI w) M else fm_meets_144 K61 K128 (nI n) (nI k) (nI c) (nI w) 2 (nI w) M) = fm_meets_144 K61 K128 (nI n) (nI k) (nI c) (nI w) (nI (gW (K c))) (nI w) M := by
    intro n w K128 M
    rw [eW]
    by_cases z : K c = 12 ∨ K c = 13
    · rw [if_pos z, if_pos z, if_neg (show ¬ (1 : Int32) = 0 by decide)]; rfl
    · rw [if_neg z, if_neg z, if_pos rfl]; rfl
  intro e
  induction e with
  | zero =>
    intro f n w H M hw hk hB
    have ew : w = gW (K c) := by omega
    subst ew
    rw [show f + 0 + 1 = f + 1 from rfl, meets_s]
    unfold fm_meets_128b
    rw [branches_v hB.2.2.2.2.2.2.2.2.2.2.2.2 hc, bnd_s, b144]
    unfold fm_meets_144 fm_meets_206
    rw [if_pos (Int32.le_refl _), nI_1]
    exact ⟨n, H, M, rfl, Nat.le_refl _, hB, rfl, fun _ _ _ => rfl⟩
  | succ e ih =>
    intro f n w H M hw hk hB
    have hCo : CodeM K M := hB.2.2.2.2.2.2.2.2.2.2.2.2
    have ht := gT_lt (K := K) (p := c) (w := w)
    rw [show f + (e + 1) + 1 = (f + e + 1) + 1 by omega, meets_s]
    unfold fm_meets_128b
    rw [branches_v hCo hc, bnd_s, b144]
    unfold fm_meets_144 fm_meets_200
    rw [if_neg (nI_ge (show w < gW (K c) by omega) (by omega)), goesTo_v hCo hc (by have := ho.2.1; omega) (by omega), bnd_s, inb_nI ht (by decide)]
    simp only [gd_t, stp_e]
    rw [nI_clamp (show gT K c w < 2 ^ 31 by omega), up2_x (o' := 13) (by omega), nI_1]
    by_cases hm : M 13 (gT K c w) = 0
    · obtain ⟨m, hm2⟩ := hr
      obtain ⟨hlt, hB2⟩ := hB.new ⟨m + 1, c, hm2, w, by omega, rfl⟩ hm
      rw [if_pos hm, inb_nI hlt (by decide), gd_t, nI_clamp (show n < 2 ^ 31 by omega), nI_1]
      obtain ⟨n', H', M', e1, e2, e3, e4, e5⟩ := ih f (n + 1) (w + 1) _ _ (by omega) (by omega) hB2
      refine ⟨n', H', M', e1, by omega, e3, ?_, fun o j z => ?_⟩
      · rw [e4]; exact if_neg (by omega)
      · rw [e5 o j z, up2_x (by omega), up2_x (by omega), up2_x (by omega)]
    · rw [if_neg hm, nI_1]
      obtain ⟨n', H', M', e1, e2, e3, e4, e5⟩ := ih f n (w + 1) _ _ (by omega) hk (hB.old hm)
      refine ⟨n', H', M', e1, e2, e3, e4, fun o j z => ?_⟩
      rw [e5 o j z, up2_x (by omega)]
theorem meets61_s {n : Nat} {a b : Int32} {M : Mem} : fm_meets_61 (n + 1) a b M = fm_meets_61b (fm_meets_61 n) a b M := rfl
theorem BI.le {K : Nat → Nat} {s n k c w : Nat} {H : Nat → Nat} {D : Nat → Bool} {M : Mem} (h : BI K s n k c w H D M) : n ≤ 512 := by
  have h7 := h.2.2.2.2.2.2.1
  have := sm_le (f := fun p => if M 13 p = 0 then 0 else 1) (c := 1) (n := 512) (fun i _ => by show (if M 13 i = 0 then 0 else 1) ≤ 1; split <;> decide)
  omega
theorem BI.any {K : Nat → Nat} {s n k c c' : Nat} {H : Nat → Nat} {D : Nat → Bool} {M : Mem} (h : BI K s n k c 0 H D M) : BI K s n k c' 0 H D M := by
  obtain ⟨h1, h2, h3, h4, h5, h6, h7, h8, h9, h10, h11, h12, h13⟩ := h
  exact ⟨h1, h2, h3, h4, h5, h6, h7, h8, h9, h10, fun w' hw => absurd hw (Nat.not_lt_zero _), h12, h13⟩
theorem meets_out {K : Nat → Nat} {s : Nat} : ∀ (e n k : Nat) (H : Nat → Nat) (D : Nat → Bool) (M : Mem), 512 < e + k → BI K s n k 0 0 H D M → ∃ r M', fm_meets_61 e (nI n) (nI k) M = some (r, M') ∧ (∀ o j, (o < 13 ∨ 17 < o) → M' o j = M o j) ∧ ((r = 0 ∧ Bad K s) ∨ (r = 1 ∧ ∃ n H D, BI K s n n 0 0 H D M')) := by
  intro e
  induction e with
  | zero =>
    intro n k H D M he hB
    have := hB.le
    have := hB.2.1
    omega
  | succ e ih =>
    intro n k H D M he hB
    have hn := hB.le
    have hkn := hB.2.1
    have hCo : CodeM K M := hB.2.2.2.2.2.2.2.2.2.2.2.2
    rw [meets61_s]
    unfold fm_meets_61b
    by_cases hk : k < n
    · obtain ⟨a1, a2⟩ := hB.2.2.2.1 k hk
      obtain ⟨b1, b2⟩ := hCo _ a1
      obtain ⟨m, hm⟩ := hB.2.2.2.2.2.2.2.1 k hk
      have e0 : (nI (K (H k)) = 0) = (K (H k) = 0) := propext (nI_eq (b := 0) (by omega) (by decide))
      have e19 : (nI (K (H k)) = 19) = (K (H k) = 19) := propext (nI_eq (b := 19) (by omega) (by decide))
      have e18 : (nI (K (H k)) = 18) = (K (H k) = 18) := propext (nI_eq (b := 18) (by omega) (by decide))
      have e29 : (nI (K (H k)) ≤ 29) = (K (H k) ≤ 29) := leq_nI (b := 29) (by omega) (by decide)
      rw [if_neg (nI_ge hk (by omega)), inb_nI (show k < 512 by omega) (by decide), gd_t, nI_clamp (show k < 2 ^ 31 by omega), a2, inb_nI a1 (by decide)]
      simp only [gd_t]
      rw [nI_clamp (show H k < 2 ^ 31 by omega), b2]
      simp only [e0, e19, e18, e29]
      unfold fm_meets_108 fm_meets_206
      have bad : ¬ gOk (K (H k)) → ∃ r M', (some ((0 : Int32), M) : Option (Int32 × Mem)) = some (r, M') ∧ (∀ o j, (o < 13 ∨ 17 < o) → M' o j = M o j) ∧ ((r = 0 ∧ Bad K s) ∨ (r = 1 ∧ ∃ n H D, BI K s n n 0 0 H D M')) := fun z => ⟨0, M, rfl, fun _ _ _ => rfl, Or.inl ⟨rfl, Or.inl ⟨m, H k, hm, z⟩⟩⟩
      by_cases c0 : K (H k) = 0
      · rw [if_pos c0]
        exact bad (fun z => by have := z.1; omega)
      rw [if_neg c0]
      by_cases c19 : K (H k) = 19
      · rw [if_pos c19]
        exact bad (fun z => z.2.2 c19)
      rw [if_neg c19]
      by_cases c29 : K (H k) ≤ 29
      · rw [if_pos c29]
        have ho : gOk (K (H k)) := ⟨by omega, c29, c19⟩
        by_cases c18 : K (H k) = 18
        · rw [if_pos c18, nI_1]
          have hB1 : BI K s n k (H k) (gW (K (H k))) H D M := by
            have e0 : gW (K (H k)) = 0 := by unfold gW; rw [if_pos c18]
            rw [e0]
            exact hB.any
          obtain ⟨D', hB2⟩ := hB1.next hk ho 0
          exact ih n (k + 1) H D' M (by omega) hB2
        · rw [if_neg c18]
          obtain ⟨n', H', M', q1, q2, q3, q4, q5⟩ := meets_in (K61 := fm_meets_61 e) a1 ho c18 ⟨m, hm⟩ (gW (K (H k))) (599 - gW (K (H k))) n 0 H M (by omega) hk hB.any
          rw [show 599 - gW (K (H k)) + gW (K (H k)) + 1 = 600 by have := gW_le (v := K (H k)); omega] at q1
          rw [show fm_meets_128 (fm_meets_61 e) 600 (nI n) (nI k) (nI (H k)) 0 M = fm_meets_128 (fm_meets_61 e) 600 (nI n) (nI k) (nI (H k)) (nI 0) M from rfl, q1]
          rw [← q4] at q3 ho
          obtain ⟨D', hB2⟩ := q3.next (by omega) ho 0
          obtain ⟨r, M2, r1, r2, r3⟩ := ih n' (k + 1) H' D' M' (by omega) hB2
          exact ⟨r, M2, r1, fun o j z => by rw [r2 o j z, q5 o j z], r3⟩
      · rw [if_neg c29]
        exact bad (fun z => c29 z.2.1)
    · have ek : k = n := by omega
      subst ek
      rw [if_pos (Int32.le_refl _)]
      exact ⟨1, M, rfl, fun _ _ _ => rfl, Or.inr ⟨rfl, k, H, D, hB⟩⟩
theorem meets2_s {n : Nat} {a b : Int32} {M : Mem} : fm_meets_2 (n + 1) a b M = fm_meets_2b (fm_meets_2 n) a b M := rfl
theorem meets2_loop {s : Nat} : ∀ (e n i : Nat) (M : Mem), i + e = 512 → (∀ j, j < i → M 13 j = 0 ∧ M 14 j = 0 ∧ M 15 j = 0 ∧ M 16 j = 0) → ∃ M1, fm_meets_2 (n + e + 1) (nI s) (nI i) M = (stp (up2 M1 17 0 (nI s)) fun M2 => gd (inb (nI s) 512) <| stp (up2 M2 13 (nI s).toNatClampNeg 1) fun M4 => fm_meets_61 600 1 0 M4) ∧ (∀ j, j < 512 → M1 13 j = 0 ∧ M1 14 j = 0 ∧ M1 15 j = 0 ∧ M1 16 j = 0) ∧ ∀ o k, (o < 13 ∨ 16 < o) → M1 o k = M o k := by
  intro e
  induction e with
  | zero =>
    intro n i M hi h
    have ei : i = 512 := by omega
    subst ei
    rw [meets2_s]
    unfold fm_meets_2b
    rw [if_pos (show (512 : Int32) ≤ nI 512 by decide)]
    exact ⟨M, rfl, h, fun _ _ _ => rfl⟩
  | succ e ih =>
    intro n i M hi h
    rw [show n + (e + 1) + 1 = (n + e + 1) + 1 by omega, meets2_s]
    unfold fm_meets_2b
    rw [if_neg (show ¬ (512 : Int32) ≤ nI i from nI_ge (b := 512) (by omega) (by decide)), inb_nI (show i < 512 by omega) (by decide)]
    simp only [gd_t, stp_e]
    rw [nI_clamp (show i < 2 ^ 31 by omega), nI_1]
    obtain ⟨M1, e1, e2, e3⟩ := ih n (i + 1) (up2 (up2 (up2 (up2 M 13 i 0) 14 i 0) 15 i 0) 16 i 0) (by omega) (fun j hj => by
      by_cases z : j = i
      · subst z
        refine ⟨?_, ?_, ?_, ?_⟩
        · rw [up2_x (by omega), up2_x (by omega), up2_x (by omega), up2_e]
        · rw [up2_x (by omega), up2_x (by omega), up2_e]
        · rw [up2_x (by omega), up2_e]
        · rw [up2_e]
      · obtain ⟨y1, y2, y3, y4⟩ := h j (by omega)
        refine ⟨?_, ?_, ?_, ?_⟩
        · rw [up2_x (by omega), up2_x (by omega), up2_x (by omega), up2_x (by omega)]; exact y1
        · rw [up2_x (by omega), up2_x (by omega), up2_x (by omega), up2_x (by omega)]; exact y2
        · rw [up2_x (by omega), up2_x (by omega), up2_x (by omega), up2_x (by omega)]; exact y3
        · rw [up2_x (by omega), up2_x (by omega), up2_x (by omega), up2_x (by omega)]; exact y4)
    exact ⟨M1, e1, e2, fun o k z => by rw [e3 o k z, up2_x (by omega), up2_x (by omega), up2_x (by omega), up2_x (by omega)]⟩
/-- what the first look leaves -/
def MR (K : Nat → Nat) (s : Nat) (mt : Nat → Bool) (M : Mem) : Prop := (∀ p, p < 512 → M 13 p = if mt p = true then 1 else 0) ∧ mt s = true ∧ (∀ p, mt p = true → p < 512 ∧ gOk (K p) ∧ (∀ w, w < gW (K p) → mt (gT K p w) = true) ∧ ∃ m, wk K m s p) ∧ (∀ q, q < 512 → M 14 q = nI (sm (fun p => if mt p = true then ce K p q else 0) 512) ∧ M 15 q = 0 ∧ M 16 q = 0)
theorem meets_v {K : Nat → Nat} {s : Nat} {M : Mem} (hs : s < 512) (hK : CodeM K M) : ∃ r M', fm_meets (nI s) M = some (r, M') ∧ (∀ o j, (o < 13 ∨ 17 < o) → M' o j = M o j) ∧ ((r = 0 ∧ Bad K s) ∨ (r = 1 ∧ ∃ mt, MR K s mt M')) := by
  unfold fm_meets
  obtain ⟨M1, e1, e2, e3⟩ := meets2_loop (s := s) 512 87 0 M (by omega) (fun j hj => absurd hj (Nat.not_lt_zero _))
  rw [show fm_meets_2 600 (nI s) 0 M = fm_meets_2 (87 + 512 + 1) (nI s) (nI 0) M from rfl, e1, stp_e, inb_nI hs (by decide), gd_t, stp_e, nI_clamp (show s < 2 ^ 31 by omega)]
  have hsum : sm (fun p => if up2 (up2 M1 17 0 (nI s)) 13 s 1 13 p = 0 then 0 else 1) 512 = 1 := by
    have := sm_up (f := fun _ => 0) (g := fun p => if up2 (up2 M1 17 0 (nI s)) 13 s 1 13 p = 0 then 0 else 1) (j := s) (n := 512) hs (fun i hi hn => by
      show (if up2 (up2 M1 17 0 (nI s)) 13 s 1 13 i = 0 then 0 else 1) = 0
      rw [up2_x (by omega), up2_x (by omega), (e2 i hi).1, if_pos rfl])
    have this : sm (fun p => if up2 (up2 M1 17 0 (nI s)) 13 s 1 13 p = 0 then 0 else 1) 512 + 0 = sm (fun _ => 0) 512 + (if up2 (up2 M1 17 0 (nI s)) 13 s 1 13 s = 0 then 0 else 1) := this
    rw [up2_e, if_neg (show ¬ (1 : Int32) = 0 by decide), sm_zero (f := fun _ => 0) (fun i _ => rfl)] at this
    omega
  have hB : BI K s 1 0 0 0 (fun _ => s) (fun _ => false) (up2 (up2 M1 17 0 (nI s)) 13 s 1) := by
    refine ⟨Nat.le_refl _, Nat.zero_le _, rfl, fun i hi => ?_, fun p hp => ?_, fun i j hij hj => absurd hij (by omega), hsum.symm, fun i _ => ⟨0, rfl⟩, fun p => ?_, fun i hi => absurd hi (Nat.not_lt_zero _), fun w' hw => absurd hw (Nat.not_lt_zero _), fun q hq => ?_, hK.fr (fun j _ => by rw [up2_x (by omega), up2_x (by omega), e3 1 j (by omega)])⟩
    · have hi0 : i = 0 := by omega
      subst hi0
      rw [up2_x (by omega), up2_e]
      exact ⟨hs, rfl⟩
    · by_cases e : p = s
      · subst e
        right
        rw [up2_e]
        exact ⟨rfl, 0, by omega, rfl⟩
      · left
        rw [up2_x (by omega), up2_x (by omega), (e2 p hp).1]
        exact ⟨rfl, fun i _ z => e z.symm⟩
    · constructor
      · intro z; cases z
      · rintro ⟨i, hi, -⟩; omega
    · obtain ⟨-, y2, y3, y4⟩ := e2 q hq
      rw [up2_x (o' := 14) (by omega), up2_x (o' := 14) (by omega), up2_x (o' := 15) (by omega), up2_x (o' := 15) (by omega), up2_x (o' := 16) (by omega), up2_x (o' := 16) (by omega), y2, y3, y4, sm_zero (f := fun p => if false = true then ce K p q else 0) (fun i _ => rfl)]
      exact ⟨congrArg nI (show 0 = 0 + cnt K 0 q 0 from rfl), rfl, rfl⟩
  obtain ⟨r, M', r1, r2, r3⟩ := meets_out 600 1 0 _ _ _ (by omega) hB
  refine ⟨r, M', r1, fun o j z => by rw [r2 o j z, up2_x (by omega), up2_x (by omega), e3 o j (by omega)], ?_⟩
  rcases r3 with r3 | ⟨r3, n, H, D, hB2⟩
  · exact Or.inl r3
  · right
    refine ⟨r3, D, ?_⟩
    obtain ⟨h1, h2, h3, h4, h5, h6, h7, h8, h9, h10, h11, h12, h13⟩ := hB2
    refine ⟨fun p hp => ?_, (h9 s).mpr ⟨0, by omega, h3⟩, fun p hp => ?_, fun q hq => ?_⟩
    · rcases h5 p hp with ⟨z1, z2⟩ | ⟨z1, z2⟩
      · rw [if_neg (fun z => by obtain ⟨i, i1, i2⟩ := (h9 p).mp z; exact z2 i i1 i2)]
        exact z1
      · rw [if_pos ((h9 p).mpr z2)]
        exact z1
    · obtain ⟨i, i1, i2⟩ := (h9 p).mp hp
      obtain ⟨a1, a2⟩ := h10 i i1
      rw [i2] at a1 a2
      refine ⟨by rw [← i2]; exact (h4 i i1).1, a1, fun w hw => ?_, by rw [← i2]; exact h8 i i1⟩
      rcases h5 _ (gT_lt (K := K) (p := p) (w := w)) with ⟨z1, -⟩ | ⟨-, z2⟩
      · have := a2 w hw
        rw [z1] at this
        exact absurd this (by decide)
      · exact (h9 _).mpr z2
    · obtain ⟨a1, a2, a3⟩ := h12 q hq
      refine ⟨?_, a2, a3⟩
      have e2 : cnt K 0 q 0 = 0 := rfl
      rw [a1, e2, Nat.add_zero]
