/-! WAYS THROUGH THE CODE: the component's search -/
def stV (v : Nat) : Int32 := if v = 3 then -1 else nI v
def fY (K : Nat → Nat) : Nat → Int := fun p => (gY (K p) : Int)
def fP (K : Nat → Nat) : Nat → Int := fun p => gP (K p)
def nOv (G : Nat → Nat) : Nat := sm (fun p => if G p = 9 then 1 else 0) 512
def OV (K G : Nat → Nat) (C : Mem) (p : Nat) : Prop := gOk (K p) ∧ (∀ w, w < gW (K p) → G (gT K p w) = 9) ∧ (∀ m, ¬ wk K (m + 1) p p) ∧ ∃ a b : Nat, C 5 p = nI a ∧ C 6 p = nI b ∧ a ≤ 4 * nOv G ∧ b ≤ nOv G ∧ Best K (fY K) p a ∧ Best K (fP K) p b
def DI (K : Nat → Nat) (s d : Nat) (P G : Nat → Nat) (C : Mem) : Prop :=
  C 4 5 = nI d ∧
  (∀ p, p < 512 → C 7 p = stV (G p) ∧ (G p ≤ 3 ∨ G p = 9)) ∧
  (∀ i, i < d → P i < 512 ∧ C 8 i = nI (P i) ∧ G (P i) ≤ 2 ∧ G (P i) ≤ gW (K (P i))) ∧
  (∀ i j, i < j → j < d → ¬ P i = P j) ∧
  (∀ p, p < 512 → G p ≤ 2 → ∃ i, i < d ∧ P i = p) ∧
  d = sm (fun p => if G p ≤ 2 then 1 else 0) 512 ∧
  (∀ i, i + 1 < d → gE K (P i) (P (i + 1))) ∧
  (∀ i w, i < d → w < G (P i) → G (gT K (P i) w) = 9 ∨ (i + 1 < d ∧ gT K (P i) w = P (i + 1))) ∧
  (0 < d → P 0 = s) ∧ (d = 0 → G s = 9) ∧
  (∀ p, p < 512 → G p = 9 → OV K G C p)
def npush (m v : Nat) : Nat := if v = 9 then m + 1 else if v = 10 then m - 1 else m
theorem leq_nI {a b : Nat} (ha : a < 2 ^ 31) (hb : b < 2 ^ 31) : (nI a ≤ nI b) = (a ≤ b) := by
  apply propext
  constructor
  · intro h
    rcases Nat.lt_or_ge b a with z | z
    · exact absurd h (nI_ge z ha)
    · exact z
  · intro h
    exact nI_le h hb
theorem ite_nI {c : Prop} [Decidable c] {a b : Nat} : (if c then nI a else nI b) = nI (if c then a else b) := by
  split <;> rfl
theorem lv_s {t : Int32} {n : Nat} {a b c d : Int32} {C : Mem} : fc_Ways_leaves_8 t (n + 1) a b c d C = fc_Ways_leaves_8b t (fc_Ways_leaves_8 t n) a b c d C := rfl
/-- what is left behind when a place is left -/
def lvC (K : Nat → Nat) (p : Nat) (a b : Nat → Nat) (C : Mem) : Mem := up2 (up2 (up2 (up2 C 5 p (nI (mx a (gW (K p)) + gY (K p)))) 6 p (nI (npush (mx b (gW (K p))) (K p)))) 7 p 9) 4 5 (C 4 5 - 1)
theorem CodeC.fr {K : Nat → Nat} {C C' : Mem} (h : CodeC K C) (e : ∀ j, j < 512 → C' 2 j = C 2 j) : CodeC K C' := fun j hj => by
  rw [e j hj]
  exact h j hj
theorem lv_loop {K : Nat → Nat} {C : Mem} (h : CodeC K C) {p : Nat} (hp : p < 512) (ho : gOk (K p)) {a b : Nat → Nat} (ha : ∀ w, w < gW (K p) → C 5 (gT K p w) = nI (a w) ∧ a w ≤ 4096 ∧ C 6 (gT K p w) = nI (b w) ∧ b w ≤ 4096) : ∀ (e n k : Nat), k + e = gW (K p) → fc_Ways_leaves_8 (nI (K p)) (n + e + 1) (nI p) (nI (mx a k)) (nI (mx b k)) (nI k) C = some ((), lvC K p a b C) := by
  obtain ⟨o1, o2, o3⟩ := ho
  have hma : ∀ k, k ≤ gW (K p) → mx a k ≤ 4096 := fun k hk => mx_le (fun i hi => (ha i (by omega)).2.1)
  have hmb : ∀ k, k ≤ gW (K p) → mx b k ≤ 4096 := fun k hk => mx_le (fun i hi => (ha i (by omega)).2.2.2)
  have hW := gW_le (v := K p)
  intro e
  induction e with
  | zero =>
    intro n k hk
    have ek : k = gW (K p) := by omega
    subst ek
    rw [show n + 0 + 1 = n + 1 from rfl, lv_s]
    unfold fc_Ways_leaves_8b fc_Ways_leaves_122
    have m1 := hma _ (Nat.le_refl _)
    have m2 := hmb _ (Nat.le_refl _)
    rw [o_ways_v (K p) (by omega), bnd_s, if_pos (Int32.le_refl _), inb_nI hp (by decide), gd_t, stp_e, nI_clamp (show p < 2 ^ 31 by omega), nI_clamp (show K p < 2 ^ 31 by omega), opY_v (K p) (by omega) o1, nI_add, o_pushes_v (K p) (by omega), bnd_s]
    have key : ∀ z : Int32, z = nI (npush (mx b (gW (K p))) (K p)) → (gd true <| stp (up2 (up2 C 5 p (nI (mx a (gW (K p)) + gY (K p)))) 6 p z) fun C2 => gd true <| stp (up2 C2 7 p 9) fun C4 => stp (up2 C4 4 5 ((C4 4 5) - 1)) fun C5 => some ((), C5)) = some ((), lvC K p a b C) := by
      intro z hz
      rw [hz, gd_t, stp_e, gd_t, stp_e, stp_e]
      unfold lvC
      simp (disch := omega) only [up2_x]
    rw [o_pushes_v (K p) (by omega), bnd_s]
    by_cases h9 : K p = 9
    · rw [if_pos h9]
      have e1 : nI (mx b (gW (K p))) + 1 = nI (npush (mx b (gW (K p))) (K p)) := by
        unfold npush
        rw [if_pos h9, nI_1]
      rw [if_neg (show ¬ nI (mx b (gW (K p))) + 1 ≤ 0 by rw [nI_1]; exact nI_ge (a := 0) (by omega) (by omega))]
      exact key _ e1
    · rw [if_neg h9]
      by_cases h10 : K p = 10
      · rw [if_pos h10]
        have e2 : npush (mx b (gW (K p))) (K p) = mx b (gW (K p)) - 1 := by
          unfold npush
          rw [if_neg h9, if_pos h10]
        by_cases hz : mx b (gW (K p)) ≤ 1
        · have e3 : nI (mx b (gW (K p))) + (-1) ≤ 0 := by
            have h2 : mx b (gW (K p)) = 0 ∨ mx b (gW (K p)) = 1 := by omega
            rcases h2 with h2 | h2 <;> rw [h2] <;> decide
          rw [if_pos e3]
          exact key 0 (by rw [e2, show mx b (gW (K p)) - 1 = 0 by omega]; rfl)
        · rw [show nI (mx b (gW (K p))) + (-1) = nI (mx b (gW (K p)) - 1) by rw [← Int32.sub_eq_add_neg, s_1 (by omega)]]
          rw [if_neg (show ¬ nI (mx b (gW (K p)) - 1) ≤ 0 from nI_ge (a := 0) (by omega) (by omega))]
          exact key _ (by rw [e2])
      · rw [if_neg h10]
        have e2 : npush (mx b (gW (K p))) (K p) = mx b (gW (K p)) := by
          unfold npush
          rw [if_neg h9, if_neg h10]
        rw [Int32.add_zero]
        by_cases hz : mx b (gW (K p)) = 0
        · rw [if_pos (show nI (mx b (gW (K p))) ≤ 0 by rw [hz]; decide)]
          exact key 0 (by rw [e2, hz]; rfl)
        · rw [if_neg (show ¬ nI (mx b (gW (K p))) ≤ 0 from nI_ge (a := 0) (by omega) (by omega))]
          exact key _ (by rw [e2])
  | succ e ih =>
    intro n k hk
    rw [show n + (e + 1) + 1 = (n + e + 1) + 1 by omega, lv_s]
    unfold fc_Ways_leaves_8b fc_Ways_leaves_51 fc_Ways_leaves_76
    obtain ⟨a1, a2, a3, a4⟩ := ha k (by omega)
    have m1 := hma k (by omega)
    have m2 := hmb k (by omega)
    have ht := gT_lt (K := K) (p := p) (w := k)
    rw [o_ways_v (K p) (by omega), bnd_s, if_neg (nI_ge (show k < gW (K p) by omega) (by omega)), next_v h hp ⟨o1, o2, o3⟩ (show k < gW (K p) by omega), bnd_s, inb_nI ht (by decide), gd_t, gd_t, gd_t, gd_t, nI_clamp (show gT K p k < 2 ^ 31 by omega), a1, a3, nI_1]
    have ih' := ih n (k + 1) (by omega)
    unfold mx at ih'
    by_cases c1 : a k ≤ mx a k
    · rw [if_pos c1] at ih'
      rw [if_pos (nI_le c1 (by omega))]
      by_cases c2 : b k ≤ mx b k
      · rw [if_pos c2] at ih'
        rw [if_pos (nI_le c2 (by omega))]
        exact ih'
      · rw [if_neg c2] at ih'
        rw [if_neg (nI_ge (by omega) (by omega))]
        exact ih'
    · rw [if_neg c1] at ih'
      rw [if_neg (nI_ge (show mx a k < a k by omega) (by omega))]
      by_cases c2 : b k ≤ mx b k
      · rw [if_pos c2] at ih'
        rw [if_pos (nI_le c2 (by omega))]
        exact ih'
      · rw [if_neg c2] at ih'
        rw [if_neg (nI_ge (show mx b k < b k by omega) (by omega))]
        exact ih'
/-- along the path -/
theorem path_wk {K : Nat → Nat} {d : Nat} {P : Nat → Nat} (h : ∀ i, i + 1 < d → gE K (P i) (P (i + 1))) : ∀ k i, i + k < d → wk K k (P i) (P (i + k)) := by
  intro k
  induction k with
  | zero => intro i _; rfl
  | succ k ih =>
    intro i hi
    exact ⟨P (i + k), ih i (by omega), h (i + k) (by omega)⟩
def phi (v : Nat) : Nat := if v = 9 then 0 else if v = 3 then 4 else 3 - v
def mu (G : Nat → Nat) : Nat := sm (fun p => phi (G p)) 512
def gSet (G : Nat → Nat) (p v : Nat) : Nat → Nat := fun q => if q = p then v else G q
theorem gSet_e {G : Nat → Nat} {p v : Nat} : gSet G p v p = v := if_pos rfl
theorem gSet_n {G : Nat → Nat} {p v q : Nat} (h : ¬ q = p) : gSet G p v q = G q := if_neg h
theorem mu_set {G : Nat → Nat} {p v : Nat} (hp : p < 512) : mu (gSet G p v) + phi (G p) = mu G + phi v := by
  unfold mu
  have := sm_up (f := fun p => phi (G p)) (g := fun q => phi (gSet G p v q)) (j := p) (n := 512) hp (fun i _ hn => by show phi (gSet G p v i) = _; rw [gSet_n hn])
  rw [gSet_e] at this
  exact this
theorem nOv_set {G : Nat → Nat} {p v : Nat} (hp : p < 512) : nOv (gSet G p v) + (if G p = 9 then 1 else 0) = nOv G + (if v = 9 then 1 else 0) := by
  unfold nOv
  have := sm_up (f := fun p => if G p = 9 then 1 else 0) (g := fun q => if gSet G p v q = 9 then 1 else 0) (j := p) (n := 512) hp (fun i _ hn => by show (if gSet G p v i = 9 then 1 else 0) = _; rw [gSet_n hn])
  rw [gSet_e] at this
  exact this
theorem nGr_set {G : Nat → Nat} {p v : Nat} (hp : p < 512) : sm (fun q => if gSet G p v q ≤ 2 then 1 else 0) 512 + (if G p ≤ 2 then 1 else 0) = sm (fun q => if G q ≤ 2 then 1 else 0) 512 + (if v ≤ 2 then 1 else 0) := by
  have := sm_up (f := fun p => if G p ≤ 2 then 1 else 0) (g := fun q => if gSet G p v q ≤ 2 then 1 else 0) (j := p) (n := 512) hp (fun i _ hn => by show (if gSet G p v i ≤ 2 then 1 else 0) = _; rw [gSet_n hn])
  rw [gSet_e] at this
  exact this
theorem nOv_le {G : Nat → Nat} : nOv G ≤ 512 := by
  have := sm_le (f := fun p => if G p = 9 then 1 else 0) (c := 1) (n := 512) (fun i _ => by show (if G i = 9 then 1 else 0) ≤ 1; split <;> decide)
  unfold nOv
  omega
/-- an over place stays so, as others change -/
theorem OV.up {K G : Nat → Nat} {C C' : Mem} {p q v : Nat} (h : OV K G C p) (hq : q < 512) (hg : ¬ G q = 9) (h5 : C' 5 p = C 5 p) (h6 : C' 6 p = C 6 p) : OV K (gSet G q v) C' p := by
  obtain ⟨h1, h2, h3, a, b, h4, h7, h8, h9, h10, h11⟩ := h
  have hn := nOv_set (G := G) (v := v) hq
  rw [if_neg hg] at hn
  refine ⟨h1, fun w hw => ?_, h3, a, b, by rw [h5]; exact h4, by rw [h6]; exact h7, by omega, by omega, h10, h11⟩
  have := h2 w hw
  rw [gSet_n (fun z => hg (by rw [← z]; exact this))]
  exact this
/-- one more turn at the top place: its next way -/
theorem DI.turn {K : Nat → Nat} {s d : Nat} {P G : Nat → Nat} {C : Mem} (h : DI K s (d + 1) P G C) (hw : G (P d) < gW (K (P d))) (hov : gSet G (P d) (G (P d) + 1) (gT K (P d) (G (P d))) = 9) : DI K s (d + 1) P (gSet G (P d) (G (P d) + 1)) (up2 C 7 (P d) (nI (G (P d)) + 1)) := by
  obtain ⟨h1, h2, h3, h4, h5, h6, h7, h8, h9, h10, h11⟩ := h
  obtain ⟨p1, p2, p3, p4⟩ := h3 d (by omega)
  have hW := gW_le (v := K (P d))
  have hto : G (gT K (P d) (G (P d))) = 9 := by
    by_cases e : gT K (P d) (G (P d)) = P d
    · rw [e, gSet_e] at hov; omega
    · rw [gSet_n e] at hov; exact hov
  refine ⟨?_, fun p hp => ?_, fun i hi => ?_, h4, fun p hp hg => ?_, ?_, h7, fun i w hi hwi => ?_, h9, fun z => absurd z (by omega), fun p hp hg => ?_⟩
  · rw [up2_x (by omega)]; exact h1
  · by_cases e : p = P d
    · subst e
      rw [up2_e, gSet_e, nI_1]
      refine ⟨?_, by omega⟩
      unfold stV
      rw [if_neg (by omega)]
    · rw [up2_x (by omega), gSet_n e]
      exact h2 p hp
  · obtain ⟨a1, a2, a3, a4⟩ := h3 i hi
    refine ⟨a1, by rw [up2_x (by omega)]; exact a2, ?_, ?_⟩
    · by_cases e : P i = P d
      · rw [e, gSet_e]; omega
      · rw [gSet_n e]; exact a3
    · by_cases e : P i = P d
      · rw [e, gSet_e]; omega
      · rw [gSet_n e]; exact a4
  · by_cases e : p = P d
    · exact ⟨d, by omega, e.symm⟩
    · rw [gSet_n e] at hg
      exact h5 p hp hg
  · have := nGr_set (G := G) (v := G (P d) + 1) p1
    rw [if_pos p3, if_pos (show G (P d) + 1 ≤ 2 by omega)] at this
    omega
  · by_cases e : P i = P d
    · have ei : i = d := by
        rcases Nat.lt_or_ge i d with z | z
        · exact absurd e (h4 i d z (by omega))
        · omega
      subst ei
      rw [gSet_e] at hwi
      left
      by_cases e2 : w = G (P i)
      · rw [e2]; exact hov
      · have h12 := h8 i w hi (by omega)
        rcases h12 with h12 | ⟨h12, -⟩
        · rw [gSet_n (fun z => by rw [z] at h12; omega)]; exact h12
        · omega
    · rw [gSet_n e] at hwi
      rcases h8 i w hi hwi with h12 | h12
      · left
        rw [gSet_n (fun z => by rw [z] at h12; omega)]; exact h12
      · exact Or.inr h12
  · have e : ¬ p = P d := fun z => by rw [z, gSet_e] at hg; omega
    rw [gSet_n e] at hg
    exact (h11 p hp hg).up p1 (by omega) (up2_x (by omega)) (up2_x (by omega))
/-- .. which leads to a new place -/
def eP (P : Nat → Nat) (d t : Nat) : Nat → Nat := fun i => if i = d then t else P i
theorem DI.enter {K : Nat → Nat} {s d t : Nat} {P G : Nat → Nat} {C : Mem} (h : DI K s (d + 1) P G C) (hw : G (P d) < gW (K (P d))) (ht : gT K (P d) (G (P d)) = t) (hn : gSet G (P d) (G (P d) + 1) t = 3) : d + 1 < 512 ∧ DI K s (d + 2) (eP P (d + 1) t) (gSet (gSet G (P d) (G (P d) + 1)) t 0) (up2 (up2 (up2 (up2 C 7 (P d) (nI (G (P d)) + 1)) 7 t 0) 8 (d + 1) (nI t)) 4 5 (nI (d + 1) + 1)) := by
  obtain ⟨h1, h2, h3, h4, h5, h6, h7, h8, h9, h10, h11⟩ := h
  obtain ⟨p1, p2, p3, p4⟩ := h3 d (by omega)
  have hW := gW_le (v := K (P d))
  have htl : t < 512 := by rw [← ht]; exact gT_lt
  have htd : ¬ t = P d := fun z => by rw [z, gSet_e] at hn; omega
  have hGt : G t = 3 := by rw [gSet_n htd] at hn; exact hn
  have hP : ∀ i, i < d + 1 → ¬ P i = t := fun i hi z => by
    have := (h3 i hi).2.2.1
    rw [z, hGt] at this
    omega
  have eo : ∀ i, i < d + 1 → eP P (d + 1) t i = P i := fun i hi => if_neg (by omega)
  have en : eP P (d + 1) t (d + 1) = t := if_pos rfl
  have cnt := nGr_set (G := G) (v := G (P d) + 1) p1
  rw [if_pos p3, if_pos (show G (P d) + 1 ≤ 2 by omega)] at cnt
  have hlt : d + 1 < 512 := by
    rw [h6]
    exact sm_lt (j := t) htl (by show (if G t ≤ 2 then 1 else 0) = 0; rw [hGt]; rfl) (fun i _ => by show (if G i ≤ 2 then 1 else 0) ≤ 1; split <;> decide)
  have cnt2 := nGr_set (G := gSet G (P d) (G (P d) + 1)) (v := 0) htl
  rw [hn] at cnt2
  rw [if_neg (show ¬ 3 ≤ 2 by omega), if_pos (show 0 ≤ 2 by omega)] at cnt2
  refine ⟨hlt, ?_, fun p hp => ?_, fun i hi => ?_, fun i j hij hj => ?_, fun p hp hg => ?_, ?_, fun i hi => ?_, fun i w hi hwi => ?_, fun _ => ?_, fun z => absurd z (by omega), fun p hp hg => ?_⟩
  · rw [up2_e, nI_1]
  · by_cases e : p = t
    · subst e
      rw [gSet_e, up2_x (by omega), up2_x (by omega), up2_e]
      exact ⟨rfl, by omega⟩
    · rw [up2_x (by omega), up2_x (by omega), up2_x (by omega), gSet_n e]
      by_cases e2 : p = P d
      · subst e2
        rw [up2_e, gSet_e, nI_1]
        refine ⟨?_, by omega⟩
        unfold stV
        rw [if_neg (by omega)]
      · rw [up2_x (by omega), gSet_n e2]
        exact h2 p hp
  · by_cases e : i = d + 1
    · subst e
      rw [en, gSet_e]
      refine ⟨htl, ?_, by omega, Nat.zero_le _⟩
      rw [up2_x (by omega), up2_e]
    · obtain ⟨a1, a2, a3, a4⟩ := h3 i (by omega)
      rw [eo i (by omega), gSet_n (hP i (by omega))]
      refine ⟨a1, ?_, ?_, ?_⟩
      · rw [up2_x (by omega), up2_x (by omega), up2_x (by omega), up2_x (by omega)]; exact a2
      · by_cases e3 : P i = P d
        · rw [e3, gSet_e]; omega
        · rw [gSet_n e3]; exact a3
      · by_cases e3 : P i = P d
        · rw [e3, gSet_e]; omega
        · rw [gSet_n e3]; exact a4
  · by_cases e : j = d + 1
    · subst e
      rw [en, eo i (by omega)]
      exact hP i (by omega)
    · rw [eo i (by omega), eo j (by omega)]
      exact h4 i j hij (by omega)
  · by_cases e : p = t
    · exact ⟨d + 1, by omega, by rw [en]; exact e.symm⟩
    · rw [gSet_n e] at hg
      have hg2 : G p ≤ 2 := by
        by_cases e2 : p = P d
        · rw [e2]; exact p3
        · rw [gSet_n e2] at hg; exact hg
      obtain ⟨i, i1, i2⟩ := h5 p hp hg2
      exact ⟨i, by omega, by rw [eo i i1]; exact i2⟩
  · omega
  · by_cases e : i = d
    · subst e
      rw [eo i (by omega), en]
      exact ⟨_, hw, ht⟩
    · rw [eo i (by omega), eo (i + 1) (by omega)]
      exact h7 i (by omega)
  · by_cases e : i = d + 1
    · subst e
      rw [en, gSet_e] at hwi
      omega
    · rw [eo i (by omega)] at hwi ⊢
      rw [gSet_n (hP i (by omega))] at hwi
      by_cases e2 : P i = P d
      · have ei : i = d := by
          rcases Nat.lt_or_ge i d with z | z
          · exact absurd e2 (h4 i d z (by omega))
          · omega
        subst ei
        rw [gSet_e] at hwi
        by_cases e3 : w = G (P i)
        · right
          rw [en, e3]
          exact ⟨by omega, ht⟩
        · left
          rcases h8 i w (by omega) (by omega) with h12 | ⟨h12, -⟩
          · rw [gSet_n (fun z => by rw [z] at h12; omega), gSet_n (fun z => by rw [z] at h12; omega)]; exact h12
          · omega
      · rw [gSet_n e2] at hwi
        rcases h8 i w (by omega) hwi with h12 | ⟨h12, h13⟩
        · left
          rw [gSet_n (fun z => by rw [z] at h12; omega), gSet_n (fun z => by rw [z] at h12; omega)]; exact h12
        · right
          rw [eo (i + 1) h12]
          exact ⟨by omega, h13⟩
  · rw [eo 0 (by omega)]
    exact h9 (by omega)
  · have e : ¬ p = t := fun z => by rw [z, gSet_e] at hg; omega
    rw [gSet_n e] at hg
    have e2 : ¬ p = P d := fun z => by rw [z, gSet_e] at hg; omega
    rw [gSet_n e2] at hg
    have o1 := (h11 p hp hg).up (C' := C) (v := G (P d) + 1) p1 (by omega) rfl rfl
    exact o1.up htl (by rw [hn]; decide) (by rw [up2_x (by omega), up2_x (by omega), up2_x (by omega), up2_x (by omega)]) (by rw [up2_x (by omega), up2_x (by omega), up2_x (by omega), up2_x (by omega)])
/-- the top place is left -/
theorem DI.leave {K : Nat → Nat} {s d : Nat} {P G : Nat → Nat} {C : Mem} (h : DI K s (d + 1) P G C) (ho : gOk (K (P d))) (hw : G (P d) = gW (K (P d))) : ∃ a b : Nat → Nat, (∀ w, w < gW (K (P d)) → C 5 (gT K (P d) w) = nI (a w) ∧ a w ≤ 4096 ∧ C 6 (gT K (P d) w) = nI (b w) ∧ b w ≤ 4096) ∧ DI K s d P (gSet G (P d) 9) (lvC K (P d) a b C) := by
  obtain ⟨h1, h2, h3, h4, h5, h6, h7, h8, h9, h10, h11⟩ := h
  obtain ⟨p1, p2, p3, p4⟩ := h3 d (by omega)
  have hov : ∀ w, w < gW (K (P d)) → G (gT K (P d) w) = 9 := fun w hwl => by
    rcases h8 d w (by omega) (by omega) with z | ⟨z, -⟩
    · exact z
    · omega
  have hval : ∀ w, ∃ ab : Nat × Nat, w < gW (K (P d)) → C 5 (gT K (P d) w) = nI ab.1 ∧ C 6 (gT K (P d) w) = nI ab.2 ∧ ab.1 ≤ 4 * nOv G ∧ ab.2 ≤ nOv G ∧ Best K (fY K) (gT K (P d) w) ab.1 ∧ Best K (fP K) (gT K (P d) w) ab.2 := by
    intro w
    by_cases hwl : w < gW (K (P d))
    · obtain ⟨-, -, -, a, b, z⟩ := h11 _ gT_lt (hov w hwl)
      exact ⟨(a, b), fun _ => z⟩
    · exact ⟨(0, 0), fun z => absurd z hwl⟩
  have hsel : ∃ ab : Nat → Nat × Nat, ∀ w, w < gW (K (P d)) → C 5 (gT K (P d) w) = nI (ab w).1 ∧ C 6 (gT K (P d) w) = nI (ab w).2 ∧ (ab w).1 ≤ 4 * nOv G ∧ (ab w).2 ≤ nOv G ∧ Best K (fY K) (gT K (P d) w) (ab w).1 ∧ Best K (fP K) (gT K (P d) w) (ab w).2 := ⟨fun w => Classical.choose (hval w), fun w => Classical.choose_spec (hval w)⟩
  obtain ⟨ab, hab⟩ := hsel
  have hno := nOv_le (G := G)
  have hns := nOv_set (G := G) (p := P d) (v := 9) p1
  rw [if_neg (show ¬ G (P d) = 9 by omega), if_pos rfl] at hns
  have cnt := nGr_set (G := G) (v := 9) p1
  rw [if_pos p3, if_neg (show ¬ 9 ≤ 2 by omega)] at cnt
  have hma : mx (fun w => (ab w).1) (gW (K (P d))) ≤ 4 * nOv G := mx_le (fun i hi => (hab i hi).2.2.1)
  have hmb : mx (fun w => (ab w).2) (gW (K (P d))) ≤ nOv G := mx_le (fun i hi => (hab i hi).2.2.2.1)
  have hy := gY_b (K (P d)) (by have := ho.2.1; omega) ho.1
  refine ⟨fun w => (ab w).1, fun w => (ab w).2, fun w hwl => ?_, ?_⟩
  · obtain ⟨z1, z2, z3, z4, -⟩ := hab w hwl
    exact ⟨z1, by show (ab w).1 ≤ 4096; omega, z2, by show (ab w).2 ≤ 4096; omega⟩
  unfold lvC
  refine ⟨?_, fun p hp => ?_, fun i hi => ?_, fun i j hij hj => h4 i j hij (by omega), fun p hp hg => ?_, ?_, fun i hi => h7 i (by omega), fun i w hi hwi => ?_, fun z => h9 (by omega), fun z => ?_, fun p hp hg => ?_⟩
  · rw [up2_e, h1, s_1 (by omega), Nat.add_sub_cancel]
  · by_cases e : p = P d
    · subst e
      rw [gSet_e, up2_x (by omega), up2_e]
      exact ⟨rfl, Or.inr rfl⟩
    · rw [gSet_n e, up2_x (by omega), up2_x (by omega), up2_x (by omega), up2_x (by omega)]
      exact h2 p hp
  · obtain ⟨a1, a2, a3, a4⟩ := h3 i (by omega)
    rw [gSet_n (h4 i d hi (by omega)), up2_x (by omega), up2_x (by omega), up2_x (by omega), up2_x (by omega)]
    exact ⟨a1, a2, a3, a4⟩
  · have e : ¬ p = P d := fun z => by rw [z, gSet_e] at hg; omega
    rw [gSet_n e] at hg
    obtain ⟨i, i1, i2⟩ := h5 p hp hg
    refine ⟨i, ?_, i2⟩
    rcases Nat.lt_or_ge i d with z | z
    · exact z
    · have : i = d := by omega
      subst this
      exact absurd i2.symm e
  · omega
  · have ne := h4 i d hi (by omega)
    rw [gSet_n ne] at hwi
    rcases h8 i w (by omega) hwi with h12 | ⟨h12, h13⟩
    · left
      rw [gSet_n (fun z => by rw [z] at h12; omega)]; exact h12
    · by_cases e : i + 1 = d
      · left
        rw [h13, e, gSet_e]
      · right
        exact ⟨by omega, h13⟩
  · subst z
    have := h9 (by omega)
    rw [← this, gSet_e]
  · by_cases e : p = P d
    · subst e
      refine ⟨ho, fun w hwl => ?_, fun m hm => ?_, mx (fun w => (ab w).1) (gW (K (P d))) + gY (K (P d)), npush (mx (fun w => (ab w).2) (gW (K (P d)))) (K (P d)), ?_, ?_, ?_, ?_, ?_, ?_⟩
      · rw [gSet_n (fun z => by have := hov w hwl; rw [z] at this; omega)]
        exact hov w hwl
      · -- what is over stays over along a walk
        have key : ∀ n q, q < 512 → G q = 9 → ∀ r, wk K n q r → G r = 9 := by
          intro n
          induction n with
          | zero =>
            intro q _ hq r hr
            have hr : q = r := hr
            rw [← hr]; exact hq
          | succ n ih =>
            intro q hql hq r hr
            obtain ⟨q2, ⟨w, hw2, e2⟩, h13⟩ := wk_cons.mp hr
            have h14 := (h11 q hql hq).2.1 w hw2
            rw [e2] at h14
            exact ih q2 (by rw [← e2]; exact gT_lt) h14 r h13
        obtain ⟨q, ⟨w, hw2, e2⟩, h13⟩ := wk_cons.mp hm
        have h14 := hov w hw2
        rw [e2] at h14
        have := key m q (by rw [← e2]; exact gT_lt) h14 _ h13
        omega
      · rw [up2_x (by omega), up2_x (by omega), up2_x (by omega), up2_e]
      · rw [up2_x (by omega), up2_x (by omega), up2_e]
      · omega
      · unfold npush
        split
        · omega
        · split <;> omega
      · refine best_step (c := fun w => (ab w).1) (fun w hwl => (hab w hwl).2.2.2.2.1) ?_
        unfold fY
        rw [if_neg (by omega)]
        omega
      · refine best_step (c := fun w => (ab w).2) (fun w hwl => (hab w hwl).2.2.2.2.2) ?_
        unfold fP gP npush
        by_cases h9 : K (P d) = 9
        · rw [if_pos h9, if_pos h9, if_neg (by omega)]
          omega
        · by_cases h10 : K (P d) = 10
          · rw [if_neg h9, if_pos h10, if_neg h9, if_pos h10]
            split <;> omega
          · rw [if_neg h9, if_neg h10, if_neg h9, if_neg h10]
            split <;> omega
    · rw [gSet_n e] at hg
      exact (h11 p hp hg).up p1 (by omega) (by rw [up2_x (by omega), up2_x (by omega), up2_x (by omega), up2_x (by omega)]) (by rw [up2_x (by omega), up2_x (by omega), up2_x (by omega), up2_x (by omega)])
/-- what 'end' answers -/
def EndR (K : Nat → Nat) (s : Nat) (r : Int32) (C C' : Mem) : Prop := (∀ o k, (o < 4 ∨ 8 < o) → C' o k = C o k) ∧ ((r = 0 ∧ Bad K s) ∨ (r = 1 ∧ ¬ Bad K s ∧ ∃ a b : Nat, a ≤ 4096 ∧ b ≤ 4096 ∧ C' 5 s = nI a ∧ C' 6 s = nI b ∧ Best K (fY K) s a ∧ Best K (fP K) s b))
theorem end_s {n : Nat} {C : Mem} : fc_Ways_end_32 (n + 1) C = fc_Ways_end_32b (fc_Ways_end_32 n) C := rfl
theorem stV_le {v : Nat} (h : v ≤ 2) : stV v = nI v := if_neg (by omega)
theorem end_loop {K : Nat → Nat} {s : Nat} (hs : s < 512) : ∀ (n d : Nat) (P G : Nat → Nat) (C : Mem), CodeC K C → DI K s d P G C → mu G < n → ∃ r C', fc_Ways_end_32 n C = some (r, C') ∧ EndR K s r C C' := by
  intro n
  induction n with
  | zero => intro d P G C _ _ h; exact absurd h (Nat.not_lt_zero _)
  | succ n ih =>
    intro d P G C hK h hm
    rw [end_s]
    unfold fc_Ways_end_32b
    have hd := h
    obtain ⟨h1, h2, h3, h4, h5, h6, h7, h8, h9, h10, h11⟩ := h
    rw [h1]
    cases d with
    | zero =>
      rw [if_pos (show nI 0 ≤ 0 by decide)]
      refine ⟨1, C, rfl, fun _ _ _ => rfl, Or.inr ⟨rfl, ?_, ?_⟩⟩
      · have key : ∀ n r, wk K n s r → r < 512 ∧ G r = 9 := by
          intro n
          induction n with
          | zero =>
            intro r hr
            have hr : s = r := hr
            rw [← hr]; exact ⟨hs, h10 rfl⟩
          | succ n ih2 =>
            intro r hr
            obtain ⟨q, h13, w, hw2, e2⟩ := hr
            obtain ⟨z1, z2⟩ := ih2 q h13
            have := (h11 q z1 z2).2.1 w hw2
            rw [e2] at this
            exact ⟨by rw [← e2]; exact gT_lt, this⟩
        rintro (⟨n, p, h13, h14⟩ | ⟨n, p, m, h13, h14⟩)
        · obtain ⟨z1, z2⟩ := key n p h13
          exact h14 (h11 p z1 z2).1
        · obtain ⟨z1, z2⟩ := key n p h13
          exact (h11 p z1 z2).2.2.1 m h14
      · obtain ⟨-, -, -, a, b, z1, z2, z3, z4, z5, z6⟩ := h11 s hs (h10 rfl)
        have := nOv_le (G := G)
        exact ⟨a, b, by omega, by omega, z1, z2, z5, z6⟩
    | succ d =>
      obtain ⟨p1, p2, p3, p4⟩ := h3 d (by omega)
      have hW := gW_le (v := K (P d))
      have hlt : d + 1 ≤ 512 := by
        have := sm_le (f := fun p => if G p ≤ 2 then 1 else 0) (c := 1) (n := 512) (fun i _ => by show (if G i ≤ 2 then 1 else 0) ≤ 1; split <;> decide)
        omega
      have hreach : wk K d s (P d) := by
        have := path_wk h7 d 0 (by omega)
        rw [h9 (by omega), Nat.zero_add] at this
        exact this
      rw [if_neg (show ¬ nI (d + 1) ≤ 0 from nI_ge (a := 0) (by omega) (by omega)), s_1 (by omega), Nat.add_sub_cancel, inb_nI (show d < 512 by omega) (by decide), gd_t, nI_clamp (show d < 2 ^ 31 by omega), p2, op_v hK p1, bnd_s]
      by_cases hv : 1 ≤ K (P d) ∧ K (P d) ≤ 29
      · obtain ⟨v1, v2⟩ := hv
        rw [if_pos (show 1 ≤ K (P d) ∧ K (P d) ≤ 29 from ⟨v1, v2⟩), if_neg (show ¬ nI (K (P d)) < 1 from nI_nlt (b := 1) v1 (by omega)), inO_nI v1 v2, gd_t, o_stops_v (K (P d)) (by omega), bnd_s]
        by_cases h19 : K (P d) = 19
        · rw [if_pos h19, if_neg (show ¬ (1 : Int32) = 0 by decide)]
          unfold fc_Ways_end_71
          exact ⟨0, C, rfl, fun _ _ _ => rfl, Or.inl ⟨rfl, Or.inl ⟨d, P d, hreach, fun z => z.2.2 h19⟩⟩⟩
        · have ho : gOk (K (P d)) := ⟨v1, v2, h19⟩
          rw [if_neg h19, if_pos rfl, inb_nI p1 (by decide), gd_t, gd_t, o_ways_v (K (P d)) (by omega), bnd_s, nI_clamp (show P d < 2 ^ 31 by omega), (h2 (P d) p1).1, stV_le p3]
          unfold fc_Ways_end_155
          by_cases hw : G (P d) = gW (K (P d))
          · rw [if_pos (show nI (G (P d)) = nI (gW (K (P d))) by rw [hw]), gd_t]
            obtain ⟨a, b, ha, hD⟩ := hd.leave ho hw
            have hl : fc_Ways_leaves (nI (K (P d))) (nI (P d)) C = some ((), lvC K (P d) a b C) := by
              unfold fc_Ways_leaves
              have := lv_loop hK p1 ho ha (gW (K (P d))) (599 - gW (K (P d))) 0 (by omega)
              rw [show 599 - gW (K (P d)) + gW (K (P d)) + 1 = 600 by omega] at this
              exact this
            rw [hl, bnd_s]
            have hmu := mu_set (G := G) (v := 9) p1
            have hph : phi 9 = 0 := rfl
            have hph2 : phi (G (P d)) = 3 - G (P d) := by
              unfold phi
              rw [if_neg (by omega), if_neg (by omega)]
            obtain ⟨r, C', e1, e2, e3⟩ := ih d P (gSet G (P d) 9) (lvC K (P d) a b C) (hK.fr (fun j _ => by unfold lvC; rw [up2_x (by omega), up2_x (by omega), up2_x (by omega), up2_x (by omega)])) hD (by omega)
            refine ⟨r, C', e1, fun o k z => ?_, e3⟩
            rw [e2 o k z]
            unfold lvC
            rw [up2_x (by omega), up2_x (by omega), up2_x (by omega), up2_x (by omega)]
          · have hwl : G (P d) < gW (K (P d)) := by omega
            rw [if_neg (fun z => hw ((nI_eq (by omega) (by omega)).mp z)), gd_t, next_v hK p1 ho hwl, bnd_s, gd_t, gd_t, (h2 (P d) p1).1, stV_le p3, stp_e]
            have ht := gT_lt (K := K) (p := P d) (w := G (P d))
            rw [inb_nI ht (by decide), gd_t, gd_t, nI_clamp (show gT K (P d) (G (P d)) < 2 ^ 31 by omega)]
            have hmu := mu_set (G := G) (v := G (P d) + 1) p1
            have hph2 : phi (G (P d)) = 3 - G (P d) := by
              unfold phi
              rw [if_neg (by omega), if_neg (by omega)]
            have hph3 : phi (G (P d) + 1) = 3 - (G (P d) + 1) := by
              unfold phi
              rw [if_neg (by omega), if_neg (by omega)]
            -- what stands at the next place
            have hto : up2 C 7 (P d) (nI (G (P d)) + 1) 7 (gT K (P d) (G (P d))) = stV (gSet G (P d) (G (P d) + 1) (gT K (P d) (G (P d)))) ∧ (gSet G (P d) (G (P d) + 1) (gT K (P d) (G (P d))) ≤ 3 ∨ gSet G (P d) (G (P d) + 1) (gT K (P d) (G (P d))) = 9) := by
              by_cases e : gT K (P d) (G (P d)) = P d
              · rw [e, up2_e, gSet_e, nI_1, stV_le (by omega)]
                exact ⟨rfl, by omega⟩
              · rw [up2_x (by omega), gSet_n e]
                exact h2 _ ht
            rw [hto.1]
            by_cases c3 : gSet G (P d) (G (P d) + 1) (gT K (P d) (G (P d))) = 3
            · rw [c3, if_pos (show stV 3 = -1 from rfl)]
              obtain ⟨q1, q2⟩ := hd.enter hwl rfl c3
              have he : fc_Ways_enters (nI (gT K (P d) (G (P d)))) (up2 C 7 (P d) (nI (G (P d)) + 1)) = some ((), up2 (up2 (up2 (up2 C 7 (P d) (nI (G (P d)) + 1)) 7 (gT K (P d) (G (P d))) 0) 8 (d + 1) (nI (gT K (P d) (G (P d))))) 4 5 (nI (d + 1) + 1)) := by
                unfold fc_Ways_enters
                rw [inb_nI ht (by decide), gd_t, stp_e, nI_clamp (show gT K (P d) (G (P d)) < 2 ^ 31 by omega)]
                simp (disch := omega) only [up2_x]
                rw [h1, inb_nI q1 (by decide), gd_t, stp_e, nI_clamp (show d + 1 < 2 ^ 31 by omega)]
                simp (disch := omega) only [up2_x]
                rw [h1, stp_e]
              rw [he, bnd_s]
              have hmu2 := mu_set (G := gSet G (P d) (G (P d) + 1)) (v := 0) ht
              rw [c3] at hmu2
              have z0 : phi 0 = 3 := rfl
              have z3 : phi 3 = 4 := rfl
              obtain ⟨r, C', e1, e2, e3⟩ := ih (d + 2) _ _ _ (hK.fr (fun j _ => by rw [up2_x (by omega), up2_x (by omega), up2_x (by omega), up2_x (by omega)])) q2 (by omega)
              refine ⟨r, C', e1, fun o k z => ?_, e3⟩
              rw [e2 o k z, up2_x (by omega), up2_x (by omega), up2_x (by omega), up2_x (by omega)]
            · by_cases c9 : gSet G (P d) (G (P d) + 1) (gT K (P d) (G (P d))) = 9
              · rw [c9, if_neg (show ¬ stV 9 = -1 by decide), if_pos (show stV 9 = 9 from rfl)]
                obtain ⟨r, C', e1, e2, e3⟩ := ih (d + 1) _ _ _ (hK.fr (fun j _ => by rw [up2_x (by omega)])) (hd.turn hwl c9) (by omega)
                refine ⟨r, C', e1, fun o k z => ?_, e3⟩
                rw [e2 o k z, up2_x (by omega)]
              · have hg2 : gSet G (P d) (G (P d) + 1) (gT K (P d) (G (P d))) ≤ 2 := by
                  rcases hto.2 with z | z <;> omega
                rw [stV_le hg2]
                generalize hgv : gSet G (P d) (G (P d) + 1) (gT K (P d) (G (P d))) = gv at hg2
                rw [if_neg (show ¬ nI gv = -1 from nI_n1 (by omega)), if_neg (show ¬ nI gv = 9 from fun z => by have := (nI_eq (b := 9) (by omega) (by decide)).mp z; omega)]
                refine ⟨0, _, rfl, fun o k z => by rw [up2_x (by omega)], Or.inl ⟨rfl, Or.inr ?_⟩⟩
                have hgo : G (gT K (P d) (G (P d))) ≤ 2 := by
                  by_cases e : gT K (P d) (G (P d)) = P d
                  · rw [e]; exact p3
                  · rw [gSet_n e] at hgv; omega
                obtain ⟨t, t1, t2⟩ := h5 _ ht hgo
                have w1 : wk K t s (P t) := by
                  have := path_wk h7 t 0 (by omega)
                  rw [h9 (by omega), Nat.zero_add] at this
                  exact this
                have w2 := path_wk h7 (d - t) t (by omega)
                rw [show t + (d - t) = d by omega] at w2
                exact ⟨t, P t, d - t, w1, P d, w2, _, hwl, t2.symm⟩
      · rw [if_neg hv, if_pos (show (0 : Int32) < 1 by decide)]
        unfold fc_Ways_end_71
        exact ⟨0, C, rfl, fun _ _ _ => rfl, Or.inl ⟨rfl, Or.inl ⟨d, P d, hreach, fun z => hv ⟨z.1, z.2.1⟩⟩⟩⟩
theorem end2_s {n : Nat} {a b : Int32} {C : Mem} : fc_Ways_end_2 (n + 1) a b C = fc_Ways_end_2b (fc_Ways_end_2 n) a b C := rfl
theorem end2_loop {s : Nat} : ∀ (e n i : Nat) (C : Mem), i + e = 512 → (∀ j, j < i → C 7 j = -1) → ∃ C1, fc_Ways_end_2 (n + e + 1) (nI s) (nI i) C = (stp (up2 C1 4 5 0) fun C2 => bnd (fc_Ways_enters (nI s) C2) fun r3 C3 => fc_Ways_end_32 4000 C3) ∧ (∀ j, j < 512 → C1 7 j = -1) ∧ ∀ o k, ¬ o = 7 → C1 o k = C o k := by
  intro e
  induction e with
  | zero =>
    intro n i C hi h
    have ei : i = 512 := by omega
    subst ei
    rw [end2_s]
    unfold fc_Ways_end_2b
    rw [if_pos (show (512 : Int32) ≤ nI 512 by decide)]
    exact ⟨C, rfl, h, fun _ _ _ => rfl⟩
  | succ e ih =>
    intro n i C hi h
    rw [show n + (e + 1) + 1 = (n + e + 1) + 1 by omega, end2_s]
    unfold fc_Ways_end_2b
    rw [if_neg (show ¬ (512 : Int32) ≤ nI i from nI_ge (b := 512) (by omega) (by decide)), inb_nI (show i < 512 by omega) (by decide), gd_t, stp_e, nI_clamp (show i < 2 ^ 31 by omega), nI_1]
    obtain ⟨C1, e1, e2, e3⟩ := ih n (i + 1) (up2 C 7 i (-1)) (by omega) (fun j hj => by
      by_cases z : j = i
      · subst z; rw [up2_e]
      · rw [up2_x (by omega)]; exact h j (by omega))
    exact ⟨C1, e1, e2, fun o k z => by rw [e3 o k z, up2_x (by omega)]⟩
theorem end_v {K : Nat → Nat} {s : Nat} {C : Mem} (hs : s < 512) (hK : CodeC K C) : ∃ r C', fc_Ways_end (nI s) C = some (r, C') ∧ EndR K s r C C' := by
  unfold fc_Ways_end
  obtain ⟨C1, e1, e2, e3⟩ := end2_loop (s := s) 512 3487 0 C (by omega) (fun j hj => absurd hj (Nat.not_lt_zero _))
  rw [show fc_Ways_end_2 4000 (nI s) 0 C = fc_Ways_end_2 (3487 + 512 + 1) (nI s) (nI 0) C from rfl, e1, stp_e]
  have he : fc_Ways_enters (nI s) (up2 C1 4 5 0) = some ((), up2 (up2 (up2 (up2 C1 4 5 0) 7 s 0) 8 0 (nI s)) 4 5 1) := by
    unfold fc_Ways_enters
    rw [inb_nI hs (by decide), gd_t, stp_e, nI_clamp (show s < 2 ^ 31 by omega)]
    simp (disch := omega) only [up2_x, up2_e]
    rw [show inb 0 512 = true from rfl, gd_t, stp_e, stp_e]
    rfl
  rw [he, bnd_s]
  have hG : ∀ p, gSet (fun _ => 3) s 0 p = if p = s then 0 else 3 := fun p => rfl
  have hgr : ∀ p, gSet (fun _ => 3) s 0 p ≤ 2 → p = s := fun p hp => by
    rw [hG] at hp
    split at hp
    · assumption
    · omega
  have hD : DI K s 1 (fun _ => s) (gSet (fun _ => 3) s 0) (up2 (up2 (up2 (up2 C1 4 5 0) 7 s 0) 8 0 (nI s)) 4 5 1) := by
    refine ⟨?_, fun p hp => ?_, fun i hi => ?_, fun i j hij hj => absurd hij (by omega), fun p hp hg => ⟨0, by omega, (hgr p hg).symm⟩, ?_, fun i hi => absurd hi (by omega), fun i w hi hw => ?_, fun _ => rfl, fun z => absurd z (by decide), fun p hp hg => ?_⟩
    · rw [up2_e]; rfl
    · by_cases e : p = s
      · subst e
        rw [gSet_e, up2_x (by omega), up2_x (by omega), up2_e]
        exact ⟨rfl, by omega⟩
      · rw [gSet_n e, up2_x (by omega), up2_x (by omega), up2_x (by omega), up2_x (by omega), e2 p hp]
        exact ⟨rfl, by omega⟩
    · have hi0 : i = 0 := by omega
      subst hi0
      rw [gSet_e]
      refine ⟨hs, ?_, by omega, Nat.zero_le _⟩
      rw [up2_x (by omega), up2_e]
    · have := nGr_set (G := fun _ => 3) (v := 0) hs
      rw [if_neg (show ¬ 3 ≤ 2 by omega), if_pos (show 0 ≤ 2 by omega), sm_zero (f := fun _ => 0) (fun i _ => rfl)] at this
      omega
    · rw [gSet_e] at hw
      omega
    · rw [hG] at hg
      split at hg <;> omega
  have hmu : mu (gSet (fun _ => 3) s 0) < 4000 := by
    unfold mu
    have := sm_le (f := fun p => phi (gSet (fun _ => 3) s 0 p)) (c := 4) (n := 512) (fun i _ => by
      show phi (gSet (fun _ => 3) s 0 i) ≤ 4
      rw [hG]
      split <;> decide)
    omega
  obtain ⟨r, C', q1, q2, q3⟩ := end_loop hs 4000 1 _ _ _ (hK.fr (fun j _ => by rw [up2_x (by omega), up2_x (by omega), up2_x (by omega), up2_x (by omega), e3 2 j (by omega)])) hD hmu
  refine ⟨r, C', q1, fun o k z => ?_, q3⟩
  rw [q2 o k z, up2_x (by omega), up2_x (by omega), up2_x (by omega), up2_x (by omega), e3 o k (by omega)]
