/-! THE START: both sides, just made, stand in the relation -/
theorem C0_s {j : Nat} (hj : j < 21) : C0 (9 + 22 + j) = srcR j := by
  unfold C0
  rw [if_neg (by omega), if_neg (by omega), if_pos (by omega)]
  congr 1
  omega
def Mi : Mem := up2 (M0a 21) 3 20 1
theorem Mi_0 {o k : Nat} (h3 : ¬ o = 3) (h4 : ¬ o = 4) : Mi o k = 0 := by
  unfold Mi
  rw [up2_x (by omega)]
  unfold M0a
  rw [if_neg (by omega)]
theorem Mi_4 {k : Nat} (h : k < 173 ∨ 194 ≤ k) : Mi 4 k = 0 := by
  unfold Mi
  rw [up2_x (by omega)]
  unfold M0a
  rw [if_neg (by omega)]
theorem Mi_r {j : Nat} (h : j < 21) : Mi 4 (173 + j) = 255 := by
  unfold Mi
  rw [up2_x (by omega)]
  unfold M0a
  rw [if_pos ⟨rfl, by omega, by omega⟩]
theorem Mi_e {j : Nat} : Mi 3 j = if j = 20 then 1 else 0 := by
  unfold Mi
  by_cases h : j = 20
  · subst h
    rw [up2_e, if_pos rfl]
  · rw [up2_x (by omega), if_neg h]
    unfold M0a
    rw [if_neg (by omega)]
theorem srcR_1 {j : Nat} : srcR j 1 = 255 := rfl
theorem srcR_3 {j : Nat} : srcR j 3 = if j = 20 then 1 else 0 := by
  show (if (3 : Nat) = 1 then (255 : Int32) else if (3 : Nat) = 8 then -1 else if (3 : Nat) = 3 ∧ j = 20 then 1 else 0) = _
  rw [if_neg (by decide), if_neg (by decide)]
  by_cases h : j = 20
  · rw [if_pos ⟨rfl, h⟩, if_pos h]
  · rw [if_neg (fun z => h z.2), if_neg h]
theorem srcR_0 {j k : Nat} (h1 : ¬ k = 1) (h8 : ¬ k = 8) (h3 : ¬ k = 3) : srcR j k = 0 := by
  show (if k = 1 then (255 : Int32) else if k = 8 then -1 else if k = 3 ∧ j = 20 then 1 else 0) = 0
  rw [if_neg h1, if_neg h8, if_neg (fun z => h3 z.1)]
theorem coreR_0 {k : Nat} (h1 : ¬ k = 46) (h2 : ¬ k = 52) : C0 9 k = 0 := by
  show coreR k = 0
  unfold coreR
  rw [if_neg (by omega)]
theorem inv0 : ∃ M1, fm_fresh (up2 (M0a 21) 3 20 1) = some ((), M1) ∧ Inv 0 0 C0 M1 := by
  obtain ⟨M1, mm, m1, m2, m3, m4, m5, m6, m7, m8, m9⟩ := fresh_v (M := Mi)
  have z1 : ∀ k, C0 (9 + 1) k = 0 := fun _ => rfl
  have c10 : ∀ k, (¬ k = 46 ∧ ¬ k = 52) → C0 9 k = 0 := fun k h => coreR_0 h.1 h.2
  refine ⟨M1, mm, ⟨[], ?_⟩, ⟨fun z => ?_, fun z => ?_⟩, 0, Nat.le_refl _, rfl⟩
  · refine ⟨⟨?_, ?_, ?_, ?_, ?_, ?_, ?_, ?_, ?_, ?_, ?_, ?_, ?_, ?_, ?_, ?_, ?_, ?_, ?_, ?_, ?_, ?_, ?_, ?_, ?_, ?_, ?_, ?_, ?_, ?_, ?_, ?_, ?_⟩, ⟨?_, ?_, ?_, ?_, ?_⟩⟩
    · intro j hj
      rw [m1 (0 + j) (by omega) (by omega) (by omega) (by omega) (by omega)]
      rfl
    · intro j hj
      rw [m1 (40 + j) (by omega) (by omega) (by omega) (by omega) (by omega)]
      rfl
    · intro j hj
      rw [m1 (56 + j) (by omega) (by omega) (by omega) (by omega) (by omega)]
      rfl
    · intro j hj
      rw [m1 (8 + j) (by omega) (by omega) (by omega) (by omega) (by omega)]
      exact ⟨rfl, by unfold fin32; decide⟩
    · exact ⟨by rw [c10 29 (by omega), m1 13 (by omega) (by omega) (by omega) (by omega) (by omega)], by rw [c10 30 (by omega), m1 14 (by omega) (by omega) (by omega) (by omega) (by omega)]⟩
    · exact ⟨0, Nat.zero_le _, c10 31 (by omega), m1 12 (by omega) (by omega) (by omega) (by omega) (by omega)⟩
    · exact ⟨0, Nat.zero_le _, c10 32 (by omega), m1 15 (by omega) (by omega) (by omega) (by omega) (by omega)⟩
    · show C0 9 36 = M1 4 16
      rw [c10 36 (by omega), m1 16 (by omega) (by omega) (by omega) (by omega) (by omega)]
    · exact ⟨0, Nat.zero_le _, c10 35 (by omega), m1 17 (by omega) (by omega) (by omega) (by omega) (by omega)⟩
    · show C0 9 45 = M1 4 18
      rw [c10 45 (by omega), m1 18 (by omega) (by omega) (by omega) (by omega) (by omega)]
    · exact Or.inl ⟨rfl, m2⟩
    · exact ⟨⟨0, Nat.zero_le _, c10 41 (by omega), m1 20 (by omega) (by omega) (by omega) (by omega) (by omega)⟩, by rw [c10 24 (by omega), c10 41 (by omega)]⟩
    · show C0 9 42 = M1 4 21
      rw [c10 42 (by omega), m1 21 (by omega) (by omega) (by omega) (by omega) (by omega)]
    · exact ⟨⟨0, Nat.zero_le _, c10 43 (by omega), m1 22 (by omega) (by omega) (by omega) (by omega) (by omega)⟩, fun _ => c10 43 (by omega)⟩
    · exact ⟨by rw [c10 44 (by omega), m1 23 (by omega) (by omega) (by omega) (by omega) (by omega)], by rw [c10 44 (by omega)]; rfl⟩
    · exact ⟨0, Nat.zero_le _, c10 37 (by omega), m1 25 (by omega) (by omega) (by omega) (by omega) (by omega)⟩
    · exact ⟨0, Nat.zero_le _, c10 38 (by omega), by rw [m3]; exact Mi_4 (by omega)⟩
    · show C0 9 39 = M1 4 27
      rw [c10 39 (by omega), m4, Mi_4 (by omega)]
    · exact ⟨0, fun _ => 0, Nat.zero_le _, c10 33 (by omega), m1 30 (by omega) (by omega) (by omega) (by omega) (by omega), fun j hj => absurd hj (Nat.not_lt_zero _), fun i j _ hj => absurd hj (Nat.not_lt_zero _)⟩
    · exact ⟨0, Nat.zero_le _, c10 40 (by omega), m1 31 (by omega) (by omega) (by omega) (by omega) (by omega), fun j hj => absurd hj (Nat.not_lt_zero _)⟩
    · intro j hj hj2
      rw [C0_s hj, m6 (173 + j) (by omega) (by omega), Mi_r hj]
      exact ⟨255, Nat.le_refl _, rfl, rfl⟩
    · intro j hj
      rw [C0_s hj, m9 2 j (by omega) (by omega) (by omega) (by omega), Mi_0 (by omega) (by omega)]
      exact ⟨0, Nat.zero_le _, rfl, rfl⟩
    · intro j hj
      rw [C0_s hj, m9 3 j (by omega) (by omega) (by omega) (by omega), Mi_e, srcR_3]
      exact ⟨rfl, by split <;> rfl⟩
    · intro j hj
      rw [C0_s hj]
      exact Or.inl ⟨srcR_0 (by omega) (by omega) (by omega), (m5 j hj).1⟩
    · intro j hj
      rw [C0_s hj, m1 (300 + j) (by omega) (by omega) (by omega) (by omega) (by omega), srcR_0 (k := 5) (by omega) (by omega) (by omega)]
      exact ⟨rfl, rfl, fun z => absurd z (by decide)⟩
    · intro j hj
      rw [C0_s hj, m1 (215 + j) (by omega) (by omega) (by omega) (by omega) (by omega), srcR_0 (k := 9) (by omega) (by omega) (by omega)]
      exact ⟨fun _ => ⟨rfl, rfl⟩, fun _ => rfl⟩
    · exact ⟨⟨0, Nat.zero_le _, c10 34 (by omega), by rw [m9 0 3 (by omega) (by omega) (by omega) (by omega)]; exact Mi_0 (by omega) (by omega)⟩, by rw [c10 27 (by omega), c10 34 (by omega)]⟩
    · exact ⟨by rw [c10 48 (by omega)]; rfl, by rw [c10 49 (by omega)]; rfl, fun z => absurd z (by rw [c10 41 (by omega)]; decide)⟩
    · exact fun z => absurd z (by rw [c10 41 (by omega)]; decide)
    · exact fun z => absurd z (by rw [c10 41 (by omega)]; decide)
    · intro j hj
      exact ⟨0, by decide, by rw [m9 1 j (by omega) (by omega) (by omega) (by omega), Mi_0 (by omega) (by omega)]; rfl, show (0 : Int32) &&& 255 = nI 0 by decide⟩
    · exact ⟨c10 53 (by omega), Nat.le_refl _, fun j a => absurd a (Nat.not_lt_zero _)⟩
    · exact ⟨fun _ => ⟨c10 28 (by omega), c10 25 (by omega), c10 26 (by omega)⟩, fun z => absurd z (by decide)⟩
    · exact fun _ k a _ _ => by rw [m7 k (by omega)]; rfl
    · exact ⟨0, Nat.zero_le _, c10 50 (by omega), fun _ => ⟨m7 15 (by omega), fun j _ a => absurd a (Nat.not_lt_zero _)⟩⟩
    · exact fun _ => ⟨0, Nat.zero_le _, c10 51 (by omega), m8, fun j _ a => absurd a (Nat.not_lt_zero _)⟩
    · exact fun _ k hk => by rw [C0_s hk, (m5 k hk).2]; rfl
    · exact ⟨fun _ _ _ => rfl, fun z => absurd z (by decide)⟩
  · exact absurd z (by rw [c10 41 (by omega)]; decide)
  · exact absurd z (by rw [c10 41 (by omega)]; decide)
