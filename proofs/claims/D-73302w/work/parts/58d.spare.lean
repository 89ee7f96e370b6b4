/-! THE SPARE: what it takes over -/
theorem cpy_0 {f g : Nat → Int32} {n k : Nat} (h : k < n) : va_cpy f g 0 0 n k = f k := by
  unfold va_cpy
  rw [if_pos (by omega), Nat.sub_zero, Nat.zero_add]
theorem src_takes {j : Nat} {C : Mem} (hj : j < 21) (h3 : isB (C (9 + 22 + j) 3) = true) (h4 : isB (C (9 + 22 + j) 4) = true) (h5 : isB (C (9 + 22 + j) 5) = true) (h9 : 8 ≤ j ∧ j < 16 → isB (C (9 + 22 + j) 9) = true) : ∃ C', fv_takes (52 + 22 + j) (9 + 22 + j) C = some ((), C') ∧ (∀ k, 1 ≤ k → k ≤ 8 → C' (52 + 22 + j) k = C (9 + 22 + j) k) ∧ (8 ≤ j ∧ j < 16 → C' (52 + 22 + j) 9 = C (9 + 22 + j) 9) ∧ ∀ o k, ¬ o = 52 + 22 + j → C' o k = C o k := by
  have base : ∃ C', fc_Src_takes (52 + 22 + j) (9 + 22 + j) C = some ((), C') ∧ (∀ k, 1 ≤ k → k ≤ 8 → C' (52 + 22 + j) k = C (9 + 22 + j) k) ∧ ∀ o k, ¬ o = 52 + 22 + j → C' o k = C o k := by
    unfold fc_Src_takes
    simp only [stp_e]
    simp (disch := omega) only [up2_x]
    rw [h3, h4, h5]
    simp only [gd_t]
    refine ⟨_, rfl, fun k k1 k2 => ?_, fun o k ho => ?_⟩
    · have : k = 1 ∨ k = 2 ∨ k = 3 ∨ k = 4 ∨ k = 5 ∨ k = 6 ∨ k = 7 ∨ k = 8 := by omega
      rcases this with rfl | rfl | rfl | rfl | rfl | rfl | rfl | rfl <;> simp (disch := omega) only [up2_x, up2_e]
    · simp (disch := omega) only [up2_x, upr_x]
  obtain ⟨C1, b1, b2, b3⟩ := base
  unfold fv_takes
  rw [cS_k (Or.inr rfl) hj]
  by_cases hl : 8 ≤ j ∧ j < 16
  · rw [if_pos hl]
    unfold fc_Lev_takes fv_isHeld fc_Lev_isHeld
    rw [b1, bnd_s, cS_k (Or.inl rfl) hj, if_pos hl, b3 (9 + 22 + j) 9 (by omega), h9 hl, gd_t, bnd_s, h9 hl, gd_t, stp_e]
    refine ⟨_, rfl, fun k k1 k2 => ?_, fun _ => ?_, fun o k ho => ?_⟩
    · simp (disch := omega) only [up2_x, upr_x]; exact b2 k k1 k2
    · simp (disch := omega) only [up2_x, up2_e, upr_x]
    · simp (disch := omega) only [up2_x, upr_x]; exact b3 o k ho
  · rw [if_neg hl]
    exact ⟨C1, b1, b2, fun z => absurd z hl, b3⟩
theorem tk72_s {n : Nat} {x : Int32} {C : Mem} : fc_Core_takes_72 52 9 (n + 1) x C = fc_Core_takes_72b 52 9 (fc_Core_takes_72 52 9 n) x C := rfl
theorem tk17_s {n : Nat} {x : Int32} {C : Mem} : fc_Core_takes_17 52 9 (n + 1) x C = fc_Core_takes_17b 52 9 (fc_Core_takes_17 52 9 n) x C := rfl
/-- what the loops over the sources leave -/
theorem tk72 {p : Nat} (hp : p ≤ 5) : ∀ (d n i : Nat) (C : Mem), i + d = 21 → (∀ j, j < 21 → isB (C (9 + 22 + j) 3) = true ∧ isB (C (9 + 22 + j) 4) = true ∧ isB (C (9 + 22 + j) 5) = true ∧ (8 ≤ j ∧ j < 16 → isB (C (9 + 22 + j) 9) = true)) → C 9 41 = nI p → isB (C 9 44) = true → isB (C 9 48) = true → isB (C 9 49) = true → ∃ C', fc_Core_takes_72 52 9 (n + d + 1) (nI i) C = some ((), C') ∧ (∀ j k, i ≤ j → j < 21 → 1 ≤ k → k ≤ 8 → C' (52 + 22 + j) k = C (9 + 22 + j) k) ∧ (∀ j, i ≤ j → j < 21 → 8 ≤ j ∧ j < 16 → C' (52 + 22 + j) 9 = C (9 + 22 + j) 9) ∧ (∀ j k, j < i → C' (52 + 22 + j) k = C (52 + 22 + j) k) ∧ (∀ o k, (o < 52 ∨ 95 ≤ o) → C' o k = C o k) ∧ (∀ k, k < 21 → C' (52 + 6) k = C (9 + 6) k) ∧ (∀ k, k < 32 → C' (52 + 7) k = C (9 + 7) k) ∧ (∀ k, k < 32 → C' (52 + 8) k = C (9 + 8) k) ∧ (∀ k, (27 ≤ k ∧ k ≤ 49 ∧ ¬ k = 28) → C' 52 k = C 9 k) ∧ C' 52 24 = nI p ∧ C' 52 50 = C 52 50 ∧ (∀ o k, 53 ≤ o → o ≤ 57 → C' o k = C o k) := by
  intro d
  induction d with
  | zero =>
    intro n i C hd hB h41 h44 h48 h49
    have ei : i = 21 := by omega
    subst ei
    rw [tk72_s]
    unfold fc_Core_takes_72b
    rw [if_pos (show (21 : Int32) ≤ nI 21 by decide)]
    simp only [stp_e]
    simp (disch := omega) only [up2_x, upr_x]
    rw [h41, fc_turns_v hp, bnd_s]
    simp (disch := omega) only [up2_x, upr_x]
    rw [h44, h48, h49]
    simp only [gd_t]
    refine ⟨_, rfl, fun j k a1 a2 => absurd a1 (by omega), fun j a1 a2 => absurd a1 (by omega), fun j k a1 => ?_, fun o k a1 => ?_, fun k a1 => ?_, fun k a1 => ?_, fun k a1 => ?_, fun k a1 => ?_, ?_, ?_, fun o k a1 a2 => ?_⟩
    · simp (disch := omega) only [up2_x, upr_x]
    · simp (disch := omega) only [up2_x, upr_x]
    · simp (disch := omega) only [up2_x, upr_x, upr_e]
      exact cpy_0 a1
    · simp (disch := omega) only [up2_x, upr_x, upr_e]
      exact cpy_0 a1
    · simp (disch := omega) only [up2_x, upr_x, upr_e]
      exact cpy_0 a1
    · have : k = 27 ∨ k = 29 ∨ k = 30 ∨ k = 31 ∨ k = 32 ∨ k = 33 ∨ k = 34 ∨ k = 35 ∨ k = 36 ∨ k = 37 ∨ k = 38 ∨ k = 39 ∨ k = 40 ∨ k = 41 ∨ k = 42 ∨ k = 43 ∨ k = 44 ∨ k = 45 ∨ k = 46 ∨ k = 47 ∨ k = 48 ∨ k = 49 := by omega
      rcases this with rfl | rfl | rfl | rfl | rfl | rfl | rfl | rfl | rfl | rfl | rfl | rfl | rfl | rfl | rfl | rfl | rfl | rfl | rfl | rfl | rfl | rfl <;> (simp (disch := omega) only [up2_x, up2_e, upr_x]; try exact h41.symm)
    · simp (disch := omega) only [up2_x, up2_e, upr_x]
    · simp (disch := omega) only [up2_x, upr_x]
    · simp (disch := omega) only [up2_x, upr_x]
  | succ d ih =>
    intro n i C hd hB h41 h44 h48 h49
    rw [show n + (d + 1) + 1 = (n + d + 1) + 1 by omega, tk72_s]
    unfold fc_Core_takes_72b
    obtain ⟨g3, g4, g5, g9⟩ := hB i (by omega)
    obtain ⟨C1, b1, b2, b3, b4⟩ := src_takes (by omega : i < 21) g3 g4 g5 g9
    rw [if_neg (show ¬ (21 : Int32) ≤ nI i from nI_ge (b := 21) (by omega) (by decide)), inb_nI (show i < 21 by omega) (by decide), gd_t, gd_t, nI_clamp (show i < 2 ^ 31 by omega), b1, bnd_s, nI_1]
    obtain ⟨C', e0, e1, e2, e3, e4, e5, e6, e7, e8, e9, e10, e11⟩ := ih n (i + 1) C1 (by omega) (fun j hj => by rw [b4 _ _ (by omega), b4 _ _ (by omega), b4 _ _ (by omega), b4 _ _ (by omega)]; exact hB j hj) (by rw [b4 _ _ (by omega)]; exact h41) (by rw [b4 _ _ (by omega)]; exact h44) (by rw [b4 _ _ (by omega)]; exact h48) (by rw [b4 _ _ (by omega)]; exact h49)
    refine ⟨C', e0, fun j k a1 a2 a3 a4 => ?_, fun j a1 a2 a3 => ?_, fun j k a1 => ?_, fun o k a1 => ?_, fun k a1 => ?_, fun k a1 => ?_, fun k a1 => ?_, fun k a1 => ?_, e9, ?_, fun o k a1 a2 => ?_⟩
    · by_cases ej : j = i
      · subst ej
        rw [e3 j k (by omega)]
        exact b2 k a3 a4
      · rw [e1 j k (by omega) a2 a3 a4, b4 _ _ (by omega)]
    · by_cases ej : j = i
      · subst ej
        rw [e3 j 9 (by omega)]
        exact b3 a3
      · rw [e2 j (by omega) a2 a3, b4 _ _ (by omega)]
    · rw [e3 j k (by omega), b4 _ _ (by omega)]
    · rw [e4 o k a1, b4 _ _ (by omega)]
    · rw [e5 k a1, b4 _ _ (by omega)]
    · rw [e6 k a1, b4 _ _ (by omega)]
    · rw [e7 k a1, b4 _ _ (by omega)]
    · rw [e8 k a1, b4 _ _ (by omega)]
    · rw [e10, b4 _ _ (by omega)]
    · rw [e11 o k a1 a2, b4 _ _ (by omega)]
