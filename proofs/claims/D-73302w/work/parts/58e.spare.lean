/-! THE SPARE stands as the own core does -/
def TK (p : Nat) (C C' : Mem) : Prop := (∀ j k, j < 21 → 1 ≤ k → k ≤ 8 → C' (52 + 22 + j) k = C (9 + 22 + j) k) ∧ (∀ j, j < 21 → 8 ≤ j ∧ j < 16 → C' (52 + 22 + j) 9 = C (9 + 22 + j) 9) ∧ (∀ o k, (o < 52 ∨ 95 ≤ o) → C' o k = C o k) ∧ (∀ k, k < 8 → C' (52 + 1) k = C (9 + 1) k) ∧ (∀ k, k < 4 → C' (52 + 2) k = C (9 + 2) k) ∧ (∀ k, k < 16 → C' (52 + 3) k = C (9 + 3) k) ∧ (∀ k, k < 96 → C' (52 + 4) k = C (9 + 4) k) ∧ (∀ k, k < 21 → C' (52 + 6) k = C (9 + 6) k) ∧ (∀ k, k < 32 → C' (52 + 7) k = C (9 + 7) k) ∧ (∀ k, k < 32 → C' (52 + 8) k = C (9 + 8) k) ∧ (∀ k, (27 ≤ k ∧ k ≤ 49 ∧ ¬ k = 28) → C' 52 k = C 9 k) ∧ C' 52 24 = nI p ∧ C' 52 50 = C 52 50
def HB9 (C : Mem) : Prop := (∀ j, j < 21 → isB (C (9 + 22 + j) 3) = true ∧ isB (C (9 + 22 + j) 4) = true ∧ isB (C (9 + 22 + j) 5) = true ∧ (8 ≤ j ∧ j < 16 → isB (C (9 + 22 + j) 9) = true)) ∧ isB (C 9 44) = true ∧ isB (C 9 48) = true ∧ isB (C 9 49) = true
theorem HB9_fr {C C' : Mem} (h : HB9 C) (hf : ∀ o k, o < 52 → C' o k = C o k) : HB9 C' := by
  obtain ⟨h1, h2, h3, h4⟩ := h
  refine ⟨fun j hj => ?_, by rw [hf _ _ (by omega)]; exact h2, by rw [hf _ _ (by omega)]; exact h3, by rw [hf _ _ (by omega)]; exact h4⟩
  rw [hf _ _ (by omega), hf _ _ (by omega), hf _ _ (by omega), hf _ _ (by omega)]
  exact h1 j hj
theorem tk17 {p : Nat} (hp : p ≤ 5) : ∀ (d n i : Nat) (C : Mem), i + d = 4 → HB9 C → C 9 41 = nI p → ∃ C', fc_Core_takes_17 52 9 (n + d + 1) (nI i) C = some ((), C') ∧ (∀ j k, j < 21 → 1 ≤ k → k ≤ 8 → C' (52 + 22 + j) k = C (9 + 22 + j) k) ∧ (∀ j, j < 21 → 8 ≤ j ∧ j < 16 → C' (52 + 22 + j) 9 = C (9 + 22 + j) 9) ∧ (∀ o k, (o < 52 ∨ 95 ≤ o) → C' o k = C o k) ∧ (∀ k, C' (52 + 1) k = C (52 + 1) k) ∧ (∀ k, i ≤ k → k < 4 → C' (52 + 2) k = C (9 + 2) k) ∧ (∀ k, k < i → C' (52 + 2) k = C (52 + 2) k) ∧ (∀ k, k < 16 → C' (52 + 3) k = C (9 + 3) k) ∧ (∀ k, k < 96 → C' (52 + 4) k = C (9 + 4) k) ∧ (∀ k, k < 21 → C' (52 + 6) k = C (9 + 6) k) ∧ (∀ k, k < 32 → C' (52 + 7) k = C (9 + 7) k) ∧ (∀ k, k < 32 → C' (52 + 8) k = C (9 + 8) k) ∧ (∀ k, (27 ≤ k ∧ k ≤ 49 ∧ ¬ k = 28) → C' 52 k = C 9 k) ∧ C' 52 24 = nI p ∧ C' 52 50 = C 52 50 := by
  intro d
  induction d with
  | zero =>
    intro n i C hd hB h41
    have ei : i = 4 := by omega
    subst ei
    rw [tk17_s]
    unfold fc_Core_takes_17b
    rw [if_pos (show (4 : Int32) ≤ nI 4 by decide)]
    simp only [stp_e]
    have hB2 : HB9 (upr (upr C (52 + 3) (va_cpy (C (9 + 3)) (C (52 + 3)) 0 0 16)) (52 + 4) (va_cpy (upr C (52 + 3) (va_cpy (C (9 + 3)) (C (52 + 3)) 0 0 16) (9 + 4)) (upr C (52 + 3) (va_cpy (C (9 + 3)) (C (52 + 3)) 0 0 16) (52 + 4)) 0 0 96)) := HB9_fr hB (fun o k ho => by simp (disch := omega) only [upr_x])
    obtain ⟨g1, g2, g3, g4⟩ := hB2
    obtain ⟨C', e0, e1, e2, -, e4, e5, e6, e7, e8, e9, e10, e11⟩ := tk72 hp 21 578 0 _ (by omega) g1 (by simp (disch := omega) only [upr_x]; exact h41) g2 g3 g4
    refine ⟨C', e0, fun j k a1 a2 a3 => ?_, fun j a1 a2 => ?_, fun o k a1 => ?_, fun k => ?_, fun k a1 a2 => absurd a1 (by omega), fun k a1 => ?_, fun k a1 => ?_, fun k a1 => ?_, fun k a1 => ?_, fun k a1 => ?_, fun k a1 => ?_, fun k a1 => ?_, e9, ?_⟩
    · rw [e1 j k (by omega) a1 a2 a3]; simp (disch := omega) only [upr_x]
    · rw [e2 j (by omega) a1 a2]; simp (disch := omega) only [upr_x]
    · rw [e4 o k a1]; simp (disch := omega) only [upr_x]
    · rw [e11 _ k (by omega) (by omega)]; simp (disch := omega) only [upr_x]
    · rw [e11 _ k (by omega) (by omega)]; simp (disch := omega) only [upr_x]
    · rw [e11 _ k (by omega) (by omega)]; simp (disch := omega) only [upr_x, upr_e]; exact cpy_0 a1
    · rw [e11 _ k (by omega) (by omega)]; simp (disch := omega) only [upr_x, upr_e]; exact cpy_0 a1
    · rw [e5 k a1]; simp (disch := omega) only [upr_x]
    · rw [e6 k a1]; simp (disch := omega) only [upr_x]
    · rw [e7 k a1]; simp (disch := omega) only [upr_x]
    · rw [e8 k a1]; simp (disch := omega) only [upr_x]
    · rw [e10]; simp (disch := omega) only [upr_x]
  | succ d ih =>
    intro n i C hd hB h41
    rw [show n + (d + 1) + 1 = (n + d + 1) + 1 by omega, tk17_s]
    unfold fc_Core_takes_17b
    rw [if_neg (show ¬ (4 : Int32) ≤ nI i from nI_ge (b := 4) (by omega) (by decide)), inb_nI (show i < 4 by omega) (by decide), gd_t, gd_t, nI_clamp (show i < 2 ^ 31 by omega), stp_e, nI_1, show (C (9 + 2) i).toUInt32.toInt32 = C (9 + 2) i from rfl]
    obtain ⟨C', e0, e1, e2, e3, e4, e5, e6, e7, e8, e9, e10, e11, e12, e13, e14⟩ := ih n (i + 1) (up2 C (52 + 2) i (C (9 + 2) i)) (by omega) (HB9_fr hB (fun o k ho => by simp (disch := omega) only [up2_x, upr_x])) (by simp (disch := omega) only [up2_x, upr_x]; exact h41)
    refine ⟨C', e0, fun j k a1 a2 a3 => ?_, fun j a1 a2 => ?_, fun o k a1 => ?_, fun k => ?_, fun k a1 a2 => ?_, fun k a1 => ?_, fun k a1 => ?_, fun k a1 => ?_, fun k a1 => ?_, fun k a1 => ?_, fun k a1 => ?_, fun k a1 => ?_, e13, ?_⟩
    · rw [e1 j k a1 a2 a3]; simp (disch := omega) only [up2_x, upr_x]
    · rw [e2 j a1 a2]; simp (disch := omega) only [up2_x, upr_x]
    · rw [e3 o k a1]; simp (disch := omega) only [up2_x, upr_x]
    · rw [e4 k]; simp (disch := omega) only [up2_x, upr_x]
    · by_cases ek : k = i
      · subst ek
        rw [e6 k (by omega)]; simp (disch := omega) only [up2_x, up2_e, upr_x]
      · rw [e5 k (by omega) a2]; simp (disch := omega) only [up2_x, upr_x]
    · rw [e6 k (by omega)]; simp (disch := omega) only [up2_x, upr_x]
    · rw [e7 k a1]; simp (disch := omega) only [up2_x, upr_x]
    · rw [e8 k a1]; simp (disch := omega) only [up2_x, upr_x]
    · rw [e9 k a1]; simp (disch := omega) only [up2_x, upr_x]
    · rw [e10 k a1]; simp (disch := omega) only [up2_x, upr_x]
    · rw [e11 k a1]; simp (disch := omega) only [up2_x, upr_x]
    · rw [e12 k a1]; simp (disch := omega) only [up2_x, upr_x]
    · rw [e14]; simp (disch := omega) only [up2_x, upr_x]
theorem takes_v {p : Nat} {C : Mem} (hp : p ≤ 5) (hB : HB9 C) (h41 : C 9 41 = nI p) : ∃ C', fc_Core_takes 52 9 C = some ((), C') ∧ TK p C C' := by
  unfold fc_Core_takes
  rw [stp_e]
  obtain ⟨C', e0, e1, e2, e3, e4, e5, -, e7, e8, e9, e10, e11, e12, e13, e14⟩ := tk17 hp 4 595 0 (upr C (52 + 1) (va_cpy (C (9 + 1)) (C (52 + 1)) 0 0 8)) (by omega) (HB9_fr hB (fun o k ho => by simp (disch := omega) only [upr_x])) (by simp (disch := omega) only [upr_x]; exact h41)
  refine ⟨C', e0, fun j k a1 a2 a3 => ?_, fun j a1 a2 => ?_, fun o k a1 => ?_, fun k a1 => ?_, fun k a1 => ?_, fun k a1 => ?_, fun k a1 => ?_, fun k a1 => ?_, fun k a1 => ?_, fun k a1 => ?_, fun k a1 => ?_, e13, ?_⟩
  · rw [e1 j k a1 a2 a3]; simp (disch := omega) only [upr_x]
  · rw [e2 j a1 a2]; simp (disch := omega) only [upr_x]
  · rw [e3 o k a1]; simp (disch := omega) only [upr_x]
  · rw [e4 k, upr_e]; exact cpy_0 a1
  · rw [e5 k (by omega) a1]; simp (disch := omega) only [upr_x]
  · rw [e7 k a1]; simp (disch := omega) only [upr_x]
  · rw [e8 k a1]; simp (disch := omega) only [upr_x]
  · rw [e9 k a1]; simp (disch := omega) only [upr_x]
  · rw [e10 k a1]; simp (disch := omega) only [upr_x]
  · rw [e11 k a1]; simp (disch := omega) only [upr_x]
  · rw [e12 k a1]; simp (disch := omega) only [upr_x]
  · rw [e14]; simp (disch := omega) only [upr_x]
theorem plays_v {v : Int32} {C : Mem} (hv : isB v = true) : fc_Core_plays 52 v C = some ((), up2 (up2 (up2 (up2 C 52 28 1) 52 25 v) 52 26 v) 52 53 0) := by
  unfold fc_Core_plays fc_Core_plays_21 fc_Core_plays_40
  rcases isB_or hv with rfl | rfl
  · rfl
  · rfl
theorem like_s {n : Nat} {a b : Int32} {M : Mem} : fm_likeNow_2 (n + 1) a b M = fm_likeNow_2b (fm_likeNow_2 n) a b M := rfl
theorem like_loop {x : Int32} (hx : isB x = true) : ∀ (d n i : Nat) (M : Mem), i + d = 342 → ∃ M', fm_likeNow_2 (n + d + 1) x (nI i) M = some ((), M') ∧ (∀ j, i ≤ j → j < 342 → M' 5 j = M 4 j) ∧ (∀ j, j < i → M' 5 j = M 5 j) ∧ (∀ o k, ¬ o = 5 → (¬ o = 0 ∨ (¬ k = 14 ∧ ¬ k = 15)) → M' o k = M o k) ∧ M' 0 14 = 0 ∧ M' 0 15 = x := by
  intro d
  induction d with
  | zero =>
    intro n i M hd
    have ei : i = 342 := by omega
    subst ei
    rw [like_s]
    unfold fm_likeNow_2b
    rw [if_pos (show (342 : Int32) ≤ nI 342 by decide), stp_e, hx, gd_t, stp_e]
    refine ⟨_, rfl, fun j a1 a2 => absurd a1 (by omega), fun j a1 => ?_, fun o k a1 a2 => ?_, ?_, ?_⟩
    · simp (disch := omega) only [up2_x, upr_x]
    · simp (disch := omega) only [up2_x, upr_x]
    · simp (disch := omega) only [up2_x, up2_e, upr_x]
    · simp (disch := omega) only [up2_x, up2_e, upr_x]
  | succ d ih =>
    intro n i M hd
    rw [show n + (d + 1) + 1 = (n + d + 1) + 1 by omega, like_s]
    unfold fm_likeNow_2b
    rw [if_neg (show ¬ (342 : Int32) ≤ nI i from nI_ge (b := 342) (by omega) (by decide)), inb_nI (show i < 342 by omega) (by decide), gd_t, gd_t, nI_clamp (show i < 2 ^ 31 by omega), stp_e, nI_1]
    obtain ⟨M', e0, e1, e2, e3, e4, e5⟩ := ih n (i + 1) (up2 M 5 i (M 4 i)) (by omega)
    refine ⟨M', e0, fun j a1 a2 => ?_, fun j a1 => ?_, fun o k a1 a2 => ?_, e4, e5⟩
    · by_cases ej : j = i
      · subst ej
        rw [e2 j (by omega)]; simp (disch := omega) only [up2_x, up2_e, upr_x]
      · rw [e1 j (by omega) a2]; simp (disch := omega) only [up2_x, upr_x]
    · rw [e2 j (by omega)]; simp (disch := omega) only [up2_x, upr_x]
    · rw [e3 o k a1 a2]; simp (disch := omega) only [up2_x, upr_x]
theorem like_v {x : Int32} {M : Mem} (hx : isB x = true) : ∃ M', fm_likeNow x M = some ((), M') ∧ (∀ j, j < 342 → M' 5 j = M 4 j) ∧ (∀ o k, ¬ o = 5 → (¬ o = 0 ∨ (¬ k = 14 ∧ ¬ k = 15)) → M' o k = M o k) ∧ M' 0 14 = 0 ∧ M' 0 15 = x := by
  obtain ⟨M', e0, e1, -, e3, e4, e5⟩ := like_loop hx 342 257 0 M (by omega)
  exact ⟨M', e0, fun j hj => e1 j (by omega) hj, e3, e4, e5⟩
