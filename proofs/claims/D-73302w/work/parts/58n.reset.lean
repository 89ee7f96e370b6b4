/-! THE OPERATIONS: reset -/
theorem fg2_s {n : Nat} {a : Int32} {C : Mem} : fc_Core_forgets_2 9 (n + 1) a C = fc_Core_forgets_2b 9 (fc_Core_forgets_2 9 n) a C := rfl
theorem fg2 : ∀ (d n i : Nat) (C : Mem), i + d = 8 → ∃ C', fc_Core_forgets_2 9 (n + d + 1) (nI i) C = fc_Core_forgets_23 9 600 0 C' ∧ (∀ j, i ≤ j → j < 8 → C' (9 + 1) j = 0) ∧ (∀ j, j < i → C' (9 + 1) j = C (9 + 1) j) ∧ (∀ o j, ¬ o = 9 + 1 → C' o j = C o j) := by
  intro d
  induction d with
  | zero =>
    intro n i C hd
    have ei : i = 8 := by omega
    subst ei
    rw [fg2_s]
    unfold fc_Core_forgets_2b
    rw [if_pos (show (8 : Int32) ≤ nI 8 by decide)]
    exact ⟨C, rfl, fun j a b => absurd a (by omega), fun _ _ => rfl, fun _ _ _ => rfl⟩
  | succ d ih =>
    intro n i C hd
    rw [show n + (d + 1) + 1 = (n + d + 1) + 1 by omega, fg2_s]
    unfold fc_Core_forgets_2b
    rw [if_neg (show ¬ (8 : Int32) ≤ nI i from nI_ge (b := 8) (by omega) (by decide)), inb_nI (show i < 8 by omega) (by decide), gd_t, nI_clamp (show i < 2 ^ 31 by omega), stp_e, nI_1]
    obtain ⟨C', e0, e1, e2, e3⟩ := ih n (i + 1) (up2 C (9 + 1) i 0) (by omega)
    refine ⟨C', e0, fun j a b => ?_, fun j a => ?_, fun o j a => ?_⟩
    · by_cases z : j = i
      · subst z
        rw [e2 j (by omega), up2_e]
      · exact e1 j (by omega) b
    · rw [e2 j (by omega), up2_x (by omega)]
    · rw [e3 o j a, up2_x (by omega)]
theorem fg23_s {n : Nat} {a : Int32} {C : Mem} : fc_Core_forgets_23 9 (n + 1) a C = fc_Core_forgets_23b 9 (fc_Core_forgets_23 9 n) a C := rfl
theorem fg23 : ∀ (d n i : Nat) (C : Mem), i + d = 4 → ∃ C', fc_Core_forgets_23 9 (n + d + 1) (nI i) C = fc_Core_forgets_43 9 600 0 C' ∧ (∀ j, i ≤ j → j < 4 → C' (9 + 2) j = 0) ∧ (∀ j, j < i → C' (9 + 2) j = C (9 + 2) j) ∧ (∀ o j, ¬ o = 9 + 2 → C' o j = C o j) := by
  intro d
  induction d with
  | zero =>
    intro n i C hd
    have ei : i = 4 := by omega
    subst ei
    rw [fg23_s]
    unfold fc_Core_forgets_23b
    rw [if_pos (show (4 : Int32) ≤ nI 4 by decide)]
    exact ⟨C, rfl, fun j a b => absurd a (by omega), fun _ _ => rfl, fun _ _ _ => rfl⟩
  | succ d ih =>
    intro n i C hd
    rw [show n + (d + 1) + 1 = (n + d + 1) + 1 by omega, fg23_s]
    unfold fc_Core_forgets_23b
    rw [if_neg (show ¬ (4 : Int32) ≤ nI i from nI_ge (b := 4) (by omega) (by decide)), inb_nI (show i < 4 by omega) (by decide), gd_t, nI_clamp (show i < 2 ^ 31 by omega), stp_e, nI_1]
    obtain ⟨C', e0, e1, e2, e3⟩ := ih n (i + 1) (up2 C (9 + 2) i FP.fconst0.toInt32) (by omega)
    refine ⟨C', e0, fun j a b => ?_, fun j a => ?_, fun o j a => ?_⟩
    · by_cases z : j = i
      · subst z
        rw [e2 j (by omega), up2_e]
        decide +kernel
      · exact e1 j (by omega) b
    · rw [e2 j (by omega), up2_x (by omega)]
    · rw [e3 o j a, up2_x (by omega)]
theorem fg43_s {n : Nat} {a : Int32} {C : Mem} : fc_Core_forgets_43 9 (n + 1) a C = fc_Core_forgets_43b 9 (fc_Core_forgets_43 9 n) a C := rfl
theorem fg43 : ∀ (d n i : Nat) (C : Mem), i + d = 16 → ∃ C', fc_Core_forgets_43 9 (n + d + 1) (nI i) C = fc_Core_forgets_64 9 600 0 C' ∧ (∀ j, i ≤ j → j < 16 → C' (9 + 3) j = 0) ∧ (∀ j, j < i → C' (9 + 3) j = C (9 + 3) j) ∧ (∀ o j, ¬ o = 9 + 3 → C' o j = C o j) := by
  intro d
  induction d with
  | zero =>
    intro n i C hd
    have ei : i = 16 := by omega
    subst ei
    rw [fg43_s]
    unfold fc_Core_forgets_43b
    rw [if_pos (show (16 : Int32) ≤ nI 16 by decide)]
    exact ⟨C, rfl, fun j a b => absurd a (by omega), fun _ _ => rfl, fun _ _ _ => rfl⟩
  | succ d ih =>
    intro n i C hd
    rw [show n + (d + 1) + 1 = (n + d + 1) + 1 by omega, fg43_s]
    unfold fc_Core_forgets_43b
    rw [if_neg (show ¬ (16 : Int32) ≤ nI i from nI_ge (b := 16) (by omega) (by decide)), inb_nI (show i < 16 by omega) (by decide), gd_t, nI_clamp (show i < 2 ^ 31 by omega), stp_e, nI_1]
    obtain ⟨C', e0, e1, e2, e3⟩ := ih n (i + 1) (up2 C (9 + 3) i 0) (by omega)
    refine ⟨C', e0, fun j a b => ?_, fun j a => ?_, fun o j a => ?_⟩
    · by_cases z : j = i
      · subst z
        rw [e2 j (by omega), up2_e]
      · exact e1 j (by omega) b
    · rw [e2 j (by omega), up2_x (by omega)]
    · rw [e3 o j a, up2_x (by omega)]
theorem fg64_s {n : Nat} {a : Int32} {C : Mem} : fc_Core_forgets_64 9 (n + 1) a C = fc_Core_forgets_64b 9 (fc_Core_forgets_64 9 n) a C := rfl
theorem fg64 : ∀ (d n i : Nat) (C : Mem), i + d = 96 → ∃ C', fc_Core_forgets_64 9 (n + d + 1) (nI i) C = fc_Core_forgets_85 9 600 0 C' ∧ (∀ j, i ≤ j → j < 96 → C' (9 + 4) j = 0) ∧ (∀ j, j < i → C' (9 + 4) j = C (9 + 4) j) ∧ (∀ o j, ¬ o = 9 + 4 → C' o j = C o j) := by
  intro d
  induction d with
  | zero =>
    intro n i C hd
    have ei : i = 96 := by omega
    subst ei
    rw [fg64_s]
    unfold fc_Core_forgets_64b
    rw [if_pos (show (96 : Int32) ≤ nI 96 by decide)]
    exact ⟨C, rfl, fun j a b => absurd a (by omega), fun _ _ => rfl, fun _ _ _ => rfl⟩
  | succ d ih =>
    intro n i C hd
    rw [show n + (d + 1) + 1 = (n + d + 1) + 1 by omega, fg64_s]
    unfold fc_Core_forgets_64b
    rw [if_neg (show ¬ (96 : Int32) ≤ nI i from nI_ge (b := 96) (by omega) (by decide)), inb_nI (show i < 96 by omega) (by decide), gd_t, nI_clamp (show i < 2 ^ 31 by omega), stp_e, nI_1]
    obtain ⟨C', e0, e1, e2, e3⟩ := ih n (i + 1) (up2 C (9 + 4) i 0) (by omega)
    refine ⟨C', e0, fun j a b => ?_, fun j a => ?_, fun o j a => ?_⟩
    · by_cases z : j = i
      · subst z
        rw [e2 j (by omega), up2_e]
      · exact e1 j (by omega) b
    · rw [e2 j (by omega), up2_x (by omega)]
    · rw [e3 o j a, up2_x (by omega)]
theorem src_forg {j : Nat} {C : Mem} (hj : j < 21) : ∃ C1, fv_forgets (9 + 22 + j) C = some ((), C1) ∧ (C1 (9 + 22 + j) 4 = 0 ∧ C1 (9 + 22 + j) 5 = 0 ∧ C1 (9 + 22 + j) 8 = -1 ∧ (8 ≤ j ∧ j < 16 → C1 (9 + 22 + j) 9 = 0)) ∧ (∀ o k, (¬ o = 9 + 22 + j ∨ (¬ k = 4 ∧ ¬ k = 5 ∧ ¬ k = 8 ∧ ¬ k = 9)) → C1 o k = C o k) := by
  unfold fv_forgets fc_Lev_forgets fc_Src_forgets
  rw [cS_k (Or.inl rfl) hj]
  simp only [stp_e, bnd_s]
  by_cases hl : 8 ≤ j ∧ j < 16
  · rw [if_pos hl]
    refine ⟨_, rfl, ⟨?_, ?_, ?_, fun _ => ?_⟩, fun o k z => ?_⟩
    · simp (disch := omega) only [up2_x, up2_e, upr_x]
    · simp (disch := omega) only [up2_x, up2_e, upr_x]
    · simp (disch := omega) only [up2_x, up2_e, upr_x]
    · simp (disch := omega) only [up2_x, up2_e, upr_x]
    · simp (disch := omega) only [up2_x, upr_x]
  · rw [if_neg hl]
    refine ⟨_, rfl, ⟨?_, ?_, ?_, fun z => absurd z hl⟩, fun o k z => ?_⟩
    · simp (disch := omega) only [up2_x, up2_e, upr_x]
    · simp (disch := omega) only [up2_x, up2_e, upr_x]
    · simp (disch := omega) only [up2_x, up2_e, upr_x]
    · simp (disch := omega) only [up2_x, upr_x]
theorem fg85_s {n : Nat} {a : Int32} {C : Mem} : fc_Core_forgets_85 9 (n + 1) a C = fc_Core_forgets_85b 9 (fc_Core_forgets_85 9 n) a C := rfl
theorem fg85 : ∀ (d n i : Nat) (C : Mem), i + d = 21 → ∃ C1, fc_Core_forgets_85 9 (n + d + 1) (nI i) C = fc_Core_forgets_108 9 600 0 C1 ∧ (∀ j, i ≤ j → j < 21 → C1 (9 + 22 + j) 4 = 0 ∧ C1 (9 + 22 + j) 5 = 0 ∧ C1 (9 + 22 + j) 8 = -1 ∧ (8 ≤ j ∧ j < 16 → C1 (9 + 22 + j) 9 = 0)) ∧ (∀ j k, j < 21 → ¬ k = 4 → ¬ k = 5 → ¬ k = 8 → ¬ k = 9 → C1 (9 + 22 + j) k = C (9 + 22 + j) k) ∧ (∀ j k, j < i → C1 (9 + 22 + j) k = C (9 + 22 + j) k) ∧ (∀ o k, (o < 31 ∨ 51 < o) → C1 o k = C o k) := by
  intro d
  induction d with
  | zero =>
    intro n i C hd
    have ei : i = 21 := by omega
    subst ei
    rw [fg85_s]
    unfold fc_Core_forgets_85b
    rw [if_pos (show (21 : Int32) ≤ nI 21 by decide)]
    exact ⟨C, rfl, fun j a b => absurd a (by omega), fun _ _ _ _ _ _ _ => rfl, fun _ _ _ => rfl, fun _ _ _ => rfl⟩
  | succ d ih =>
    intro n i C hd
    rw [show n + (d + 1) + 1 = (n + d + 1) + 1 by omega, fg85_s]
    unfold fc_Core_forgets_85b
    obtain ⟨C2, s1, s2, s3⟩ := src_forg (j := i) (C := C) (by omega)
    rw [if_neg (show ¬ (21 : Int32) ≤ nI i from nI_ge (b := 21) (by omega) (by decide)), inb_nI (show i < 21 by omega) (by decide), gd_t, nI_clamp (show i < 2 ^ 31 by omega), s1, bnd_s, nI_1]
    obtain ⟨C1, e0, e1, e2, e3, e4⟩ := ih n (i + 1) C2 (by omega)
    refine ⟨C1, e0, fun j a b => ?_, fun j k a b1 b2 b3 b4 => ?_, fun j k a => ?_, fun o k a => ?_⟩
    · by_cases z : j = i
      · subst z
        rw [e3 j 4 (by omega), e3 j 5 (by omega), e3 j 8 (by omega), e3 j 9 (by omega)]
        exact s2
      · exact e1 j (by omega) b
    · rw [e2 j k a b1 b2 b3 b4, s3 _ k (by omega)]
    · rw [e3 j k (by omega), s3 _ k (by omega)]
    · rw [e4 o k a, s3 o k (by omega)]
theorem fg108_s {n : Nat} {a : Int32} {C : Mem} : fc_Core_forgets_108 9 (n + 1) a C = fc_Core_forgets_108b 9 (fc_Core_forgets_108 9 n) a C := rfl
theorem fg108 : ∀ (d n i : Nat) (C : Mem), i + d = 14 → ∃ C1, fc_Core_forgets_108 9 (n + d + 1) (nI i) C = fc_Core_forgets_108b 9 (fun _ _ => none) 14 C1 ∧ (∀ j, i ≤ j → j < 14 → C1 (9 + 9) j = 0) ∧ (∀ j, j < i → C1 (9 + 9) j = C (9 + 9) j) ∧ (∀ o j, ¬ o = 9 + 9 → C1 o j = C o j) := by
  intro d
  induction d with
  | zero =>
    intro n i C hd
    have ei : i = 14 := by omega
    subst ei
    rw [fg108_s]
    unfold fc_Core_forgets_108b
    rw [if_pos (show (14 : Int32) ≤ nI 14 by decide)]
    exact ⟨C, (if_pos (show (14 : Int32) ≤ 14 by decide)).symm, fun j a b => absurd a (by omega), fun _ _ => rfl, fun _ _ _ => rfl⟩
  | succ d ih =>
    intro n i C hd
    rw [show n + (d + 1) + 1 = (n + d + 1) + 1 by omega, fg108_s]
    unfold fc_Core_forgets_108b
    rw [if_neg (show ¬ (14 : Int32) ≤ nI i from nI_ge (b := 14) (by omega) (by decide)), inb_nI (show i < 14 by omega) (by decide), gd_t, nI_clamp (show i < 2 ^ 31 by omega), stp_e, nI_1]
    obtain ⟨C1, e0, e1, e2, e3⟩ := ih n (i + 1) (up2 C (9 + 9) i 0) (by omega)
    unfold fc_Core_forgets_108b at e0
    refine ⟨C1, e0, fun j a b => ?_, fun j a => ?_, fun o j a => ?_⟩
    · by_cases z : j = i
      · subst z
        rw [e2 j (by omega), up2_e]
      · exact e1 j (by omega) b
    · rw [e2 j (by omega), up2_x (by omega)]
    · rw [e3 o j a, up2_x (by omega)]
theorem forgets_v {C : Mem} : ∃ C1, fc_Core_forgets 9 C = some ((), C1) ∧ (∀ j, j < 8 → C1 (9 + 1) j = 0) ∧ (∀ j, j < 4 → C1 (9 + 2) j = 0) ∧ (∀ j, j < 16 → C1 (9 + 3) j = 0) ∧ (∀ j, j < 96 → C1 (9 + 4) j = 0) ∧ (∀ j, j < 21 → C1 (9 + 22 + j) 4 = 0 ∧ C1 (9 + 22 + j) 5 = 0 ∧ C1 (9 + 22 + j) 8 = -1 ∧ (8 ≤ j ∧ j < 16 → C1 (9 + 22 + j) 9 = 0)) ∧ (∀ j k, j < 21 → ¬ k = 4 → ¬ k = 5 → ¬ k = 8 → ¬ k = 9 → C1 (9 + 22 + j) k = C (9 + 22 + j) k) ∧ (∀ j, j < 14 → C1 (9 + 9) j = 0) ∧ (∀ o k, (o < 9 ∨ (13 < o ∧ o < 18) ∨ (18 < o ∧ o < 31) ∨ 51 < o) → C1 o k = C o k) ∧ (∀ k, (k = 34 ∨ k = 27 ∨ k = 38 ∨ k = 47 ∨ k = 48 ∨ k = 49 ∨ k = 28 ∨ k = 25 ∨ k = 26 ∨ k = 53) → C1 9 k = C 9 k) ∧ (∀ k, (k = 29 ∨ k = 30 ∨ k = 31 ∨ k = 32 ∨ k = 33 ∨ k = 35 ∨ k = 36 ∨ k = 37 ∨ k = 40 ∨ k = 41 ∨ k = 42 ∨ k = 24 ∨ k = 43 ∨ k = 44 ∨ k = 45 ∨ k = 50 ∨ k = 51) → C1 9 k = 0) ∧ C1 9 46 = -1 ∧ C1 9 39 = C 9 38 := by
  unfold fc_Core_forgets
  obtain ⟨Ca, a0, a1, -, a3⟩ := fg2 8 591 0 C (by omega)
  obtain ⟨Cb, b0, b1, -, b3⟩ := fg23 4 595 0 Ca (by omega)
  obtain ⟨Cc, c0, c1, -, c3⟩ := fg43 16 583 0 Cb (by omega)
  obtain ⟨Cd, d0, d1, -, d3⟩ := fg64 96 503 0 Cc (by omega)
  obtain ⟨Ce, e0, e1, e2, -, e4⟩ := fg85 21 578 0 Cd (by omega)
  obtain ⟨Cf, f0, f1, -, f3⟩ := fg108 14 585 0 Ce (by omega)
  have fo : ∀ o k, ¬ o = 10 → ¬ o = 11 → ¬ o = 12 → ¬ o = 13 → ¬ o = 18 → (o < 31 ∨ 51 < o) → Cf o k = C o k := fun o k z1 z2 z3 z4 z5 z6 => by rw [f3 o k (by omega), e4 o k z6, d3 o k (by omega), c3 o k (by omega), b3 o k (by omega), a3 o k (by omega)]
  rw [show fc_Core_forgets_2 9 600 0 C = fc_Core_forgets_2 9 (591 + 8 + 1) (nI 0) C from rfl, a0, show fc_Core_forgets_23 9 600 0 Ca = fc_Core_forgets_23 9 (595 + 4 + 1) (nI 0) Ca from rfl, b0, show fc_Core_forgets_43 9 600 0 Cb = fc_Core_forgets_43 9 (583 + 16 + 1) (nI 0) Cb from rfl, c0, show fc_Core_forgets_64 9 600 0 Cc = fc_Core_forgets_64 9 (503 + 96 + 1) (nI 0) Cc from rfl, d0, show fc_Core_forgets_85 9 600 0 Cd = fc_Core_forgets_85 9 (578 + 21 + 1) (nI 0) Cd from rfl, e0, show fc_Core_forgets_108 9 600 0 Ce = fc_Core_forgets_108 9 (585 + 14 + 1) (nI 0) Ce from rfl, f0]
  unfold fc_Core_forgets_108b
  rw [if_pos (show (14 : Int32) ≤ 14 by decide)]
  simp only [stp_e]
  rw [show (0 : Int32) = nI 0 from rfl, fc_turns_v (show 0 ≤ 5 by omega), bnd_s, show nI 0 = (0 : Int32) from rfl]
  refine ⟨_, rfl, fun j hj => ?_, fun j hj => ?_, fun j hj => ?_, fun j hj => ?_, fun j hj => ?_, fun j k hj z1 z2 z3 z4 => ?_, fun j hj => ?_, fun o k z => ?_, fun k z => ?_, fun k z => ?_, ?_, ?_⟩
  · simp (disch := omega) only [up2_x, upr_x]; rw [f3 _ j (by omega), e4 _ j (by omega), d3 _ j (by omega), c3 _ j (by omega), b3 _ j (by omega)]; exact a1 j (by omega) hj
  · simp (disch := omega) only [up2_x, upr_x]; rw [f3 _ j (by omega), e4 _ j (by omega), d3 _ j (by omega), c3 _ j (by omega)]; exact b1 j (by omega) hj
  · simp (disch := omega) only [up2_x, upr_x]; rw [f3 _ j (by omega), e4 _ j (by omega), d3 _ j (by omega)]; exact c1 j (by omega) hj
  · simp (disch := omega) only [up2_x, upr_x]; rw [f3 _ j (by omega), e4 _ j (by omega)]; exact d1 j (by omega) hj
  · simp (disch := omega) only [up2_x, upr_x]; rw [f3 _ 4 (by omega), f3 _ 5 (by omega), f3 _ 8 (by omega), f3 _ 9 (by omega)]; exact e1 j (by omega) hj
  · simp (disch := omega) only [up2_x, upr_x]; rw [f3 _ k (by omega), e2 j k hj z1 z2 z3 z4, d3 _ k (by omega), c3 _ k (by omega), b3 _ k (by omega), a3 _ k (by omega)]
  · simp (disch := omega) only [up2_x, upr_x]; exact f1 j (by omega) hj
  · simp (disch := omega) only [up2_x, upr_x]; exact fo o k (by omega) (by omega) (by omega) (by omega) (by omega) (by omega)
  · simp (disch := omega) only [up2_x, upr_x]; exact fo 9 k (by omega) (by omega) (by omega) (by omega) (by omega) (by omega)
  · rcases z with rfl | rfl | rfl | rfl | rfl | rfl | rfl | rfl | rfl | rfl | rfl | rfl | rfl | rfl | rfl | rfl | rfl <;> simp (disch := omega) only [up2_x, up2_e, upr_x]
  · simp (disch := omega) only [up2_x, up2_e, upr_x]
  · simp (disch := omega) only [up2_x, up2_e, upr_x]; exact fo 9 38 (by omega) (by omega) (by omega) (by omega) (by omega) (by omega)
theorem fr10_s {n : Nat} {a b : Int32} {M : Mem} : fm_fresh_10 (n + 1) a b M = fm_fresh_10b (fm_fresh_10 n) a b M := rfl
theorem fr10 {p : Int32} : ∀ (d n i : Nat) (M : Mem), i + d = 342 → ∃ M1, fm_fresh_10 (n + d + 1) p (nI i) M = fm_fresh_46 600 p 0 M1 ∧ (∀ j, i ≤ j → j < 342 → (j < 173 ∨ 194 ≤ j) → M1 4 j = 0) ∧ (∀ j, j < i → M1 4 j = M 4 j) ∧ (∀ j, 173 ≤ j → j < 194 → M1 4 j = M 4 j) ∧ (∀ o j, ¬ o = 4 → M1 o j = M o j) := by
  intro d
  induction d with
  | zero =>
    intro n i M hd
    have ei : i = 342 := by omega
    subst ei
    rw [fr10_s]
    unfold fm_fresh_10b
    rw [if_pos (show (342 : Int32) ≤ nI 342 by decide)]
    exact ⟨M, rfl, fun j a b => absurd a (by omega), fun _ _ => rfl, fun _ _ _ => rfl, fun _ _ _ => rfl⟩
  | succ d ih =>
    intro n i M hd
    rw [show n + (d + 1) + 1 = (n + d + 1) + 1 by omega, fr10_s]
    unfold fm_fresh_10b fm_fresh_31 fm_fresh_38
    rw [if_neg (show ¬ (342 : Int32) ≤ nI i from nI_ge (b := 342) (by omega) (by decide)), inb_nI (show i < 342 by omega) (by decide), gd_t, nI_clamp (show i < 2 ^ 31 by omega), stp_e, nI_1]
    have zero : (i < 173 ∨ 194 ≤ i) → ∃ M1, fm_fresh_10 (n + d + 1) p (nI (i + 1)) (up2 M 4 i 0) = fm_fresh_46 600 p 0 M1 ∧ (∀ j, i ≤ j → j < 342 → (j < 173 ∨ 194 ≤ j) → M1 4 j = 0) ∧ (∀ j, j < i → M1 4 j = M 4 j) ∧ (∀ j, 173 ≤ j → j < 194 → M1 4 j = M 4 j) ∧ (∀ o j, ¬ o = 4 → M1 o j = M o j) := by
      intro hz
      obtain ⟨M1, e0, e1, e2, e3, e4⟩ := ih n (i + 1) (up2 M 4 i 0) (by omega)
      refine ⟨M1, e0, fun j a b c => ?_, fun j a => ?_, fun j a b => ?_, fun o j a => ?_⟩
      · by_cases z : j = i
        · subst z
          rw [e2 j (by omega), up2_e]
        · exact e1 j (by omega) b c
      · rw [e2 j (by omega), up2_x (by omega)]
      · rw [e3 j a b, up2_x (by omega)]
      · rw [e4 o j a, up2_x (by omega)]
    by_cases h1 : i < 173
    · rw [if_pos (show nI i < 173 from nI_lt (b := 173) h1 (by decide))]
      exact zero (Or.inl h1)
    · rw [if_neg (show ¬ nI i < 173 from nI_nlt (b := 173) (by omega) (by omega))]
      by_cases h2 : i < 194
      · rw [if_pos (show nI i < 194 from nI_lt (b := 194) h2 (by decide))]
        obtain ⟨M1, e0, e1, e2, e3, e4⟩ := ih n (i + 1) M (by omega)
        exact ⟨M1, e0, fun j a b c => e1 j (by omega) b c, fun j a => e2 j (by omega), e3, e4⟩
      · rw [if_neg (show ¬ nI i < 194 from nI_nlt (b := 194) (by omega) (by omega))]
        exact zero (Or.inr (by omega))
theorem fr46_s {n : Nat} {a b : Int32} {M : Mem} : fm_fresh_46 (n + 1) a b M = fm_fresh_46b (fm_fresh_46 n) a b M := rfl
theorem fr46 {p : Int32} : ∀ (d n i : Nat) (M : Mem), i + d = 21 → ∃ M1, fm_fresh_46 (n + d + 1) p (nI i) M = fm_fresh_78 600 p 0 M1 ∧ (∀ j, i ≤ j → j < 21 → M1 4 (194 + j) = -1 ∧ M1 12 j = -1) ∧ (∀ j, j < i → M1 4 (194 + j) = M 4 (194 + j) ∧ M1 12 j = M 12 j) ∧ (∀ o j, (¬ o = 4 ∨ j < 194 ∨ 215 ≤ j) → ¬ o = 12 → M1 o j = M o j) := by
  intro d
  induction d with
  | zero =>
    intro n i M hd
    have ei : i = 21 := by omega
    subst ei
    rw [fr46_s]
    unfold fm_fresh_46b
    rw [if_pos (show (21 : Int32) ≤ nI 21 by decide)]
    exact ⟨M, rfl, fun j a b => absurd a (by omega), fun _ _ => ⟨rfl, rfl⟩, fun _ _ _ _ => rfl⟩
  | succ d ih =>
    intro n i M hd
    rw [show n + (d + 1) + 1 = (n + d + 1) + 1 by omega, fr46_s]
    unfold fm_fresh_46b
    rw [if_neg (show ¬ (21 : Int32) ≤ nI i from nI_ge (b := 21) (by omega) (by decide)), l_194, inb_nI (show 194 + i < 342 by omega) (by decide), gd_t, nI_clamp (show 194 + i < 2 ^ 31 by omega), stp_e, inb_nI (show i < 21 by omega) (by decide), gd_t, nI_clamp (show i < 2 ^ 31 by omega), stp_e, nI_1]
    obtain ⟨M1, e0, e1, e2, e3⟩ := ih n (i + 1) (up2 (up2 M 4 (194 + i) (-1)) 12 i (-1)) (by omega)
    refine ⟨M1, e0, fun j a b => ?_, fun j a => ?_, fun o j a b => ?_⟩
    · by_cases z : j = i
      · subst z
        obtain ⟨y1, y2⟩ := e2 j (by omega)
        rw [y1, y2, up2_e, up2_x (by omega), up2_e]
        exact ⟨rfl, rfl⟩
      · exact e1 j (by omega) b
    · obtain ⟨y1, y2⟩ := e2 j (by omega)
      rw [y1, y2, up2_x (by omega), up2_x (by omega), up2_x (by omega), up2_x (by omega)]
      exact ⟨rfl, rfl⟩
    · rw [e3 o j a b, up2_x (by omega), up2_x (by omega)]
theorem fr78_s {n : Nat} {a b : Int32} {M : Mem} : fm_fresh_78 (n + 1) a b M = fm_fresh_78b (fm_fresh_78 n) a b M := rfl
theorem fr78 {p : Int32} : ∀ (d n i : Nat) (M : Mem), i + d = 17 → ∃ M1, fm_fresh_78 (n + d + 1) p (nI i) M = some ((), up2 (up2 (up2 (up2 M1 4 19 (-1)) 4 26 p) 4 27 p) 0 11 0) ∧ (∀ j, i ≤ j → j < 17 → M1 6 j = 0) ∧ (∀ j, j < i → M1 6 j = M 6 j) ∧ (∀ o j, ¬ o = 6 → M1 o j = M o j) := by
  intro d
  induction d with
  | zero =>
    intro n i M hd
    have ei : i = 17 := by omega
    subst ei
    rw [fr78_s]
    unfold fm_fresh_78b
    rw [if_pos (show (17 : Int32) ≤ nI 17 by decide)]
    exact ⟨M, rfl, fun j a b => absurd a (by omega), fun _ _ => rfl, fun _ _ _ => rfl⟩
  | succ d ih =>
    intro n i M hd
    rw [show n + (d + 1) + 1 = (n + d + 1) + 1 by omega, fr78_s]
    unfold fm_fresh_78b
    rw [if_neg (show ¬ (17 : Int32) ≤ nI i from nI_ge (b := 17) (by omega) (by decide)), inb_nI (show i < 17 by omega) (by decide), gd_t, nI_clamp (show i < 2 ^ 31 by omega), stp_e, nI_1]
    obtain ⟨M1, e0, e1, e2, e3⟩ := ih n (i + 1) (up2 M 6 i 0) (by omega)
    refine ⟨M1, e0, fun j a b => ?_, fun j a => ?_, fun o j a => ?_⟩
    · by_cases z : j = i
      · subst z
        rw [e2 j (by omega), up2_e]
      · exact e1 j (by omega) b
    · rw [e2 j (by omega), up2_x (by omega)]
    · rw [e3 o j a, up2_x (by omega)]
theorem fresh_v {M : Mem} : ∃ M1, fm_fresh M = some ((), M1) ∧ (∀ j, j < 342 → (j < 173 ∨ 215 ≤ j) → ¬ j = 19 → ¬ j = 26 → ¬ j = 27 → M1 4 j = 0) ∧ M1 4 19 = -1 ∧ M1 4 26 = M 4 26 ∧ M1 4 27 = M 4 26 ∧ (∀ j, j < 21 → M1 4 (194 + j) = -1 ∧ M1 12 j = -1) ∧ (∀ j, 173 ≤ j → j < 194 → M1 4 j = M 4 j) ∧ (∀ j, j < 17 → M1 6 j = 0) ∧ M1 0 11 = 0 ∧ (∀ o k, ¬ o = 4 → ¬ o = 6 → ¬ o = 12 → (¬ o = 0 ∨ ¬ k = 11) → M1 o k = M o k) := by
  unfold fm_fresh
  obtain ⟨Ma, a0, a1, -, a3, a4⟩ := fr10 (p := M 4 26) 342 257 0 M (by omega)
  obtain ⟨Mb, b0, b1, -, b3⟩ := fr46 (p := M 4 26) 21 578 0 Ma (by omega)
  obtain ⟨Mc, c0, c1, -, c3⟩ := fr78 (p := M 4 26) 17 582 0 Mb (by omega)
  rw [show fm_fresh_10 600 (M 4 26) 0 M = fm_fresh_10 (257 + 342 + 1) (M 4 26) (nI 0) M from rfl, a0, show fm_fresh_46 600 (M 4 26) 0 Ma = fm_fresh_46 (578 + 21 + 1) (M 4 26) (nI 0) Ma from rfl, b0, show fm_fresh_78 600 (M 4 26) 0 Mb = fm_fresh_78 (582 + 17 + 1) (M 4 26) (nI 0) Mb from rfl, c0]
  refine ⟨_, rfl, fun j hj z z1 z2 z3 => ?_, ?_, ?_, ?_, fun j hj => ⟨?_, ?_⟩, fun j h1 h2 => ?_, fun j hj => ?_, ?_, fun o k z1 z2 z3 z4 => ?_⟩
  · simp (disch := omega) only [up2_x, upr_x]; rw [c3 4 j (by omega), b3 4 j (by omega) (by omega)]; exact a1 j (by omega) hj (by omega)
  · simp (disch := omega) only [up2_x, up2_e, upr_x]
  · simp (disch := omega) only [up2_x, up2_e, upr_x]
  · simp (disch := omega) only [up2_x, up2_e, upr_x]
  · simp (disch := omega) only [up2_x, upr_x]; rw [c3 4 _ (by omega)]; exact (b1 j (by omega) hj).1
  · simp (disch := omega) only [up2_x, upr_x]; rw [c3 12 _ (by omega)]; exact (b1 j (by omega) hj).2
  · simp (disch := omega) only [up2_x, upr_x]; rw [c3 4 j (by omega), b3 4 j (by omega) (by omega)]; exact a3 j h1 h2
  · simp (disch := omega) only [up2_x, upr_x]; exact c1 j (by omega) hj
  · simp (disch := omega) only [up2_x, up2_e, upr_x]
  · simp (disch := omega) only [up2_x, upr_x]; rw [c3 o k z2, b3 o k (by omega) z3, a4 o k z1]
theorem s_reset {T E : Nat} {C M : Mem} (hi : Inv T E C M) : OpS fc_RE_reset fm_reset T E C M := by
  have h17 := hi.err 0
  obtain ⟨⟨L, h⟩, hb, q0, hq0, hq1⟩ := hi.err 0
  unfold OpS fc_RE_reset fm_reset
  rw [stp_e]
  generalize up2 M 0 17 0 = M at *
  obtain ⟨C1, cc, c1, c2, c3, c4, c5, c6, c7, c8, c9, c10, c11, c12⟩ := forgets_v (C := C)
  obtain ⟨M1, mm, m1, m2, m3, m4, m5, m6, m7, m8, m9⟩ := fresh_v (M := M)
  obtain ⟨d, nst, n1, n2, n3, -⟩ := h.nst
  rw [cc, mm, bnd_s, bnd_s, n2, n3]
  refine ⟨_, C1, M1, rfl, rfl, ⟨L, ?_⟩, ⟨fun z => ?_, fun z => ?_⟩, q0, hq0, by rw [c8 52 50 (by omega)]; exact hq1⟩
  · refine ⟨⟨?_, ?_, ?_, ?_, ?_, ?_, ?_, ?_, ?_, ?_, ?_, ?_, ?_, ?_, ?_, ?_, ?_, ?_, ?_, ?_, ?_, ?_, ?_, ?_, ?_, ?_, ?_, ?_, ?_, ?_, ?_, ?_, ?_⟩, ⟨?_, ?_, ?_, ?_, ?_⟩⟩
    · intro j hj
      rw [c1 j hj, m1 (0 + j) (by omega) (by omega) (by omega) (by omega) (by omega)]
    · intro j hj
      rw [c3 j hj, m1 (40 + j) (by omega) (by omega) (by omega) (by omega) (by omega)]
    · intro j hj
      rw [c4 j hj, m1 (56 + j) (by omega) (by omega) (by omega) (by omega) (by omega)]
    · intro j hj
      rw [c2 j hj, m1 (8 + j) (by omega) (by omega) (by omega) (by omega) (by omega)]
      exact ⟨rfl, by unfold fin32; decide⟩
    · exact ⟨by rw [c10 29 (by omega), m1 13 (by omega) (by omega) (by omega) (by omega) (by omega)], by rw [c10 30 (by omega), m1 14 (by omega) (by omega) (by omega) (by omega) (by omega)]⟩
    · exact ⟨0, Nat.zero_le _, c10 31 (by omega), m1 12 (by omega) (by omega) (by omega) (by omega) (by omega)⟩
    · exact ⟨0, Nat.zero_le _, c10 32 (by omega), m1 15 (by omega) (by omega) (by omega) (by omega) (by omega)⟩
    · show C1 9 36 = M1 4 16
      rw [c10 36 (by omega), m1 16 (by omega) (by omega) (by omega) (by omega) (by omega)]
    · exact ⟨0, Nat.zero_le _, c10 35 (by omega), m1 17 (by omega) (by omega) (by omega) (by omega) (by omega)⟩
    · show C1 9 45 = M1 4 18
      rw [c10 45 (by omega), m1 18 (by omega) (by omega) (by omega) (by omega) (by omega)]
    · exact Or.inl ⟨c11, m2⟩
    · exact ⟨⟨0, Nat.zero_le _, c10 41 (by omega), m1 20 (by omega) (by omega) (by omega) (by omega) (by omega)⟩, by rw [c10 24 (by omega), c10 41 (by omega)]⟩
    · show C1 9 42 = M1 4 21
      rw [c10 42 (by omega), m1 21 (by omega) (by omega) (by omega) (by omega) (by omega)]
    · exact ⟨⟨0, Nat.zero_le _, c10 43 (by omega), m1 22 (by omega) (by omega) (by omega) (by omega) (by omega)⟩, fun _ => c10 43 (by omega)⟩
    · exact ⟨by rw [c10 44 (by omega), m1 23 (by omega) (by omega) (by omega) (by omega) (by omega)], by rw [c10 44 (by omega)]; rfl⟩
    · exact ⟨0, Nat.zero_le _, c10 37 (by omega), m1 25 (by omega) (by omega) (by omega) (by omega) (by omega)⟩
    · show EqN 999 (C1 9 38) (M1 4 26)
      rw [c9 38 (by omega), m3]
      exact h.per
    · show C1 9 39 = M1 4 27
      rw [c12, m4]
      exact h.per.eq
    · exact ⟨0, fun _ => 0, Nat.zero_le _, c10 33 (by omega), m1 30 (by omega) (by omega) (by omega) (by omega) (by omega), fun j hj => absurd hj (Nat.not_lt_zero _), fun i j _ hj => absurd hj (Nat.not_lt_zero _)⟩
    · exact ⟨0, Nat.zero_le _, c10 40 (by omega), m1 31 (by omega) (by omega) (by omega) (by omega) (by omega), fun j hj => absurd hj (Nat.not_lt_zero _)⟩
    · intro j hj hj2
      rw [c6 j 1 hj (by omega) (by omega) (by omega) (by omega), m6 (173 + j) (by omega) (by omega)]
      exact h.rnk j hj hj2
    · intro j hj
      rw [c6 j 2 hj (by omega) (by omega) (by omega) (by omega), m9 2 j (by omega) (by omega) (by omega) (by omega)]
      exact h.vec j hj
    · intro j hj
      rw [c6 j 3 hj (by omega) (by omega) (by omega) (by omega), m9 3 j (by omega) (by omega) (by omega) (by omega)]
      exact h.ena j hj
    · intro j hj
      exact Or.inl ⟨(c5 j hj).1, (m5 j hj).1⟩
    · intro j hj
      rw [(c5 j hj).2.1, m1 (300 + j) (by omega) (by omega) (by omega) (by omega) (by omega)]
      exact ⟨rfl, rfl, fun z => absurd z (by decide)⟩
    · intro j hj
      rw [m1 (215 + j) (by omega) (by omega) (by omega) (by omega) (by omega)]
      exact ⟨fun z => by rw [(c5 j hj).2.2.2 z]; exact ⟨rfl, rfl⟩, fun _ => rfl⟩
    · unfold rSpl
      rw [c9 34 (by omega), c9 27 (by omega), m9 0 3 (by omega) (by omega) (by omega) (by omega)]
      exact h.spl
    · exact ⟨by rw [c9 48 (by omega)]; exact h.sta.1, by rw [c9 49 (by omega)]; exact h.sta.2.1, fun z => absurd z (by rw [c10 41 (by omega)]; decide)⟩
    · exact fun z => absurd z (by rw [c10 41 (by omega)]; decide)
    · exact fun z => absurd z (by rw [c10 41 (by omega)]; decide)
    · intro j hj
      rw [c8 2 j (by omega), m9 1 j (by omega) (by omega) (by omega) (by omega)]
      exact h.cod j hj
    · obtain ⟨o1, o2, o3⟩ := h.obs
      exact ⟨by rw [c9 53 (by omega)]; exact o1, o2, fun j a b => by rw [c8 (9 + 12) j (by omega)]; exact o3 j a b⟩
    · exact ⟨fun _ => by rw [c9 28 (by omega), c9 25 (by omega), c9 26 (by omega)]; exact h.mdc.1 rfl, fun z => absurd z (by decide)⟩
    · exact fun _ k a _ _ => by rw [c7 k a, m7 k (by omega)]
    · exact ⟨0, Nat.zero_le _, c10 50 (by omega), fun _ => ⟨m7 15 (by omega), fun j _ a => absurd a (Nat.not_lt_zero _)⟩⟩
    · exact fun _ => ⟨0, Nat.zero_le _, c10 51 (by omega), m8, fun j _ a => absurd a (Nat.not_lt_zero _)⟩
    · exact fun _ k hk => by rw [(c5 k hk).2.2.1, (m5 k hk).2]
    · exact ⟨fun _ _ _ => rfl, fun z => absurd z (by decide)⟩
  · exact absurd z (by rw [c10 41 (by omega)]; decide)
  · exact absurd z (by rw [c10 41 (by omega)]; decide)
