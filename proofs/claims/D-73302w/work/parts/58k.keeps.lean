/-! THE OPERATIONS on the spare: keeps, its loop -/
theorem keeps_s {n : Nat} {a b : Int32} {C : Mem} : fc_RE_keeps_42 (n + 1) a b C = fc_RE_keeps_42b (fc_RE_keeps_42 n) a b C := rfl
theorem mkeeps_s {n : Nat} {a b : Int32} {C : Mem} : fm_keeps_47 (n + 1) a b C = fm_keeps_47b (fm_keeps_47 n) a b C := rfl
theorem keeps_loop {T0 E0 : Nat} {C2 M2 : Mem} (hb : ∀ T' C' M', T0 ≤ T' → FR T' C2 M2 C' M' → Inv T' E0 C' M') : ∀ (d n m i T E : Nat) (f : Bool) (L : List Int32) (C M : Mem), i + d = 300 → T0 ≤ T → SpS T E L C2 M2 C M → T + d < 2 ^ 29 → E + 3 * d < 2 ^ 28 → ∃ r C' M', fc_RE_keeps_42 (n + d + 1) (bI f) (nI i) C = some (r, C') ∧ fm_keeps_47 (m + d + 1) (bI f) (nI i) M = some (r, M') ∧ FR (T + d) C2 M2 C' M' := by
  intro d
  induction d with
  | zero =>
    intro n m i T E f L C M hd h0 h hT hE
    rw [keeps_s, mkeeps_s]
    unfold fc_RE_keeps_42b fm_keeps_47b
    have ei : i = 300 := by omega
    subst ei
    rw [if_pos (show (300 : Int32) ≤ nI 300 by decide), if_pos (show (300 : Int32) ≤ nI 300 by decide)]
    exact ⟨_, _, _, rfl, rfl, h.fr⟩
  | succ d ih =>
    intro n m i T E f L C M hd h0 h hT hE
    rw [show n + (d + 1) + 1 = (n + d + 1) + 1 by omega, show m + (d + 1) + 1 = (m + d + 1) + 1 by omega, keeps_s, mkeeps_s]
    unfold fc_RE_keeps_42b fm_keeps_47b fc_RE_keeps_71
    obtain ⟨C', M', L', a1, a2, a3, a4, a5, a6⟩ := sp_step h (by omega) (by omega)
    rw [if_neg (show ¬ (300 : Int32) ≤ nI i from nI_ge (b := 300) (by omega) (by decide)), if_neg (show ¬ (300 : Int32) ≤ nI i from nI_ge (b := 300) (by omega) (by decide)), a1, a2, bnd_s, bnd_s]
    obtain ⟨⟨L9, t9⟩, -, -⟩ := hb (T + 1) C' M' (by omega) a3.fr
    have e5 : C' 52 33 = M' 5 30 := by obtain ⟨x, y, -, z1, z2, -⟩ := a3.1.nst; rw [z1, z2]
    have e4 : C' 9 33 = M' 4 30 := by obtain ⟨x, y, -, z1, z2, -⟩ := t9.nst; rw [z1, z2]
    have e41 : C' 52 41 = M' 5 20 := a3.1.ph.1.eq
    have go : ∀ g : Bool, ∃ r C3 M3, fc_RE_keeps_76 (fc_RE_keeps_42 (n + d + 1)) (nI i) (bI g) C' = some (r, C3) ∧ fm_keeps_81 (fm_keeps_47 (m + d + 1)) (bI g) (nI i) M' = some (r, M3) ∧ FR (T + (d + 1)) C2 M2 C3 M3 := by
      intro g
      unfold fc_RE_keeps_76 fm_keeps_81 fc_RE_keeps_119 fm_keeps_125 fc_RE_keeps_118 fm_keeps_124
      rw [nI_1, ← e5, ← e4, ← e41]
      have next : ∃ r C3 M3, fc_RE_keeps_42 (n + d + 1) (bI g) (nI (i + 1)) C' = some (r, C3) ∧ fm_keeps_47 (m + d + 1) (bI g) (nI (i + 1)) M' = some (r, M3) ∧ FR (T + (d + 1)) C2 M2 C3 M3 := by
        obtain ⟨r, C3, M3, b1, b2, b3⟩ := ih n m (i + 1) (T + 1) (E + 3) g L' C' M' (by omega) (by omega) a3 (by omega) (by omega)
        exact ⟨r, C3, M3, b1, b2, b3.mono (by omega)⟩
      by_cases hg : bI g = 0
      · rw [if_pos hg, if_pos hg]
        exact next
      · rw [if_neg hg, if_neg hg]
        by_cases hp : C' 52 41 = 0 <;> by_cases hq : C' 52 33 = C' 9 33
        · rw [if_pos hp, if_pos hq, if_pos hq, if_pos hp]
          obtain ⟨b, s1, s2⟩ := as_v t9 a3.1
          rw [s1, s2, bnd_s, bnd_s]
          split <;> exact ⟨_, _, _, rfl, rfl, a3.fr.mono (by omega)⟩
        · rw [if_pos hp, if_neg hq, if_neg hq]
          exact next
        · rw [if_neg hp, if_pos hq, if_neg hp]
          exact next
        · rw [if_neg hp, if_neg hq]
          exact next
    rw [← e5, ← e4]
    cases f with
    | true =>
      rw [if_neg (show ¬ bI true = 0 by decide)]
      split <;> exact go true
    | false =>
      rw [if_pos (show bI false = 0 from rfl)]
      split
      · exact go false
      · exact go true
theorem s_keeps {T E : Nat} {C M : Mem} (hi : Inv T E C M) (hT : T + 400 < 2 ^ 29) (hE : E + 1000 < 2 ^ 28) : OpS fc_RE_keeps fm_keeps (T + 400) (E + 1000) C M := by
  have h17 := hi.err 0
  obtain ⟨⟨L, h⟩, hb, hq⟩ := hi.err 0
  unfold OpS fc_RE_keeps fm_keeps fc_RE_keeps_30 fm_keeps_36
  rw [stp_e]
  generalize up2 M 0 17 0 = M at *
  rw [← h.ph.1.eq]
  by_cases h0 : C 9 41 = 0
  · rw [if_pos h0, if_pos h0]
    obtain ⟨w, hw, w1, w2⟩ := h.stl.1
    rw [w1, w2]
    by_cases hw0 : w = 0
    · subst hw0
      rw [if_neg (show ¬ (0 : Int32) < nI 0 by decide), if_pos (show nI 0 = 0 from rfl)]
      obtain ⟨o, n1, n2, -⟩ := top_next (Or.inl ⟨rfl, rfl⟩) (by omega) h.1
      rw [n1, n2, bnd_s, bnd_s]
      by_cases ho : 0 ≤ oI o
      · rw [if_pos ho, if_pos ho]
        obtain ⟨C2, M2, a1, a2, a3, a4, a5⟩ := sp_start h17 isB_0
        rw [a1, a2, bnd_s, bnd_s]
        obtain ⟨r, C', M', b1, b2, b3⟩ := keeps_loop (fun T' C' M' z w => fr_back h17 z a4 a5 w) 300 4 299 0 T E false [] C2 M2 (by omega) (Nat.le_refl _) a3 (by omega) (by omega)
        exact ⟨r, C', M', b1, b2, (fr_back h17 (by omega) a4 a5 b3).mono (by omega) (by omega)⟩
      · rw [if_neg ho, if_neg ho]
        exact ⟨_, _, _, rfl, rfl, h17.mono (by omega) (by omega)⟩
    · rw [if_pos (show (0 : Int32) < nI w from nI_lt (a := 0) (by omega) (by omega)), if_neg (show ¬ nI w = 0 from nI_ne0 (by omega) (by omega))]
      exact ⟨_, _, _, rfl, rfl, h17.mono (by omega) (by omega)⟩
  · rw [if_neg h0, if_neg h0]
    exact ⟨_, _, _, rfl, rfl, h17.mono (by omega) (by omega)⟩
