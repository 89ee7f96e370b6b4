/-! THE OPERATIONS on the spare: order -/
theorem le_nI {a b : Nat} (h : a ≤ b) (hb : b < 2 ^ 31) : nI a ≤ nI b := by
  refine i32_le.mpr ?_
  rw [nI_toInt (by omega), nI_toInt hb]
  omega
theorem m_1 {a : Nat} (h : 1 ≤ a) : nI a + (-1) = nI (a - 1) := by
  rw [← s_1 h, Int32.sub_eq_add_neg]
theorem order_s {n : Nat} {a b : Int32} {C : Mem} : fc_RE_order_15 (n + 1) a b C = fc_RE_order_15b (fc_RE_order_15 n) a b C := rfl
theorem morder_s {n : Nat} {a b : Int32} {C : Mem} : fm_order_21 (n + 1) a b C = fm_order_21b (fm_order_21 n) a b C := rfl
theorem order_locked {C2 M2 : Mem} {x : Int32} : ∀ (d m i T E : Nat) (L : List Int32) (C M : Mem), i + d = 300 → SpS T E L C2 M2 C M → C 52 41 = 5 → T + d < 2 ^ 29 → E + 3 * d < 2 ^ 28 → ∃ M', fm_order_21 (m + d + 1) x (nI (i + 1)) M = some (-1, M') ∧ (∀ o k, ¬ o = 5 → (¬ o = 0 ∨ ¬ k = 16) → M' o k = M2 o k) := by
  intro d
  induction d with
  | zero =>
    intro m i T E L C M hd h h5 hT hE
    rw [morder_s]
    unfold fm_order_21b
    have ei : i = 300 := by omega
    subst ei
    rw [if_pos (show (300 : Int32) < nI (300 + 1) by decide)]
    exact ⟨M, rfl, h.fr.2.1⟩
  | succ d ih =>
    intro m i T E L C M hd h h5 hT hE
    rw [morder_s]
    unfold fm_order_21b fm_order_59
    obtain ⟨C', M', L', a1, a2, a3, a4, a5, a6⟩ := sp_step h (by omega) (by omega)
    obtain ⟨b1, b2⟩ := a6 h5
    rw [if_neg (show ¬ (300 : Int32) < nI (i + 1) from nI_nlt (a := 300) (by omega) (by decide)), a2, bnd_s, ← a4, b2, if_neg (show ¬ (0 : Int32) ≤ -1 by decide), nI_1]
    exact ih m (i + 1) (T + 1) (E + 3) L' C' M' (by omega) a3 b1 (by omega) (by omega)
theorem order_hit {n k : Nat} {x : Int32} {C : Mem} (hk : k < 300) (h : C 52 53 = nI (k + 1)) : fc_RE_order_15 (n + 1) (nI k) x C = some (C (52 + 12) k, C) := by
  rw [order_s]
  unfold fc_RE_order_15b
  have e : fc_RE_order_49 (nI k) C = some (C (52 + 12) k, C) := by
    unfold fc_RE_order_49 fc_RE_order_67
    rw [h, if_neg (show ¬ nI (k + 1) ≤ nI k from nI_ge (by omega) (by omega)), inb_nI hk (by decide), gd_t, nI_clamp (by omega)]
  split
  · exact e
  · rw [h, if_pos (show nI k < nI (k + 1) from nI_lt (by omega) (by omega))]
    exact e
theorem order_loop {k : Nat} (hk : k < 2 ^ 31) {C2 M2 : Mem} : ∀ (d n m i T E : Nat) (L : List Int32) (C M : Mem), i + d = 300 → SpS T E L C2 M2 C M → L.length ≤ k → L.length ≤ i → T + d < 2 ^ 29 → E + 3 * d < 2 ^ 28 → ∃ r C' M', fc_RE_order_15 (n + d + 1) (nI k) (nI i) C = some (r, C') ∧ fm_order_21 (m + d + 1) (nI (k - L.length)) (nI (i + 1)) M = some (r, M') ∧ FR (T + d) C2 M2 C' M' := by
  intro d
  induction d with
  | zero =>
    intro n m i T E L C M hd h hlk hli hT hE
    rw [order_s, morder_s]
    unfold fc_RE_order_15b fm_order_21b fc_RE_order_49 fc_RE_order_67
    have ei : i = 300 := by omega
    subst ei
    rw [if_pos (show (300 : Int32) ≤ nI 300 by decide), if_pos (show (300 : Int32) < nI (300 + 1) by decide), h.1.obs.1, if_pos (le_nI hlk hk)]
    exact ⟨_, _, _, rfl, rfl, h.fr⟩
  | succ d ih =>
    intro n m i T E L C M hd h hlk hli hT hE
    by_cases h5 : C 52 41 = 5
    · obtain ⟨M', b1, b2⟩ := order_locked (x := nI (k - L.length)) (d + 1) m i T E L C M hd h h5 hT hE
      rw [order_s]
      unfold fc_RE_order_15b fc_RE_order_49 fc_RE_order_67
      rw [if_neg (show ¬ (300 : Int32) ≤ nI i from nI_ge (b := 300) (by omega) (by decide)), h.1.obs.1, if_neg (show ¬ nI k < nI L.length from nI_nlt hlk hk), if_pos h5, if_pos (le_nI hlk hk)]
      obtain ⟨f1, f2, q, q1, q2⟩ := h.fr
      exact ⟨_, _, _, rfl, b1, f1, b2, q, by omega, q2⟩
    · obtain ⟨C', M', L', a1, a2, a3, a4, a5, a6⟩ := sp_step h (by omega) (by omega)
      rw [show n + (d + 1) + 1 = (n + d + 1) + 1 by omega, order_s, morder_s]
      unfold fc_RE_order_15b fm_order_21b fm_order_59
      rw [if_neg (show ¬ (300 : Int32) ≤ nI i from nI_ge (b := 300) (by omega) (by decide)), h.1.obs.1, if_neg (show ¬ nI k < nI L.length from nI_nlt hlk hk), if_neg h5, if_neg (show ¬ (300 : Int32) < nI (i + 1) from nI_nlt (a := 300) (by omega) (by decide)), a1, a2, bnd_s, bnd_s, ← a4, nI_1, nI_1]
      rcases a5 with ⟨c1, c2⟩ | ⟨b, hb, c1, c2⟩
      · subst c2
        rw [c1, if_neg (show ¬ (0 : Int32) ≤ -1 by decide)]
        obtain ⟨r, C3, M3, b1, b2, b3⟩ := ih n m (i + 1) (T + 1) (E + 3) L' C' M' (by omega) a3 hlk (by omega) (by omega) (by omega)
        exact ⟨r, C3, M3, b1, b2, b3.mono (by omega)⟩
      · rw [c1, if_pos (show (0 : Int32) ≤ nI b from Int32.not_lt.mp (nI_pos (by omega)))]
        have hl : L'.length = L.length + 1 := by rw [c2, List.length_append]; rfl
        by_cases hz : k = L.length
        · rw [if_pos (show nI (k - L.length) = 0 by rw [hz, Nat.sub_self]; rfl), order_hit (by omega) (by rw [a3.1.obs.1, hl, hz]), a3.1.obs.2.2 k (by omega) (by omega)]
          have hg : L'.getD k 0 = nI b := by rw [c2, hz]; simp
          rw [hg]
          exact ⟨_, _, _, rfl, rfl, a3.fr.mono (by omega)⟩
        · rw [if_neg (show ¬ nI (k - L.length) = 0 from nI_ne0 (by omega) (by omega)), m_1 (show 1 ≤ k - L.length by omega)]
          obtain ⟨r, C3, M3, b1, b2, b3⟩ := ih n m (i + 1) (T + 1) (E + 3) L' C' M' (by omega) a3 (by omega) (by omega) (by omega) (by omega)
          rw [show k - L'.length = k - L.length - 1 by omega] at b2
          exact ⟨r, C3, M3, b1, b2, b3.mono (by omega)⟩
theorem s_order {T E : Nat} {C M : Mem} {x1 x2 : Int32} (hi : Inv T E C M) (hx : isB x2 = true) (hT : T + 400 < 2 ^ 29) (hE : E + 1000 < 2 ^ 28) : OpS (fc_RE_order x1 x2) (fm_order x1 x2) (T + 400) (E + 1000) C M := by
  have h17 := hi.err 0
  unfold OpS fc_RE_order fm_order
  rw [stp_e]
  by_cases h0 : 0 ≤ x1
  · rw [if_pos h0, if_pos h0]
    obtain ⟨k, hk, ek⟩ : ∃ k : Nat, k < 2 ^ 31 ∧ x1 = nI k := by
      obtain ⟨j, hj, e⟩ := nI_of (x := x1) (Int32.not_lt.mpr h0)
      exact ⟨j, hj, e⟩
    subst ek
    obtain ⟨C2, M2, a1, a2, a3, a4, a5⟩ := sp_start h17 hx
    rw [a1, a2, bnd_s, bnd_s]
    obtain ⟨r, C', M', b1, b2, b3⟩ := order_loop hk 300 4 299 0 T E [] C2 M2 (by omega) a3 (Nat.zero_le _) (Nat.zero_le _) (by omega) (by omega)
    exact ⟨r, C', M', b1, b2, (fr_back h17 (by omega) a4 a5 b3).mono (by omega) (by omega)⟩
  · rw [if_neg h0, if_neg h0]
    exact ⟨_, _, _, rfl, rfl, h17.mono (by omega) (by omega)⟩
