/-! THE OPERATIONS: readers that may throw -/
def OpX (f : Mem → Option ((Int32 ⊕ Int32) × Mem)) (g : Mem → Option (Int32 × Mem)) (T E : Nat) (C M : Mem) : Prop := ∃ r b C' M', f C = some (r, C') ∧ g M = some (b, M') ∧ Inv T E C' M' ∧ ((r = .inr 0 ∧ M' 0 17 = 1) ∨ (r = .inl b ∧ M' 0 17 = 0))
theorem OpX.mono {f : Mem → Option ((Int32 ⊕ Int32) × Mem)} {g : Mem → Option (Int32 × Mem)} {T E T' E' : Nat} {C M : Mem} (hT : T ≤ T') (hE : E ≤ E') (h : OpX f g T E C M) : OpX f g T' E' C M := by
  obtain ⟨r, b, C', M', h1, h2, h3, h4⟩ := h
  exact ⟨r, b, C', M', h1, h2, h3.mono hT hE, h4⟩
theorem n17 {M : Mem} : ¬ up2 M 0 17 0 0 17 = 1 := by
  rw [up2_e]
  decide
theorem s_reg {T E : Nat} {C M : Mem} {x1 : Int32} (hi : Inv T E C M) : OpX (fc_RE_reg x1) (fm_reg x1) T E C M := by
  have e0 := hi.err 0
  have e1 := hi.err 1
  obtain ⟨⟨L, h⟩, hb, hq⟩ := hi
  unfold OpX fc_RE_reg fm_reg fm_reg_16 fm_reg_39
  rw [wi, wim, bnd_s, bnd_s]
  rcases wth_or x1 (n := 11) (by decide) with z | ⟨z, k, hk, ek⟩
  · rw [show wth x1 0 11 = wth x1 0 (nI 11) from rfl, z, if_pos rfl, if_pos rfl, stp_e, if_pos up2_e]
    exact ⟨_, _, _, _, rfl, rfl, e1, Or.inl ⟨rfl, up2_e⟩⟩
  rw [show wth x1 0 11 = wth x1 0 (nI 11) from rfl, z, if_neg (show ¬ (1 : Int32) = 0 by decide), if_neg (show ¬ (1 : Int32) = 0 by decide), stp_e, if_neg n17]
  subst ek
  rw [show (0 : Int32) + nI k = nI (0 + k) from nI_add 0 k, inb_nI (show 0 + k < 342 by omega) (by decide), nI_clamp (show 0 + k < 2 ^ 31 by omega), gd_t, up2_x (by omega)]
  by_cases h8 : 8 ≤ k
  · have hf := h.flt (k - 8) (by omega)
    unfold fc_RE_reg_51
    rw [if_pos (show (8 : Int32) ≤ nI k from nI_le (a := 8) h8 (by omega)), show nI k - 8 = nI (k - 8) from nI_sub (b := 8) h8, inb_nI (show k - 8 < 4 by omega) (by decide), gd_t, nI_clamp (show k - 8 < 2 ^ 31 by omega), fbits_v (by rw [hf.1]; exact (fin32_iff _).mp hf.2), bnd_s, hf.1, show 8 + (k - 8) = 0 + k by omega]
    exact ⟨_, _, _, _, rfl, rfl, e0, Or.inr ⟨rfl, up2_e⟩⟩
  · unfold fc_RE_reg_51
    rw [if_neg (show ¬ (8 : Int32) ≤ nI k from nI_ge (b := 8) (by omega) (by decide)), inb_nI (show k < 8 by omega) (by decide), gd_t, nI_clamp (show k < 2 ^ 31 by omega), h.reg k (by omega)]
    exact ⟨_, _, _, _, rfl, rfl, e0, Or.inr ⟨rfl, up2_e⟩⟩
theorem s_word {T E : Nat} {C M : Mem} {x1 : Int32} (hi : Inv T E C M) : OpX (fc_RE_word x1) (fm_word x1) T E C M := by
  have e0 := hi.err 0
  have e1 := hi.err 1
  obtain ⟨⟨L, h⟩, hb, hq⟩ := hi
  unfold OpX fc_RE_word fm_word fm_word_16 fm_word_40
  rw [wi, wim, bnd_s, bnd_s]
  rcases wth_or x1 (n := 95) (by decide) with z | ⟨z, k, hk, ek⟩
  · rw [show wth x1 0 95 = wth x1 0 (nI 95) from rfl, z, if_pos rfl, if_pos rfl, stp_e, if_pos up2_e]
    exact ⟨_, _, _, _, rfl, rfl, e1, Or.inl ⟨rfl, up2_e⟩⟩
  rw [show wth x1 0 95 = wth x1 0 (nI 95) from rfl, z, if_neg (show ¬ (1 : Int32) = 0 by decide), if_neg (show ¬ (1 : Int32) = 0 by decide), stp_e, if_neg n17]
  subst ek
  rw [show (56 : Int32) + nI k = nI (56 + k) from nI_add 56 k, inb_nI (show 56 + k < 342 by omega) (by decide), nI_clamp (show 56 + k < 2 ^ 31 by omega), gd_t, up2_x (by omega)]
  rw [inb_nI (show k < 96 by omega) (by decide), gd_t, nI_clamp (show k < 2 ^ 31 by omega), h.stk k (by omega)]
  exact ⟨_, _, _, _, rfl, rfl, e0, Or.inr ⟨rfl, up2_e⟩⟩
theorem s_data {T E : Nat} {C M : Mem} {x1 : Int32} (hi : Inv T E C M) : OpX (fc_RE_data x1) (fm_data x1) T E C M := by
  have e0 := hi.err 0
  have e1 := hi.err 1
  obtain ⟨⟨L, h⟩, hb, hq⟩ := hi
  unfold OpX fc_RE_data fm_data fm_data_16 fm_data_40
  rw [wi, wim, bnd_s, bnd_s]
  rcases wth_or x1 (n := 15) (by decide) with z | ⟨z, k, hk, ek⟩
  · rw [show wth x1 0 15 = wth x1 0 (nI 15) from rfl, z, if_pos rfl, if_pos rfl, stp_e, if_pos up2_e]
    exact ⟨_, _, _, _, rfl, rfl, e1, Or.inl ⟨rfl, up2_e⟩⟩
  rw [show wth x1 0 15 = wth x1 0 (nI 15) from rfl, z, if_neg (show ¬ (1 : Int32) = 0 by decide), if_neg (show ¬ (1 : Int32) = 0 by decide), stp_e, if_neg n17]
  subst ek
  rw [show (40 : Int32) + nI k = nI (40 + k) from nI_add 40 k, inb_nI (show 40 + k < 342 by omega) (by decide), nI_clamp (show 40 + k < 2 ^ 31 by omega), gd_t, up2_x (by omega)]
  rw [inb_nI (show k < 16 by omega) (by decide), gd_t, nI_clamp (show k < 2 ^ 31 by omega), h.dat k (by omega)]
  exact ⟨_, _, _, _, rfl, rfl, e0, Or.inr ⟨rfl, up2_e⟩⟩
theorem s_out {T E : Nat} {C M : Mem} {x1 : Int32} (hi : Inv T E C M) (hT : T < 2 ^ 30) : OpX (fc_RE_out x1) (fm_out x1) T E C M := by
  have e0 := hi.err 0
  have e1 := hi.err 1
  obtain ⟨⟨L, h⟩, hb, hq⟩ := hi
  have thr : ∃ r b C' M', fc_RE_out_21 C = some (r, C') ∧ fm_out_26 x1 M = some (b, M') ∧ Inv T E C' M' ∧ ((r = .inr 0 ∧ M' 0 17 = 1) ∨ (r = .inl b ∧ M' 0 17 = 0)) := by
    unfold fc_RE_out_21 fm_out_26 fm_out_27 fm_out_48
    rw [stp_e, if_pos up2_e]
    exact ⟨_, _, _, _, rfl, rfl, e1, Or.inl ⟨rfl, up2_e⟩⟩
  unfold OpX fc_RE_out fm_out
  rw [wim, bnd_s]
  rcases wth_b x1 (a := 0) (n := 63) (by decide) (by decide) with ⟨z, hn⟩ | ⟨z, k, -, hk, ek⟩
  · rw [show wth x1 0 63 = wth x1 (nI 0) (nI 63) from rfl, z, if_pos rfl]
    by_cases h0 : x1 < 0
    · rw [if_pos h0]
      exact thr
    · rw [if_neg h0]
      by_cases h1 : 64 ≤ x1
      · rw [if_pos h1]
        exact thr
      · exfalso
        have h2 : ¬ nI 63 < x1 := fun y => by
          have y1 := i32_lt.mp y
          rw [nI_toInt (by decide)] at y1
          have y2 : ¬ (64 : Int32).toInt ≤ x1.toInt := fun y => h1 (i32_le.mpr y)
          have y3 : (64 : Int32).toInt = 64 := by decide
          omega
        obtain ⟨k, k1, k2⟩ := nat_of (n := 63) (by decide) h0 h2
        exact hn ⟨k, Nat.zero_le _, k1, k2⟩
  · subst ek
    obtain ⟨q, q1, q2, q3⟩ := h.out
    obtain ⟨q4, q5⟩ := q3 rfl
    rw [show wth (nI k) 0 63 = wth (nI k) (nI 0) (nI 63) from rfl, z, if_neg (show ¬ (1 : Int32) = 0 by decide), if_neg (show ¬ nI k < 0 from nI_pos (by omega)), if_neg (show ¬ (64 : Int32) ≤ nI k from nI_ge (b := 64) (by omega) (by decide)), q2, q4]
    by_cases hkq : k < q
    · unfold fm_out_27 fm_out_48
      rw [if_pos (nI_lt hkq (by omega)), if_neg (nI_ge hkq (by omega)), stp_e, if_neg n17, inb_nI (show k < 64 by omega) (by decide), gd_t, gd_t, nI_clamp (show k < 2 ^ 31 by omega), up2_x (by omega), q5 k (by omega) hkq]
      exact ⟨_, _, _, _, rfl, rfl, e0, Or.inr ⟨rfl, up2_e⟩⟩
    · rw [if_neg (nI_nlt (show q ≤ k by omega) (by omega)), if_pos (nI_le (show q ≤ k by omega) (by omega))]
      exact thr
theorem kind_n : ∀ p, p ≤ 5 → fv_kind (nI p) = nI p := by
  intro p hp
  have : p = 0 ∨ p = 1 ∨ p = 2 ∨ p = 3 ∨ p = 4 ∨ p = 5 := by omega
  rcases this with rfl | rfl | rfl | rfl | rfl | rfl <;> rfl
theorem s_event {T E : Nat} {C M : Mem} {x1 x2 : Int32} (hi : Inv T E C M) (hE : E < 2 ^ 30) : OpX (fc_RE_event x1 x2) (fm_event x1 x2) T E C M := by
  have e0 := hi.err 0
  have e1 := hi.err 1
  obtain ⟨⟨L, h⟩, hb, hq⟩ := hi
  have thr : ∃ r b C' M', fc_RE_event_23 C = some (r, C') ∧ fm_event_44 x1 x2 M = some (b, M') ∧ Inv T E C' M' ∧ ((r = .inr 0 ∧ M' 0 17 = 1) ∨ (r = .inl b ∧ M' 0 17 = 0)) := by
    unfold fc_RE_event_23 fm_event_44 fm_event_45
    rw [stp_e, if_pos up2_e]
    exact ⟨_, _, _, _, rfl, rfl, e1, Or.inl ⟨rfl, up2_e⟩⟩
  obtain ⟨q, q1, q2, q3, q4⟩ := h.evt rfl
  have hcnt : fc_RE_count 16 C = some (nI (if 24 ≤ q then 24 else q), C) := by
    unfold fc_RE_count fc_RE_count_120
    rw [wi, bnd_s, show wth 16 0 16 = 1 from rfl, if_neg (show ¬ (1 : Int32) = 0 by decide), if_neg (show ¬ (16 : Int32) = 0 by decide), if_neg (show ¬ (16 : Int32) = 11 by decide), if_neg (show ¬ (16 : Int32) = 14 by decide), if_neg (show ¬ (16 : Int32) = 15 by decide), if_pos rfl, q2]
    by_cases h24 : 24 ≤ q
    · rw [if_pos (show (24 : Int32) ≤ nI q from nI_le (a := 24) h24 (by omega)), if_pos h24]
      rfl
    · rw [if_neg (show ¬ (24 : Int32) ≤ nI q from nI_ge (b := 24) (by omega) (by decide)), if_neg h24]
  have hme : fm_event x1 x2 M = fm_event_18 x1 x2 (nI (if 24 ≤ q then 24 else q)) M := by
    unfold fm_event
    rw [q3]
    by_cases h24 : 24 ≤ q
    · rw [if_pos (show (24 : Int32) ≤ nI q from nI_le (a := 24) h24 (by omega)), if_pos h24]
      rfl
    · rw [if_neg (show ¬ (24 : Int32) ≤ nI q from nI_ge (b := 24) (by omega) (by decide)), if_neg h24]
  have hn24 : (if 24 ≤ q then 24 else q) ≤ 24 ∧ (if 24 ≤ q then 24 else q) ≤ q := by split <;> omega
  generalize hn : (if 24 ≤ q then 24 else q) = n at *
  unfold OpX
  rw [hme]
  unfold fc_RE_event fm_event_18
  rw [hcnt, wim, bnd_s, bnd_s]
  by_cases hk : ∃ k : Nat, k < n ∧ x1 = nI k
  · obtain ⟨k, hk, rfl⟩ := hk
    have hw : wth (nI k) 0 (nI n - 1) = 1 := by
      rw [s_1 (show 1 ≤ n by omega)]
      unfold wth
      rw [if_neg (show ¬ nI k < 0 from nI_pos (by omega)), if_neg (show ¬ nI (n - 1) < nI k from nI_nlt (by omega) (by omega))]
    rw [hw, if_neg (show ¬ (1 : Int32) = 0 by decide), if_neg (show ¬ nI k < 0 from nI_pos (by omega)), if_neg (show ¬ nI n ≤ nI k from nI_ge hk (by omega)), wi, wim, bnd_s, bnd_s]
    rcases wth_or x2 (n := 3) (by decide) with z | ⟨z, j, hj, ej⟩
    · rw [show wth x2 0 3 = wth x2 0 (nI 3) from rfl, z, if_pos rfl, if_pos rfl]
      exact thr
    · rw [show wth x2 0 3 = wth x2 0 (nI 3) from rfl, z, if_neg (show ¬ (1 : Int32) = 0 by decide), if_neg (show ¬ (1 : Int32) = 0 by decide)]
      subst ej
      have i0 : (nI q - 1) - nI k = nI (q - 1 - k) := by rw [s_1 (by omega), nI_sub (by omega)]
      have hi24 : (q - 1 - k) % 24 < 24 := Nat.mod_lt _ (by decide)
      have hiq : (q - 1 - k) % 24 < q := Nat.lt_of_le_of_lt (Nat.mod_le _ _) (by omega)
      obtain ⟨⟨p, p1, p2, p3⟩, a1, a2, a3⟩ := q4 _ hi24 hiq
      unfold fm_event_45 fc_RE_event_99 fm_event_122
      simp only [stp_e]
      rw [if_neg n17]
      have u11 : up2 M 0 17 0 0 11 = M 0 11 := up2_x (by omega)
      simp only [u11, q2, q3, i0, mod24 (show q - 1 - k < 2 ^ 31 by omega), inb_nI hi24 (show 24 < 2 ^ 31 by decide), nI_clamp (show (q - 1 - k) % 24 < 2 ^ 31 by omega), gd_t]
      have hng : ¬ C (9 + 11) (8 * ((q - 1 - k) % 24)) < 0 := by rw [p2]; exact nI_pos (by omega)
      rw [decide_eq_true hng, gd_t]
      have hj4 : j = 0 ∨ j = 1 ∨ j = 2 ∨ j = 3 := by omega
      rcases hj4 with rfl | rfl | rfl | rfl
      · rw [if_pos (show nI 0 = 0 from rfl), if_pos (show nI 0 = 0 from rfl), up2_x (by omega), p2, p3, kind_n p p1]
        exact ⟨_, _, _, _, rfl, rfl, e0, Or.inr ⟨rfl, up2_e⟩⟩
      · rw [if_neg (show ¬ nI 1 = 0 by decide), if_neg (show ¬ nI 1 = 0 by decide), if_pos (show nI 1 = 1 from rfl), if_pos (show nI 1 = 1 from rfl), up2_x (by omega), a1]
        exact ⟨_, _, _, _, rfl, rfl, e0, Or.inr ⟨rfl, up2_e⟩⟩
      · rw [if_neg (show ¬ nI 2 = 0 by decide), if_neg (show ¬ nI 2 = 0 by decide), if_neg (show ¬ nI 2 = 1 by decide), if_neg (show ¬ nI 2 = 1 by decide), if_pos (show nI 2 = 2 from rfl), if_pos (show nI 2 = 2 from rfl), up2_x (by omega), a2]
        exact ⟨_, _, _, _, rfl, rfl, e0, Or.inr ⟨rfl, up2_e⟩⟩
      · rw [if_neg (show ¬ nI 3 = 0 by decide), if_neg (show ¬ nI 3 = 0 by decide), if_neg (show ¬ nI 3 = 1 by decide), if_neg (show ¬ nI 3 = 1 by decide), if_neg (show ¬ nI 3 = 2 by decide), if_neg (show ¬ nI 3 = 2 by decide), up2_x (by omega), a3]
        exact ⟨_, _, _, _, rfl, rfl, e0, Or.inr ⟨rfl, up2_e⟩⟩
  · have hw : wth x1 0 (nI n - 1) = 0 := by
      unfold wth
      by_cases h0 : x1 < 0
      · exact if_pos h0
      · rw [if_neg h0]
        by_cases hn0 : n = 0
        · have z1 : ¬ x1.toInt < (0 : Int32).toInt := fun z => h0 (i32_lt.mpr z)
          have z2 : (0 : Int32).toInt = 0 := by decide
          have z3 : (nI n - 1).toInt = -1 := by rw [hn0]; decide
          exact if_pos (i32_lt.mpr (by omega))
        · rw [s_1 (show 1 ≤ n by omega)]
          by_cases h1 : nI (n - 1) < x1
          · exact if_pos h1
          · obtain ⟨k, k1, k2⟩ := nat_of (n := n - 1) (by omega) h0 h1
            exact absurd ⟨k, by omega, k2⟩ hk
    rw [hw, if_pos rfl]
    by_cases h0 : x1 < 0
    · rw [if_pos h0]
      exact thr
    · rw [if_neg h0]
      by_cases h1 : nI n ≤ x1
      · rw [if_pos h1]
        exact thr
      · exfalso
        have h2 : ¬ nI n < x1 := fun y => h1 (i32_le.mpr (Int.le_of_lt (i32_lt.mp y)))
        obtain ⟨k, k1, k2⟩ := nat_of (n := n) (by omega) h0 h2
        refine hk ⟨k, ?_, k2⟩
        rcases Nat.lt_or_ge k n with y | y
        · exact y
        · exact absurd (show nI n ≤ x1 by rw [k2]; exact nI_le y (by omega)) h1
