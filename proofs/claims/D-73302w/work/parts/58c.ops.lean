/-! THE OPERATIONS: nest, waited, count, ahead, escalates, source, state -/
theorem s_nest {T E : Nat} {C M : Mem} {x1 : Int32} (hi : Inv T E C M) : OpS (fc_RE_nest x1) (fm_nest x1) T E C M := by
  have h17 := hi.err 0
  obtain ⟨⟨L, h⟩, hb, hq⟩ := hi.err 0
  unfold OpS fc_RE_nest fm_nest fc_RE_nest_30 fm_nest_36
  rw [stp_e]
  generalize up2 M 0 17 0 = M at *
  obtain ⟨d, nst, a1, a2, a3, a4, -⟩ := h.nst
  rw [a2, a3, wi, wim, bnd_s, bnd_s]
  by_cases hd : d = 0
  · subst hd
    have z : wth x1 0 (nI 0 - 1) = 0 := by
      unfold wth
      by_cases hx : x1 < 0
      · rw [if_pos hx]
      · rw [if_neg hx, if_pos]
        have : (0 : Int32) ≤ x1 := Int32.not_lt.mp hx
        exact i32_lt.mpr (Int.lt_of_lt_of_le (show (nI 0 - 1).toInt < (0 : Int32).toInt by decide) (i32_le.mp this))
    rw [z, if_pos rfl, if_pos rfl]
    exact ⟨_, _, _, rfl, rfl, h17⟩
  · rw [s_1 (show 1 ≤ d by omega)]
    rcases wth_or x1 (n := d - 1) (by omega) with z | ⟨z, k, hk, ek⟩
    · rw [z, if_pos rfl, if_pos rfl]
      exact ⟨_, _, _, rfl, rfl, h17⟩
    · subst ek
      obtain ⟨b1, b2, -⟩ := a4 k (by omega)
      rw [z, if_neg (show ¬ (1 : Int32) = 0 by decide), if_neg (show ¬ (1 : Int32) = 0 by decide), l_152, inb_nI (show k < 21 by omega) (by decide), inb_nI (show 152 + k < 342 by omega) (by decide), gd_t, gd_t, nI_clamp (show k < 2 ^ 31 by omega), nI_clamp (show 152 + k < 2 ^ 31 by omega), b1, b2]
      exact ⟨_, _, _, rfl, rfl, h17⟩
theorem s_waited {T E : Nat} {C M : Mem} {x1 : Int32} (hi : Inv T E C M) : OpS (fc_RE_waited x1) (fm_waited x1) T E C M := by
  have h17 := hi.err 0
  obtain ⟨⟨L, h⟩, hb, hq⟩ := hi.err 0
  unfold OpS fc_RE_waited fm_waited
  rw [stp_e, wi, wim, bnd_s, bnd_s]
  generalize up2 M 0 17 0 = M at *
  rcases wth_or x1 (n := 20) (by decide) with z | ⟨z, k, hk, ek⟩
  · rw [show wth x1 0 20 = wth x1 0 (nI 20) from rfl, z, if_pos rfl, if_pos rfl]
    exact ⟨_, _, _, rfl, rfl, h17⟩
  rw [show wth x1 0 20 = wth x1 0 (nI 20) from rfl, z, if_neg (show ¬ (1 : Int32) = 0 by decide), if_neg (show ¬ (1 : Int32) = 0 by decide)]
  subst ek
  unfold fc_RE_waited_26 fm_waited_25
  rw [inb_nI (show k < 21 by omega) (by decide), gd_t, gd_t, nI_clamp (show k < 2 ^ 31 by omega), h.wai rfl k (by omega)]
  exact ⟨_, _, _, rfl, rfl, h17⟩
theorem s_count {T E : Nat} {C M : Mem} {x1 : Int32} (hi : Inv T E C M) : OpS (fc_RE_count x1) (fm_count x1) T E C M := by
  have h17 := hi.err 0
  obtain ⟨⟨L, h⟩, hb, hq⟩ := hi.err 0
  unfold OpS fc_RE_count fm_count
  rw [stp_e, wi, wim, bnd_s, bnd_s]
  generalize up2 M 0 17 0 = M at *
  rcases wth_or x1 (n := 16) (by decide) with z | ⟨z, k, hk, ek⟩
  · rw [show wth x1 0 16 = wth x1 0 (nI 16) from rfl, z, if_pos rfl, if_pos rfl]
    exact ⟨_, _, _, rfl, rfl, h17⟩
  rw [show wth x1 0 16 = wth x1 0 (nI 16) from rfl, z, if_neg (show ¬ (1 : Int32) = 0 by decide), if_neg (show ¬ (1 : Int32) = 0 by decide)]
  subst ek
  obtain ⟨q, q1, q2, q3⟩ := h.out
  obtain ⟨v, v1, v2, v3, -⟩ := h.evt rfl
  obtain ⟨d, nst, d1, d2, d3, -⟩ := h.nst
  obtain ⟨e, e1, e2, e3, -⟩ := h.due
  unfold fc_RE_count_120 fm_count_81
  have ne : ∀ b : Nat, b < 2 ^ 31 → ¬ k = b → ¬ nI k = nI b := fun b hb z w => z ((nI_eq (by omega) hb).mp w)
  by_cases k0 : k = 0
  · subst k0
    rw [if_pos (show nI 0 = 0 from rfl), if_pos (show nI 0 = 0 from rfl), h.clk.eq]
    exact ⟨_, _, _, rfl, rfl, h17⟩
  rw [if_neg (show ¬ nI k = 0 from ne 0 (by decide) k0), if_neg (show ¬ nI k = 0 from ne 0 (by decide) k0)]
  by_cases k11 : k = 11
  · subst k11
    rw [if_pos (show nI 11 = 11 from rfl), if_pos (show nI 11 = 11 from rfl), d2, d3]
    exact ⟨_, _, _, rfl, rfl, h17⟩
  rw [if_neg (show ¬ nI k = 11 from ne 11 (by decide) k11), if_neg (show ¬ nI k = 11 from ne 11 (by decide) k11)]
  by_cases k14 : k = 14
  · subst k14
    rw [if_pos (show nI 14 = 14 from rfl), if_pos (show nI 14 = 14 from rfl), e2, e3]
    exact ⟨_, _, _, rfl, rfl, h17⟩
  rw [if_neg (show ¬ nI k = 14 from ne 14 (by decide) k14), if_neg (show ¬ nI k = 14 from ne 14 (by decide) k14)]
  by_cases k15 : k = 15
  · subst k15
    rw [if_pos (show nI 15 = 15 from rfl), if_neg (show ¬ nI 15 = 16 by decide), inb_nI (show 15 < 17 by decide) (by decide), gd_t, nI_clamp (show 15 < 2 ^ 31 by decide), q2, (q3 rfl).1]
    exact ⟨_, _, _, rfl, rfl, h17⟩
  rw [if_neg (show ¬ nI k = 15 from ne 15 (by decide) k15)]
  by_cases k16 : k = 16
  · subst k16
    rw [if_pos (show nI 16 = 16 from rfl), if_pos (show nI 16 = 16 from rfl), v2, v3]
    by_cases h24 : 24 ≤ nI v
    · rw [if_pos h24, if_pos h24]
      exact ⟨_, _, _, rfl, rfl, h17⟩
    · rw [if_neg h24, if_neg h24]
      exact ⟨_, _, _, rfl, rfl, h17⟩
  rw [if_neg (show ¬ nI k = 16 from ne 16 (by decide) k16), if_neg (show ¬ nI k = 16 from ne 16 (by decide) k16), inb_nI (show k < 14 by omega) (by decide), inb_nI (show k < 17 by omega) (by decide), gd_t, gd_t, nI_clamp (show k < 2 ^ 31 by omega), h.cnt rfl k (by omega) k0 k11]
  exact ⟨_, _, _, rfl, rfl, h17⟩
theorem s_ahead {T E : Nat} {C M : Mem} {x1 x2 : Int32} (hi : Inv T E C M) : OpS (fc_RE_ahead x1 x2) (fm_ahead x1 x2) T E C M := by
  have h17 := hi.err 0
  obtain ⟨⟨L, h⟩, hb, hq⟩ := hi.err 0
  unfold OpS fc_RE_ahead fm_ahead
  rw [stp_e, wi, wim, bnd_s, bnd_s]
  generalize up2 M 0 17 0 = M at *
  rcases wth_or x1 (n := 20) (by decide) with z | ⟨z, k, hk, ek⟩
  · rw [show wth x1 0 20 = wth x1 0 (nI 20) from rfl, z, if_pos rfl, if_pos rfl]
    exact ⟨_, _, _, rfl, rfl, h17⟩
  rw [show wth x1 0 20 = wth x1 0 (nI 20) from rfl, z, if_neg (show ¬ (1 : Int32) = 0 by decide), if_neg (show ¬ (1 : Int32) = 0 by decide)]
  subst ek
  rw [wi, wim, bnd_s, bnd_s]
  rcases wth_or x2 (n := 20) (by decide) with z | ⟨z, k2, hk2, ek⟩
  · rw [show wth x2 0 20 = wth x2 0 (nI 20) from rfl, z, if_pos rfl, if_pos rfl]
    exact ⟨_, _, _, rfl, rfl, h17⟩
  rw [show wth x2 0 20 = wth x2 0 (nI 20) from rfl, z, if_neg (show ¬ (1 : Int32) = 0 by decide), if_neg (show ¬ (1 : Int32) = 0 by decide)]
  subst ek
  unfold fc_RE_ahead_62 fm_ahead_47 fc_RE_ahead_63 fm_ahead_48
  by_cases he : nI k = nI k2
  · rw [if_pos he, if_pos he]
    exact ⟨_, _, _, rfl, rfl, h17⟩
  · obtain ⟨x, hx, y1, y2, y3⟩ := top_split h.1
    rw [if_neg he, if_neg he, inb_nI (show k < 21 by omega) (by decide), inb_nI (show k2 < 21 by omega) (by decide), gd_t, gd_t, nI_clamp (show k < 2 ^ 31 by omega), nI_clamp (show k2 < 2 ^ 31 by omega), fc_les (Or.inl rfl) (by omega) (by omega), fm_les (by omega) (by omega), bnd_s, bnd_s]
    have hl := les_eq h.1 (show k < 21 by omega) (show k2 < 21 by omega) (C 9 27)
    unfold lesC at hl
    rw [hl, y3, y2]
    split
    · exact ⟨_, _, _, rfl, rfl, h17⟩
    · exact ⟨_, _, _, rfl, rfl, h17⟩
theorem s_escalates {T E : Nat} {C M : Mem} {x1 : Int32} (hi : Inv T E C M) (hT : T < 2 ^ 30) : OpS (fc_RE_escalates x1) (fm_escalates x1) T E C M := by
  have h17 := hi.err 0
  obtain ⟨⟨L, h⟩, hb, hq⟩ := hi.err 0
  unfold OpS fc_RE_escalates fm_escalates fc_RE_escalates_39 fm_escalates_19 fm_escalates_43 fm_escalates_54
  rw [stp_e, wi, bnd_s]
  generalize up2 M 0 17 0 = M at *
  have go : ∀ k : Nat, k < 20 → ∃ r C' M', (if C 9 41 = 5 then some (-2, C) else bnd (fc_Core_becoming 9 (nI k) C) fun r4 C4 => some (r4, C4)) = some (r, C') ∧ (if M 4 20 = 5 then if (0 : Int32) ≤ -1 then some ((-1 : Int32), M) else some (-2, M) else bnd (fm_targetOf 4 (nI k) M) fun r2 M2 => if 0 ≤ r2 then some (r2, M2) else some (-2, M2)) = some (r, M') ∧ Inv T E C' M' := by
    intro k hk
    rw [← h.ph.1.eq]
    by_cases h5 : C 9 41 = 5
    · rw [if_pos h5, if_pos h5, if_neg (by decide)]
      exact ⟨_, _, _, rfl, rfl, h17⟩
    · obtain ⟨b, a, t1, t2⟩ := top_target (Or.inl ⟨rfl, rfl⟩) hT h.1 h5 hk
      rw [if_neg h5, if_neg h5, t1, t2, bnd_s, bnd_s]
      have pos : (0 : Int32) ≤ nI k := Int32.not_lt.mp (nI_pos (by omega))
      cases b <;> cases a
      · exact ⟨_, _, _, rfl, if_pos (show (0 : Int32) ≤ 20 by decide), h17⟩
      · exact ⟨_, _, _, rfl, if_neg (show ¬ (0 : Int32) ≤ -1 by decide), h17⟩
      · exact ⟨_, _, _, rfl, if_pos pos, h17⟩
      · exact ⟨_, _, _, rfl, if_pos pos, h17⟩
  by_cases h18 : x1 = 18
  · rw [h18, show wth 18 18 19 = 1 from rfl, if_neg (show ¬ (1 : Int32) = 0 by decide), if_pos rfl]
    exact go 18 (by decide)
  by_cases h19 : x1 = 19
  · rw [h19, show wth 19 18 19 = 1 from rfl, if_neg (show ¬ (1 : Int32) = 0 by decide), if_neg (show ¬ (19 : Int32) = 18 by decide), if_pos rfl]
    exact go 19 (by decide)
  have z : wth x1 18 19 = 0 := by
    unfold wth
    by_cases ha : x1 < 18
    · rw [if_pos ha]
    · rw [if_neg ha]
      by_cases hb : 19 < x1
      · rw [if_pos hb]
      · exfalso
        have a1 : (18 : Int) ≤ x1.toInt := Int.not_lt.mp (fun w => ha (i32_lt.mpr w))
        have a2 : x1.toInt ≤ (19 : Int) := Int.not_lt.mp (fun w => hb (i32_lt.mpr w))
        have a3 : ¬ x1.toInt = 18 := fun w => h18 (i32_eq.mpr w)
        have a4 : ¬ x1.toInt = 19 := fun w => h19 (i32_eq.mpr w)
        omega
  rw [z, if_pos rfl, if_neg h18, if_neg h19]
  exact ⟨_, _, _, rfl, rfl, h17⟩
theorem s_source {T E : Nat} {C M : Mem} {x1 x2 : Int32} (hi : Inv T E C M) (hT : T < 2 ^ 30) : OpS (fc_RE_source x1 x2) (fm_source x1 x2) T E C M := by
  have h17 := hi.err 0
  obtain ⟨⟨L, h⟩, hb, hq⟩ := hi.err 0
  unfold OpS fc_RE_source fm_source
  rw [stp_e, wi, wim, bnd_s, bnd_s]
  generalize up2 M 0 17 0 = M at *
  rcases wth_or x1 (n := 20) (by decide) with z | ⟨z, k, hk, ek⟩
  · rw [show wth x1 0 20 = wth x1 0 (nI 20) from rfl, z, if_pos rfl, if_pos rfl]
    exact ⟨_, _, _, rfl, rfl, h17⟩
  rw [show wth x1 0 20 = wth x1 0 (nI 20) from rfl, z, if_neg (show ¬ (1 : Int32) = 0 by decide), if_neg (show ¬ (1 : Int32) = 0 by decide)]
  subst ek
  have hk21 : k < 21 := by omega
  obtain ⟨x, hx, y1, y2, y3⟩ := top_split h.1
  unfold fc_RE_source_94 fc_RE_source_107 fc_RE_source_120 fc_RE_source_133 fm_source_84 fm_source_106 fm_source_125
  rw [l_173, l_194, l_300, l_215, inb_nI hk21 (by decide), inb_nI (show 173 + k < 342 by omega) (by decide), inb_nI (show 194 + k < 342 by omega) (by decide), inb_nI (show 300 + k < 342 by omega) (by decide), inb_nI (show 215 + k < 342 by omega) (by decide), nI_clamp (show k < 2 ^ 31 by omega), nI_clamp (show 173 + k < 2 ^ 31 by omega), nI_clamp (show 194 + k < 2 ^ 31 by omega), nI_clamp (show 300 + k < 2 ^ 31 by omega), nI_clamp (show 215 + k < 2 ^ 31 by omega)]
  simp only [gd_t]
  by_cases x0 : x2 = 0
  · rw [if_pos x0, if_pos x0]
    unfold fv_told fc_Hard_told fc_Src_told
    rw [cS_k (Or.inl rfl) hk21]
    by_cases k20 : k = 20
    · rw [if_pos k20, if_pos ((nI_20 (by omega)).mpr k20), bnd_s]
      exact ⟨_, _, _, rfl, rfl, h17⟩
    · rw [if_neg k20, if_neg (fun w => k20 ((nI_20 (by omega)).mp w)), bnd_s, (h.rnk k hk21 (by omega)).eq]
      exact ⟨_, _, _, rfl, rfl, h17⟩
  rw [if_neg x0, if_neg x0]
  by_cases xx : x2 = 1
  · rw [if_pos xx, if_pos xx, (h.vec k hk21).eq]
    exact ⟨_, _, _, rfl, rfl, h17⟩
  rw [if_neg xx, if_neg xx]
  by_cases xx : x2 = 2
  · rw [if_pos xx, if_pos xx, (h.ena k hk21).1]
    split <;> exact ⟨_, _, _, rfl, rfl, h17⟩
  rw [if_neg xx, if_neg xx]
  by_cases xx : x2 = 3
  · rw [if_pos xx, if_pos xx]
    rcases h.pnd k hk21 with ⟨p1, p2⟩ | ⟨p1, w, hw, p2, p3⟩
    · rw [p1, p2, if_pos rfl, if_pos (by decide)]
      exact ⟨_, _, _, rfl, rfl, h17⟩
    · rw [p1, p3, if_neg (show ¬ (1 : Int32) = 0 by decide), if_neg (nI_pos (show w < 2 ^ 31 by omega))]
      exact ⟨_, _, _, rfl, rfl, h17⟩
  rw [if_neg xx, if_neg xx]
  by_cases xx : x2 = 4
  · rw [if_pos xx, if_pos xx]
    obtain ⟨c1, c2, -⟩ := h.act k hk21
    rcases isB_or c2 with w | w
    · rw [w, ← c1, w, if_pos rfl]
      exact ⟨_, _, _, rfl, rfl, h17⟩
    · rw [w, ← c1, w, if_neg (show ¬ (1 : Int32) = 0 by decide)]
      exact ⟨_, _, _, rfl, rfl, h17⟩
  rw [if_neg xx, if_neg xx]
  by_cases xx : x2 = 5
  · rw [if_pos xx, if_pos xx]
    unfold fv_isHeld fc_Lev_isHeld fc_Src_isHeld
    rw [cS_k (Or.inl rfl) hk21]
    by_cases hl : 8 ≤ k ∧ k < 16
    · obtain ⟨d1, d2⟩ := (h.hld k hk21).1 hl
      rw [if_pos hl, d2, gd_t, bnd_s]
      rcases isB_or d2 with w | w
      · rw [w, ← d1, w, if_pos rfl]
        exact ⟨_, _, _, rfl, rfl, h17⟩
      · rw [w, ← d1, w, if_neg (show ¬ (1 : Int32) = 0 by decide)]
        exact ⟨_, _, _, rfl, rfl, h17⟩
    · rw [if_neg hl, bnd_s, if_pos rfl, (h.hld k hk21).2 hl]
      exact ⟨_, _, _, rfl, rfl, h17⟩
  rw [if_neg xx, if_neg xx]
  by_cases xx : x2 = 6
  · rw [if_pos xx, if_pos xx, fc_grp (Or.inl rfl) hk21, fm_grp hk21, bnd_s, bnd_s, grp_eq h.1 hk21, y1, y2]
    exact ⟨_, _, _, rfl, rfl, h17⟩
  rw [if_neg xx, if_neg xx]
  by_cases xx : x2 = 7
  · rw [if_pos xx, if_pos xx, fc_sub (Or.inl rfl) hk21, fm_sub hk21, bnd_s, bnd_s, sub_eq h.1 hk21, y1, y2]
    exact ⟨_, _, _, rfl, rfl, h17⟩
  rw [if_neg xx, if_neg xx]
  exact ⟨_, _, _, rfl, rfl, h17⟩
theorem lim_both {c s T E : Nat} {L : List Int32} {C0 M0 C M : Mem} (hcs : cs c s) (h : Mch c s T E L C0 M0 C M) : ∃ l : Int32, fc_Core_limit c C = some (l, C) ∧ fm_limitOf s (M 0 3) (zV (M s 16)) M = some (l, M) := by
  obtain ⟨d, nst, d1, d2, d3, d4, d5, -⟩ := top_nst h
  obtain ⟨b1, b2⟩ := top_base h
  obtain ⟨x, hx, y1, y2, y3⟩ := top_split h
  refine ⟨limM M s nst d (C c 34) (M s 16), top_lim hcs h d1 d2 d4 d5, ?_⟩
  rw [fm_lim d3 d1 d5 b1 (by rw [y2]; exact b2 x (by omega)) (isB_zV _), limM_z, y1, y2]
theorem s_state {T E : Nat} {C M : Mem} {x1 : Int32} (hi : Inv T E C M) (hT : T < 2 ^ 30) : OpS (fc_RE_state x1) (fm_state x1) T E C M := by
  have h17 := hi.err 0
  obtain ⟨⟨L, h⟩, hb, hq⟩ := hi.err 0
  unfold OpS fc_RE_state fm_state fc_RE_state_119 fm_state_204
  rw [stp_e]
  generalize up2 M 0 17 0 = M at *
  by_cases xx : x1 = 0
  · rw [if_pos xx, if_pos xx, h.ph.1.eq]
    exact ⟨_, _, _, rfl, rfl, h17⟩
  rw [if_neg xx, if_neg xx]
  by_cases xx : x1 = 1
  · rw [if_pos xx, if_pos xx, show C 9 42 = M 4 21 from h.stp]
    exact ⟨_, _, _, rfl, rfl, h17⟩
  rw [if_neg xx, if_neg xx]
  by_cases xx : x1 = 2
  · rw [if_pos xx, if_pos xx, h.stl.1.eq]
    exact ⟨_, _, _, rfl, rfl, h17⟩
  rw [if_neg xx, if_neg xx]
  by_cases xx : x1 = 3
  · rw [if_pos xx, if_pos xx]
    obtain ⟨as1, as2⟩ := h.asl
    rcases isB_or as2 with z | z
    · rw [← as1, z, if_pos rfl]
      exact ⟨_, _, _, rfl, rfl, h17⟩
    · rw [← as1, z, if_neg (show ¬ (1 : Int32) = 0 by decide)]
      exact ⟨_, _, _, rfl, rfl, h17⟩
  rw [if_neg xx, if_neg xx]
  by_cases xx : x1 = 4
  · rw [if_pos xx, if_pos xx, h.pc.eq]
    exact ⟨_, _, _, rfl, rfl, h17⟩
  rw [if_neg xx, if_neg xx]
  by_cases xx : x1 = 5
  · rw [if_pos xx, if_pos xx, h.sp.eq]
    exact ⟨_, _, _, rfl, rfl, h17⟩
  rw [if_neg xx, if_neg xx]
  by_cases xx : x1 = 6
  · rw [if_pos xx, if_pos xx, h.zn.1]
    exact ⟨_, _, _, rfl, rfl, h17⟩
  rw [if_neg xx, if_neg xx]
  by_cases xx : x1 = 7
  · rw [if_pos xx, if_pos xx, h.zn.2]
    exact ⟨_, _, _, rfl, rfl, h17⟩
  rw [if_neg xx, if_neg xx]
  by_cases xx : x1 = 8
  · rw [if_pos xx, if_pos xx, show C 9 36 = M 4 16 from h.shu]
    exact ⟨_, _, _, rfl, rfl, h17⟩
  rw [if_neg xx, if_neg xx]
  by_cases xx : x1 = 9
  · rw [if_pos xx, if_pos xx, h.bas.eq]
    exact ⟨_, _, _, rfl, rfl, h17⟩
  rw [if_neg xx, if_neg xx]
  by_cases xx : x1 = 10
  · rw [if_pos xx, if_pos xx, show C 9 45 = M 4 18 from h.fls]
    exact ⟨_, _, _, rfl, rfl, h17⟩
  rw [if_neg xx, if_neg xx]
  by_cases xx : x1 = 11
  · rw [if_pos xx, if_pos xx]
    rcases h.laz with ⟨z1, z2⟩ | ⟨l, hl, z1, z2⟩
    · rw [z1, z2]
      exact ⟨_, _, _, rfl, rfl, h17⟩
    · rw [z1, z2]
      exact ⟨_, _, _, rfl, rfl, h17⟩
  rw [if_neg xx, if_neg xx]
  by_cases xx : x1 = 12
  · rw [if_pos xx, if_pos xx]
    obtain ⟨l, l1, l2⟩ := lim_both (Or.inl ⟨rfl, rfl⟩) h.1
    rw [l1, bnd_s]
    unfold zV at l2
    by_cases z : M 4 16 = 1
    · rw [if_pos z] at l2
      rw [if_pos z, l2, bnd_s]
      exact ⟨_, _, _, rfl, rfl, h17⟩
    · rw [if_neg z] at l2
      rw [if_neg z, l2, bnd_s]
      exact ⟨_, _, _, rfl, rfl, h17⟩
  rw [if_neg xx, if_neg xx]
  by_cases xx : x1 = 13
  · rw [if_pos xx, if_pos xx]
    obtain ⟨o, n1, n2, -⟩ := top_next (Or.inl ⟨rfl, rfl⟩) hT h.1
    rw [n1, n2, bnd_s, bnd_s]
    exact ⟨_, _, _, rfl, rfl, h17⟩
  rw [if_neg xx, if_neg xx]
  by_cases xx : x1 = 14
  · rw [if_pos xx, if_pos xx, h.spl.1.eq]
    exact ⟨_, _, _, rfl, rfl, h17⟩
  rw [if_neg xx, if_neg xx]
  by_cases xx : x1 = 15
  · rw [if_pos xx, if_pos xx, show C 9 39 = M 4 27 from h.tim]
    exact ⟨_, _, _, rfl, rfl, h17⟩
  rw [if_neg xx, if_neg xx]
  exact ⟨_, _, _, rfl, rfl, h17⟩
