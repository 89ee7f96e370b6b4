/-! THE OPERATIONS on the spare: splits, the join -/
theorem mspl_loop {T E k d : Nat} {L : List Int32} {C0 M0 C M : Mem} {nst : Nat → Nat} (h : Top 9 4 T E L C0 M0 C M) (hk : k < 21) (hd : d ≤ 21) (n0 : M 4 30 = nI d) (n3 : ∀ j, j < d → M 4 (152 + j) = nI (nst j) ∧ nst j < 21) : ∀ (r n : Nat) (x : Int32), r ≤ 8 → fm_splits_22 (n + r + 1) (nI k) x (nI r - 1) M = some (hoL (btM M k d nst) x r, M) := by
  obtain ⟨b1, b2⟩ := top_base h.1
  intro r
  induction r with
  | zero =>
    intro n x hr
    rw [mspl_s]
    unfold fm_splits_22b
    rw [if_pos (show nI 0 - 1 < 0 by decide)]
    rfl
  | succ r ih =>
    intro n x hr
    rw [show n + (r + 1) + 1 = (n + r + 1) + 1 by omega, mspl_s, s_1 (show 1 ≤ r + 1 by omega), Nat.add_sub_cancel]
    unfold fm_splits_22b fm_splits_59 fm_splits_70
    rw [if_neg (show ¬ nI r < 0 from nI_pos (by omega)), fm_grp hk, bnd_s]
    have el := fm_lim (x := nI r) (z := zV (M 4 16)) n0 hd n3 b1 (b2 r (by omega)) (isB_zV _)
    rw [limM_z] at el
    have fin : (bnd (fm_limitOf 4 (nI r) (zV (M 4 16)) M) fun r1 M1 => if r1 ≤ grpV (M 4 (173 + k)) (nI r) k then fm_splits_22 (n + r + 1) (nI k) (2 * x + 0) (nI r + (-1)) M1 else fm_splits_22 (n + r + 1) (nI k) (2 * x + 1) (nI r + (-1)) M1) = some (hoL (btM M k d nst) x (r + 1), M) := by
      rw [el, bnd_s, ← Int32.sub_eq_add_neg]
      show _ = some (hoL (btM M k d nst) (2 * x + (if btM M k d nst r then 1 else 0)) r, M)
      by_cases hz : limM M 4 nst d (nI r) (M 4 16) ≤ grpV (M 4 (173 + k)) (nI r) k
      · have hb : btM M k d nst r = false := by unfold btM; rw [decide_eq_true hz]; rfl
        rw [if_pos hz, hb, if_neg (show ¬ false = true by decide)]
        exact ih n _ (by omega)
      · have hb : btM M k d nst r = true := by unfold btM; rw [decide_eq_false hz]; rfl
        rw [if_neg hz, hb, if_pos rfl]
        exact ih n _ (by omega)
    unfold zV at fin
    by_cases z : M 4 16 = 1
    · rw [if_pos z] at fin
      rw [if_pos z]
      exact fin
    · rw [if_neg z] at fin
      rw [if_neg z]
      exact fin
theorem s_splits {T E : Nat} {C M : Mem} {x1 : Int32} (hi : Inv T E C M) : OpS (fc_RE_splits x1) (fm_splits x1) T E C M := by
  have h17 := hi.err 0
  obtain ⟨⟨L, h⟩, hb, hq⟩ := hi.err 0
  unfold OpS fc_RE_splits fm_splits
  rw [stp_e, wi, wim, bnd_s, bnd_s]
  generalize up2 M 0 17 0 = M at *
  rcases wth_or x1 (n := 20) (by decide) with z | ⟨z, k, hk, ek⟩
  · rw [show wth x1 0 20 = wth x1 0 (nI 20) from rfl, z, if_pos rfl, if_pos rfl]
    exact ⟨_, _, _, rfl, rfl, h17⟩
  rw [show wth x1 0 20 = wth x1 0 (nI 20) from rfl, z, if_neg (show ¬ (1 : Int32) = 0 by decide), if_neg (show ¬ (1 : Int32) = 0 by decide)]
  subst ek
  obtain ⟨d, nst, d1, d2, d3, d4, d5, -⟩ := top_nst h.1
  obtain ⟨⟨p, hp, p1, p2⟩, p3⟩ := h.ph
  obtain ⟨C1, t1, t2⟩ := takes_v hp (HB9_of h) p1
  obtain ⟨fS, f9, fo, f1, f2, f3, f4, f6, f7, f8, fs, f24, f50⟩ := t2
  have tk : TK p C (up2 (up2 (up2 (up2 C1 52 28 1) 52 25 0) 52 26 0) 52 53 0) := by
    refine ⟨fun j k a1 a2 a3 => ?_, fun j a1 a2 => ?_, fun o k a1 => ?_, fun k a1 => ?_, fun k a1 => ?_, fun k a1 => ?_, fun k a1 => ?_, fun k a1 => ?_, fun k a1 => ?_, fun k a1 => ?_, fun k a1 => ?_, ?_, ?_⟩
    · simp (disch := omega) only [up2_x, upr_x]; exact fS j k a1 a2 a3
    · simp (disch := omega) only [up2_x, upr_x]; exact f9 j a1 a2
    · simp (disch := omega) only [up2_x, upr_x]; exact fo o k a1
    · simp (disch := omega) only [up2_x, upr_x]; exact f1 k a1
    · simp (disch := omega) only [up2_x, upr_x]; exact f2 k a1
    · simp (disch := omega) only [up2_x, upr_x]; exact f3 k a1
    · simp (disch := omega) only [up2_x, upr_x]; exact f4 k a1
    · simp (disch := omega) only [up2_x, upr_x]; exact f6 k a1
    · simp (disch := omega) only [up2_x, upr_x]; exact f7 k a1
    · simp (disch := omega) only [up2_x, upr_x]; exact f8 k a1
    · simp (disch := omega) only [up2_x, upr_x]; exact fs k a1
    · simp (disch := omega) only [up2_x, upr_x]; exact f24
    · simp (disch := omega) only [up2_x, upr_x]; exact f50
  unfold fc_RE_tried
  rw [t1, bnd_s, plays_v isB_0, bnd_s, bnd_s]
  obtain ⟨C'', e1, e2⟩ := spl_loop h (show k < 21 by omega) d1 d2 d4 d5 tk 8 591 0 0 _ (by omega) (fun _ _ _ => rfl)
  have e3 := mspl_loop h (show k < 21 by omega) d1 d3 d5 8 591 0 (by omega)
  rw [← or_ho] at e3
  refine ⟨_, _, _, e1, e3, back h17 (fun o j z => ?_) (fun _ _ _ _ => rfl) ?_⟩
  · rw [e2 o j (by omega)]; exact tk.2.2.1 o j z
  · obtain ⟨q, q1, q2⟩ := hq
    refine ⟨q, q1, ?_⟩
    rw [e2 52 50 (by omega), tk.2.2.2.2.2.2.2.2.2.2.2.2]
    exact q2
