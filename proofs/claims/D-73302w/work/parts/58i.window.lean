/-! THE OPERATIONS on the spare: window -/
set_option maxHeartbeats 4000000 in
theorem t_bgn {c s T E : Nat} {L : List Int32} {C0 M0 C M : Mem} {v : Int32} (hcs : cs c s) (h : Top c s T E L C0 M0 C M) : Top c s T E L C0 M0 (up2 C c 52 v) (up2 M 0 16 v) := by
  refine ⟨⟨?_, ?_, ?_, ?_, ?_, ?_, ?_, ?_, ?_, ?_, ?_, ?_, ?_, ?_, ?_, ?_, ?_, ?_, ?_, ?_, ?_, ?_, ?_, ?_, ?_, ?_, ?_, ?_, ?_, ?_, ?_, ?_, ?_⟩, ⟨?_, ?_, ?_, ?_, ?_⟩⟩
  · exact rReg_fr h.reg (by intros; first | rfl | (simp (disch := omega) only [up2_x, upr_x])) (by intros; first | rfl | (simp (disch := omega) only [up2_x, upr_x]))
  · exact rDat_fr h.dat (by intros; first | rfl | (simp (disch := omega) only [up2_x, upr_x])) (by intros; first | rfl | (simp (disch := omega) only [up2_x, upr_x]))
  · exact rStk_fr h.stk (by intros; first | rfl | (simp (disch := omega) only [up2_x, upr_x])) (by intros; first | rfl | (simp (disch := omega) only [up2_x, upr_x]))
  · exact rFlt_fr h.flt (by intros; first | rfl | (simp (disch := omega) only [up2_x, upr_x])) (by intros; first | rfl | (simp (disch := omega) only [up2_x, upr_x]))
  · exact rZn_fr h.zn (by intros; first | rfl | (simp (disch := omega) only [up2_x, upr_x])) (by intros; first | rfl | (simp (disch := omega) only [up2_x, upr_x]))
  · exact rPc_fr h.pc (by intros; first | rfl | (simp (disch := omega) only [up2_x, upr_x])) (by intros; first | rfl | (simp (disch := omega) only [up2_x, upr_x]))
  · exact rSp_fr h.sp (by intros; first | rfl | (simp (disch := omega) only [up2_x, upr_x])) (by intros; first | rfl | (simp (disch := omega) only [up2_x, upr_x]))
  · exact rShu_fr h.shu (by intros; first | rfl | (simp (disch := omega) only [up2_x, upr_x])) (by intros; first | rfl | (simp (disch := omega) only [up2_x, upr_x]))
  · exact rBas_fr h.bas (by intros; first | rfl | (simp (disch := omega) only [up2_x, upr_x])) (by intros; first | rfl | (simp (disch := omega) only [up2_x, upr_x]))
  · exact rFls_fr h.fls (by intros; first | rfl | (simp (disch := omega) only [up2_x, upr_x])) (by intros; first | rfl | (simp (disch := omega) only [up2_x, upr_x]))
  · exact rLaz_fr h.laz (by intros; first | rfl | (simp (disch := omega) only [up2_x, upr_x])) (by intros; first | rfl | (simp (disch := omega) only [up2_x, upr_x]))
  · exact rPh_fr h.ph (by intros; first | rfl | (simp (disch := omega) only [up2_x, upr_x])) (by intros; first | rfl | (simp (disch := omega) only [up2_x, upr_x]))
  · exact rStp_fr h.stp (by intros; first | rfl | (simp (disch := omega) only [up2_x, upr_x])) (by intros; first | rfl | (simp (disch := omega) only [up2_x, upr_x]))
  · exact rStl_fr h.stl (by intros; first | rfl | (simp (disch := omega) only [up2_x, upr_x])) (by intros; first | rfl | (simp (disch := omega) only [up2_x, upr_x]))
  · exact rAsl_fr h.asl (by intros; first | rfl | (simp (disch := omega) only [up2_x, upr_x])) (by intros; first | rfl | (simp (disch := omega) only [up2_x, upr_x]))
  · exact rClk_fr h.clk (by intros; first | rfl | (simp (disch := omega) only [up2_x, upr_x])) (by intros; first | rfl | (simp (disch := omega) only [up2_x, upr_x]))
  · exact rPer_fr h.per (by intros; first | rfl | (simp (disch := omega) only [up2_x, upr_x])) (by intros; first | rfl | (simp (disch := omega) only [up2_x, upr_x]))
  · exact rTim_fr h.tim (by intros; first | rfl | (simp (disch := omega) only [up2_x, upr_x])) (by intros; first | rfl | (simp (disch := omega) only [up2_x, upr_x]))
  · exact rNst_fr h.nst (by intros; first | rfl | (simp (disch := omega) only [up2_x, upr_x])) (by intros; first | rfl | (simp (disch := omega) only [up2_x, upr_x])) (by intros; first | rfl | (simp (disch := omega) only [up2_x, upr_x])) (by intros; first | rfl | (simp (disch := omega) only [up2_x, upr_x])) (by intros; first | rfl | (simp (disch := omega) only [up2_x, upr_x])) (by intros; first | rfl | (simp (disch := omega) only [up2_x, upr_x]))
  · exact rDue_fr h.due (by intros; first | rfl | (simp (disch := omega) only [up2_x, upr_x])) (by intros; first | rfl | (simp (disch := omega) only [up2_x, upr_x])) (by intros; first | rfl | (simp (disch := omega) only [up2_x, upr_x])) (by intros; first | rfl | (simp (disch := omega) only [up2_x, upr_x])) (by intros; first | rfl | (simp (disch := omega) only [up2_x, upr_x]))
  · exact rRnk_fr h.rnk (by intros; first | rfl | (simp (disch := omega) only [up2_x, upr_x])) (by intros; first | rfl | (simp (disch := omega) only [up2_x, upr_x]))
  · exact rVec_fr h.vec (by intros; first | rfl | (simp (disch := omega) only [up2_x, upr_x])) (by intros; first | rfl | (simp (disch := omega) only [up2_x, upr_x]))
  · exact rEna_fr h.ena (by intros; first | rfl | (simp (disch := omega) only [up2_x, upr_x])) (by intros; first | rfl | (simp (disch := omega) only [up2_x, upr_x]))
  · exact rPnd_fr h.pnd (by intros; first | rfl | (simp (disch := omega) only [up2_x, upr_x])) (by intros; first | rfl | (simp (disch := omega) only [up2_x, upr_x]))
  · exact rAct_fr h.act (by intros; first | rfl | (simp (disch := omega) only [up2_x, upr_x])) (by intros; first | rfl | (simp (disch := omega) only [up2_x, upr_x])) (by intros; first | rfl | (simp (disch := omega) only [up2_x, upr_x]))
  · exact rHld_fr h.hld (by intros; first | rfl | (simp (disch := omega) only [up2_x, upr_x])) (by intros; first | rfl | (simp (disch := omega) only [up2_x, upr_x]))
  · exact rSpl_fr h.spl (by intros; first | rfl | (simp (disch := omega) only [up2_x, upr_x])) (by intros; first | rfl | (simp (disch := omega) only [up2_x, upr_x]))
  · exact rSta_fr h.sta (by intros; first | rfl | (simp (disch := omega) only [up2_x, upr_x])) (by intros; first | rfl | (simp (disch := omega) only [up2_x, upr_x]))
  · exact rSav_fr h.sav (by intros; first | rfl | (simp (disch := omega) only [up2_x, upr_x])) (by intros; first | rfl | (simp (disch := omega) only [up2_x, upr_x]))
  · exact rUns_fr h.uns (by intros; first | rfl | (simp (disch := omega) only [up2_x, upr_x])) (by intros; first | rfl | (simp (disch := omega) only [up2_x, upr_x])) (by intros; first | rfl | (simp (disch := omega) only [up2_x, upr_x]))
  · exact rCod_fr h.cod (by intros; first | rfl | (simp (disch := omega) only [up2_x, upr_x])) (by intros; first | rfl | (simp (disch := omega) only [up2_x, upr_x]))
  · exact rObs_fr (C := C) (M := M) h.obs (by intros; first | rfl | (simp (disch := omega) only [up2_x, upr_x])) (by intros; first | rfl | (simp (disch := omega) only [up2_x, upr_x]))
  · exact rMdc_fr (C := C) (M := M) h.mdc (by intros; first | rfl | (simp (disch := omega) only [up2_x, upr_x]))
  · exact rCnt_fr h.cnt (by intros; first | rfl | (simp (disch := omega) only [up2_x, upr_x])) (by intros; first | rfl | (simp (disch := omega) only [up2_x, upr_x]))
  · exact rOut_fr h.out (by intros; first | rfl | (simp (disch := omega) only [up2_x, upr_x])) (by intros; first | rfl | (simp (disch := omega) only [up2_x, upr_x])) (by intros; first | rfl | (simp (disch := omega) only [up2_x, upr_x])) (by intros; first | rfl | (simp (disch := omega) only [up2_x, upr_x]))
  · exact rEvt_fr h.evt (by intros; first | rfl | (simp (disch := omega) only [up2_x, upr_x])) (by intros; first | rfl | (simp (disch := omega) only [up2_x, upr_x])) (by intros; first | rfl | (simp (disch := omega) only [up2_x, upr_x])) (by intros; first | rfl | (simp (disch := omega) only [up2_x, upr_x]))
  · exact rWai_fr h.wai (by intros; first | rfl | (simp (disch := omega) only [up2_x, upr_x])) (by intros; first | rfl | (simp (disch := omega) only [up2_x, upr_x]))
  · exact rFrm_fr h.frm (by intros; first | rfl | (simp (disch := omega) only [up2_x, upr_x])) (by intros; first | rfl | (simp (disch := omega) only [up2_x, upr_x]))
theorem w65_s {K : Int32 → Int32 → Int32 → Mem → Option (Int32 × Mem)} {n : Nat} {a b d e : Int32} {C : Mem} : fc_RE_window_65 K (n + 1) a b d e C = fc_RE_window_65b K (fc_RE_window_65 K n) a b d e C := rfl
theorem w72_s {K : Int32 → Int32 → Int32 → Mem → Option (Int32 × Mem)} {n : Nat} {a b d e : Int32} {C : Mem} : fm_window_72 K (n + 1) a b d e C = fm_window_72b K (fm_window_72 K n) a b d e C := rfl
theorem w32_s {K : Int32 → Int32 → Int32 → Mem → Option (Int32 × Mem)} {n : Nat} {a b d e : Int32} {C : Mem} : fc_RE_window_32 K (n + 1) a b d e C = fc_RE_window_32b K (fc_RE_window_32 K n) a b d e C := rfl
theorem w35_s {K : Int32 → Int32 → Int32 → Mem → Option (Int32 × Mem)} {n : Nat} {a b d e : Int32} {C : Mem} : fm_window_35 K (n + 1) a b d e C = fm_window_35b K (fm_window_35 K n) a b d e C := rfl
theorem w16_s {n : Nat} {a b d : Int32} {C : Mem} : fc_RE_window_16 (n + 1) a b d C = fc_RE_window_16b (fc_RE_window_16 n) a b d C := rfl
theorem w21_s {n : Nat} {a b d : Int32} {C : Mem} : fm_window_21 (n + 1) a b d C = fm_window_21b (fm_window_21 n) a b d C := rfl
theorem win_c {K K' : Int32 → Int32 → Int32 → Mem → Option (Int32 × Mem)} {x1 x2 x3 : Int32} {C2 M2 : Mem} : ∀ (d n m i T E : Nat) (L : List Int32) (C M : Mem), i + d = 40 → SpS T E L C2 M2 C M → C 52 52 = M 0 16 → T + d < 2 ^ 29 → E + 3 * d < 2 ^ 28 → ∃ C' M', fc_RE_window_65 K (n + d + 1) x1 x2 x3 (nI i) C = fc_RE_window_91 K x1 x2 x3 C' ∧ fm_window_72 K' (m + d + 1) x1 x2 x3 (nI i) M = fm_window_100 K' x1 x2 x3 M' ∧ FR (T + d) C2 M2 C' M' ∧ C' 52 52 = M' 0 16 := by
  intro d
  induction d with
  | zero =>
    intro n m i T E L C M hd h he hT hE
    rw [w65_s, w72_s]
    unfold fc_RE_window_65b fm_window_72b
    have ei : i = 40 := by omega
    subst ei
    rw [if_pos (show (40 : Int32) ≤ nI 40 by decide), if_pos (show (40 : Int32) ≤ nI 40 by decide)]
    exact ⟨C, M, rfl, rfl, h.fr, he⟩
  | succ d ih =>
    intro n m i T E L C M hd h he hT hE
    rw [show n + (d + 1) + 1 = (n + d + 1) + 1 by omega, show m + (d + 1) + 1 = (m + d + 1) + 1 by omega, w65_s, w72_s]
    unfold fc_RE_window_65b fm_window_72b
    rw [if_neg (show ¬ (40 : Int32) ≤ nI i from nI_ge (b := 40) (by omega) (by decide)), if_neg (show ¬ (40 : Int32) ≤ nI i from nI_ge (b := 40) (by omega) (by decide)), ← he]
    by_cases h0 : 0 ≤ C 52 52
    · rw [if_pos h0, if_pos h0]
      exact ⟨C, M, rfl, rfl, h.fr.mono (by omega), he⟩
    · obtain ⟨C', M', L', a1, a2, a3, a4, -, -⟩ := sp_step h (by omega) (by omega)
      rw [if_neg h0, if_neg h0, a1, a2, bnd_s, bnd_s, nI_1]
      obtain ⟨C3, M3, b1, b2, b3, b4⟩ := ih n m (i + 1) (T + 1) (E + 3) L' C' M' (by omega) a3 a4 (by omega) (by omega)
      exact ⟨C3, M3, b1, b2, b3.mono (by omega), b4⟩
theorem win_b {K K' : Int32 → Int32 → Int32 → Mem → Option (Int32 × Mem)} {k j : Nat} {x2 : Int32} (hk : k < 21) (hj : j < 20) {C2 M2 : Mem} : ∀ (d n m i T E : Nat) (L : List Int32) (C M : Mem), i + d = j → SpS T E L C2 M2 C M → T + d + 40 < 2 ^ 29 → E + 3 * (d + 40) < 2 ^ 28 → ∃ C' M', fc_RE_window_32 K (n + d + 1) (nI k) x2 (nI j) (nI i) C = fc_RE_window_91 K (nI k) x2 (nI j) C' ∧ fm_window_35 K' (m + d + 1) (nI k) x2 (nI j) (nI i) M = fm_window_100 K' (nI k) x2 (nI j) M' ∧ FR (T + d + 40) C2 M2 C' M' ∧ C' 52 52 = M' 0 16 := by
  intro d
  induction d with
  | zero =>
    intro n m i T E L C M hd h hT hE
    rw [w32_s, w35_s]
    unfold fc_RE_window_32b fm_window_35b
    have ei : i = j := by omega
    subst ei
    obtain ⟨h1, h2, h3, h4⟩ := h
    obtain ⟨r, C1, M1, a1, a2, a3, a4, a5, a6, a7⟩ := sim_becomes (k := k) (Or.inr ⟨rfl, rfl⟩) (by omega) h1 h3 hk
    rw [if_pos (show nI i ≤ nI i from i32_le.mpr (Int.le_refl _)), if_pos (show nI i ≤ nI i from i32_le.mpr (Int.le_refl _)), a1, a2, bnd_s, bnd_s, stp_e, stp_e]
    have t1 := t_bgn (v := -1) (Or.inr ⟨rfl, rfl⟩) a3
    have sp : SpS T E L C2 M2 (up2 C1 52 52 (-1)) (up2 M1 0 16 (-1)) := by
      refine ⟨t1, Bd_fr h2 ?_ ?_ ?_, ⟨fun z => absurd z (by decide), fun z => ?_⟩, ?_⟩
      · simp (disch := omega) only [up2_x, upr_x]; exact a5 41
      · simp (disch := omega) only [up2_x, upr_x]; exact a5 42
      · simp (disch := omega) only [up2_x, upr_x]; exact a6 32 (by omega)
      · simp (disch := omega) only [up2_x, upr_x]; rw [a7]; exact h3.2 z
      · simp (disch := omega) only [up2_x, upr_x]; rw [a5, a7]; exact h4
    exact win_c 40 1 559 0 T E L _ _ (by omega) sp (by simp (disch := omega) only [up2_x, up2_e, upr_x]) (by omega) (by omega)
  | succ d ih =>
    intro n m i T E L C M hd h hT hE
    rw [show n + (d + 1) + 1 = (n + d + 1) + 1 by omega, show m + (d + 1) + 1 = (m + d + 1) + 1 by omega, w32_s, w35_s]
    unfold fc_RE_window_32b fm_window_35b
    obtain ⟨C', M', L', a1, a2, a3, a4, -, -⟩ := sp_step h (by omega) (by omega)
    rw [if_neg (show ¬ nI j ≤ nI i from nI_ge (by omega) (by omega)), if_neg (show ¬ nI j ≤ nI i from nI_ge (by omega) (by omega)), a1, a2, bnd_s, bnd_s, nI_1]
    obtain ⟨C3, M3, b1, b2, b3, b4⟩ := ih n m (i + 1) (T + 1) (E + 3) L' C' M' (by omega) a3 (by omega) (by omega)
    exact ⟨C3, M3, b1, b2, b3.mono (by omega), b4⟩
theorem win_a {k : Nat} (hk : k < 21) : ∀ (d n m i T E : Nat) (x2 : Int32) (C M : Mem), i + d = 20 → Inv T E C M → T + 60 * d < 2 ^ 29 → E + 200 < 2 ^ 28 → ∃ r C' M', fc_RE_window_16 (n + d + 1) (nI k) x2 (nI i) C = some (r, C') ∧ fm_window_21 (m + d + 1) (nI k) x2 (nI i) M = some (r, M') ∧ Inv (T + 60 * d) E C' M' := by
  intro d
  induction d with
  | zero =>
    intro n m i T E x2 C M hd hi hT hE
    rw [w16_s, w21_s]
    unfold fc_RE_window_16b fm_window_21b
    have ei : i = 20 := by omega
    subst ei
    rw [if_pos (show (20 : Int32) ≤ nI 20 by decide), if_pos (show (20 : Int32) ≤ nI 20 by decide)]
    exact ⟨_, _, _, rfl, rfl, hi⟩
  | succ d ih =>
    intro n m i T E x2 C M hd hi hT hE
    rw [show n + (d + 1) + 1 = (n + d + 1) + 1 by omega, show m + (d + 1) + 1 = (m + d + 1) + 1 by omega, w16_s, w21_s]
    unfold fc_RE_window_16b fm_window_21b
    obtain ⟨C2, M2, a1, a2, a3, a4, a5⟩ := sp_start hi isB_0
    rw [if_neg (show ¬ (20 : Int32) ≤ nI i from nI_ge (b := 20) (by omega) (by decide)), if_neg (show ¬ (20 : Int32) ≤ nI i from nI_ge (b := 20) (by omega) (by decide)), a1, a2, bnd_s, bnd_s]
    obtain ⟨C3, M3, b1, b2, b3, b4⟩ := win_b (K := fc_RE_window_16 (n + d + 1)) (K' := fm_window_21 (m + d + 1)) (x2 := x2) hk (show i < 20 by omega) i (20 - i) (599 - i) 0 T E [] C2 M2 (by omega) a3 (by omega) (by omega)
    rw [show 20 - i + i + 1 = 21 by omega] at b1
    rw [show 599 - i + i + 1 = 600 by omega] at b2
    have hI := fr_back hi (by omega) a4 a5 b3
    rw [show (0 : Int32) = nI 0 from rfl, b1, b2]
    unfold fc_RE_window_91 fm_window_100 fc_RE_window_108 fm_window_114
    rw [← b4, nI_1]
    by_cases hx : C3 52 52 = nI k
    · rw [if_pos hx, if_pos hx]
      obtain ⟨r, C4, M4, e1, e2, e3⟩ := ih n m (i + 1) (T + i + 40) E _ C3 M3 (by omega) hI (by omega) (by omega)
      exact ⟨r, C4, M4, e1, e2, e3.mono (by omega) (by omega)⟩
    · rw [if_neg hx, if_neg hx]
      obtain ⟨r, C4, M4, e1, e2, e3⟩ := ih n m (i + 1) (T + i + 40) E x2 C3 M3 (by omega) hI (by omega) (by omega)
      refine ⟨r, C4, M4, ?_, e2, e3.mono (by omega) (by omega)⟩
      rw [show x2 ||| 0 = x2 from Int32.or_zero]
      exact e1
theorem s_window {T E : Nat} {C M : Mem} {x1 : Int32} (hi : Inv T E C M) (hT : T + 1300 < 2 ^ 29) (hE : E + 1000 < 2 ^ 28) : OpS (fc_RE_window x1) (fm_window x1) (T + 1300) (E + 1000) C M := by
  have h17 := hi.err 0
  obtain ⟨⟨L, h⟩, hb, hq⟩ := hi.err 0
  unfold OpS fc_RE_window fm_window
  rw [stp_e, wi, wim, bnd_s, bnd_s]
  generalize up2 M 0 17 0 = M at *
  rcases wth_or x1 (n := 17) (by decide) with z | ⟨z, k, hk, ek⟩
  · rw [show wth x1 0 17 = wth x1 0 (nI 17) from rfl, z, if_pos rfl, if_pos rfl]
    exact ⟨_, _, _, rfl, rfl, h17.mono (by omega) (by omega)⟩
  rw [show wth x1 0 17 = wth x1 0 (nI 17) from rfl, z, if_neg (show ¬ (1 : Int32) = 0 by decide), if_neg (show ¬ (1 : Int32) = 0 by decide)]
  subst ek
  obtain ⟨r, C', M', b1, b2, b3⟩ := win_a (show k < 21 by omega) 20 0 579 0 T E 0 C M (by omega) h17 (by omega) (by omega)
  exact ⟨r, C', M', b1, b2, b3.mono (by omega) (by omega)⟩
