/-! THE OPERATIONS: split, hold -/
set_option maxHeartbeats 4000000 in
theorem t_spl {c s T E : Nat} {L : List Int32} {C0 M0 C M : Mem} {v : Nat} (hc : c = 9) (hs : s = 4) (h : Top c s T E L C0 M0 C M) (hv : v ≤ 7) (h0 : C c 33 = 0) : Top c s T E L (up2 (up2 C c 34 (nI v)) c 27 (nI v)) (up2 M 0 3 (nI v)) (up2 (up2 C c 34 (nI v)) c 27 (nI v)) (up2 M 0 3 (nI v)) := by
  refine ⟨⟨?_, ?_, ?_, ?_, ?_, ?_, ?_, ?_, ?_, ?_, ?_, ?_, ?_, ?_, ?_, ?_, ?_, ?_, ?_, ?_, ?_, ?_, ?_, ?_, ?_, ?_, ?_, ?_, ?_, ?_, ?_, ?_, ?_⟩, ⟨?_, ?_, ?_, ?_, ?_⟩⟩
  · exact rReg_fr h.reg (by intros; first | rfl | (simp (disch := omega) only [up2_x, upr_x])) (by intros; first | rfl | (simp (disch := omega) only [up2_x, upr_x]))
  · exact rDat_fr h.dat (by intros; first | rfl | (simp (disch := omega) only [up2_x, upr_x])) (by intros; first | rfl | (simp (disch := omega) only [up2_x, upr_x]))
  · exact rStk_fr h.stk (by intros; first | rfl | (simp (disch := omega) only [up2_x, upr_x])) (by intros; first | rfl | (simp (disch := omega) only [up2_x, upr_x]))
  · exact rFlt_fr h.flt (by intros; first | rfl | (simp (disch := omega) only [up2_x, upr_x])) (by intros; first | rfl | (simp (disch := omega) only [up2_x, upr_x]))
  · exact rZn_fr h.zn (by intros; first | rfl | (simp (disch := omega) only [up2_x, upr_x])) (by intros; first | rfl | (simp (disch := omega) only [up2_x, upr_x]))
  · exact rPc_fr h.pc (by intros; first | rfl | (simp (disch := omega) only [up2_x, upr_x])) (by intros; first | rfl | (simp (disch := omega) only [up2_x, upr_x]))
  · exact rSp_fr h.sp (by intros; first | rfl | (simp (disch := omega) only [up2_x, upr_x])) (by intros; first | rfl | (simp (disch := omega) only [up2_x, upr_x]))
  · exact rShu_fr h.shu (by intros; first | rfl | (simp (disch := omega) only [up2_x, upr_x])) (by intros; first | rfl | (simp (disch := omega) only [up2_x, upr_x]))
  · exact rBas_fr h.bas (by intros; first | rfl | (simp (disch := omega) only [up2_x, upr_x])) (by intros; first | rfl | (simp (disch := omega) only [up2_x, upr_x]))
  · exact rFls_fr h.fls (by intros; first | rfl | (simp (disch := omega) only [up2_x, upr_x])) (by intros; first | rfl | (simp (disch := omega) only [up2_x, upr_x]))
  · exact rLaz_fr h.laz (by intros; first | rfl | (simp (disch := omega) only [up2_x, upr_x])) (by intros; first | rfl | (simp (disch := omega) only [up2_x, upr_x]))
  · exact rPh_fr h.ph (by intros; first | rfl | (simp (disch := omega) only [up2_x, upr_x])) (by intros; first | rfl | (simp (disch := omega) only [up2_x, upr_x]))
  · exact rStp_fr h.stp (by intros; first | rfl | (simp (disch := omega) only [up2_x, upr_x])) (by intros; first | rfl | (simp (disch := omega) only [up2_x, upr_x]))
  · exact rStl_fr h.stl (by intros; first | rfl | (simp (disch := omega) only [up2_x, upr_x])) (by intros; first | rfl | (simp (disch := omega) only [up2_x, upr_x]))
  · exact rAsl_fr h.asl (by intros; first | rfl | (simp (disch := omega) only [up2_x, upr_x])) (by intros; first | rfl | (simp (disch := omega) only [up2_x, upr_x]))
  · exact rClk_fr h.clk (by intros; first | rfl | (simp (disch := omega) only [up2_x, upr_x])) (by intros; first | rfl | (simp (disch := omega) only [up2_x, upr_x]))
  · exact rPer_fr h.per (by intros; first | rfl | (simp (disch := omega) only [up2_x, upr_x])) (by intros; first | rfl | (simp (disch := omega) only [up2_x, upr_x]))
  · exact rTim_fr h.tim (by intros; first | rfl | (simp (disch := omega) only [up2_x, upr_x])) (by intros; first | rfl | (simp (disch := omega) only [up2_x, upr_x]))
  · obtain ⟨d, nst, a1, a2, a3, a4, a5⟩ := h.nst
    have hd : d = 0 := by
      rw [h0] at a2
      exact ((nI_eq (a := 0) (by decide) (show d < 2 ^ 31 by omega)).mp a2).symm
    subst hd
    refine ⟨0, nst, a1, ?_, ?_, fun j hj => absurd hj (by omega), fun i j _ hj => absurd hj (by omega)⟩
    · rw [← a2]; simp (disch := omega) only [up2_x, upr_x]
    · rw [← a3]; simp (disch := omega) only [up2_x, upr_x]
  · exact rDue_fr h.due (by intros; first | rfl | (simp (disch := omega) only [up2_x, upr_x])) (by intros; first | rfl | (simp (disch := omega) only [up2_x, upr_x])) (by intros; first | rfl | (simp (disch := omega) only [up2_x, upr_x])) (by intros; first | rfl | (simp (disch := omega) only [up2_x, upr_x])) (by intros; first | rfl | (simp (disch := omega) only [up2_x, upr_x]))
  · exact rRnk_fr h.rnk (by intros; first | rfl | (simp (disch := omega) only [up2_x, upr_x])) (by intros; first | rfl | (simp (disch := omega) only [up2_x, upr_x]))
  · exact rVec_fr h.vec (by intros; first | rfl | (simp (disch := omega) only [up2_x, upr_x])) (by intros; first | rfl | (simp (disch := omega) only [up2_x, upr_x]))
  · exact rEna_fr h.ena (by intros; first | rfl | (simp (disch := omega) only [up2_x, upr_x])) (by intros; first | rfl | (simp (disch := omega) only [up2_x, upr_x]))
  · exact rPnd_fr h.pnd (by intros; first | rfl | (simp (disch := omega) only [up2_x, upr_x])) (by intros; first | rfl | (simp (disch := omega) only [up2_x, upr_x]))
  · exact rAct_fr h.act (by intros; first | rfl | (simp (disch := omega) only [up2_x, upr_x])) (by intros; first | rfl | (simp (disch := omega) only [up2_x, upr_x])) (by intros; first | rfl | (simp (disch := omega) only [up2_x, upr_x]))
  · exact rHld_fr h.hld (by intros; first | rfl | (simp (disch := omega) only [up2_x, upr_x])) (by intros; first | rfl | (simp (disch := omega) only [up2_x, upr_x]))
  · unfold rSpl
    refine ⟨⟨v, hv, ?_, ?_⟩, ?_⟩
    · simp (disch := omega) only [up2_x, up2_e, upr_x]
    · simp (disch := omega) only [up2_x, up2_e, upr_x]
    · simp (disch := omega) only [up2_x, up2_e, upr_x]
  · exact rSta_fr h.sta (by intros; first | rfl | (simp (disch := omega) only [up2_x, upr_x])) (by intros; first | rfl | (simp (disch := omega) only [up2_x, upr_x]))
  · exact rSav_fr h.sav (by intros; first | rfl | (simp (disch := omega) only [up2_x, upr_x])) (by intros; first | rfl | (simp (disch := omega) only [up2_x, upr_x]))
  · exact rUns_fr h.uns (by intros; first | rfl | (simp (disch := omega) only [up2_x, upr_x])) (by intros; first | rfl | (simp (disch := omega) only [up2_x, upr_x])) (by intros; first | rfl | (simp (disch := omega) only [up2_x, upr_x]))
  · exact rCod_fr h.cod (by intros; first | rfl | (simp (disch := omega) only [up2_x, upr_x])) (by intros; first | rfl | (simp (disch := omega) only [up2_x, upr_x]))
  · exact rObs_fr (C := C) (M := M) h.obs (by intros; first | rfl | (simp (disch := omega) only [up2_x, upr_x])) (by intros; first | rfl | (simp (disch := omega) only [up2_x, upr_x]))
  · exact rMdc_fr (C := C) (M := M) h.mdc (by intros; first | rfl | (simp (disch := omega) only [up2_x, upr_x]))
  · exact rCnt_fr h.cnt (by intros; first | rfl | (simp (disch := omega) only [up2_x, upr_x])) (by intros; first | rfl | (simp (disch := omega) only [up2_x, upr_x]))
  · exact rOut_fr h.out (by intros; first | rfl | (simp (disch := omega) only [up2_x, upr_x])) (by intros; first | rfl | (simp (disch := omega) only [up2_x, upr_x])) (by intros; first | rfl | (simp (disch := omega) only [up2_x, upr_x])) (by intros; first | rfl | (simp (disch := omega) only [up2_x, upr_x]))
  · exact rEvt_fr h.evt (by intros; first | rfl | (simp (disch := omega) only [up2_x, upr_x])) (by intros; first | rfl | (simp (disch := omega) only [up2_x, upr_x])) (by intros; first | rfl | (simp (disch := omega) only [up2_x, upr_x])) (by intros; first | rfl | (simp (disch := omega) only [up2_x, upr_x]))
  · exact rWai_fr h.wai (by intros; first | rfl | (simp (disch := omega) only [up2_x, upr_x])) (by intros; first | rfl | (simp (disch := omega) only [up2_x, upr_x]))
  · exact ⟨fun _ _ _ => rfl, fun z => absurd z (by omega)⟩
set_option maxHeartbeats 4000000 in
theorem t_hld {c s T E : Nat} {L : List Int32} {C0 M0 C M : Mem} {k : Nat} {v : Int32} (hc : c = 9) (hs : s = 4) (h : Top c s T E L C0 M0 C M) (h8 : 8 ≤ k) (hk : k < 16) (hv : isB v = true) : Top c s T E L (up2 C (c + 22 + k) 9 v) (up2 M s (215 + k) v) (up2 C (c + 22 + k) 9 v) (up2 M s (215 + k) v) := by
  refine ⟨⟨?_, ?_, ?_, ?_, ?_, ?_, ?_, ?_, ?_, ?_, ?_, ?_, ?_, ?_, ?_, ?_, ?_, ?_, ?_, ?_, ?_, ?_, ?_, ?_, ?_, ?_, ?_, ?_, ?_, ?_, ?_, ?_, ?_⟩, ⟨?_, ?_, ?_, ?_, ?_⟩⟩
  · exact rReg_fr h.reg (by intros; first | rfl | (simp (disch := omega) only [up2_x, upr_x])) (by intros; first | rfl | (simp (disch := omega) only [up2_x, upr_x]))
  · exact rDat_fr h.dat (by intros; first | rfl | (simp (disch := omega) only [up2_x, upr_x])) (by intros; first | rfl | (simp (disch := omega) only [up2_x, upr_x]))
  · exact rStk_fr h.stk (by intros; first | rfl | (simp (disch := omega) only [up2_x, upr_x])) (by intros; first | rfl | (simp (disch := omega) only [up2_x, upr_x]))
  · exact rFlt_fr h.flt (by intros; first | rfl | (simp (disch := omega) only [up2_x, upr_x])) (by intros; first | rfl | (simp (disch := omega) only [up2_x, upr_x]))
  · exact rZn_fr h.zn (by intros; first | rfl | (simp (disch := omega) only [up2_x, upr_x])) (by intros; first | rfl | (simp (disch := omega) only [up2_x, upr_x]))
  · exact rPc_fr h.pc (by intros; first | rfl | (simp (disch := omega) only [up2_x, upr_x])) (by intros; first | rfl | (simp (disch := omega) only [up2_x, upr_x]))
  · exact rSp_fr h.sp (by intros; first | rfl | (simp (disch := omega) only [up2_x, upr_x])) (by intros; first | rfl | (simp (disch := omega) only [up2_x, upr_x]))
  · exact rShu_fr h.shu (by intros; first | rfl | (simp (disch := omega) only [up2_x, upr_x])) (by intros; first | rfl | (simp (disch := omega) only [up2_x, upr_x]))
  · exact rBas_fr h.bas (by intros; first | rfl | (simp (disch := omega) only [up2_x, upr_x])) (by intros; first | rfl | (simp (disch := omega) only [up2_x, upr_x]))
  · exact rFls_fr h.fls (by intros; first | rfl | (simp (disch := omega) only [up2_x, upr_x])) (by intros; first | rfl | (simp (disch := omega) only [up2_x, upr_x]))
  · exact rLaz_fr h.laz (by intros; first | rfl | (simp (disch := omega) only [up2_x, upr_x])) (by intros; first | rfl | (simp (disch := omega) only [up2_x, upr_x]))
  · exact rPh_fr h.ph (by intros; first | rfl | (simp (disch := omega) only [up2_x, upr_x])) (by intros; first | rfl | (simp (disch := omega) only [up2_x, upr_x]))
  · exact rStp_fr h.stp (by intros; first | rfl | (simp (disch := omega) only [up2_x, upr_x])) (by intros; first | rfl | (simp (disch := omega) only [up2_x, upr_x]))
  · exact rStl_fr h.stl (by intros; first | rfl | (simp (disch := omega) only [up2_x, upr_x])) (by intros; first | rfl | (simp (disch := omega) only [up2_x, upr_x]))
  · exact rAsl_fr h.asl (by intros; first | rfl | (simp (disch := omega) only [up2_x, upr_x])) (by intros; first | rfl | (simp (disch := omega) only [up2_x, upr_x]))
  · exact rClk_fr h.clk (by intros; first | rfl | (simp (disch := omega) only [up2_x, upr_x])) (by intros; first | rfl | (simp (disch := omega) only [up2_x, upr_x]))
  · exact rPer_fr h.per (by intros; first | rfl | (simp (disch := omega) only [up2_x, upr_x])) (by intros; first | rfl | (simp (disch := omega) only [up2_x, upr_x]))
  · exact rTim_fr h.tim (by intros; first | rfl | (simp (disch := omega) only [up2_x, upr_x])) (by intros; first | rfl | (simp (disch := omega) only [up2_x, upr_x]))
  · exact rNst_fr h.nst (by intros; first | rfl | (simp (disch := omega) only [up2_x, upr_x])) (by intros; first | rfl | (simp (disch := omega) only [up2_x, upr_x])) (by intros; first | rfl | (simp (disch := omega) only [up2_x, upr_x])) (by intros; first | rfl | (simp (disch := omega) only [up2_x, upr_x])) (by intros; first | rfl | (simp (disch := omega) only [up2_x, upr_x])) (by intros; first | rfl | (simp (disch := omega) only [up2_x, upr_x]))
  · exact rDue_fr h.due (by intros; first | rfl | (simp (disch := omega) only [up2_x, upr_x])) (by intros; first | rfl | (simp (disch := omega) only [up2_x, upr_x])) (by intros; first | rfl | (simp (disch := omega) only [up2_x, upr_x])) (by intros; first | rfl | (simp (disch := omega) only [up2_x, upr_x])) (by intros; first | rfl | (simp (disch := omega) only [up2_x, upr_x]))
  · exact rRnk_fr h.rnk (by intros; first | rfl | (simp (disch := omega) only [up2_x, upr_x])) (by intros; first | rfl | (simp (disch := omega) only [up2_x, upr_x]))
  · exact rVec_fr h.vec (by intros; first | rfl | (simp (disch := omega) only [up2_x, upr_x])) (by intros; first | rfl | (simp (disch := omega) only [up2_x, upr_x]))
  · exact rEna_fr h.ena (by intros; first | rfl | (simp (disch := omega) only [up2_x, upr_x])) (by intros; first | rfl | (simp (disch := omega) only [up2_x, upr_x]))
  · exact rPnd_fr h.pnd (by intros; first | rfl | (simp (disch := omega) only [up2_x, upr_x])) (by intros; first | rfl | (simp (disch := omega) only [up2_x, upr_x]))
  · exact rAct_fr h.act (by intros; first | rfl | (simp (disch := omega) only [up2_x, upr_x])) (by intros; first | rfl | (simp (disch := omega) only [up2_x, upr_x])) (by intros; first | rfl | (simp (disch := omega) only [up2_x, upr_x]))
  · intro j hj
    by_cases e : j = k
    · subst e
      refine ⟨fun _ => ?_, fun z => absurd ⟨h8, hk⟩ z⟩
      simp (disch := omega) only [up2_x, up2_e, upr_x]
      exact ⟨trivial, hv⟩
    · simp (disch := omega) only [up2_x, upr_x]
      exact h.hld j hj
  · exact rSpl_fr h.spl (by intros; first | rfl | (simp (disch := omega) only [up2_x, upr_x])) (by intros; first | rfl | (simp (disch := omega) only [up2_x, upr_x]))
  · exact rSta_fr h.sta (by intros; first | rfl | (simp (disch := omega) only [up2_x, upr_x])) (by intros; first | rfl | (simp (disch := omega) only [up2_x, upr_x]))
  · exact rSav_fr h.sav (by intros; first | rfl | (simp (disch := omega) only [up2_x, upr_x])) (by intros; first | rfl | (simp (disch := omega) only [up2_x, upr_x]))
  · exact rUns_fr h.uns (by intros; first | rfl | (simp (disch := omega) only [up2_x, upr_x])) (by intros; first | rfl | (simp (disch := omega) only [up2_x, upr_x])) (by intros; first | rfl | (simp (disch := omega) only [up2_x, upr_x]))
  · exact rCod_fr h.cod (by intros; first | rfl | (simp (disch := omega) only [up2_x, upr_x])) (by intros; first | rfl | (simp (disch := omega) only [up2_x, upr_x]))
  · exact rObs_fr (C := C) (M := M) h.obs (by intros; first | rfl | (simp (disch := omega) only [up2_x, upr_x])) (by intros; first | rfl | (simp (disch := omega) only [up2_x, upr_x]))
  · exact rMdc_fr (C := C) (M := M) h.mdc (by intros; first | rfl | (simp (disch := omega) only [up2_x, upr_x]))
  · exact rCnt_fr h.cnt (by intros; first | rfl | (simp (disch := omega) only [up2_x, upr_x])) (by intros; first | rfl | (simp (disch := omega) only [up2_x, upr_x]))
  · exact rOut_fr h.out (by intros; first | rfl | (simp (disch := omega) only [up2_x, upr_x])) (by intros; first | rfl | (simp (disch := omega) only [up2_x, upr_x])) (by intros; first | rfl | (simp (disch := omega) only [up2_x, upr_x])) (by intros; first | rfl | (simp (disch := omega) only [up2_x, upr_x]))
  · exact rEvt_fr h.evt (by intros; first | rfl | (simp (disch := omega) only [up2_x, upr_x])) (by intros; first | rfl | (simp (disch := omega) only [up2_x, upr_x])) (by intros; first | rfl | (simp (disch := omega) only [up2_x, upr_x])) (by intros; first | rfl | (simp (disch := omega) only [up2_x, upr_x]))
  · exact rWai_fr h.wai (by intros; first | rfl | (simp (disch := omega) only [up2_x, upr_x])) (by intros; first | rfl | (simp (disch := omega) only [up2_x, upr_x]))
  · exact ⟨fun _ _ _ => rfl, fun z => absurd z (by omega)⟩
theorem s_split {T E : Nat} {C M : Mem} {x1 : Int32} (hi : Inv T E C M) : OpS (fc_RE_split x1) (fm_split x1) T E C M := by
  have h17 := hi.err 0
  obtain ⟨⟨L, h⟩, hb, hq⟩ := hi.err 0
  unfold OpS fc_RE_split fm_split
  rw [stp_e, wi, wim, bnd_s, bnd_s]
  generalize up2 M 0 17 0 = M at *
  rcases wth_or x1 (n := 7) (by decide) with z | ⟨z, k, hk, ek⟩
  · rw [show wth x1 0 7 = wth x1 0 (nI 7) from rfl, z, if_pos rfl, if_pos rfl]
    exact ⟨_, _, _, rfl, rfl, h17⟩
  rw [show wth x1 0 7 = wth x1 0 (nI 7) from rfl, z, if_neg (show ¬ (1 : Int32) = 0 by decide), if_neg (show ¬ (1 : Int32) = 0 by decide)]
  subst ek
  obtain ⟨d, nst, d1, d2, d3, -⟩ := h.nst
  rw [d2, d3]
  by_cases hd : d = 0
  · subst hd
    rw [if_pos (show nI 0 ≤ 0 by decide), if_pos (show nI 0 ≤ 0 by decide)]
    unfold fc_Core_splits
    simp only [stp_e, bnd_s]
    exact ⟨_, _, _, rfl, rfl, ⟨⟨_, t_spl rfl rfl h hk d2⟩, Bd_fr hb (by first | rfl | simp (disch := omega) only [up2_x, upr_x]) (by first | rfl | simp (disch := omega) only [up2_x, upr_x]) (by first | rfl | simp (disch := omega) only [up2_x, upr_x]), by obtain ⟨q, q1, q2⟩ := hq; exact ⟨q, q1, by first | exact q2 | (simp (disch := omega) only [up2_x, upr_x]; exact q2)⟩⟩⟩
  · rw [if_neg (show ¬ nI d ≤ 0 from nI_ge (a := 0) (by omega) (by omega)), if_neg (show ¬ nI d ≤ 0 from nI_ge (a := 0) (by omega) (by omega))]
    exact ⟨_, _, _, rfl, rfl, h17⟩
theorem wth_b (x : Int32) {a n : Nat} (ha : a < 2 ^ 31) (hn : n < 2 ^ 31) : (wth x (nI a) (nI n) = 0 ∧ ¬ ∃ k : Nat, a ≤ k ∧ k ≤ n ∧ x = nI k) ∨ (wth x (nI a) (nI n) = 1 ∧ ∃ k : Nat, a ≤ k ∧ k ≤ n ∧ x = nI k) := by
  unfold wth
  by_cases h0 : x < nI a
  · refine Or.inl ⟨if_pos h0, ?_⟩
    rintro ⟨k, h1, h2, rfl⟩
    exact nI_nlt h1 (by omega) h0
  · rw [if_neg h0]
    by_cases h1 : nI n < x
    · refine Or.inl ⟨if_pos h1, ?_⟩
      rintro ⟨k, h2, h3, rfl⟩
      exact nI_nlt h3 hn h1
    · rw [if_neg h1]
      have a1 : (a : Int) ≤ x.toInt := by
        rw [← nI_toInt ha]
        exact Int.not_lt.mp (fun z => h0 (i32_lt.mpr z))
      have hz : ¬ x < 0 := fun z => by
        have z1 : x.toInt < (0 : Int32).toInt := i32_lt.mp z
        have z2 : (0 : Int32).toInt = 0 := by decide
        omega
      obtain ⟨k, hk, ek⟩ := nat_of hn hz h1
      refine Or.inr ⟨rfl, k, ?_, hk, ek⟩
      rw [ek, nI_toInt (by omega)] at a1
      omega
theorem s_hold {T E : Nat} {C M : Mem} {x1 x2 : Int32} (hi : Inv T E C M) (hx : isB x2 = true) (hT : T < 2 ^ 30) : OpS (fc_RE_hold x1 x2) (fm_hold x1 x2) T E C M := by
  have h17 := hi.err 0
  obtain ⟨⟨L, h⟩, hb, hq⟩ := hi.err 0
  unfold OpS fc_RE_hold fm_hold
  rw [stp_e, wi, wim, bnd_s, bnd_s]
  generalize up2 M 0 17 0 = M at *
  rcases wth_or x1 (n := 20) (by decide) with z | ⟨z, k, hk, ek⟩
  · rcases wth_b x1 (a := 8) (n := 15) (by decide) (by decide) with ⟨y, -⟩ | ⟨-, k, k1, k2, rfl⟩
    · rw [show wth x1 0 20 = wth x1 0 (nI 20) from rfl, show wth x1 8 15 = wth x1 (nI 8) (nI 15) from rfl, z, y, if_pos rfl, if_pos rfl]
      exact ⟨_, _, _, rfl, rfl, h17⟩
    · exfalso
      unfold wth at z
      rw [if_neg (show ¬ nI k < 0 from nI_pos (by omega)), if_neg (show ¬ nI 20 < nI k from nI_nlt (by omega) (by decide))] at z
      exact absurd z (by decide)
  subst ek
  rw [show wth (nI k) 0 20 = wth (nI k) 0 (nI 20) from rfl, z, if_neg (show ¬ (1 : Int32) = 0 by decide), inb_nI (show k < 21 by omega) (by decide), gd_t, nI_clamp (show k < 2 ^ 31 by omega), cS_k (Or.inl rfl) (show k < 21 by omega)]
  by_cases h8 : 8 ≤ k ∧ k < 16
  · have hw : wth (nI k) 8 15 = 1 := by
      unfold wth
      rw [if_neg (show ¬ nI k < 8 from nI_nlt (b := 8) h8.1 (by omega)), if_neg (show ¬ 15 < nI k from nI_nlt (a := 15) (by omega) (by decide))]
    obtain ⟨p1, p2⟩ := (h.hld k (by omega)).1 h8
    rw [hw, if_neg (show ¬ (1 : Int32) = 0 by decide), if_pos h8, if_neg (show ¬ (1 : Int32) = 0 by decide), decide_eq_true h8, gd_t, show (215 : Int32) + nI k = nI (215 + k) from nI_add 215 k, inb_nI (show 215 + k < 342 by omega) (by decide), gd_t, nI_clamp (show 215 + k < 2 ^ 31 by omega)]
    unfold fc_Lev_holds fm_hold_35 fm_hold_59 fm_hold_39
    rw [show (215 : Int32) + nI k = nI (215 + k) from nI_add 215 k, inb_nI (show 215 + k < 342 by omega) (by decide), nI_clamp (show 215 + k < 2 ^ 31 by omega)]
    have hM : (if M 4 (215 + k) = 1 then (1 : Int32) else 0) = C (9 + 22 + k) 9 := by
      rw [← p1]
      rcases isB_or p2 with z | z <;> rw [z] <;> rfl
    have hif : ∀ F : Int32 → Option (Int32 × Mem), (if M 4 (215 + k) = 1 then F 1 else F 0) = F (C (9 + 22 + k) 9) := by
      intro F
      rw [← hM]
      split <;> rfl
    have hh := hif (fun y => if y = x2 then some (0, M) else if x2 = 0 then gd true (stp (up2 M 4 (215 + k) 0) fun M2 => stp (up2 M2 0 14 1) fun M3 => if x2 = 0 then fm_hold_78 M3 else bnd (fm_pends 4 (nI k) M3) fun _ M5 => fm_hold_78 M5) else gd true (stp (up2 M 4 (215 + k) 1) fun M2 => stp (up2 M2 0 14 1) fun M3 => if x2 = 0 then fm_hold_78 M3 else bnd (fm_pends 4 (nI k) M3) fun _ M5 => fm_hold_78 M5))
    refine Exists.imp (fun r => Exists.imp (fun C' => Exists.imp (fun M' => And.imp id (And.imp (fun z => hh.trans z) id)))) ?_
    by_cases he : C (9 + 22 + k) 9 = x2
    · simp only [if_pos he, bnd_s]
      unfold fc_RE_hold_60
      exact ⟨_, _, _, rfl, rfl, h17⟩
    · simp only [if_neg he, hx, gd_t, stp_e, bnd_s]
      rw [if_neg (show ¬ (1 : Int32) = 0 by decide)]
      unfold fc_RE_hold_58 fm_hold_78
      have t0 := t_hld (v := x2) rfl rfl h h8.1 h8.2 hx
      rcases isB_or hx with rfl | rfl
      · simp only [if_pos]
        exact ⟨_, _, _, rfl, rfl, ⟨⟨_, t_md1 (v := 1) rfl rfl t0⟩, Bd_fr hb (by first | rfl | simp (disch := omega) only [up2_x, upr_x]) (by first | rfl | simp (disch := omega) only [up2_x, upr_x]) (by first | rfl | simp (disch := omega) only [up2_x, upr_x]), by obtain ⟨q, q1, q2⟩ := hq; exact ⟨q, q1, by first | exact q2 | (simp (disch := omega) only [up2_x, upr_x]; exact q2)⟩⟩⟩
      · have t1 := t_md1 (v := 1) rfl rfl t0
        obtain ⟨r, C', M', a1, a2, a3, a4, a5, a6, a7⟩ := sim_becomes (k := k) (Or.inl ⟨rfl, rfl⟩) hT t1 ⟨fun _ => up2_e, fun z => absurd z (by decide)⟩ (by omega)
        simp only [if_neg (show ¬ (1 : Int32) = 0 by decide)]
        rw [a1, a2, bnd_s, bnd_s]
        exact ⟨_, _, _, rfl, rfl, ⟨L, a3.own⟩, Bd_fr hb (by rw [a5 41]; simp (disch := omega) only [up2_x, upr_x]) (by rw [a5 42]; simp (disch := omega) only [up2_x, upr_x]) (by rw [a6 32 (by omega)]; simp (disch := omega) only [up2_x, upr_x]), by obtain ⟨q, q1, q2⟩ := hq; exact ⟨q, q1, by rw [a3.frm.1 52 50 (by omega)]; simp (disch := omega) only [up2_x, upr_x]; exact q2⟩⟩
  · have hw : wth (nI k) 8 15 = 0 := by
      rcases wth_b (nI k) (a := 8) (n := 15) (by decide) (by decide) with ⟨y, -⟩ | ⟨-, j, k1, k2, ej⟩
      · exact y
      · have := (nI_eq (by omega) (by omega)).mp ej
        omega
    rw [hw, if_pos rfl, if_neg h8, if_pos rfl]
    exact ⟨_, _, _, rfl, rfl, h17⟩
