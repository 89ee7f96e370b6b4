/-! THE OPERATIONS: pend, clear, code, run, till -/
theorem Top.own {T E : Nat} {L : List Int32} {C0 M0 C M : Mem} (h : Top 9 4 T E L C0 M0 C M) : Top 9 4 T E L C M C M := by
  obtain ⟨a, b1, b2, b3, b4, -⟩ := h
  exact ⟨a, b1, b2, b3, b4, fun _ _ _ => rfl, fun z => absurd z (by decide)⟩
set_option maxHeartbeats 4000000 in
theorem t_md1 {c s T E : Nat} {L : List Int32} {C0 M0 C M : Mem} {v : Int32} (hc : c = 9) (hs : s = 4) (h : Top c s T E L C0 M0 C M) : Top c s T E L (C) (up2 M 0 14 v) (C) (up2 M 0 14 v) := by
  refine ⟨⟨?_, ?_, ?_, ?_, ?_, ?_, ?_, ?_, ?_, ?_, ?_, ?_, ?_, ?_, ?_, ?_, ?_, ?_, ?_, ?_, ?_, ?_, ?_, ?_, ?_, ?_, ?_, ?_, ?_, ?_, ?_, ?_, ?_⟩, ⟨?_, ?_, ?_, ?_, ?_⟩⟩
  · exact rReg_fr h.reg (by intros; first | rfl | (simp (disch := omega) only [up2_x, upr_x])) (by intros; first | rfl | (simp (disch := omega) only [up2_x, upr_x]))
  · exact rDat_fr h.dat (by intros; first | rfl | (simp (disch := omega) only [up2_x, upr_x])) (by intros; first | rfl | (simp (disch := omega) only [up2_x, upr_x]))
  · exact rStk_fr h.stk (by intros; first | rfl | (simp (disch := omega) only [up2_x, upr_x])) (by intros; first | rfl | (simp (disch := omega) only [up2_x, upr_x]))
  · exact rFlt_fr h.flt (by intros; first | rfl | (simp (disch := omega) only [up2_x, upr_x])) (by intros; first | rfl | (simp (disch := omega) only [up2_x, upr_x]))
  · exact rZn_fr h.zn (by intros; first | rfl | (simp (disch := omega) only [up2_x, upr_x])) (by intros; first | rfl | (simp (disch := omega) only [up2_x, upr_x]))
  · exact rPc_fr h.pc (by intros; first | rfl | (simp (disch := omega) only [up2_x, upr_x])) (by intros; first | rfl | (simp (disch := omega) only [up2_x, upr_x]))
  · exact rSp_fr h.sp (by intros; first | rfl | (simp (disch := omega) only [up2_x, upr_x])) (by intros; first | rfl | (simp (disch := omega) only [up2_x, upr_x]))
  · exact rShu_fr h.shu (by intros; first | rfl | (simp (disch := omega) only [up2_x, upr_x])) (by intros; first | rfl | (simp (disch := omega) only [up2_x, upr_x]))
  · exact rBas_fr h.bas (by intros; first | rfl | (simp (disch := omega) only [up2_x, upr_x])) (by intros; first | rfl | (simp (disch := omega) only [up2_x, upr_x]))
  · exact rFls_fr h.fls (by intros; first | rfl | (simp (disch := omega) only [up2_x, upr_x])) (by intros; first | rfl | (simp (disch := omega) only [up2_x, upr_x]))
  · exact rLaz_fr h.laz (by intros; first | rfl | (simp (disch := omega) only [up2_x, upr_x])) (by intros; first | rfl | (simp (disch := omega) only [up2_x, upr_x]))
  · exact rPh_fr h.ph (by intros; first | rfl | (simp (disch := omega) only [up2_x, upr_x])) (by intros; first | rfl | (simp (disch := omega) only [up2_x, upr_x]))
  · exact rStp_fr h.stp (by intros; first | rfl | (simp (disch := omega) only [up2_x, upr_x])) (by intros; first | rfl | (simp (disch := omega) only [up2_x, upr_x]))
  · exact rStl_fr h.stl (by intros; first | rfl | (simp (disch := omega) only [up2_x, upr_x])) (by intros; first | rfl | (simp (disch := omega) only [up2_x, upr_x]))
  · exact rAsl_fr h.asl (by intros; first | rfl | (simp (disch := omega) only [up2_x, upr_x])) (by intros; first | rfl | (simp (disch := omega) only [up2_x, upr_x]))
  · exact rClk_fr h.clk (by intros; first | rfl | (simp (disch := omega) only [up2_x, upr_x])) (by intros; first | rfl | (simp (disch := omega) only [up2_x, upr_x]))
  · exact rPer_fr h.per (by intros; first | rfl | (simp (disch := omega) only [up2_x, upr_x])) (by intros; first | rfl | (simp (disch := omega) only [up2_x, upr_x]))
  · exact rTim_fr h.tim (by intros; first | rfl | (simp (disch := omega) only [up2_x, upr_x])) (by intros; first | rfl | (simp (disch := omega) only [up2_x, upr_x]))
  · exact rNst_fr h.nst (by intros; first | rfl | (simp (disch := omega) only [up2_x, upr_x])) (by intros; first | rfl | (simp (disch := omega) only [up2_x, upr_x])) (by intros; first | rfl | (simp (disch := omega) only [up2_x, upr_x])) (by intros; first | rfl | (simp (disch := omega) only [up2_x, upr_x])) (by intros; first | rfl | (simp (disch := omega) only [up2_x, upr_x])) (by intros; first | rfl | (simp (disch := omega) only [up2_x, upr_x]))
  · exact rDue_fr h.due (by intros; first | rfl | (simp (disch := omega) only [up2_x, upr_x])) (by intros; first | rfl | (simp (disch := omega) only [up2_x, upr_x])) (by intros; first | rfl | (simp (disch := omega) only [up2_x, upr_x])) (by intros; first | rfl | (simp (disch := omega) only [up2_x, upr_x])) (by intros; first | rfl | (simp (disch := omega) only [up2_x, upr_x]))
  · exact rRnk_fr h.rnk (by intros; first | rfl | (simp (disch := omega) only [up2_x, upr_x])) (by intros; first | rfl | (simp (disch := omega) only [up2_x, upr_x]))
  · exact rVec_fr h.vec (by intros; first | rfl | (simp (disch := omega) only [up2_x, upr_x])) (by intros; first | rfl | (simp (disch := omega) only [up2_x, upr_x]))
  · exact rEna_fr h.ena (by intros; first | rfl | (simp (disch := omega) only [up2_x, upr_x])) (by intros; first | rfl | (simp (disch := omega) only [up2_x, upr_x]))
  · exact rPnd_fr h.pnd (by intros; first | rfl | (simp (disch := omega) only [up2_x, upr_x])) (by intros; first | rfl | (simp (disch := omega) only [up2_x, upr_x]))
  · exact rAct_fr h.act (by intros; first | rfl | (simp (disch := omega) only [up2_x, upr_x])) (by intros; first | rfl | (simp (disch := omega) only [up2_x, upr_x])) (by intros; first | rfl | (simp (disch := omega) only [up2_x, upr_x]))
  · exact rHld_fr h.hld (by intros; first | rfl | (simp (disch := omega) only [up2_x, upr_x])) (by intros; first | rfl | (simp (disch := omega) only [up2_x, upr_x]))
  · exact rSpl_fr h.spl (by intros; first | rfl | (simp (disch := omega) only [up2_x, upr_x])) (by intros; first | rfl | (simp (disch := omega) only [up2_x, upr_x]))
  · exact rSta_fr h.sta (by intros; first | rfl | (simp (disch := omega) only [up2_x, upr_x])) (by intros; first | rfl | (simp (disch := omega) only [up2_x, upr_x]))
  · exact rSav_fr h.sav (by intros; first | rfl | (simp (disch := omega) only [up2_x, upr_x])) (by intros; first | rfl | (simp (disch := omega) only [up2_x, upr_x]))
  · exact rUns_fr h.uns (by intros; first | rfl | (simp (disch := omega) only [up2_x, upr_x])) (by intros; first | rfl | (simp (disch := omega) only [up2_x, upr_x])) (by intros; first | rfl | (simp (disch := omega) only [up2_x, upr_x]))
  · exact rCod_fr h.cod (by intros; first | rfl | (simp (disch := omega) only [up2_x, upr_x])) (by intros; first | rfl | (simp (disch := omega) only [up2_x, upr_x]))
  · exact rObs_fr (C := C) (M := M) h.obs (by intros; first | rfl | (simp (disch := omega) only [up2_x, upr_x])) (by intros; first | rfl | (simp (disch := omega) only [up2_x, upr_x]))
  · exact rMdc_fr (C := C) (M := M) h.mdc (by intros; first | rfl | (simp (disch := omega) only [up2_x, upr_x]))
  · exact rCnt_fr h.cnt (by intros; first | rfl | (simp (disch := omega) only [up2_x, upr_x])) (by intros; first | rfl | (simp (disch := omega) only [up2_x, upr_x]))
  · exact rOut_fr h.out (by intros; first | rfl | (simp (disch := omega) only [up2_x, upr_x])) (by intros; first | rfl | (simp (disch := omega) only [up2_x, upr_x])) (by intros; first | rfl | (simp (disch := omega) only [up2_x, upr_x])) (by intros; first | rfl | (simp (disch := omega) only [up2_x, upr_x]))
  · exact rEvt_fr h.evt (by intros; first | rfl | (simp (disch := omega) only [up2_x, upr_x])) (by intros; first | rfl | (simp (disch := omega) only [up2_x, upr_x])) (by intros; first | rfl | (simp (disch := omega) only [up2_x, upr_x])) (by intros; first | rfl | (simp (disch := omega) only [up2_x, upr_x]))
  · exact rWai_fr h.wai (by intros; first | rfl | (simp (disch := omega) only [up2_x, upr_x])) (by intros; first | rfl | (simp (disch := omega) only [up2_x, upr_x]))
  · exact ⟨fun _ _ _ => rfl, fun z => absurd z (by omega)⟩
set_option maxHeartbeats 4000000 in
theorem t_md2 {c s T E : Nat} {L : List Int32} {C0 M0 C M : Mem} {v w : Int32} (hc : c = 9) (hs : s = 4) (h : Top c s T E L C0 M0 C M) : Top c s T E L (C) (up2 (up2 M 0 14 v) 0 15 w) (C) (up2 (up2 M 0 14 v) 0 15 w) := by
  refine ⟨⟨?_, ?_, ?_, ?_, ?_, ?_, ?_, ?_, ?_, ?_, ?_, ?_, ?_, ?_, ?_, ?_, ?_, ?_, ?_, ?_, ?_, ?_, ?_, ?_, ?_, ?_, ?_, ?_, ?_, ?_, ?_, ?_, ?_⟩, ⟨?_, ?_, ?_, ?_, ?_⟩⟩
  · exact rReg_fr h.reg (by intros; first | rfl | (simp (disch := omega) only [up2_x, upr_x])) (by intros; first | rfl | (simp (disch := omega) only [up2_x, upr_x]))
  · exact rDat_fr h.dat (by intros; first | rfl | (simp (disch := omega) only [up2_x, upr_x])) (by intros; first | rfl | (simp (disch := omega) only [up2_x, upr_x]))
  · exact rStk_fr h.stk (by intros; first | rfl | (simp (disch := omega) only [up2_x, upr_x])) (by intros; first | rfl | (simp (disch := omega) only [up2_x, upr_x]))
  · exact rFlt_fr h.flt (by intros; first | rfl | (simp (disch := omega) only [up2_x, upr_x])) (by intros; first | rfl | (simp (disch := omega) only [up2_x, upr_x]))
  · exact rZn_fr h.zn (by intros; first | rfl | (simp (disch := omega) only [up2_x, upr_x])) (by intros; first | rfl | (simp (disch := omega) only [up2_x, upr_x]))
  · exact rPc_fr h.pc (by intros; first | rfl | (simp (disch := omega) only [up2_x, upr_x])) (by intros; first | rfl | (simp (disch := omega) only [up2_x, upr_x]))
  · exact rSp_fr h.sp (by intros; first | rfl | (simp (disch := omega) only [up2_x, upr_x])) (by intros; first | rfl | (simp (disch := omega) only [up2_x, upr_x]))
  · exact rShu_fr h.shu (by intros; first | rfl | (simp (disch := omega) only [up2_x, upr_x])) (by intros; first | rfl | (simp (disch := omega) only [up2_x, upr_x]))
  · exact rBas_fr h.bas (by intros; first | rfl | (simp (disch := omega) only [up2_x, upr_x])) (by intros; first | rfl | (simp (disch := omega) only [up2_x, upr_x]))
  · exact rFls_fr h.fls (by intros; first | rfl | (simp (disch := omega) only [up2_x, upr_x])) (by intros; first | rfl | (simp (disch := omega) only [up2_x, upr_x]))
  · exact rLaz_fr h.laz (by intros; first | rfl | (simp (disch := omega) only [up2_x, upr_x])) (by intros; first | rfl | (simp (disch := omega) only [up2_x, upr_x]))
  · exact rPh_fr h.ph (by intros; first | rfl | (simp (disch := omega) only [up2_x, upr_x])) (by intros; first | rfl | (simp (disch := omega) only [up2_x, upr_x]))
  · exact rStp_fr h.stp (by intros; first | rfl | (simp (disch := omega) only [up2_x, upr_x])) (by intros; first | rfl | (simp (disch := omega) only [up2_x, upr_x]))
  · exact rStl_fr h.stl (by intros; first | rfl | (simp (disch := omega) only [up2_x, upr_x])) (by intros; first | rfl | (simp (disch := omega) only [up2_x, upr_x]))
  · exact rAsl_fr h.asl (by intros; first | rfl | (simp (disch := omega) only [up2_x, upr_x])) (by intros; first | rfl | (simp (disch := omega) only [up2_x, upr_x]))
  · exact rClk_fr h.clk (by intros; first | rfl | (simp (disch := omega) only [up2_x, upr_x])) (by intros; first | rfl | (simp (disch := omega) only [up2_x, upr_x]))
  · exact rPer_fr h.per (by intros; first | rfl | (simp (disch := omega) only [up2_x, upr_x])) (by intros; first | rfl | (simp (disch := omega) only [up2_x, upr_x]))
  · exact rTim_fr h.tim (by intros; first | rfl | (simp (disch := omega) only [up2_x, upr_x])) (by intros; first | rfl | (simp (disch := omega) only [up2_x, upr_x]))
  · exact rNst_fr h.nst (by intros; first | rfl | (simp (disch := omega) only [up2_x, upr_x])) (by intros; first | rfl | (simp (disch := omega) only [up2_x, upr_x])) (by intros; first | rfl | (simp (disch := omega) only [up2_x, upr_x])) (by intros; first | rfl | (simp (disch := omega) only [up2_x, upr_x])) (by intros; first | rfl | (simp (disch := omega) only [up2_x, upr_x])) (by intros; first | rfl | (simp (disch := omega) only [up2_x, upr_x]))
  · exact rDue_fr h.due (by intros; first | rfl | (simp (disch := omega) only [up2_x, upr_x])) (by intros; first | rfl | (simp (disch := omega) only [up2_x, upr_x])) (by intros; first | rfl | (simp (disch := omega) only [up2_x, upr_x])) (by intros; first | rfl | (simp (disch := omega) only [up2_x, upr_x])) (by intros; first | rfl | (simp (disch := omega) only [up2_x, upr_x]))
  · exact rRnk_fr h.rnk (by intros; first | rfl | (simp (disch := omega) only [up2_x, upr_x])) (by intros; first | rfl | (simp (disch := omega) only [up2_x, upr_x]))
  · exact rVec_fr h.vec (by intros; first | rfl | (simp (disch := omega) only [up2_x, upr_x])) (by intros; first | rfl | (simp (disch := omega) only [up2_x, upr_x]))
  · exact rEna_fr h.ena (by intros; first | rfl | (simp (disch := omega) only [up2_x, upr_x])) (by intros; first | rfl | (simp (disch := omega) only [up2_x, upr_x]))
  · exact rPnd_fr h.pnd (by intros; first | rfl | (simp (disch := omega) only [up2_x, upr_x])) (by intros; first | rfl | (simp (disch := omega) only [up2_x, upr_x]))
  · exact rAct_fr h.act (by intros; first | rfl | (simp (disch := omega) only [up2_x, upr_x])) (by intros; first | rfl | (simp (disch := omega) only [up2_x, upr_x])) (by intros; first | rfl | (simp (disch := omega) only [up2_x, upr_x]))
  · exact rHld_fr h.hld (by intros; first | rfl | (simp (disch := omega) only [up2_x, upr_x])) (by intros; first | rfl | (simp (disch := omega) only [up2_x, upr_x]))
  · exact rSpl_fr h.spl (by intros; first | rfl | (simp (disch := omega) only [up2_x, upr_x])) (by intros; first | rfl | (simp (disch := omega) only [up2_x, upr_x]))
  · exact rSta_fr h.sta (by intros; first | rfl | (simp (disch := omega) only [up2_x, upr_x])) (by intros; first | rfl | (simp (disch := omega) only [up2_x, upr_x]))
  · exact rSav_fr h.sav (by intros; first | rfl | (simp (disch := omega) only [up2_x, upr_x])) (by intros; first | rfl | (simp (disch := omega) only [up2_x, upr_x]))
  · exact rUns_fr h.uns (by intros; first | rfl | (simp (disch := omega) only [up2_x, upr_x])) (by intros; first | rfl | (simp (disch := omega) only [up2_x, upr_x])) (by intros; first | rfl | (simp (disch := omega) only [up2_x, upr_x]))
  · exact rCod_fr h.cod (by intros; first | rfl | (simp (disch := omega) only [up2_x, upr_x])) (by intros; first | rfl | (simp (disch := omega) only [up2_x, upr_x]))
  · exact rObs_fr (C := C) (M := M) h.obs (by intros; first | rfl | (simp (disch := omega) only [up2_x, upr_x])) (by intros; first | rfl | (simp (disch := omega) only [up2_x, upr_x]))
  · exact rMdc_fr (C := C) (M := M) h.mdc (by intros; first | rfl | (simp (disch := omega) only [up2_x, upr_x]))
  · exact rCnt_fr h.cnt (by intros; first | rfl | (simp (disch := omega) only [up2_x, upr_x])) (by intros; first | rfl | (simp (disch := omega) only [up2_x, upr_x]))
  · exact rOut_fr h.out (by intros; first | rfl | (simp (disch := omega) only [up2_x, upr_x])) (by intros; first | rfl | (simp (disch := omega) only [up2_x, upr_x])) (by intros; first | rfl | (simp (disch := omega) only [up2_x, upr_x])) (by intros; first | rfl | (simp (disch := omega) only [up2_x, upr_x]))
  · exact rEvt_fr h.evt (by intros; first | rfl | (simp (disch := omega) only [up2_x, upr_x])) (by intros; first | rfl | (simp (disch := omega) only [up2_x, upr_x])) (by intros; first | rfl | (simp (disch := omega) only [up2_x, upr_x])) (by intros; first | rfl | (simp (disch := omega) only [up2_x, upr_x]))
  · exact rWai_fr h.wai (by intros; first | rfl | (simp (disch := omega) only [up2_x, upr_x])) (by intros; first | rfl | (simp (disch := omega) only [up2_x, upr_x]))
  · exact ⟨fun _ _ _ => rfl, fun z => absurd z (by omega)⟩
theorem s_pend {T E : Nat} {C M : Mem} {x1 : Int32} (hi : Inv T E C M) (hT : T < 2 ^ 30) : OpS (fc_RE_pend x1) (fm_pend x1) T E C M := by
  have h17 := hi.err 0
  obtain ⟨⟨L, h⟩, hb, hq⟩ := hi.err 0
  unfold OpS fc_RE_pend fm_pend
  rw [stp_e, wi, wim, bnd_s, bnd_s]
  generalize up2 M 0 17 0 = M at *
  rcases wth_or x1 (n := 19) (by decide) with z | ⟨z, k, hk, ek⟩
  · rw [show wth x1 0 19 = wth x1 0 (nI 19) from rfl, z, if_pos rfl, if_pos rfl]
    exact ⟨_, _, _, rfl, rfl, h17⟩
  rw [show wth x1 0 19 = wth x1 0 (nI 19) from rfl, z, if_neg (show ¬ (1 : Int32) = 0 by decide), if_neg (show ¬ (1 : Int32) = 0 by decide)]
  subst ek
  rw [l_194, inb_nI (show 194 + k < 342 by omega) (by decide), gd_t, nI_clamp (show 194 + k < 2 ^ 31 by omega)]
  have t1 := t_md1 (v := 1) rfl rfl h
  obtain ⟨r, C', M', a1, a2, a3, a4, a5, a6, a7⟩ := sim_becomes (k := k) (Or.inl ⟨rfl, rfl⟩) hT t1 ⟨fun _ => up2_e, fun z => absurd z (by decide)⟩ (by omega)
  have hI : Inv T E C' M' := ⟨⟨L, a3.own⟩, Bd_fr hb (a5 41) (a5 42) (by rw [a6 32 (by omega)]; simp (disch := omega) only [up2_x, upr_x]), by obtain ⟨q, q1, q2⟩ := hq; exact ⟨q, q1, by rw [a3.frm.1 52 50 (by omega)]; exact q2⟩⟩
  have e194 : up2 M 0 14 1 4 (194 + k) = M 4 (194 + k) := by simp (disch := omega) only [up2_x, upr_x]
  rw [e194] at a4
  unfold fc_RE_pend_25 fc_RE_pend_26 fm_pend_35
  rw [a1, bnd_s, stp_e, stp_e, a2, bnd_s, bnd_s, a4]
  by_cases hz : M 4 (194 + k) < 0
  · have hz' : ¬ 0 ≤ M 4 (194 + k) := fun w => absurd (i32_lt.mp hz) (Int.not_lt.mpr (i32_le.mp w))
    rw [if_pos hz, if_neg (show ¬ (1 : Int32) = 0 by decide), if_neg hz', isB_1, gd_t]
    exact ⟨_, _, _, rfl, rfl, hI⟩
  · have hz' : 0 ≤ M 4 (194 + k) := i32_le.mpr (Int.not_lt.mp (fun w => hz (i32_lt.mpr w)))
    rw [if_neg hz, if_pos rfl, if_pos hz', isB_0, gd_t]
    exact ⟨_, _, _, rfl, rfl, hI⟩
set_option maxHeartbeats 4000000 in
theorem t_clr {c s T E : Nat} {L : List Int32} {C0 M0 C M : Mem} {k : Nat} (hc : c = 9) (hs : s = 4) (h : Top c s T E L C0 M0 C M) (hk : k < 21) : Top c s T E L (up2 C (c + 22 + k) 4 0) (up2 M s (194 + k) (-1)) (up2 C (c + 22 + k) 4 0) (up2 M s (194 + k) (-1)) := by
  refine ⟨⟨?_, ?_, ?_, ?_, ?_, ?_, ?_, ?_, ?_, ?_, ?_, ?_, ?_, ?_, ?_, ?_, ?_, ?_, ?_, ?_, ?_, ?_, ?_, ?_, ?_, ?_, ?_, ?_, ?_, ?_, ?_, ?_, ?_⟩, ⟨?_, ?_, ?_, ?_, ?_⟩⟩
  · exact rReg_fr h.reg (by intros; first | rfl | (simp (disch := omega) only [up2_x, upr_x])) (by intros; first | rfl | (simp (disch := omega) only [up2_x, upr_x]))
  · exact rDat_fr h.dat (by intros; first | rfl | (simp (disch := omega) only [up2_x, upr_x])) (by intros; first | rfl | (simp (disch := omega) only [up2_x, upr_x]))
  · exact rStk_fr h.stk (by intros; first | rfl | (simp (disch := omega) only [up2_x, upr_x])) (by intros; first | rfl | (simp (disch := omega) only [up2_x, upr_x]))
  · exact rFlt_fr h.flt (by intros; first | rfl | (simp (disch := omega) only [up2_x, upr_x])) (by intros; first | rfl | (simp (disch := omega) only [up2_x, upr_x]))
  · exact rZn_fr h.zn (by intros; first | rfl | (simp (disch := omega) only [up2_x, upr_x])) (by intros; first | rfl | (simp (disch := omega) only [up2_x, upr_x]))
  · exact rPc_fr h.pc (by intros; first | rfl | (simp (disch := omega) only [up2_x, upr_x])) (by intros; first | rfl | (simp (disch := omega) only [up2_x, upr_x]))
  · exact rSp_fr h.sp (by intros; first | rfl | (simp (disch := omega) only [up2_x, upr_x])) (by intros; first | rfl | (simp (disch := omega) only [up2_x, upr_x]))
  · exact rShu_fr h.shu (by intros; first | rfl | (simp (disch := omega) only [up2_x, upr_x])) (by intros; first | rfl | (simp (disch := omega) only [up2_x, upr_x]))
  · exact rBas_fr h.bas (by intros; first | rfl | (simp (disch := omega) only [up2_x, upr_x])) (by intros; first | rfl | (simp (disch := omega) only [up2_x, upr_x]))
  · exact rFls_fr h.fls (by intros; first | rfl | (simp (disch := omega) only [up2_x, upr_x])) (by intros; first | rfl | (simp (disch := omega) only [up2_x, upr_x]))
  · exact rLaz_fr h.laz (by intros; first | rfl | (simp (disch := omega) only [up2_x, upr_x])) (by intros; first | rfl | (simp (disch := omega) only [up2_x, upr_x]))
  · exact rPh_fr h.ph (by intros; first | rfl | (simp (disch := omega) only [up2_x, upr_x])) (by intros; first | rfl | (simp (disch := omega) only [up2_x, upr_x]))
  · exact rStp_fr h.stp (by intros; first | rfl | (simp (disch := omega) only [up2_x, upr_x])) (by intros; first | rfl | (simp (disch := omega) only [up2_x, upr_x]))
  · exact rStl_fr h.stl (by intros; first | rfl | (simp (disch := omega) only [up2_x, upr_x])) (by intros; first | rfl | (simp (disch := omega) only [up2_x, upr_x]))
  · exact rAsl_fr h.asl (by intros; first | rfl | (simp (disch := omega) only [up2_x, upr_x])) (by intros; first | rfl | (simp (disch := omega) only [up2_x, upr_x]))
  · exact rClk_fr h.clk (by intros; first | rfl | (simp (disch := omega) only [up2_x, upr_x])) (by intros; first | rfl | (simp (disch := omega) only [up2_x, upr_x]))
  · exact rPer_fr h.per (by intros; first | rfl | (simp (disch := omega) only [up2_x, upr_x])) (by intros; first | rfl | (simp (disch := omega) only [up2_x, upr_x]))
  · exact rTim_fr h.tim (by intros; first | rfl | (simp (disch := omega) only [up2_x, upr_x])) (by intros; first | rfl | (simp (disch := omega) only [up2_x, upr_x]))
  · exact rNst_fr h.nst (by intros; first | rfl | (simp (disch := omega) only [up2_x, upr_x])) (by intros; first | rfl | (simp (disch := omega) only [up2_x, upr_x])) (by intros; first | rfl | (simp (disch := omega) only [up2_x, upr_x])) (by intros; first | rfl | (simp (disch := omega) only [up2_x, upr_x])) (by intros; first | rfl | (simp (disch := omega) only [up2_x, upr_x])) (by intros; first | rfl | (simp (disch := omega) only [up2_x, upr_x]))
  · exact rDue_fr h.due (by intros; first | rfl | (simp (disch := omega) only [up2_x, upr_x])) (by intros; first | rfl | (simp (disch := omega) only [up2_x, upr_x])) (by intros; first | rfl | (simp (disch := omega) only [up2_x, upr_x])) (by intros; first | rfl | (simp (disch := omega) only [up2_x, upr_x])) (by intros; first | rfl | (simp (disch := omega) only [up2_x, upr_x]))
  · exact rRnk_fr h.rnk (by intros; first | rfl | (simp (disch := omega) only [up2_x, upr_x])) (by intros; first | rfl | (simp (disch := omega) only [up2_x, upr_x]))
  · exact rVec_fr h.vec (by intros; first | rfl | (simp (disch := omega) only [up2_x, upr_x])) (by intros; first | rfl | (simp (disch := omega) only [up2_x, upr_x]))
  · exact rEna_fr h.ena (by intros; first | rfl | (simp (disch := omega) only [up2_x, upr_x])) (by intros; first | rfl | (simp (disch := omega) only [up2_x, upr_x]))
  · intro j hj
    by_cases e : j = k
    · subst e
      refine Or.inl ⟨?_, ?_⟩
      · simp (disch := omega) only [up2_x, up2_e, upr_x]
      · simp (disch := omega) only [up2_x, up2_e, upr_x]
    · simp (disch := omega) only [up2_x, upr_x]
      exact h.pnd j hj
  · exact rAct_fr h.act (by intros; first | rfl | (simp (disch := omega) only [up2_x, upr_x])) (by intros; first | rfl | (simp (disch := omega) only [up2_x, upr_x])) (by intros; first | rfl | (simp (disch := omega) only [up2_x, upr_x]))
  · exact rHld_fr h.hld (by intros; first | rfl | (simp (disch := omega) only [up2_x, upr_x])) (by intros; first | rfl | (simp (disch := omega) only [up2_x, upr_x]))
  · exact rSpl_fr h.spl (by intros; first | rfl | (simp (disch := omega) only [up2_x, upr_x])) (by intros; first | rfl | (simp (disch := omega) only [up2_x, upr_x]))
  · exact rSta_fr h.sta (by intros; first | rfl | (simp (disch := omega) only [up2_x, upr_x])) (by intros; first | rfl | (simp (disch := omega) only [up2_x, upr_x]))
  · exact rSav_fr h.sav (by intros; first | rfl | (simp (disch := omega) only [up2_x, upr_x])) (by intros; first | rfl | (simp (disch := omega) only [up2_x, upr_x]))
  · exact rUns_fr h.uns (by intros; first | rfl | (simp (disch := omega) only [up2_x, upr_x])) (by intros; first | rfl | (simp (disch := omega) only [up2_x, upr_x])) (by intros; first | rfl | (simp (disch := omega) only [up2_x, upr_x]))
  · exact rCod_fr h.cod (by intros; first | rfl | (simp (disch := omega) only [up2_x, upr_x])) (by intros; first | rfl | (simp (disch := omega) only [up2_x, upr_x]))
  · exact rObs_fr (C := C) (M := M) h.obs (by intros; first | rfl | (simp (disch := omega) only [up2_x, upr_x])) (by intros; first | rfl | (simp (disch := omega) only [up2_x, upr_x]))
  · exact rMdc_fr (C := C) (M := M) h.mdc (by intros; first | rfl | (simp (disch := omega) only [up2_x, upr_x]))
  · exact rCnt_fr h.cnt (by intros; first | rfl | (simp (disch := omega) only [up2_x, upr_x])) (by intros; first | rfl | (simp (disch := omega) only [up2_x, upr_x]))
  · exact rOut_fr h.out (by intros; first | rfl | (simp (disch := omega) only [up2_x, upr_x])) (by intros; first | rfl | (simp (disch := omega) only [up2_x, upr_x])) (by intros; first | rfl | (simp (disch := omega) only [up2_x, upr_x])) (by intros; first | rfl | (simp (disch := omega) only [up2_x, upr_x]))
  · exact rEvt_fr h.evt (by intros; first | rfl | (simp (disch := omega) only [up2_x, upr_x])) (by intros; first | rfl | (simp (disch := omega) only [up2_x, upr_x])) (by intros; first | rfl | (simp (disch := omega) only [up2_x, upr_x])) (by intros; first | rfl | (simp (disch := omega) only [up2_x, upr_x]))
  · exact rWai_fr h.wai (by intros; first | rfl | (simp (disch := omega) only [up2_x, upr_x])) (by intros; first | rfl | (simp (disch := omega) only [up2_x, upr_x]))
  · exact ⟨fun _ _ _ => rfl, fun z => absurd z (by omega)⟩
set_option maxHeartbeats 4000000 in
theorem t_clr0 {c s T E : Nat} {L : List Int32} {C0 M0 C M : Mem} {k : Nat} (hc : c = 9) (hs : s = 4) (h : Top c s T E L C0 M0 C M) (hk : k < 21) (h0 : M s (194 + k) = -1) : Top c s T E L (up2 C (c + 22 + k) 4 0) (M) (up2 C (c + 22 + k) 4 0) (M) := by
  refine ⟨⟨?_, ?_, ?_, ?_, ?_, ?_, ?_, ?_, ?_, ?_, ?_, ?_, ?_, ?_, ?_, ?_, ?_, ?_, ?_, ?_, ?_, ?_, ?_, ?_, ?_, ?_, ?_, ?_, ?_, ?_, ?_, ?_, ?_⟩, ⟨?_, ?_, ?_, ?_, ?_⟩⟩
  · exact rReg_fr h.reg (by intros; first | rfl | (simp (disch := omega) only [up2_x, upr_x])) (by intros; first | rfl | (simp (disch := omega) only [up2_x, upr_x]))
  · exact rDat_fr h.dat (by intros; first | rfl | (simp (disch := omega) only [up2_x, upr_x])) (by intros; first | rfl | (simp (disch := omega) only [up2_x, upr_x]))
  · exact rStk_fr h.stk (by intros; first | rfl | (simp (disch := omega) only [up2_x, upr_x])) (by intros; first | rfl | (simp (disch := omega) only [up2_x, upr_x]))
  · exact rFlt_fr h.flt (by intros; first | rfl | (simp (disch := omega) only [up2_x, upr_x])) (by intros; first | rfl | (simp (disch := omega) only [up2_x, upr_x]))
  · exact rZn_fr h.zn (by intros; first | rfl | (simp (disch := omega) only [up2_x, upr_x])) (by intros; first | rfl | (simp (disch := omega) only [up2_x, upr_x]))
  · exact rPc_fr h.pc (by intros; first | rfl | (simp (disch := omega) only [up2_x, upr_x])) (by intros; first | rfl | (simp (disch := omega) only [up2_x, upr_x]))
  · exact rSp_fr h.sp (by intros; first | rfl | (simp (disch := omega) only [up2_x, upr_x])) (by intros; first | rfl | (simp (disch := omega) only [up2_x, upr_x]))
  · exact rShu_fr h.shu (by intros; first | rfl | (simp (disch := omega) only [up2_x, upr_x])) (by intros; first | rfl | (simp (disch := omega) only [up2_x, upr_x]))
  · exact rBas_fr h.bas (by intros; first | rfl | (simp (disch := omega) only [up2_x, upr_x])) (by intros; first | rfl | (simp (disch := omega) only [up2_x, upr_x]))
  · exact rFls_fr h.fls (by intros; first | rfl | (simp (disch := omega) only [up2_x, upr_x])) (by intros; first | rfl | (simp (disch := omega) only [up2_x, upr_x]))
  · exact rLaz_fr h.laz (by intros; first | rfl | (simp (disch := omega) only [up2_x, upr_x])) (by intros; first | rfl | (simp (disch := omega) only [up2_x, upr_x]))
  · exact rPh_fr h.ph (by intros; first | rfl | (simp (disch := omega) only [up2_x, upr_x])) (by intros; first | rfl | (simp (disch := omega) only [up2_x, upr_x]))
  · exact rStp_fr h.stp (by intros; first | rfl | (simp (disch := omega) only [up2_x, upr_x])) (by intros; first | rfl | (simp (disch := omega) only [up2_x, upr_x]))
  · exact rStl_fr h.stl (by intros; first | rfl | (simp (disch := omega) only [up2_x, upr_x])) (by intros; first | rfl | (simp (disch := omega) only [up2_x, upr_x]))
  · exact rAsl_fr h.asl (by intros; first | rfl | (simp (disch := omega) only [up2_x, upr_x])) (by intros; first | rfl | (simp (disch := omega) only [up2_x, upr_x]))
  · exact rClk_fr h.clk (by intros; first | rfl | (simp (disch := omega) only [up2_x, upr_x])) (by intros; first | rfl | (simp (disch := omega) only [up2_x, upr_x]))
  · exact rPer_fr h.per (by intros; first | rfl | (simp (disch := omega) only [up2_x, upr_x])) (by intros; first | rfl | (simp (disch := omega) only [up2_x, upr_x]))
  · exact rTim_fr h.tim (by intros; first | rfl | (simp (disch := omega) only [up2_x, upr_x])) (by intros; first | rfl | (simp (disch := omega) only [up2_x, upr_x]))
  · exact rNst_fr h.nst (by intros; first | rfl | (simp (disch := omega) only [up2_x, upr_x])) (by intros; first | rfl | (simp (disch := omega) only [up2_x, upr_x])) (by intros; first | rfl | (simp (disch := omega) only [up2_x, upr_x])) (by intros; first | rfl | (simp (disch := omega) only [up2_x, upr_x])) (by intros; first | rfl | (simp (disch := omega) only [up2_x, upr_x])) (by intros; first | rfl | (simp (disch := omega) only [up2_x, upr_x]))
  · exact rDue_fr h.due (by intros; first | rfl | (simp (disch := omega) only [up2_x, upr_x])) (by intros; first | rfl | (simp (disch := omega) only [up2_x, upr_x])) (by intros; first | rfl | (simp (disch := omega) only [up2_x, upr_x])) (by intros; first | rfl | (simp (disch := omega) only [up2_x, upr_x])) (by intros; first | rfl | (simp (disch := omega) only [up2_x, upr_x]))
  · exact rRnk_fr h.rnk (by intros; first | rfl | (simp (disch := omega) only [up2_x, upr_x])) (by intros; first | rfl | (simp (disch := omega) only [up2_x, upr_x]))
  · exact rVec_fr h.vec (by intros; first | rfl | (simp (disch := omega) only [up2_x, upr_x])) (by intros; first | rfl | (simp (disch := omega) only [up2_x, upr_x]))
  · exact rEna_fr h.ena (by intros; first | rfl | (simp (disch := omega) only [up2_x, upr_x])) (by intros; first | rfl | (simp (disch := omega) only [up2_x, upr_x]))
  · intro j hj
    by_cases e : j = k
    · subst e
      refine Or.inl ⟨?_, h0⟩
      simp (disch := omega) only [up2_x, up2_e, upr_x]
    · simp (disch := omega) only [up2_x, upr_x]
      exact h.pnd j hj
  · exact rAct_fr h.act (by intros; first | rfl | (simp (disch := omega) only [up2_x, upr_x])) (by intros; first | rfl | (simp (disch := omega) only [up2_x, upr_x])) (by intros; first | rfl | (simp (disch := omega) only [up2_x, upr_x]))
  · exact rHld_fr h.hld (by intros; first | rfl | (simp (disch := omega) only [up2_x, upr_x])) (by intros; first | rfl | (simp (disch := omega) only [up2_x, upr_x]))
  · exact rSpl_fr h.spl (by intros; first | rfl | (simp (disch := omega) only [up2_x, upr_x])) (by intros; first | rfl | (simp (disch := omega) only [up2_x, upr_x]))
  · exact rSta_fr h.sta (by intros; first | rfl | (simp (disch := omega) only [up2_x, upr_x])) (by intros; first | rfl | (simp (disch := omega) only [up2_x, upr_x]))
  · exact rSav_fr h.sav (by intros; first | rfl | (simp (disch := omega) only [up2_x, upr_x])) (by intros; first | rfl | (simp (disch := omega) only [up2_x, upr_x]))
  · exact rUns_fr h.uns (by intros; first | rfl | (simp (disch := omega) only [up2_x, upr_x])) (by intros; first | rfl | (simp (disch := omega) only [up2_x, upr_x])) (by intros; first | rfl | (simp (disch := omega) only [up2_x, upr_x]))
  · exact rCod_fr h.cod (by intros; first | rfl | (simp (disch := omega) only [up2_x, upr_x])) (by intros; first | rfl | (simp (disch := omega) only [up2_x, upr_x]))
  · exact rObs_fr (C := C) (M := M) h.obs (by intros; first | rfl | (simp (disch := omega) only [up2_x, upr_x])) (by intros; first | rfl | (simp (disch := omega) only [up2_x, upr_x]))
  · exact rMdc_fr (C := C) (M := M) h.mdc (by intros; first | rfl | (simp (disch := omega) only [up2_x, upr_x]))
  · exact rCnt_fr h.cnt (by intros; first | rfl | (simp (disch := omega) only [up2_x, upr_x])) (by intros; first | rfl | (simp (disch := omega) only [up2_x, upr_x]))
  · exact rOut_fr h.out (by intros; first | rfl | (simp (disch := omega) only [up2_x, upr_x])) (by intros; first | rfl | (simp (disch := omega) only [up2_x, upr_x])) (by intros; first | rfl | (simp (disch := omega) only [up2_x, upr_x])) (by intros; first | rfl | (simp (disch := omega) only [up2_x, upr_x]))
  · exact rEvt_fr h.evt (by intros; first | rfl | (simp (disch := omega) only [up2_x, upr_x])) (by intros; first | rfl | (simp (disch := omega) only [up2_x, upr_x])) (by intros; first | rfl | (simp (disch := omega) only [up2_x, upr_x])) (by intros; first | rfl | (simp (disch := omega) only [up2_x, upr_x]))
  · exact rWai_fr h.wai (by intros; first | rfl | (simp (disch := omega) only [up2_x, upr_x])) (by intros; first | rfl | (simp (disch := omega) only [up2_x, upr_x]))
  · exact ⟨fun _ _ _ => rfl, fun z => absurd z (by omega)⟩
theorem s_clear {T E : Nat} {C M : Mem} {x1 : Int32} (hi : Inv T E C M) (hT : T < 2 ^ 30) : OpS (fc_RE_clear x1) (fm_clear x1) T E C M := by
  have h17 := hi.err 0
  obtain ⟨⟨L, h⟩, hb, hq⟩ := hi.err 0
  unfold OpS fc_RE_clear fm_clear
  rw [stp_e, wi, wim, bnd_s, bnd_s]
  generalize up2 M 0 17 0 = M at *
  rcases wth_or x1 (n := 20) (by decide) with z | ⟨z, k, hk, ek⟩
  · rw [show wth x1 0 20 = wth x1 0 (nI 20) from rfl, z, if_pos rfl, if_pos rfl]
    exact ⟨_, _, _, rfl, rfl, h17⟩
  rw [show wth x1 0 20 = wth x1 0 (nI 20) from rfl, z, if_neg (show ¬ (1 : Int32) = 0 by decide), if_neg (show ¬ (1 : Int32) = 0 by decide)]
  subst ek
  rw [l_194, show (215 : Int32) + nI k = nI (215 + k) from nI_add 215 k, inb_nI (show k < 21 by omega) (by decide), inb_nI (show 194 + k < 342 by omega) (by decide), inb_nI (show 215 + k < 342 by omega) (by decide), nI_clamp (show k < 2 ^ 31 by omega), nI_clamp (show 194 + k < 2 ^ 31 by omega), nI_clamp (show 215 + k < 2 ^ 31 by omega)]
  simp only [gd_t, stp_e]
  unfold fv_drops fc_RE_clear_29 fc_RE_clear_30
  rw [cS_k (Or.inl rfl) (show k < 21 by omega)]
  -- the plain drop
  have plain : M 4 (215 + k) = 0 → ∃ r C' M', fc_Src_drops (9 + 22 + k) C = some (r, C') ∧ (if M 4 (194 + k) < 0 then fm_clear_42 M else if M 4 (215 + k) = 1 then fm_clear_42 M else some (1, up2 M 4 (194 + k) (-1))) = some (r, M') ∧ Inv T E C' M' ∧ (r = 0 ∨ r = 1) := by
    intro h0
    unfold fc_Src_drops fm_clear_42
    rcases h.pnd k (by omega) with ⟨p1, p2⟩ | ⟨p1, w, hw, p2, p3⟩
    · rw [p1, p2, if_pos (by decide), stp_e, isB_0, gd_t]
      exact ⟨_, _, _, rfl, rfl, ⟨⟨_, t_clr0 rfl rfl h (by omega) p2⟩, Bd_fr hb (by first | rfl | simp (disch := omega) only [up2_x, upr_x]) (by first | rfl | simp (disch := omega) only [up2_x, upr_x]) (by first | rfl | simp (disch := omega) only [up2_x, upr_x]), by obtain ⟨q, q1, q2⟩ := hq; exact ⟨q, q1, by first | exact q2 | (simp (disch := omega) only [up2_x, upr_x]; exact q2)⟩⟩, Or.inl rfl⟩
    · rw [p1, p3, if_neg (nI_pos (show w < 2 ^ 31 by omega)), h0, if_neg (show ¬ (0 : Int32) = 1 by decide), stp_e, isB_1, gd_t]
      exact ⟨_, _, _, rfl, rfl, ⟨⟨_, t_clr rfl rfl h (by omega)⟩, Bd_fr hb (by first | rfl | simp (disch := omega) only [up2_x, upr_x]) (by first | rfl | simp (disch := omega) only [up2_x, upr_x]) (by first | rfl | simp (disch := omega) only [up2_x, upr_x]), by obtain ⟨q, q1, q2⟩ := hq; exact ⟨q, q1, by first | exact q2 | (simp (disch := omega) only [up2_x, upr_x]; exact q2)⟩⟩, Or.inr rfl⟩
  by_cases hl : 8 ≤ k ∧ k < 16
  · rw [if_pos hl]
    unfold fc_Lev_drops fc_Lev_drops_18 fc_Lev_drops_19
    obtain ⟨d1, d2⟩ := (h.hld k (by omega)).1 hl
    rcases isB_or d2 with z | z
    · rw [z] at d1
      obtain ⟨r, C', M', a1, a2, a3, a4⟩ := plain d1.symm
      rw [if_pos z, a1, a2, bnd_s]
      rcases a4 with rfl | rfl
      · rw [if_pos rfl, isB_0, gd_t, bnd_s, if_pos rfl]
        exact ⟨_, _, _, rfl, rfl, a3⟩
      · rw [if_neg (show ¬ (1 : Int32) = 0 by decide), isB_1, gd_t, bnd_s, if_neg (show ¬ (1 : Int32) = 0 by decide)]
        exact ⟨_, _, _, rfl, rfl, a3⟩
    · rw [if_neg (show ¬ C (9 + 22 + k) 9 = 0 by rw [z]; decide), isB_0, gd_t, bnd_s, if_pos rfl, ← d1, z, if_pos rfl]
      unfold fm_clear_42
      refine ⟨0, C, M, rfl, ?_, h17⟩
      split <;> rfl
  · rw [if_neg hl]
    obtain ⟨r, C', M', a1, a2, a3, a4⟩ := plain ((h.hld k (by omega)).2 hl)
    rw [a1, a2, bnd_s]
    rcases a4 with rfl | rfl
    · rw [if_pos rfl, isB_0, gd_t]
      exact ⟨_, _, _, rfl, rfl, a3⟩
    · rw [if_neg (show ¬ (1 : Int32) = 0 by decide), isB_1, gd_t]
      exact ⟨_, _, _, rfl, rfl, a3⟩
theorem s_code {T E : Nat} {C M : Mem} {x1 : Int32} (hi : Inv T E C M) : OpS (fc_RE_code x1) (fm_code x1) T E C M := by
  have h17 := hi.err 0
  obtain ⟨⟨L, h⟩, hb, hq⟩ := hi.err 0
  unfold OpS fc_RE_code fm_code
  rw [stp_e, wi, wim, bnd_s, bnd_s]
  generalize up2 M 0 17 0 = M at *
  rcases wth_or x1 (n := 511) (by decide) with z | ⟨z, k, hk, ek⟩
  · rw [show wth x1 0 511 = wth x1 0 (nI 511) from rfl, z, if_pos rfl, if_pos rfl]
    exact ⟨_, _, _, rfl, rfl, h17⟩
  rw [show wth x1 0 511 = wth x1 0 (nI 511) from rfl, z, if_neg (show ¬ (1 : Int32) = 0 by decide), if_neg (show ¬ (1 : Int32) = 0 by decide)]
  subst ek
  obtain ⟨b, hb', b1, b2⟩ := code_at h (show k < 2 ^ 31 by omega)
  rw [Nat.mod_eq_of_lt (show k < 512 by omega)] at b2
  unfold fc_RE_code_23 fm_code_26
  rw [b1, bnd_s, inb_nI (show k < 512 by omega) (by decide), gd_t, nI_clamp (show k < 2 ^ 31 by omega), b2]
  exact ⟨_, _, _, rfl, rfl, h17⟩
theorem s_goesOn {T E : Nat} {C M : Mem} (hi : Inv T E C M) (hT : T + 1 < 2 ^ 29) (hE : E < 2 ^ 28) : ∃ C' M', fc_Core_cycle 9 C = some ((), C') ∧ fm_goesOn M = some ((), M') ∧ Inv (T + 1) (E + 3) C' M' ∧ C' 9 52 = M' 0 16 := by
  obtain ⟨⟨L, h⟩, hb, q, q1, q2⟩ := hi
  have t1 := t_md2 (v := 1) (w := 0) rfl rfl h
  obtain ⟨C', M', L', a1, a2, a3, a4, a5, -, -⟩ := sim_cycle (Or.inl ⟨rfl, rfl⟩) t1 ⟨fun _ => by simp (disch := omega) only [up2_x, up2_e, upr_x], fun z => absurd z (by decide)⟩ (by rw [(t1.mdc.1 rfl).2.1]; simp (disch := omega) only [up2_x, up2_e, upr_x]) hT hE (Bd_fr hb rfl rfl (by simp (disch := omega) only [up2_x, upr_x]))
  unfold fm_goesOn
  rw [stp_e, stp_e, a2, bnd_s]
  exact ⟨C', M', a1, rfl, ⟨⟨L', a3.own⟩, a5, q, by omega, by rw [a3.frm.1 52 50 (by omega)]; exact q2⟩, a4.2.2⟩
theorem ph5 {T E : Nat} {C M : Mem} (hi : Inv T E C M) : C 9 41 = M 4 20 := by
  obtain ⟨⟨L, h⟩, -⟩ := hi
  exact h.ph.1.eq
theorem run_s {n : Nat} {a b : Int32} {C : Mem} : fc_RE_run_15 (n + 1) a b C = fc_RE_run_15b (fc_RE_run_15 n) a b C := rfl
theorem mrun_s {n : Nat} {a b : Int32} {C : Mem} : fm_run_20 (n + 1) a b C = fm_run_20b (fm_run_20 n) a b C := rfl
theorem run_loop {k : Nat} (hk : k ≤ 200) : ∀ (d n m i T E : Nat) (C M : Mem), i + d = k → Inv T E C M → T + d < 2 ^ 29 → E + 3 * d < 2 ^ 28 → ∃ r C' M', fc_RE_run_15 (n + d + 1) (nI k) (nI i) C = some (r, C') ∧ fm_run_20 (m + d + 1) (nI k) (nI i) M = some (r, M') ∧ Inv (T + d) (E + 3 * d) C' M' := by
  intro d
  induction d with
  | zero =>
    intro n m i T E C M hd hi hT hE
    rw [run_s, mrun_s]
    unfold fc_RE_run_15b fm_run_20b fc_RE_run_44 fm_run_46
    have ei : i = k := by omega
    subst ei
    rw [if_pos (show nI i ≤ nI i from i32_le.mpr (Int.le_refl _)), if_pos (show nI i ≤ nI i from i32_le.mpr (Int.le_refl _))]
    exact ⟨_, _, _, rfl, rfl, hi⟩
  | succ d ih =>
    intro n m i T E C M hd hi hT hE
    rw [run_s, mrun_s]
    unfold fc_RE_run_15b fm_run_20b fc_RE_run_44 fm_run_46
    rw [if_neg (show ¬ nI k ≤ nI i from nI_ge (by omega) (by omega)), if_neg (show ¬ nI k ≤ nI i from nI_ge (by omega) (by omega)), ← ph5 hi]
    by_cases h5 : C 9 41 = 5
    · rw [if_pos h5, if_pos h5]
      exact ⟨_, _, _, rfl, rfl, hi.mono (by omega) (by omega)⟩
    · rw [if_neg h5, if_neg h5]
      obtain ⟨C', M', a1, a2, a3, -⟩ := s_goesOn hi (by omega) (by omega)
      rw [a1, a2, bnd_s, bnd_s, nI_1]
      obtain ⟨r, C2, M2, b1, b2, b3⟩ := ih n m (i + 1) (T + 1) (E + 3) C' M' (by omega) a3 (by omega) (by omega)
      exact ⟨r, C2, M2, b1, b2, b3.mono (by omega) (by omega)⟩
theorem s_run {T E : Nat} {C M : Mem} {x1 : Int32} (hi : Inv T E C M) (hT : T + 400 < 2 ^ 29) (hE : E + 1000 < 2 ^ 28) : OpS (fc_RE_run x1) (fm_run x1) (T + 400) (E + 1000) C M := by
  have h17 := hi.err 0
  obtain ⟨⟨L, h⟩, hb, hq⟩ := hi.err 0
  unfold OpS fc_RE_run fm_run
  rw [stp_e, wi, wim, bnd_s, bnd_s]
  generalize up2 M 0 17 0 = M at *
  rcases wth_or1 x1 (n := 200) (by decide) with z | ⟨z, k, hk0, hk, ek⟩
  · rw [show wth x1 1 200 = wth x1 1 (nI 200) from rfl, z, if_pos rfl, if_pos rfl]
    exact ⟨_, _, _, rfl, rfl, h17.mono (by omega) (by omega)⟩
  rw [show wth x1 1 200 = wth x1 1 (nI 200) from rfl, z, if_neg (show ¬ (1 : Int32) = 0 by decide), if_neg (show ¬ (1 : Int32) = 0 by decide)]
  subst ek
  obtain ⟨r, C', M', b1, b2, b3⟩ := run_loop hk k (304 - k) (599 - k) 0 T E C M (by omega) h17 (by omega) (by omega)
  rw [show 304 - k + k + 1 = 305 by omega] at b1
  rw [show 599 - k + k + 1 = 600 by omega] at b2
  exact ⟨r, C', M', b1, b2, b3.mono (by omega) (by omega)⟩
theorem goes_s {c n : Nat} {a b : Int32} {C : Mem} : fc_RE_goes_2 c (n + 1) a b C = fc_RE_goes_2b c (fc_RE_goes_2 c n) a b C := rfl
theorem till_s {n : Nat} {a b : Int32} {C : Mem} : fm_till_19 (n + 1) a b C = fm_till_19b (fm_till_19 n) a b C := rfl
theorem till_loop {x : Int32} : ∀ (d n m i T E : Nat) (C M : Mem), i + d = 301 → Inv T E C M → T + d < 2 ^ 29 → E + 3 * d < 2 ^ 28 → ∃ r C' M', fc_RE_goes_2 9 (n + d + 1) x (nI i) C = some (r, C') ∧ fm_till_19 (m + d + 1) x (nI i) M = some (r, M') ∧ Inv (T + d) (E + 3 * d) C' M' := by
  intro d
  induction d with
  | zero =>
    intro n m i T E C M hd hi hT hE
    rw [goes_s, till_s]
    unfold fc_RE_goes_2b fm_till_19b fc_RE_goes_37 fm_till_57
    have ei : i = 301 := by omega
    subst ei
    rw [if_pos (show (300 : Int32) < nI 301 by decide), if_pos (show (300 : Int32) < nI 301 by decide)]
    exact ⟨_, _, _, rfl, rfl, hi⟩
  | succ d ih =>
    intro n m i T E C M hd hi hT hE
    rw [goes_s, till_s]
    unfold fc_RE_goes_2b fm_till_19b fc_RE_goes_37 fm_till_57
    rw [if_neg (show ¬ (300 : Int32) < nI i from nI_nlt (a := 300) (by omega) (by decide)), if_neg (show ¬ (300 : Int32) < nI i from nI_nlt (a := 300) (by omega) (by decide)), ← ph5 hi]
    by_cases h5 : C 9 41 = 5
    · rw [if_pos h5, if_pos h5]
      exact ⟨_, _, _, rfl, rfl, hi.mono (by omega) (by omega)⟩
    · rw [if_neg h5, if_neg h5]
      obtain ⟨C', M', a1, a2, a3, a4⟩ := s_goesOn hi (by omega) (by omega)
      rw [a1, a2, bnd_s, bnd_s, a4]
      by_cases hx : M' 0 16 = x
      · rw [if_pos hx, if_pos hx]
        exact ⟨_, _, _, rfl, rfl, a3.mono (by omega) (by omega)⟩
      · rw [if_neg hx, if_neg hx, nI_1]
        obtain ⟨r, C2, M2, b1, b2, b3⟩ := ih n m (i + 1) (T + 1) (E + 3) C' M' (by omega) a3 (by omega) (by omega)
        exact ⟨r, C2, M2, b1, b2, b3.mono (by omega) (by omega)⟩
theorem s_till {T E : Nat} {C M : Mem} {x1 : Int32} (hi : Inv T E C M) (hT : T + 400 < 2 ^ 29) (hE : E + 1000 < 2 ^ 28) : OpS (fc_RE_till x1) (fm_till x1) (T + 400) (E + 1000) C M := by
  have h17 := hi.err 0
  obtain ⟨⟨L, h⟩, hb, hq⟩ := hi.err 0
  unfold OpS fc_RE_till fm_till
  rw [stp_e, wi, wim, bnd_s, bnd_s]
  generalize up2 M 0 17 0 = M at *
  rcases wth_or x1 (n := 20) (by decide) with z | ⟨z, k, hk, ek⟩
  · rw [show wth x1 0 20 = wth x1 0 (nI 20) from rfl, z, if_pos rfl, if_pos rfl]
    exact ⟨_, _, _, rfl, rfl, h17.mono (by omega) (by omega)⟩
  rw [show wth x1 0 20 = wth x1 0 (nI 20) from rfl, z, if_neg (show ¬ (1 : Int32) = 0 by decide), if_neg (show ¬ (1 : Int32) = 0 by decide)]
  subst ek
  obtain ⟨r, C', M', b1, b2, b3⟩ := till_loop (x := nI k) 300 4 299 1 T E C M (by omega) h17 (by omega) (by omega)
  unfold fc_RE_goes fc_RE_till_22
  rw [show fc_RE_goes_2 9 305 (nI k) 1 C = fc_RE_goes_2 9 (4 + 300 + 1) (nI k) (nI 1) C from rfl, b1, bnd_s]
  exact ⟨r, C', M', rfl, b2, b3.mono (by omega) (by omega)⟩
