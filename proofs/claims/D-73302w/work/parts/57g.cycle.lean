/-! THE CYCLE -/
set_option maxHeartbeats 4000000 in
theorem top_left {c s T E : Nat} {L : List Int32} {C0 M0 C M : Mem} {e l : Nat} (hcs : cs c s) (h : Top c s T E L C0 M0 C M) (hm : Md c C M) (he : C c 40 = nI e) (h32 : e ≤ 32) (hl : l ≤ e) : Top c s T E L C0 M0 (up2 C c 40 (nI l)) (up2 M s 31 (nI l)) ∧ Md c (up2 C c 40 (nI l)) (up2 M s 31 (nI l)) := by
  refine ⟨?_, ?_⟩
  · refine ⟨⟨?_, ?_, ?_, ?_, ?_, ?_, ?_, ?_, ?_, ?_, ?_, ?_, ?_, ?_, ?_, ?_, ?_, ?_, ?_, ?_, ?_, ?_, ?_, ?_, ?_, ?_, ?_, ?_, ?_, ?_, ?_, ?_, ?_⟩, ⟨?_, ?_, ?_, ?_, ?_⟩⟩
    · exact rReg_fr h.reg (by intros; first | rfl | (simp (disch := omega) only [up2_x, upr_x])) (by intros; first | rfl | (simp (disch := omega) only [up2_x, upr_x]))
    · exact rDat_fr h.dat (by intros; first | rfl | (simp (disch := omega) only [up2_x, upr_x])) (by intros; first | rfl | (simp (disch := omega) only [up2_x, upr_x]))
    · exact rStk_fr h.stk (by intros; first | rfl | (simp (disch := omega) only [up2_x, upr_x])) (by intros; first | rfl | (simp (disch := omega) only [up2_x, upr_x]))
    · exact rFlt_fr h.flt (by intros; first | rfl | (simp (disch := omega) only [up2_x, upr_x])) (by intros; first | rfl | (simp (disch := omega) only [up2_x, upr_x]))
    · exact rZn_fr h.zn (by intros; first | rfl | (simp (disch := omega) only [up2_x, upr_x])) (by intros; first | rfl | (simp (disch := omega) only [up2_x, upr_x]))
    · exact rPc_fr h.pc (by intros; first | rfl | (simp (disch := omega) only [up2_x, upr_x])) (by intros; first | rfl | (simp (disch := omega) only [up2_x, upr_x]))
    · exact rSp_fr h.sp (by intros; first | rfl | (simp (disch := omega) only [up2_x, upr_x])) (by intros; first | rfl | (simp (disch := omega) only [up2_x, upr_x]))
    · exact rShu_fr h.shu (by intros; first | rfl | (simp (disch := omega) only [up2_x, upr_x])) (by intros; first | rfl | (simp (disch := omega) only [up2_x, upr_x]))
    · exact rBas_fr h.bas (by intros; first | rfl | (simp (disch := omega) only [up2_x, upr_x])) (by intros; first | rfl | (simp (disch := omega) only [up2_x, upr_x]))
    · exact rFls_fr h.fls (by intros; first | rfl | (simp (disch := omega) only [up2_x, upr_x])) (by intros; first | rfl | (simp (disch := omega) only [up2_x, upr_x]))
    · exact rLaz_fr h.laz (by intros; first | rfl | (simp (disch := omega) only [up2_x, upr_x])) (by intros; first | rfl | (simp (disch := omega) only [up2_x, upr_x]))
    · exact rPh_fr h.ph (by intros; first | rfl | (simp (disch := omega) only [up2_x, upr_x])) (by intros; first | rfl | (simp (disch := omega) only [up2_x, upr_x]))
    · exact rStp_fr h.stp (by intros; first | rfl | (simp (disch := omega) only [up2_x, upr_x])) (by intros; first | rfl | (simp (disch := omega) only [up2_x, upr_x]))
    · exact rStl_fr h.stl (by intros; first | rfl | (simp (disch := omega) only [up2_x, upr_x])) (by intros; first | rfl | (simp (disch := omega) only [up2_x, upr_x]))
    · exact rAsl_fr h.asl (by intros; first | rfl | (simp (disch := omega) only [up2_x, upr_x])) (by intros; first | rfl | (simp (disch := omega) only [up2_x, upr_x]))
    · exact rClk_fr h.clk (by intros; first | rfl | (simp (disch := omega) only [up2_x, upr_x])) (by intros; first | rfl | (simp (disch := omega) only [up2_x, upr_x]))
    · exact rPer_fr h.per (by intros; first | rfl | (simp (disch := omega) only [up2_x, upr_x])) (by intros; first | rfl | (simp (disch := omega) only [up2_x, upr_x]))
    · exact rTim_fr h.tim (by intros; first | rfl | (simp (disch := omega) only [up2_x, upr_x])) (by intros; first | rfl | (simp (disch := omega) only [up2_x, upr_x]))
    · exact rNst_fr h.nst (by intros; first | rfl | (simp (disch := omega) only [up2_x, upr_x])) (by intros; first | rfl | (simp (disch := omega) only [up2_x, upr_x])) (by intros; first | rfl | (simp (disch := omega) only [up2_x, upr_x])) (by intros; first | rfl | (simp (disch := omega) only [up2_x, upr_x])) (by intros; first | rfl | (simp (disch := omega) only [up2_x, upr_x])) (by intros; first | rfl | (simp (disch := omega) only [up2_x, upr_x]))
    · obtain ⟨e', a1, a2, a3, a4⟩ := h.due
      have ee : e' = e := (nI_eq (by omega) (by omega)).mp (a2.symm.trans he)
      subst ee
      refine ⟨l, by omega, ?_, ?_, fun j hj => ?_⟩
      · simp (disch := omega) only [up2_x, up2_e, upr_x]
      · simp (disch := omega) only [up2_x, up2_e, upr_x]
      · simp (disch := omega) only [up2_x, upr_x]
        exact a4 j (by omega)
    · exact rRnk_fr h.rnk (by intros; first | rfl | (simp (disch := omega) only [up2_x, upr_x])) (by intros; first | rfl | (simp (disch := omega) only [up2_x, upr_x]))
    · exact rVec_fr h.vec (by intros; first | rfl | (simp (disch := omega) only [up2_x, upr_x])) (by intros; first | rfl | (simp (disch := omega) only [up2_x, upr_x]))
    · exact rEna_fr h.ena (by intros; first | rfl | (simp (disch := omega) only [up2_x, upr_x])) (by intros; first | rfl | (simp (disch := omega) only [up2_x, upr_x]))
    · exact rPnd_fr h.pnd (by intros; first | rfl | (simp (disch := omega) only [up2_x, upr_x])) (by intros; first | rfl | (simp (disch := omega) only [up2_x, upr_x]))
    · exact rAct_fr h.act (by intros; first | rfl | (simp (disch := omega) only [up2_x, upr_x])) (by intros; first | rfl | (simp (disch := omega) only [up2_x, upr_x])) (by intros; first | rfl | (simp (disch := omega) only [up2_x, upr_x]))
    · exact rHld_fr h.hld (by intros; first | rfl | (simp (disch := omega) only [up2_x, upr_x])) (by intros; first | rfl | (simp (disch := omega) only [up2_x, upr_x]))
    · exact rSpl_fr h.spl (by intros; first | rfl | (simp (disch := omega) only [up2_x, upr_x])) (by intros; first | rfl | (simp (disch := omega) only [up2_x, upr_x]))
    · exact rSta_fr h.sta (by intros; first | rfl | (simp (disch := omega) only [up2_x, upr_x])) (by intros; first | rfl | (simp (disch := omega) only [up2_x, upr_x]))
    · exact rSav_fr h.sav (by intros; first | rfl | (simp (disch := omega) only [up2_x, upr_x])) (by intros; first | rfl | (simp (disch := omega) only [up2_x, upr_x]))
    · exact rUns_fr h.uns (by intros; first | rfl | (simp (disch := omega) only [up2_x, upr_x])) (by intros; first | rfl | (simp (disch := omega) only [up2_x, upr_x])) (by intros; first | rfl | (simp (disch := omega) only [up2_x, upr_x]))
    · exact rCod_fr h.cod (by intros; first | rfl | (simp (disch := omega) only [up2_x, upr_x])) (by intros; first | rfl | (simp (disch := omega) only [up2_x, upr_x]))
    · exact rObs_fr (C := C) (M := M) h.obs (by intros; first | rfl | (simp (disch := omega) only [up2_x, upr_x])) (by intros; first | rfl | (simp (disch := omega) only [up2_x, upr_x]))
    · exact rMdc_fr (C := C) (M := M) h.mdc (by intros; first | rfl | (simp (disch := omega) only [up2_x, upr_x]))
    · exact rCnt_fr h.cnt (by intros; first | rfl | (simp (disch := omega) only [up2_x, upr_x])) (by intros; first | rfl | (simp (disch := omega) only [up2_x, upr_x]))
    · exact rOut_fr h.out (by intros; first | rfl | (simp (disch := omega) only [up2_x, upr_x])) (by intros; first | rfl | (simp (disch := omega) only [up2_x, upr_x])) (by intros; first | rfl | (simp (disch := omega) only [up2_x, upr_x])) (by intros; first | rfl | (simp (disch := omega) only [up2_x, upr_x]))
    · exact rEvt_fr h.evt (by intros; first | rfl | (simp (disch := omega) only [up2_x, upr_x])) (by intros; first | rfl | (simp (disch := omega) only [up2_x, upr_x])) (by intros; first | rfl | (simp (disch := omega) only [up2_x, upr_x])) (by intros; first | rfl | (simp (disch := omega) only [up2_x, upr_x]))
    · exact rWai_fr h.wai (by intros; first | rfl | (simp (disch := omega) only [up2_x, upr_x])) (by intros; first | rfl | (simp (disch := omega) only [up2_x, upr_x]))
    · exact rFrm_fr h.frm (by intros; first | rfl | (simp (disch := omega) only [up2_x, upr_x])) (by intros; first | rfl | (simp (disch := omega) only [up2_x, upr_x]))
  · exact Md_fr hm (by first | rfl | simp (disch := omega) only [up2_x, upr_x]) (by first | rfl | simp (disch := omega) only [up2_x, upr_x]) (by first | rfl | simp (disch := omega) only [up2_x, upr_x]) (by first | rfl | simp (disch := omega) only [up2_x, upr_x]) (by first | rfl | simp (disch := omega) only [up2_x, upr_x])
set_option maxHeartbeats 4000000 in
theorem top_move {c s T E : Nat} {L : List Int32} {C0 M0 C M : Mem} {e i l : Nat} (hcs : cs c s) (h : Top c s T E L C0 M0 C M) (hm : Md c C M) (he : C c 40 = nI e) (h32 : e ≤ 32) (hi : i < e) (hl : l ≤ i) : Top c s T E L C0 M0 (up2 (up2 C (c + 7) l (C (c + 7) i)) (c + 8) l (C (c + 8) i)) (up2 (up2 M s (236 + l) (M s (236 + i))) s (268 + l) (M s (268 + i))) ∧ Md c (up2 (up2 C (c + 7) l (C (c + 7) i)) (c + 8) l (C (c + 8) i)) (up2 (up2 M s (236 + l) (M s (236 + i))) s (268 + l) (M s (268 + i))) := by
  refine ⟨?_, ?_⟩
  · refine ⟨⟨?_, ?_, ?_, ?_, ?_, ?_, ?_, ?_, ?_, ?_, ?_, ?_, ?_, ?_, ?_, ?_, ?_, ?_, ?_, ?_, ?_, ?_, ?_, ?_, ?_, ?_, ?_, ?_, ?_, ?_, ?_, ?_, ?_⟩, ⟨?_, ?_, ?_, ?_, ?_⟩⟩
    · exact rReg_fr h.reg (by intros; first | rfl | (simp (disch := omega) only [up2_x, upr_x])) (by intros; first | rfl | (simp (disch := omega) only [up2_x, upr_x]))
    · exact rDat_fr h.dat (by intros; first | rfl | (simp (disch := omega) only [up2_x, upr_x])) (by intros; first | rfl | (simp (disch := omega) only [up2_x, upr_x]))
    · exact rStk_fr h.stk (by intros; first | rfl | (simp (disch := omega) only [up2_x, upr_x])) (by intros; first | rfl | (simp (disch := omega) only [up2_x, upr_x]))
    · exact rFlt_fr h.flt (by intros; first | rfl | (simp (disch := omega) only [up2_x, upr_x])) (by intros; first | rfl | (simp (disch := omega) only [up2_x, upr_x]))
    · exact rZn_fr h.zn (by intros; first | rfl | (simp (disch := omega) only [up2_x, upr_x])) (by intros; first | rfl | (simp (disch := omega) only [up2_x, upr_x]))
    · exact rPc_fr h.pc (by intros; first | rfl | (simp (disch := omega) only [up2_x, upr_x])) (by intros; first | rfl | (simp (disch := omega) only [up2_x, upr_x]))
    · exact rSp_fr h.sp (by intros; first | rfl | (simp (disch := omega) only [up2_x, upr_x])) (by intros; first | rfl | (simp (disch := omega) only [up2_x, upr_x]))
    · exact rShu_fr h.shu (by intros; first | rfl | (simp (disch := omega) only [up2_x, upr_x])) (by intros; first | rfl | (simp (disch := omega) only [up2_x, upr_x]))
    · exact rBas_fr h.bas (by intros; first | rfl | (simp (disch := omega) only [up2_x, upr_x])) (by intros; first | rfl | (simp (disch := omega) only [up2_x, upr_x]))
    · exact rFls_fr h.fls (by intros; first | rfl | (simp (disch := omega) only [up2_x, upr_x])) (by intros; first | rfl | (simp (disch := omega) only [up2_x, upr_x]))
    · exact rLaz_fr h.laz (by intros; first | rfl | (simp (disch := omega) only [up2_x, upr_x])) (by intros; first | rfl | (simp (disch := omega) only [up2_x, upr_x]))
    · exact rPh_fr h.ph (by intros; first | rfl | (simp (disch := omega) only [up2_x, upr_x])) (by intros; first | rfl | (simp (disch := omega) only [up2_x, upr_x]))
    · exact rStp_fr h.stp (by intros; first | rfl | (simp (disch := omega) only [up2_x, upr_x])) (by intros; first | rfl | (simp (disch := omega) only [up2_x, upr_x]))
    · exact rStl_fr h.stl (by intros; first | rfl | (simp (disch := omega) only [up2_x, upr_x])) (by intros; first | rfl | (simp (disch := omega) only [up2_x, upr_x]))
    · exact rAsl_fr h.asl (by intros; first | rfl | (simp (disch := omega) only [up2_x, upr_x])) (by intros; first | rfl | (simp (disch := omega) only [up2_x, upr_x]))
    · exact rClk_fr h.clk (by intros; first | rfl | (simp (disch := omega) only [up2_x, upr_x])) (by intros; first | rfl | (simp (disch := omega) only [up2_x, upr_x]))
    · exact rPer_fr h.per (by intros; first | rfl | (simp (disch := omega) only [up2_x, upr_x])) (by intros; first | rfl | (simp (disch := omega) only [up2_x, upr_x]))
    · exact rTim_fr h.tim (by intros; first | rfl | (simp (disch := omega) only [up2_x, upr_x])) (by intros; first | rfl | (simp (disch := omega) only [up2_x, upr_x]))
    · exact rNst_fr h.nst (by intros; first | rfl | (simp (disch := omega) only [up2_x, upr_x])) (by intros; first | rfl | (simp (disch := omega) only [up2_x, upr_x])) (by intros; first | rfl | (simp (disch := omega) only [up2_x, upr_x])) (by intros; first | rfl | (simp (disch := omega) only [up2_x, upr_x])) (by intros; first | rfl | (simp (disch := omega) only [up2_x, upr_x])) (by intros; first | rfl | (simp (disch := omega) only [up2_x, upr_x]))
    · obtain ⟨e', a1, a2, a3, a4⟩ := h.due
      have ee : e' = e := (nI_eq (by omega) (by omega)).mp (a2.symm.trans he)
      subst ee
      refine ⟨e', a1, ?_, ?_, fun j hj => ?_⟩
      · simp (disch := omega) only [up2_x, upr_x]; exact a2
      · simp (disch := omega) only [up2_x, upr_x]; exact a3
      · by_cases z : j = l
        · subst z
          simp (disch := omega) only [up2_x, up2_e, upr_x]
          exact a4 i hi
        · simp (disch := omega) only [up2_x, upr_x]
          exact a4 j hj
    · exact rRnk_fr h.rnk (by intros; first | rfl | (simp (disch := omega) only [up2_x, upr_x])) (by intros; first | rfl | (simp (disch := omega) only [up2_x, upr_x]))
    · exact rVec_fr h.vec (by intros; first | rfl | (simp (disch := omega) only [up2_x, upr_x])) (by intros; first | rfl | (simp (disch := omega) only [up2_x, upr_x]))
    · exact rEna_fr h.ena (by intros; first | rfl | (simp (disch := omega) only [up2_x, upr_x])) (by intros; first | rfl | (simp (disch := omega) only [up2_x, upr_x]))
    · exact rPnd_fr h.pnd (by intros; first | rfl | (simp (disch := omega) only [up2_x, upr_x])) (by intros; first | rfl | (simp (disch := omega) only [up2_x, upr_x]))
    · exact rAct_fr h.act (by intros; first | rfl | (simp (disch := omega) only [up2_x, upr_x])) (by intros; first | rfl | (simp (disch := omega) only [up2_x, upr_x])) (by intros; first | rfl | (simp (disch := omega) only [up2_x, upr_x]))
    · exact rHld_fr h.hld (by intros; first | rfl | (simp (disch := omega) only [up2_x, upr_x])) (by intros; first | rfl | (simp (disch := omega) only [up2_x, upr_x]))
    · exact rSpl_fr h.spl (by intros; first | rfl | (simp (disch := omega) only [up2_x, upr_x])) (by intros; first | rfl | (simp (disch := omega) only [up2_x, upr_x]))
    · exact rSta_fr h.sta (by intros; first | rfl | (simp (disch := omega) only [up2_x, upr_x])) (by intros; first | rfl | (simp (disch := omega) only [up2_x, upr_x]))
    · exact rSav_fr h.sav (by intros; first | rfl | (simp (disch := omega) only [up2_x, upr_x])) (by intros; first | rfl | (simp (disch := omega) only [up2_x, upr_x]))
    · exact rUns_fr h.uns (by intros; first | rfl | (simp (disch := omega) only [up2_x, upr_x])) (by intros; first | rfl | (simp (disch := omega) only [up2_x, upr_x])) (by intros; first | rfl | (simp (disch := omega) only [up2_x, upr_x]))
    · exact rCod_fr h.cod (by intros; first | rfl | (simp (disch := omega) only [up2_x, upr_x])) (by intros; first | rfl | (simp (disch := omega) only [up2_x, upr_x]))
    · exact rObs_fr (C := C) (M := M) h.obs (by intros; first | rfl | (simp (disch := omega) only [up2_x, upr_x])) (by intros; first | rfl | (simp (disch := omega) only [up2_x, upr_x]))
    · exact rMdc_fr (C := C) (M := M) h.mdc (by intros; first | rfl | (simp (disch := omega) only [up2_x, upr_x]))
    · exact rCnt_fr h.cnt (by intros; first | rfl | (simp (disch := omega) only [up2_x, upr_x])) (by intros; first | rfl | (simp (disch := omega) only [up2_x, upr_x]))
    · exact rOut_fr h.out (by intros; first | rfl | (simp (disch := omega) only [up2_x, upr_x])) (by intros; first | rfl | (simp (disch := omega) only [up2_x, upr_x])) (by intros; first | rfl | (simp (disch := omega) only [up2_x, upr_x])) (by intros; first | rfl | (simp (disch := omega) only [up2_x, upr_x]))
    · exact rEvt_fr h.evt (by intros; first | rfl | (simp (disch := omega) only [up2_x, upr_x])) (by intros; first | rfl | (simp (disch := omega) only [up2_x, upr_x])) (by intros; first | rfl | (simp (disch := omega) only [up2_x, upr_x])) (by intros; first | rfl | (simp (disch := omega) only [up2_x, upr_x]))
    · exact rWai_fr h.wai (by intros; first | rfl | (simp (disch := omega) only [up2_x, upr_x])) (by intros; first | rfl | (simp (disch := omega) only [up2_x, upr_x]))
    · exact rFrm_fr h.frm (by intros; first | rfl | (simp (disch := omega) only [up2_x, upr_x])) (by intros; first | rfl | (simp (disch := omega) only [up2_x, upr_x]))
  · exact Md_fr hm (by first | rfl | simp (disch := omega) only [up2_x, upr_x]) (by first | rfl | simp (disch := omega) only [up2_x, upr_x]) (by first | rfl | simp (disch := omega) only [up2_x, upr_x]) (by first | rfl | simp (disch := omega) only [up2_x, upr_x]) (by first | rfl | simp (disch := omega) only [up2_x, upr_x])
set_option maxHeartbeats 4000000 in
theorem top_tim {c s T E : Nat} {L : List Int32} {C0 M0 C M : Mem} {v : Int32} (hcs : cs c s) (h : Top c s T E L C0 M0 C M) (hm : Md c C M) : Top c s T E L C0 M0 (up2 C c 39 v) (up2 M s 27 v) ∧ Md c (up2 C c 39 v) (up2 M s 27 v) := by
  refine ⟨?_, ?_⟩
  · refine ⟨⟨?_, ?_, ?_, ?_, ?_, ?_, ?_, ?_, ?_, ?_, ?_, ?_, ?_, ?_, ?_, ?_, ?_, ?_, ?_, ?_, ?_, ?_, ?_, ?_, ?_, ?_, ?_, ?_, ?_, ?_, ?_, ?_, ?_⟩, ⟨?_, ?_, ?_, ?_, ?_⟩⟩
    · exact rReg_fr h.reg (by intros; first | rfl | (simp (disch := omega) only [up2_x, upr_x])) (by intros; first | rfl | (simp (disch := omega) only [up2_x, upr_x]))
    · exact rDat_fr h.dat (by intros; first | rfl | (simp (disch := omega) only [up2_x, upr_x])) (by intros; first | rfl | (simp (disch := omega) only [up2_x, upr_x]))
    · exact rStk_fr h.stk (by intros; first | rfl | (simp (disch := omega) only [up2_x, upr_x])) (by intros; first | rfl | (simp (disch := omega) only [up2_x, upr_x]))
    · exact rFlt_fr h.flt (by intros; first | rfl | (simp (disch := omega) only [up2_x, upr_x])) (by intros; first | rfl | (simp (disch := omega) only [up2_x, upr_x]))
    · exact rZn_fr h.zn (by intros; first | rfl | (simp (disch := omega) only [up2_x, upr_x])) (by intros; first | rfl | (simp (disch := omega) only [up2_x, upr_x]))
    · exact rPc_fr h.pc (by intros; first | rfl | (simp (disch := omega) only [up2_x, upr_x])) (by intros; first | rfl | (simp (disch := omega) only [up2_x, upr_x]))
    · exact rSp_fr h.sp (by intros; first | rfl | (simp (disch := omega) only [up2_x, upr_x])) (by intros; first | rfl | (simp (disch := omega) only [up2_x, upr_x]))
    · exact rShu_fr h.shu (by intros; first | rfl | (simp (disch := omega) only [up2_x, upr_x])) (by intros; first | rfl | (simp (disch := omega) only [up2_x, upr_x]))
    · exact rBas_fr h.bas (by intros; first | rfl | (simp (disch := omega) only [up2_x, upr_x])) (by intros; first | rfl | (simp (disch := omega) only [up2_x, upr_x]))
    · exact rFls_fr h.fls (by intros; first | rfl | (simp (disch := omega) only [up2_x, upr_x])) (by intros; first | rfl | (simp (disch := omega) only [up2_x, upr_x]))
    · exact rLaz_fr h.laz (by intros; first | rfl | (simp (disch := omega) only [up2_x, upr_x])) (by intros; first | rfl | (simp (disch := omega) only [up2_x, upr_x]))
    · exact rPh_fr h.ph (by intros; first | rfl | (simp (disch := omega) only [up2_x, upr_x])) (by intros; first | rfl | (simp (disch := omega) only [up2_x, upr_x]))
    · exact rStp_fr h.stp (by intros; first | rfl | (simp (disch := omega) only [up2_x, upr_x])) (by intros; first | rfl | (simp (disch := omega) only [up2_x, upr_x]))
    · exact rStl_fr h.stl (by intros; first | rfl | (simp (disch := omega) only [up2_x, upr_x])) (by intros; first | rfl | (simp (disch := omega) only [up2_x, upr_x]))
    · exact rAsl_fr h.asl (by intros; first | rfl | (simp (disch := omega) only [up2_x, upr_x])) (by intros; first | rfl | (simp (disch := omega) only [up2_x, upr_x]))
    · exact rClk_fr h.clk (by intros; first | rfl | (simp (disch := omega) only [up2_x, upr_x])) (by intros; first | rfl | (simp (disch := omega) only [up2_x, upr_x]))
    · exact rPer_fr h.per (by intros; first | rfl | (simp (disch := omega) only [up2_x, upr_x])) (by intros; first | rfl | (simp (disch := omega) only [up2_x, upr_x]))
    · unfold rTim
      simp (disch := omega) only [up2_x, up2_e, upr_x]
    · exact rNst_fr h.nst (by intros; first | rfl | (simp (disch := omega) only [up2_x, upr_x])) (by intros; first | rfl | (simp (disch := omega) only [up2_x, upr_x])) (by intros; first | rfl | (simp (disch := omega) only [up2_x, upr_x])) (by intros; first | rfl | (simp (disch := omega) only [up2_x, upr_x])) (by intros; first | rfl | (simp (disch := omega) only [up2_x, upr_x])) (by intros; first | rfl | (simp (disch := omega) only [up2_x, upr_x]))
    · exact rDue_fr h.due (by intros; first | rfl | (simp (disch := omega) only [up2_x, upr_x])) (by intros; first | rfl | (simp (disch := omega) only [up2_x, upr_x])) (by intros; first | rfl | (simp (disch := omega) only [up2_x, upr_x])) (by intros; first | rfl | (simp (disch := omega) only [up2_x, upr_x])) (by intros; first | rfl | (simp (disch := omega) only [up2_x, upr_x]))
    · exact rRnk_fr h.rnk (by intros; first | rfl | (simp (disch := omega) only [up2_x, upr_x])) (by intros; first | rfl | (simp (disch := omega) only [up2_x, upr_x]))
    · exact rVec_fr h.vec (by intros; first | rfl | (simp (disch := omega) only [up2_x, upr_x])) (by intros; first | rfl | (simp (disch := omega) only [up2_x, upr_x]))
    · exact rEna_fr h.ena (by intros; first | rfl | (simp (disch := omega) only [up2_x, upr_x])) (by intros; first | rfl | (simp (disch := omega) only [up2_x, upr_x]))
    · exact rPnd_fr h.pnd (by intros; first | rfl | (simp (disch := omega) only [up2_x, upr_x])) (by intros; first | rfl | (simp (disch := omega) only [up2_x, upr_x]))
    · exact rAct_fr h.act (by intros; first | rfl | (simp (disch := omega) only [up2_x, upr_x])) (by intros; first | rfl | (simp (disch := omega) only [up2_x, upr_x])) (by intros; first | rfl | (simp (disch := omega) only [up2_x, upr_x]))
    · exact rHld_fr h.hld (by intros; first | rfl | (simp (disch := omega) only [up2_x, upr_x])) (by intros; first | rfl | (simp (disch := omega) only [up2_x, upr_x]))
    · exact rSpl_fr h.spl (by intros; first | rfl | (simp (disch := omega) only [up2_x, upr_x])) (by intros; first | rfl | (simp (disch := omega) only [up2_x, upr_x]))
    · exact rSta_fr h.sta (by intros; first | rfl | (simp (disch := omega) only [up2_x, upr_x])) (by intros; first | rfl | (simp (disch := omega) only [up2_x, upr_x]))
    · exact rSav_fr h.sav (by intros; first | rfl | (simp (disch := omega) only [up2_x, upr_x])) (by intros; first | rfl | (simp (disch := omega) only [up2_x, upr_x]))
    · exact rUns_fr h.uns (by intros; first | rfl | (simp (disch := omega) only [up2_x, upr_x])) (by intros; first | rfl | (simp (disch := omega) only [up2_x, upr_x])) (by intros; first | rfl | (simp (disch := omega) only [up2_x, upr_x]))
    · exact rCod_fr h.cod (by intros; first | rfl | (simp (disch := omega) only [up2_x, upr_x])) (by intros; first | rfl | (simp (disch := omega) only [up2_x, upr_x]))
    · exact rObs_fr (C := C) (M := M) h.obs (by intros; first | rfl | (simp (disch := omega) only [up2_x, upr_x])) (by intros; first | rfl | (simp (disch := omega) only [up2_x, upr_x]))
    · exact rMdc_fr (C := C) (M := M) h.mdc (by intros; first | rfl | (simp (disch := omega) only [up2_x, upr_x]))
    · exact rCnt_fr h.cnt (by intros; first | rfl | (simp (disch := omega) only [up2_x, upr_x])) (by intros; first | rfl | (simp (disch := omega) only [up2_x, upr_x]))
    · exact rOut_fr h.out (by intros; first | rfl | (simp (disch := omega) only [up2_x, upr_x])) (by intros; first | rfl | (simp (disch := omega) only [up2_x, upr_x])) (by intros; first | rfl | (simp (disch := omega) only [up2_x, upr_x])) (by intros; first | rfl | (simp (disch := omega) only [up2_x, upr_x]))
    · exact rEvt_fr h.evt (by intros; first | rfl | (simp (disch := omega) only [up2_x, upr_x])) (by intros; first | rfl | (simp (disch := omega) only [up2_x, upr_x])) (by intros; first | rfl | (simp (disch := omega) only [up2_x, upr_x])) (by intros; first | rfl | (simp (disch := omega) only [up2_x, upr_x]))
    · exact rWai_fr h.wai (by intros; first | rfl | (simp (disch := omega) only [up2_x, upr_x])) (by intros; first | rfl | (simp (disch := omega) only [up2_x, upr_x]))
    · exact rFrm_fr h.frm (by intros; first | rfl | (simp (disch := omega) only [up2_x, upr_x])) (by intros; first | rfl | (simp (disch := omega) only [up2_x, upr_x]))
  · exact Md_fr hm (by first | rfl | simp (disch := omega) only [up2_x, upr_x]) (by first | rfl | simp (disch := omega) only [up2_x, upr_x]) (by first | rfl | simp (disch := omega) only [up2_x, upr_x]) (by first | rfl | simp (disch := omega) only [up2_x, upr_x]) (by first | rfl | simp (disch := omega) only [up2_x, upr_x])
theorem sim_go {c s T E : Nat} {L : List Int32} {C0 M0 C M : Mem} (hcs : cs c s) (h : Top c s T E L C0 M0 C M) (hm : Md c C M) (hT : T < 2 ^ 29) (hE : E < 2 ^ 28) (hL : L.length < T) (hbd : Bd c s C M) (hO : ∃ q : Nat, q < T ∧ C c 50 = nI q) : ∃ C' M' L', fc_Core_cycle_131 c C = some ((), C') ∧ fm_cycle_133 s M = some ((), M') ∧ Top c s T (E + 3) L' C0 M0 C' M' ∧ Md c C' M' ∧ Bd c s C' M' ∧ Nw (C c 52) c C' L L' ∧ (C c 41 = 5 → C' c 41 = 5 ∧ C' c 52 = C c 52) := by
  obtain ⟨⟨p, hp, p1, p2⟩, p3⟩ := h.ph
  unfold fc_Core_cycle_131 fm_cycle_133 fm_cycle_209 fv_go
  rw [p3, p1, p2]
  match p, hp with
  | 0, _ =>
    rw [if_pos (show nI 0 = 0 from rfl), if_pos (show nI 0 = 0 from rfl)]
    obtain ⟨C', M', L', a1, a2, a3, a4, a5, a6⟩ := sim_running hcs h hm hT hE hL p1 hO
    rw [a1, a2, bnd_s, bnd_s]
    exact ⟨C', M', L', rfl, rfl, a3, a4, a5, a6, fun z => absurd z (by decide)⟩
  | 1, _ =>
    rw [if_neg (show ¬ nI 1 = 0 by decide), if_pos (show nI 1 = 1 from rfl), if_neg (show ¬ nI 1 = 0 by decide), if_pos (show nI 1 = 1 from rfl)]
    obtain ⟨k, k1, k2, k3⟩ := hbd.1 p1
    obtain ⟨C', M', L', a1, a2, a3, a4, a5, a6⟩ := sim_stacking hcs hT hE hL h hm p1 k2 k3 (fun z => by omega)
    rw [a1, a2, bnd_s, bnd_s]
    exact ⟨C', M', L', rfl, rfl, a3, a4, a5, a6, fun z => absurd z (by decide)⟩
  | 2, _ =>
    rw [if_neg (show ¬ nI 2 = 0 by decide), if_neg (show ¬ nI 2 = 1 by decide), if_pos (show nI 2 = 2 from rfl), if_neg (show ¬ nI 2 = 0 by decide), if_neg (show ¬ nI 2 = 1 by decide), if_pos (show nI 2 = 2 from rfl)]
    obtain ⟨C', M', L', a1, a2, a3, a4, a5, a6⟩ := sim_chaining hcs hT hE hL h hm p1
    rw [a1, a2, bnd_s, bnd_s]
    exact ⟨C', M', L', rfl, rfl, a3.mono (Nat.le_refl _) (by omega), a4, a5, a6, fun z => absurd z (by decide)⟩
  | 3, _ =>
    rw [if_neg (show ¬ nI 3 = 0 by decide), if_neg (show ¬ nI 3 = 1 by decide), if_neg (show ¬ nI 3 = 2 by decide), if_pos (show nI 3 = 3 from rfl), if_neg (show ¬ nI 3 = 0 by decide), if_neg (show ¬ nI 3 = 1 by decide), if_neg (show ¬ nI 3 = 2 by decide), if_pos (show nI 3 = 3 from rfl)]
    obtain ⟨C', M', a1, a2, a3, a4, a5, a6⟩ := sim_unstacking hcs h hm hT hE p1 hbd
    rw [a1, a2, bnd_s, bnd_s]
    exact ⟨C', M', L, rfl, rfl, a3.mono (Nat.le_refl _) (by omega), a4, a5, Or.inl ⟨a6, rfl⟩, fun z => absurd z (by decide)⟩
  | 4, _ =>
    rw [if_neg (show ¬ nI 4 = 0 by decide), if_neg (show ¬ nI 4 = 1 by decide), if_neg (show ¬ nI 4 = 2 by decide), if_neg (show ¬ nI 4 = 3 by decide), if_pos (show nI 4 = 4 from rfl), if_neg (show ¬ nI 4 = 0 by decide), if_neg (show ¬ nI 4 = 1 by decide), if_neg (show ¬ nI 4 = 2 by decide), if_neg (show ¬ nI 4 = 3 by decide), if_pos (show nI 4 = 4 from rfl)]
    obtain ⟨C', M', a1, a2, a3, a4, a5, a6⟩ := sim_saving hcs h hm p1
    rw [a1, a2, bnd_s, bnd_s]
    exact ⟨C', M', L, rfl, rfl, a3.mono (Nat.le_refl _) (by omega), a4, a5, Or.inl ⟨a6, rfl⟩, fun z => absurd z (by decide)⟩
  | 5, _ =>
    rw [if_neg (show ¬ nI 5 = 0 by decide), if_neg (show ¬ nI 5 = 1 by decide), if_neg (show ¬ nI 5 = 2 by decide), if_neg (show ¬ nI 5 = 3 by decide), if_neg (show ¬ nI 5 = 4 by decide), if_pos (show nI 5 = 5 from rfl), if_neg (show ¬ nI 5 = 0 by decide), if_neg (show ¬ nI 5 = 1 by decide), if_neg (show ¬ nI 5 = 2 by decide), if_neg (show ¬ nI 5 = 3 by decide), if_neg (show ¬ nI 5 = 4 by decide)]
    have hC : up2 C c 43 0 = C := by rw [← h.stl.2 (by rw [p1]; decide), up2_self]
    unfold fc_Core_locked
    rw [stp_e, hC, bnd_s]
    exact ⟨C, M, L, rfl, rfl, h.mono (Nat.le_refl _) (by omega), hm, hbd, Or.inl ⟨rfl, rfl⟩, fun _ => ⟨p1, rfl⟩⟩
  | p + 6, hp => omega
theorem Bd_fr {c s : Nat} {C M C' M' : Mem} (h : Bd c s C M) (h1 : C' c 41 = C c 41) (h2 : C' c 42 = C c 42) (h3 : M' s 32 = M s 32) : Bd c s C' M' := by
  unfold Bd at h ⊢
  rw [h1, h2, h3]
  exact h
theorem c19_s (c n : Nat) (x1 x2 : Int32) (C : Mem) : fc_Core_cycle_19 c (n + 1) x1 x2 C = fc_Core_cycle_19b c (fc_Core_cycle_19 c n) x1 x2 C := rfl
theorem m17_s (s n : Nat) (x1 x2 : Int32) (M : Mem) : fm_cycle_17 s (n + 1) x1 x2 M = fm_cycle_17b s (fm_cycle_17 s n) x1 x2 M := rfl
theorem sim_loop {c s T E e : Nat} {L : List Int32} {C0 M0 : Mem} (hcs : cs c s) (hT : T < 2 ^ 29) (hE : E < 2 ^ 28) (hL : L.length < T) (h32 : e ≤ 32) : ∀ (n i l : Nat) (C M : Mem), e < n + i → i ≤ e → l ≤ i → Top c s T E L C0 M0 C M → Md c C M → Bd c s C M → (∃ q : Nat, q < T ∧ C c 50 = nI q) → C c 40 = nI e → M s 31 = nI e → ∃ C' M' L', fc_Core_cycle_19 c n (nI l) (nI i) C = some ((), C') ∧ fm_cycle_17 s n (nI l) (nI i) M = some ((), M') ∧ Top c s T (E + 3) L' C0 M0 C' M' ∧ Md c C' M' ∧ Bd c s C' M' ∧ Nw (C c 52) c C' L L' ∧ (C c 41 = 5 → C' c 41 = 5 ∧ C' c 52 = C c 52) := by
  intro n
  induction n with
  | zero => intro i l C M z1 z2; omega
  | succ n ih =>
    intro i l C M hn hi hl h hm hbd hO he1 he2
    rw [c19_s, m17_s]
    unfold fc_Core_cycle_19b fm_cycle_17b fc_Core_cycle_81 fm_cycle_85
    rw [he1, he2]
    by_cases hie : i = e
    · subst hie
      rw [if_pos (show nI i ≤ nI i from i32_le.mpr (Int.le_refl _)), if_pos (show nI i ≤ nI i from i32_le.mpr (Int.le_refl _))]
      obtain ⟨t1, t2⟩ := top_left hcs h hm he1 h32 hl
      have tb : Bd c s (up2 C c 40 (nI l)) (up2 M s 31 (nI l)) := Bd_fr hbd (by simp (disch := omega) only [up2_x, upr_x]) (by simp (disch := omega) only [up2_x, upr_x]) (by simp (disch := omega) only [up2_x, upr_x])
      have tO : ∃ q : Nat, q < T ∧ up2 C c 40 (nI l) c 50 = nI q := by obtain ⟨q, q1, q2⟩ := hO; exact ⟨q, q1, by simp (disch := omega) only [up2_x, upr_x]; exact q2⟩
      have t52 : C c 52 = up2 C c 40 (nI l) c 52 := by simp (disch := omega) only [up2_x, upr_x]
      have t41 : C c 41 = up2 C c 40 (nI l) c 41 := by simp (disch := omega) only [up2_x, upr_x]
      rw [t52, t41]
      generalize up2 C c 40 (nI l) = C2 at *
      generalize up2 M s 31 (nI l) = M2 at *
      simp only [stp_e]
      obtain ⟨p, hp, p1, p2⟩ := t1.per
      rw [p1, p2]
      by_cases hp0 : p = 0
      · subst hp0
        rw [if_pos (show nI 0 ≤ 0 by decide), if_pos (show nI 0 = 0 from rfl)]
        exact sim_go hcs t1 t2 hT hE hL tb tO
      · rw [if_neg (show ¬ nI p ≤ 0 from nI_nle (by omega) (by omega)), if_neg (show ¬ nI p = 0 from nI_ne0 (by omega) (by omega))]
        rw [← t1.tim]
        obtain ⟨u1, u2⟩ := top_tim (v := C2 c 39 - 1) hcs t1 t2
        have ub : Bd c s (up2 C2 c 39 (C2 c 39 - 1)) (up2 M2 s 27 (C2 c 39 - 1)) := Bd_fr tb (by simp (disch := omega) only [up2_x, upr_x]) (by simp (disch := omega) only [up2_x, upr_x]) (by simp (disch := omega) only [up2_x, upr_x])
        have uO : ∃ q : Nat, q < T ∧ up2 C2 c 39 (C2 c 39 - 1) c 50 = nI q := by obtain ⟨q, q1, q2⟩ := tO; exact ⟨q, q1, by simp (disch := omega) only [up2_x, upr_x]; exact q2⟩
        have u52 : C2 c 52 = up2 C2 c 39 (C2 c 39 - 1) c 52 := by simp (disch := omega) only [up2_x, upr_x]
        have u41 : C2 c 41 = up2 C2 c 39 (C2 c 39 - 1) c 41 := by simp (disch := omega) only [up2_x, upr_x]
        rw [u52, u41]
        generalize up2 C2 c 39 (C2 c 39 - 1) = C4 at *
        generalize up2 M2 s 27 (C2 c 39 - 1) = M4 at *
        rw [← u1.tim]
        by_cases h0 : C4 c 39 = 0
        · rw [if_pos h0, if_pos h0]
          obtain ⟨r, C6, M6, a1, a2, a3, a4, a5, a6, a7⟩ := sim_becomes (k := 16) hcs (by omega) u1 u2.1 (by omega)
          rw [show fc_Core_becomes c 16 = fc_Core_becomes c (nI 16) from rfl, show fm_pends s 16 = fm_pends s (nI 16) from rfl, a1, a2, bnd_s, bnd_s]
          have m6 : Md c C6 M6 := Md_fr u2 (a5 25) (a7 14) (a7 15) (a5 52) (a7 16)
          have b6 : Bd c s C6 M6 := Bd_fr ub (a5 41) (a5 42) (a6 32 (by omega))
          obtain ⟨p6, hp6, p61, p62⟩ := a3.per
          rw [p61, p62]
          obtain ⟨w1, w2⟩ := top_tim (v := nI p6) hcs a3 m6
          rw [← a5 52, ← a5 41, show C6 c 52 = up2 C6 c 39 (nI p6) c 52 from by simp (disch := omega) only [up2_x, upr_x], show C6 c 41 = up2 C6 c 39 (nI p6) c 41 from by simp (disch := omega) only [up2_x, upr_x]]
          exact sim_go hcs w1 w2 hT hE hL (Bd_fr b6 (by simp (disch := omega) only [up2_x, upr_x]) (by simp (disch := omega) only [up2_x, upr_x]) (by simp (disch := omega) only [up2_x, upr_x])) (by obtain ⟨q, q1, q2⟩ := uO; exact ⟨q, q1, by simp (disch := omega) only [up2_x, upr_x]; rw [a5]; exact q2⟩)
        · rw [if_neg h0, if_neg h0]
          exact sim_go hcs u1 u2 hT hE hL ub uO
    · rw [if_neg (show ¬ nI e ≤ nI i from nI_ge (by omega) (by omega)), if_neg (show ¬ nI e ≤ nI i from nI_ge (by omega) (by omega))]
      obtain ⟨e', a1, a2, a3, a4⟩ := h.due
      have ee : e' = e := (nI_eq (by omega) (by omega)).mp (a2.symm.trans he1)
      subst ee
      obtain ⟨d1, k, hk, d2, d3⟩ := a4 i (by omega)
      obtain ⟨t, ht, c1, c2⟩ := h.clk
      rw [l_268, l_236, l_268, l_236, inb_nI (show i < 32 by omega) (by decide), inb_nI (show l < 32 by omega) (by decide), inb_nI (show 268 + i < 342 by omega) (by decide), inb_nI (show 236 + i < 342 by omega) (by decide), inb_nI (show 268 + l < 342 by omega) (by decide), inb_nI (show 236 + l < 342 by omega) (by decide), nI_clamp (show i < 2 ^ 31 by omega), nI_clamp (show l < 2 ^ 31 by omega), nI_clamp (show 268 + i < 2 ^ 31 by omega), nI_clamp (show 236 + i < 2 ^ 31 by omega), nI_clamp (show 268 + l < 2 ^ 31 by omega), nI_clamp (show 236 + l < 2 ^ 31 by omega)]
      simp only [gd_t, stp_e]
      rw [c1, c2, ← d1]
      by_cases hz : C (c + 7) i = nI t
      · rw [if_pos hz, if_pos hz, d2, d3]
        obtain ⟨r, C6, M6, a1, a2, a3, a4, a5, a6, a7⟩ := sim_becomes (k := k) hcs (by omega) h hm.1 (by omega)
        rw [a1, a2, bnd_s, bnd_s, nI_1, ← a5 52, ← a5 41]
        exact ih (i + 1) l C6 M6 (by omega) (by omega) (by omega) a3 (Md_fr hm (a5 25) (a7 14) (a7 15) (a5 52) (a7 16)) (Bd_fr hbd (a5 41) (a5 42) (a6 32 (by omega))) (by obtain ⟨q, q1, q2⟩ := hO; exact ⟨q, q1, by rw [a5]; exact q2⟩) (by rw [a5]; exact he1) (by rw [a6 31 (by omega)]; exact he2)
      · rw [if_neg hz, if_neg hz, nI_1, nI_1]
        obtain ⟨t1, t2⟩ := top_move hcs h hm he1 h32 (by omega : i < e') hl
        rw [show up2 C (c + 7) l (C (c + 7) i) (c + 8) i = C (c + 8) i from by simp (disch := omega) only [up2_x, upr_x], show up2 M s (236 + l) (M s (236 + i)) s (268 + i) = M s (268 + i) from by simp (disch := omega) only [up2_x, upr_x], d1]
        rw [d1] at t1 t2
        obtain ⟨C', M', L', b1, b2, b3, b4, b5, b6, b7⟩ := ih (i + 1) (l + 1) _ _ (by omega) (by omega) (by omega) t1 t2 (Bd_fr hbd (by simp (disch := omega) only [up2_x, upr_x]) (by simp (disch := omega) only [up2_x, upr_x]) (by simp (disch := omega) only [up2_x, upr_x])) (by obtain ⟨q, q1, q2⟩ := hO; exact ⟨q, q1, by simp (disch := omega) only [up2_x, upr_x]; exact q2⟩) (by simp (disch := omega) only [up2_x, upr_x]; exact he1) (by simp (disch := omega) only [up2_x, upr_x]; exact he2)
        refine ⟨C', M', L', b1, b2, b3, b4, b5, ?_⟩
        rw [show C c 52 = up2 (up2 C (c + 7) l (M s (268 + i))) (c + 8) l (C (c + 8) i) c 52 from by simp (disch := omega) only [up2_x, upr_x], show C c 41 = up2 (up2 C (c + 7) l (M s (268 + i))) (c + 8) l (C (c + 8) i) c 41 from by simp (disch := omega) only [up2_x, upr_x]]
        exact ⟨b6, b7⟩
set_option maxHeartbeats 4000000 in
theorem top_clock {c s T E : Nat} {L : List Int32} {C0 M0 C M : Mem} (hcs : cs c s) (h : Top c s T E L C0 M0 C M) : Top c s (T + 1) E L C0 M0 (up2 (up2 C c 37 (C c 37 + 1)) c 52 (-1)) (up2 (up2 M 0 16 (-1)) s 25 (M s 25 + 1)) := by
  obtain ⟨t, ht, e1, e2⟩ := h.clk
  have h1 : Top c s (T + 1) E L C0 M0 C M := h.mono (Nat.le_succ T) (Nat.le_refl _)
  refine ⟨⟨?_, ?_, ?_, ?_, ?_, ?_, ?_, ?_, ?_, ?_, ?_, ?_, ?_, ?_, ?_, ?_, ?_, ?_, ?_, ?_, ?_, ?_, ?_, ?_, ?_, ?_, ?_, ?_, ?_, ?_, ?_, ?_, ?_⟩, ⟨?_, ?_, ?_, ?_, ?_⟩⟩
  · exact rReg_fr h1.reg (by intros; first | rfl | (simp (disch := omega) only [up2_x, upr_x])) (by intros; first | rfl | (simp (disch := omega) only [up2_x, upr_x]))
  · exact rDat_fr h1.dat (by intros; first | rfl | (simp (disch := omega) only [up2_x, upr_x])) (by intros; first | rfl | (simp (disch := omega) only [up2_x, upr_x]))
  · exact rStk_fr h1.stk (by intros; first | rfl | (simp (disch := omega) only [up2_x, upr_x])) (by intros; first | rfl | (simp (disch := omega) only [up2_x, upr_x]))
  · exact rFlt_fr h1.flt (by intros; first | rfl | (simp (disch := omega) only [up2_x, upr_x])) (by intros; first | rfl | (simp (disch := omega) only [up2_x, upr_x]))
  · exact rZn_fr h1.zn (by intros; first | rfl | (simp (disch := omega) only [up2_x, upr_x])) (by intros; first | rfl | (simp (disch := omega) only [up2_x, upr_x]))
  · exact rPc_fr h1.pc (by intros; first | rfl | (simp (disch := omega) only [up2_x, upr_x])) (by intros; first | rfl | (simp (disch := omega) only [up2_x, upr_x]))
  · exact rSp_fr h1.sp (by intros; first | rfl | (simp (disch := omega) only [up2_x, upr_x])) (by intros; first | rfl | (simp (disch := omega) only [up2_x, upr_x]))
  · exact rShu_fr h1.shu (by intros; first | rfl | (simp (disch := omega) only [up2_x, upr_x])) (by intros; first | rfl | (simp (disch := omega) only [up2_x, upr_x]))
  · exact rBas_fr h1.bas (by intros; first | rfl | (simp (disch := omega) only [up2_x, upr_x])) (by intros; first | rfl | (simp (disch := omega) only [up2_x, upr_x]))
  · exact rFls_fr h1.fls (by intros; first | rfl | (simp (disch := omega) only [up2_x, upr_x])) (by intros; first | rfl | (simp (disch := omega) only [up2_x, upr_x]))
  · exact rLaz_fr h1.laz (by intros; first | rfl | (simp (disch := omega) only [up2_x, upr_x])) (by intros; first | rfl | (simp (disch := omega) only [up2_x, upr_x]))
  · exact rPh_fr h1.ph (by intros; first | rfl | (simp (disch := omega) only [up2_x, upr_x])) (by intros; first | rfl | (simp (disch := omega) only [up2_x, upr_x]))
  · exact rStp_fr h1.stp (by intros; first | rfl | (simp (disch := omega) only [up2_x, upr_x])) (by intros; first | rfl | (simp (disch := omega) only [up2_x, upr_x]))
  · exact rStl_fr h1.stl (by intros; first | rfl | (simp (disch := omega) only [up2_x, upr_x])) (by intros; first | rfl | (simp (disch := omega) only [up2_x, upr_x]))
  · exact rAsl_fr h1.asl (by intros; first | rfl | (simp (disch := omega) only [up2_x, upr_x])) (by intros; first | rfl | (simp (disch := omega) only [up2_x, upr_x]))
  · refine ⟨t + 1, by omega, ?_, ?_⟩
    · simp (disch := omega) only [up2_x, up2_e, upr_x]; rw [e1, nI_1]
    · simp (disch := omega) only [up2_x, up2_e, upr_x]; rw [e2, nI_1]
  · exact rPer_fr h1.per (by intros; first | rfl | (simp (disch := omega) only [up2_x, upr_x])) (by intros; first | rfl | (simp (disch := omega) only [up2_x, upr_x]))
  · exact rTim_fr h1.tim (by intros; first | rfl | (simp (disch := omega) only [up2_x, upr_x])) (by intros; first | rfl | (simp (disch := omega) only [up2_x, upr_x]))
  · exact rNst_fr h1.nst (by intros; first | rfl | (simp (disch := omega) only [up2_x, upr_x])) (by intros; first | rfl | (simp (disch := omega) only [up2_x, upr_x])) (by intros; first | rfl | (simp (disch := omega) only [up2_x, upr_x])) (by intros; first | rfl | (simp (disch := omega) only [up2_x, upr_x])) (by intros; first | rfl | (simp (disch := omega) only [up2_x, upr_x])) (by intros; first | rfl | (simp (disch := omega) only [up2_x, upr_x]))
  · exact rDue_fr h1.due (by intros; first | rfl | (simp (disch := omega) only [up2_x, upr_x])) (by intros; first | rfl | (simp (disch := omega) only [up2_x, upr_x])) (by intros; first | rfl | (simp (disch := omega) only [up2_x, upr_x])) (by intros; first | rfl | (simp (disch := omega) only [up2_x, upr_x])) (by intros; first | rfl | (simp (disch := omega) only [up2_x, upr_x]))
  · exact rRnk_fr h1.rnk (by intros; first | rfl | (simp (disch := omega) only [up2_x, upr_x])) (by intros; first | rfl | (simp (disch := omega) only [up2_x, upr_x]))
  · exact rVec_fr h1.vec (by intros; first | rfl | (simp (disch := omega) only [up2_x, upr_x])) (by intros; first | rfl | (simp (disch := omega) only [up2_x, upr_x]))
  · exact rEna_fr h1.ena (by intros; first | rfl | (simp (disch := omega) only [up2_x, upr_x])) (by intros; first | rfl | (simp (disch := omega) only [up2_x, upr_x]))
  · exact rPnd_fr h1.pnd (by intros; first | rfl | (simp (disch := omega) only [up2_x, upr_x])) (by intros; first | rfl | (simp (disch := omega) only [up2_x, upr_x]))
  · exact rAct_fr h1.act (by intros; first | rfl | (simp (disch := omega) only [up2_x, upr_x])) (by intros; first | rfl | (simp (disch := omega) only [up2_x, upr_x])) (by intros; first | rfl | (simp (disch := omega) only [up2_x, upr_x]))
  · exact rHld_fr h1.hld (by intros; first | rfl | (simp (disch := omega) only [up2_x, upr_x])) (by intros; first | rfl | (simp (disch := omega) only [up2_x, upr_x]))
  · exact rSpl_fr h1.spl (by intros; first | rfl | (simp (disch := omega) only [up2_x, upr_x])) (by intros; first | rfl | (simp (disch := omega) only [up2_x, upr_x]))
  · exact rSta_fr h1.sta (by intros; first | rfl | (simp (disch := omega) only [up2_x, upr_x])) (by intros; first | rfl | (simp (disch := omega) only [up2_x, upr_x]))
  · exact rSav_fr h1.sav (by intros; first | rfl | (simp (disch := omega) only [up2_x, upr_x])) (by intros; first | rfl | (simp (disch := omega) only [up2_x, upr_x]))
  · exact rUns_fr h1.uns (by intros; first | rfl | (simp (disch := omega) only [up2_x, upr_x])) (by intros; first | rfl | (simp (disch := omega) only [up2_x, upr_x])) (by intros; first | rfl | (simp (disch := omega) only [up2_x, upr_x]))
  · exact rCod_fr h1.cod (by intros; first | rfl | (simp (disch := omega) only [up2_x, upr_x])) (by intros; first | rfl | (simp (disch := omega) only [up2_x, upr_x]))
  · exact rObs_fr (C := C) (M := M) h1.obs (by intros; first | rfl | (simp (disch := omega) only [up2_x, upr_x])) (by intros; first | rfl | (simp (disch := omega) only [up2_x, upr_x]))
  · exact rMdc_fr (C := C) (M := M) h1.mdc (by intros; first | rfl | (simp (disch := omega) only [up2_x, upr_x]))
  · exact rCnt_fr h1.cnt (by intros; first | rfl | (simp (disch := omega) only [up2_x, upr_x])) (by intros; first | rfl | (simp (disch := omega) only [up2_x, upr_x]))
  · exact rOut_fr h1.out (by intros; first | rfl | (simp (disch := omega) only [up2_x, upr_x])) (by intros; first | rfl | (simp (disch := omega) only [up2_x, upr_x])) (by intros; first | rfl | (simp (disch := omega) only [up2_x, upr_x])) (by intros; first | rfl | (simp (disch := omega) only [up2_x, upr_x]))
  · exact rEvt_fr h1.evt (by intros; first | rfl | (simp (disch := omega) only [up2_x, upr_x])) (by intros; first | rfl | (simp (disch := omega) only [up2_x, upr_x])) (by intros; first | rfl | (simp (disch := omega) only [up2_x, upr_x])) (by intros; first | rfl | (simp (disch := omega) only [up2_x, upr_x]))
  · exact rWai_fr h1.wai (by intros; first | rfl | (simp (disch := omega) only [up2_x, upr_x])) (by intros; first | rfl | (simp (disch := omega) only [up2_x, upr_x]))
  · exact rFrm_fr h1.frm (by intros; first | rfl | (simp (disch := omega) only [up2_x, upr_x])) (by intros; first | rfl | (simp (disch := omega) only [up2_x, upr_x]))
theorem sim_cycle {c s T E : Nat} {L : List Int32} {C0 M0 C M : Mem} (hcs : cs c s) (h : Top c s T E L C0 M0 C M) (ho : ownOk c M) (h25 : C c 25 = M 0 15) (hT : T + 1 < 2 ^ 29) (hE : E < 2 ^ 28) (hbd : Bd c s C M) : ∃ C' M' L', fc_Core_cycle c C = some ((), C') ∧ fm_cycle s M = some ((), M') ∧ Top c s (T + 1) (E + 3) L' C0 M0 C' M' ∧ Md c C' M' ∧ Bd c s C' M' ∧ Nw (-1) c C' L L' ∧ (C c 41 = 5 → C' c 41 = 5 ∧ C' c 52 = -1) := by
  have t1 := top_clock hcs h
  have s0 : ¬ s = 0 := by rcases hcs with ⟨-, z⟩ | ⟨-, z⟩ <;> omega
  have t2 : Md c (up2 (up2 C c 37 (C c 37 + 1)) c 52 (-1)) (up2 (up2 M 0 16 (-1)) s 25 (M s 25 + 1)) := by
    refine ⟨⟨fun z => ?_, fun z => ?_⟩, ?_, ?_⟩
    · simp (disch := omega) only [up2_x, upr_x]; exact ho.1 z
    · simp (disch := omega) only [up2_x, upr_x]; exact ho.2 z
    · simp (disch := omega) only [up2_x, upr_x]; exact h25
    · simp (disch := omega) only [up2_x, up2_e, upr_x]
  have tb : Bd c s (up2 (up2 C c 37 (C c 37 + 1)) c 52 (-1)) (up2 (up2 M 0 16 (-1)) s 25 (M s 25 + 1)) := Bd_fr hbd (by simp (disch := omega) only [up2_x, upr_x]) (by simp (disch := omega) only [up2_x, upr_x]) (by simp (disch := omega) only [up2_x, upr_x])
  obtain ⟨q, q1, q2, -⟩ := h.out
  obtain ⟨-, hL, -⟩ := h.obs
  obtain ⟨e, e0, e1, e2, -⟩ := t1.due
  unfold fc_Core_cycle fm_cycle
  rw [stp_e, stp_e, stp_e, stp_e, show up2 M 0 16 (-1) s 25 = M s 25 from by simp (disch := omega) only [up2_x, upr_x]]
  obtain ⟨C', M', L', a1, a2, a3, a4, a5, a6, a7⟩ := sim_loop hcs hT hE (by omega) e0 600 0 0 _ _ (by omega) (by omega) (by omega) t1 t2 tb ⟨q, by omega, by simp (disch := omega) only [up2_x, upr_x]; exact q2⟩ e1 e2
  refine ⟨C', M', L', a1, a2, a3, a4, a5, ?_⟩
  rw [up2_e] at a6 a7
  refine ⟨a6, fun z => a7 ?_⟩
  simp (disch := omega) only [up2_x, upr_x]
  exact z
