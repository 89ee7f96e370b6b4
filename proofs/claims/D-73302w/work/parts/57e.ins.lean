/-! INSTRUCTIONS: the end of what broke in -/
set_option maxHeartbeats 4000000 in
theorem top_note {c s T E : Nat} {L : List Int32} {C0 M0 C M : Mem} {n t m : Nat} {x1 x3 : Int32} (hcs : cs c s) (h : Top c s T E L C0 M0 C M) (hm : Md c C M) (hcc : c = 9) (hE : E < 2 ^ 29) (hmm : m ≤ 5) (hq0 : n < 2 ^ 30) (hq1 : C c 51 = nI n) (e1 : C c 37 = nI t) (e25 : M 4 25 = nI t) : Top c s T (E + 1) L C0 M0 (up2 (upr C (c + 11) (evRow (C (c + 11)) (n % 24) (nI m) x1 (nI t) x3)) c 51 (nI (n + 1))) (up2 (up2 (up2 (up2 (up2 M 7 (n % 24) (nI m)) 8 (n % 24) x1) 9 (n % 24) (nI t)) 10 (n % 24) x3) 0 11 (nI (n + 1))) ∧ Md c (up2 (upr C (c + 11) (evRow (C (c + 11)) (n % 24) (nI m) x1 (nI t) x3)) c 51 (nI (n + 1))) (up2 (up2 (up2 (up2 (up2 M 7 (n % 24) (nI m)) 8 (n % 24) x1) 9 (n % 24) (nI t)) 10 (n % 24) x3) 0 11 (nI (n + 1))) := by
  refine ⟨?_, ?_⟩
  · refine ⟨⟨?_, ?_, ?_, ?_, ?_, ?_, ?_, ?_, ?_, ?_, ?_, ?_, ?_, ?_, ?_, ?_, ?_, ?_, ?_, ?_, ?_, ?_, ?_, ?_, ?_, ?_, ?_, ?_, ?_, ?_, ?_, ?_, ?_⟩, ⟨?_, ?_, ?_, ?_, ?_⟩⟩
    · exact rReg_fr h.reg (by intros; first | rfl | (simp (disch := omega) only [up2_x, upr_x])) (by intros; first | rfl | (simp (disch := omega) only [up2_x, upr_x]))
    · exact rDat_fr h.dat (by intros; first | rfl | (simp (disch := omega) only [up2_x, upr_x])) (by intros; first | rfl | (simp (disch := omega) only [up2_x, upr_x]))
    · exact rStk_fr h.stk (by intros; first | rfl | (simp (disch := omega) only [up2_x, upr_x])) (by intros; first | rfl | (simp (disch := omega) only [up2_x, upr_x]))
    · exact rFlt_fr h.flt (by intros; first | rfl | (simp (disch := omega) only [up2_x, upr_x])) (by intros; first | rfl | (simp (disch := omega) only [up2_x, upr_x]))
    · exact rZn_fr h.zn (by intros; first | rfl | (simp (disch := omega) only [up2_x, upr_x])) (by intros; first | rfl | (simp (disch := omega) only [up2_x, upr_x]))
    · exact rPc_fr h.pc (by intros; first | rfl | (simp (disch := omega) only [up2_x, upr_x])) (by intros; first | rfl | (simp (disch := omega) only [up2_x, upr_x]))
    · exact rSp_fr h.sp (by intros; first | rfl | (simp (disch := omega) only [up2_x, upr_x])) (by intros; first | rfl | (simp (disch := omega) only [up2_x, upr_x]))
    · exact rShu_fr h.shu (by intros; first | rfl | (simp (disch := omega) only [up2_x, upr_x])) (by intros; first | rfl | (simp (disch := omega) only [up2_x, upr_x]))
    · exact rBas_fr h.bas (by intros; first | rfl | (simp (disch := omega) only [up2_x, upr_x])) (by intros; first | rfl | (simp (disch := omega) only [up2_x, upr_x]))
    · exact rFls_fr h.fls (by intros; first | rfl | (simp (disch := omega) only [up2_x, upr_x])) (by intros; first | rfl | (simp (disch := omega) only [up2_x, upr_x]))
    · exact rLaz_fr h.laz (by intros; first | rfl | (simp (disch := omega) only [up2_x, upr_x])) (by intros; first | rfl | (simp (disch := omega) only [up2_x, upr_x]))
    · exact rPh_fr h.ph (by intros; first | rfl | (simp (disch := omega) only [up2_x, upr_x])) (by intros; first | rfl | (simp (disch := omega) only [up2_x, upr_x]))
    · exact rStp_fr h.stp (by intros; first | rfl | (simp (disch := omega) only [up2_x, upr_x])) (by intros; first | rfl | (simp (disch := omega) only [up2_x, upr_x]))
    · exact rStl_fr h.stl (by intros; first | rfl | (simp (disch := omega) only [up2_x, upr_x])) (by intros; first | rfl | (simp (disch := omega) only [up2_x, upr_x]))
    · exact rAsl_fr h.asl (by intros; first | rfl | (simp (disch := omega) only [up2_x, upr_x])) (by intros; first | rfl | (simp (disch := omega) only [up2_x, upr_x]))
    · exact rClk_fr h.clk (by intros; first | rfl | (simp (disch := omega) only [up2_x, upr_x])) (by intros; first | rfl | (simp (disch := omega) only [up2_x, upr_x]))
    · exact rPer_fr h.per (by intros; first | rfl | (simp (disch := omega) only [up2_x, upr_x])) (by intros; first | rfl | (simp (disch := omega) only [up2_x, upr_x]))
    · exact rTim_fr h.tim (by intros; first | rfl | (simp (disch := omega) only [up2_x, upr_x])) (by intros; first | rfl | (simp (disch := omega) only [up2_x, upr_x]))
    · exact rNst_fr h.nst (by intros; first | rfl | (simp (disch := omega) only [up2_x, upr_x])) (by intros; first | rfl | (simp (disch := omega) only [up2_x, upr_x])) (by intros; first | rfl | (simp (disch := omega) only [up2_x, upr_x])) (by intros; first | rfl | (simp (disch := omega) only [up2_x, upr_x])) (by intros; first | rfl | (simp (disch := omega) only [up2_x, upr_x])) (by intros; first | rfl | (simp (disch := omega) only [up2_x, upr_x]))
    · exact rDue_fr h.due (by intros; first | rfl | (simp (disch := omega) only [up2_x, upr_x])) (by intros; first | rfl | (simp (disch := omega) only [up2_x, upr_x])) (by intros; first | rfl | (simp (disch := omega) only [up2_x, upr_x])) (by intros; first | rfl | (simp (disch := omega) only [up2_x, upr_x])) (by intros; first | rfl | (simp (disch := omega) only [up2_x, upr_x]))
    · exact rRnk_fr h.rnk (by intros; first | rfl | (simp (disch := omega) only [up2_x, upr_x])) (by intros; first | rfl | (simp (disch := omega) only [up2_x, upr_x]))
    · exact rVec_fr h.vec (by intros; first | rfl | (simp (disch := omega) only [up2_x, upr_x])) (by intros; first | rfl | (simp (disch := omega) only [up2_x, upr_x]))
    · exact rEna_fr h.ena (by intros; first | rfl | (simp (disch := omega) only [up2_x, upr_x])) (by intros; first | rfl | (simp (disch := omega) only [up2_x, upr_x]))
    · exact rPnd_fr h.pnd (by intros; first | rfl | (simp (disch := omega) only [up2_x, upr_x])) (by intros; first | rfl | (simp (disch := omega) only [up2_x, upr_x]))
    · exact rAct_fr h.act (by intros; first | rfl | (simp (disch := omega) only [up2_x, upr_x])) (by intros; first | rfl | (simp (disch := omega) only [up2_x, upr_x])) (by intros; first | rfl | (simp (disch := omega) only [up2_x, upr_x]))
    · exact rHld_fr h.hld (by intros; first | rfl | (simp (disch := omega) only [up2_x, upr_x])) (by intros; first | rfl | (simp (disch := omega) only [up2_x, upr_x]))
    · exact rSpl_fr h.spl (by intros; first | rfl | (simp (disch := omega) only [up2_x, upr_x])) (by intros; first | rfl | (simp (disch := omega) only [up2_x, upr_x]))
    · exact rSta_fr h.sta (by intros; first | rfl | (simp (disch := omega) only [up2_x, upr_x])) (by intros; first | rfl | (simp (disch := omega) only [up2_x, upr_x]))
    · exact rSav_fr h.sav (by intros; first | rfl | (simp (disch := omega) only [up2_x, upr_x])) (by intros; first | rfl | (simp (disch := omega) only [up2_x, upr_x]))
    · exact rUns_fr h.uns (by intros; first | rfl | (simp (disch := omega) only [up2_x, upr_x])) (by intros; first | rfl | (simp (disch := omega) only [up2_x, upr_x])) (by intros; first | rfl | (simp (disch := omega) only [up2_x, upr_x]))
    · exact rCod_fr h.cod (by intros; first | rfl | (simp (disch := omega) only [up2_x, upr_x])) (by intros; first | rfl | (simp (disch := omega) only [up2_x, upr_x]))
    · exact rObs_fr (C := C) (M := M) h.obs (by intros; first | rfl | (simp (disch := omega) only [up2_x, upr_x])) (by intros; first | rfl | (simp (disch := omega) only [up2_x, upr_x]))
    · exact rMdc_fr (C := C) (M := M) h.mdc (by intros; first | rfl | (simp (disch := omega) only [up2_x, upr_x]))
    · exact rCnt_fr h.cnt (by intros; first | rfl | (simp (disch := omega) only [up2_x, upr_x])) (by intros; first | rfl | (simp (disch := omega) only [up2_x, upr_x]))
    · exact rOut_fr h.out (by intros; first | rfl | (simp (disch := omega) only [up2_x, upr_x])) (by intros; first | rfl | (simp (disch := omega) only [up2_x, upr_x])) (by intros; first | rfl | (simp (disch := omega) only [up2_x, upr_x])) (by intros; first | rfl | (simp (disch := omega) only [up2_x, upr_x]))
    · exact evt_note h.evt (fun z => ⟨hq1, hq0⟩) (by omega) (m := m) (x1 := x1) (x2 := nI t) (x3 := x3) (by omega) (by intros; simp (disch := omega) only [up2_x, up2_e, upr_x, upr_e, up2_i, up2_n, e1, e25]) (by intros; simp (disch := omega) only [up2_x, up2_e, upr_x, upr_e, up2_i, up2_n, e1, e25]) (by intros; simp (disch := omega) only [up2_x, up2_e, upr_x, upr_e, up2_i, up2_n, e1, e25]) (by intros; simp (disch := omega) only [up2_x, up2_e, upr_x, upr_e, up2_i, up2_n, e1, e25]) (by intros; simp (disch := omega) only [up2_x, up2_e, upr_x, upr_e, up2_i, up2_n, e1, e25]) (by intros; simp (disch := omega) only [up2_x, up2_e, upr_x, upr_e, up2_i, up2_n, e1, e25]) (by intros; simp (disch := omega) only [up2_x, up2_e, upr_x, upr_e, up2_i, up2_n, e1, e25])
    · exact rWai_fr h.wai (by intros; first | rfl | (simp (disch := omega) only [up2_x, upr_x])) (by intros; first | rfl | (simp (disch := omega) only [up2_x, upr_x]))
    · exact rFrm_fr h.frm (by intros; first | rfl | (simp (disch := omega) only [up2_x, upr_x])) (by intros; first | rfl | (simp (disch := omega) only [up2_x, upr_x]))
  · exact Md_fr hm (by first | rfl | simp (disch := omega) only [up2_x, upr_x]) (by first | rfl | simp (disch := omega) only [up2_x, upr_x]) (by first | rfl | simp (disch := omega) only [up2_x, upr_x]) (by first | rfl | simp (disch := omega) only [up2_x, upr_x]) (by first | rfl | simp (disch := omega) only [up2_x, upr_x])
set_option maxHeartbeats 4000000 in
theorem top_end {c s T E : Nat} {L : List Int32} {C0 M0 C M : Mem} {d b : Nat} {nst : Nat → Nat} (hcs : cs c s) (h : Top c s T E L C0 M0 C M) (hm : Md c C M) (n1 : d ≤ 21) (hd : 0 < d) (n4 : ∀ j, j < d → C (c + 6) j = nI (nst j) ∧ M s (152 + j) = nI (nst j) ∧ nst j < 21 ∧ C (c + 22 + nst j) 5 = 1) (n5 : ∀ i j, i < j → j < d → grpV (M s (173 + nst j)) (M 0 3) (nst j) < grpV (M s (173 + nst i)) (M 0 3) (nst i)) (hb : nst (d - 1) = b) (hb21 : b < 21) : Top c s T E L C0 M0 (up2 (up2 C c 33 (nI (d - 1))) (c + 22 + b) 5 0) (up2 (up2 M s 30 (nI (d - 1))) s (300 + b) 0) ∧ Md c (up2 (up2 C c 33 (nI (d - 1))) (c + 22 + b) 5 0) (up2 (up2 M s 30 (nI (d - 1))) s (300 + b) 0) := by
  refine ⟨?_, ?_⟩
  · refine ⟨⟨?_, ?_, ?_, ?_, ?_, ?_, ?_, ?_, ?_, ?_, ?_, ?_, ?_, ?_, ?_, ?_, ?_, ?_, ?_, ?_, ?_, ?_, ?_, ?_, ?_, ?_, ?_, ?_, ?_, ?_, ?_, ?_, ?_⟩, ⟨?_, ?_, ?_, ?_, ?_⟩⟩
    · exact rReg_fr h.reg (by intros; first | rfl | (simp (disch := omega) only [up2_x, upr_x])) (by intros; first | rfl | (simp (disch := omega) only [up2_x, upr_x]))
    · exact rDat_fr h.dat (by intros; first | rfl | (simp (disch := omega) only [up2_x, upr_x])) (by intros; first | rfl | (simp (disch := omega) only [up2_x, upr_x]))
    · exact rStk_fr h.stk (by intros; first | rfl | (simp (disch := omega) only [up2_x, upr_x])) (by intros; first | rfl | (simp (disch := omega) only [up2_x, upr_x]))
    · exact rFlt_fr h.flt (by intros; first | rfl | (simp (disch := omega) only [up2_x, upr_x])) (by intros; first | rfl | (simp (disch := omega) only [up2_x, upr_x]))
    · exact rZn_fr h.zn (by intros; first | rfl | (simp (disch := omega) only [up2_x, upr_x])) (by intros; first | rfl | (simp (disch := omega) only [up2_x, upr_x]))
    · exact rPc_fr h.pc (by intros; first | rfl | (simp (disch := omega) only [up2_x, upr_x])) (by intros; first | rfl | (simp (disch := omega) only [up2_x, upr_x]))
    · exact rSp_fr h.sp (by intros; first | rfl | (simp (disch := omega) only [up2_x, upr_x])) (by intros; first | rfl | (simp (disch := omega) only [up2_x, upr_x]))
    · exact rShu_fr h.shu (by intros; first | rfl | (simp (disch := omega) only [up2_x, upr_x])) (by intros; first | rfl | (simp (disch := omega) only [up2_x, upr_x]))
    · exact rBas_fr h.bas (by intros; first | rfl | (simp (disch := omega) only [up2_x, upr_x])) (by intros; first | rfl | (simp (disch := omega) only [up2_x, upr_x]))
    · exact rFls_fr h.fls (by intros; first | rfl | (simp (disch := omega) only [up2_x, upr_x])) (by intros; first | rfl | (simp (disch := omega) only [up2_x, upr_x]))
    · exact rLaz_fr h.laz (by intros; first | rfl | (simp (disch := omega) only [up2_x, upr_x])) (by intros; first | rfl | (simp (disch := omega) only [up2_x, upr_x]))
    · exact rPh_fr h.ph (by intros; first | rfl | (simp (disch := omega) only [up2_x, upr_x])) (by intros; first | rfl | (simp (disch := omega) only [up2_x, upr_x]))
    · exact rStp_fr h.stp (by intros; first | rfl | (simp (disch := omega) only [up2_x, upr_x])) (by intros; first | rfl | (simp (disch := omega) only [up2_x, upr_x]))
    · exact rStl_fr h.stl (by intros; first | rfl | (simp (disch := omega) only [up2_x, upr_x])) (by intros; first | rfl | (simp (disch := omega) only [up2_x, upr_x]))
    · exact rAsl_fr h.asl (by intros; first | rfl | (simp (disch := omega) only [up2_x, upr_x])) (by intros; first | rfl | (simp (disch := omega) only [up2_x, upr_x]))
    · exact rClk_fr h.clk (by intros; first | rfl | (simp (disch := omega) only [up2_x, upr_x])) (by intros; first | rfl | (simp (disch := omega) only [up2_x, upr_x]))
    · exact rPer_fr h.per (by intros; first | rfl | (simp (disch := omega) only [up2_x, upr_x])) (by intros; first | rfl | (simp (disch := omega) only [up2_x, upr_x]))
    · exact rTim_fr h.tim (by intros; first | rfl | (simp (disch := omega) only [up2_x, upr_x])) (by intros; first | rfl | (simp (disch := omega) only [up2_x, upr_x]))
    · refine ⟨d - 1, nst, by omega, ?_, ?_, fun j hj => ?_, fun i j hij hj => ?_⟩
      · simp (disch := omega) only [up2_x, up2_e, upr_x]
      · simp (disch := omega) only [up2_x, up2_e, upr_x]
      · obtain ⟨a1, a2, a3, a4⟩ := n4 j (by omega)
        have hne : ¬ nst j = b := fun z => by
          have := n5 j (d - 1) hj (by omega)
          rw [hb, z] at this
          exact i32_irr this
        refine ⟨?_, ?_, a3, ?_⟩
        · simp (disch := omega) only [up2_x, upr_x]; exact a1
        · simp (disch := omega) only [up2_x, upr_x]; exact a2
        · simp (disch := omega) only [up2_x, upr_x]; exact a4
      · have b3 := (n4 j (by omega)).2.2.1
        have b4 := (n4 i (by omega)).2.2.1
        simp (disch := omega) only [up2_x, upr_x]
        exact n5 i j hij (by omega)
    · exact rDue_fr h.due (by intros; first | rfl | (simp (disch := omega) only [up2_x, upr_x])) (by intros; first | rfl | (simp (disch := omega) only [up2_x, upr_x])) (by intros; first | rfl | (simp (disch := omega) only [up2_x, upr_x])) (by intros; first | rfl | (simp (disch := omega) only [up2_x, upr_x])) (by intros; first | rfl | (simp (disch := omega) only [up2_x, upr_x]))
    · exact rRnk_fr h.rnk (by intros; first | rfl | (simp (disch := omega) only [up2_x, upr_x])) (by intros; first | rfl | (simp (disch := omega) only [up2_x, upr_x]))
    · exact rVec_fr h.vec (by intros; first | rfl | (simp (disch := omega) only [up2_x, upr_x])) (by intros; first | rfl | (simp (disch := omega) only [up2_x, upr_x]))
    · exact rEna_fr h.ena (by intros; first | rfl | (simp (disch := omega) only [up2_x, upr_x])) (by intros; first | rfl | (simp (disch := omega) only [up2_x, upr_x]))
    · exact rPnd_fr h.pnd (by intros; first | rfl | (simp (disch := omega) only [up2_x, upr_x])) (by intros; first | rfl | (simp (disch := omega) only [up2_x, upr_x]))
    · intro j hj
      by_cases e : j = b
      · subst e
        refine ⟨?_, ?_, fun z => absurd z ?_⟩
        · simp (disch := omega) only [up2_x, up2_e, upr_x]
        · simp (disch := omega) only [up2_x, up2_e, upr_x]; rfl
        · simp (disch := omega) only [up2_x, up2_e, upr_x]; decide
      · simp (disch := omega) only [up2_x, upr_x]
        exact h.act j hj
    · exact rHld_fr h.hld (by intros; first | rfl | (simp (disch := omega) only [up2_x, upr_x])) (by intros; first | rfl | (simp (disch := omega) only [up2_x, upr_x]))
    · exact rSpl_fr h.spl (by intros; first | rfl | (simp (disch := omega) only [up2_x, upr_x])) (by intros; first | rfl | (simp (disch := omega) only [up2_x, upr_x]))
    · exact rSta_fr h.sta (by intros; first | rfl | (simp (disch := omega) only [up2_x, upr_x])) (by intros; first | rfl | (simp (disch := omega) only [up2_x, upr_x]))
    · exact rSav_fr h.sav (by intros; first | rfl | (simp (disch := omega) only [up2_x, upr_x])) (by intros; first | rfl | (simp (disch := omega) only [up2_x, upr_x]))
    · exact rUns_fr h.uns (by intros; first | rfl | (simp (disch := omega) only [up2_x, upr_x])) (by intros; first | rfl | (simp (disch := omega) only [up2_x, upr_x])) (by intros; first | rfl | (simp (disch := omega) only [up2_x, upr_x]))
    · exact rCod_fr h.cod (by intros; first | rfl | (simp (disch := omega) only [up2_x, upr_x])) (by intros; first | rfl | (simp (disch := omega) only [up2_x, upr_x]))
    · exact rObs_fr (C := C) (M := M) h.obs (by intros; first | rfl | (simp (disch := omega) only [up2_x, upr_x])) (by intros; first | rfl | (simp (disch := omega) only [up2_x, upr_x]))
    · exact rMdc_fr (C := C) (M := M) h.mdc (by intros; first | rfl | (simp (disch := omega) only [up2_x, upr_x]))
    · exact rCnt_fr h.cnt (by intros; first | rfl | (simp (disch := omega) only [up2_x, upr_x])) (by intros; first | rfl | (simp (disch := omega) only [up2_x, upr_x]))
    · exact rOut_fr h.out (by intros; first | rfl | (simp (disch := omega) only [up2_x, upr_x])) (by intros; first | rfl | (simp (disch := omega) only [up2_x, upr_x])) (by intros; first | rfl | (simp (disch := omega) only [up2_x, upr_x])) (by intros; first | rfl | (simp (disch := omega) only [up2_x, upr_x]))
    · exact rEvt_fr h.evt (by intros; first | rfl | (simp (disch := omega) only [up2_x, upr_x])) (by intros; first | rfl | (simp (disch := omega) only [up2_x, upr_x])) (by intros; first | rfl | (simp (disch := omega) only [up2_x, upr_x])) (by intros; first | rfl | (simp (disch := omega) only [up2_x, upr_x]))
    · exact rWai_fr h.wai (by intros; first | rfl | (simp (disch := omega) only [up2_x, upr_x])) (by intros; first | rfl | (simp (disch := omega) only [up2_x, upr_x]))
    · exact rFrm_fr h.frm (by intros; first | rfl | (simp (disch := omega) only [up2_x, upr_x])) (by intros; first | rfl | (simp (disch := omega) only [up2_x, upr_x]))
  · exact Md_fr hm (by first | rfl | simp (disch := omega) only [up2_x, upr_x]) (by first | rfl | simp (disch := omega) only [up2_x, upr_x]) (by first | rfl | simp (disch := omega) only [up2_x, upr_x]) (by first | rfl | simp (disch := omega) only [up2_x, upr_x]) (by first | rfl | simp (disch := omega) only [up2_x, upr_x])
theorem Mch_k10 {c s T E : Nat} {L : List Int32} {C0 M0 C M : Mem} (hcs : cs c s) (h : Mch c s T E L C0 M0 C M) : Mch c s T E L C0 M0 C (k10 c M) := by
  refine ⟨?_, ?_, ?_, ?_, ?_, ?_, ?_, ?_, ?_, ?_, ?_, ?_, ?_, ?_, ?_, ?_, ?_, ?_, ?_, ?_, ?_, ?_, ?_, ?_, ?_, ?_, ?_, ?_, ?_, ?_, ?_, ?_, ?_⟩
  · exact rReg_fr h.reg (by intros; first | rfl | (simp (disch := omega) only [k10_x])) (by intros; first | rfl | (simp (disch := omega) only [k10_x]))
  · exact rDat_fr h.dat (by intros; first | rfl | (simp (disch := omega) only [k10_x])) (by intros; first | rfl | (simp (disch := omega) only [k10_x]))
  · exact rStk_fr h.stk (by intros; first | rfl | (simp (disch := omega) only [k10_x])) (by intros; first | rfl | (simp (disch := omega) only [k10_x]))
  · exact rFlt_fr h.flt (by intros; first | rfl | (simp (disch := omega) only [k10_x])) (by intros; first | rfl | (simp (disch := omega) only [k10_x]))
  · exact rZn_fr h.zn (by intros; first | rfl | (simp (disch := omega) only [k10_x])) (by intros; first | rfl | (simp (disch := omega) only [k10_x]))
  · exact rPc_fr h.pc (by intros; first | rfl | (simp (disch := omega) only [k10_x])) (by intros; first | rfl | (simp (disch := omega) only [k10_x]))
  · exact rSp_fr h.sp (by intros; first | rfl | (simp (disch := omega) only [k10_x])) (by intros; first | rfl | (simp (disch := omega) only [k10_x]))
  · exact rShu_fr h.shu (by intros; first | rfl | (simp (disch := omega) only [k10_x])) (by intros; first | rfl | (simp (disch := omega) only [k10_x]))
  · exact rBas_fr h.bas (by intros; first | rfl | (simp (disch := omega) only [k10_x])) (by intros; first | rfl | (simp (disch := omega) only [k10_x]))
  · exact rFls_fr h.fls (by intros; first | rfl | (simp (disch := omega) only [k10_x])) (by intros; first | rfl | (simp (disch := omega) only [k10_x]))
  · exact rLaz_fr h.laz (by intros; first | rfl | (simp (disch := omega) only [k10_x])) (by intros; first | rfl | (simp (disch := omega) only [k10_x]))
  · exact rPh_fr h.ph (by intros; first | rfl | (simp (disch := omega) only [k10_x])) (by intros; first | rfl | (simp (disch := omega) only [k10_x]))
  · exact rStp_fr h.stp (by intros; first | rfl | (simp (disch := omega) only [k10_x])) (by intros; first | rfl | (simp (disch := omega) only [k10_x]))
  · exact rStl_fr h.stl (by intros; first | rfl | (simp (disch := omega) only [k10_x])) (by intros; first | rfl | (simp (disch := omega) only [k10_x]))
  · exact rAsl_fr h.asl (by intros; first | rfl | (simp (disch := omega) only [k10_x])) (by intros; first | rfl | (simp (disch := omega) only [k10_x]))
  · exact rClk_fr h.clk (by intros; first | rfl | (simp (disch := omega) only [k10_x])) (by intros; first | rfl | (simp (disch := omega) only [k10_x]))
  · exact rPer_fr h.per (by intros; first | rfl | (simp (disch := omega) only [k10_x])) (by intros; first | rfl | (simp (disch := omega) only [k10_x]))
  · exact rTim_fr h.tim (by intros; first | rfl | (simp (disch := omega) only [k10_x])) (by intros; first | rfl | (simp (disch := omega) only [k10_x]))
  · exact rNst_fr h.nst (by intros; first | rfl | (simp (disch := omega) only [k10_x])) (by intros; first | rfl | (simp (disch := omega) only [k10_x])) (by intros; first | rfl | (simp (disch := omega) only [k10_x])) (by intros; first | rfl | (simp (disch := omega) only [k10_x])) (by intros; first | rfl | (simp (disch := omega) only [k10_x])) (by intros; first | rfl | (simp (disch := omega) only [k10_x]))
  · exact rDue_fr h.due (by intros; first | rfl | (simp (disch := omega) only [k10_x])) (by intros; first | rfl | (simp (disch := omega) only [k10_x])) (by intros; first | rfl | (simp (disch := omega) only [k10_x])) (by intros; first | rfl | (simp (disch := omega) only [k10_x])) (by intros; first | rfl | (simp (disch := omega) only [k10_x]))
  · exact rRnk_fr h.rnk (by intros; first | rfl | (simp (disch := omega) only [k10_x])) (by intros; first | rfl | (simp (disch := omega) only [k10_x]))
  · exact rVec_fr h.vec (by intros; first | rfl | (simp (disch := omega) only [k10_x])) (by intros; first | rfl | (simp (disch := omega) only [k10_x]))
  · exact rEna_fr h.ena (by intros; first | rfl | (simp (disch := omega) only [k10_x])) (by intros; first | rfl | (simp (disch := omega) only [k10_x]))
  · exact rPnd_fr h.pnd (by intros; first | rfl | (simp (disch := omega) only [k10_x])) (by intros; first | rfl | (simp (disch := omega) only [k10_x]))
  · exact rAct_fr h.act (by intros; first | rfl | (simp (disch := omega) only [k10_x])) (by intros; first | rfl | (simp (disch := omega) only [k10_x])) (by intros; first | rfl | (simp (disch := omega) only [k10_x]))
  · exact rHld_fr h.hld (by intros; first | rfl | (simp (disch := omega) only [k10_x])) (by intros; first | rfl | (simp (disch := omega) only [k10_x]))
  · exact rSpl_fr h.spl (by intros; first | rfl | (simp (disch := omega) only [k10_x])) (by intros; first | rfl | (simp (disch := omega) only [k10_x]))
  · exact rSta_fr h.sta (by intros; first | rfl | (simp (disch := omega) only [k10_x])) (by intros; first | rfl | (simp (disch := omega) only [k10_x]))
  · exact rSav_fr h.sav (by intros; first | rfl | (simp (disch := omega) only [k10_x])) (by intros; first | rfl | (simp (disch := omega) only [k10_x]))
  · exact rUns_fr h.uns (by intros; first | rfl | (simp (disch := omega) only [k10_x])) (by intros; first | rfl | (simp (disch := omega) only [k10_x])) (by intros; first | rfl | (simp (disch := omega) only [k10_x]))
  · exact rCod_fr h.cod (by intros; first | rfl | (simp (disch := omega) only [k10_x])) (by intros; first | rfl | (simp (disch := omega) only [k10_x]))
  · exact rObs_fr (C := C) (M := M) h.obs (by intros; first | rfl | (simp (disch := omega) only [k10_x])) (by intros; first | rfl | (simp (disch := omega) only [k10_x]))
  · exact rMdc_fr (C := C) (M := M) h.mdc (by intros; first | rfl | (simp (disch := omega) only [k10_x]))
theorem up2_upr {C : Mem} {o o' k : Nat} {r : Nat → Int32} {v : Int32} (h : ¬ o = o') : up2 (upr C o r) o' k v = upr (up2 C o' k v) o r := by
  funext x y
  by_cases h1 : x = o
  · subst h1
    rw [upr_e, up2_x (by omega), upr_e]
  · rw [upr_x h1]
    by_cases h2 : x = o' ∧ y = k
    · obtain ⟨rfl, rfl⟩ := h2
      rw [up2_e, up2_e]
    · rw [up2_x (by omega), up2_x (by omega), upr_x h1]
/-- the end: whether it chains -/
theorem sim_ends_88 {c s T E : Nat} {L : List Int32} {C0 M0 C M : Mem} (hcs : cs c s) (h : Top c s T E L C0 M0 C M) (hm : Md c C M) (hT : T < 2 ^ 29) (h43 : C c 43 = 0) : ∃ C' M', fc_Core_ends_88 c C = some (Sum.inl (), C') ∧ fm_ends_62 s (k10 c M) = some ((), k10 c M') ∧ Top c s T E L C0 M0 C' M' ∧ Md c C' M' ∧ Bd c s C' M' ∧ C' c 52 = C c 52 := by
  obtain ⟨o, n1, n2, n3⟩ := top_next hcs (by omega) (Mch_k10 hcs h.1)
  have h26 : C c 26 = M 0 15 := by
    rcases hcs with ⟨z, w⟩ | ⟨z, w⟩
    · rw [← hm.2.1, (h.mdc.1 z).2.1, (h.mdc.1 z).2.2]
    · rw [← hm.2.1, (h.mdc.2 z).2.2]
  have hB : isB (M 0 15) = true := by
    rw [← hm.2.1]
    rcases hcs with ⟨z, w⟩ | ⟨z, w⟩
    · rw [(h.mdc.1 z).2.1]; rfl
    · exact (h.mdc.2 z).2.1
  obtain ⟨t1, t2⟩ := top_turn2 hcs h hm h43
  obtain ⟨u1, u2⟩ := top_turn3 hcs h hm h43
  unfold fc_Core_ends_88 fc_Core_ends_110 fm_ends_62 fm_ends_83 fm_ends_84 fv_may fc_Core_lambda_new_2 fc_Core_lambda_new_2_9 fc_Core_lambda_new_3
  rw [n1, bnd_s, h26, k10_x (show ¬ (0 : Nat) = 6 ∨ _ by omega)]
  have c3 : ∃ C' M', (bnd (fc_Core_turns c 3 C) fun r1 C1 => some ((Sum.inl () : Unit ⊕ Int32), C1)) = some (Sum.inl (), C') ∧ (bnd (fm_turns s 3 0 (k10 c M)) fun r1 M1 => some ((), M1)) = some ((), k10 c M') ∧ Top c s T E L C0 M0 C' M' ∧ Md c C' M' ∧ Bd c s C' M' ∧ C' c 52 = C c 52 := by
    rw [show fc_Core_turns c 3 = fc_Core_turns c (nI 3) from rfl, fc_turns_v (by omega), bnd_s, fm_turns_v, bnd_s, k10_up (by omega), k10_up (by omega)]
    exact ⟨_, _, rfl, rfl, u1, u2, Bd_0 (by simp (disch := omega) only [up2_x, up2_e, upr_x]; decide) (by simp (disch := omega) only [up2_x, up2_e, upr_x]), by simp (disch := omega) only [up2_x, upr_x]⟩
  have c2 : ∃ C' M', (bnd (fc_Core_turns c 2 C) fun r1 C1 => some ((Sum.inl () : Unit ⊕ Int32), C1)) = some (Sum.inl (), C') ∧ (bnd (fm_turns s 2 0 (k10 c M)) fun r1 M1 => some ((), M1)) = some ((), k10 c M') ∧ Top c s T E L C0 M0 C' M' ∧ Md c C' M' ∧ Bd c s C' M' ∧ C' c 52 = C c 52 := by
    rw [show fc_Core_turns c 2 = fc_Core_turns c (nI 2) from rfl, fc_turns_v (by omega), bnd_s, fm_turns_v, bnd_s, k10_up (by omega), k10_up (by omega)]
    exact ⟨_, _, rfl, rfl, t1, t2, Bd_of (by simp (disch := omega) only [up2_x, up2_e, upr_x]; decide) (by simp (disch := omega) only [up2_x, up2_e, upr_x]; decide), by simp (disch := omega) only [up2_x, upr_x]⟩
  rcases isB_or hB with z | z
  · rw [z, if_pos rfl, if_pos rfl, n2, bnd_s]
    cases o with
    | none =>
      rw [if_pos (show oI none < 0 by decide), if_pos (show oI none < 0 by decide), isB_0, gd_t, bnd_s, isB_0, gd_t, bnd_s, if_pos rfl]
      exact c3
    | some b =>
      have hb := (n3 b rfl).1
      rw [show oI (some b) = nI b from rfl, if_neg (show ¬ nI b < 0 from nI_pos (by omega)), if_neg (show ¬ nI b < 0 from nI_pos (by omega)), isB_1, gd_t, bnd_s, isB_1, gd_t, bnd_s, if_neg (show ¬ (1 : Int32) = 0 by decide)]
      exact c2
  · rw [z, if_neg (show ¬ (1 : Int32) = 0 by decide), if_neg (show ¬ (1 : Int32) = 0 by decide), bnd_s, isB_0, gd_t, bnd_s, if_pos rfl]
    exact c3
/-- .. behind the note: whether it's held -/
theorem sim_ends_72 {c s T E : Nat} {L : List Int32} {C0 M0 C M : Mem} {b : Nat} (hcs : cs c s) (h : Top c s T E L C0 M0 C M) (hm : Md c C M) (hT : T < 2 ^ 29) (h43 : C c 43 = 0) (hb : b < 21) {Cz : Mem} (hz : C = up2 Cz (c + 22 + b) 5 0) : ∃ C' M', fc_Core_ends_72 c (c + 22 + b) Cz = some (Sum.inl (), C') ∧ (if M s (215 + b) = 1 then (bnd (fm_pends s (nI b) (k10 c M)) fun r9 M9 => fm_ends_62 s M9) else fm_ends_62 s (k10 c M)) = some ((), k10 c M') ∧ Top c s T E L C0 M0 C' M' ∧ Md c C' M' ∧ Bd c s C' M' ∧ C' c 52 = C c 52 := by
  obtain ⟨g1, g2⟩ := h.hld b hb
  have hse : fc_Src_ends (c + 22 + b) Cz = some (0, C) := by
    unfold fc_Src_ends
    rw [stp_e, ← hz]
  have hends : fv_ends (c + 22 + b) Cz = some (if M s (215 + b) = 1 then 1 else 0, C) := by
    unfold fv_ends
    rw [cS_k (cs_cC hcs) hb]
    by_cases hl : 8 ≤ b ∧ b < 16
    · rw [if_pos hl]
      obtain ⟨q1, q2⟩ := g1 hl
      unfold fc_Lev_ends fc_Lev_ends_14 fc_Lev_ends_19
      rw [hse, bnd_s, if_pos rfl, q1]
      rw [q1] at q2
      rcases isB_or q2 with w | w
      · rw [w, if_pos rfl, isB_0, gd_t, if_neg (by decide)]
      · rw [w, if_neg (by decide), isB_1, gd_t, if_pos rfl]
    · rw [if_neg hl, hse, g2 hl, if_neg (by decide)]
  unfold fc_Core_ends_72
  rw [hends, bnd_s, cS_k (cs_cC hcs) hb]
  by_cases hh : M s (215 + b) = 1
  · rw [if_pos hh, if_pos hh, if_neg (show ¬ (1 : Int32) = 0 by decide)]
    obtain ⟨r, C1, M1, a1, a2, a3, a4, a5, a6, a7⟩ := sim_becomes (k := b) hcs (by omega) h hm.1 hb
    have hp : fm_pends s (nI b) (k10 c M) = some ((), k10 c M1) := by
      rcases h.pnd b hb with ⟨p1, p2⟩ | ⟨p1, q, hq, p2, p3⟩
      · rw [fm_pends_f hb p2] at a2
        cases a2
        rw [fm_pends_f hb (by simp (disch := omega) only [k10_x, up2_x]; exact p2)]
        simp (disch := omega) only [k10_x, up2_x]
        rw [k10_up (by omega)]
      · rcases hcs with ⟨z, w⟩ | ⟨z, w⟩
        · rw [fm_pends_m hb p3 (by omega) (hm.1.1 z)] at a2
          cases a2
          rw [fm_pends_m (q := q) hb (by simp (disch := omega) only [k10_x, up2_x]; exact p3) (by omega) (by simp (disch := omega) only [k10_x, up2_x]; exact hm.1.1 z)]
          simp (disch := omega) only [k10_x, up2_x]
          rw [k10_up (by omega)]
        · rw [fm_pends_0 hb p3 (by omega) (hm.1.2 z)] at a2
          cases a2
          rw [fm_pends_0 (q := q) hb (by simp (disch := omega) only [k10_x, up2_x]; exact p3) (by omega) (by simp (disch := omega) only [k10_x, up2_x]; exact hm.1.2 z)]
    rw [a1, bnd_s, hp, bnd_s]
    obtain ⟨C', M', b1, b2, b3, b4, b5, b6⟩ := sim_ends_88 hcs a3 (Md_fr hm (a5 25) (a7 14) (a7 15) (a5 52) (a7 16)) hT (by rw [a5]; exact h43)
    exact ⟨C', M', b1, b2, b3, b4, b5, by rw [b6, a5]⟩
  · rw [if_neg hh, if_neg hh, if_pos rfl]
    exact sim_ends_88 hcs h hm hT h43
theorem op_18 {c s T E : Nat} {L : List Int32} {C0 M0 C M : Mem} {x y : Nat} (hcs : cs c s) (h : Top c s T E L C0 M0 C M) (hm : Md c C M) (hT : T < 2 ^ 29) (hE : E < 2 ^ 28) (hph : C c 41 = 0) (hx : x < 256) (hy : y < 256) (h43 : C c 43 = 0) : (∃ f, (f = 18 ∨ f = 19) ∧ fc_Op18_does c (nI x) (nI y) C = some (Sum.inr (nI f), C) ∧ (∀ Ma : Mem, (∀ j, ¬ j = 12 → ¬ j = 22 → Ma s j = M s j) → fm_faultOf s 18 (nI x) (nI y) Ma = some (nI f, Ma))) ∨ ((∀ Ma : Mem, (∀ j, ¬ j = 12 → ¬ j = 22 → Ma s j = M s j) → fm_faultOf s 18 (nI x) (nI y) Ma = some (-1, Ma)) ∧ ∃ C' M', fc_Op18_does c (nI x) (nI y) C = some (Sum.inl (), C') ∧ effM s 18 (nI x) (nI y) (k10 c M) = some ((), k10 c M') ∧ Top c s T (E + 1) L C0 M0 C' M' ∧ Md c C' M' ∧ Bd c s C' M' ∧ C' c 52 = C c 52) := by
  have h1 := h.mono (Nat.le_refl _) (Nat.le_succ E)
  obtain ⟨d, nst, n1, n2, n3, n4, n5⟩ := h.nst
  obtain ⟨t, ht, e1, e2⟩ := h.clk
  by_cases hd : d = 0
  · subst hd
    refine Or.inl ⟨18, Or.inl rfl, ?_, fun Ma hMa => by
      unfold fm_faultOf fm_faultOf_10 fm_faultOf_33 fm_faultOf_51 fm_faultOf_67 fm_faultOf_83 fm_faultOf_118 fm_faultOf_153 fm_faultOf_176 fm_faultOf_193
      simp only [show ((18 : Int32) = 0) = False from eq_false (by decide), show ((18 : Int32) = 1) = False from eq_false (by decide), show ((18 : Int32) = 2) = False from eq_false (by decide), show ((18 : Int32) = 3) = False from eq_false (by decide), show ((18 : Int32) = 4) = False from eq_false (by decide), show ((18 : Int32) = 5) = False from eq_false (by decide), show ((18 : Int32) = 6) = False from eq_false (by decide), show ((18 : Int32) = 7) = False from eq_false (by decide), show ((18 : Int32) = 8) = False from eq_false (by decide), show ((18 : Int32) = 9) = False from eq_false (by decide), show ((18 : Int32) = 10) = False from eq_false (by decide), show ((18 : Int32) = 11) = False from eq_false (by decide), show ((18 : Int32) = 12) = False from eq_false (by decide), show ((18 : Int32) = 13) = False from eq_false (by decide), show ((18 : Int32) = 14) = False from eq_false (by decide), show ((18 : Int32) = 15) = False from eq_false (by decide), show ((18 : Int32) = 16) = False from eq_false (by decide), show ((18 : Int32) = 17) = False from eq_false (by decide), show ((18 : Int32) = 20) = False from eq_false (by decide), show ((18 : Int32) = 21) = False from eq_false (by decide), show ((18 : Int32) = 22) = False from eq_false (by decide), show ((18 : Int32) = 23) = False from eq_false (by decide), show ((18 : Int32) = 25) = False from eq_false (by decide), show ((18 : Int32) = 26) = False from eq_false (by decide), show ((18 : Int32) = 27) = False from eq_false (by decide), show ((18 : Int32) = 28) = False from eq_false (by decide), show ((8 : Int32) ≤ 18) = True from eq_true (by decide), show ((14 : Int32) ≤ 18) = True from eq_true (by decide), show ((20 : Int32) ≤ 18) = False from eq_false (by decide), show ((25 : Int32) ≤ 18) = False from eq_false (by decide), show ((18 : Int32) ≤ 29) = True from eq_true (by decide), if_true, if_false]
      rw [hMa _ (by omega) (by omega), n3, if_pos (show nI 0 = 0 from rfl)]; rfl⟩
    unfold fc_Op18_does fc_Core_ends
    rw [n2, if_pos (show nI 0 = 0 from rfl), bndx_r]
    rfl
  · have hne : ¬ nI d = 0 := nI_ne0 (by omega) (by omega)
    refine Or.inr ⟨fun Ma hMa => by
      unfold fm_faultOf fm_faultOf_10 fm_faultOf_33 fm_faultOf_51 fm_faultOf_67 fm_faultOf_83 fm_faultOf_118 fm_faultOf_153 fm_faultOf_176 fm_faultOf_193
      simp only [show ((18 : Int32) = 0) = False from eq_false (by decide), show ((18 : Int32) = 1) = False from eq_false (by decide), show ((18 : Int32) = 2) = False from eq_false (by decide), show ((18 : Int32) = 3) = False from eq_false (by decide), show ((18 : Int32) = 4) = False from eq_false (by decide), show ((18 : Int32) = 5) = False from eq_false (by decide), show ((18 : Int32) = 6) = False from eq_false (by decide), show ((18 : Int32) = 7) = False from eq_false (by decide), show ((18 : Int32) = 8) = False from eq_false (by decide), show ((18 : Int32) = 9) = False from eq_false (by decide), show ((18 : Int32) = 10) = False from eq_false (by decide), show ((18 : Int32) = 11) = False from eq_false (by decide), show ((18 : Int32) = 12) = False from eq_false (by decide), show ((18 : Int32) = 13) = False from eq_false (by decide), show ((18 : Int32) = 14) = False from eq_false (by decide), show ((18 : Int32) = 15) = False from eq_false (by decide), show ((18 : Int32) = 16) = False from eq_false (by decide), show ((18 : Int32) = 17) = False from eq_false (by decide), show ((18 : Int32) = 20) = False from eq_false (by decide), show ((18 : Int32) = 21) = False from eq_false (by decide), show ((18 : Int32) = 22) = False from eq_false (by decide), show ((18 : Int32) = 23) = False from eq_false (by decide), show ((18 : Int32) = 25) = False from eq_false (by decide), show ((18 : Int32) = 26) = False from eq_false (by decide), show ((18 : Int32) = 27) = False from eq_false (by decide), show ((18 : Int32) = 28) = False from eq_false (by decide), show ((8 : Int32) ≤ 18) = True from eq_true (by decide), show ((14 : Int32) ≤ 18) = True from eq_true (by decide), show ((20 : Int32) ≤ 18) = False from eq_false (by decide), show ((25 : Int32) ≤ 18) = False from eq_false (by decide), show ((18 : Int32) ≤ 29) = True from eq_true (by decide), if_true, if_false]
      rw [hMa _ (by omega) (by omega), n3, if_neg hne], ?_⟩
    obtain ⟨a1, a2, a3, a4⟩ := n4 (d - 1) (by omega)
    obtain ⟨b, hb⟩ : ∃ b, nst (d - 1) = b := ⟨_, rfl⟩
    rw [hb] at a1 a2 a3 a4
    obtain ⟨t1, t2⟩ := top_end hcs h hm n1 (by omega) n4 n5 hb a3
    have hbeg := (h.act b a3).2.2 a4
    have hcomp : fc_Op18_does c (nI x) (nI y) C = (bndx (if C c 28 = 0 then (bnd (fc_Core_notes c 2 (nI b) (C c 37) (C c 37 - M s (321 + b)) (up2 C c 33 (nI (d - 1)))) fun r8 C8 => fc_Core_ends_72 c (c + 22 + b) C8) else fc_Core_ends_72 c (c + 22 + b) (up2 C c 33 (nI (d - 1)))) fun r1 C1 => some (Sum.inl (), C1)) := by
      unfold fc_Op18_does fc_Core_ends
      rw [n2, if_neg hne, s_1 (show 1 ≤ d by omega), stp_e]
      simp (disch := omega) only [up2_e, up2_x]
      rw [inb_nI (show d - 1 < 21 by omega) (by decide), gd_t, nI_clamp (show d - 1 < 2 ^ 31 by omega), a1, inb_nI a3 (by decide), gd_t, nI_clamp (show b < 2 ^ 31 by omega), cS_k (cs_cC hcs) a3]
      try simp (disch := omega) only [up2_x]
      rw [hbeg]
    have hmod : effM s 18 (nI x) (nI y) (k10 c M) = (bnd (bnd (fm_notes 2 (nI b) (M s 25 - M s (321 + b)) (k10 c (up2 (up2 M s 30 (nI (d - 1))) s (300 + b) 0))) fun r6 M6 => if M6 s (215 + b) = 1 then (bnd (fm_pends s (nI b) M6) fun r9 M9 => fm_ends_62 s M9) else fm_ends_62 s M6) fun r M1 => some ((), M1)) := by
      unfold effM
      simp only [show ((18 : Int32) = 0) = False from eq_false (by decide), show ((18 : Int32) = 1) = False from eq_false (by decide), show ((18 : Int32) = 2) = False from eq_false (by decide), show ((18 : Int32) = 3) = False from eq_false (by decide), show ((18 : Int32) = 4) = False from eq_false (by decide), show ((18 : Int32) = 5) = False from eq_false (by decide), show ((18 : Int32) = 6) = False from eq_false (by decide), show ((18 : Int32) = 7) = False from eq_false (by decide), show ((18 : Int32) = 8) = False from eq_false (by decide), show ((18 : Int32) = 9) = False from eq_false (by decide), show ((18 : Int32) = 10) = False from eq_false (by decide), show ((18 : Int32) = 11) = False from eq_false (by decide), show ((18 : Int32) = 12) = False from eq_false (by decide), show ((18 : Int32) = 13) = False from eq_false (by decide), show ((18 : Int32) = 14) = False from eq_false (by decide), show ((18 : Int32) = 15) = False from eq_false (by decide), show ((18 : Int32) = 16) = False from eq_false (by decide), show ((18 : Int32) = 17) = False from eq_false (by decide), show ((18 : Int32) = 20) = False from eq_false (by decide), show ((18 : Int32) = 21) = False from eq_false (by decide), show ((18 : Int32) = 22) = False from eq_false (by decide), show ((18 : Int32) = 23) = False from eq_false (by decide), show ((18 : Int32) = 25) = False from eq_false (by decide), show ((18 : Int32) = 26) = False from eq_false (by decide), show ((18 : Int32) = 27) = False from eq_false (by decide), show ((18 : Int32) = 28) = False from eq_false (by decide), show ((8 : Int32) ≤ 18) = True from eq_true (by decide), show ((14 : Int32) ≤ 18) = True from eq_true (by decide), show ((20 : Int32) ≤ 18) = False from eq_false (by decide), show ((25 : Int32) ≤ 18) = False from eq_false (by decide), show ((18 : Int32) ≤ 29) = True from eq_true (by decide), if_true, if_false]
      unfold fm_rules fm_rules_114 fm_instructs_412 fm_ends
      simp only [show ((18 : Int32) = 0) = False from eq_false (by decide), show ((18 : Int32) = 1) = False from eq_false (by decide), show ((18 : Int32) = 2) = False from eq_false (by decide), show ((18 : Int32) = 3) = False from eq_false (by decide), show ((18 : Int32) = 4) = False from eq_false (by decide), show ((18 : Int32) = 5) = False from eq_false (by decide), show ((18 : Int32) = 6) = False from eq_false (by decide), show ((18 : Int32) = 7) = False from eq_false (by decide), show ((18 : Int32) = 8) = False from eq_false (by decide), show ((18 : Int32) = 9) = False from eq_false (by decide), show ((18 : Int32) = 10) = False from eq_false (by decide), show ((18 : Int32) = 11) = False from eq_false (by decide), show ((18 : Int32) = 12) = False from eq_false (by decide), show ((18 : Int32) = 13) = False from eq_false (by decide), show ((18 : Int32) = 14) = False from eq_false (by decide), show ((18 : Int32) = 15) = False from eq_false (by decide), show ((18 : Int32) = 16) = False from eq_false (by decide), show ((18 : Int32) = 17) = False from eq_false (by decide), show ((18 : Int32) = 20) = False from eq_false (by decide), show ((18 : Int32) = 21) = False from eq_false (by decide), show ((18 : Int32) = 22) = False from eq_false (by decide), show ((18 : Int32) = 23) = False from eq_false (by decide), show ((18 : Int32) = 25) = False from eq_false (by decide), show ((18 : Int32) = 26) = False from eq_false (by decide), show ((18 : Int32) = 27) = False from eq_false (by decide), show ((18 : Int32) = 28) = False from eq_false (by decide), show ((8 : Int32) ≤ 18) = True from eq_true (by decide), show ((14 : Int32) ≤ 18) = True from eq_true (by decide), show ((20 : Int32) ≤ 18) = False from eq_false (by decide), show ((25 : Int32) ≤ 18) = False from eq_false (by decide), show ((18 : Int32) ≤ 29) = True from eq_true (by decide), if_true, if_false]
      rw [k10_x (show _ ∨ ¬ (30 : Nat) = 10 by omega), n3, s_1 (show 1 ≤ d by omega), stp_e]
      simp (disch := omega) only [up2_e, up2_x, k10_x]
      rw [l_152, inb_nI (show 152 + (d - 1) < 342 by omega) (by decide), gd_t, nI_clamp (show 152 + (d - 1) < 2 ^ 31 by omega), up2_x (by omega), k10_x (by omega), a2, l_300, l_321, l_215, inb_nI (show 300 + b < 342 by omega) (by decide), inb_nI (show 321 + b < 342 by omega) (by decide), inb_nI (show 215 + b < 342 by omega) (by decide), nI_clamp (show 300 + b < 2 ^ 31 by omega), nI_clamp (show 321 + b < 2 ^ 31 by omega), nI_clamp (show 215 + b < 2 ^ 31 by omega)]
      simp (disch := omega) only [gd_t, stp_e, up2_x, k10_x]
      rw [k10_up (by omega), k10_up (by omega)]
      generalize (bnd (fm_notes 2 (nI b) (M s 25 - M s (321 + b)) (k10 c (up2 (up2 M s 30 (nI (d - 1))) s (300 + b) 0))) fun r6 M6 => if M6 s (215 + b) = 1 then (bnd (fm_pends s (nI b) M6) fun r9 M9 => fm_ends_62 s M9) else fm_ends_62 s M6) = Z
      cases Z with
      | none => rfl
      | some q => rfl
    rw [hcomp, hmod]
    rcases hcs with ⟨z, w⟩ | ⟨z, w⟩
    · obtain ⟨n, hq0, hq1, hq2⟩ := top_told h (by omega) z
      have e25 : M 4 25 = nI t := by rw [show (4 : Nat) = s by omega]; exact e2
      obtain ⟨u1, u2⟩ := top_note (n := n) (t := t) (m := 2) (x1 := nI b) (x3 := nI t - M s (321 + b)) (Or.inl ⟨z, w⟩) t1 t2 z (by omega) (by omega) hq0 (by simp (disch := omega) only [up2_x, upr_x]; exact hq1) (by simp (disch := omega) only [up2_x, upr_x]; exact e1) (by simp (disch := omega) only [up2_x, upr_x]; exact e25)
      rw [(h.mdc.1 z).1, if_pos rfl, show fc_Core_notes c 2 = fc_Core_notes c (nI 2) from rfl, fc_notes_v (q := n) (by simp (disch := omega) only [up2_x, upr_x]; exact hq1) hq0 (by omega), bnd_s, show fm_notes 2 = fm_notes (nI 2) from rfl, fm_notes_v (q := n) (by simp (disch := omega) only [k10_x, up2_x]; exact hm.1.1 z) (by simp (disch := omega) only [k10_x, up2_x]; exact hq2) hq0, bnd_s]
      simp (disch := omega) only [up2_x, k10_x, up2_n] at u1 u2 ⊢
      rw [e1, e2, e25, k10_up (by omega), k10_up (by omega), k10_up (by omega), k10_up (by omega), k10_up (by omega)]
      obtain ⟨C', M', b1, b2, b3, b4, b5, b6⟩ := sim_ends_72 (b := b) (Or.inl ⟨z, w⟩) u1 u2 hT (by simp (disch := omega) only [up2_x, upr_x]; exact h43) a3 (Cz := up2 (upr (up2 C c 33 (nI (d - 1))) (c + 11) (evRow (C (c + 11)) (n % 24) (nI 2) (nI b) (nI t) (nI t - M s (321 + b)))) c 51 (nI (n + 1))) (by rw [up2_comm (o := c) (k := 51) (o' := c + 22 + b) (k' := 5) (by omega), up2_upr (o := c + 11) (o' := c + 22 + b) (by omega)])
      rw [b1, bndx_l]
      simp (disch := omega) only [up2_x] at b2
      rw [b2, bnd_s]
      exact ⟨C', M', rfl, rfl, b3, b4, b5, by rw [b6]; simp (disch := omega) only [up2_x, upr_x]⟩
    · rw [(h.mdc.2 z).1, if_neg (show ¬ (1 : Int32) = 0 by decide), fm_notes_0 (by simp (disch := omega) only [k10_x, up2_x]; exact hm.1.2 z), bnd_s]
      obtain ⟨C', M', b1, b2, b3, b4, b5, b6⟩ := sim_ends_72 (b := b) (Or.inr ⟨z, w⟩) t1 t2 hT (by simp (disch := omega) only [up2_x, upr_x]; exact h43) a3 rfl
      rw [b1, bndx_l, k10_x (by omega), b2, bnd_s]
      exact ⟨C', M', rfl, rfl, b3.mono (Nat.le_refl _) (Nat.le_succ E), b4, b5, by rw [b6]; simp (disch := omega) only [up2_x, upr_x]⟩
