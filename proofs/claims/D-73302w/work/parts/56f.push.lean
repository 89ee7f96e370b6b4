/-! THE SIMULATION: words onto the stack -/
theorem Elig_fr {c s : Nat} {C M C' M' : Mem} {b : Nat} (h : Elig c s C M b) (h1 : ∀ k, 30 ≤ k → k < 342 → M' s k = M s k) (h2 : M' 0 3 = M 0 3) : Elig c s C' M' b := by
  obtain ⟨a1, a2, a3⟩ := h
  refine ⟨a1, by rw [h1 _ (by omega) (by omega)]; exact a2, fun d hd e j n hj hn en => ?_⟩
  rw [h1 _ (by omega) (by omega)] at e en
  rw [h1 _ (by omega) (by omega), h1 _ (by omega) (by omega), h2]
  exact a3 d hd e j n hj hn en
theorem fc_grows_v {c : Nat} {x : Int32} {C : Mem} : fc_Core_grows c x C = some ((), up2 (up2 C c 32 (C c 32 + x)) (c + 9) 13 (mxI (C c 32 + x) (C (c + 9) 13))) := by
  unfold fc_Core_grows fc_Core_grows_44 mxI
  simp (disch := omega) only [i14_13, cl_13, stp_e, up2_x, up2_e, gd_t]
  by_cases h : C c 32 + x ≤ C (c + 9) 13
  · rw [if_pos h, if_pos h]
  · rw [if_neg h, if_neg h]
theorem fm_rises_own {s : Nat} {x : Int32} {M : Mem} (hs : s = 4) (ho : M 0 14 = 1) : fm_rises s x M = some ((), up2 (up2 M s 15 (M s 15 + x)) 6 13 (mxI (M s 15 + x) (M 6 13))) := by
  unfold fm_rises fm_rises_40 mxI
  simp (disch := omega) only [stp_e, up2_x, up2_e, ho, n10, ↓reduceIte]
  by_cases h : M s 15 + x ≤ M 6 13
  · rw [if_pos h, if_pos h]
    rw [show ∀ N : Mem, N 6 13 = M 6 13 → up2 N 6 13 (M 6 13) = N from fun N hN => by rw [← hN, up2_self]]
    simp (disch := omega) only [up2_x]
  · rw [if_neg h, if_neg h]
theorem fm_rises_for {s : Nat} {x : Int32} {M : Mem} (hs : s = 5) (ho : M 0 14 = 0) : fm_rises s x M = some ((), up2 M s 15 (M s 15 + x)) := by
  unfold fm_rises fm_rises_40
  simp (disch := omega) only [stp_e, up2_x, ho, ↓reduceIte]
theorem nI_addN (a b : Nat) (x : Int32) (h : x = nI b) : nI a + x = nI (a + b) := by rw [h, nI_add]
set_option maxHeartbeats 4000000 in
theorem top_push_own {c s T E : Nat} {L : List Int32} {C0 M0 C M : Mem} {p : Nat} {v : Int32} (hcs : cs c s) (hcc : c = 9) (h : Top c s T E L C0 M0 C M) (hm : Md c C M) (hp : p < 96) (sp1 : C c 32 = nI p) (sp2 : M s 15 = nI p) (hph : ¬ C c 41 = 3) : Top c s T E L C0 M0 (up2 (up2 (up2 C (c + 4) p v) c 32 (nI (p + 1))) (c + 9) 13 (mxI (nI (p + 1)) (C (c + 9) 13))) (up2 (up2 (up2 M s (56 + p) v) s 15 (nI (p + 1))) 6 13 (mxI (nI (p + 1)) (M 6 13))) ∧ Md c (up2 (up2 (up2 C (c + 4) p v) c 32 (nI (p + 1))) (c + 9) 13 (mxI (nI (p + 1)) (C (c + 9) 13))) (up2 (up2 (up2 M s (56 + p) v) s 15 (nI (p + 1))) 6 13 (mxI (nI (p + 1)) (M 6 13))) := by
  refine ⟨?_, ?_⟩
  · refine ⟨⟨?_, ?_, ?_, ?_, ?_, ?_, ?_, ?_, ?_, ?_, ?_, ?_, ?_, ?_, ?_, ?_, ?_, ?_, ?_, ?_, ?_, ?_, ?_, ?_, ?_, ?_, ?_, ?_, ?_, ?_, ?_, ?_, ?_⟩, ⟨?_, ?_, ?_, ?_, ?_⟩⟩
    · exact rReg_fr h.reg (by intros; first | rfl | (simp (disch := omega) only [up2_x, upr_x])) (by intros; first | rfl | (simp (disch := omega) only [up2_x, upr_x]))
    · exact rDat_fr h.dat (by intros; first | rfl | (simp (disch := omega) only [up2_x, upr_x])) (by intros; first | rfl | (simp (disch := omega) only [up2_x, upr_x]))
    · intro j hj
      by_cases e : j = p
      · subst e
        simp (disch := omega) only [up2_x, up2_e, upr_x]
      · simp (disch := omega) only [up2_x, upr_x]
        exact h.stk j hj
    · exact rFlt_fr h.flt (by intros; first | rfl | (simp (disch := omega) only [up2_x, upr_x])) (by intros; first | rfl | (simp (disch := omega) only [up2_x, upr_x]))
    · exact rZn_fr h.zn (by intros; first | rfl | (simp (disch := omega) only [up2_x, upr_x])) (by intros; first | rfl | (simp (disch := omega) only [up2_x, upr_x]))
    · exact rPc_fr h.pc (by intros; first | rfl | (simp (disch := omega) only [up2_x, upr_x])) (by intros; first | rfl | (simp (disch := omega) only [up2_x, upr_x]))
    · refine ⟨p + 1, by omega, ?_, ?_⟩
      · simp (disch := omega) only [up2_x, up2_e, upr_x]
      · simp (disch := omega) only [up2_x, up2_e, upr_x]
    · exact rShu_fr h.shu (by intros; first | rfl | (simp (disch := omega) only [up2_x, upr_x])) (by intros; first | rfl | (simp (disch := omega) only [up2_x, upr_x]))
    · exact rBas_fr h.bas (by intros; first | rfl | (simp (disch := omega) only [up2_x, upr_x])) (by intros; first | rfl | (simp (disch := omega) only [up2_x, upr_x]))
    · exact rFls_fr h.fls (by intros; first | rfl | (simp (disch := omega) only [up2_x, upr_x])) (by intros; first | rfl | (simp (disch := omega) only [up2_x, upr_x]))
    · exact rLaz_fr h.laz (by intros; first | rfl | (simp (disch := omega) only [up2_x, upr_x])) (by intros; first | rfl | (simp (disch := omega) only [up2_x, upr_x]))
    · exact rPh_fr h.ph (by intros; first | rfl | (simp (disch := omega) only [up2_x, upr_x])) (by intros; first | rfl | (simp (disch := omega) only [up2_x, upr_x]))
    · exact rStp_fr h.stp (by intros; first | rfl | (simp (disch := omega) only [up2_x, upr_x])) (by intros; first | rfl | (simp (disch := omega) only [up2_x, upr_x]))
    · exact rStl_fr h.stl (by intros; first | rfl | (simp (disch := omega) only [up2_x, upr_x])) (by intros; first | rfl | (simp (disch := omega) only [up2_x, upr_x]))
    · exact rAsl_fr h.asl (by intros; first | rfl | (simp (disch := omega) only [up2_x, upr_x])) (by intros; first | rfl | (simp (disch := omega) only [up2_x, upr_x]))
    · exact rClk_fr h.clk (by intros; first | rfl | (simp (disch := omega) only [up2_x, upr_x])) (by intros; first | rfl | (simp (disch := omega) only [up2_x, upr_x]))
    · exact rPer_fr h.per (by intros; first | rfl | (simp (disch := omega) only [up2_x, upr_x])) (by intros; first | rfl | (simp (disch := omega) only [up2_x, upr_x]))
    · exact rTim_fr h.tim (by intros; first | rfl | (simp (disch := omega) only [up2_x, upr_x])) (by intros; first | rfl | (simp (disch := omega) only [up2_x, upr_x]))
    · exact rNst_fr h.nst (by intros; first | rfl | (simp (disch := omega) only [up2_x, upr_x])) (by intros; first | rfl | (simp (disch := omega) only [up2_x, upr_x])) (by intros; first | rfl | (simp (disch := omega) only [up2_x, upr_x])) (by intros; first | rfl | (simp (disch := omega) only [up2_x, upr_x])) (by intros; first | rfl | (simp (disch := omega) only [up2_x, upr_x])) (by intros; first | rfl | (simp (disch := omega) only [up2_x, upr_x]))
    · exact rDue_fr h.due (by intros; first | rfl | (simp (disch := omega) only [up2_x, upr_x])) (by intros; first | rfl | (simp (disch := omega) only [up2_x, upr_x])) (by intros; first | rfl | (simp (disch := omega) only [up2_x, upr_x])) (by intros; first | rfl | (simp (disch := omega) only [up2_x, upr_x])) (by intros; first | rfl | (simp (disch := omega) only [up2_x, upr_x]))
    · exact rRnk_fr h.rnk (by intros; first | rfl | (simp (disch := omega) only [up2_x, upr_x])) (by intros; first | rfl | (simp (disch := omega) only [up2_x, upr_x]))
    · exact rVec_fr h.vec (by intros; first | rfl | (simp (disch := omega) only [up2_x, upr_x])) (by intros; first | rfl | (simp (disch := omega) only [up2_x, upr_x]))
    · exact rEna_fr h.ena (by intros; first | rfl | (simp (disch := omega) only [up2_x, upr_x])) (by intros; first | rfl | (simp (disch := omega) only [up2_x, upr_x]))
    · exact rPnd_fr h.pnd (by intros; first | rfl | (simp (disch := omega) only [up2_x, upr_x])) (by intros; first | rfl | (simp (disch := omega) only [up2_x, upr_x]))
    · exact rAct_fr h.act (by intros; first | rfl | (simp (disch := omega) only [up2_x, upr_x])) (by intros; first | rfl | (simp (disch := omega) only [up2_x, upr_x])) (by intros; first | rfl | (simp (disch := omega) only [up2_x, upr_x]))
    · exact rHld_fr h.hld (by intros; first | rfl | (simp (disch := omega) only [up2_x, upr_x])) (by intros; first | rfl | (simp (disch := omega) only [up2_x, upr_x]))
    · exact rSpl_fr h.spl (by intros; first | rfl | (simp (disch := omega) only [up2_x, upr_x])) (by intros; first | rfl | (simp (disch := omega) only [up2_x, upr_x]))
    · exact rSta_fr h.sta (by intros; first | rfl | (simp (disch := omega) only [up2_x, upr_x])) (by intros; first | rfl | (simp (disch := omega) only [up2_x, upr_x]))
    · exact rSav_fr h.sav (by intros; first | rfl | (simp (disch := omega) only [up2_x, upr_x])) (by intros; first | rfl | (simp (disch := omega) only [up2_x, upr_x]))
    · refine fun z => absurd z ?_
      simp (disch := omega) only [up2_x, upr_x]; exact hph
    · exact rCod_fr h.cod (by intros; first | rfl | (simp (disch := omega) only [up2_x, upr_x])) (by intros; first | rfl | (simp (disch := omega) only [up2_x, upr_x]))
    · exact rObs_fr (C := C) (M := M) h.obs (by intros; first | rfl | (simp (disch := omega) only [up2_x, upr_x])) (by intros; first | rfl | (simp (disch := omega) only [up2_x, upr_x]))
    · exact rMdc_fr (C := C) (M := M) h.mdc (by intros; first | rfl | (simp (disch := omega) only [up2_x, upr_x]))
    · intro z k h1 h2 h3
      by_cases k13 : k = 13
      · subst k13
        simp (disch := omega) only [up2_x, up2_e, upr_x]
        rw [h.cnt z 13 (by omega) (by omega) (by omega)]
      · simp (disch := omega) only [up2_x, upr_x]
        exact h.cnt z k h1 h2 h3
    · exact rOut_fr h.out (by intros; first | rfl | (simp (disch := omega) only [up2_x, upr_x])) (by intros; first | rfl | (simp (disch := omega) only [up2_x, upr_x])) (by intros; first | rfl | (simp (disch := omega) only [up2_x, upr_x])) (by intros; first | rfl | (simp (disch := omega) only [up2_x, upr_x]))
    · exact rEvt_fr h.evt (by intros; first | rfl | (simp (disch := omega) only [up2_x, upr_x])) (by intros; first | rfl | (simp (disch := omega) only [up2_x, upr_x])) (by intros; first | rfl | (simp (disch := omega) only [up2_x, upr_x])) (by intros; first | rfl | (simp (disch := omega) only [up2_x, upr_x]))
    · exact rWai_fr h.wai (by intros; first | rfl | (simp (disch := omega) only [up2_x, upr_x])) (by intros; first | rfl | (simp (disch := omega) only [up2_x, upr_x]))
    · exact rFrm_fr h.frm (by intros; first | rfl | (simp (disch := omega) only [up2_x, upr_x])) (by intros; first | rfl | (simp (disch := omega) only [up2_x, upr_x]))
  · exact Md_fr hm (by first | rfl | simp (disch := omega) only [up2_x, upr_x]) (by first | rfl | simp (disch := omega) only [up2_x, upr_x]) (by first | rfl | simp (disch := omega) only [up2_x, upr_x]) (by first | rfl | simp (disch := omega) only [up2_x, upr_x]) (by first | rfl | simp (disch := omega) only [up2_x, upr_x])
set_option maxHeartbeats 4000000 in
theorem top_reserve_own {c s T E : Nat} {L : List Int32} {C0 M0 C M : Mem} {p : Nat} (hcs : cs c s) (hcc : c = 9) (h : Top c s T E L C0 M0 C M) (hm : Md c C M) (hp : p ≤ 92) (sp1 : C c 32 = nI p) (sp2 : M s 15 = nI p) (hph : C c 41 = 1) : Top c s T E L C0 M0 (up2 (up2 (up2 (up2 C c 46 (nI p)) c 49 1) c 32 (nI (p + 4))) (c + 9) 13 (mxI (nI (p + 4)) (C (c + 9) 13))) (up2 (up2 (up2 (up2 M s 19 (nI p)) s 29 1) s 15 (nI (p + 4))) 6 13 (mxI (nI (p + 4)) (M 6 13))) ∧ Md c (up2 (up2 (up2 (up2 C c 46 (nI p)) c 49 1) c 32 (nI (p + 4))) (c + 9) 13 (mxI (nI (p + 4)) (C (c + 9) 13))) (up2 (up2 (up2 (up2 M s 19 (nI p)) s 29 1) s 15 (nI (p + 4))) 6 13 (mxI (nI (p + 4)) (M 6 13))) := by
  have hp3 : ¬ C c 41 = 3 := by rw [hph]; decide
  have hp4 : ¬ C c 41 = 4 := by rw [hph]; decide
  refine ⟨?_, ?_⟩
  · refine ⟨⟨?_, ?_, ?_, ?_, ?_, ?_, ?_, ?_, ?_, ?_, ?_, ?_, ?_, ?_, ?_, ?_, ?_, ?_, ?_, ?_, ?_, ?_, ?_, ?_, ?_, ?_, ?_, ?_, ?_, ?_, ?_, ?_, ?_⟩, ⟨?_, ?_, ?_, ?_, ?_⟩⟩
    · exact rReg_fr h.reg (by intros; first | rfl | (simp (disch := omega) only [up2_x, upr_x])) (by intros; first | rfl | (simp (disch := omega) only [up2_x, upr_x]))
    · exact rDat_fr h.dat (by intros; first | rfl | (simp (disch := omega) only [up2_x, upr_x])) (by intros; first | rfl | (simp (disch := omega) only [up2_x, upr_x]))
    · exact rStk_fr h.stk (by intros; first | rfl | (simp (disch := omega) only [up2_x, upr_x])) (by intros; first | rfl | (simp (disch := omega) only [up2_x, upr_x]))
    · exact rFlt_fr h.flt (by intros; first | rfl | (simp (disch := omega) only [up2_x, upr_x])) (by intros; first | rfl | (simp (disch := omega) only [up2_x, upr_x]))
    · exact rZn_fr h.zn (by intros; first | rfl | (simp (disch := omega) only [up2_x, upr_x])) (by intros; first | rfl | (simp (disch := omega) only [up2_x, upr_x]))
    · exact rPc_fr h.pc (by intros; first | rfl | (simp (disch := omega) only [up2_x, upr_x])) (by intros; first | rfl | (simp (disch := omega) only [up2_x, upr_x]))
    · refine ⟨p + 4, by omega, ?_, ?_⟩
      · simp (disch := omega) only [up2_x, up2_e, upr_x]
      · simp (disch := omega) only [up2_x, up2_e, upr_x]
    · exact rShu_fr h.shu (by intros; first | rfl | (simp (disch := omega) only [up2_x, upr_x])) (by intros; first | rfl | (simp (disch := omega) only [up2_x, upr_x]))
    · exact rBas_fr h.bas (by intros; first | rfl | (simp (disch := omega) only [up2_x, upr_x])) (by intros; first | rfl | (simp (disch := omega) only [up2_x, upr_x]))
    · exact rFls_fr h.fls (by intros; first | rfl | (simp (disch := omega) only [up2_x, upr_x])) (by intros; first | rfl | (simp (disch := omega) only [up2_x, upr_x]))
    · refine Or.inr ⟨p, by omega, ?_, ?_⟩
      · simp (disch := omega) only [up2_x, up2_e, upr_x]
      · simp (disch := omega) only [up2_x, up2_e, upr_x]
    · exact rPh_fr h.ph (by intros; first | rfl | (simp (disch := omega) only [up2_x, upr_x])) (by intros; first | rfl | (simp (disch := omega) only [up2_x, upr_x]))
    · exact rStp_fr h.stp (by intros; first | rfl | (simp (disch := omega) only [up2_x, upr_x])) (by intros; first | rfl | (simp (disch := omega) only [up2_x, upr_x]))
    · exact rStl_fr h.stl (by intros; first | rfl | (simp (disch := omega) only [up2_x, upr_x])) (by intros; first | rfl | (simp (disch := omega) only [up2_x, upr_x]))
    · exact rAsl_fr h.asl (by intros; first | rfl | (simp (disch := omega) only [up2_x, upr_x])) (by intros; first | rfl | (simp (disch := omega) only [up2_x, upr_x]))
    · exact rClk_fr h.clk (by intros; first | rfl | (simp (disch := omega) only [up2_x, upr_x])) (by intros; first | rfl | (simp (disch := omega) only [up2_x, upr_x]))
    · exact rPer_fr h.per (by intros; first | rfl | (simp (disch := omega) only [up2_x, upr_x])) (by intros; first | rfl | (simp (disch := omega) only [up2_x, upr_x]))
    · exact rTim_fr h.tim (by intros; first | rfl | (simp (disch := omega) only [up2_x, upr_x])) (by intros; first | rfl | (simp (disch := omega) only [up2_x, upr_x]))
    · exact rNst_fr h.nst (by intros; first | rfl | (simp (disch := omega) only [up2_x, upr_x])) (by intros; first | rfl | (simp (disch := omega) only [up2_x, upr_x])) (by intros; first | rfl | (simp (disch := omega) only [up2_x, upr_x])) (by intros; first | rfl | (simp (disch := omega) only [up2_x, upr_x])) (by intros; first | rfl | (simp (disch := omega) only [up2_x, upr_x])) (by intros; first | rfl | (simp (disch := omega) only [up2_x, upr_x]))
    · exact rDue_fr h.due (by intros; first | rfl | (simp (disch := omega) only [up2_x, upr_x])) (by intros; first | rfl | (simp (disch := omega) only [up2_x, upr_x])) (by intros; first | rfl | (simp (disch := omega) only [up2_x, upr_x])) (by intros; first | rfl | (simp (disch := omega) only [up2_x, upr_x])) (by intros; first | rfl | (simp (disch := omega) only [up2_x, upr_x]))
    · exact rRnk_fr h.rnk (by intros; first | rfl | (simp (disch := omega) only [up2_x, upr_x])) (by intros; first | rfl | (simp (disch := omega) only [up2_x, upr_x]))
    · exact rVec_fr h.vec (by intros; first | rfl | (simp (disch := omega) only [up2_x, upr_x])) (by intros; first | rfl | (simp (disch := omega) only [up2_x, upr_x]))
    · exact rEna_fr h.ena (by intros; first | rfl | (simp (disch := omega) only [up2_x, upr_x])) (by intros; first | rfl | (simp (disch := omega) only [up2_x, upr_x]))
    · exact rPnd_fr h.pnd (by intros; first | rfl | (simp (disch := omega) only [up2_x, upr_x])) (by intros; first | rfl | (simp (disch := omega) only [up2_x, upr_x]))
    · exact rAct_fr h.act (by intros; first | rfl | (simp (disch := omega) only [up2_x, upr_x])) (by intros; first | rfl | (simp (disch := omega) only [up2_x, upr_x])) (by intros; first | rfl | (simp (disch := omega) only [up2_x, upr_x]))
    · exact rHld_fr h.hld (by intros; first | rfl | (simp (disch := omega) only [up2_x, upr_x])) (by intros; first | rfl | (simp (disch := omega) only [up2_x, upr_x]))
    · exact rSpl_fr h.spl (by intros; first | rfl | (simp (disch := omega) only [up2_x, upr_x])) (by intros; first | rfl | (simp (disch := omega) only [up2_x, upr_x]))
    · obtain ⟨a1, a2, a3⟩ := h.sta
      obtain ⟨b1, b2, b3, b4⟩ := a3 hph
      refine ⟨?_, ?_, fun _ => ⟨?_, ?_, ?_, ?_⟩⟩
      · simp (disch := omega) only [up2_x, upr_x]; exact a1
      · simp (disch := omega) only [up2_x, up2_e, upr_x]; rfl
      · simp (disch := omega) only [up2_x, upr_x]; exact b1
      · simp (disch := omega) only [up2_x, upr_x]; exact b2
      · simp (disch := omega) only [up2_x, upr_x]; exact b3
      · simp (disch := omega) only [up2_x, up2_e, upr_x]
    · refine fun z => absurd z ?_
      simp (disch := omega) only [up2_x, upr_x]; exact hp4
    · refine fun z => absurd z ?_
      simp (disch := omega) only [up2_x, upr_x]; exact hp3
    · exact rCod_fr h.cod (by intros; first | rfl | (simp (disch := omega) only [up2_x, upr_x])) (by intros; first | rfl | (simp (disch := omega) only [up2_x, upr_x]))
    · exact rObs_fr (C := C) (M := M) h.obs (by intros; first | rfl | (simp (disch := omega) only [up2_x, upr_x])) (by intros; first | rfl | (simp (disch := omega) only [up2_x, upr_x]))
    · exact rMdc_fr (C := C) (M := M) h.mdc (by intros; first | rfl | (simp (disch := omega) only [up2_x, upr_x]))
    · intro z k h1 h2 h3
      by_cases k13 : k = 13
      · subst k13
        simp (disch := omega) only [up2_x, up2_e, upr_x]
        rw [h.cnt z 13 (by omega) (by omega) (by omega)]
      · simp (disch := omega) only [up2_x, upr_x]
        exact h.cnt z k h1 h2 h3
    · exact rOut_fr h.out (by intros; first | rfl | (simp (disch := omega) only [up2_x, upr_x])) (by intros; first | rfl | (simp (disch := omega) only [up2_x, upr_x])) (by intros; first | rfl | (simp (disch := omega) only [up2_x, upr_x])) (by intros; first | rfl | (simp (disch := omega) only [up2_x, upr_x]))
    · exact rEvt_fr h.evt (by intros; first | rfl | (simp (disch := omega) only [up2_x, upr_x])) (by intros; first | rfl | (simp (disch := omega) only [up2_x, upr_x])) (by intros; first | rfl | (simp (disch := omega) only [up2_x, upr_x])) (by intros; first | rfl | (simp (disch := omega) only [up2_x, upr_x]))
    · exact rWai_fr h.wai (by intros; first | rfl | (simp (disch := omega) only [up2_x, upr_x])) (by intros; first | rfl | (simp (disch := omega) only [up2_x, upr_x]))
    · exact rFrm_fr h.frm (by intros; first | rfl | (simp (disch := omega) only [up2_x, upr_x])) (by intros; first | rfl | (simp (disch := omega) only [up2_x, upr_x]))
  · exact Md_fr hm (by first | rfl | simp (disch := omega) only [up2_x, upr_x]) (by first | rfl | simp (disch := omega) only [up2_x, upr_x]) (by first | rfl | simp (disch := omega) only [up2_x, upr_x]) (by first | rfl | simp (disch := omega) only [up2_x, upr_x]) (by first | rfl | simp (disch := omega) only [up2_x, upr_x])
set_option maxHeartbeats 4000000 in
theorem top_push_for {c s T E : Nat} {L : List Int32} {C0 M0 C M : Mem} {p : Nat} {v : Int32} (hcs : cs c s) (hcc : c = 52) (h : Top c s T E L C0 M0 C M) (hm : Md c C M) (hp : p < 96) (sp1 : C c 32 = nI p) (sp2 : M s 15 = nI p) (hph : ¬ C c 41 = 3) : Top c s T E L C0 M0 (up2 (up2 (up2 C (c + 4) p v) c 32 (nI (p + 1))) (c + 9) 13 (mxI (nI (p + 1)) (C (c + 9) 13))) (up2 (up2 M s (56 + p) v) s 15 (nI (p + 1))) ∧ Md c (up2 (up2 (up2 C (c + 4) p v) c 32 (nI (p + 1))) (c + 9) 13 (mxI (nI (p + 1)) (C (c + 9) 13))) (up2 (up2 M s (56 + p) v) s 15 (nI (p + 1))) := by
  refine ⟨?_, ?_⟩
  · refine ⟨⟨?_, ?_, ?_, ?_, ?_, ?_, ?_, ?_, ?_, ?_, ?_, ?_, ?_, ?_, ?_, ?_, ?_, ?_, ?_, ?_, ?_, ?_, ?_, ?_, ?_, ?_, ?_, ?_, ?_, ?_, ?_, ?_, ?_⟩, ⟨?_, ?_, ?_, ?_, ?_⟩⟩
    · exact rReg_fr h.reg (by intros; first | rfl | (simp (disch := omega) only [up2_x, upr_x])) (by intros; first | rfl | (simp (disch := omega) only [up2_x, upr_x]))
    · exact rDat_fr h.dat (by intros; first | rfl | (simp (disch := omega) only [up2_x, upr_x])) (by intros; first | rfl | (simp (disch := omega) only [up2_x, upr_x]))
    · intro j hj
      by_cases e : j = p
      · subst e
        simp (disch := omega) only [up2_x, up2_e, upr_x]
      · simp (disch := omega) only [up2_x, upr_x]
        exact h.stk j hj
    · exact rFlt_fr h.flt (by intros; first | rfl | (simp (disch := omega) only [up2_x, upr_x])) (by intros; first | rfl | (simp (disch := omega) only [up2_x, upr_x]))
    · exact rZn_fr h.zn (by intros; first | rfl | (simp (disch := omega) only [up2_x, upr_x])) (by intros; first | rfl | (simp (disch := omega) only [up2_x, upr_x]))
    · exact rPc_fr h.pc (by intros; first | rfl | (simp (disch := omega) only [up2_x, upr_x])) (by intros; first | rfl | (simp (disch := omega) only [up2_x, upr_x]))
    · refine ⟨p + 1, by omega, ?_, ?_⟩
      · simp (disch := omega) only [up2_x, up2_e, upr_x]
      · simp (disch := omega) only [up2_x, up2_e, upr_x]
    · exact rShu_fr h.shu (by intros; first | rfl | (simp (disch := omega) only [up2_x, upr_x])) (by intros; first | rfl | (simp (disch := omega) only [up2_x, upr_x]))
    · exact rBas_fr h.bas (by intros; first | rfl | (simp (disch := omega) only [up2_x, upr_x])) (by intros; first | rfl | (simp (disch := omega) only [up2_x, upr_x]))
    · exact rFls_fr h.fls (by intros; first | rfl | (simp (disch := omega) only [up2_x, upr_x])) (by intros; first | rfl | (simp (disch := omega) only [up2_x, upr_x]))
    · exact rLaz_fr h.laz (by intros; first | rfl | (simp (disch := omega) only [up2_x, upr_x])) (by intros; first | rfl | (simp (disch := omega) only [up2_x, upr_x]))
    · exact rPh_fr h.ph (by intros; first | rfl | (simp (disch := omega) only [up2_x, upr_x])) (by intros; first | rfl | (simp (disch := omega) only [up2_x, upr_x]))
    · exact rStp_fr h.stp (by intros; first | rfl | (simp (disch := omega) only [up2_x, upr_x])) (by intros; first | rfl | (simp (disch := omega) only [up2_x, upr_x]))
    · exact rStl_fr h.stl (by intros; first | rfl | (simp (disch := omega) only [up2_x, upr_x])) (by intros; first | rfl | (simp (disch := omega) only [up2_x, upr_x]))
    · exact rAsl_fr h.asl (by intros; first | rfl | (simp (disch := omega) only [up2_x, upr_x])) (by intros; first | rfl | (simp (disch := omega) only [up2_x, upr_x]))
    · exact rClk_fr h.clk (by intros; first | rfl | (simp (disch := omega) only [up2_x, upr_x])) (by intros; first | rfl | (simp (disch := omega) only [up2_x, upr_x]))
    · exact rPer_fr h.per (by intros; first | rfl | (simp (disch := omega) only [up2_x, upr_x])) (by intros; first | rfl | (simp (disch := omega) only [up2_x, upr_x]))
    · exact rTim_fr h.tim (by intros; first | rfl | (simp (disch := omega) only [up2_x, upr_x])) (by intros; first | rfl | (simp (disch := omega) only [up2_x, upr_x]))
    · exact rNst_fr h.nst (by intros; first | rfl | (simp (disch := omega) only [up2_x, upr_x])) (by intros; first | rfl | (simp (disch := omega) only [up2_x, upr_x])) (by intros; first | rfl | (simp (disch := omega) only [up2_x, upr_x])) (by intros; first | rfl | (simp (disch := omega) only [up2_x, upr_x])) (by intros; first | rfl | (simp (disch := omega) only [up2_x, upr_x])) (by intros; first | rfl | (simp (disch := omega) only [up2_x, upr_x]))
    · exact rDue_fr h.due (by intros; first | rfl | (simp (disch := omega) only [up2_x, upr_x])) (by intros; first | rfl | (simp (disch := omega) only [up2_x, upr_x])) (by intros; first | rfl | (simp (disch := omega) only [up2_x, upr_x])) (by intros; first | rfl | (simp (disch := omega) only [up2_x, upr_x])) (by intros; first | rfl | (simp (disch := omega) only [up2_x, upr_x]))
    · exact rRnk_fr h.rnk (by intros; first | rfl | (simp (disch := omega) only [up2_x, upr_x])) (by intros; first | rfl | (simp (disch := omega) only [up2_x, upr_x]))
    · exact rVec_fr h.vec (by intros; first | rfl | (simp (disch := omega) only [up2_x, upr_x])) (by intros; first | rfl | (simp (disch := omega) only [up2_x, upr_x]))
    · exact rEna_fr h.ena (by intros; first | rfl | (simp (disch := omega) only [up2_x, upr_x])) (by intros; first | rfl | (simp (disch := omega) only [up2_x, upr_x]))
    · exact rPnd_fr h.pnd (by intros; first | rfl | (simp (disch := omega) only [up2_x, upr_x])) (by intros; first | rfl | (simp (disch := omega) only [up2_x, upr_x]))
    · exact rAct_fr h.act (by intros; first | rfl | (simp (disch := omega) only [up2_x, upr_x])) (by intros; first | rfl | (simp (disch := omega) only [up2_x, upr_x])) (by intros; first | rfl | (simp (disch := omega) only [up2_x, upr_x]))
    · exact rHld_fr h.hld (by intros; first | rfl | (simp (disch := omega) only [up2_x, upr_x])) (by intros; first | rfl | (simp (disch := omega) only [up2_x, upr_x]))
    · exact rSpl_fr h.spl (by intros; first | rfl | (simp (disch := omega) only [up2_x, upr_x])) (by intros; first | rfl | (simp (disch := omega) only [up2_x, upr_x]))
    · exact rSta_fr h.sta (by intros; first | rfl | (simp (disch := omega) only [up2_x, upr_x])) (by intros; first | rfl | (simp (disch := omega) only [up2_x, upr_x]))
    · exact rSav_fr h.sav (by intros; first | rfl | (simp (disch := omega) only [up2_x, upr_x])) (by intros; first | rfl | (simp (disch := omega) only [up2_x, upr_x]))
    · refine fun z => absurd z ?_
      simp (disch := omega) only [up2_x, upr_x]; exact hph
    · exact rCod_fr h.cod (by intros; first | rfl | (simp (disch := omega) only [up2_x, upr_x])) (by intros; first | rfl | (simp (disch := omega) only [up2_x, upr_x]))
    · exact rObs_fr (C := C) (M := M) h.obs (by intros; first | rfl | (simp (disch := omega) only [up2_x, upr_x])) (by intros; first | rfl | (simp (disch := omega) only [up2_x, upr_x]))
    · exact rMdc_fr (C := C) (M := M) h.mdc (by intros; first | rfl | (simp (disch := omega) only [up2_x, upr_x]))
    · exact fun z => absurd z (by omega)
    · exact rOut_fr h.out (by intros; first | rfl | (simp (disch := omega) only [up2_x, upr_x])) (by intros; first | rfl | (simp (disch := omega) only [up2_x, upr_x])) (by intros; first | rfl | (simp (disch := omega) only [up2_x, upr_x])) (by intros; first | rfl | (simp (disch := omega) only [up2_x, upr_x]))
    · exact rEvt_fr h.evt (by intros; first | rfl | (simp (disch := omega) only [up2_x, upr_x])) (by intros; first | rfl | (simp (disch := omega) only [up2_x, upr_x])) (by intros; first | rfl | (simp (disch := omega) only [up2_x, upr_x])) (by intros; first | rfl | (simp (disch := omega) only [up2_x, upr_x]))
    · exact rWai_fr h.wai (by intros; first | rfl | (simp (disch := omega) only [up2_x, upr_x])) (by intros; first | rfl | (simp (disch := omega) only [up2_x, upr_x]))
    · exact rFrm_fr h.frm (by intros; first | rfl | (simp (disch := omega) only [up2_x, upr_x])) (by intros; first | rfl | (simp (disch := omega) only [up2_x, upr_x]))
  · exact Md_fr hm (by first | rfl | simp (disch := omega) only [up2_x, upr_x]) (by first | rfl | simp (disch := omega) only [up2_x, upr_x]) (by first | rfl | simp (disch := omega) only [up2_x, upr_x]) (by first | rfl | simp (disch := omega) only [up2_x, upr_x]) (by first | rfl | simp (disch := omega) only [up2_x, upr_x])
set_option maxHeartbeats 4000000 in
theorem top_reserve_for {c s T E : Nat} {L : List Int32} {C0 M0 C M : Mem} {p : Nat} (hcs : cs c s) (hcc : c = 52) (h : Top c s T E L C0 M0 C M) (hm : Md c C M) (hp : p ≤ 92) (sp1 : C c 32 = nI p) (sp2 : M s 15 = nI p) (hph : C c 41 = 1) : Top c s T E L C0 M0 (up2 (up2 (up2 (up2 C c 46 (nI p)) c 49 1) c 32 (nI (p + 4))) (c + 9) 13 (mxI (nI (p + 4)) (C (c + 9) 13))) (up2 (up2 (up2 M s 19 (nI p)) s 29 1) s 15 (nI (p + 4))) ∧ Md c (up2 (up2 (up2 (up2 C c 46 (nI p)) c 49 1) c 32 (nI (p + 4))) (c + 9) 13 (mxI (nI (p + 4)) (C (c + 9) 13))) (up2 (up2 (up2 M s 19 (nI p)) s 29 1) s 15 (nI (p + 4))) := by
  have hp3 : ¬ C c 41 = 3 := by rw [hph]; decide
  have hp4 : ¬ C c 41 = 4 := by rw [hph]; decide
  refine ⟨?_, ?_⟩
  · refine ⟨⟨?_, ?_, ?_, ?_, ?_, ?_, ?_, ?_, ?_, ?_, ?_, ?_, ?_, ?_, ?_, ?_, ?_, ?_, ?_, ?_, ?_, ?_, ?_, ?_, ?_, ?_, ?_, ?_, ?_, ?_, ?_, ?_, ?_⟩, ⟨?_, ?_, ?_, ?_, ?_⟩⟩
    · exact rReg_fr h.reg (by intros; first | rfl | (simp (disch := omega) only [up2_x, upr_x])) (by intros; first | rfl | (simp (disch := omega) only [up2_x, upr_x]))
    · exact rDat_fr h.dat (by intros; first | rfl | (simp (disch := omega) only [up2_x, upr_x])) (by intros; first | rfl | (simp (disch := omega) only [up2_x, upr_x]))
    · exact rStk_fr h.stk (by intros; first | rfl | (simp (disch := omega) only [up2_x, upr_x])) (by intros; first | rfl | (simp (disch := omega) only [up2_x, upr_x]))
    · exact rFlt_fr h.flt (by intros; first | rfl | (simp (disch := omega) only [up2_x, upr_x])) (by intros; first | rfl | (simp (disch := omega) only [up2_x, upr_x]))
    · exact rZn_fr h.zn (by intros; first | rfl | (simp (disch := omega) only [up2_x, upr_x])) (by intros; first | rfl | (simp (disch := omega) only [up2_x, upr_x]))
    · exact rPc_fr h.pc (by intros; first | rfl | (simp (disch := omega) only [up2_x, upr_x])) (by intros; first | rfl | (simp (disch := omega) only [up2_x, upr_x]))
    · refine ⟨p + 4, by omega, ?_, ?_⟩
      · simp (disch := omega) only [up2_x, up2_e, upr_x]
      · simp (disch := omega) only [up2_x, up2_e, upr_x]
    · exact rShu_fr h.shu (by intros; first | rfl | (simp (disch := omega) only [up2_x, upr_x])) (by intros; first | rfl | (simp (disch := omega) only [up2_x, upr_x]))
    · exact rBas_fr h.bas (by intros; first | rfl | (simp (disch := omega) only [up2_x, upr_x])) (by intros; first | rfl | (simp (disch := omega) only [up2_x, upr_x]))
    · exact rFls_fr h.fls (by intros; first | rfl | (simp (disch := omega) only [up2_x, upr_x])) (by intros; first | rfl | (simp (disch := omega) only [up2_x, upr_x]))
    · refine Or.inr ⟨p, by omega, ?_, ?_⟩
      · simp (disch := omega) only [up2_x, up2_e, upr_x]
      · simp (disch := omega) only [up2_x, up2_e, upr_x]
    · exact rPh_fr h.ph (by intros; first | rfl | (simp (disch := omega) only [up2_x, upr_x])) (by intros; first | rfl | (simp (disch := omega) only [up2_x, upr_x]))
    · exact rStp_fr h.stp (by intros; first | rfl | (simp (disch := omega) only [up2_x, upr_x])) (by intros; first | rfl | (simp (disch := omega) only [up2_x, upr_x]))
    · exact rStl_fr h.stl (by intros; first | rfl | (simp (disch := omega) only [up2_x, upr_x])) (by intros; first | rfl | (simp (disch := omega) only [up2_x, upr_x]))
    · exact rAsl_fr h.asl (by intros; first | rfl | (simp (disch := omega) only [up2_x, upr_x])) (by intros; first | rfl | (simp (disch := omega) only [up2_x, upr_x]))
    · exact rClk_fr h.clk (by intros; first | rfl | (simp (disch := omega) only [up2_x, upr_x])) (by intros; first | rfl | (simp (disch := omega) only [up2_x, upr_x]))
    · exact rPer_fr h.per (by intros; first | rfl | (simp (disch := omega) only [up2_x, upr_x])) (by intros; first | rfl | (simp (disch := omega) only [up2_x, upr_x]))
    · exact rTim_fr h.tim (by intros; first | rfl | (simp (disch := omega) only [up2_x, upr_x])) (by intros; first | rfl | (simp (disch := omega) only [up2_x, upr_x]))
    · exact rNst_fr h.nst (by intros; first | rfl | (simp (disch := omega) only [up2_x, upr_x])) (by intros; first | rfl | (simp (disch := omega) only [up2_x, upr_x])) (by intros; first | rfl | (simp (disch := omega) only [up2_x, upr_x])) (by intros; first | rfl | (simp (disch := omega) only [up2_x, upr_x])) (by intros; first | rfl | (simp (disch := omega) only [up2_x, upr_x])) (by intros; first | rfl | (simp (disch := omega) only [up2_x, upr_x]))
    · exact rDue_fr h.due (by intros; first | rfl | (simp (disch := omega) only [up2_x, upr_x])) (by intros; first | rfl | (simp (disch := omega) only [up2_x, upr_x])) (by intros; first | rfl | (simp (disch := omega) only [up2_x, upr_x])) (by intros; first | rfl | (simp (disch := omega) only [up2_x, upr_x])) (by intros; first | rfl | (simp (disch := omega) only [up2_x, upr_x]))
    · exact rRnk_fr h.rnk (by intros; first | rfl | (simp (disch := omega) only [up2_x, upr_x])) (by intros; first | rfl | (simp (disch := omega) only [up2_x, upr_x]))
    · exact rVec_fr h.vec (by intros; first | rfl | (simp (disch := omega) only [up2_x, upr_x])) (by intros; first | rfl | (simp (disch := omega) only [up2_x, upr_x]))
    · exact rEna_fr h.ena (by intros; first | rfl | (simp (disch := omega) only [up2_x, upr_x])) (by intros; first | rfl | (simp (disch := omega) only [up2_x, upr_x]))
    · exact rPnd_fr h.pnd (by intros; first | rfl | (simp (disch := omega) only [up2_x, upr_x])) (by intros; first | rfl | (simp (disch := omega) only [up2_x, upr_x]))
    · exact rAct_fr h.act (by intros; first | rfl | (simp (disch := omega) only [up2_x, upr_x])) (by intros; first | rfl | (simp (disch := omega) only [up2_x, upr_x])) (by intros; first | rfl | (simp (disch := omega) only [up2_x, upr_x]))
    · exact rHld_fr h.hld (by intros; first | rfl | (simp (disch := omega) only [up2_x, upr_x])) (by intros; first | rfl | (simp (disch := omega) only [up2_x, upr_x]))
    · exact rSpl_fr h.spl (by intros; first | rfl | (simp (disch := omega) only [up2_x, upr_x])) (by intros; first | rfl | (simp (disch := omega) only [up2_x, upr_x]))
    · obtain ⟨a1, a2, a3⟩ := h.sta
      obtain ⟨b1, b2, b3, b4⟩ := a3 hph
      refine ⟨?_, ?_, fun _ => ⟨?_, ?_, ?_, ?_⟩⟩
      · simp (disch := omega) only [up2_x, upr_x]; exact a1
      · simp (disch := omega) only [up2_x, up2_e, upr_x]; rfl
      · simp (disch := omega) only [up2_x, upr_x]; exact b1
      · simp (disch := omega) only [up2_x, upr_x]; exact b2
      · simp (disch := omega) only [up2_x, upr_x]; exact b3
      · simp (disch := omega) only [up2_x, up2_e, upr_x]
    · refine fun z => absurd z ?_
      simp (disch := omega) only [up2_x, upr_x]; exact hp4
    · refine fun z => absurd z ?_
      simp (disch := omega) only [up2_x, upr_x]; exact hp3
    · exact rCod_fr h.cod (by intros; first | rfl | (simp (disch := omega) only [up2_x, upr_x])) (by intros; first | rfl | (simp (disch := omega) only [up2_x, upr_x]))
    · exact rObs_fr (C := C) (M := M) h.obs (by intros; first | rfl | (simp (disch := omega) only [up2_x, upr_x])) (by intros; first | rfl | (simp (disch := omega) only [up2_x, upr_x]))
    · exact rMdc_fr (C := C) (M := M) h.mdc (by intros; first | rfl | (simp (disch := omega) only [up2_x, upr_x]))
    · exact fun z => absurd z (by omega)
    · exact rOut_fr h.out (by intros; first | rfl | (simp (disch := omega) only [up2_x, upr_x])) (by intros; first | rfl | (simp (disch := omega) only [up2_x, upr_x])) (by intros; first | rfl | (simp (disch := omega) only [up2_x, upr_x])) (by intros; first | rfl | (simp (disch := omega) only [up2_x, upr_x]))
    · exact rEvt_fr h.evt (by intros; first | rfl | (simp (disch := omega) only [up2_x, upr_x])) (by intros; first | rfl | (simp (disch := omega) only [up2_x, upr_x])) (by intros; first | rfl | (simp (disch := omega) only [up2_x, upr_x])) (by intros; first | rfl | (simp (disch := omega) only [up2_x, upr_x]))
    · exact rWai_fr h.wai (by intros; first | rfl | (simp (disch := omega) only [up2_x, upr_x])) (by intros; first | rfl | (simp (disch := omega) only [up2_x, upr_x]))
    · exact rFrm_fr h.frm (by intros; first | rfl | (simp (disch := omega) only [up2_x, upr_x])) (by intros; first | rfl | (simp (disch := omega) only [up2_x, upr_x]))
  · exact Md_fr hm (by first | rfl | simp (disch := omega) only [up2_x, upr_x]) (by first | rfl | simp (disch := omega) only [up2_x, upr_x]) (by first | rfl | simp (disch := omega) only [up2_x, upr_x]) (by first | rfl | simp (disch := omega) only [up2_x, upr_x]) (by first | rfl | simp (disch := omega) only [up2_x, upr_x])
