/-! THE SIMULATION: unstacking -/
theorem ret_87 {c s T E : Nat} {L : List Int32} {C0 M0 C M : Mem} {p m q : Nat} (hcs : cs c s) (h : Top c s T E L C0 M0 C M) (hm : Md c C M) (hE : E < 2 ^ 29) (h0 : C c 43 = 0) (hu : UnF c s C M p m q) (hf : C c 49 = (if 4 ≤ m then 1 else 0)) : ∃ C' M', fc_Core_returns_87 c (nI m) C = some ((), C') ∧ fm_returns_96 s (nI (56 + p)) (nI m) M = some ((), M') ∧ Top c s T (E + 1) L C0 M0 C' M' ∧ Md c C' M' ∧ Bd c s C' M' ∧ C' c 52 = C c 52 := by
  have hu' := hu
  obtain ⟨h6, hp, sp1, hm8, k1, hq, k2, h10⟩ := hu
  obtain ⟨C1, M1, a1, a2, a3, a4, a5, a6⟩ := ret_regs hcs h6 hp (nI m) (nI m) (if 4 ≤ m then 1 else 0) 4 0 600 C M (by omega) (by omega) h hm sp1
  have hu1 : UnF c s C1 M1 p m q := ⟨h6, hp, by rw [a5 c 32 (by omega)]; exact sp1, hm8, by rw [a6 s (55 + p) (by omega)]; exact k1, hq, by rw [a6 s (54 + p) (by omega)]; exact k2, h10⟩
  obtain ⟨C', M', b1, b2, b3, b4, b5, b6⟩ := ret_end hcs a3 a4 hE (by rw [a5 c 43 (by omega)]; exact h0) hu1 (by rw [a5 c 49 (by omega)]; exact hf)
  refine ⟨C', M', ?_, ?_, b3, b4, b5, by rw [b6, a5 c 52 (by omega)]⟩
  · unfold fc_Core_returns_87
    rw [show (0 : Int32) = nI 0 from rfl, a1, b1]
  · unfold fm_returns_96 fm_returns_109
    rw [show inb 18 342 = true from rfl, show (18 : Int32).toNatClampNeg = 18 from rfl]
    simp only [gd_t, stp_e]
    by_cases h4 : 4 ≤ m
    · rw [if_pos h4] at a2 b2
      rw [if_neg (show ¬ nI m ≤ 3 from nI_ge (a := 3) (by omega) (by omega)), show fm_returns_113 s 600 (nI (56 + p)) (nI m) 0 = fm_returns_113 s 600 (nI (56 + p)) (nI m) (nI 0) from rfl, a2, b2]
    · rw [if_neg h4] at a2 b2
      rw [if_pos (show nI m ≤ 3 from nI_le (b := 3) (by omega) (by decide)), show fm_returns_113 s 600 (nI (56 + p)) (nI m) 0 = fm_returns_113 s 600 (nI (56 + p)) (nI m) (nI 0) from rfl, a2, b2]
set_option maxHeartbeats 4000000 in
theorem top_lazy {c s T E : Nat} {L : List Int32} {C0 M0 C M : Mem} (hcs : cs c s) (h : Top c s T E L C0 M0 C M) (hm : Md c C M) (hph : C c 41 = 3) (hst : C c 42 = M s 32) : Top c s T E L C0 M0 (up2 C c 46 (-1)) (up2 M s 19 (-1)) ∧ Md c (up2 C c 46 (-1)) (up2 M s 19 (-1)) := by
  refine ⟨?_, ?_⟩
  · refine ⟨⟨?_, ?_, ?_, ?_, ?_, ?_, ?_, ?_, ?_, ?_, ?_, ?_, ?_, ?_, ?_, ?_, ?_, ?_, ?_, ?_, ?_, ?_, ?_, ?_, ?_, ?_, ?_, ?_, ?_, ?_, ?_, ?_, ?_⟩, ⟨?_, ?_, ?_, ?_, ?_⟩⟩
    · exact rReg_fr h.reg (by intros; first | rfl | (simp (disch := omega) only [up2_x, upr_x])) (by intros; first | rfl | (simp (disch := omega) only [up2_x, upr_x]))
    · exact rDat_fr h.dat (by intros; first | rfl | (simp (disch := omega) only [up2_x, upr_x])) (by intros; first | rfl | (simp (disch := omega) only [up2_x, upr_x]))
    · exact rStk_fr h.stk (by intros; first | rfl | (simp (disch := omega) only [up2_x, upr_x])) (by intros; first | rfl | (simp (disch := omega) only [up2_x, upr_x]))
    · exact rFlt_fr h.flt (by intros; first | rfl | (simp (disch := omega) only [up2_x, upr_x])) (by intros; first | rfl | (simp (disch := omega) only [up2_x, upr_x]))
    · exact rZn_fr h.zn (by intros; first | rfl | (simp (disch := omega) only [up2_x, upr_x])) (by intros; first | rfl | (simp (disch := omega) only [up2_x, upr_x]))
    · exact rPc_fr h.pc (by intros; first | rfl | (simp (disch := omega) only [up2_x, upr_x])) (by intros; first | rfl | (simp (disch := omega) only [up2_x, upr_x]))
    · exact rSp_fr h.sp (by intros; first | rfl | (simp (disch := omega) only [up2_x, upr_x])) (by intros; first | rfl | (simp (disch := omega) only [up2_x, upr_x]))
    · exact rShu_fr h.shu (by intros; first | rfl | (simp (disch := omega) only [up2_x, upr_x])) (by intros; first | rfl | (simp (disch := omega) only [up2_x, upr_x]))
    · exact rBas_fr h.bas (by intros; first | rfl | (simp (disch := omega) only [up2_x, upr_x])) (by intros; first | rfl | (simp (disch := omega) only [up2_x, upr_x]))
    · exact rFls_fr h.fls (by intros; first | rfl | (simp (disch := omega) only [up2_x, upr_x])) (by intros; first | rfl | (simp (disch := omega) only [up2_x, upr_x]))
    · refine Or.inl ⟨?_, ?_⟩
      · simp (disch := omega) only [up2_x, up2_e, upr_x]
      · simp (disch := omega) only [up2_x, up2_e, upr_x]
    · exact rPh_fr h.ph (by intros; first | rfl | (simp (disch := omega) only [up2_x, upr_x])) (by intros; first | rfl | (simp (disch := omega) only [up2_x, upr_x]))
    · exact rStp_fr h.stp (by intros; first | rfl | (simp (disch := omega) only [up2_x, upr_x])) (by intros; first | rfl | (simp (disch := omega) only [up2_x, upr_x]))
    · exact rStl_fr h.stl (by intros; first | rfl | (simp (disch := omega) only [up2_x, upr_x])) (by intros; first | rfl | (simp (disch := omega) only [up2_x, upr_x]))
    · exact rAsl_fr h.asl (by intros; first | rfl | (simp (disch := omega) only [up2_x, upr_x])) (by intros; first | rfl | (simp (disch := omega) only [up2_x, upr_x]))
    · exact rClk_fr h.clk (by intros; first | rfl | (simp (disch := omega) only [up2_x, upr_x])) (by intros; first | rfl | (simp (disch := omega) only [up2_x, upr_x]))
    · exact rPer_fr h.per (by intros; first | rfl | (simp (disch := omega) only [up2_x, upr_x])) (by intros; first | rfl | (simp (disch := omega) only [up2_x, upr_x]))
    · exact rTim_fr h.tim (by intros; first | rfl | (simp (disch := omega) only [up2_x, upr_x])) (by intros; first | rfl | (simp (disch := omega) only [up2_x, upr_x]))
    · exact rNst_fr h.nst (by intros; first | rfl | (simp (disch := omega) only [up2_x, upr_x])) (by intros; first | rfl | (simp (disch := omega) only [up2_x, upr_x])) (by intros; first | rfl | (simp (disch := omega) only [up2_x, upr_x])) (by intros; first | rfl | (simp (disch := omega) only [up2_x, upr_x])) (by intros; first | rfl | (simp (disch := omega) only [up2_x, upr_x])) (by intros; first | rfl | (simp (disch := omega) only [up2_x, upr_x]))
    · exact rDue_fr h.due (by intros; first | rfl | (simp (disch := omega) only [up2_x, upr_x])) (by intros; first | rfl | (simp (disch := omega) only [up2_x, upr_x])) (by intros; first | rfl | (simp (disch := omega) only [up2_x, upr_x])) (by intros; first | rfl | (simp (disch := omega) only [up2_x, upr_x])) (by intros; first | rfl | (simp (disch := omega) only [up2_x, upr_x]))
    · exact rRnk_fr h.rnk (by intros; first | rfl | (simp (disch := omega) only [up2_x, upr_x])) (by intros; first | rfl | (simp (disch := omega) only [up2_x, upr_x]))
    · exact rVec_fr h.vec (by intros; first | rfl | (simp (disch := omega) only [up2_x, upr_x])) (by intros; first | rfl | (simp (disch := omega) only [up2_x, upr_x]))
    · exact rEna_fr h.ena (by intros; first | rfl | (simp (disch := omega) only [up2_x, upr_x])) (by intros; first | rfl | (simp (disch := omega) only [up2_x, upr_x]))
    · exact rPnd_fr h.pnd (by intros; first | rfl | (simp (disch := omega) only [up2_x, upr_x])) (by intros; first | rfl | (simp (disch := omega) only [up2_x, upr_x]))
    · exact rAct_fr h.act (by intros; first | rfl | (simp (disch := omega) only [up2_x, upr_x])) (by intros; first | rfl | (simp (disch := omega) only [up2_x, upr_x])) (by intros; first | rfl | (simp (disch := omega) only [up2_x, upr_x]))
    · exact rHld_fr h.hld (by intros; first | rfl | (simp (disch := omega) only [up2_x, upr_x])) (by intros; first | rfl | (simp (disch := omega) only [up2_x, upr_x]))
    · exact rSpl_fr h.spl (by intros; first | rfl | (simp (disch := omega) only [up2_x, upr_x])) (by intros; first | rfl | (simp (disch := omega) only [up2_x, upr_x]))
    · exact rSta_fr h.sta (by intros; first | rfl | (simp (disch := omega) only [up2_x, upr_x])) (by intros; first | rfl | (simp (disch := omega) only [up2_x, upr_x]))
    · refine fun z => absurd z ?_
      simp (disch := omega) only [up2_x, upr_x]; rw [hph]; decide
    · refine fun _ _ z => absurd ?_ z
      simp (disch := omega) only [up2_x, upr_x]; exact hst
    · exact rCod_fr h.cod (by intros; first | rfl | (simp (disch := omega) only [up2_x, upr_x])) (by intros; first | rfl | (simp (disch := omega) only [up2_x, upr_x]))
    · exact rObs_fr (C := C) (M := M) h.obs (by intros; first | rfl | (simp (disch := omega) only [up2_x, upr_x])) (by intros; first | rfl | (simp (disch := omega) only [up2_x, upr_x]))
    · exact rMdc_fr (C := C) (M := M) h.mdc (by intros; first | rfl | (simp (disch := omega) only [up2_x, upr_x]))
    · exact rCnt_fr h.cnt (by intros; first | rfl | (simp (disch := omega) only [up2_x, upr_x])) (by intros; first | rfl | (simp (disch := omega) only [up2_x, upr_x]))
    · exact rOut_fr h.out (by intros; first | rfl | (simp (disch := omega) only [up2_x, upr_x])) (by intros; first | rfl | (simp (disch := omega) only [up2_x, upr_x])) (by intros; first | rfl | (simp (disch := omega) only [up2_x, upr_x])) (by intros; first | rfl | (simp (disch := omega) only [up2_x, upr_x]))
    · exact rEvt_fr h.evt (by intros; first | rfl | (simp (disch := omega) only [up2_x, upr_x])) (by intros; first | rfl | (simp (disch := omega) only [up2_x, upr_x])) (by intros; first | rfl | (simp (disch := omega) only [up2_x, upr_x])) (by intros; first | rfl | (simp (disch := omega) only [up2_x, upr_x]))
    · exact rWai_fr h.wai (by intros; first | rfl | (simp (disch := omega) only [up2_x, upr_x])) (by intros; first | rfl | (simp (disch := omega) only [up2_x, upr_x]))
    · exact rFrm_fr h.frm (by intros; first | rfl | (simp (disch := omega) only [up2_x, upr_x])) (by intros; first | rfl | (simp (disch := omega) only [up2_x, upr_x]))
  · exact Md_fr hm (by first | rfl | simp (disch := omega) only [up2_x, upr_x]) (by first | rfl | simp (disch := omega) only [up2_x, upr_x]) (by first | rfl | simp (disch := omega) only [up2_x, upr_x]) (by first | rfl | simp (disch := omega) only [up2_x, upr_x]) (by first | rfl | simp (disch := omega) only [up2_x, upr_x])
/-- whether the floats lie on the stack for good -/
def svd (C : Mem) (c m p : Nat) : Bool := decide (4 ≤ m ∧ ¬ C c 46 = nI p - 10)
theorem fc_isSaved_v {c m p : Nat} {C : Mem} (hf : C c 49 = (if 4 ≤ m then 1 else 0)) (hp : C c 32 = nI p) : fc_Core_isSaved c C = some (bI (svd C c m p), C) := by
  unfold fc_Core_isSaved fc_Core_isSaved_25 fc_Core_isSaved_26 svd
  rw [hf, hp, isB_0, isB_1, gd_t, gd_t]
  by_cases h4 : 4 ≤ m
  · rw [if_pos h4, if_neg (by decide)]
    by_cases hl : C c 46 = nI p - 10
    · simp [h4, hl, bI]
    · simp [h4, hl, bI]
  · rw [if_neg h4, if_pos rfl]
    simp [h4, bI]
theorem sim_returns {c s T E : Nat} {L : List Int32} {C0 M0 C M : Mem} {p m q : Nat} (hcs : cs c s) (h : Top c s T E L C0 M0 C M) (hm : Md c C M) (hE : E < 2 ^ 29) (hph : C c 41 = 3) (hst : C c 42 = M s 32) (hu : UnF c s C M p m q) (hf : C c 49 = (if 4 ≤ m then 1 else 0)) (hg : M s 32 = (if svd C c m p = true then 10 else 6)) : ∃ C' M', fc_Core_returns c C = some ((), C') ∧ fm_returns s M = some ((), M') ∧ Top c s T (E + 1) L C0 M0 C' M' ∧ Md c C' M' ∧ Bd c s C' M' ∧ C' c 52 = C c 52 := by
  have hu' := hu
  obtain ⟨h6, hp, sp1, hm8, k1, hq, k2, h10⟩ := hu
  have h0 : C c 43 = 0 := h.stl.2 (by rw [hph]; decide)
  have sp2 : M s 15 = nI p := by rw [← h.sp.eq]; exact sp1
  have hs1 := h.stk (p - 1) (by omega)
  rw [show 56 + (p - 1) = 55 + p by omega, k1] at hs1
  have hsub : nI (23040 + m) - 23040 = nI m := by
    rw [show (23040 : Int32) = nI 23040 from rfl, nI_sub (by omega), Nat.add_sub_cancel_left]
  unfold fc_Core_returns fm_returns
  rw [sp1, s_1 (show 1 ≤ p by omega), inb_nI (show p - 1 < 96 by omega) (by decide), gd_t, nI_clamp (show p - 1 < 2 ^ 31 by omega), hs1, hsub, fc_isSaved_v hf sp1, bnd_s, sp2, l_56, s_1 (show 1 ≤ 56 + p by omega), inb_nI (show 56 + p - 1 < 342 by omega) (by decide), gd_t, nI_clamp (show 56 + p - 1 < 2 ^ 31 by omega), show 56 + p - 1 = 55 + p by omega, k1, hsub, hg]
  cases hs : svd C c m p with
  | true =>
    have h4 : 4 ≤ m := by
      unfold svd at hs
      exact (of_decide_eq_true hs).1
    rw [if_neg (show ¬ bI true = 0 by decide), if_pos rfl, if_pos rfl, s_10 (h10 h4)]
    obtain ⟨C1, M1, a1, a2, a3, a4, a5, a6⟩ := ret_flts hcs (h10 h4) hp (nI m) 4 0 600 C M (by omega) (by omega) h hm
    have hu1 : UnF c s C1 M1 p m q := ⟨h6, hp, by rw [a5 c 32 (by omega)]; exact sp1, hm8, by rw [a6 s (55 + p) (by omega)]; exact k1, hq, by rw [a6 s (54 + p) (by omega)]; exact k2, h10⟩
    obtain ⟨C', M', b1, b2, b3, b4, b5, b6⟩ := ret_87 hcs a3 a4 hE (by rw [a5 c 43 (by omega)]; exact h0) hu1 (by rw [a5 c 49 (by omega)]; exact hf)
    exact ⟨C', M', by rw [show (0 : Int32) = nI 0 from rfl, a1, b1], by rw [show (0 : Int32) = nI 0 from rfl, a2, b2], b3, b4, b5, by rw [b6, a5 c 52 (by omega)]⟩
  | false =>
    rw [if_pos (show bI false = 0 from rfl), hf]
    simp only [Bool.false_eq_true, if_false, show ((6 : Int32) = 10) = False from eq_false (by decide)]
    by_cases h4 : 4 ≤ m
    · rw [if_pos h4, if_neg (show ¬ (1 : Int32) = 0 by decide), if_neg (show ¬ nI m ≤ 3 from nI_ge (a := 3) (by omega) (by omega)), stp_e, stp_e]
      obtain ⟨t1, t2⟩ := top_lazy hcs h hm hph hst
      obtain ⟨M6, u1, u2, u3, u4, u5⟩ := top_cnt6 hcs t1 t2
      rw [stp_e, u1, bnd_s]
      have hu1 : UnF c s (up2 (up2 C c 46 (-1)) (c + 9) 6 (up2 C c 46 (-1) (c + 9) 6 + 1)) M6 p m q := ⟨h6, hp, by simp (disch := omega) only [up2_x, upr_x]; exact sp1, hm8, by rw [u4]; simp (disch := omega) only [up2_x, upr_x]; exact k1, hq, by rw [u4]; simp (disch := omega) only [up2_x, upr_x]; exact k2, h10⟩
      obtain ⟨C', M', b1, b2, b3, b4, b5, b6⟩ := ret_87 hcs u2 u3 hE (by simp (disch := omega) only [up2_x, upr_x]; exact h0) hu1 (by simp (disch := omega) only [up2_x, upr_x]; exact hf)
      exact ⟨C', M', b1, b2, b3, b4, b5, by rw [b6]; simp (disch := omega) only [up2_x, upr_x]⟩
    · rw [if_neg h4, if_pos rfl, if_pos (show nI m ≤ 3 from nI_le (b := 3) (by omega) (by decide))]
      exact ret_87 hcs h hm hE h0 hu' hf
set_option maxHeartbeats 4000000 in
theorem top_step3 {c s T E : Nat} {L : List Int32} {C0 M0 C M : Mem} {p m q : Nat} {w : Int32} (hcs : cs c s) (h : Top c s T E L C0 M0 C M) (hm : Md c C M) (hph : C c 41 = 3) (hu : UnF c s C M p m q) (hf : C c 49 = (if 4 ≤ m then 1 else 0)) (hg : M s 32 = (if svd C c m p = true then 10 else 6)) : Top c s T E L C0 M0 (up2 C c 42 w) (up2 M s 21 w) ∧ Md c (up2 C c 42 w) (up2 M s 21 w) := by
  refine ⟨?_, ?_⟩
  · refine ⟨⟨?_, ?_, ?_, ?_, ?_, ?_, ?_, ?_, ?_, ?_, ?_, ?_, ?_, ?_, ?_, ?_, ?_, ?_, ?_, ?_, ?_, ?_, ?_, ?_, ?_, ?_, ?_, ?_, ?_, ?_, ?_, ?_, ?_⟩, ⟨?_, ?_, ?_, ?_, ?_⟩⟩
    · exact rReg_fr h.reg (by intros; first | rfl | (simp (disch := omega) only [up2_x, upr_x])) (by intros; first | rfl | (simp (disch := omega) only [up2_x, upr_x]))
    · exact rDat_fr h.dat (by intros; first | rfl | (simp (disch := omega) only [up2_x, upr_x])) (by intros; first | rfl | (simp (disch := omega) only [up2_x, upr_x]))
    · exact rStk_fr h.stk (by intros; first | rfl | (simp (disch := omega) only [up2_x, upr_x])) (by intros; first | rfl | (simp (disch := omega) only [up2_x, upr_x]))
    · exact rFlt_fr h.flt (by intros; first | rfl | (simp (disch := omega) only [up2_x, upr_x])) (by intros; first | rfl | (simp (disch := omega) only [up2_x, upr_x]))
    · exact rZn_fr h.zn (by intros; first | rfl | (simp (disch := omega) only [up2_x, upr_x])) (by intros; first | rfl | (simp (disch := omega) only [up2_x, upr_x]))
    · exact rPc_fr h.pc (by intros; first | rfl | (simp (disch := omega) only [up2_x, upr_x])) (by intros; first | rfl | (simp (disch := omega) only [up2_x, upr_x]))
    · exact rSp_fr h.sp (by intros; first | rfl | (simp (disch := omega) only [up2_x, upr_x])) (by intros; first | rfl | (simp (disch := omega) only [up2_x, upr_x]))
    · exact rShu_fr h.shu (by intros; first | rfl | (simp (disch := omega) only [up2_x, upr_x])) (by intros; first | rfl | (simp (disch := omega) only [up2_x, upr_x]))
    · exact rBas_fr h.bas (by intros; first | rfl | (simp (disch := omega) only [up2_x, upr_x])) (by intros; first | rfl | (simp (disch := omega) only [up2_x, upr_x]))
    · exact rFls_fr h.fls (by intros; first | rfl | (simp (disch := omega) only [up2_x, upr_x])) (by intros; first | rfl | (simp (disch := omega) only [up2_x, upr_x]))
    · exact rLaz_fr h.laz (by intros; first | rfl | (simp (disch := omega) only [up2_x, upr_x])) (by intros; first | rfl | (simp (disch := omega) only [up2_x, upr_x]))
    · exact rPh_fr h.ph (by intros; first | rfl | (simp (disch := omega) only [up2_x, upr_x])) (by intros; first | rfl | (simp (disch := omega) only [up2_x, upr_x]))
    · unfold rStp
      simp (disch := omega) only [up2_x, up2_e, upr_x]
    · exact rStl_fr h.stl (by intros; first | rfl | (simp (disch := omega) only [up2_x, upr_x])) (by intros; first | rfl | (simp (disch := omega) only [up2_x, upr_x]))
    · exact rAsl_fr h.asl (by intros; first | rfl | (simp (disch := omega) only [up2_x, upr_x])) (by intros; first | rfl | (simp (disch := omega) only [up2_x, upr_x]))
    · exact rClk_fr h.clk (by intros; first | rfl | (simp (disch := omega) only [up2_x, upr_x])) (by intros; first | rfl | (simp (disch := omega) only [up2_x, upr_x]))
    · exact rPer_fr h.per (by intros; first | rfl | (simp (disch := omega) only [up2_x, upr_x])) (by intros; first | rfl | (simp (disch := omega) only [up2_x, upr_x]))
    · exact rTim_fr h.tim (by intros; first | rfl | (simp (disch := omega) only [up2_x, upr_x])) (by intros; first | rfl | (simp (disch := omega) only [up2_x, upr_x]))
    · exact rNst_fr h.nst (by intros; first | rfl | (simp (disch := omega) only [up2_x, upr_x])) (by intros; first | rfl | (simp (disch := omega) only [up2_x, upr_x])) (by intros; first | rfl | (simp (disch := omega) only [up2_x, upr_x])) (by intros; first | rfl | (simp (disch := omega) only [up2_x, upr_x])) (by intros; first | rfl | (simp (disch := omega) only [up2_x, upr_x])) (by intros; first | rfl | (simp (disch := omega) only [up2_x, upr_x]))
    · exact rDue_fr h.due (by intros; first | rfl | (simp (disch := omega) only [up2_x, upr_x])) (by intros; first | rfl | (simp (disch := omega) only [up2_x, upr_x])) (by intros; first | rfl | (simp (disch := omega) only [up2_x, upr_x])) (by intros; first | rfl | (simp (disch := omega) only [up2_x, upr_x])) (by intros; first | rfl | (simp (disch := omega) only [up2_x, upr_x]))
    · exact rRnk_fr h.rnk (by intros; first | rfl | (simp (disch := omega) only [up2_x, upr_x])) (by intros; first | rfl | (simp (disch := omega) only [up2_x, upr_x]))
    · exact rVec_fr h.vec (by intros; first | rfl | (simp (disch := omega) only [up2_x, upr_x])) (by intros; first | rfl | (simp (disch := omega) only [up2_x, upr_x]))
    · exact rEna_fr h.ena (by intros; first | rfl | (simp (disch := omega) only [up2_x, upr_x])) (by intros; first | rfl | (simp (disch := omega) only [up2_x, upr_x]))
    · exact rPnd_fr h.pnd (by intros; first | rfl | (simp (disch := omega) only [up2_x, upr_x])) (by intros; first | rfl | (simp (disch := omega) only [up2_x, upr_x]))
    · exact rAct_fr h.act (by intros; first | rfl | (simp (disch := omega) only [up2_x, upr_x])) (by intros; first | rfl | (simp (disch := omega) only [up2_x, upr_x])) (by intros; first | rfl | (simp (disch := omega) only [up2_x, upr_x]))
    · exact rHld_fr h.hld (by intros; first | rfl | (simp (disch := omega) only [up2_x, upr_x])) (by intros; first | rfl | (simp (disch := omega) only [up2_x, upr_x]))
    · exact rSpl_fr h.spl (by intros; first | rfl | (simp (disch := omega) only [up2_x, upr_x])) (by intros; first | rfl | (simp (disch := omega) only [up2_x, upr_x]))
    · refine ⟨?_, ?_, fun z => absurd z ?_⟩
      · simp (disch := omega) only [up2_x, upr_x]; exact h.sta.1
      · simp (disch := omega) only [up2_x, upr_x]; exact h.sta.2.1
      · simp (disch := omega) only [up2_x, upr_x]; rw [hph]; decide
    · refine fun z => absurd z ?_
      simp (disch := omega) only [up2_x, upr_x]; rw [hph]; decide
    · refine fun _ _ _ => ?_
      obtain ⟨h6, hp, sp1, hm8, k1, hq, k2, h10⟩ := hu
      refine ⟨p, m, q, h6, hp, ?_, hm8, ?_, hq, ?_, ?_, h10, ?_⟩
      · simp (disch := omega) only [up2_x, upr_x]; exact sp1
      · simp (disch := omega) only [up2_x, upr_x]; exact k1
      · simp (disch := omega) only [up2_x, upr_x]; exact k2
      · simp (disch := omega) only [up2_x, upr_x]; exact hf
      · simp (disch := omega) only [up2_x, upr_x]; rw [hg]; unfold svd; simp only [decide_eq_true_eq]
    · exact rCod_fr h.cod (by intros; first | rfl | (simp (disch := omega) only [up2_x, upr_x])) (by intros; first | rfl | (simp (disch := omega) only [up2_x, upr_x]))
    · exact rObs_fr (C := C) (M := M) h.obs (by intros; first | rfl | (simp (disch := omega) only [up2_x, upr_x])) (by intros; first | rfl | (simp (disch := omega) only [up2_x, upr_x]))
    · exact rMdc_fr (C := C) (M := M) h.mdc (by intros; first | rfl | (simp (disch := omega) only [up2_x, upr_x]))
    · exact rCnt_fr h.cnt (by intros; first | rfl | (simp (disch := omega) only [up2_x, upr_x])) (by intros; first | rfl | (simp (disch := omega) only [up2_x, upr_x]))
    · exact rOut_fr h.out (by intros; first | rfl | (simp (disch := omega) only [up2_x, upr_x])) (by intros; first | rfl | (simp (disch := omega) only [up2_x, upr_x])) (by intros; first | rfl | (simp (disch := omega) only [up2_x, upr_x])) (by intros; first | rfl | (simp (disch := omega) only [up2_x, upr_x]))
    · exact rEvt_fr h.evt (by intros; first | rfl | (simp (disch := omega) only [up2_x, upr_x])) (by intros; first | rfl | (simp (disch := omega) only [up2_x, upr_x])) (by intros; first | rfl | (simp (disch := omega) only [up2_x, upr_x])) (by intros; first | rfl | (simp (disch := omega) only [up2_x, upr_x]))
    · exact rWai_fr h.wai (by intros; first | rfl | (simp (disch := omega) only [up2_x, upr_x])) (by intros; first | rfl | (simp (disch := omega) only [up2_x, upr_x]))
    · exact rFrm_fr h.frm (by intros; first | rfl | (simp (disch := omega) only [up2_x, upr_x])) (by intros; first | rfl | (simp (disch := omega) only [up2_x, upr_x]))
  · exact Md_fr hm (by first | rfl | simp (disch := omega) only [up2_x, upr_x]) (by first | rfl | simp (disch := omega) only [up2_x, upr_x]) (by first | rfl | simp (disch := omega) only [up2_x, upr_x]) (by first | rfl | simp (disch := omega) only [up2_x, upr_x]) (by first | rfl | simp (disch := omega) only [up2_x, upr_x])
set_option maxHeartbeats 4000000 in
theorem top_goes {c s T E : Nat} {L : List Int32} {C0 M0 C M : Mem} {v : Int32} (hcs : cs c s) (h : Top c s T E L C0 M0 C M) (hm : Md c C M) (hph : C c 41 = 3) (hst : C c 42 = 0) : Top c s T E L C0 M0 (C) (up2 M s 32 v) ∧ Md c (C) (up2 M s 32 v) := by
  refine ⟨?_, ?_⟩
  · refine ⟨⟨?_, ?_, ?_, ?_, ?_, ?_, ?_, ?_, ?_, ?_, ?_, ?_, ?_, ?_, ?_, ?_, ?_, ?_, ?_, ?_, ?_, ?_, ?_, ?_, ?_, ?_, ?_, ?_, ?_, ?_, ?_, ?_, ?_⟩, ⟨?_, ?_, ?_, ?_, ?_⟩⟩
    · exact rReg_fr h.reg (by intros; first | rfl | (simp (disch := omega) only [up2_x, upr_x])) (by intros; first | rfl | (simp (disch := omega) only [up2_x, upr_x]))
    · exact rDat_fr h.dat (by intros; first | rfl | (simp (disch := omega) only [up2_x, upr_x])) (by intros; first | rfl | (simp (disch := omega) only [up2_x, upr_x]))
    · exact rStk_fr h.stk (by intros; first | rfl | (simp (disch := omega) only [up2_x, upr_x])) (by intros; first | rfl | (simp (disch := omega) only [up2_x, upr_x]))
    · exact rFlt_fr h.flt (by intros; first | rfl | (simp (disch := omega) only [up2_x, upr_x])) (by intros; first | rfl | (simp (disch := omega) only [up2_x, upr_x]))
    · exact rZn_fr h.zn (by intros; first | rfl | (simp (disch := omega) only [up2_x, upr_x])) (by intros; first | rfl | (simp (disch := omega) only [up2_x, upr_x]))
    · exact rPc_fr h.pc (by intros; first | rfl | (simp (disch := omega) only [up2_x, upr_x])) (by intros; first | rfl | (simp (disch := omega) only [up2_x, upr_x]))
    · exact rSp_fr h.sp (by intros; first | rfl | (simp (disch := omega) only [up2_x, upr_x])) (by intros; first | rfl | (simp (disch := omega) only [up2_x, upr_x]))
    · exact rShu_fr h.shu (by intros; first | rfl | (simp (disch := omega) only [up2_x, upr_x])) (by intros; first | rfl | (simp (disch := omega) only [up2_x, upr_x]))
    · exact rBas_fr h.bas (by intros; first | rfl | (simp (disch := omega) only [up2_x, upr_x])) (by intros; first | rfl | (simp (disch := omega) only [up2_x, upr_x]))
    · exact rFls_fr h.fls (by intros; first | rfl | (simp (disch := omega) only [up2_x, upr_x])) (by intros; first | rfl | (simp (disch := omega) only [up2_x, upr_x]))
    · exact rLaz_fr h.laz (by intros; first | rfl | (simp (disch := omega) only [up2_x, upr_x])) (by intros; first | rfl | (simp (disch := omega) only [up2_x, upr_x]))
    · exact rPh_fr h.ph (by intros; first | rfl | (simp (disch := omega) only [up2_x, upr_x])) (by intros; first | rfl | (simp (disch := omega) only [up2_x, upr_x]))
    · exact rStp_fr h.stp (by intros; first | rfl | (simp (disch := omega) only [up2_x, upr_x])) (by intros; first | rfl | (simp (disch := omega) only [up2_x, upr_x]))
    · exact rStl_fr h.stl (by intros; first | rfl | (simp (disch := omega) only [up2_x, upr_x])) (by intros; first | rfl | (simp (disch := omega) only [up2_x, upr_x]))
    · exact rAsl_fr h.asl (by intros; first | rfl | (simp (disch := omega) only [up2_x, upr_x])) (by intros; first | rfl | (simp (disch := omega) only [up2_x, upr_x]))
    · exact rClk_fr h.clk (by intros; first | rfl | (simp (disch := omega) only [up2_x, upr_x])) (by intros; first | rfl | (simp (disch := omega) only [up2_x, upr_x]))
    · exact rPer_fr h.per (by intros; first | rfl | (simp (disch := omega) only [up2_x, upr_x])) (by intros; first | rfl | (simp (disch := omega) only [up2_x, upr_x]))
    · exact rTim_fr h.tim (by intros; first | rfl | (simp (disch := omega) only [up2_x, upr_x])) (by intros; first | rfl | (simp (disch := omega) only [up2_x, upr_x]))
    · exact rNst_fr h.nst (by intros; first | rfl | (simp (disch := omega) only [up2_x, upr_x])) (by intros; first | rfl | (simp (disch := omega) only [up2_x, upr_x])) (by intros; first | rfl | (simp (disch := omega) only [up2_x, upr_x])) (by intros; first | rfl | (simp (disch := omega) only [up2_x, upr_x])) (by intros; first | rfl | (simp (disch := omega) only [up2_x, upr_x])) (by intros; first | rfl | (simp (disch := omega) only [up2_x, upr_x]))
    · exact rDue_fr h.due (by intros; first | rfl | (simp (disch := omega) only [up2_x, upr_x])) (by intros; first | rfl | (simp (disch := omega) only [up2_x, upr_x])) (by intros; first | rfl | (simp (disch := omega) only [up2_x, upr_x])) (by intros; first | rfl | (simp (disch := omega) only [up2_x, upr_x])) (by intros; first | rfl | (simp (disch := omega) only [up2_x, upr_x]))
    · exact rRnk_fr h.rnk (by intros; first | rfl | (simp (disch := omega) only [up2_x, upr_x])) (by intros; first | rfl | (simp (disch := omega) only [up2_x, upr_x]))
    · exact rVec_fr h.vec (by intros; first | rfl | (simp (disch := omega) only [up2_x, upr_x])) (by intros; first | rfl | (simp (disch := omega) only [up2_x, upr_x]))
    · exact rEna_fr h.ena (by intros; first | rfl | (simp (disch := omega) only [up2_x, upr_x])) (by intros; first | rfl | (simp (disch := omega) only [up2_x, upr_x]))
    · exact rPnd_fr h.pnd (by intros; first | rfl | (simp (disch := omega) only [up2_x, upr_x])) (by intros; first | rfl | (simp (disch := omega) only [up2_x, upr_x]))
    · exact rAct_fr h.act (by intros; first | rfl | (simp (disch := omega) only [up2_x, upr_x])) (by intros; first | rfl | (simp (disch := omega) only [up2_x, upr_x])) (by intros; first | rfl | (simp (disch := omega) only [up2_x, upr_x]))
    · exact rHld_fr h.hld (by intros; first | rfl | (simp (disch := omega) only [up2_x, upr_x])) (by intros; first | rfl | (simp (disch := omega) only [up2_x, upr_x]))
    · exact rSpl_fr h.spl (by intros; first | rfl | (simp (disch := omega) only [up2_x, upr_x])) (by intros; first | rfl | (simp (disch := omega) only [up2_x, upr_x]))
    · exact rSta_fr h.sta (by intros; first | rfl | (simp (disch := omega) only [up2_x, upr_x])) (by intros; first | rfl | (simp (disch := omega) only [up2_x, upr_x]))
    · exact rSav_fr h.sav (by intros; first | rfl | (simp (disch := omega) only [up2_x, upr_x])) (by intros; first | rfl | (simp (disch := omega) only [up2_x, upr_x]))
    · refine fun _ z => absurd hst z
    · exact rCod_fr h.cod (by intros; first | rfl | (simp (disch := omega) only [up2_x, upr_x])) (by intros; first | rfl | (simp (disch := omega) only [up2_x, upr_x]))
    · exact rObs_fr (C := C) (M := M) h.obs (by intros; first | rfl | (simp (disch := omega) only [up2_x, upr_x])) (by intros; first | rfl | (simp (disch := omega) only [up2_x, upr_x]))
    · exact rMdc_fr (C := C) (M := M) h.mdc (by intros; first | rfl | (simp (disch := omega) only [up2_x, upr_x]))
    · exact rCnt_fr h.cnt (by intros; first | rfl | (simp (disch := omega) only [up2_x, upr_x])) (by intros; first | rfl | (simp (disch := omega) only [up2_x, upr_x]))
    · exact rOut_fr h.out (by intros; first | rfl | (simp (disch := omega) only [up2_x, upr_x])) (by intros; first | rfl | (simp (disch := omega) only [up2_x, upr_x])) (by intros; first | rfl | (simp (disch := omega) only [up2_x, upr_x])) (by intros; first | rfl | (simp (disch := omega) only [up2_x, upr_x]))
    · exact rEvt_fr h.evt (by intros; first | rfl | (simp (disch := omega) only [up2_x, upr_x])) (by intros; first | rfl | (simp (disch := omega) only [up2_x, upr_x])) (by intros; first | rfl | (simp (disch := omega) only [up2_x, upr_x])) (by intros; first | rfl | (simp (disch := omega) only [up2_x, upr_x]))
    · exact rWai_fr h.wai (by intros; first | rfl | (simp (disch := omega) only [up2_x, upr_x])) (by intros; first | rfl | (simp (disch := omega) only [up2_x, upr_x]))
    · exact rFrm_fr h.frm (by intros; first | rfl | (simp (disch := omega) only [up2_x, upr_x])) (by intros; first | rfl | (simp (disch := omega) only [up2_x, upr_x]))
  · exact Md_fr hm (by first | rfl | simp (disch := omega) only [up2_x, upr_x]) (by first | rfl | simp (disch := omega) only [up2_x, upr_x]) (by first | rfl | simp (disch := omega) only [up2_x, upr_x]) (by first | rfl | simp (disch := omega) only [up2_x, upr_x]) (by first | rfl | simp (disch := omega) only [up2_x, upr_x])
theorem sim_un80 {c s T E : Nat} {L : List Int32} {C0 M0 C M : Mem} {p m q : Nat} (hcs : cs c s) (h : Top c s T E L C0 M0 C M) (hm : Md c C M) (hE : E < 2 ^ 29) (hph : C c 41 = 3) (hu : UnF c s C M p m q) (hf : C c 49 = (if 4 ≤ m then 1 else 0)) (hg : M s 32 = (if svd C c m p = true then 10 else 6)) : ∃ C' M', fc_Core_unstacking_80 c (-1) C = some ((), C') ∧ fm_unstacks_122 s M = some ((), M') ∧ Top c s T (E + 1) L C0 M0 C' M' ∧ Md c C' M' ∧ Bd c s C' M' ∧ C' c 52 = C c 52 := by
  obtain ⟨t1, t2⟩ := top_step3 (w := M s 21 + 1) hcs h hm hph hu hf hg
  have hu' := hu
  obtain ⟨h6, hp, sp1, hm8, k1, hq, k2, h10⟩ := hu
  unfold fc_Core_unstacking_80 fm_unstacks_122 fc_Core_unstacking_132 fc_Core_unstacking_139 fm_unstacks_146
  rw [if_pos (show (-1 : Int32) < 0 by decide), stp_e, stp_e, h.stp, fc_isSaved_v (m := m) (p := p) (by simp (disch := omega) only [up2_x, upr_x]; exact hf) (by simp (disch := omega) only [up2_x, upr_x]; exact sp1), bnd_s, up2_e, up2_e]
  have hsv : svd (up2 C c 42 (M s 21 + 1)) c m p = svd C c m p := by
    unfold svd
    simp (disch := omega) only [up2_x, upr_x]
  have hu1 : UnF c s (up2 C c 42 (M s 21 + 1)) (up2 M s 21 (M s 21 + 1)) p m q := ⟨h6, hp, by simp (disch := omega) only [up2_x, upr_x]; exact sp1, hm8, by simp (disch := omega) only [up2_x, upr_x]; exact k1, hq, by simp (disch := omega) only [up2_x, upr_x]; exact k2, h10⟩
  have hm32 : up2 M s 21 (M s 21 + 1) s 32 = M s 32 := by simp (disch := omega) only [up2_x, upr_x]
  have key : (if M s 21 + 1 = M s 32 then (bnd (fc_Core_returns c (up2 C c 42 (M s 21 + 1))) fun r2 C2 => some ((), C2)) else some ((), up2 C c 42 (M s 21 + 1))) = (if bI (svd (up2 C c 42 (M s 21 + 1)) c m p) = 0 then (if (M s 21 + 1) = 6 then (bnd (fc_Core_returns c (up2 C c 42 (M s 21 + 1))) fun r2 C2 => some ((), C2)) else some ((), up2 C c 42 (M s 21 + 1))) else (if (M s 21 + 1) = 10 then (bnd (fc_Core_returns c (up2 C c 42 (M s 21 + 1))) fun r2 C2 => some ((), C2)) else some ((), up2 C c 42 (M s 21 + 1)))) := by
    rw [hsv, hg]
    cases svd C c m p with
    | true => rw [if_neg (show ¬ bI true = 0 by decide), if_pos rfl]
    | false => rw [if_pos (show bI false = 0 from rfl)]; simp only [Bool.false_eq_true, if_false]
  rw [← key, hm32]
  by_cases he : M s 21 + 1 = M s 32
  · rw [if_pos he, if_pos he]
    obtain ⟨C', M', b1, b2, b3, b4, b5, b6⟩ := sim_returns (p := p) (m := m) (q := q) hcs t1 t2 hE (by simp (disch := omega) only [up2_x, upr_x]; exact hph) (by rw [up2_e, hm32]; exact he) hu1 (by simp (disch := omega) only [up2_x, upr_x]; exact hf) (by rw [hm32, hsv]; exact hg)
    rw [b1, bnd_s, b2, bnd_s]
    exact ⟨C', M', rfl, rfl, b3, b4, b5, by rw [b6]; simp (disch := omega) only [up2_x, upr_x]⟩
  · rw [if_neg he, if_neg he]
    refine ⟨_, _, rfl, rfl, t1.mono (Nat.le_refl _) (Nat.le_succ E), t2, ⟨fun z => absurd z ?_, fun _ _ => ?_⟩, ?_⟩
    · simp (disch := omega) only [up2_x, upr_x]; rw [hph]; decide
    · rw [up2_e, hm32]; exact he
    · simp (disch := omega) only [up2_x, upr_x]
set_option maxHeartbeats 4000000 in
theorem top_aband_own {c s T E : Nat} {L : List Int32} {C0 M0 C M : Mem} {b n t : Nat} {w : Int32} (hcs : cs c s) (h : Top c s T E L C0 M0 C M) (hm : Md c C M) (hcc : c = 9) (hE : E < 2 ^ 29) (h0 : C c 43 = 0) (hq0 : n < 2 ^ 30) (hq1 : C c 51 = nI n) (e1 : C c 37 = nI t) (e25 : M 4 25 = nI t) (e42 : M s 21 = w) : Top c s T (E + 1) L C0 M0 (up2 (up2 (up2 (up2 (upr (up2 C (c + 9) 4 (C (c + 9) 4 + 1)) (c + 11) (evRow (C (c + 11)) (n % 24) (nI 4) (nI b) (nI t) w)) c 51 (nI (n + 1))) c 41 (nI 2)) c 42 1) c 24 (nI 2)) (up2 (up2 (up2 (up2 (up2 (up2 (up2 (up2 M 6 4 (M 6 4 + 1)) 7 (n % 24) (nI 4)) 8 (n % 24) (nI b)) 9 (n % 24) (nI t)) 10 (n % 24) w) 0 11 (nI (n + 1))) s 20 2) s 21 1) ∧ Md c (up2 (up2 (up2 (up2 (upr (up2 C (c + 9) 4 (C (c + 9) 4 + 1)) (c + 11) (evRow (C (c + 11)) (n % 24) (nI 4) (nI b) (nI t) w)) c 51 (nI (n + 1))) c 41 (nI 2)) c 42 1) c 24 (nI 2)) (up2 (up2 (up2 (up2 (up2 (up2 (up2 (up2 M 6 4 (M 6 4 + 1)) 7 (n % 24) (nI 4)) 8 (n % 24) (nI b)) 9 (n % 24) (nI t)) 10 (n % 24) w) 0 11 (nI (n + 1))) s 20 2) s 21 1) := by
  refine ⟨?_, ?_⟩
  · refine ⟨⟨?_, ?_, ?_, ?_, ?_, ?_, ?_, ?_, ?_, ?_, ?_, ?_, ?_, ?_, ?_, ?_, ?_, ?_, ?_, ?_, ?_, ?_, ?_, ?_, ?_, ?_, ?_, ?_, ?_, ?_, ?_, ?_, ?_⟩, ⟨?_, ?_, ?_, ?_, ?_⟩⟩
    · exact rReg_fr h.reg (by intros; first | rfl | (simp (disch := omega) only [up2_x, upr_x])) (by intros; first | rfl | (simp (disch := omega) only [up2_x, upr_x]))
    · exact rDat_fr h.dat (by intros; first | rfl | (simp (disch := omega) only [up2_x, upr_x])) (by intros; first | rfl | (simp (disch := omega) only [up2_x, upr_x]))
    · exact rStk_fr h.stk (by intros; first | rfl | (simp (disch := omega) only [up2_x, upr_x])) (by intros; first | rfl | (simp (disch := omega) only [up2_x, upr_x]))
    · exact rFlt_fr h.flt (by intros; first | rfl | (simp (disch := omega) only [up2_x, upr_x])) (by intros; first | rfl | (simp (disch := omega) only [up2_x, upr_x]))
    · exact rZn_fr h.zn (by intros; first | rfl | (simp (disch := omega) only [up2_x, upr_x])) (by intros; first | rfl | (simp (disch := omega) only [up2_x, upr_x]))
    · exact rPc_fr h.pc (by intros; first | rfl | (simp (disch := omega) only [up2_x, upr_x])) (by intros; first | rfl | (simp (disch := omega) only [up2_x, upr_x]))
    · exact rSp_fr h.sp (by intros; first | rfl | (simp (disch := omega) only [up2_x, upr_x])) (by intros; first | rfl | (simp (disch := omega) only [up2_x, upr_x]))
    · exact rShu_fr h.shu (by intros; first | rfl | (simp (disch := omega) only [up2_x, upr_x])) (by intros; first | rfl | (simp (disch := omega) only [up2_x, upr_x]))
    · exact rBas_fr h.bas (by intros; first | rfl | (simp (disch := omega) only [up2_x, upr_x])) (by intros; first | rfl | (simp (disch := omega) only [up2_x, upr_x]))
    · exact rFls_fr h.fls (by intros; first | rfl | (simp (disch := omega) only [up2_x, upr_x])) (by intros; first | rfl | (simp (disch := omega) only [up2_x, upr_x]))
    · exact rLaz_fr h.laz (by intros; first | rfl | (simp (disch := omega) only [up2_x, upr_x])) (by intros; first | rfl | (simp (disch := omega) only [up2_x, upr_x]))
    · refine ⟨⟨2, by omega, ?_, ?_⟩, ?_⟩
      · simp (disch := omega) only [up2_x, up2_e, upr_x]
      · simp (disch := omega) only [up2_x, up2_e, upr_x]; try rfl
      · simp (disch := omega) only [up2_x, up2_e, upr_x]
    · unfold rStp
      simp (disch := omega) only [up2_x, up2_e, upr_x]
    · obtain ⟨p0, hp0, f1, f2⟩ := h.stl.1
      refine ⟨⟨p0, hp0, ?_, ?_⟩, fun _ => ?_⟩
      · simp (disch := omega) only [up2_x, up2_e, upr_x]; exact f1
      · simp (disch := omega) only [up2_x, up2_e, upr_x]; exact f2
      · simp (disch := omega) only [up2_x, up2_e, upr_x]; exact h0
    · exact rAsl_fr h.asl (by intros; first | rfl | (simp (disch := omega) only [up2_x, upr_x])) (by intros; first | rfl | (simp (disch := omega) only [up2_x, upr_x]))
    · exact rClk_fr h.clk (by intros; first | rfl | (simp (disch := omega) only [up2_x, upr_x])) (by intros; first | rfl | (simp (disch := omega) only [up2_x, upr_x]))
    · exact rPer_fr h.per (by intros; first | rfl | (simp (disch := omega) only [up2_x, upr_x])) (by intros; first | rfl | (simp (disch := omega) only [up2_x, upr_x]))
    · exact rTim_fr h.tim (by intros; first | rfl | (simp (disch := omega) only [up2_x, upr_x])) (by intros; first | rfl | (simp (disch := omega) only [up2_x, upr_x]))
    · exact rNst_fr h.nst (by intros; first | rfl | (simp (disch := omega) only [up2_x, upr_x])) (by intros; first | rfl | (simp (disch := omega) only [up2_x, upr_x])) (by intros; first | rfl | (simp (disch := omega) only [up2_x, upr_x])) (by intros; first | rfl | (simp (disch := omega) only [up2_x, upr_x])) (by intros; first | rfl | (simp (disch := omega) only [up2_x, upr_x])) (by intros; first | rfl | (simp (disch := omega) only [up2_x, upr_x]))
    · exact rDue_fr h.due (by intros; first | rfl | (simp (disch := omega) only [up2_x, upr_x])) (by intros; first | rfl | (simp (disch := omega) only [up2_x, upr_x])) (by intros; first | rfl | (simp (disch := omega) only [up2_x, upr_x])) (by intros; first | rfl | (simp (disch := omega) only [up2_x, upr_x])) (by intros; first | rfl | (simp (disch := omega) only [up2_x, upr_x]))
    · exact rRnk_fr h.rnk (by intros; first | rfl | (simp (disch := omega) only [up2_x, upr_x])) (by intros; first | rfl | (simp (disch := omega) only [up2_x, upr_x]))
    · exact rVec_fr h.vec (by intros; first | rfl | (simp (disch := omega) only [up2_x, upr_x])) (by intros; first | rfl | (simp (disch := omega) only [up2_x, upr_x]))
    · exact rEna_fr h.ena (by intros; first | rfl | (simp (disch := omega) only [up2_x, upr_x])) (by intros; first | rfl | (simp (disch := omega) only [up2_x, upr_x]))
    · exact rPnd_fr h.pnd (by intros; first | rfl | (simp (disch := omega) only [up2_x, upr_x])) (by intros; first | rfl | (simp (disch := omega) only [up2_x, upr_x]))
    · exact rAct_fr h.act (by intros; first | rfl | (simp (disch := omega) only [up2_x, upr_x])) (by intros; first | rfl | (simp (disch := omega) only [up2_x, upr_x])) (by intros; first | rfl | (simp (disch := omega) only [up2_x, upr_x]))
    · exact rHld_fr h.hld (by intros; first | rfl | (simp (disch := omega) only [up2_x, upr_x])) (by intros; first | rfl | (simp (disch := omega) only [up2_x, upr_x]))
    · exact rSpl_fr h.spl (by intros; first | rfl | (simp (disch := omega) only [up2_x, upr_x])) (by intros; first | rfl | (simp (disch := omega) only [up2_x, upr_x]))
    · refine ⟨?_, ?_, fun z => absurd z ?_⟩
      · simp (disch := omega) only [up2_x, up2_e, upr_x]; exact h.sta.1
      · simp (disch := omega) only [up2_x, up2_e, upr_x]; exact h.sta.2.1
      · simp (disch := omega) only [up2_x, up2_e, upr_x]; exact ne_nI (b := 1) (by omega) (by decide) (by decide)
    · refine fun z => absurd z ?_
      simp (disch := omega) only [up2_x, up2_e, upr_x]; exact ne_nI (b := 4) (by omega) (by decide) (by decide)
    · refine fun z => absurd z ?_
      simp (disch := omega) only [up2_x, up2_e, upr_x]; exact ne_nI (b := 3) (by omega) (by decide) (by decide)
    · exact rCod_fr h.cod (by intros; first | rfl | (simp (disch := omega) only [up2_x, upr_x])) (by intros; first | rfl | (simp (disch := omega) only [up2_x, upr_x]))
    · exact rObs_fr (C := C) (M := M) h.obs (by intros; first | rfl | (simp (disch := omega) only [up2_x, upr_x])) (by intros; first | rfl | (simp (disch := omega) only [up2_x, upr_x]))
    · exact rMdc_fr (C := C) (M := M) h.mdc (by intros; first | rfl | (simp (disch := omega) only [up2_x, upr_x]))
    · intro z k h1 h2 h3
      by_cases e4 : k = 4
      · subst e4
        simp (disch := omega) only [up2_x, up2_e, upr_x]
        rw [h.cnt z 4 (by omega) (by omega) (by omega)]
      · skip
        simp (disch := omega) only [up2_x, upr_x]
        exact h.cnt z k h1 h2 h3
    · exact rOut_fr h.out (by intros; first | rfl | (simp (disch := omega) only [up2_x, upr_x])) (by intros; first | rfl | (simp (disch := omega) only [up2_x, upr_x])) (by intros; first | rfl | (simp (disch := omega) only [up2_x, upr_x])) (by intros; first | rfl | (simp (disch := omega) only [up2_x, upr_x]))
    · exact evt_note h.evt (fun z => ⟨hq1, hq0⟩) (by omega) (m := 4) (x1 := nI b) (x2 := nI t) (x3 := w) (by omega) (by intros; simp (disch := omega) only [up2_x, up2_e, upr_x, upr_e, up2_i, up2_n, e1, e25, e42]) (by intros; simp (disch := omega) only [up2_x, up2_e, upr_x, upr_e, up2_i, up2_n, e1, e25, e42]) (by intros; simp (disch := omega) only [up2_x, up2_e, upr_x, upr_e, up2_i, up2_n, e1, e25, e42]) (by intros; simp (disch := omega) only [up2_x, up2_e, upr_x, upr_e, up2_i, up2_n, e1, e25, e42]) (by intros; simp (disch := omega) only [up2_x, up2_e, upr_x, upr_e, up2_i, up2_n, e1, e25, e42]) (by intros; simp (disch := omega) only [up2_x, up2_e, upr_x, upr_e, up2_i, up2_n, e1, e25, e42]) (by intros; simp (disch := omega) only [up2_x, up2_e, upr_x, upr_e, up2_i, up2_n, e1, e25, e42])
    · exact rWai_fr h.wai (by intros; first | rfl | (simp (disch := omega) only [up2_x, upr_x])) (by intros; first | rfl | (simp (disch := omega) only [up2_x, upr_x]))
    · exact rFrm_fr h.frm (by intros; first | rfl | (simp (disch := omega) only [up2_x, upr_x])) (by intros; first | rfl | (simp (disch := omega) only [up2_x, upr_x]))
  · exact Md_fr hm (by first | rfl | simp (disch := omega) only [up2_x, upr_x]) (by first | rfl | simp (disch := omega) only [up2_x, upr_x]) (by first | rfl | simp (disch := omega) only [up2_x, upr_x]) (by first | rfl | simp (disch := omega) only [up2_x, upr_x]) (by first | rfl | simp (disch := omega) only [up2_x, upr_x])
set_option maxHeartbeats 4000000 in
theorem top_aband_for {c s T E : Nat} {L : List Int32} {C0 M0 C M : Mem} (hcs : cs c s) (h : Top c s T E L C0 M0 C M) (hm : Md c C M) (hcc : c = 52) (h0 : C c 43 = 0) : Top c s T E L C0 M0 (up2 (up2 (up2 (up2 C (c + 9) 4 (C (c + 9) 4 + 1)) c 41 (nI 2)) c 42 1) c 24 (nI 2)) (up2 (up2 M s 20 2) s 21 1) ∧ Md c (up2 (up2 (up2 (up2 C (c + 9) 4 (C (c + 9) 4 + 1)) c 41 (nI 2)) c 42 1) c 24 (nI 2)) (up2 (up2 M s 20 2) s 21 1) := by
  refine ⟨?_, ?_⟩
  · refine ⟨⟨?_, ?_, ?_, ?_, ?_, ?_, ?_, ?_, ?_, ?_, ?_, ?_, ?_, ?_, ?_, ?_, ?_, ?_, ?_, ?_, ?_, ?_, ?_, ?_, ?_, ?_, ?_, ?_, ?_, ?_, ?_, ?_, ?_⟩, ⟨?_, ?_, ?_, ?_, ?_⟩⟩
    · exact rReg_fr h.reg (by intros; first | rfl | (simp (disch := omega) only [up2_x, upr_x])) (by intros; first | rfl | (simp (disch := omega) only [up2_x, upr_x]))
    · exact rDat_fr h.dat (by intros; first | rfl | (simp (disch := omega) only [up2_x, upr_x])) (by intros; first | rfl | (simp (disch := omega) only [up2_x, upr_x]))
    · exact rStk_fr h.stk (by intros; first | rfl | (simp (disch := omega) only [up2_x, upr_x])) (by intros; first | rfl | (simp (disch := omega) only [up2_x, upr_x]))
    · exact rFlt_fr h.flt (by intros; first | rfl | (simp (disch := omega) only [up2_x, upr_x])) (by intros; first | rfl | (simp (disch := omega) only [up2_x, upr_x]))
    · exact rZn_fr h.zn (by intros; first | rfl | (simp (disch := omega) only [up2_x, upr_x])) (by intros; first | rfl | (simp (disch := omega) only [up2_x, upr_x]))
    · exact rPc_fr h.pc (by intros; first | rfl | (simp (disch := omega) only [up2_x, upr_x])) (by intros; first | rfl | (simp (disch := omega) only [up2_x, upr_x]))
    · exact rSp_fr h.sp (by intros; first | rfl | (simp (disch := omega) only [up2_x, upr_x])) (by intros; first | rfl | (simp (disch := omega) only [up2_x, upr_x]))
    · exact rShu_fr h.shu (by intros; first | rfl | (simp (disch := omega) only [up2_x, upr_x])) (by intros; first | rfl | (simp (disch := omega) only [up2_x, upr_x]))
    · exact rBas_fr h.bas (by intros; first | rfl | (simp (disch := omega) only [up2_x, upr_x])) (by intros; first | rfl | (simp (disch := omega) only [up2_x, upr_x]))
    · exact rFls_fr h.fls (by intros; first | rfl | (simp (disch := omega) only [up2_x, upr_x])) (by intros; first | rfl | (simp (disch := omega) only [up2_x, upr_x]))
    · exact rLaz_fr h.laz (by intros; first | rfl | (simp (disch := omega) only [up2_x, upr_x])) (by intros; first | rfl | (simp (disch := omega) only [up2_x, upr_x]))
    · refine ⟨⟨2, by omega, ?_, ?_⟩, ?_⟩
      · simp (disch := omega) only [up2_x, up2_e, upr_x]
      · simp (disch := omega) only [up2_x, up2_e, upr_x]; try rfl
      · simp (disch := omega) only [up2_x, up2_e, upr_x]
    · unfold rStp
      simp (disch := omega) only [up2_x, up2_e, upr_x]
    · obtain ⟨p0, hp0, f1, f2⟩ := h.stl.1
      refine ⟨⟨p0, hp0, ?_, ?_⟩, fun _ => ?_⟩
      · simp (disch := omega) only [up2_x, up2_e, upr_x]; exact f1
      · simp (disch := omega) only [up2_x, up2_e, upr_x]; exact f2
      · simp (disch := omega) only [up2_x, up2_e, upr_x]; exact h0
    · exact rAsl_fr h.asl (by intros; first | rfl | (simp (disch := omega) only [up2_x, upr_x])) (by intros; first | rfl | (simp (disch := omega) only [up2_x, upr_x]))
    · exact rClk_fr h.clk (by intros; first | rfl | (simp (disch := omega) only [up2_x, upr_x])) (by intros; first | rfl | (simp (disch := omega) only [up2_x, upr_x]))
    · exact rPer_fr h.per (by intros; first | rfl | (simp (disch := omega) only [up2_x, upr_x])) (by intros; first | rfl | (simp (disch := omega) only [up2_x, upr_x]))
    · exact rTim_fr h.tim (by intros; first | rfl | (simp (disch := omega) only [up2_x, upr_x])) (by intros; first | rfl | (simp (disch := omega) only [up2_x, upr_x]))
    · exact rNst_fr h.nst (by intros; first | rfl | (simp (disch := omega) only [up2_x, upr_x])) (by intros; first | rfl | (simp (disch := omega) only [up2_x, upr_x])) (by intros; first | rfl | (simp (disch := omega) only [up2_x, upr_x])) (by intros; first | rfl | (simp (disch := omega) only [up2_x, upr_x])) (by intros; first | rfl | (simp (disch := omega) only [up2_x, upr_x])) (by intros; first | rfl | (simp (disch := omega) only [up2_x, upr_x]))
    · exact rDue_fr h.due (by intros; first | rfl | (simp (disch := omega) only [up2_x, upr_x])) (by intros; first | rfl | (simp (disch := omega) only [up2_x, upr_x])) (by intros; first | rfl | (simp (disch := omega) only [up2_x, upr_x])) (by intros; first | rfl | (simp (disch := omega) only [up2_x, upr_x])) (by intros; first | rfl | (simp (disch := omega) only [up2_x, upr_x]))
    · exact rRnk_fr h.rnk (by intros; first | rfl | (simp (disch := omega) only [up2_x, upr_x])) (by intros; first | rfl | (simp (disch := omega) only [up2_x, upr_x]))
    · exact rVec_fr h.vec (by intros; first | rfl | (simp (disch := omega) only [up2_x, upr_x])) (by intros; first | rfl | (simp (disch := omega) only [up2_x, upr_x]))
    · exact rEna_fr h.ena (by intros; first | rfl | (simp (disch := omega) only [up2_x, upr_x])) (by intros; first | rfl | (simp (disch := omega) only [up2_x, upr_x]))
    · exact rPnd_fr h.pnd (by intros; first | rfl | (simp (disch := omega) only [up2_x, upr_x])) (by intros; first | rfl | (simp (disch := omega) only [up2_x, upr_x]))
    · exact rAct_fr h.act (by intros; first | rfl | (simp (disch := omega) only [up2_x, upr_x])) (by intros; first | rfl | (simp (disch := omega) only [up2_x, upr_x])) (by intros; first | rfl | (simp (disch := omega) only [up2_x, upr_x]))
    · exact rHld_fr h.hld (by intros; first | rfl | (simp (disch := omega) only [up2_x, upr_x])) (by intros; first | rfl | (simp (disch := omega) only [up2_x, upr_x]))
    · exact rSpl_fr h.spl (by intros; first | rfl | (simp (disch := omega) only [up2_x, upr_x])) (by intros; first | rfl | (simp (disch := omega) only [up2_x, upr_x]))
    · refine ⟨?_, ?_, fun z => absurd z ?_⟩
      · simp (disch := omega) only [up2_x, up2_e, upr_x]; exact h.sta.1
      · simp (disch := omega) only [up2_x, up2_e, upr_x]; exact h.sta.2.1
      · simp (disch := omega) only [up2_x, up2_e, upr_x]; exact ne_nI (b := 1) (by omega) (by decide) (by decide)
    · refine fun z => absurd z ?_
      simp (disch := omega) only [up2_x, up2_e, upr_x]; exact ne_nI (b := 4) (by omega) (by decide) (by decide)
    · refine fun z => absurd z ?_
      simp (disch := omega) only [up2_x, up2_e, upr_x]; exact ne_nI (b := 3) (by omega) (by decide) (by decide)
    · exact rCod_fr h.cod (by intros; first | rfl | (simp (disch := omega) only [up2_x, upr_x])) (by intros; first | rfl | (simp (disch := omega) only [up2_x, upr_x]))
    · exact rObs_fr (C := C) (M := M) h.obs (by intros; first | rfl | (simp (disch := omega) only [up2_x, upr_x])) (by intros; first | rfl | (simp (disch := omega) only [up2_x, upr_x]))
    · exact rMdc_fr (C := C) (M := M) h.mdc (by intros; first | rfl | (simp (disch := omega) only [up2_x, upr_x]))
    · exact fun z => absurd z (by omega)
    · exact rOut_fr h.out (by intros; first | rfl | (simp (disch := omega) only [up2_x, upr_x])) (by intros; first | rfl | (simp (disch := omega) only [up2_x, upr_x])) (by intros; first | rfl | (simp (disch := omega) only [up2_x, upr_x])) (by intros; first | rfl | (simp (disch := omega) only [up2_x, upr_x]))
    · exact rEvt_fr h.evt (by intros; first | rfl | (simp (disch := omega) only [up2_x, upr_x])) (by intros; first | rfl | (simp (disch := omega) only [up2_x, upr_x])) (by intros; first | rfl | (simp (disch := omega) only [up2_x, upr_x])) (by intros; first | rfl | (simp (disch := omega) only [up2_x, upr_x]))
    · exact rWai_fr h.wai (by intros; first | rfl | (simp (disch := omega) only [up2_x, upr_x])) (by intros; first | rfl | (simp (disch := omega) only [up2_x, upr_x]))
    · exact rFrm_fr h.frm (by intros; first | rfl | (simp (disch := omega) only [up2_x, upr_x])) (by intros; first | rfl | (simp (disch := omega) only [up2_x, upr_x]))
  · exact Md_fr hm (by first | rfl | simp (disch := omega) only [up2_x, upr_x]) (by first | rfl | simp (disch := omega) only [up2_x, upr_x]) (by first | rfl | simp (disch := omega) only [up2_x, upr_x]) (by first | rfl | simp (disch := omega) only [up2_x, upr_x]) (by first | rfl | simp (disch := omega) only [up2_x, upr_x])
theorem sim_aband {c s T E : Nat} {L : List Int32} {C0 M0 C M : Mem} {b : Nat} (hcs : cs c s) (h : Top c s T E L C0 M0 C M) (hm : Md c C M) (hE : E < 2 ^ 29) (hph : C c 41 = 3) (hb : b < 21) : ∃ C' M', (stp (up2 C (c + 9) 4 ((C (c + 9) 4) + 1)) fun C6 => if (C6 c 28) = 0 then (bnd (fc_Core_notes c 4 (nI b) (C6 c 37) (C6 c 42) C6) fun r10 C10 => fc_Core_unstacking_55 c C10) else fc_Core_unstacking_55 c C6) = some ((), C') ∧ (bnd (fm_counts 4 M) fun r11 M11 => bnd (fm_notes 4 (nI b) (M11 s 21) M11) fun r12 M12 => bnd (fm_turns s 2 1 M12) fun r13 M13 => some ((), M13)) = some ((), M') ∧ Top c s T (E + 1) L C0 M0 C' M' ∧ Md c C' M' ∧ Bd c s C' M' ∧ C' c 52 = C c 52 := by
  have h0 : C c 43 = 0 := h.stl.2 (by rw [hph]; decide)
  obtain ⟨t, ht, e1, e2⟩ := h.clk
  have hun : ∀ C1 : Mem, fc_Core_unstacking_55 c C1 = some ((), up2 (up2 (up2 C1 c 41 (nI 2)) c 42 1) c 24 (nI 2)) := by
    intro C1
    unfold fc_Core_unstacking_55 fc_Core_chaining fc_Core_chaining_42
    rw [show fc_Core_turns c 2 = fc_Core_turns c (nI 2) from rfl, fc_turns_v (by omega), bnd_s]
    simp (disch := omega) only [stp_e, up2_x, up2_e]
    rw [show (0 : Int32) + 1 = 1 from rfl, if_neg (show ¬ (2 : Int32) ≤ 1 by decide), bnd_s, up2_comm (Or.inr (by omega)), up2_up2]
  unfold fm_counts fm_counts_17
  rcases hcs with ⟨z, w⟩ | ⟨z, w⟩
  · obtain ⟨n, hq0, hq1, hq2⟩ := top_told h hE z
    have e25 : M 4 25 = nI t := by rw [show (4 : Nat) = s by omega]; exact e2
    simp (disch := omega) only [stp_e, bnd_s, gd_t, up2_x, (h.mdc.1 z).1, hm.1.1 z, n10, ↓reduceIte, i17_4, cl_4]
    rw [show fc_Core_notes c 4 = fc_Core_notes c (nI 4) from rfl, fc_notes_v (q := n) (by simp (disch := omega) only [up2_x, upr_x]; exact hq1) hq0 (by omega), bnd_s, hun, show fm_notes 4 = fm_notes (nI 4) from rfl, fm_notes_v (q := n) (by simp (disch := omega) only [up2_x, upr_x]; exact hm.1.1 z) (by simp (disch := omega) only [up2_x, upr_x]; exact hq2) hq0, bnd_s, fm_turns_v, bnd_s]
    simp (disch := omega) only [up2_x, up2_n]
    rw [e1, e25, h.stp]
    obtain ⟨t1, t2⟩ := top_aband_own (b := b) (Or.inl ⟨z, w⟩) h hm z hE h0 hq0 hq1 e1 e25 rfl
    refine ⟨_, _, rfl, rfl, t1, t2, Bd_of ?_ ?_, ?_⟩
    · simp (disch := omega) only [up2_x, up2_e, upr_x]; decide
    · simp (disch := omega) only [up2_x, up2_e, upr_x]; decide
    · simp (disch := omega) only [up2_x, upr_x]
  · simp (disch := omega) only [stp_e, bnd_s, gd_t, up2_x, (h.mdc.2 z).1, hm.1.2 z, n10, ↓reduceIte]
    rw [hun, fm_notes_0 (hm.1.2 z), bnd_s, fm_turns_v, bnd_s]
    obtain ⟨t1, t2⟩ := top_aband_for (Or.inr ⟨z, w⟩) h hm z h0
    refine ⟨_, _, rfl, rfl, t1.mono (Nat.le_refl _) (Nat.le_succ E), t2, Bd_of ?_ ?_, ?_⟩
    · simp (disch := omega) only [up2_x, up2_e, upr_x]; decide
    · simp (disch := omega) only [up2_x, up2_e, upr_x]; decide
    · simp (disch := omega) only [up2_x, upr_x]
theorem Top.laz_eq {c s T E : Nat} {L : List Int32} {C0 M0 C M : Mem} (h : Top c s T E L C0 M0 C M) : C c 46 = M s 19 := by
  rcases h.laz with ⟨z1, z2⟩ | z
  · rw [z1, z2]
  · exact z.eq
theorem sim_unstacking {c s T E : Nat} {L : List Int32} {C0 M0 C M : Mem} (hcs : cs c s) (h : Top c s T E L C0 M0 C M) (hm : Md c C M) (hT : T < 2 ^ 29) (hE : E < 2 ^ 28) (hph : C c 41 = 3) (hbd : Bd c s C M) : ∃ C' M', fc_Core_unstacking c C = some ((), C') ∧ fm_unstacks s M = some ((), M') ∧ Top c s T (E + 2) L C0 M0 C' M' ∧ Md c C' M' ∧ Bd c s C' M' ∧ C' c 52 = C c 52 := by
  have h0 : C c 43 = 0 := h.stl.2 (by rw [hph]; decide)
  obtain ⟨o, n1, n2, n3⟩ := top_next hcs (by omega) h.1
  have h26 : C c 26 = M 0 15 := by
    rcases hcs with ⟨z, w⟩ | ⟨z, w⟩
    · rw [← hm.2.1, (h.mdc.1 z).2.1, (h.mdc.1 z).2.2]
    · rw [← hm.2.1, (h.mdc.2 z).2.2]
  have hB : isB (M 0 15) = true := by
    rw [← hm.2.1]
    rcases hcs with ⟨z, w⟩ | ⟨z, w⟩
    · rw [(h.mdc.1 z).2.1]; rfl
    · exact (h.mdc.2 z).2.1
  -- no chain: what goes on
  have stay : ∃ C' M', (if (C c 42) = 0 then (bnd (fc_Core_looks c C) fun r5 C5 => fc_Core_unstacking_80 c r5 C5) else fc_Core_unstacking_80 c (-1) C) = some ((), C') ∧ fm_unstacks_16 s (-1) M = some ((), M') ∧ Top c s T (E + 2) L C0 M0 C' M' ∧ Md c C' M' ∧ Bd c s C' M' ∧ C' c 52 = C c 52 := by
    unfold fm_unstacks_16
    rw [if_pos (show (-1 : Int32) < 0 by decide), h.stp]
    by_cases hst : M s 21 = 0
    · have hst1 : C c 42 = 0 := by rw [h.stp]; exact hst
      rw [if_pos hst, if_pos hst]
      rcases sim_looks hcs h hm with ⟨k, v, k1, k2, k3, k4⟩ | ⟨p, m, q, hu, k3, k4⟩
      · obtain ⟨t1, t2⟩ := top_four hcs h hm hph hst1 k2
        rw [k3, bnd_s, k4, bnd_s, if_neg (show ¬ nI k < 0 from nI_pos (by omega))]
        unfold fc_Core_unstacking_80 fc_Core_unstacking_103 fm_unstacks_77
        rw [if_neg (show ¬ nI k < 0 from nI_pos (by omega))]
        obtain ⟨r, C1, M1, a1, a2, a3, a4, a5, a6⟩ := sim_raises (k := k) hcs hT (by omega) t1 t2 (by simp (disch := omega) only [up2_x, upr_x]; rw [hph]; decide) (by simp (disch := omega) only [up2_x, upr_x]; exact h0) k1
        rw [a1, a2, bnd_s, bnd_s]
        rcases a5 with ⟨r1, z1⟩ | ⟨r1, z1, z2⟩
        · rw [z1, if_pos rfl, r1, if_neg (by decide)]
          refine ⟨C1, M1, rfl, rfl, a3.mono (Nat.le_refl _) (Nat.le_succ _), a4, Bd_of (by rw [z1]; decide) (by rw [z1]; decide), ?_⟩
          rw [a6 52 (by omega) (by omega) (by omega) (by omega)]
          simp (disch := omega) only [up2_x, upr_x]
        · have hp3 : C1 c 41 = 3 := by rw [z1]; simp (disch := omega) only [up2_x, upr_x]; exact hph
          have h01 : C1 c 43 = 0 := by
            rw [a6 43 (by omega) (by omega) (by omega) (by omega)]
            simp (disch := omega) only [up2_x, upr_x]
            exact h0
          rw [hp3, if_neg (by decide), r1, if_pos rfl, show fc_Core_turns c 2 = fc_Core_turns c (nI 2) from rfl, fc_turns_v (by omega), bnd_s, fm_turns_v, bnd_s]
          obtain ⟨u1, u2⟩ := top_turn2 hcs a3 a4 h01
          refine ⟨_, _, rfl, rfl, u1.mono (Nat.le_refl _) (Nat.le_succ _), u2, Bd_of ?_ ?_, ?_⟩
          · simp (disch := omega) only [up2_x, up2_e, upr_x]; decide
          · simp (disch := omega) only [up2_x, up2_e, upr_x]; decide
          · simp (disch := omega) only [up2_x, upr_x]
            rw [a6 52 (by omega) (by omega) (by omega) (by omega)]
            simp (disch := omega) only [up2_x, upr_x]
      · have hvb : isB (if 4 ≤ m then (1 : Int32) else 0) = true := by split <;> rfl
        obtain ⟨t1, t2⟩ := top_four hcs h hm hph hst1 hvb
        obtain ⟨h6, hp, sp1, hm8, q1, hq, q2, h10⟩ := hu
        have sp2 : M s 15 = nI p := by rw [← h.sp.eq]; exact sp1
        have hsub : nI (23040 + m) - 23040 = nI m := by
          rw [show (23040 : Int32) = nI 23040 from rfl, nI_sub (by omega), Nat.add_sub_cancel_left]
        obtain ⟨u1, u2⟩ := top_goes (v := if svd C c m p = true then 10 else 6) hcs t1 t2 (by simp (disch := omega) only [up2_x, upr_x]; exact hph) (by simp (disch := omega) only [up2_x, upr_x]; exact hst1)
        have hsv : svd (up2 C c 49 (if 4 ≤ m then 1 else 0)) c m p = svd C c m p := by
          unfold svd
          simp (disch := omega) only [up2_x, upr_x]
        obtain ⟨C', M', b1, b2, b3, b4, b5, b6⟩ := sim_un80 (p := p) (m := m) (q := q) hcs u1 u2 (by omega) (by simp (disch := omega) only [up2_x, upr_x]; exact hph) ⟨h6, hp, by simp (disch := omega) only [up2_x, upr_x]; exact sp1, hm8, by simp (disch := omega) only [up2_x, upr_x]; exact q1, hq, by simp (disch := omega) only [up2_x, upr_x]; exact q2, h10⟩ (by rw [up2_e]) (by rw [up2_e, hsv])
        rw [k3, bnd_s, k4, bnd_s, if_pos (show (-1 : Int32) < 0 by decide), b1]
        refine ⟨C', M', rfl, ?_, b3.mono (Nat.le_refl _) (Nat.le_succ _), b4, b5, by rw [b6]; simp (disch := omega) only [up2_x, upr_x]⟩
        unfold fm_unstacks_119 fm_unstacks_121
        rw [sp2, l_56, s_1 (show 1 ≤ 56 + p by omega), inb_nI (show 56 + p - 1 < 342 by omega) (by decide), gd_t, nI_clamp (show 56 + p - 1 < 2 ^ 31 by omega), show 56 + p - 1 = 55 + p by omega, q1, hsub, show inb 32 342 = true from rfl, show (32 : Int32).toNatClampNeg = 32 from rfl]
        simp only [gd_t, stp_e]
        rw [← b2]
        unfold svd
        by_cases h4 : 4 ≤ m
        · rw [if_neg (show ¬ nI m ≤ 3 from nI_ge (a := 3) (by omega) (by omega)), ← h.laz_eq]
          by_cases hl : C c 46 = nI p - 10
          · rw [if_pos hl]
            simp [hl]
          · rw [if_neg hl]
            simp [h4, hl]
        · rw [if_pos (show nI m ≤ 3 from nI_le (b := 3) (by omega) (by decide))]
          simp [h4]
    · have hst1 : ¬ C c 42 = 0 := by rw [h.stp]; exact hst
      rw [if_neg hst, if_neg hst]
      obtain ⟨p, m, q, g1, g2, g3, g4, g5, g6, g7, g8, g9, g10⟩ := h.uns hph hst1 (hbd.2 hph hst1)
      obtain ⟨C', M', b1, b2, b3, b4, b5, b6⟩ := sim_un80 (p := p) (m := m) (q := q) hcs h hm (by omega) hph ⟨g1, g2, g3, g4, g5, g6, g7, g9⟩ g8 (by rw [g10]; unfold svd; simp only [decide_eq_true_eq])
      exact ⟨C', M', b1, b2, b3.mono (Nat.le_refl _) (Nat.le_succ _), b4, b5, b6⟩
  unfold fc_Core_unstacking fm_unstacks fv_may fc_Core_lambda_new_2 fc_Core_lambda_new_2_9 fc_Core_lambda_new_3
  rw [n1, bnd_s, h26]
  rcases isB_or hB with z | z
  · rw [z, if_pos rfl, if_pos rfl, n2, bnd_s]
    cases o with
    | none =>
      rw [if_pos (show oI none < 0 by decide), isB_0, gd_t, bnd_s, isB_0, gd_t, bnd_s, if_pos rfl]
      exact stay
    | some b =>
      have hb := (n3 b rfl).1
      rw [show oI (some b) = nI b from rfl, if_neg (show ¬ nI b < 0 from nI_pos (by omega)), isB_1, gd_t, bnd_s, isB_1, gd_t, bnd_s, if_neg (show ¬ (1 : Int32) = 0 by decide)]
      obtain ⟨C', M', b1, b2, b3, b4, b5, b6⟩ := sim_aband (b := b) hcs h hm (by omega) hph hb
      refine ⟨C', M', b1, ?_, b3.mono (Nat.le_refl _) (Nat.le_succ _), b4, b5, b6⟩
      unfold fm_unstacks_16
      rw [if_neg (show ¬ nI b < 0 from nI_pos (by omega))]
      exact b2
  · rw [z, if_neg (show ¬ (1 : Int32) = 0 by decide), if_neg (show ¬ (1 : Int32) = 0 by decide), bnd_s, isB_0, gd_t, bnd_s, if_pos rfl]
    exact stay
