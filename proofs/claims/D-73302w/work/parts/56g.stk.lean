/-! THE SIMULATION: stacking -/
/-- what is so between two cycles -/
def Bd (c s : Nat) (C M : Mem) : Prop := (C c 41 = 1 → ∃ k : Nat, 1 ≤ k ∧ k ≤ 5 ∧ C c 42 = nI k) ∧ (C c 41 = 3 → ¬ C c 42 = 0 → ¬ C c 42 = M s 32)
theorem Bd_of {c s : Nat} {C M : Mem} (h1 : ¬ C c 41 = 1) (h3 : ¬ C c 41 = 3) : Bd c s C M := ⟨fun z => absurd z h1, fun z => absurd z h3⟩
theorem Bd_0 {c s : Nat} {C M : Mem} (h1 : ¬ C c 41 = 1) (h0 : C c 42 = 0) : Bd c s C M := ⟨fun z => absurd z h1, fun _ z => absurd h0 z⟩
theorem Bd_1 {c s : Nat} {C M : Mem} (h1 : C c 41 = 1) (h : ∃ k : Nat, 1 ≤ k ∧ k ≤ 5 ∧ C c 42 = nI k) : Bd c s C M := ⟨fun _ => h, fun z => absurd (h1.symm.trans z) (by decide)⟩
/-- who began -/
def Nw (w : Int32) (c : Nat) (C' : Mem) (L L' : List Int32) : Prop := (C' c 52 = w ∧ L' = L) ∨ ∃ b : Nat, b < 21 ∧ C' c 52 = nI b ∧ L' = L ++ [nI b]
set_option maxHeartbeats 4000000 in
theorem top_broken {c s T E : Nat} {L : List Int32} {C0 M0 C M : Mem} (hcs : cs c s) (h : Top c s T E L C0 M0 C M) (hm : Md c C M) (hph : C c 41 = 1) : Top c s T E L C0 M0 (up2 C c 48 1) (up2 M s 28 1) ∧ Md c (up2 C c 48 1) (up2 M s 28 1) := by
  refine ⟨?_, ?_⟩
  · refine ⟨⟨?_, ?_, ?_, ?_, ?_, ?_, ?_, ?_, ?_, ?_, ?_, ?_, ?_, ?_, ?_, ?_, ?_, ?_, ?_, ?_, ?_, ?_, ?_, ?_, ?_, ?_, ?_, ?_, ?_, ?_, ?_, ?_, ?_⟩, ⟨?_, ?_, ?_, ?_, ?_⟩⟩
    · exact rReg_fr h.reg (by intros; first | rfl | (simp (disch := omega) only [up2_x, upr_x])) (by intros; first | rfl | (simp (disch := omega) only [up2_x, upr_x]))
    · exact rDat_fr h.dat (by intros; first | rfl | (simp (disch := omega) only [up2_x, upr_x])) (by intros; first | rfl | (simp (disch := omega) only [up2_x, upr_x]))
    · exact rStk_fr h.stk (by intros; first | rfl | (simp (disch := omega) only [up2_x, upr_x])) (by intros; first | rfl | (simp (disch := omega) only [up2_x, upr_x]))
    · exact rFlt_fr h.flt (by intros; first | rfl | (simp (disch := omega) only [up2_x, upr_x])) (by intros; first | rfl | (simp (disch := omega) only [up2_x, upr_x]))
    · exact rZn_fr h.zn (by intros; first | rfl | (simp (disch := omega) only [up2_x, upr_x])) (by intros; first | rfl | (simp (disch := omega) only [up2_x, upr_x]))
    · exact rPc_fr h.pc (by intros; first | rfl | (simp (disch := omega) only [up2_x, upr_x])) (by intros; first | rfl | (simp (disch := omega) only [up2_x, upr_x]))
    · exact rSp_fr h.sp (by intros; first | rfl | (simp (disch := omega) only [up2_x, upr_x])) (by intros; first | rfl | (simp (disch := omega) only [up2_x, upr_x]))
    · exact rShu_fr h.shu (by intros; first | rfl | (simp (disch := omega) only [up2_x, upr_x])) (by intros; first | rfl | (simp (disch := omega) only [up2_x, upr_x]))
    · exact rBas_fr h.bas (by intros; first | rfl | (simp (disch := omega) only [up2_x, upr_x])) (by intros; first | rfl | (simp (disch := omega) only [up2_x, upr_x]))
    · exact rFls_fr h.fls (by intros; first | rfl | (simp (disch := omega) only [up2_x, upr_x])) (by intros; first | rfl | (simp (disch := omega) only [up2_x, upr_x]))
    · exact rLaz_fr h.laz (by intros; first | rfl | (simp (disch := omega) only [up2_x, upr_x])) (by intros; first | rfl | (simp (disch := omega) only [up2_x, upr_x]))
    · exact rPh_fr h.ph (by intros; first | rfl | (simp (disch := omega) only [up2_x, upr_x])) (by intros; first | rfl | (simp (disch := omega) only [up2_x, upr_x]))
    · exact rStp_fr h.stp (by intros; first | rfl | (simp (disch := omega) only [up2_x, upr_x])) (by intros; first | rfl | (simp (disch := omega) only [up2_x, upr_x]))
    · exact rStl_fr h.stl (by intros; first | rfl | (simp (disch := omega) only [up2_x, upr_x])) (by intros; first | rfl | (simp (disch := omega) only [up2_x, upr_x]))
    · exact rAsl_fr h.asl (by intros; first | rfl | (simp (disch := omega) only [up2_x, upr_x])) (by intros; first | rfl | (simp (disch := omega) only [up2_x, upr_x]))
    · exact rClk_fr h.clk (by intros; first | rfl | (simp (disch := omega) only [up2_x, upr_x])) (by intros; first | rfl | (simp (disch := omega) only [up2_x, upr_x]))
    · exact rPer_fr h.per (by intros; first | rfl | (simp (disch := omega) only [up2_x, upr_x])) (by intros; first | rfl | (simp (disch := omega) only [up2_x, upr_x]))
    · exact rTim_fr h.tim (by intros; first | rfl | (simp (disch := omega) only [up2_x, upr_x])) (by intros; first | rfl | (simp (disch := omega) only [up2_x, upr_x]))
    · exact rNst_fr h.nst (by intros; first | rfl | (simp (disch := omega) only [up2_x, upr_x])) (by intros; first | rfl | (simp (disch := omega) only [up2_x, upr_x])) (by intros; first | rfl | (simp (disch := omega) only [up2_x, upr_x])) (by intros; first | rfl | (simp (disch := omega) only [up2_x, upr_x])) (by intros; first | rfl | (simp (disch := omega) only [up2_x, upr_x])) (by intros; first | rfl | (simp (disch := omega) only [up2_x, upr_x]))
    · exact rDue_fr h.due (by intros; first | rfl | (simp (disch := omega) only [up2_x, upr_x])) (by intros; first | rfl | (simp (disch := omega) only [up2_x, upr_x])) (by intros; first | rfl | (simp (disch := omega) only [up2_x, upr_x])) (by intros; first | rfl | (simp (disch := omega) only [up2_x, upr_x])) (by intros; first | rfl | (simp (disch := omega) only [up2_x, upr_x]))
    · exact rRnk_fr h.rnk (by intros; first | rfl | (simp (disch := omega) only [up2_x, upr_x])) (by intros; first | rfl | (simp (disch := omega) only [up2_x, upr_x]))
    · exact rVec_fr h.vec (by intros; first | rfl | (simp (disch := omega) only [up2_x, upr_x])) (by intros; first | rfl | (simp (disch := omega) only [up2_x, upr_x]))
    · exact rEna_fr h.ena (by intros; first | rfl | (simp (disch := omega) only [up2_x, upr_x])) (by intros; first | rfl | (simp (disch := omega) only [up2_x, upr_x]))
    · exact rPnd_fr h.pnd (by intros; first | rfl | (simp (disch := omega) only [up2_x, upr_x])) (by intros; first | rfl | (simp (disch := omega) only [up2_x, upr_x]))
    · exact rAct_fr h.act (by intros; first | rfl | (simp (disch := omega) only [up2_x, upr_x])) (by intros; first | rfl | (simp (disch := omega) only [up2_x, upr_x])) (by intros; first | rfl | (simp (disch := omega) only [up2_x, upr_x]))
    · exact rHld_fr h.hld (by intros; first | rfl | (simp (disch := omega) only [up2_x, upr_x])) (by intros; first | rfl | (simp (disch := omega) only [up2_x, upr_x]))
    · exact rSpl_fr h.spl (by intros; first | rfl | (simp (disch := omega) only [up2_x, upr_x])) (by intros; first | rfl | (simp (disch := omega) only [up2_x, upr_x]))
    · obtain ⟨a1, a2, a3⟩ := h.sta
      obtain ⟨b1, b2, b3, b4⟩ := a3 hph
      refine ⟨?_, ?_, fun _ => ⟨?_, ?_, ?_, ?_⟩⟩
      · simp (disch := omega) only [up2_x, up2_e, upr_x]; rfl
      · simp (disch := omega) only [up2_x, upr_x]; exact a2
      · simp (disch := omega) only [up2_x, upr_x]; exact b1
      · simp (disch := omega) only [up2_x, upr_x]; exact b2
      · simp (disch := omega) only [up2_x, up2_e, upr_x]
      · simp (disch := omega) only [up2_x, upr_x]; exact b4
    · exact rSav_fr h.sav (by intros; first | rfl | (simp (disch := omega) only [up2_x, upr_x])) (by intros; first | rfl | (simp (disch := omega) only [up2_x, upr_x]))
    · exact rUns_fr h.uns (by intros; first | rfl | (simp (disch := omega) only [up2_x, upr_x])) (by intros; first | rfl | (simp (disch := omega) only [up2_x, upr_x])) (by intros; first | rfl | (simp (disch := omega) only [up2_x, upr_x]))
    · exact rCod_fr h.cod (by intros; first | rfl | (simp (disch := omega) only [up2_x, upr_x])) (by intros; first | rfl | (simp (disch := omega) only [up2_x, upr_x]))
    · exact rObs_fr (C := C) (M := M) h.obs (by intros; first | rfl | (simp (disch := omega) only [up2_x, upr_x])) (by intros; first | rfl | (simp (disch := omega) only [up2_x, upr_x]))
    · exact rMdc_fr (C := C) (M := M) h.mdc (by intros; first | rfl | (simp (disch := omega) only [up2_x, upr_x]))
    · exact rCnt_fr h.cnt (by intros; first | rfl | (simp (disch := omega) only [up2_x, upr_x])) (by intros; first | rfl | (simp (disch := omega) only [up2_x, upr_x]))
    · exact rOut_fr h.out (by intros; first | rfl | (simp (disch := omega) only [up2_x, upr_x])) (by intros; first | rfl | (simp (disch := omega) only [up2_x, upr_x])) (by intros; first | rfl | (simp (disch := omega) only [up2_x, upr_x])) (by intros; first | rfl | (simp (disch := omega) only [up2_x, upr_x]))
    · exact rEvt_fr h.evt (by intros; first | rfl | (simp (disch := omega) only [up2_x, upr_x])) (by intros; first | rfl | (simp (disch := omega) only [up2_x, upr_x])) (by intros; first | rfl | (simp (disch := omega) only [up2_x, upr_x])) (by intros; first | rfl | (simp (disch := omega) only [up2_x, upr_x]))
    · exact rWai_fr h.wai (by intros; first | rfl | (simp (disch := omega) only [up2_x, upr_x])) (by intros; first | rfl | (simp (disch := omega) only [up2_x, upr_x]))
    · exact rFrm_fr h.frm (by intros; first | rfl | (simp (disch := omega) only [up2_x, upr_x])) (by intros; first | rfl | (simp (disch := omega) only [up2_x, upr_x]))
  · exact Md_fr hm (by first | rfl | simp (disch := omega) only [up2_x, upr_x]) (by first | rfl | simp (disch := omega) only [up2_x, upr_x]) (by first | rfl | simp (disch := omega) only [up2_x, upr_x]) (by first | rfl | simp (disch := omega) only [up2_x, upr_x]) (by first | rfl | simp (disch := omega) only [up2_x, upr_x])
theorem sim_breaks {c s T E : Nat} {L : List Int32} {C0 M0 C M : Mem} (hcs : cs c s) (hT : T < 2 ^ 29) (hE : E < 2 ^ 29) (h : Top c s T E L C0 M0 C M) (hm : Md c C M) (hph : C c 41 = 1) : ∃ r C' M', fc_Core_breaks c C = some ((), C') ∧ fm_raises s 19 (up2 M s 28 1) = some (r, M') ∧ Top c s T (E + 1) L C0 M0 C' M' ∧ Md c C' M' ∧ (C' c 41 = 5 ∨ (C' c 41 = 1 ∧ C' c 42 = C c 42)) ∧ C' c 48 = 1 ∧ C' c 52 = C c 52 := by
  obtain ⟨h1, hm1⟩ := top_broken hcs h hm hph
  have h0 : C c 43 = 0 := h.stl.2 (by rw [hph]; decide)
  obtain ⟨r, C', M', a1, a2, a3, a4, a5, a6⟩ := sim_raises (k := 19) hcs hT hE h1 hm1 (by simp (disch := omega) only [up2_x, upr_x]; rw [hph]; decide) (by simp (disch := omega) only [up2_x, upr_x]; exact h0) (Or.inr rfl)
  refine ⟨r, C', M', ?_, a2, a3, a4, ?_, ?_, ?_⟩
  · unfold fc_Core_breaks
    rw [stp_e, show (19 : Int32) = nI 19 from rfl, a1, bnd_s]
  · rcases a5 with ⟨-, z⟩ | ⟨-, z1, z2⟩
    · exact Or.inl z
    · refine Or.inr ⟨?_, ?_⟩
      · rw [z1]; simp (disch := omega) only [up2_x, upr_x]; exact hph
      · rw [z2]; simp (disch := omega) only [up2_x, upr_x]
  · rw [a6 48 (by omega) (by omega) (by omega) (by omega), up2_e]
  · rw [a6 52 (by omega) (by omega) (by omega) (by omega)]; simp (disch := omega) only [up2_x, upr_x]
theorem le96 {p n : Nat} (h : p < 2 ^ 30) (hn : n < 2 ^ 30) (x y : Int32) (hx : x = nI n) (hy : y = nI 96) : (nI p + x ≤ y) ↔ p + n ≤ 96 := by
  rw [hx, hy, nI_add]
  exact nI_leI (by omega) (by decide)
theorem gt96 {p n : Nat} (h : p < 2 ^ 30) (hn : n < 2 ^ 30) (x y : Int32) (hx : x = nI n) (hy : y = nI 96) : (y < nI p + x) ↔ 96 < p + n := by
  rw [hx, hy, nI_add]
  exact nI_ltI (by decide) (by omega)
theorem sim_stk1 {c s T E : Nat} {L : List Int32} {C0 M0 C M : Mem} {k : Nat} (hcs : cs c s) (hT : T < 2 ^ 29) (hE : E < 2 ^ 29) (h : Top c s T E L C0 M0 C M) (hm : Md c C M) (hph : C c 41 = 1) (hk : k ≤ 5) (hst : C c 42 = nI k) (hbr : k = 0 → C c 48 = 0) : ∃ C' M', fc_Core_stacking c C = fc_Core_stacking_19 c C' ∧ fm_stacks s M = fm_stacks_45 s (nI k) M' ∧ Top c s T (E + 1) L C0 M0 C' M' ∧ Md c C' M' ∧ ((C' c 41 = 5 ∧ C' c 48 = 1) ∨ (C' c 41 = 1 ∧ C' c 42 = nI k)) ∧ C' c 52 = C c 52 := by
  have hst2 : M s 21 = nI k := by rw [← h.stp]; exact hst
  have hmono := h.mono (Nat.le_refl _) (Nat.le_succ E)
  obtain ⟨p, hp, sp1, sp2⟩ := h.sp
  obtain ⟨a1, a2, a3⟩ := h.sta
  obtain ⟨b1, b2, b3, b4⟩ := a3 hph
  unfold fc_Core_stacking fm_stacks
  rw [hst, hst2]
  by_cases hk0 : k = 0
  · subst hk0
    rw [if_pos (show nI 0 = 0 from rfl), if_pos (show nI 0 = 0 from rfl), h.fls]
    by_cases hf : M s 18 = 1
    · rw [if_pos hf, if_pos hf]
      have hb0 : M s 28 = 0 := by rw [← b3]; exact hbr rfl
      unfold fc_Core_reserves fm_hasRoom
      rw [sp1, sp2, hb0, if_neg (show ¬ (0 : Int32) = 1 by decide)]
      by_cases hp92 : p ≤ 92
      · rw [if_pos ((le96 (p := p) (n := 4) (by omega) (by omega) 4 96 rfl rfl).mpr (by omega)), if_neg (fun z => by have := (gt96 (p := p) (n := 4) (by omega) (by omega) 4 96 rfl rfl).mp z; omega), bnd_s, if_neg (show ¬ (1 : Int32) = 0 by decide)]
        simp (disch := omega) only [stp_e, up2_x, fc_grows_v, bnd_s]
        rw [sp1, nI_addN p 4 4 rfl]
        rcases hcs with ⟨z, w⟩ | ⟨z, w⟩
        · obtain ⟨t1, t2⟩ := top_reserve_own (Or.inl ⟨z, w⟩) z hmono hm hp92 sp1 sp2 hph
          rw [fm_rises_own w (by simp (disch := omega) only [up2_x]; exact hm.1.1 z), bnd_s]
          simp (disch := omega) only [up2_x]
          rw [sp2, nI_addN p 4 4 rfl]
          refine ⟨_, _, rfl, rfl, t1, t2, Or.inr ⟨?_, ?_⟩, ?_⟩
          · simp (disch := omega) only [up2_x, upr_x]; exact hph
          · simp (disch := omega) only [up2_x, upr_x]; exact hst
          · simp (disch := omega) only [up2_x, upr_x]
        · obtain ⟨t1, t2⟩ := top_reserve_for (Or.inr ⟨z, w⟩) z hmono hm hp92 sp1 sp2 hph
          rw [fm_rises_for w (by simp (disch := omega) only [up2_x]; exact hm.1.2 z), bnd_s]
          simp (disch := omega) only [up2_x]
          rw [sp2, nI_addN p 4 4 rfl]
          refine ⟨_, _, rfl, rfl, t1, t2, Or.inr ⟨?_, ?_⟩, ?_⟩
          · simp (disch := omega) only [up2_x, upr_x]; exact hph
          · simp (disch := omega) only [up2_x, upr_x]; exact hst
          · simp (disch := omega) only [up2_x, upr_x]
      · rw [if_neg (fun z => by have := (le96 (p := p) (n := 4) (by omega) (by omega) 4 96 rfl rfl).mp z; omega), if_pos ((gt96 (p := p) (n := 4) (by omega) (by omega) 4 96 rfl rfl).mpr (by omega))]
        obtain ⟨r, C', M', c1, c2, c3, c4, c5, c6, c7⟩ := sim_breaks hcs hT hE h hm hph
        rw [stp_e, c1, c2, bnd_s, bnd_s, bnd_s, bnd_s, if_pos rfl]
        refine ⟨C', M', rfl, rfl, c3, c4, ?_, c7⟩
        rcases c5 with z | ⟨z1, z2⟩
        · exact Or.inl ⟨z, c6⟩
        · exact Or.inr ⟨z1, by rw [z2]; exact hst⟩
    · rw [if_neg hf, if_neg hf]
      exact ⟨C, M, rfl, rfl, hmono, hm, Or.inr ⟨hph, hst⟩, rfl⟩
  · have hkn : ¬ nI k = 0 := nI_ne0 (by omega) (by omega)
    rw [if_neg hkn, if_neg hkn]
    exact ⟨C, M, rfl, rfl, hmono, hm, Or.inr ⟨hph, hst⟩, rfl⟩
/-- the word of a frame -/
def frV (M : Mem) (s k : Nat) : Int32 := if k < 4 then M s k else if k = 4 then M s 12 else ((23040 + M s 13) + 2 * M s 14) + 4 * M s 29
theorem fc_framed_v {c s T E : Nat} {L : List Int32} {C0 M0 C M : Mem} {k : Nat} (hcs : cs c s) (h : Top c s T E L C0 M0 C M) (hph : C c 41 = 1) (hk : k ≤ 5) : fc_Core_framed c (nI k) C = some (frV M s k, C) := by
  obtain ⟨a1, a2, a3⟩ := h.sta
  obtain ⟨b1, b2, b3, b4⟩ := a3 hph
  unfold fc_Core_framed fc_Core_framed_53 fc_Core_framed_54 frV
  by_cases h4 : k < 4
  · rw [if_neg (show ¬ (4 : Int32) ≤ nI k from nI_ge (b := 4) h4 (by decide)), if_pos h4, inb_nI (show k < 8 by omega) (by decide), gd_t, nI_clamp (by omega), h.reg k (by omega), Nat.zero_add]
  · rw [if_pos (show (4 : Int32) ≤ nI k from nI_le (a := 4) (by omega) (by omega)), if_neg h4]
    by_cases h44 : k = 4
    · rw [if_pos (show nI k = 4 from by rw [h44]; rfl), if_pos h44, h.pc.eq]
    · rw [if_neg (show ¬ nI k = 4 from fun z => h44 ((nI_eq (b := 4) (by omega) (by decide)).mp z)), if_neg h44, h.zn.1, h.zn.2, b4]
      rw [b4] at a2
      rcases isB_or a2 with z | z
      · rw [z, if_pos rfl]
        simp
      · rw [z, if_neg (by decide)]
        simp
theorem sim_stk2 {c s T E : Nat} {L : List Int32} {C0 M0 C M : Mem} {k : Nat} (hcs : cs c s) (hT : T < 2 ^ 29) (hE : E < 2 ^ 29) (h : Top c s T E L C0 M0 C M) (hm : Md c C M) (hk : k ≤ 5) (hst : (C c 41 = 5 ∧ C c 48 = 1) ∨ (C c 41 = 1 ∧ C c 42 = nI k)) : ∃ C' M', fc_Core_stacking_19 c C = fc_Core_stacking_45 c C' ∧ fm_stacks_45 s (nI k) M = fm_stacks_125 s (nI k) M' ∧ Top c s T (E + 1) L C0 M0 C' M' ∧ Md c C' M' ∧ (C' c 41 = 5 ∨ (C' c 41 = 1 ∧ C' c 42 = nI k)) ∧ C' c 52 = C c 52 := by
  have hmono := h.mono (Nat.le_refl _) (Nat.le_succ E)
  obtain ⟨p, hp, sp1, sp2⟩ := h.sp
  have hphe := h.ph.1.eq
  unfold fc_Core_stacking_19 fm_stacks_45
  rcases hst with ⟨z1, z2⟩ | ⟨hph, hst⟩
  · rw [z2, if_neg (by decide), ← hphe, z1, if_pos rfl]
    refine ⟨C, M, rfl, ?_, hmono, hm, Or.inl z1, rfl⟩
    unfold fm_stacks_125
    rw [← hphe, z1, if_pos rfl]
  · obtain ⟨a1, a2, a3⟩ := h.sta
    obtain ⟨b1, b2, b3, b4⟩ := a3 hph
    rw [← hphe, hph, if_neg (show ¬ (1 : Int32) = 5 by decide)]
    unfold fm_hasRoom
    rw [← b3]
    rcases isB_or a1 with z | z
    · rw [z, if_pos rfl, if_neg (show ¬ (0 : Int32) = 1 by decide), hst, fc_framed_v hcs h hph hk, bnd_s]
      unfold fc_Core_pushes
      rw [sp1, sp2]
      by_cases h96 : p = 96
      · subst h96
        rw [if_pos (show nI 96 = 96 from rfl), bnd_s, if_pos rfl, if_pos (show (96 : Int32) < nI 96 + 1 by decide)]
        obtain ⟨r, C', M', c1, c2, c3, c4, c5, c6, c7⟩ := sim_breaks hcs hT hE h hm hph
        rw [stp_e, c1, c2, bnd_s, bnd_s, bnd_s, if_pos rfl]
        refine ⟨C', M', rfl, rfl, c3, c4, ?_, c7⟩
        rcases c5 with z | ⟨z1, z2⟩
        · exact Or.inl z
        · exact Or.inr ⟨z1, by rw [z2]; exact hst⟩
      · rw [if_neg (show ¬ nI p = 96 from fun z => h96 ((nI_eq (b := 96) (by omega) (by decide)).mp z)), inb_nI (show p < 96 by omega) (by decide), gd_t, nI_clamp (show p < 2 ^ 31 by omega), if_neg (fun z => by have := (gt96 (p := p) (n := 1) (by omega) (by omega) 1 96 rfl rfl).mp z; omega), bnd_s, if_neg (show ¬ (1 : Int32) = 0 by decide)]
        simp (disch := omega) only [stp_e, up2_x, fc_grows_v, bnd_s, n10, ↓reduceIte]
        rw [sp1, nI_1]
        have hfr : ∀ x : Mem, (if 4 ≤ nI k then (if nI k = 4 then fm_stacks_118 s (nI k) (M s 12) (56 + M s 15) M else fm_stacks_118 s (nI k) (((23040 + (M s 13)) + (2 * (M s 14))) + (4 * (M s 29))) (56 + M s 15) M) else gd (inb (0 + nI k) 342) (fm_stacks_118 s (nI k) (M s (0 + nI k).toNatClampNeg) (56 + M s 15) M)) = fm_stacks_118 s (nI k) (frV M s k) (56 + M s 15) M := by
          intro _
          unfold frV
          by_cases h4 : k < 4
          · rw [if_neg (show ¬ (4 : Int32) ≤ nI k from nI_ge (b := 4) h4 (by decide)), if_pos h4, l_0, inb_nI (show k < 342 by omega) (by decide), gd_t, nI_clamp (by omega)]
          · rw [if_pos (show (4 : Int32) ≤ nI k from nI_le (a := 4) (by omega) (by omega)), if_neg h4]
            by_cases h44 : k = 4
            · rw [if_pos (show nI k = 4 from by rw [h44]; rfl), if_pos h44]
            · rw [if_neg (show ¬ nI k = 4 from fun z => h44 ((nI_eq (b := 4) (by omega) (by decide)).mp z)), if_neg h44]
        rw [hfr M, sp2]
        unfold fm_stacks_118
        rw [l_56, inb_nI (show 56 + p < 342 by omega) (by decide), gd_t, nI_clamp (show 56 + p < 2 ^ 31 by omega), stp_e]
        have hph3 : ¬ C c 41 = 3 := by rw [hph]; decide
        rcases hcs with ⟨z, w⟩ | ⟨z, w⟩
        · obtain ⟨t1, t2⟩ := top_push_own (v := frV M s k) (Or.inl ⟨z, w⟩) z hmono hm (show p < 96 by omega) sp1 sp2 hph3
          rw [fm_rises_own w (by simp (disch := omega) only [up2_x]; exact hm.1.1 z), bnd_s]
          simp (disch := omega) only [up2_x]
          rw [sp2, nI_1]
          refine ⟨_, _, rfl, rfl, t1, t2, Or.inr ⟨?_, ?_⟩, ?_⟩
          · simp (disch := omega) only [up2_x, upr_x]; exact hph
          · simp (disch := omega) only [up2_x, upr_x]; exact hst
          · simp (disch := omega) only [up2_x, upr_x]
        · obtain ⟨t1, t2⟩ := top_push_for (v := frV M s k) (Or.inr ⟨z, w⟩) z hmono hm (show p < 96 by omega) sp1 sp2 hph3
          rw [fm_rises_for w (by simp (disch := omega) only [up2_x]; exact hm.1.2 z), bnd_s]
          simp (disch := omega) only [up2_x]
          rw [sp2, nI_1]
          refine ⟨_, _, rfl, rfl, t1, t2, Or.inr ⟨?_, ?_⟩, ?_⟩
          · simp (disch := omega) only [up2_x, upr_x]; exact hph
          · simp (disch := omega) only [up2_x, upr_x]; exact hst
          · simp (disch := omega) only [up2_x, upr_x]
    · rw [z, if_neg (show ¬ (1 : Int32) = 0 by decide), if_pos rfl, bnd_s, if_pos rfl]
      exact ⟨C, M, rfl, rfl, hmono, hm, Or.inr ⟨hph, hst⟩, rfl⟩
