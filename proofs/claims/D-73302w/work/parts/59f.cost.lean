/-! THE OPERATIONS: cost, pushes -/
theorem inv_ways {T E : Nat} {C M C' M' : Mem} (hi : Inv T E C M) (hC : ∀ o k, (o < 4 ∨ 8 < o) → C' o k = C o k) (hM : ∀ o j, (o < 13 ∨ 17 < o) → (¬ o = 0 ∨ (¬ j = 23 ∧ ¬ j = 24)) → M' o j = M o j) : Inv T E C' M' := by
  obtain ⟨⟨L, h⟩, hb, q, q1, q2⟩ := hi
  refine ⟨⟨L, ?_⟩, Bd_fr hb (hC _ _ (by omega)) (hC _ _ (by omega)) (hM _ _ (by omega) (by omega)), q, q1, by rw [hC 52 50 (by omega)]; exact q2⟩
  refine ⟨⟨?_, ?_, ?_, ?_, ?_, ?_, ?_, ?_, ?_, ?_, ?_, ?_, ?_, ?_, ?_, ?_, ?_, ?_, ?_, ?_, ?_, ?_, ?_, ?_, ?_, ?_, ?_, ?_, ?_, ?_, ?_, ?_, ?_⟩, ⟨?_, ?_, ?_, ?_, ?_⟩⟩
  · exact rReg_fr h.reg (by intros; exact hC _ _ (by omega)) (by intros; exact hM _ _ (by omega) (by omega))
  · exact rDat_fr h.dat (by intros; exact hC _ _ (by omega)) (by intros; exact hM _ _ (by omega) (by omega))
  · exact rStk_fr h.stk (by intros; exact hC _ _ (by omega)) (by intros; exact hM _ _ (by omega) (by omega))
  · exact rFlt_fr h.flt (by intros; exact hC _ _ (by omega)) (by intros; exact hM _ _ (by omega) (by omega))
  · exact rZn_fr h.zn (by intros; exact hC _ _ (by omega)) (by intros; exact hM _ _ (by omega) (by omega))
  · exact rPc_fr h.pc (by intros; exact hC _ _ (by omega)) (by intros; exact hM _ _ (by omega) (by omega))
  · exact rSp_fr h.sp (by intros; exact hC _ _ (by omega)) (by intros; exact hM _ _ (by omega) (by omega))
  · exact rShu_fr h.shu (by intros; exact hC _ _ (by omega)) (by intros; exact hM _ _ (by omega) (by omega))
  · exact rBas_fr h.bas (by intros; exact hC _ _ (by omega)) (by intros; exact hM _ _ (by omega) (by omega))
  · exact rFls_fr h.fls (by intros; exact hC _ _ (by omega)) (by intros; exact hM _ _ (by omega) (by omega))
  · exact rLaz_fr h.laz (by intros; exact hC _ _ (by omega)) (by intros; exact hM _ _ (by omega) (by omega))
  · exact rPh_fr h.ph (by intros; exact hC _ _ (by omega)) (by intros; exact hM _ _ (by omega) (by omega))
  · exact rStp_fr h.stp (by intros; exact hC _ _ (by omega)) (by intros; exact hM _ _ (by omega) (by omega))
  · exact rStl_fr h.stl (by intros; exact hC _ _ (by omega)) (by intros; exact hM _ _ (by omega) (by omega))
  · exact rAsl_fr h.asl (by intros; exact hC _ _ (by omega)) (by intros; exact hM _ _ (by omega) (by omega))
  · exact rClk_fr h.clk (by intros; exact hC _ _ (by omega)) (by intros; exact hM _ _ (by omega) (by omega))
  · exact rPer_fr h.per (by intros; exact hC _ _ (by omega)) (by intros; exact hM _ _ (by omega) (by omega))
  · exact rTim_fr h.tim (by intros; exact hC _ _ (by omega)) (by intros; exact hM _ _ (by omega) (by omega))
  · exact rNst_fr h.nst (by intros; exact hC _ _ (by omega)) (by intros; exact hC _ _ (by omega)) (by intros; exact hC _ _ (by omega)) (by intros; exact hM _ _ (by omega) (by omega)) (by intros; exact hM _ _ (by omega) (by omega)) (by intros; exact hM _ _ (by omega) (by omega))
  · exact rDue_fr h.due (by intros; exact hC _ _ (by omega)) (by intros; exact hC _ _ (by omega)) (by intros; exact hC _ _ (by omega)) (by intros; exact hM _ _ (by omega) (by omega)) (by intros; exact hM _ _ (by omega) (by omega))
  · exact rRnk_fr h.rnk (by intros; exact hC _ _ (by omega)) (by intros; exact hM _ _ (by omega) (by omega))
  · exact rVec_fr h.vec (by intros; exact hC _ _ (by omega)) (by intros; exact hM _ _ (by omega) (by omega))
  · exact rEna_fr h.ena (by intros; exact hC _ _ (by omega)) (by intros; exact hM _ _ (by omega) (by omega))
  · exact rPnd_fr h.pnd (by intros; exact hC _ _ (by omega)) (by intros; exact hM _ _ (by omega) (by omega))
  · exact rAct_fr h.act (by intros; exact hC _ _ (by omega)) (by intros; exact hM _ _ (by omega) (by omega)) (by intros; exact hM _ _ (by omega) (by omega))
  · exact rHld_fr h.hld (by intros; exact hC _ _ (by omega)) (by intros; exact hM _ _ (by omega) (by omega))
  · exact rSpl_fr h.spl (by intros; exact hC _ _ (by omega)) (by intros; exact hM _ _ (by omega) (by omega))
  · exact rSta_fr h.sta (by intros; exact hC _ _ (by omega)) (by intros; exact hM _ _ (by omega) (by omega))
  · exact rSav_fr h.sav (by intros; exact hC _ _ (by omega)) (by intros; exact hM _ _ (by omega) (by omega))
  · exact rUns_fr h.uns (by intros; exact hC _ _ (by omega)) (by intros; exact hM _ _ (by omega) (by omega)) (by intros; exact hM _ _ (by omega) (by omega))
  · exact rCod_fr h.cod (by intros; exact hC _ _ (by omega)) (by intros; exact hM _ _ (by omega) (by omega))
  · exact rObs_fr (C := C) (M := M) h.obs (by intros; exact hC _ _ (by omega)) (by intros; exact hC _ _ (by omega))
  · exact rMdc_fr (C := C) (M := M) h.mdc (by intros; exact hC _ _ (by omega))
  · exact rCnt_fr h.cnt (by intros; exact hC _ _ (by omega)) (by intros; exact hM _ _ (by omega) (by omega))
  · exact rOut_fr h.out (by intros; exact hC _ _ (by omega)) (by intros; exact hC _ _ (by omega)) (by intros; exact hM _ _ (by omega) (by omega)) (by intros; exact hM _ _ (by omega) (by omega))
  · exact rEvt_fr h.evt (by intros; exact hC _ _ (by omega)) (by intros; exact hC _ _ (by omega)) (by intros; exact hM _ _ (by omega) (by omega)) (by intros; exact hM _ _ (by omega) (by omega))
  · exact rWai_fr h.wai (by intros; exact hC _ _ (by omega)) (by intros; exact hM _ _ (by omega) (by omega))
  · exact ⟨fun _ _ _ => rfl, fun z => absurd z (by decide)⟩
theorem code_fn {T E : Nat} {C M : Mem} (hi : Inv T E C M) : ∃ K : Nat → Nat, CodeC K C ∧ CodeM K M := by
  obtain ⟨⟨L, h⟩, -⟩ := hi
  have hc : ∀ j, ∃ b : Nat, j < 512 → b < 256 ∧ M 1 j = nI b ∧ C 2 j &&& 255 = nI b := fun j => by
    by_cases z : j < 512
    · obtain ⟨b, b1, b2, b3⟩ := h.cod j z
      exact ⟨b, fun _ => ⟨b1, b2, b3⟩⟩
    · exact ⟨0, fun y => absurd y z⟩
  refine ⟨fun j => Classical.choose (hc j), fun j hj => ?_, fun j hj => ?_⟩
  · obtain ⟨b1, b2, b3⟩ := Classical.choose_spec (hc j) hj
    exact ⟨b1, b3⟩
  · obtain ⟨b1, b2, b3⟩ := Classical.choose_spec (hc j) hj
    exact ⟨b1, b2⟩
/-- both walks from a source's place -/
theorem ways_both {T E k : Nat} {C M : Mem} (hi : Inv T E C M) (hk : k < 21) : ∃ (s : Nat) (r : Int32) (C' M' : Mem) (a b : Nat), s < 512 ∧ C (9 + 22 + k) 2 = nI s ∧ M 2 k = nI s ∧ fc_Ways_end (nI s) C = some (r, C') ∧ fm_walks (nI s) M = some (r, M') ∧ Inv T E C' M' ∧ (∀ o k, (o < 4 ∨ 8 < o) → C' o k = C o k) ∧ (∀ o j, (o < 13 ∨ 17 < o) → (¬ o = 0 ∨ (¬ j = 23 ∧ ¬ j = 24)) → M' o j = M o j) ∧ (r = 0 ∨ (r = 1 ∧ a ≤ 4096 ∧ b ≤ 4096 ∧ C' 5 s = nI a ∧ C' 6 s = nI b ∧ M' 0 23 = nI a ∧ M' 0 24 = nI b)) := by
  obtain ⟨K, k1, k2⟩ := code_fn hi
  obtain ⟨⟨L, h⟩, -⟩ := id hi
  obtain ⟨s, s1, s2, s3⟩ := h.vec k hk
  obtain ⟨r, C', c1, c2, c3⟩ := end_v (show s < 512 by omega) k1
  obtain ⟨r', M', m1, m2, m3⟩ := walks_v (show s < 512 by omega) k2
  have hI := inv_ways hi c2 m2
  rcases c3 with ⟨r0, hb⟩ | ⟨r1, hb, a, b, a1, a2, a3, a4, a5, a6⟩
  · rcases m3 with ⟨r0', -⟩ | ⟨-, hb', -⟩
    · subst r0
      subst r0'
      exact ⟨s, 0, C', M', 0, 0, by omega, s2, s3, c1, m1, hI, c2, m2, Or.inl rfl⟩
    · exact absurd hb hb'
  · rcases m3 with ⟨-, hb'⟩ | ⟨r1', -, b1, b2⟩
    · exact absurd hb' hb
    · subst r1
      subst r1'
      refine ⟨s, 1, C', M', a, b, by omega, s2, s3, c1, m1, hI, c2, m2, Or.inr ⟨rfl, a1, a2, a3, a4, ?_, ?_⟩⟩
      · apply i32_eq.mpr
        rw [nI_toInt (by omega)]
        exact b1.eq a5
      · apply i32_eq.mpr
        rw [nI_toInt (by omega)]
        exact b2.eq a6
theorem s_cost {T E : Nat} {C M : Mem} {x1 : Int32} (hi : Inv T E C M) : OpS (fc_RE_cost x1) (fm_cost x1) T E C M := by
  have h17 := hi.err 0
  obtain ⟨⟨L, h⟩, hb, hq⟩ := hi.err 0
  unfold OpS fc_RE_cost fm_cost
  rw [stp_e, wi, wim, bnd_s, bnd_s]
  generalize up2 M 0 17 0 = M at *
  rcases wth_or x1 (n := 20) (by decide) with z | ⟨z, k, hk, ek⟩
  · rw [show wth x1 0 20 = wth x1 0 (nI 20) from rfl, z, if_pos rfl, if_pos rfl]
    exact ⟨_, _, _, rfl, rfl, h17⟩
  rw [show wth x1 0 20 = wth x1 0 (nI 20) from rfl, z, if_neg (show ¬ (1 : Int32) = 0 by decide), if_neg (show ¬ (1 : Int32) = 0 by decide)]
  subst ek
  rw [inb_nI (show k < 21 by omega) (by decide), gd_t, gd_t, nI_clamp (show k < 2 ^ 31 by omega)]
  obtain ⟨s, r, C', M', a, b, s1, s2, s3, s4, s5, s6, s7, s8, s9⟩ := ways_both h17 (show k < 21 by omega)
  unfold fc_RE_cost_49 fm_cost_35 fm_cost_36
  rw [s2, s3, s4, s5, bnd_s, bnd_s]
  rcases s9 with r0 | ⟨r1, a1, a2, a3, a4, a5, a6⟩
  · rw [r0, if_pos rfl, if_pos rfl]
    exact ⟨_, _, _, rfl, rfl, s6⟩
  · rw [r1, if_neg (show ¬ (1 : Int32) = 0 by decide), if_neg (show ¬ (1 : Int32) = 0 by decide), inb_nI s1 (by decide), gd_t, nI_clamp (show s < 2 ^ 31 by omega), a3, a5]
    exact ⟨_, _, _, rfl, rfl, s6⟩
theorem s_pushes {T E : Nat} {C M : Mem} {x1 : Int32} (hi : Inv T E C M) : OpS (fc_RE_pushes x1) (fm_pushes x1) T E C M := by
  have h17 := hi.err 0
  obtain ⟨⟨L, h⟩, hb, hq⟩ := hi.err 0
  unfold OpS fc_RE_pushes fm_pushes
  rw [stp_e, wi, wim, bnd_s, bnd_s]
  generalize up2 M 0 17 0 = M at *
  rcases wth_or x1 (n := 20) (by decide) with z | ⟨z, k, hk, ek⟩
  · rw [show wth x1 0 20 = wth x1 0 (nI 20) from rfl, z, if_pos rfl, if_pos rfl]
    exact ⟨_, _, _, rfl, rfl, h17⟩
  rw [show wth x1 0 20 = wth x1 0 (nI 20) from rfl, z, if_neg (show ¬ (1 : Int32) = 0 by decide), if_neg (show ¬ (1 : Int32) = 0 by decide)]
  subst ek
  rw [inb_nI (show k < 21 by omega) (by decide), gd_t, gd_t, nI_clamp (show k < 2 ^ 31 by omega)]
  obtain ⟨s, r, C', M', a, b, s1, s2, s3, s4, s5, s6, s7, s8, s9⟩ := ways_both h17 (show k < 21 by omega)
  unfold fc_RE_pushes_49 fm_pushes_35 fm_pushes_36
  rw [s2, s3, s4, s5, bnd_s, bnd_s]
  rcases s9 with r0 | ⟨r1, a1, a2, a3, a4, a5, a6⟩
  · rw [r0, if_pos rfl, if_pos rfl]
    exact ⟨_, _, _, rfl, rfl, s6⟩
  · rw [r1, if_neg (show ¬ (1 : Int32) = 0 by decide), if_neg (show ¬ (1 : Int32) = 0 by decide), inb_nI s1 (by decide), gd_t, nI_clamp (show s < 2 ^ 31 by omega), a4, a6]
    exact ⟨_, _, _, rfl, rfl, s6⟩
