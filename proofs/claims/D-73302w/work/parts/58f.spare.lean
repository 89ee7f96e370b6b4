/-! THE SPARE: Top 52 5, and back to the own core -/
theorem top_spare {p T E : Nat} {L : List Int32} {C0 M0 C M C2 M2 : Mem} {v : Int32} (h : Top 9 4 T E L C0 M0 C M) (h41 : C 9 41 = nI p) (tk : TK p C C2) (h28 : C2 52 28 = 1) (h25 : C2 52 25 = v) (h26 : C2 52 26 = v) (h53 : C2 52 53 = 0) (hv : isB v = true) (hq : ∃ q : Nat, q ≤ T ∧ C 52 50 = nI q) (m5 : ∀ j, j < 342 → M2 5 j = M 4 j) (mo : ∀ o k, ¬ o = 5 → (¬ o = 0 ∨ (¬ k = 14 ∧ ¬ k = 15)) → M2 o k = M o k) : Top 52 5 T E [] C2 M2 C2 M2 := by
  obtain ⟨fS, f9, fo, f1, f2, f3, f4, f6, f7, f8, fs, f24, f50⟩ := tk
  have m03 : M2 0 3 = M 0 3 := mo 0 3 (by omega) (by omega)
  refine ⟨⟨?_, ?_, ?_, ?_, ?_, ?_, ?_, ?_, ?_, ?_, ?_, ?_, ?_, ?_, ?_, ?_, ?_, ?_, ?_, ?_, ?_, ?_, ?_, ?_, ?_, ?_, ?_, ?_, ?_, ?_, ?_, ?_, ?_⟩, ⟨?_, ?_, ?_, ?_, ?_⟩⟩
  · intro j hj
    rw [f1 j hj, m5 _ (by omega)]
    exact h.reg j hj
  · intro j hj
    rw [f3 j hj, m5 _ (by omega)]
    exact h.dat j hj
  · intro j hj
    rw [f4 j hj, m5 _ (by omega)]
    exact h.stk j hj
  · intro j hj
    rw [f2 j hj, m5 _ (by omega)]
    exact h.flt j hj
  · unfold rZn
    rw [fs 29 (by omega), fs 30 (by omega), m5 13 (by omega), m5 14 (by omega)]
    exact h.zn
  · unfold rPc
    rw [fs 31 (by omega), m5 12 (by omega)]
    exact h.pc
  · unfold rSp
    rw [fs 32 (by omega), m5 15 (by omega)]
    exact h.sp
  · unfold rShu
    rw [fs 36 (by omega), m5 16 (by omega)]
    exact h.shu
  · unfold rBas
    rw [fs 35 (by omega), m5 17 (by omega)]
    exact h.bas
  · unfold rFls
    rw [fs 45 (by omega), m5 18 (by omega)]
    exact h.fls
  · unfold rLaz
    rw [fs 46 (by omega), m5 19 (by omega)]
    exact h.laz
  · unfold rPh
    rw [fs 41 (by omega), m5 20 (by omega), f24]
    exact ⟨h.ph.1, h41.symm⟩
  · unfold rStp
    rw [fs 42 (by omega), m5 21 (by omega)]
    exact h.stp
  · unfold rStl
    rw [fs 43 (by omega), fs 41 (by omega), m5 22 (by omega)]
    exact h.stl
  · unfold rAsl
    rw [fs 44 (by omega), m5 23 (by omega)]
    exact h.asl
  · unfold rClk
    rw [fs 37 (by omega), m5 25 (by omega)]
    exact h.clk
  · unfold rPer
    rw [fs 38 (by omega), m5 26 (by omega)]
    exact h.per
  · unfold rTim
    rw [fs 39 (by omega), m5 27 (by omega)]
    exact h.tim
  · obtain ⟨d, nst, a1, a2, a3, a4, a5⟩ := h.nst
    refine ⟨d, nst, a1, by rw [fs 33 (by omega)]; exact a2, by rw [m5 30 (by omega)]; exact a3, fun j hj => ?_, fun i j hi hj => ?_⟩
    · obtain ⟨b1, b2, b3, b4⟩ := a4 j hj
      exact ⟨by rw [f6 j (by omega)]; exact b1, by rw [m5 _ (by omega)]; exact b2, b3, by rw [fS _ 5 b3 (by omega) (by omega)]; exact b4⟩
    · have b3 := (a4 j hj).2.2.1
      have c3 := (a4 i (by omega)).2.2.1
      rw [m5 _ (by omega), m5 _ (by omega), m03]
      exact a5 i j hi hj
  · obtain ⟨e, a1, a2, a3, a4⟩ := h.due
    refine ⟨e, a1, by rw [fs 40 (by omega)]; exact a2, by rw [m5 31 (by omega)]; exact a3, fun j hj => ?_⟩
    rw [f7 j (by omega), f8 j (by omega), m5 _ (by omega), m5 _ (by omega)]
    exact a4 j hj
  · intro j hj
    rw [fS j 1 hj (by omega) (by omega), m5 _ (by omega)]
    exact h.rnk j hj
  · intro j hj
    rw [fS j 2 hj (by omega) (by omega), mo 2 j (by omega) (by omega)]
    exact h.vec j hj
  · intro j hj
    rw [fS j 3 hj (by omega) (by omega), mo 3 j (by omega) (by omega)]
    exact h.ena j hj
  · intro j hj
    rw [fS j 4 hj (by omega) (by omega), fS j 6 hj (by omega) (by omega), m5 _ (by omega)]
    exact h.pnd j hj
  · intro j hj
    rw [fS j 5 hj (by omega) (by omega), fS j 7 hj (by omega) (by omega), m5 _ (by omega), m5 _ (by omega)]
    exact h.act j hj
  · intro j hj
    refine ⟨fun z => ?_, fun z => ?_⟩
    · rw [f9 j hj z, m5 _ (by omega)]; exact (h.hld j hj).1 z
    · rw [m5 _ (by omega)]; exact (h.hld j hj).2 z
  · unfold rSpl
    rw [fs 34 (by omega), fs 27 (by omega), m03]
    exact h.spl
  · unfold rSta
    rw [fs 48 (by omega), fs 49 (by omega), fs 41 (by omega), fs 42 (by omega), fs 47 (by omega), m5 21 (by omega), m5 24 (by omega), m5 28 (by omega), m5 29 (by omega)]
    exact h.sta
  · unfold rSav
    rw [fs 41 (by omega), fs 42 (by omega), fs 46 (by omega), m5 21 (by omega)]
    exact h.sav
  · unfold rUns
    rw [fs 41 (by omega), fs 42 (by omega), fs 32 (by omega), fs 49 (by omega), fs 46 (by omega), m5 32 (by omega)]
    intro z1 z2 z3
    obtain ⟨p, m, q, h1, h2, h3, h4, h5, h6, h7, h8⟩ := h.uns z1 z2 z3
    refine ⟨p, m, q, h1, h2, h3, h4, ?_, h6, ?_, h8⟩
    · rw [m5 _ (by omega)]; exact h5
    · rw [m5 _ (by omega)]; exact h7
  · intro j hj
    rw [fo 2 j (by omega), mo 1 j (by omega) (by omega)]
    exact h.cod j hj
  · exact ⟨h53, Nat.zero_le _, fun j a => absurd a (Nat.not_lt_zero _)⟩
  · exact ⟨fun z => absurd z (by decide), fun _ => ⟨h28, by rw [h25]; exact hv, by rw [h25, h26]⟩⟩
  · exact fun z => absurd z (by decide)
  · obtain ⟨q, q1, q2⟩ := hq
    exact ⟨q, q1, by rw [f50]; exact q2, fun z => absurd z (by decide)⟩
  · exact fun z => absurd z (by decide)
  · exact fun z => absurd z (by decide)
  · exact ⟨fun _ _ _ => rfl, fun _ _ _ _ _ => rfl⟩
theorem back {T E : Nat} {C M C3 M3 : Mem} (hi : Inv T E C M) (hC : ∀ o k, (o < 52 ∨ 95 ≤ o) → C3 o k = C o k) (hM : ∀ o k, ¬ o = 5 → (¬ o = 0 ∨ (¬ k = 14 ∧ ¬ k = 15 ∧ ¬ k = 16)) → M3 o k = M o k) (hq : ∃ q : Nat, q ≤ T ∧ C3 52 50 = nI q) : Inv T E C3 M3 := by
  obtain ⟨⟨L, h⟩, hb, -⟩ := hi
  refine ⟨⟨L, ?_⟩, Bd_fr hb (hC _ _ (by omega)) (hC _ _ (by omega)) (hM _ _ (by omega) (by omega)), hq⟩
  refine ⟨⟨?_, ?_, ?_, ?_, ?_, ?_, ?_, ?_, ?_, ?_, ?_, ?_, ?_, ?_, ?_, ?_, ?_, ?_, ?_, ?_, ?_, ?_, ?_, ?_, ?_, ?_, ?_, ?_, ?_, ?_, ?_, ?_, ?_⟩, ⟨?_, ?_, ?_, ?_, ?_⟩⟩
  · exact rReg_fr h.reg (by intros; exact hC _ _ (by omega)) (by intros; exact hM _ _ (by omega) (by omega))
  · exact rDat_fr h.dat (by intros; exact hC _ _ (by omega)) (by intros; exact hM _ _ (by omega) (by omega))
  · exact rStk_fr h.stk (by intros; exact hC _ _ (by omega)) (by intros; exact hM _ _ (by omega) (by omega))
  · exact rFlt_fr h.flt (by intros; exact hC _ _ (by omega)) (by intros; exact hM _ _ (by omega) (by omega))
  · exact rZn_fr h.zn (by intros; exact hC _ _ (by omega)) (by intros; exact hM _ _ (by omega) (by omega))
  · exact rPc_fr h.pc (by intros; exact hC _ _ (by omega)) (by intros; exact hM _ _ (by omega) (by omega))
  · exact rSp_fr h.sp (by intros; exact hC _ _ (by omega)) (by intros; exact hM _ _ (by omega) (by omega))
  · exact rShu_fr h.shu (by intros; exact hC _ _ (by omega)) (by intros; exact hM _ _ (by omega) (by omega))
  · exact rBas_fr h.bas (by intros; exact hC _ _ (by omega)) (by intros; exact hM _ _ (by omega) (by omega))
  · exact rFls_fr h.fls (by intros; exact hC _ _ (by omega)) (by intros; exact hM _ _ (by omega) (by omega))
  · exact rLaz_fr h.laz (by intros; exact hC _ _ (by omega)) (by intros; exact hM _ _ (by omega) (by omega))
  · exact rPh_fr h.ph (by intros; exact hC _ _ (by omega)) (by intros; exact hM _ _ (by omega) (by omega))
  · exact rStp_fr h.stp (by intros; exact hC _ _ (by omega)) (by intros; exact hM _ _ (by omega) (by omega))
  · exact rStl_fr h.stl (by intros; exact hC _ _ (by omega)) (by intros; exact hM _ _ (by omega) (by omega))
  · exact rAsl_fr h.asl (by intros; exact hC _ _ (by omega)) (by intros; exact hM _ _ (by omega) (by omega))
  · exact rClk_fr h.clk (by intros; exact hC _ _ (by omega)) (by intros; exact hM _ _ (by omega) (by omega))
  · exact rPer_fr h.per (by intros; exact hC _ _ (by omega)) (by intros; exact hM _ _ (by omega) (by omega))
  · exact rTim_fr h.tim (by intros; exact hC _ _ (by omega)) (by intros; exact hM _ _ (by omega) (by omega))
  · exact rNst_fr h.nst (by intros; exact hC _ _ (by omega)) (by intros; exact hC _ _ (by omega)) (by intros; exact hC _ _ (by omega)) (by intros; exact hM _ _ (by omega) (by omega)) (by intros; exact hM _ _ (by omega) (by omega)) (by intros; exact hM _ _ (by omega) (by omega))
  · exact rDue_fr h.due (by intros; exact hC _ _ (by omega)) (by intros; exact hC _ _ (by omega)) (by intros; exact hC _ _ (by omega)) (by intros; exact hM _ _ (by omega) (by omega)) (by intros; exact hM _ _ (by omega) (by omega))
  · exact rRnk_fr h.rnk (by intros; exact hC _ _ (by omega)) (by intros; exact hM _ _ (by omega) (by omega))
  · exact rVec_fr h.vec (by intros; exact hC _ _ (by omega)) (by intros; exact hM _ _ (by omega) (by omega))
  · exact rEna_fr h.ena (by intros; exact hC _ _ (by omega)) (by intros; exact hM _ _ (by omega) (by omega))
  · exact rPnd_fr h.pnd (by intros; exact hC _ _ (by omega)) (by intros; exact hM _ _ (by omega) (by omega))
  · exact rAct_fr h.act (by intros; exact hC _ _ (by omega)) (by intros; exact hM _ _ (by omega) (by omega)) (by intros; exact hM _ _ (by omega) (by omega))
  · exact rHld_fr h.hld (by intros; exact hC _ _ (by omega)) (by intros; exact hM _ _ (by omega) (by omega))
  · exact rSpl_fr h.spl (by intros; exact hC _ _ (by omega)) (by intros; exact hM _ _ (by omega) (by omega))
  · exact rSta_fr h.sta (by intros; exact hC _ _ (by omega)) (by intros; exact hM _ _ (by omega) (by omega))
  · exact rSav_fr h.sav (by intros; exact hC _ _ (by omega)) (by intros; exact hM _ _ (by omega) (by omega))
  · exact rUns_fr h.uns (by intros; exact hC _ _ (by omega)) (by intros; exact hM _ _ (by omega) (by omega)) (by intros; exact hM _ _ (by omega) (by omega))
  · exact rCod_fr h.cod (by intros; exact hC _ _ (by omega)) (by intros; exact hM _ _ (by omega) (by omega))
  · exact rObs_fr (C := C) (M := M) h.obs (by intros; exact hC _ _ (by omega)) (by intros; exact hC _ _ (by omega))
  · exact rMdc_fr (C := C) (M := M) h.mdc (by intros; exact hC _ _ (by omega))
  · exact rCnt_fr h.cnt (by intros; exact hC _ _ (by omega)) (by intros; exact hM _ _ (by omega) (by omega))
  · exact rOut_fr h.out (by intros; exact hC _ _ (by omega)) (by intros; exact hC _ _ (by omega)) (by intros; exact hM _ _ (by omega) (by omega)) (by intros; exact hM _ _ (by omega) (by omega))
  · exact rEvt_fr h.evt (by intros; exact hC _ _ (by omega)) (by intros; exact hC _ _ (by omega)) (by intros; exact hM _ _ (by omega) (by omega)) (by intros; exact hM _ _ (by omega) (by omega))
  · exact rWai_fr h.wai (by intros; exact hC _ _ (by omega)) (by intros; exact hM _ _ (by omega) (by omega))
  · exact ⟨fun _ _ _ => rfl, fun z => absurd z (by decide)⟩
theorem HB9_of {T E : Nat} {L : List Int32} {C0 M0 C M : Mem} (h : Top 9 4 T E L C0 M0 C M) : HB9 C := by
  refine ⟨fun j hj => ⟨(h.ena j hj).2, ?_, (h.act j hj).2.1, fun z => ((h.hld j hj).1 z).2⟩, h.asl.2, h.sta.1, h.sta.2.1⟩
  rcases h.pnd j hj with ⟨z, -⟩ | ⟨z, -⟩
  · rw [z]; rfl
  · rw [z]; rfl
/-- the spare is made like the own core -/
theorem sim_tried {T E : Nat} {C M : Mem} {v : Int32} (hi : Inv T E C M) (hv : isB v = true) : ∃ C2 M2, fc_RE_tried v C = some ((), C2) ∧ fm_likeNow v M = some ((), M2) ∧ Top 52 5 T E [] C2 M2 C2 M2 ∧ Bd 52 5 C2 M2 ∧ ownOk 52 M2 ∧ C2 52 25 = M2 0 15 ∧ (∀ o k, (o < 52 ∨ 95 ≤ o) → C2 o k = C o k) ∧ (∀ o k, ¬ o = 5 → (¬ o = 0 ∨ (¬ k = 14 ∧ ¬ k = 15)) → M2 o k = M o k) := by
  obtain ⟨⟨L, h⟩, hb, hq⟩ := hi
  obtain ⟨⟨p, hp, p1, p2⟩, p3⟩ := h.ph
  obtain ⟨C1, t1, t2⟩ := takes_v hp (HB9_of h) p1
  obtain ⟨M2, m0, m1, m2, m3, m4⟩ := like_v (M := M) hv
  obtain ⟨fS, f9, fo, f1, f2, f3, f4, f6, f7, f8, fs, f24, f50⟩ := t2
  have tk : TK p C (up2 (up2 (up2 (up2 C1 52 28 1) 52 25 v) 52 26 v) 52 53 0) := by
    refine ⟨fun j k a1 a2 a3 => ?_, fun j a1 a2 => ?_, fun o k a1 => ?_, fun k a1 => ?_, fun k a1 => ?_, fun k a1 => ?_, fun k a1 => ?_, fun k a1 => ?_, fun k a1 => ?_, fun k a1 => ?_, fun k a1 => ?_, ?_, ?_⟩
    · simp (disch := omega) only [up2_x, upr_x]; exact fS j k a1 a2 a3
    · simp (disch := omega) only [up2_x, upr_x]; exact f9 j a1 a2
    · simp (disch := omega) only [up2_x, upr_x]; exact fo o k a1
    · simp (disch := omega) only [up2_x, upr_x]; exact f1 k a1
    · simp (disch := omega) only [up2_x, upr_x]; exact f2 k a1
    · simp (disch := omega) only [up2_x, upr_x]; exact f3 k a1
    · simp (disch := omega) only [up2_x, upr_x]; exact f4 k a1
    · simp (disch := omega) only [up2_x, upr_x]; exact f6 k a1
    · simp (disch := omega) only [up2_x, upr_x]; exact f7 k a1
    · simp (disch := omega) only [up2_x, upr_x]; exact f8 k a1
    · simp (disch := omega) only [up2_x, upr_x]; exact fs k a1
    · simp (disch := omega) only [up2_x, upr_x]; exact f24
    · simp (disch := omega) only [up2_x, upr_x]; exact f50
  have T2 := top_spare (C2 := up2 (up2 (up2 (up2 C1 52 28 1) 52 25 v) 52 26 v) 52 53 0) (M2 := M2) (v := v) h p1 tk (by simp (disch := omega) only [up2_x, up2_e, upr_x]) (by simp (disch := omega) only [up2_x, up2_e, upr_x]) (by simp (disch := omega) only [up2_x, up2_e, upr_x]) (by simp (disch := omega) only [up2_x, up2_e, upr_x]) hv hq m1 m2
  unfold fc_RE_tried
  rw [t1, bnd_s, plays_v hv, bnd_s]
  refine ⟨_, M2, rfl, m0, T2, ?_, ⟨fun z => absurd z (by decide), fun _ => m3⟩, by simp (disch := omega) only [up2_x, up2_e, upr_x]; exact m4.symm, tk.2.2.1, m2⟩
  obtain ⟨b1, b2⟩ := hb
  have g41 := tk.2.2.2.2.2.2.2.2.2.2.1 41 (by omega)
  have g42 := tk.2.2.2.2.2.2.2.2.2.2.1 42 (by omega)
  unfold Bd
  rw [g41, g42, m1 32 (by omega)]
  exact ⟨b1, b2⟩
/-- and back -/
theorem spare_back {T E T' E' : Nat} {L' : List Int32} {C M C2 M2 C3 M3 : Mem} (hi : Inv T E C M) (hT : T ≤ T') (hE : E ≤ E') (h1 : ∀ o k, (o < 52 ∨ 95 ≤ o) → C2 o k = C o k) (h2 : ∀ o k, ¬ o = 5 → (¬ o = 0 ∨ (¬ k = 14 ∧ ¬ k = 15)) → M2 o k = M o k) (h3 : Top 52 5 T' E' L' C2 M2 C3 M3) : Inv T' E' C3 M3 := by
  obtain ⟨q, q1, q2, -⟩ := h3.out
  refine back (hi.mono hT hE) (fun o k z => ?_) (fun o k z w => ?_) ⟨q, q1, q2⟩
  · rw [h3.frm.1 o k (by omega), h1 o k z]
  · rw [h3.frm.2 rfl o k z (by omega), h2 o k z (by omega)]
