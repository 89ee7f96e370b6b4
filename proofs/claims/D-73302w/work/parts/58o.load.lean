/-! THE OPERATIONS: load -/
theorem sshr_b {w S : Int64} {s : Nat} (hS : (S.toBitVec.smod 64).toNat = s) {i : Nat} (hi : s + i < 64) : (w >>> S).toBitVec.getLsbD i = w.toBitVec.getLsbD (s + i) := by
  rw [Int64.toBitVec_shiftRight, BitVec.sshiftRight', hS, BitVec.getLsbD_sshiftRight, if_pos hi, decide_eq_false (by omega)]
  rfl
theorem b255 : ∀ i, i < 32 → (255 : Int32).toBitVec.getLsbD i = decide (i < 8) := by decide +kernel
theorem b255l : ∀ i, i < 64 → (255 : Int64).toBitVec.getLsbD i = decide (i < 8) := by decide +kernel
theorem nar_b (x : Int8) : vp_nar .byte x.toInt32 = x.toInt32 := by
  show x.toInt32.toInt8.toInt32 = x.toInt32
  rw [Int8.toInt8_toInt32]
theorem load_eq {w w' S : Int64} {s : Nat} (hS : (S.toBitVec.smod 64).toNat = s) (hs : s ≤ 56) (hw : ∀ i, i < 8 → w'.toBitVec.getLsbD i = w.toBitVec.getLsbD (s + i)) : (w' &&& (255 : Int64)).toInt32 = (vp_nar .byte (((w >>> S).toInt32).toInt8.toInt32)) &&& 255 := by
  rw [nar_b]
  apply Int32.toBitVec_inj.mp
  apply BitVec.eq_of_getLsbD_eq
  intro i hi
  have h64 : i < 64 := by omega
  simp only [Int32.toBitVec_and, BitVec.getLsbD_and, b255 i hi, Int8.toBitVec_toInt32, Int32.toBitVec_toInt8, Int64.toBitVec_toInt32, Int64.toBitVec_and, b255l i h64, BitVec.getLsbD_signExtend]
  by_cases h8 : i < 8
  · rw [sshr_b hS (by omega), hw i h8]
    simp [h8, hi, h64]
  · simp [h8, hi, h64]
def cBy (w : Int64) (k : Nat) : Int32 := vp_nar .byte (((w >>> ((56 - (8 * nI k)).toInt64 &&& 63)).toInt32).toInt8.toInt32)
theorem cBy_s : ∀ k, k < 8 → (((56 - (8 * nI k)).toInt64 &&& 63 : Int64).toBitVec.smod 64).toNat = 56 - 8 * k := by decide +kernel
theorem by_s : (((8 : Int32).toInt64 &&& 63 : Int64).toBitVec.smod 64).toNat = 8 := by decide +kernel
def shB (w : Int64) : Nat → Int64
  | 0 => w
  | m + 1 => shB (w >>> ((8 : Int32).toInt64 &&& 63)) m
theorem shB_b : ∀ (m : Nat) (w : Int64) (i : Nat), 8 * m + i < 64 → (shB w m).toBitVec.getLsbD i = w.toBitVec.getLsbD (8 * m + i) := by
  intro m
  induction m with
  | zero => intro w i h; rw [Nat.mul_zero, Nat.zero_add]; rfl
  | succ m ih =>
    intro w i h
    show (shB (w >>> ((8 : Int32).toInt64 &&& 63)) m).toBitVec.getLsbD i = _
    rw [ih _ i (by omega), sshr_b by_s (by omega)]
    congr 1
    omega
theorem cload_s {n : Nat} {a c : Int32} {b : Int64} {C : Mem} : fc_RE_load_16 (n + 1) a b c C = fc_RE_load_16b (fc_RE_load_16 n) a b c C := rfl
theorem cload {a : Nat} (ha : a ≤ 504) {w : Int64} : ∀ (d n i : Nat) (C : Mem), i + d = 8 → ∃ C1, fc_RE_load_16 (n + d + 1) (nI a) w (nI i) C = some (1, C1) ∧ (∀ k, i ≤ k → k < 8 → C1 2 (a + k) = cBy w k) ∧ (∀ j, (j < a + i ∨ a + 8 ≤ j) → C1 2 j = C 2 j) ∧ (∀ o k, ¬ o = 2 → C1 o k = C o k) := by
  intro d
  induction d with
  | zero =>
    intro n i C hd
    have ei : i = 8 := by omega
    subst ei
    rw [cload_s]
    unfold fc_RE_load_16b
    rw [if_pos (show (8 : Int32) ≤ nI 8 by decide)]
    exact ⟨C, rfl, fun j a b => absurd a (by omega), fun _ _ => rfl, fun _ _ _ => rfl⟩
  | succ d ih =>
    intro n i C hd
    rw [show n + (d + 1) + 1 = (n + d + 1) + 1 by omega, cload_s]
    unfold fc_RE_load_16b
    rw [if_neg (show ¬ (8 : Int32) ≤ nI i from nI_ge (b := 8) (by omega) (by decide)), nI_add, inb_nI (show a + i < 512 by omega) (by decide), gd_t, nI_clamp (show a + i < 2 ^ 31 by omega), stp_e, nI_1]
    obtain ⟨C1, e0, e1, e2, e3⟩ := ih n (i + 1) (up2 C 2 (a + i) (cBy w i)) (by omega)
    refine ⟨C1, e0, fun j b c => ?_, fun j b => ?_, fun o j b => ?_⟩
    · by_cases z : j = i
      · subst z
        rw [e2 (a + j) (by omega), up2_e]
      · exact e1 j (by omega) c
    · rw [e2 j (by omega), up2_x (by omega)]
    · rw [e3 o j b, up2_x (by omega)]
theorem mload_s {n : Nat} {a c : Int32} {b : Int64} {M : Mem} : fm_load_22 (n + 1) a b c M = fm_load_22b (fm_load_22 n) a b c M := rfl
theorem mload {a : Nat} (ha : a ≤ 504) : ∀ (r n : Nat) (w : Int64) (M : Mem), r ≤ 8 → ∃ M1, fm_load_22 (n + r + 1) (nI a) w (nI r - 1) M = some (1, M1) ∧ (∀ k, k < r → M1 1 (a + k) = (shB w (r - 1 - k) &&& (255 : Int64)).toInt32) ∧ (∀ j, (j < a ∨ a + r ≤ j) → M1 1 j = M 1 j) ∧ (∀ o k, ¬ o = 1 → M1 o k = M o k) := by
  intro r
  induction r with
  | zero =>
    intro n w M hr
    rw [mload_s]
    unfold fm_load_22b
    rw [if_pos (show nI 0 - 1 < 0 by decide)]
    exact ⟨M, rfl, fun k a => absurd a (by omega), fun _ _ => rfl, fun _ _ _ => rfl⟩
  | succ r ih =>
    intro n w M hr
    rw [show n + (r + 1) + 1 = (n + r + 1) + 1 by omega, mload_s, s_1 (show 1 ≤ r + 1 by omega), Nat.add_sub_cancel]
    unfold fm_load_22b
    rw [if_neg (show ¬ nI r < 0 from nI_pos (by omega)), nI_add, inb_nI (show a + r < 512 by omega) (by decide), gd_t, nI_clamp (show a + r < 2 ^ 31 by omega), stp_e, ← Int32.sub_eq_add_neg]
    obtain ⟨M1, e0, e1, e2, e3⟩ := ih n (w >>> ((8 : Int32).toInt64 &&& 63)) (up2 M 1 (a + r) (w &&& (255 : Int64)).toInt32) (by omega)
    refine ⟨M1, e0, fun k b => ?_, fun j b => ?_, fun o j b => ?_⟩
    · by_cases z : k = r
      · subst z
        rw [e2 (a + k) (by omega), up2_e, show k - k = 0 by omega]
        rfl
      · rw [e1 k (by omega), show r - k = (r - 1 - k) + 1 by omega]
        rfl
    · rw [e2 j (by omega), up2_x (by omega)]
    · rw [e3 o j b, up2_x (by omega)]
theorem inv_code {T E : Nat} {C M C' M' : Mem} (hi : Inv T E C M) (hC : ∀ o k, ¬ o = 2 → C' o k = C o k) (hM : ∀ o k, ¬ o = 1 → M' o k = M o k) (hc : ∀ j, j < 512 → ∃ b : Nat, b < 256 ∧ M' 1 j = nI b ∧ C' 2 j &&& 255 = nI b) : Inv T E C' M' := by
  obtain ⟨⟨L, h⟩, hb, q, q1, q2⟩ := hi
  refine ⟨⟨L, ?_⟩, Bd_fr hb (hC _ _ (by omega)) (hC _ _ (by omega)) (hM _ _ (by omega)), q, q1, by rw [hC 52 50 (by omega)]; exact q2⟩
  refine ⟨⟨?_, ?_, ?_, ?_, ?_, ?_, ?_, ?_, ?_, ?_, ?_, ?_, ?_, ?_, ?_, ?_, ?_, ?_, ?_, ?_, ?_, ?_, ?_, ?_, ?_, ?_, ?_, ?_, ?_, ?_, ?_, ?_, ?_⟩, ⟨?_, ?_, ?_, ?_, ?_⟩⟩
  · exact rReg_fr h.reg (by intros; exact hC _ _ (by omega)) (by intros; exact hM _ _ (by omega))
  · exact rDat_fr h.dat (by intros; exact hC _ _ (by omega)) (by intros; exact hM _ _ (by omega))
  · exact rStk_fr h.stk (by intros; exact hC _ _ (by omega)) (by intros; exact hM _ _ (by omega))
  · exact rFlt_fr h.flt (by intros; exact hC _ _ (by omega)) (by intros; exact hM _ _ (by omega))
  · exact rZn_fr h.zn (by intros; exact hC _ _ (by omega)) (by intros; exact hM _ _ (by omega))
  · exact rPc_fr h.pc (by intros; exact hC _ _ (by omega)) (by intros; exact hM _ _ (by omega))
  · exact rSp_fr h.sp (by intros; exact hC _ _ (by omega)) (by intros; exact hM _ _ (by omega))
  · exact rShu_fr h.shu (by intros; exact hC _ _ (by omega)) (by intros; exact hM _ _ (by omega))
  · exact rBas_fr h.bas (by intros; exact hC _ _ (by omega)) (by intros; exact hM _ _ (by omega))
  · exact rFls_fr h.fls (by intros; exact hC _ _ (by omega)) (by intros; exact hM _ _ (by omega))
  · exact rLaz_fr h.laz (by intros; exact hC _ _ (by omega)) (by intros; exact hM _ _ (by omega))
  · exact rPh_fr h.ph (by intros; exact hC _ _ (by omega)) (by intros; exact hM _ _ (by omega))
  · exact rStp_fr h.stp (by intros; exact hC _ _ (by omega)) (by intros; exact hM _ _ (by omega))
  · exact rStl_fr h.stl (by intros; exact hC _ _ (by omega)) (by intros; exact hM _ _ (by omega))
  · exact rAsl_fr h.asl (by intros; exact hC _ _ (by omega)) (by intros; exact hM _ _ (by omega))
  · exact rClk_fr h.clk (by intros; exact hC _ _ (by omega)) (by intros; exact hM _ _ (by omega))
  · exact rPer_fr h.per (by intros; exact hC _ _ (by omega)) (by intros; exact hM _ _ (by omega))
  · exact rTim_fr h.tim (by intros; exact hC _ _ (by omega)) (by intros; exact hM _ _ (by omega))
  · exact rNst_fr h.nst (by intros; exact hC _ _ (by omega)) (by intros; exact hC _ _ (by omega)) (by intros; exact hC _ _ (by omega)) (by intros; exact hM _ _ (by omega)) (by intros; exact hM _ _ (by omega)) (by intros; exact hM _ _ (by omega))
  · exact rDue_fr h.due (by intros; exact hC _ _ (by omega)) (by intros; exact hC _ _ (by omega)) (by intros; exact hC _ _ (by omega)) (by intros; exact hM _ _ (by omega)) (by intros; exact hM _ _ (by omega))
  · exact rRnk_fr h.rnk (by intros; exact hC _ _ (by omega)) (by intros; exact hM _ _ (by omega))
  · exact rVec_fr h.vec (by intros; exact hC _ _ (by omega)) (by intros; exact hM _ _ (by omega))
  · exact rEna_fr h.ena (by intros; exact hC _ _ (by omega)) (by intros; exact hM _ _ (by omega))
  · exact rPnd_fr h.pnd (by intros; exact hC _ _ (by omega)) (by intros; exact hM _ _ (by omega))
  · exact rAct_fr h.act (by intros; exact hC _ _ (by omega)) (by intros; exact hM _ _ (by omega)) (by intros; exact hM _ _ (by omega))
  · exact rHld_fr h.hld (by intros; exact hC _ _ (by omega)) (by intros; exact hM _ _ (by omega))
  · exact rSpl_fr h.spl (by intros; exact hC _ _ (by omega)) (by intros; exact hM _ _ (by omega))
  · exact rSta_fr h.sta (by intros; exact hC _ _ (by omega)) (by intros; exact hM _ _ (by omega))
  · exact rSav_fr h.sav (by intros; exact hC _ _ (by omega)) (by intros; exact hM _ _ (by omega))
  · exact rUns_fr h.uns (by intros; exact hC _ _ (by omega)) (by intros; exact hM _ _ (by omega)) (by intros; exact hM _ _ (by omega))
  · exact hc
  · exact rObs_fr (C := C) (M := M) h.obs (by intros; exact hC _ _ (by omega)) (by intros; exact hC _ _ (by omega))
  · exact rMdc_fr (C := C) (M := M) h.mdc (by intros; exact hC _ _ (by omega))
  · exact rCnt_fr h.cnt (by intros; exact hC _ _ (by omega)) (by intros; exact hM _ _ (by omega))
  · exact rOut_fr h.out (by intros; exact hC _ _ (by omega)) (by intros; exact hC _ _ (by omega)) (by intros; exact hM _ _ (by omega)) (by intros; exact hM _ _ (by omega))
  · exact rEvt_fr h.evt (by intros; exact hC _ _ (by omega)) (by intros; exact hC _ _ (by omega)) (by intros; exact hM _ _ (by omega)) (by intros; exact hM _ _ (by omega))
  · exact rWai_fr h.wai (by intros; exact hC _ _ (by omega)) (by intros; exact hM _ _ (by omega))
  · exact ⟨fun _ _ _ => rfl, fun z => absurd z (by decide)⟩
theorem s_load {T E : Nat} {C M : Mem} {x1 : Int32} {x2 : Int64} (hi : Inv T E C M) : OpS (fc_RE_load x1 x2) (fm_load x1 x2) T E C M := by
  have h17 := hi.err 0
  obtain ⟨⟨L, h⟩, hb, hq⟩ := hi.err 0
  unfold OpS fc_RE_load fm_load
  rw [stp_e, wi, wim, bnd_s, bnd_s]
  generalize up2 M 0 17 0 = M at *
  rcases wth_or x1 (n := 504) (by decide) with z | ⟨z, k, hk, ek⟩
  · rw [show wth x1 0 504 = wth x1 0 (nI 504) from rfl, z, if_pos rfl, if_pos rfl]
    exact ⟨_, _, _, rfl, rfl, h17⟩
  rw [show wth x1 0 504 = wth x1 0 (nI 504) from rfl, z, if_neg (show ¬ (1 : Int32) = 0 by decide), if_neg (show ¬ (1 : Int32) = 0 by decide)]
  subst ek
  obtain ⟨C1, c0, c1, c2, c3⟩ := cload hk (w := x2) 8 591 0 C (by omega)
  obtain ⟨M1, m0, m1, m2, m3⟩ := mload hk 8 591 x2 M (by omega)
  refine ⟨1, C1, M1, c0, m0, inv_code h17 c3 m3 (fun j hj => ?_)⟩
  by_cases z : k ≤ j ∧ j < k + 8
  · obtain ⟨z1, z2⟩ := z
    have a1 := c1 (j - k) (Nat.zero_le _) (by omega)
    have a2 := m1 (j - k) (by omega)
    rw [show k + (j - k) = j by omega] at a1 a2
    have e := load_eq (w := x2) (w' := shB x2 (8 - 1 - (j - k))) (cBy_s (j - k) (by omega)) (by omega) (fun i hi => by
      rw [shB_b _ _ _ (by omega)]
      congr 1
      omega)
    have e : (shB x2 (8 - 1 - (j - k)) &&& (255 : Int64)).toInt32 = cBy x2 (j - k) &&& 255 := e
    refine ⟨(C1 2 j).toBitVec.toNat % 2 ^ 8, Nat.mod_lt _ (by decide), ?_, pk_and (C1 2 j) 8 (by decide)⟩
    rw [a2, e, ← a1]
    exact pk_and (C1 2 j) 8 (by decide)
  · rw [c2 j (by omega), m2 j (by omega)]
    exact h.cod j hj
