/-! INSTRUCTIONS: helpers -/
def effM (s : Nat) (x3 x4 x5 : Int32) (M7 : Mem) : Option (Unit × Mem) :=
  if x3 = 1 then
    gd (inb (0 + (x4 &&& 7)) 342) <|
    stp (up2 M7 s (0 + (x4 &&& 7)).toNatClampNeg x5) fun M45 =>
    fm_instructs_412 s M45
  else
    if 8 ≤ x3 then
      if x3 = 8 then
        gd (inb (0 + (x5 &&& 7)) 342) <|
        gd (inb (0 + (x4 &&& 7)) 342) <|
        stp (up2 M7 s (0 + (x4 &&& 7)).toNatClampNeg (M7 s (0 + (x5 &&& 7)).toNatClampNeg)) fun M39 =>
        fm_instructs_412 s M39
      else
        if 14 ≤ x3 then
          if 20 ≤ x3 then
            if 25 ≤ x3 then
              if x3 = 25 then
                gd (inb (0 + (x5 &&& 7)) 342) <|
                bnd (fm_mod (M7 s (0 + (x5 &&& 7)).toNatClampNeg) 256 M7) fun r31 M31 =>
                gd (inb (173 + (x4 - x4 / 20 * 20)) 342) <|
                stp (up2 M31 s (173 + (x4 - x4 / 20 * 20)).toNatClampNeg r31) fun M33 =>
                fm_instructs_412 s M33
              else
                if x3 = 26 then
                  gd (inb ((56 + (M7 s 15)) - 2) 342) <|
                  bnd (fm_mod ((M7 s ((56 + (M7 s 15)) - 2).toNatClampNeg) + x4) 512 M7) fun r27 M27 =>
                  gd (inb ((56 + (M7 s 15)) - 2) 342) <|
                  stp (up2 M27 s ((56 + (M7 s 15)) - 2).toNatClampNeg r27) fun M29 =>
                  fm_instructs_412 s M29
                else
                  if x3 = 27 then
                    gd (inb (0 + (x4 &&& 7)) 342) <|
                    bnd (fm_tells (M7 s (0 + (x4 &&& 7)).toNatClampNeg) M7) fun r25 M25 =>
                    fm_instructs_412 s M25
                  else
                    if x3 = 28 then
                      gd (inb (40 + (x5 &&& 15)) 342) <|
                      gd (inb (0 + (x4 &&& 7)) 342) <|
                      stp (up2 M7 s (0 + (x4 &&& 7)).toNatClampNeg (M7 s (40 + (x5 &&& 15)).toNatClampNeg)) fun M23 =>
                      fm_instructs_412 s M23
                    else
                      gd (inb (0 + (x4 &&& 7)) 342) <|
                      gd (inb (40 + (x5 &&& 15)) 342) <|
                      stp (up2 M7 s (40 + (x5 &&& 15)).toNatClampNeg (M7 s (0 + (x4 &&& 7)).toNatClampNeg)) fun M20 =>
                      fm_instructs_412 s M20
            else
              bnd (fm_floats s x3 (x4 &&& 3) (x5 &&& 3) (0 + (x4 &&& 7)) (0 + (x5 &&& 7)) x5 M7) fun r34 M34 =>
              fm_instructs_412 s M34
          else
            bnd (fm_rules s x3 x4 M7) fun r35 M35 =>
            fm_instructs_412 s M35
        else
          bnd (fm_moves s x3 (0 + (x4 &&& 7)) (((256 * x4) + x5) - ((256 * x4) + x5) / 512 * 512) M7) fun r36 M36 =>
          fm_instructs_412 s M36
    else
      gd (inb (0 + (x4 &&& 7)) 342) <|
      gd (inb (0 + (x5 &&& 7)) 342) <|
      bnd (fm_made x3 (M7 s (0 + (x4 &&& 7)).toNatClampNeg) (M7 s (0 + (x5 &&& 7)).toNatClampNeg) x5 M7) fun r42 M42 =>
      bnd (fm_comes s (x4 &&& 7) r42 M42) fun r43 M43 =>
      fm_instructs_412 s M43
theorem fm_ins72_v {s : Nat} {x2 x3 x4 x5 : Int32} {M : Mem} : fm_instructs_72 s x2 x3 x4 x5 M = (bnd (fm_faultOf s x3 x4 x5 M) fun r1 M1 => if r1 < 0 then (bnd (fm_counts 10 M1) fun r3 M3 => gd (inb x3 30) (stp (up2 M3 s 22 ((mTakes x3.toNatClampNeg) - 1)) fun M5 => gd (inb x3 30) (stp (up2 M5 s 12 ((x2 + (mLong x3.toNatClampNeg)) - (x2 + (mLong x3.toNatClampNeg)) / 512 * 512)) fun M7 => effM s x3 x4 x5 M7))) else (bnd (fm_raises s r1 M1) fun r46 M46 => some ((), M46))) := rfl
def k10 (c : Nat) (M : Mem) : Mem := if c = 9 then up2 M 6 10 (M 6 10 + 1) else M
theorem k10_x {c o k : Nat} {M : Mem} (h : ¬ o = 6 ∨ ¬ k = 10) : k10 c M o k = M o k := by
  unfold k10
  split
  · exact up2_x h
  · rfl
theorem k10_up {c o k : Nat} {v : Int32} {M : Mem} (h : ¬ o = 6 ∨ ¬ k = 10) : up2 (k10 c M) o k v = k10 c (up2 M o k v) := by
  unfold k10
  split
  · rw [up2_x (o' := 6) (k' := 10) (by omega), up2_comm (by omega)]
  · rfl
theorem fm_cnt10 {c s : Nat} {M : Mem} (hcs : cs c s) (ho : ownOk c M) : fm_counts 10 M = some ((), k10 c M) := by
  unfold fm_counts fm_counts_17 k10
  rcases hcs with ⟨z, w⟩ | ⟨z, w⟩
  · rw [ho.1 z, if_neg (by decide), i17_10, gd_t, gd_t, cl_10, stp_e, if_pos z]
  · rw [ho.2 z, if_pos rfl, if_neg (by omega)]
theorem top_k10 {c s T E : Nat} {L : List Int32} {C0 M0 C M : Mem} (hcs : cs c s) (h : Top c s T E L C0 M0 C M) (hm : Md c C M) : Top c s T E L C0 M0 (up2 C (c + 9) 10 (C (c + 9) 10 + 1)) (k10 c M) ∧ Md c (up2 C (c + 9) 10 (C (c + 9) 10 + 1)) (k10 c M) := by
  obtain ⟨M', a1, a2, a3, -, -⟩ := top_cnt10 hcs h hm
  rw [fm_cnt10 hcs hm.1] at a1
  cases a1
  exact ⟨a2, a3⟩
theorem and1 {n : Nat} (h : n < 2 ^ 32) : nI n &&& 1 = nI (n % 2) := pk_andN h 1 (by decide)
theorem and3 {n : Nat} (h : n < 2 ^ 32) : nI n &&& 3 = nI (n % 4) := pk_andN h 2 (by decide)
theorem and7 {n : Nat} (h : n < 2 ^ 32) : nI n &&& 7 = nI (n % 8) := pk_andN h 3 (by decide)
theorem and15 {n : Nat} (h : n < 2 ^ 32) : nI n &&& 15 = nI (n % 16) := pk_andN h 4 (by decide)
theorem and255 {n : Nat} (h : n < 2 ^ 32) : nI n &&& 255 = nI (n % 256) := pk_andN h 8 (by decide)
theorem and511 {n : Nat} (h : n < 2 ^ 32) : nI n &&& 511 = nI (n % 512) := pk_andN h 9 (by decide)
theorem rem18 {q : Nat} (h : q < 2 ^ 31) : nI q - nI q / 18 * 18 = nI (q % 18) := pk_rem (d := 18) h (by decide) (by decide)
theorem rem20 {q : Nat} (h : q < 2 ^ 31) : nI q - nI q / 20 * 20 = nI (q % 20) := pk_rem (d := 20) h (by decide) (by decide)
theorem rem512 {q : Nat} (h : q < 2 ^ 31) : nI q - nI q / 512 * 512 = nI (q % 512) := pk_rem (d := 512) h (by decide) (by decide)
theorem mul256 (x : Nat) : (256 : Int32) * nI x = nI (256 * x) := pk_mul 256 x
theorem fc_reg_v {c x : Nat} {C : Mem} (hx : x < 2 ^ 31) : fc_Core_reg c (nI x) C = some (C (c + 1) (x % 8), C) := by
  unfold fc_Core_reg
  rw [and7 (by omega), inb_nI (show x % 8 < 8 by omega) (by decide), gd_t, nI_clamp (by omega)]
theorem fc_sets_v {c x : Nat} {v : Int32} {C : Mem} (hx : x < 2 ^ 31) : fc_Core_sets c (nI x) v C = some ((), up2 C (c + 1) (x % 8) v) := by
  unfold fc_Core_sets
  rw [and7 (by omega), inb_nI (show x % 8 < 8 by omega) (by decide), gd_t, nI_clamp (by omega), stp_e]
theorem fc_setsF_v {c x : Nat} {v : UInt32} {C : Mem} (hx : x < 2 ^ 31) : fc_Core_setsFloat c (nI x) v C = some ((), up2 C (c + 2) (x % 4) v.toInt32) := by
  unfold fc_Core_setsFloat
  rw [and3 (by omega), inb_nI (show x % 4 < 4 by omega) (by decide), gd_t, nI_clamp (by omega), stp_e]
def zfV (v : Int32) : Int32 := if v = 0 then 1 else 0
def nfV (v : Int32) : Int32 := if 0 ≤ v then 0 else 1
theorem fc_comes_v {c x : Nat} {v : Int32} {C : Mem} (hx : x < 2 ^ 31) : fc_Core_comes c (nI x) v C = some ((), up2 (up2 (up2 C (c + 1) (x % 8) v) c 29 (zfV v)) c 30 (nfV v)) := by
  unfold fc_Core_comes fc_Core_comes_16 fc_Core_comes_29 zfV nfV
  rw [fc_sets_v hx, bnd_s]
  simp only [stp_e]
  repeat' split
  all_goals rfl
theorem fm_comes_v {s x : Nat} {v : Int32} {M : Mem} (hx : x < 8) : fm_comes s (nI x) v M = some ((), up2 (up2 (up2 M s x v) s 13 (zfV v)) s 14 (nfV v)) := by
  unfold fm_comes fm_comes_18 fm_comes_31 zfV nfV
  rw [l_0, inb_nI (show x < 342 by omega) (by decide), gd_t, nI_clamp (by omega), show inb 13 342 = true from rfl, show inb 14 342 = true from rfl, show (13 : Int32).toNatClampNeg = 13 from rfl, show (14 : Int32).toNatClampNeg = 14 from rfl]
  simp only [stp_e, gd_t]
  repeat' split
  all_goals rfl
theorem div_m1 (a : Int32) : a / (-1) = -a := by
  apply i32_eq.mpr
  rw [Int32.toInt_div, show (-1 : Int32).toInt = -1 from rfl, Int.tdiv_neg, Int.tdiv_one, Int32.toInt_neg]
set_option maxHeartbeats 4000000 in
theorem top_comes {c s T E : Nat} {L : List Int32} {C0 M0 C M : Mem} {k : Nat} {v a b : Int32} (hcs : cs c s) (h : Top c s T E L C0 M0 C M) (hm : Md c C M) (hk : k < 8) : Top c s T E L C0 M0 (up2 (up2 (up2 C (c + 1) k v) c 29 a) c 30 b) (up2 (up2 (up2 M s k v) s 13 a) s 14 b) ∧ Md c (up2 (up2 (up2 C (c + 1) k v) c 29 a) c 30 b) (up2 (up2 (up2 M s k v) s 13 a) s 14 b) := by
  refine ⟨?_, ?_⟩
  · refine ⟨⟨?_, ?_, ?_, ?_, ?_, ?_, ?_, ?_, ?_, ?_, ?_, ?_, ?_, ?_, ?_, ?_, ?_, ?_, ?_, ?_, ?_, ?_, ?_, ?_, ?_, ?_, ?_, ?_, ?_, ?_, ?_, ?_, ?_⟩, ⟨?_, ?_, ?_, ?_, ?_⟩⟩
    · intro j hj
      by_cases e : j = k
      · subst e
        rw [Nat.zero_add]
        simp (disch := omega) only [up2_x, up2_e, upr_x]
      · simp (disch := omega) only [up2_x, upr_x]
        exact h.reg j hj
    · exact rDat_fr h.dat (by intros; first | rfl | (simp (disch := omega) only [up2_x, upr_x])) (by intros; first | rfl | (simp (disch := omega) only [up2_x, upr_x]))
    · exact rStk_fr h.stk (by intros; first | rfl | (simp (disch := omega) only [up2_x, upr_x])) (by intros; first | rfl | (simp (disch := omega) only [up2_x, upr_x]))
    · exact rFlt_fr h.flt (by intros; first | rfl | (simp (disch := omega) only [up2_x, upr_x])) (by intros; first | rfl | (simp (disch := omega) only [up2_x, upr_x]))
    · refine ⟨?_, ?_⟩
      · simp (disch := omega) only [up2_x, up2_e, upr_x]
      · simp (disch := omega) only [up2_x, up2_e, upr_x]
    · exact rPc_fr h.pc (by intros; first | rfl | (simp (disch := omega) only [up2_x, upr_x])) (by intros; first | rfl | (simp (disch := omega) only [up2_x, upr_x]))
    · exact rSp_fr h.sp (by intros; first | rfl | (simp (disch := omega) only [up2_x, upr_x])) (by intros; first | rfl | (simp (disch := omega) only [up2_x, upr_x]))
    · exact rShu_fr h.shu (by intros; first | rfl | (simp (disch := omega) only [up2_x, upr_x])) (by intros; first | rfl | (simp (disch := omega) only [up2_x, upr_x]))
    · exact rBas_fr h.bas (by intros; first | rfl | (simp (disch := omega) only [up2_x, upr_x])) (by intros; first | rfl | (simp (disch := omega) only [up2_x, upr_x]))
    · exact rFls_fr h.fls (by intros; first | rfl | (simp (disch := omega) only [up2_x, upr_x])) (by intros; first | rfl | (simp (disch := omega) only [up2_x, upr_x]))
    · exact rLaz_fr h.laz (by intros; first | rfl | (simp (disch := omega) only [up2_x, upr_x])) (by intros; first | rfl | (simp (disch := omega) only [up2_x, upr_x]))
    · exact rPh_fr h.ph (by intros; first | rfl | (simp (disch := omega) only [up2_x, upr_x])) (by intros; first | rfl | (simp (disch := omega) only [up2_x, upr_x]))
    · exact rStp_fr h.stp (by intros; first | rfl | (simp (disch := omega) only [up2_x, upr_x])) (by intros; first | rfl | (simp (disch := omega) only [up2_x, upr_x]))
    · exact rStl_fr h.stl (by intros; first | rfl | (simp (disch := omega) only [up2_x, upr_x])) (by intros; first | rfl | (simp (disch := omega) only [up2_x, upr_x]))
    · exact rAsl_fr h.asl (by intros; first | rfl | (simp (disch := omega) only [up2_x, upr_x])) (by intros; first | rfl | (simp (disch := omega) only [up2_x, upr_x]))
    · exact rClk_fr h.clk (by intros; first | rfl | (simp (disch := omega) only [up2_x, upr_x])) (by intros; first | rfl | (simp (disch := omega) only [up2_x, upr_x]))
    · exact rPer_fr h.per (by intros; first | rfl | (simp (disch := omega) only [up2_x, upr_x])) (by intros; first | rfl | (simp (disch := omega) only [up2_x, upr_x]))
    · exact rTim_fr h.tim (by intros; first | rfl | (simp (disch := omega) only [up2_x, upr_x])) (by intros; first | rfl | (simp (disch := omega) only [up2_x, upr_x]))
    · exact rNst_fr h.nst (by intros; first | rfl | (simp (disch := omega) only [up2_x, upr_x])) (by intros; first | rfl | (simp (disch := omega) only [up2_x, upr_x])) (by intros; first | rfl | (simp (disch := omega) only [up2_x, upr_x])) (by intros; first | rfl | (simp (disch := omega) only [up2_x, upr_x])) (by intros; first | rfl | (simp (disch := omega) only [up2_x, upr_x])) (by intros; first | rfl | (simp (disch := omega) only [up2_x, upr_x]))
    · exact rDue_fr h.due (by intros; first | rfl | (simp (disch := omega) only [up2_x, upr_x])) (by intros; first | rfl | (simp (disch := omega) only [up2_x, upr_x])) (by intros; first | rfl | (simp (disch := omega) only [up2_x, upr_x])) (by intros; first | rfl | (simp (disch := omega) only [up2_x, upr_x])) (by intros; first | rfl | (simp (disch := omega) only [up2_x, upr_x]))
    · exact rRnk_fr h.rnk (by intros; first | rfl | (simp (disch := omega) only [up2_x, upr_x])) (by intros; first | rfl | (simp (disch := omega) only [up2_x, upr_x]))
    · exact rVec_fr h.vec (by intros; first | rfl | (simp (disch := omega) only [up2_x, upr_x])) (by intros; first | rfl | (simp (disch := omega) only [up2_x, upr_x]))
    · exact rEna_fr h.ena (by intros; first | rfl | (simp (disch := omega) only [up2_x, upr_x])) (by intros; first | rfl | (simp (disch := omega) only [up2_x, upr_x]))
    · exact rPnd_fr h.pnd (by intros; first | rfl | (simp (disch := omega) only [up2_x, upr_x])) (by intros; first | rfl | (simp (disch := omega) only [up2_x, upr_x]))
    · exact rAct_fr h.act (by intros; first | rfl | (simp (disch := omega) only [up2_x, upr_x])) (by intros; first | rfl | (simp (disch := omega) only [up2_x, upr_x])) (by intros; first | rfl | (simp (disch := omega) only [up2_x, upr_x]))
    · exact rHld_fr h.hld (by intros; first | rfl | (simp (disch := omega) only [up2_x, upr_x])) (by intros; first | rfl | (simp (disch := omega) only [up2_x, upr_x]))
    · exact rSpl_fr h.spl (by intros; first | rfl | (simp (disch := omega) only [up2_x, upr_x])) (by intros; first | rfl | (simp (disch := omega) only [up2_x, upr_x]))
    · exact rSta_fr h.sta (by intros; first | rfl | (simp (disch := omega) only [up2_x, upr_x])) (by intros; first | rfl | (simp (disch := omega) only [up2_x, upr_x]))
    · exact rSav_fr h.sav (by intros; first | rfl | (simp (disch := omega) only [up2_x, upr_x])) (by intros; first | rfl | (simp (disch := omega) only [up2_x, upr_x]))
    · exact rUns_fr h.uns (by intros; first | rfl | (simp (disch := omega) only [up2_x, upr_x])) (by intros; first | rfl | (simp (disch := omega) only [up2_x, upr_x])) (by intros; first | rfl | (simp (disch := omega) only [up2_x, upr_x]))
    · exact rCod_fr h.cod (by intros; first | rfl | (simp (disch := omega) only [up2_x, upr_x])) (by intros; first | rfl | (simp (disch := omega) only [up2_x, upr_x]))
    · exact rObs_fr (C := C) (M := M) h.obs (by intros; first | rfl | (simp (disch := omega) only [up2_x, upr_x])) (by intros; first | rfl | (simp (disch := omega) only [up2_x, upr_x]))
    · exact rMdc_fr (C := C) (M := M) h.mdc (by intros; first | rfl | (simp (disch := omega) only [up2_x, upr_x]))
    · exact rCnt_fr h.cnt (by intros; first | rfl | (simp (disch := omega) only [up2_x, upr_x])) (by intros; first | rfl | (simp (disch := omega) only [up2_x, upr_x]))
    · exact rOut_fr h.out (by intros; first | rfl | (simp (disch := omega) only [up2_x, upr_x])) (by intros; first | rfl | (simp (disch := omega) only [up2_x, upr_x])) (by intros; first | rfl | (simp (disch := omega) only [up2_x, upr_x])) (by intros; first | rfl | (simp (disch := omega) only [up2_x, upr_x]))
    · exact rEvt_fr h.evt (by intros; first | rfl | (simp (disch := omega) only [up2_x, upr_x])) (by intros; first | rfl | (simp (disch := omega) only [up2_x, upr_x])) (by intros; first | rfl | (simp (disch := omega) only [up2_x, upr_x])) (by intros; first | rfl | (simp (disch := omega) only [up2_x, upr_x]))
    · exact rWai_fr h.wai (by intros; first | rfl | (simp (disch := omega) only [up2_x, upr_x])) (by intros; first | rfl | (simp (disch := omega) only [up2_x, upr_x]))
    · exact rFrm_fr h.frm (by intros; first | rfl | (simp (disch := omega) only [up2_x, upr_x])) (by intros; first | rfl | (simp (disch := omega) only [up2_x, upr_x]))
  · exact Md_fr hm (by first | rfl | simp (disch := omega) only [up2_x, upr_x]) (by first | rfl | simp (disch := omega) only [up2_x, upr_x]) (by first | rfl | simp (disch := omega) only [up2_x, upr_x]) (by first | rfl | simp (disch := omega) only [up2_x, upr_x]) (by first | rfl | simp (disch := omega) only [up2_x, upr_x])
set_option maxHeartbeats 4000000 in
theorem top_pc {c s T E : Nat} {L : List Int32} {C0 M0 C M : Mem} {k : Nat} (hcs : cs c s) (h : Top c s T E L C0 M0 C M) (hm : Md c C M) (hk : k < 512) : Top c s T E L C0 M0 (up2 C c 31 (nI k)) (up2 M s 12 (nI k)) ∧ Md c (up2 C c 31 (nI k)) (up2 M s 12 (nI k)) := by
  refine ⟨?_, ?_⟩
  · refine ⟨⟨?_, ?_, ?_, ?_, ?_, ?_, ?_, ?_, ?_, ?_, ?_, ?_, ?_, ?_, ?_, ?_, ?_, ?_, ?_, ?_, ?_, ?_, ?_, ?_, ?_, ?_, ?_, ?_, ?_, ?_, ?_, ?_, ?_⟩, ⟨?_, ?_, ?_, ?_, ?_⟩⟩
    · exact rReg_fr h.reg (by intros; first | rfl | (simp (disch := omega) only [up2_x, upr_x])) (by intros; first | rfl | (simp (disch := omega) only [up2_x, upr_x]))
    · exact rDat_fr h.dat (by intros; first | rfl | (simp (disch := omega) only [up2_x, upr_x])) (by intros; first | rfl | (simp (disch := omega) only [up2_x, upr_x]))
    · exact rStk_fr h.stk (by intros; first | rfl | (simp (disch := omega) only [up2_x, upr_x])) (by intros; first | rfl | (simp (disch := omega) only [up2_x, upr_x]))
    · exact rFlt_fr h.flt (by intros; first | rfl | (simp (disch := omega) only [up2_x, upr_x])) (by intros; first | rfl | (simp (disch := omega) only [up2_x, upr_x]))
    · exact rZn_fr h.zn (by intros; first | rfl | (simp (disch := omega) only [up2_x, upr_x])) (by intros; first | rfl | (simp (disch := omega) only [up2_x, upr_x]))
    · refine ⟨k, by omega, ?_, ?_⟩
      · simp (disch := omega) only [up2_x, up2_e, upr_x]
      · simp (disch := omega) only [up2_x, up2_e, upr_x]
    · exact rSp_fr h.sp (by intros; first | rfl | (simp (disch := omega) only [up2_x, upr_x])) (by intros; first | rfl | (simp (disch := omega) only [up2_x, upr_x]))
    · exact rShu_fr h.shu (by intros; first | rfl | (simp (disch := omega) only [up2_x, upr_x])) (by intros; first | rfl | (simp (disch := omega) only [up2_x, upr_x]))
    · exact rBas_fr h.bas (by intros; first | rfl | (simp (disch := omega) only [up2_x, upr_x])) (by intros; first | rfl | (simp (disch := omega) only [up2_x, upr_x]))
    · exact rFls_fr h.fls (by intros; first | rfl | (simp (disch := omega) only [up2_x, upr_x])) (by intros; first | rfl | (simp (disch := omega) only [up2_x, upr_x]))
    · exact rLaz_fr h.laz (by intros; first | rfl | (simp (disch := omega) only [up2_x, upr_x])) (by intros; first | rfl | (simp (disch := omega) only [up2_x, upr_x]))
    · exact rPh_fr h.ph (by intros; first | rfl | (simp (disch := omega) only [up2_x, upr_x])) (by intros; first | rfl | (simp (disch := omega) only [up2_x, upr_x]))
    · exact rStp_fr h.stp (by intros; first | rfl | (simp (disch := omega) only [up2_x, upr_x])) (by intros; first | rfl | (simp (disch := omega) only [up2_x, upr_x]))
    · exact rStl_fr h.stl (by intros; first | rfl | (simp (disch := omega) only [up2_x, upr_x])) (by intros; first | rfl | (simp (disch := omega) only [up2_x, upr_x]))
    · exact rAsl_fr h.asl (by intros; first | rfl | (simp (disch := omega) only [up2_x, upr_x])) (by intros; first | rfl | (simp (disch := omega) only [up2_x, upr_x]))
    · exact rClk_fr h.clk (by intros; first | rfl | (simp (disch := omega) only [up2_x, upr_x])) (by intros; first | rfl | (simp (disch := omega) only [up2_x, upr_x]))
    · exact rPer_fr h.per (by intros; first | rfl | (simp (disch := omega) only [up2_x, upr_x])) (by intros; first | rfl | (simp (disch := omega) only [up2_x, upr_x]))
    · exact rTim_fr h.tim (by intros; first | rfl | (simp (disch := omega) only [up2_x, upr_x])) (by intros; first | rfl | (simp (disch := omega) only [up2_x, upr_x]))
    · exact rNst_fr h.nst (by intros; first | rfl | (simp (disch := omega) only [up2_x, upr_x])) (by intros; first | rfl | (simp (disch := omega) only [up2_x, upr_x])) (by intros; first | rfl | (simp (disch := omega) only [up2_x, upr_x])) (by intros; first | rfl | (simp (disch := omega) only [up2_x, upr_x])) (by intros; first | rfl | (simp (disch := omega) only [up2_x, upr_x])) (by intros; first | rfl | (simp (disch := omega) only [up2_x, upr_x]))
    · exact rDue_fr h.due (by intros; first | rfl | (simp (disch := omega) only [up2_x, upr_x])) (by intros; first | rfl | (simp (disch := omega) only [up2_x, upr_x])) (by intros; first | rfl | (simp (disch := omega) only [up2_x, upr_x])) (by intros; first | rfl | (simp (disch := omega) only [up2_x, upr_x])) (by intros; first | rfl | (simp (disch := omega) only [up2_x, upr_x]))
    · exact rRnk_fr h.rnk (by intros; first | rfl | (simp (disch := omega) only [up2_x, upr_x])) (by intros; first | rfl | (simp (disch := omega) only [up2_x, upr_x]))
    · exact rVec_fr h.vec (by intros; first | rfl | (simp (disch := omega) only [up2_x, upr_x])) (by intros; first | rfl | (simp (disch := omega) only [up2_x, upr_x]))
    · exact rEna_fr h.ena (by intros; first | rfl | (simp (disch := omega) only [up2_x, upr_x])) (by intros; first | rfl | (simp (disch := omega) only [up2_x, upr_x]))
    · exact rPnd_fr h.pnd (by intros; first | rfl | (simp (disch := omega) only [up2_x, upr_x])) (by intros; first | rfl | (simp (disch := omega) only [up2_x, upr_x]))
    · exact rAct_fr h.act (by intros; first | rfl | (simp (disch := omega) only [up2_x, upr_x])) (by intros; first | rfl | (simp (disch := omega) only [up2_x, upr_x])) (by intros; first | rfl | (simp (disch := omega) only [up2_x, upr_x]))
    · exact rHld_fr h.hld (by intros; first | rfl | (simp (disch := omega) only [up2_x, upr_x])) (by intros; first | rfl | (simp (disch := omega) only [up2_x, upr_x]))
    · exact rSpl_fr h.spl (by intros; first | rfl | (simp (disch := omega) only [up2_x, upr_x])) (by intros; first | rfl | (simp (disch := omega) only [up2_x, upr_x]))
    · exact rSta_fr h.sta (by intros; first | rfl | (simp (disch := omega) only [up2_x, upr_x])) (by intros; first | rfl | (simp (disch := omega) only [up2_x, upr_x]))
    · exact rSav_fr h.sav (by intros; first | rfl | (simp (disch := omega) only [up2_x, upr_x])) (by intros; first | rfl | (simp (disch := omega) only [up2_x, upr_x]))
    · exact rUns_fr h.uns (by intros; first | rfl | (simp (disch := omega) only [up2_x, upr_x])) (by intros; first | rfl | (simp (disch := omega) only [up2_x, upr_x])) (by intros; first | rfl | (simp (disch := omega) only [up2_x, upr_x]))
    · exact rCod_fr h.cod (by intros; first | rfl | (simp (disch := omega) only [up2_x, upr_x])) (by intros; first | rfl | (simp (disch := omega) only [up2_x, upr_x]))
    · exact rObs_fr (C := C) (M := M) h.obs (by intros; first | rfl | (simp (disch := omega) only [up2_x, upr_x])) (by intros; first | rfl | (simp (disch := omega) only [up2_x, upr_x]))
    · exact rMdc_fr (C := C) (M := M) h.mdc (by intros; first | rfl | (simp (disch := omega) only [up2_x, upr_x]))
    · exact rCnt_fr h.cnt (by intros; first | rfl | (simp (disch := omega) only [up2_x, upr_x])) (by intros; first | rfl | (simp (disch := omega) only [up2_x, upr_x]))
    · exact rOut_fr h.out (by intros; first | rfl | (simp (disch := omega) only [up2_x, upr_x])) (by intros; first | rfl | (simp (disch := omega) only [up2_x, upr_x])) (by intros; first | rfl | (simp (disch := omega) only [up2_x, upr_x])) (by intros; first | rfl | (simp (disch := omega) only [up2_x, upr_x]))
    · exact rEvt_fr h.evt (by intros; first | rfl | (simp (disch := omega) only [up2_x, upr_x])) (by intros; first | rfl | (simp (disch := omega) only [up2_x, upr_x])) (by intros; first | rfl | (simp (disch := omega) only [up2_x, upr_x])) (by intros; first | rfl | (simp (disch := omega) only [up2_x, upr_x]))
    · exact rWai_fr h.wai (by intros; first | rfl | (simp (disch := omega) only [up2_x, upr_x])) (by intros; first | rfl | (simp (disch := omega) only [up2_x, upr_x]))
    · exact rFrm_fr h.frm (by intros; first | rfl | (simp (disch := omega) only [up2_x, upr_x])) (by intros; first | rfl | (simp (disch := omega) only [up2_x, upr_x]))
  · exact Md_fr hm (by first | rfl | simp (disch := omega) only [up2_x, upr_x]) (by first | rfl | simp (disch := omega) only [up2_x, upr_x]) (by first | rfl | simp (disch := omega) only [up2_x, upr_x]) (by first | rfl | simp (disch := omega) only [up2_x, upr_x]) (by first | rfl | simp (disch := omega) only [up2_x, upr_x])
set_option maxHeartbeats 4000000 in
theorem top_instr {c s T E : Nat} {L : List Int32} {C0 M0 C M : Mem} {k w : Nat} (hcs : cs c s) (h : Top c s T E L C0 M0 C M) (hm : Md c C M) (hk : k < 512) (hw : w ≤ 3) (hph : C c 41 = 0) : Top c s T E L C0 M0 (up2 (up2 C c 31 (nI k)) c 43 (nI w)) (up2 (up2 M s 22 (nI w)) s 12 (nI k)) ∧ Md c (up2 (up2 C c 31 (nI k)) c 43 (nI w)) (up2 (up2 M s 22 (nI w)) s 12 (nI k)) := by
  refine ⟨?_, ?_⟩
  · refine ⟨⟨?_, ?_, ?_, ?_, ?_, ?_, ?_, ?_, ?_, ?_, ?_, ?_, ?_, ?_, ?_, ?_, ?_, ?_, ?_, ?_, ?_, ?_, ?_, ?_, ?_, ?_, ?_, ?_, ?_, ?_, ?_, ?_, ?_⟩, ⟨?_, ?_, ?_, ?_, ?_⟩⟩
    · exact rReg_fr h.reg (by intros; first | rfl | (simp (disch := omega) only [up2_x, upr_x])) (by intros; first | rfl | (simp (disch := omega) only [up2_x, upr_x]))
    · exact rDat_fr h.dat (by intros; first | rfl | (simp (disch := omega) only [up2_x, upr_x])) (by intros; first | rfl | (simp (disch := omega) only [up2_x, upr_x]))
    · exact rStk_fr h.stk (by intros; first | rfl | (simp (disch := omega) only [up2_x, upr_x])) (by intros; first | rfl | (simp (disch := omega) only [up2_x, upr_x]))
    · exact rFlt_fr h.flt (by intros; first | rfl | (simp (disch := omega) only [up2_x, upr_x])) (by intros; first | rfl | (simp (disch := omega) only [up2_x, upr_x]))
    · exact rZn_fr h.zn (by intros; first | rfl | (simp (disch := omega) only [up2_x, upr_x])) (by intros; first | rfl | (simp (disch := omega) only [up2_x, upr_x]))
    · refine ⟨k, by omega, ?_, ?_⟩
      · simp (disch := omega) only [up2_x, up2_e, upr_x]
      · simp (disch := omega) only [up2_x, up2_e, upr_x]
    · exact rSp_fr h.sp (by intros; first | rfl | (simp (disch := omega) only [up2_x, upr_x])) (by intros; first | rfl | (simp (disch := omega) only [up2_x, upr_x]))
    · exact rShu_fr h.shu (by intros; first | rfl | (simp (disch := omega) only [up2_x, upr_x])) (by intros; first | rfl | (simp (disch := omega) only [up2_x, upr_x]))
    · exact rBas_fr h.bas (by intros; first | rfl | (simp (disch := omega) only [up2_x, upr_x])) (by intros; first | rfl | (simp (disch := omega) only [up2_x, upr_x]))
    · exact rFls_fr h.fls (by intros; first | rfl | (simp (disch := omega) only [up2_x, upr_x])) (by intros; first | rfl | (simp (disch := omega) only [up2_x, upr_x]))
    · exact rLaz_fr h.laz (by intros; first | rfl | (simp (disch := omega) only [up2_x, upr_x])) (by intros; first | rfl | (simp (disch := omega) only [up2_x, upr_x]))
    · exact rPh_fr h.ph (by intros; first | rfl | (simp (disch := omega) only [up2_x, upr_x])) (by intros; first | rfl | (simp (disch := omega) only [up2_x, upr_x]))
    · exact rStp_fr h.stp (by intros; first | rfl | (simp (disch := omega) only [up2_x, upr_x])) (by intros; first | rfl | (simp (disch := omega) only [up2_x, upr_x]))
    · refine ⟨⟨w, hw, ?_, ?_⟩, fun z => absurd ?_ z⟩
      · simp (disch := omega) only [up2_x, up2_e, upr_x]
      · simp (disch := omega) only [up2_x, up2_e, upr_x]
      · simp (disch := omega) only [up2_x, upr_x]; exact hph
    · exact rAsl_fr h.asl (by intros; first | rfl | (simp (disch := omega) only [up2_x, upr_x])) (by intros; first | rfl | (simp (disch := omega) only [up2_x, upr_x]))
    · exact rClk_fr h.clk (by intros; first | rfl | (simp (disch := omega) only [up2_x, upr_x])) (by intros; first | rfl | (simp (disch := omega) only [up2_x, upr_x]))
    · exact rPer_fr h.per (by intros; first | rfl | (simp (disch := omega) only [up2_x, upr_x])) (by intros; first | rfl | (simp (disch := omega) only [up2_x, upr_x]))
    · exact rTim_fr h.tim (by intros; first | rfl | (simp (disch := omega) only [up2_x, upr_x])) (by intros; first | rfl | (simp (disch := omega) only [up2_x, upr_x]))
    · exact rNst_fr h.nst (by intros; first | rfl | (simp (disch := omega) only [up2_x, upr_x])) (by intros; first | rfl | (simp (disch := omega) only [up2_x, upr_x])) (by intros; first | rfl | (simp (disch := omega) only [up2_x, upr_x])) (by intros; first | rfl | (simp (disch := omega) only [up2_x, upr_x])) (by intros; first | rfl | (simp (disch := omega) only [up2_x, upr_x])) (by intros; first | rfl | (simp (disch := omega) only [up2_x, upr_x]))
    · exact rDue_fr h.due (by intros; first | rfl | (simp (disch := omega) only [up2_x, upr_x])) (by intros; first | rfl | (simp (disch := omega) only [up2_x, upr_x])) (by intros; first | rfl | (simp (disch := omega) only [up2_x, upr_x])) (by intros; first | rfl | (simp (disch := omega) only [up2_x, upr_x])) (by intros; first | rfl | (simp (disch := omega) only [up2_x, upr_x]))
    · exact rRnk_fr h.rnk (by intros; first | rfl | (simp (disch := omega) only [up2_x, upr_x])) (by intros; first | rfl | (simp (disch := omega) only [up2_x, upr_x]))
    · exact rVec_fr h.vec (by intros; first | rfl | (simp (disch := omega) only [up2_x, upr_x])) (by intros; first | rfl | (simp (disch := omega) only [up2_x, upr_x]))
    · exact rEna_fr h.ena (by intros; first | rfl | (simp (disch := omega) only [up2_x, upr_x])) (by intros; first | rfl | (simp (disch := omega) only [up2_x, upr_x]))
    · exact rPnd_fr h.pnd (by intros; first | rfl | (simp (disch := omega) only [up2_x, upr_x])) (by intros; first | rfl | (simp (disch := omega) only [up2_x, upr_x]))
    · exact rAct_fr h.act (by intros; first | rfl | (simp (disch := omega) only [up2_x, upr_x])) (by intros; first | rfl | (simp (disch := omega) only [up2_x, upr_x])) (by intros; first | rfl | (simp (disch := omega) only [up2_x, upr_x]))
    · exact rHld_fr h.hld (by intros; first | rfl | (simp (disch := omega) only [up2_x, upr_x])) (by intros; first | rfl | (simp (disch := omega) only [up2_x, upr_x]))
    · exact rSpl_fr h.spl (by intros; first | rfl | (simp (disch := omega) only [up2_x, upr_x])) (by intros; first | rfl | (simp (disch := omega) only [up2_x, upr_x]))
    · exact rSta_fr h.sta (by intros; first | rfl | (simp (disch := omega) only [up2_x, upr_x])) (by intros; first | rfl | (simp (disch := omega) only [up2_x, upr_x]))
    · exact rSav_fr h.sav (by intros; first | rfl | (simp (disch := omega) only [up2_x, upr_x])) (by intros; first | rfl | (simp (disch := omega) only [up2_x, upr_x]))
    · exact rUns_fr h.uns (by intros; first | rfl | (simp (disch := omega) only [up2_x, upr_x])) (by intros; first | rfl | (simp (disch := omega) only [up2_x, upr_x])) (by intros; first | rfl | (simp (disch := omega) only [up2_x, upr_x]))
    · exact rCod_fr h.cod (by intros; first | rfl | (simp (disch := omega) only [up2_x, upr_x])) (by intros; first | rfl | (simp (disch := omega) only [up2_x, upr_x]))
    · exact rObs_fr (C := C) (M := M) h.obs (by intros; first | rfl | (simp (disch := omega) only [up2_x, upr_x])) (by intros; first | rfl | (simp (disch := omega) only [up2_x, upr_x]))
    · exact rMdc_fr (C := C) (M := M) h.mdc (by intros; first | rfl | (simp (disch := omega) only [up2_x, upr_x]))
    · exact rCnt_fr h.cnt (by intros; first | rfl | (simp (disch := omega) only [up2_x, upr_x])) (by intros; first | rfl | (simp (disch := omega) only [up2_x, upr_x]))
    · exact rOut_fr h.out (by intros; first | rfl | (simp (disch := omega) only [up2_x, upr_x])) (by intros; first | rfl | (simp (disch := omega) only [up2_x, upr_x])) (by intros; first | rfl | (simp (disch := omega) only [up2_x, upr_x])) (by intros; first | rfl | (simp (disch := omega) only [up2_x, upr_x]))
    · exact rEvt_fr h.evt (by intros; first | rfl | (simp (disch := omega) only [up2_x, upr_x])) (by intros; first | rfl | (simp (disch := omega) only [up2_x, upr_x])) (by intros; first | rfl | (simp (disch := omega) only [up2_x, upr_x])) (by intros; first | rfl | (simp (disch := omega) only [up2_x, upr_x]))
    · exact rWai_fr h.wai (by intros; first | rfl | (simp (disch := omega) only [up2_x, upr_x])) (by intros; first | rfl | (simp (disch := omega) only [up2_x, upr_x]))
    · exact rFrm_fr h.frm (by intros; first | rfl | (simp (disch := omega) only [up2_x, upr_x])) (by intros; first | rfl | (simp (disch := omega) only [up2_x, upr_x]))
  · exact Md_fr hm (by first | rfl | simp (disch := omega) only [up2_x, upr_x]) (by first | rfl | simp (disch := omega) only [up2_x, upr_x]) (by first | rfl | simp (disch := omega) only [up2_x, upr_x]) (by first | rfl | simp (disch := omega) only [up2_x, upr_x]) (by first | rfl | simp (disch := omega) only [up2_x, upr_x])
set_option maxHeartbeats 4000000 in
theorem top_sp {c s T E : Nat} {L : List Int32} {C0 M0 C M : Mem} {p : Nat} (hcs : cs c s) (h : Top c s T E L C0 M0 C M) (hm : Md c C M) (hp : p ≤ 96) (hph : ¬ C c 41 = 3) : Top c s T E L C0 M0 (up2 C c 32 (nI p)) (up2 M s 15 (nI p)) ∧ Md c (up2 C c 32 (nI p)) (up2 M s 15 (nI p)) := by
  refine ⟨?_, ?_⟩
  · refine ⟨⟨?_, ?_, ?_, ?_, ?_, ?_, ?_, ?_, ?_, ?_, ?_, ?_, ?_, ?_, ?_, ?_, ?_, ?_, ?_, ?_, ?_, ?_, ?_, ?_, ?_, ?_, ?_, ?_, ?_, ?_, ?_, ?_, ?_⟩, ⟨?_, ?_, ?_, ?_, ?_⟩⟩
    · exact rReg_fr h.reg (by intros; first | rfl | (simp (disch := omega) only [up2_x, upr_x])) (by intros; first | rfl | (simp (disch := omega) only [up2_x, upr_x]))
    · exact rDat_fr h.dat (by intros; first | rfl | (simp (disch := omega) only [up2_x, upr_x])) (by intros; first | rfl | (simp (disch := omega) only [up2_x, upr_x]))
    · exact rStk_fr h.stk (by intros; first | rfl | (simp (disch := omega) only [up2_x, upr_x])) (by intros; first | rfl | (simp (disch := omega) only [up2_x, upr_x]))
    · exact rFlt_fr h.flt (by intros; first | rfl | (simp (disch := omega) only [up2_x, upr_x])) (by intros; first | rfl | (simp (disch := omega) only [up2_x, upr_x]))
    · exact rZn_fr h.zn (by intros; first | rfl | (simp (disch := omega) only [up2_x, upr_x])) (by intros; first | rfl | (simp (disch := omega) only [up2_x, upr_x]))
    · exact rPc_fr h.pc (by intros; first | rfl | (simp (disch := omega) only [up2_x, upr_x])) (by intros; first | rfl | (simp (disch := omega) only [up2_x, upr_x]))
    · refine ⟨p, hp, ?_, ?_⟩
      · simp (disch := omega) only [up2_x, up2_e, upr_x]
      · simp (disch := omega) only [up2_x, up2_e, upr_x]
    · exact rShu_fr h.shu (by intros; first | rfl | (simp (disch := omega) only [up2_x, upr_x])) (by intros; first | rfl | (simp (disch := omega) only [up2_x, upr_x]))
    · exact rBas_fr h.bas (by intros; first | rfl | (simp (disch := omega) only [up2_x, upr_x])) (by intros; first | rfl | (simp (disch := omega) only [up2_x, upr_x]))
    · exact rFls_fr h.fls (by intros; first | rfl | (simp (disch := omega) only [up2_x, upr_x])) (by intros; first | rfl | (simp (disch := omega) only [up2_x, upr_x]))
    · exact rLaz_fr h.laz (by intros; first | rfl | (simp (disch := omega) only [up2_x, upr_x])) (by intros; first | rfl | (simp (disch := omega) only [up2_x, upr_x]))
    · exact rPh_fr h.ph (by intros; first | rfl | (simp (disch := omega) only [up2_x, upr_x])) (by intros; first | rfl | (simp (disch := omega) only [up2_x, upr_x]))
    · exact rStp_fr h.stp (by intros; first | rfl | (simp (disch := omega) only [up2_x, upr_x])) (by intros; first | rfl | (simp (disch := omega) only [up2_x, upr_x]))
    · exact rStl_fr h.stl (by intros; first | rfl | (simp (disch := omega) only [up2_x, upr_x])) (by intros; first | rfl | (simp (disch := omega) only [up2_x, upr_x]))
    · exact rAsl_fr h.asl (by intros; first | rfl | (simp (disch := omega) only [up2_x, upr_x])) (by intros; first | rfl | (simp (disch := omega) only [up2_x, upr_x]))
    · exact rClk_fr h.clk (by intros; first | rfl | (simp (disch := omega) only [up2_x, upr_x])) (by intros; first | rfl | (simp (disch := omega) only [up2_x, upr_x]))
    · exact rPer_fr h.per (by intros; first | rfl | (simp (disch := omega) only [up2_x, upr_x])) (by intros; first | rfl | (simp (disch := omega) only [up2_x, upr_x]))
    · exact rTim_fr h.tim (by intros; first | rfl | (simp (disch := omega) only [up2_x, upr_x])) (by intros; first | rfl | (simp (disch := omega) only [up2_x, upr_x]))
    · exact rNst_fr h.nst (by intros; first | rfl | (simp (disch := omega) only [up2_x, upr_x])) (by intros; first | rfl | (simp (disch := omega) only [up2_x, upr_x])) (by intros; first | rfl | (simp (disch := omega) only [up2_x, upr_x])) (by intros; first | rfl | (simp (disch := omega) only [up2_x, upr_x])) (by intros; first | rfl | (simp (disch := omega) only [up2_x, upr_x])) (by intros; first | rfl | (simp (disch := omega) only [up2_x, upr_x]))
    · exact rDue_fr h.due (by intros; first | rfl | (simp (disch := omega) only [up2_x, upr_x])) (by intros; first | rfl | (simp (disch := omega) only [up2_x, upr_x])) (by intros; first | rfl | (simp (disch := omega) only [up2_x, upr_x])) (by intros; first | rfl | (simp (disch := omega) only [up2_x, upr_x])) (by intros; first | rfl | (simp (disch := omega) only [up2_x, upr_x]))
    · exact rRnk_fr h.rnk (by intros; first | rfl | (simp (disch := omega) only [up2_x, upr_x])) (by intros; first | rfl | (simp (disch := omega) only [up2_x, upr_x]))
    · exact rVec_fr h.vec (by intros; first | rfl | (simp (disch := omega) only [up2_x, upr_x])) (by intros; first | rfl | (simp (disch := omega) only [up2_x, upr_x]))
    · exact rEna_fr h.ena (by intros; first | rfl | (simp (disch := omega) only [up2_x, upr_x])) (by intros; first | rfl | (simp (disch := omega) only [up2_x, upr_x]))
    · exact rPnd_fr h.pnd (by intros; first | rfl | (simp (disch := omega) only [up2_x, upr_x])) (by intros; first | rfl | (simp (disch := omega) only [up2_x, upr_x]))
    · exact rAct_fr h.act (by intros; first | rfl | (simp (disch := omega) only [up2_x, upr_x])) (by intros; first | rfl | (simp (disch := omega) only [up2_x, upr_x])) (by intros; first | rfl | (simp (disch := omega) only [up2_x, upr_x]))
    · exact rHld_fr h.hld (by intros; first | rfl | (simp (disch := omega) only [up2_x, upr_x])) (by intros; first | rfl | (simp (disch := omega) only [up2_x, upr_x]))
    · exact rSpl_fr h.spl (by intros; first | rfl | (simp (disch := omega) only [up2_x, upr_x])) (by intros; first | rfl | (simp (disch := omega) only [up2_x, upr_x]))
    · exact rSta_fr h.sta (by intros; first | rfl | (simp (disch := omega) only [up2_x, upr_x])) (by intros; first | rfl | (simp (disch := omega) only [up2_x, upr_x]))
    · exact rSav_fr h.sav (by intros; first | rfl | (simp (disch := omega) only [up2_x, upr_x])) (by intros; first | rfl | (simp (disch := omega) only [up2_x, upr_x]))
    · refine fun z => absurd z ?_
      simp (disch := omega) only [up2_x, upr_x]; exact hph
    · exact rCod_fr h.cod (by intros; first | rfl | (simp (disch := omega) only [up2_x, upr_x])) (by intros; first | rfl | (simp (disch := omega) only [up2_x, upr_x]))
    · exact rObs_fr (C := C) (M := M) h.obs (by intros; first | rfl | (simp (disch := omega) only [up2_x, upr_x])) (by intros; first | rfl | (simp (disch := omega) only [up2_x, upr_x]))
    · exact rMdc_fr (C := C) (M := M) h.mdc (by intros; first | rfl | (simp (disch := omega) only [up2_x, upr_x]))
    · exact rCnt_fr h.cnt (by intros; first | rfl | (simp (disch := omega) only [up2_x, upr_x])) (by intros; first | rfl | (simp (disch := omega) only [up2_x, upr_x]))
    · exact rOut_fr h.out (by intros; first | rfl | (simp (disch := omega) only [up2_x, upr_x])) (by intros; first | rfl | (simp (disch := omega) only [up2_x, upr_x])) (by intros; first | rfl | (simp (disch := omega) only [up2_x, upr_x])) (by intros; first | rfl | (simp (disch := omega) only [up2_x, upr_x]))
    · exact rEvt_fr h.evt (by intros; first | rfl | (simp (disch := omega) only [up2_x, upr_x])) (by intros; first | rfl | (simp (disch := omega) only [up2_x, upr_x])) (by intros; first | rfl | (simp (disch := omega) only [up2_x, upr_x])) (by intros; first | rfl | (simp (disch := omega) only [up2_x, upr_x]))
    · exact rWai_fr h.wai (by intros; first | rfl | (simp (disch := omega) only [up2_x, upr_x])) (by intros; first | rfl | (simp (disch := omega) only [up2_x, upr_x]))
    · exact rFrm_fr h.frm (by intros; first | rfl | (simp (disch := omega) only [up2_x, upr_x])) (by intros; first | rfl | (simp (disch := omega) only [up2_x, upr_x]))
  · exact Md_fr hm (by first | rfl | simp (disch := omega) only [up2_x, upr_x]) (by first | rfl | simp (disch := omega) only [up2_x, upr_x]) (by first | rfl | simp (disch := omega) only [up2_x, upr_x]) (by first | rfl | simp (disch := omega) only [up2_x, upr_x]) (by first | rfl | simp (disch := omega) only [up2_x, upr_x])
set_option maxHeartbeats 4000000 in
theorem top_shut {c s T E : Nat} {L : List Int32} {C0 M0 C M : Mem} {v : Int32} (hcs : cs c s) (h : Top c s T E L C0 M0 C M) (hm : Md c C M) : Top c s T E L C0 M0 (up2 C c 36 v) (up2 M s 16 v) ∧ Md c (up2 C c 36 v) (up2 M s 16 v) := by
  refine ⟨?_, ?_⟩
  · refine ⟨⟨?_, ?_, ?_, ?_, ?_, ?_, ?_, ?_, ?_, ?_, ?_, ?_, ?_, ?_, ?_, ?_, ?_, ?_, ?_, ?_, ?_, ?_, ?_, ?_, ?_, ?_, ?_, ?_, ?_, ?_, ?_, ?_, ?_⟩, ⟨?_, ?_, ?_, ?_, ?_⟩⟩
    · exact rReg_fr h.reg (by intros; first | rfl | (simp (disch := omega) only [up2_x, upr_x])) (by intros; first | rfl | (simp (disch := omega) only [up2_x, upr_x]))
    · exact rDat_fr h.dat (by intros; first | rfl | (simp (disch := omega) only [up2_x, upr_x])) (by intros; first | rfl | (simp (disch := omega) only [up2_x, upr_x]))
    · exact rStk_fr h.stk (by intros; first | rfl | (simp (disch := omega) only [up2_x, upr_x])) (by intros; first | rfl | (simp (disch := omega) only [up2_x, upr_x]))
    · exact rFlt_fr h.flt (by intros; first | rfl | (simp (disch := omega) only [up2_x, upr_x])) (by intros; first | rfl | (simp (disch := omega) only [up2_x, upr_x]))
    · exact rZn_fr h.zn (by intros; first | rfl | (simp (disch := omega) only [up2_x, upr_x])) (by intros; first | rfl | (simp (disch := omega) only [up2_x, upr_x]))
    · exact rPc_fr h.pc (by intros; first | rfl | (simp (disch := omega) only [up2_x, upr_x])) (by intros; first | rfl | (simp (disch := omega) only [up2_x, upr_x]))
    · exact rSp_fr h.sp (by intros; first | rfl | (simp (disch := omega) only [up2_x, upr_x])) (by intros; first | rfl | (simp (disch := omega) only [up2_x, upr_x]))
    · unfold rShu
      simp (disch := omega) only [up2_x, up2_e, upr_x]
    · exact rBas_fr h.bas (by intros; first | rfl | (simp (disch := omega) only [up2_x, upr_x])) (by intros; first | rfl | (simp (disch := omega) only [up2_x, upr_x]))
    · exact rFls_fr h.fls (by intros; first | rfl | (simp (disch := omega) only [up2_x, upr_x])) (by intros; first | rfl | (simp (disch := omega) only [up2_x, upr_x]))
    · exact rLaz_fr h.laz (by intros; first | rfl | (simp (disch := omega) only [up2_x, upr_x])) (by intros; first | rfl | (simp (disch := omega) only [up2_x, upr_x]))
    · exact rPh_fr h.ph (by intros; first | rfl | (simp (disch := omega) only [up2_x, upr_x])) (by intros; first | rfl | (simp (disch := omega) only [up2_x, upr_x]))
    · exact rStp_fr h.stp (by intros; first | rfl | (simp (disch := omega) only [up2_x, upr_x])) (by intros; first | rfl | (simp (disch := omega) only [up2_x, upr_x]))
    · exact rStl_fr h.stl (by intros; first | rfl | (simp (disch := omega) only [up2_x, upr_x])) (by intros; first | rfl | (simp (disch := omega) only [up2_x, upr_x]))
    · exact rAsl_fr h.asl (by intros; first | rfl | (simp (disch := omega) only [up2_x, upr_x])) (by intros; first | rfl | (simp (disch := omega) only [up2_x, upr_x]))
    · exact rClk_fr h.clk (by intros; first | rfl | (simp (disch := omega) only [up2_x, upr_x])) (by intros; first | rfl | (simp (disch := omega) only [up2_x, upr_x]))
    · exact rPer_fr h.per (by intros; first | rfl | (simp (disch := omega) only [up2_x, upr_x])) (by intros; first | rfl | (simp (disch := omega) only [up2_x, upr_x]))
    · exact rTim_fr h.tim (by intros; first | rfl | (simp (disch := omega) only [up2_x, upr_x])) (by intros; first | rfl | (simp (disch := omega) only [up2_x, upr_x]))
    · exact rNst_fr h.nst (by intros; first | rfl | (simp (disch := omega) only [up2_x, upr_x])) (by intros; first | rfl | (simp (disch := omega) only [up2_x, upr_x])) (by intros; first | rfl | (simp (disch := omega) only [up2_x, upr_x])) (by intros; first | rfl | (simp (disch := omega) only [up2_x, upr_x])) (by intros; first | rfl | (simp (disch := omega) only [up2_x, upr_x])) (by intros; first | rfl | (simp (disch := omega) only [up2_x, upr_x]))
    · exact rDue_fr h.due (by intros; first | rfl | (simp (disch := omega) only [up2_x, upr_x])) (by intros; first | rfl | (simp (disch := omega) only [up2_x, upr_x])) (by intros; first | rfl | (simp (disch := omega) only [up2_x, upr_x])) (by intros; first | rfl | (simp (disch := omega) only [up2_x, upr_x])) (by intros; first | rfl | (simp (disch := omega) only [up2_x, upr_x]))
    · exact rRnk_fr h.rnk (by intros; first | rfl | (simp (disch := omega) only [up2_x, upr_x])) (by intros; first | rfl | (simp (disch := omega) only [up2_x, upr_x]))
    · exact rVec_fr h.vec (by intros; first | rfl | (simp (disch := omega) only [up2_x, upr_x])) (by intros; first | rfl | (simp (disch := omega) only [up2_x, upr_x]))
    · exact rEna_fr h.ena (by intros; first | rfl | (simp (disch := omega) only [up2_x, upr_x])) (by intros; first | rfl | (simp (disch := omega) only [up2_x, upr_x]))
    · exact rPnd_fr h.pnd (by intros; first | rfl | (simp (disch := omega) only [up2_x, upr_x])) (by intros; first | rfl | (simp (disch := omega) only [up2_x, upr_x]))
    · exact rAct_fr h.act (by intros; first | rfl | (simp (disch := omega) only [up2_x, upr_x])) (by intros; first | rfl | (simp (disch := omega) only [up2_x, upr_x])) (by intros; first | rfl | (simp (disch := omega) only [up2_x, upr_x]))
    · exact rHld_fr h.hld (by intros; first | rfl | (simp (disch := omega) only [up2_x, upr_x])) (by intros; first | rfl | (simp (disch := omega) only [up2_x, upr_x]))
    · exact rSpl_fr h.spl (by intros; first | rfl | (simp (disch := omega) only [up2_x, upr_x])) (by intros; first | rfl | (simp (disch := omega) only [up2_x, upr_x]))
    · exact rSta_fr h.sta (by intros; first | rfl | (simp (disch := omega) only [up2_x, upr_x])) (by intros; first | rfl | (simp (disch := omega) only [up2_x, upr_x]))
    · exact rSav_fr h.sav (by intros; first | rfl | (simp (disch := omega) only [up2_x, upr_x])) (by intros; first | rfl | (simp (disch := omega) only [up2_x, upr_x]))
    · exact rUns_fr h.uns (by intros; first | rfl | (simp (disch := omega) only [up2_x, upr_x])) (by intros; first | rfl | (simp (disch := omega) only [up2_x, upr_x])) (by intros; first | rfl | (simp (disch := omega) only [up2_x, upr_x]))
    · exact rCod_fr h.cod (by intros; first | rfl | (simp (disch := omega) only [up2_x, upr_x])) (by intros; first | rfl | (simp (disch := omega) only [up2_x, upr_x]))
    · exact rObs_fr (C := C) (M := M) h.obs (by intros; first | rfl | (simp (disch := omega) only [up2_x, upr_x])) (by intros; first | rfl | (simp (disch := omega) only [up2_x, upr_x]))
    · exact rMdc_fr (C := C) (M := M) h.mdc (by intros; first | rfl | (simp (disch := omega) only [up2_x, upr_x]))
    · exact rCnt_fr h.cnt (by intros; first | rfl | (simp (disch := omega) only [up2_x, upr_x])) (by intros; first | rfl | (simp (disch := omega) only [up2_x, upr_x]))
    · exact rOut_fr h.out (by intros; first | rfl | (simp (disch := omega) only [up2_x, upr_x])) (by intros; first | rfl | (simp (disch := omega) only [up2_x, upr_x])) (by intros; first | rfl | (simp (disch := omega) only [up2_x, upr_x])) (by intros; first | rfl | (simp (disch := omega) only [up2_x, upr_x]))
    · exact rEvt_fr h.evt (by intros; first | rfl | (simp (disch := omega) only [up2_x, upr_x])) (by intros; first | rfl | (simp (disch := omega) only [up2_x, upr_x])) (by intros; first | rfl | (simp (disch := omega) only [up2_x, upr_x])) (by intros; first | rfl | (simp (disch := omega) only [up2_x, upr_x]))
    · exact rWai_fr h.wai (by intros; first | rfl | (simp (disch := omega) only [up2_x, upr_x])) (by intros; first | rfl | (simp (disch := omega) only [up2_x, upr_x]))
    · exact rFrm_fr h.frm (by intros; first | rfl | (simp (disch := omega) only [up2_x, upr_x])) (by intros; first | rfl | (simp (disch := omega) only [up2_x, upr_x]))
  · exact Md_fr hm (by first | rfl | simp (disch := omega) only [up2_x, upr_x]) (by first | rfl | simp (disch := omega) only [up2_x, upr_x]) (by first | rfl | simp (disch := omega) only [up2_x, upr_x]) (by first | rfl | simp (disch := omega) only [up2_x, upr_x]) (by first | rfl | simp (disch := omega) only [up2_x, upr_x])
set_option maxHeartbeats 4000000 in
theorem top_base_ {c s T E : Nat} {L : List Int32} {C0 M0 C M : Mem} {p : Nat} (hcs : cs c s) (h : Top c s T E L C0 M0 C M) (hm : Md c C M) (hp : p ≤ 255) : Top c s T E L C0 M0 (up2 C c 35 (nI p)) (up2 M s 17 (nI p)) ∧ Md c (up2 C c 35 (nI p)) (up2 M s 17 (nI p)) := by
  refine ⟨?_, ?_⟩
  · refine ⟨⟨?_, ?_, ?_, ?_, ?_, ?_, ?_, ?_, ?_, ?_, ?_, ?_, ?_, ?_, ?_, ?_, ?_, ?_, ?_, ?_, ?_, ?_, ?_, ?_, ?_, ?_, ?_, ?_, ?_, ?_, ?_, ?_, ?_⟩, ⟨?_, ?_, ?_, ?_, ?_⟩⟩
    · exact rReg_fr h.reg (by intros; first | rfl | (simp (disch := omega) only [up2_x, upr_x])) (by intros; first | rfl | (simp (disch := omega) only [up2_x, upr_x]))
    · exact rDat_fr h.dat (by intros; first | rfl | (simp (disch := omega) only [up2_x, upr_x])) (by intros; first | rfl | (simp (disch := omega) only [up2_x, upr_x]))
    · exact rStk_fr h.stk (by intros; first | rfl | (simp (disch := omega) only [up2_x, upr_x])) (by intros; first | rfl | (simp (disch := omega) only [up2_x, upr_x]))
    · exact rFlt_fr h.flt (by intros; first | rfl | (simp (disch := omega) only [up2_x, upr_x])) (by intros; first | rfl | (simp (disch := omega) only [up2_x, upr_x]))
    · exact rZn_fr h.zn (by intros; first | rfl | (simp (disch := omega) only [up2_x, upr_x])) (by intros; first | rfl | (simp (disch := omega) only [up2_x, upr_x]))
    · exact rPc_fr h.pc (by intros; first | rfl | (simp (disch := omega) only [up2_x, upr_x])) (by intros; first | rfl | (simp (disch := omega) only [up2_x, upr_x]))
    · exact rSp_fr h.sp (by intros; first | rfl | (simp (disch := omega) only [up2_x, upr_x])) (by intros; first | rfl | (simp (disch := omega) only [up2_x, upr_x]))
    · exact rShu_fr h.shu (by intros; first | rfl | (simp (disch := omega) only [up2_x, upr_x])) (by intros; first | rfl | (simp (disch := omega) only [up2_x, upr_x]))
    · refine ⟨p, hp, ?_, ?_⟩
      · simp (disch := omega) only [up2_x, up2_e, upr_x]
      · simp (disch := omega) only [up2_x, up2_e, upr_x]
    · exact rFls_fr h.fls (by intros; first | rfl | (simp (disch := omega) only [up2_x, upr_x])) (by intros; first | rfl | (simp (disch := omega) only [up2_x, upr_x]))
    · exact rLaz_fr h.laz (by intros; first | rfl | (simp (disch := omega) only [up2_x, upr_x])) (by intros; first | rfl | (simp (disch := omega) only [up2_x, upr_x]))
    · exact rPh_fr h.ph (by intros; first | rfl | (simp (disch := omega) only [up2_x, upr_x])) (by intros; first | rfl | (simp (disch := omega) only [up2_x, upr_x]))
    · exact rStp_fr h.stp (by intros; first | rfl | (simp (disch := omega) only [up2_x, upr_x])) (by intros; first | rfl | (simp (disch := omega) only [up2_x, upr_x]))
    · exact rStl_fr h.stl (by intros; first | rfl | (simp (disch := omega) only [up2_x, upr_x])) (by intros; first | rfl | (simp (disch := omega) only [up2_x, upr_x]))
    · exact rAsl_fr h.asl (by intros; first | rfl | (simp (disch := omega) only [up2_x, upr_x])) (by intros; first | rfl | (simp (disch := omega) only [up2_x, upr_x]))
    · exact rClk_fr h.clk (by intros; first | rfl | (simp (disch := omega) only [up2_x, upr_x])) (by intros; first | rfl | (simp (disch := omega) only [up2_x, upr_x]))
    · exact rPer_fr h.per (by intros; first | rfl | (simp (disch := omega) only [up2_x, upr_x])) (by intros; first | rfl | (simp (disch := omega) only [up2_x, upr_x]))
    · exact rTim_fr h.tim (by intros; first | rfl | (simp (disch := omega) only [up2_x, upr_x])) (by intros; first | rfl | (simp (disch := omega) only [up2_x, upr_x]))
    · exact rNst_fr h.nst (by intros; first | rfl | (simp (disch := omega) only [up2_x, upr_x])) (by intros; first | rfl | (simp (disch := omega) only [up2_x, upr_x])) (by intros; first | rfl | (simp (disch := omega) only [up2_x, upr_x])) (by intros; first | rfl | (simp (disch := omega) only [up2_x, upr_x])) (by intros; first | rfl | (simp (disch := omega) only [up2_x, upr_x])) (by intros; first | rfl | (simp (disch := omega) only [up2_x, upr_x]))
    · exact rDue_fr h.due (by intros; first | rfl | (simp (disch := omega) only [up2_x, upr_x])) (by intros; first | rfl | (simp (disch := omega) only [up2_x, upr_x])) (by intros; first | rfl | (simp (disch := omega) only [up2_x, upr_x])) (by intros; first | rfl | (simp (disch := omega) only [up2_x, upr_x])) (by intros; first | rfl | (simp (disch := omega) only [up2_x, upr_x]))
    · exact rRnk_fr h.rnk (by intros; first | rfl | (simp (disch := omega) only [up2_x, upr_x])) (by intros; first | rfl | (simp (disch := omega) only [up2_x, upr_x]))
    · exact rVec_fr h.vec (by intros; first | rfl | (simp (disch := omega) only [up2_x, upr_x])) (by intros; first | rfl | (simp (disch := omega) only [up2_x, upr_x]))
    · exact rEna_fr h.ena (by intros; first | rfl | (simp (disch := omega) only [up2_x, upr_x])) (by intros; first | rfl | (simp (disch := omega) only [up2_x, upr_x]))
    · exact rPnd_fr h.pnd (by intros; first | rfl | (simp (disch := omega) only [up2_x, upr_x])) (by intros; first | rfl | (simp (disch := omega) only [up2_x, upr_x]))
    · exact rAct_fr h.act (by intros; first | rfl | (simp (disch := omega) only [up2_x, upr_x])) (by intros; first | rfl | (simp (disch := omega) only [up2_x, upr_x])) (by intros; first | rfl | (simp (disch := omega) only [up2_x, upr_x]))
    · exact rHld_fr h.hld (by intros; first | rfl | (simp (disch := omega) only [up2_x, upr_x])) (by intros; first | rfl | (simp (disch := omega) only [up2_x, upr_x]))
    · exact rSpl_fr h.spl (by intros; first | rfl | (simp (disch := omega) only [up2_x, upr_x])) (by intros; first | rfl | (simp (disch := omega) only [up2_x, upr_x]))
    · exact rSta_fr h.sta (by intros; first | rfl | (simp (disch := omega) only [up2_x, upr_x])) (by intros; first | rfl | (simp (disch := omega) only [up2_x, upr_x]))
    · exact rSav_fr h.sav (by intros; first | rfl | (simp (disch := omega) only [up2_x, upr_x])) (by intros; first | rfl | (simp (disch := omega) only [up2_x, upr_x]))
    · exact rUns_fr h.uns (by intros; first | rfl | (simp (disch := omega) only [up2_x, upr_x])) (by intros; first | rfl | (simp (disch := omega) only [up2_x, upr_x])) (by intros; first | rfl | (simp (disch := omega) only [up2_x, upr_x]))
    · exact rCod_fr h.cod (by intros; first | rfl | (simp (disch := omega) only [up2_x, upr_x])) (by intros; first | rfl | (simp (disch := omega) only [up2_x, upr_x]))
    · exact rObs_fr (C := C) (M := M) h.obs (by intros; first | rfl | (simp (disch := omega) only [up2_x, upr_x])) (by intros; first | rfl | (simp (disch := omega) only [up2_x, upr_x]))
    · exact rMdc_fr (C := C) (M := M) h.mdc (by intros; first | rfl | (simp (disch := omega) only [up2_x, upr_x]))
    · exact rCnt_fr h.cnt (by intros; first | rfl | (simp (disch := omega) only [up2_x, upr_x])) (by intros; first | rfl | (simp (disch := omega) only [up2_x, upr_x]))
    · exact rOut_fr h.out (by intros; first | rfl | (simp (disch := omega) only [up2_x, upr_x])) (by intros; first | rfl | (simp (disch := omega) only [up2_x, upr_x])) (by intros; first | rfl | (simp (disch := omega) only [up2_x, upr_x])) (by intros; first | rfl | (simp (disch := omega) only [up2_x, upr_x]))
    · exact rEvt_fr h.evt (by intros; first | rfl | (simp (disch := omega) only [up2_x, upr_x])) (by intros; first | rfl | (simp (disch := omega) only [up2_x, upr_x])) (by intros; first | rfl | (simp (disch := omega) only [up2_x, upr_x])) (by intros; first | rfl | (simp (disch := omega) only [up2_x, upr_x]))
    · exact rWai_fr h.wai (by intros; first | rfl | (simp (disch := omega) only [up2_x, upr_x])) (by intros; first | rfl | (simp (disch := omega) only [up2_x, upr_x]))
    · exact rFrm_fr h.frm (by intros; first | rfl | (simp (disch := omega) only [up2_x, upr_x])) (by intros; first | rfl | (simp (disch := omega) only [up2_x, upr_x]))
  · exact Md_fr hm (by first | rfl | simp (disch := omega) only [up2_x, upr_x]) (by first | rfl | simp (disch := omega) only [up2_x, upr_x]) (by first | rfl | simp (disch := omega) only [up2_x, upr_x]) (by first | rfl | simp (disch := omega) only [up2_x, upr_x]) (by first | rfl | simp (disch := omega) only [up2_x, upr_x])
set_option maxHeartbeats 4000000 in
theorem top_asl {c s T E : Nat} {L : List Int32} {C0 M0 C M : Mem} {v : Int32} (hcs : cs c s) (h : Top c s T E L C0 M0 C M) (hm : Md c C M) (hv : isB v = true) : Top c s T E L C0 M0 (up2 C c 44 v) (up2 M s 23 v) ∧ Md c (up2 C c 44 v) (up2 M s 23 v) := by
  refine ⟨?_, ?_⟩
  · refine ⟨⟨?_, ?_, ?_, ?_, ?_, ?_, ?_, ?_, ?_, ?_, ?_, ?_, ?_, ?_, ?_, ?_, ?_, ?_, ?_, ?_, ?_, ?_, ?_, ?_, ?_, ?_, ?_, ?_, ?_, ?_, ?_, ?_, ?_⟩, ⟨?_, ?_, ?_, ?_, ?_⟩⟩
    · exact rReg_fr h.reg (by intros; first | rfl | (simp (disch := omega) only [up2_x, upr_x])) (by intros; first | rfl | (simp (disch := omega) only [up2_x, upr_x]))
    · exact rDat_fr h.dat (by intros; first | rfl | (simp (disch := omega) only [up2_x, upr_x])) (by intros; first | rfl | (simp (disch := omega) only [up2_x, upr_x]))
    · exact rStk_fr h.stk (by intros; first | rfl | (simp (disch := omega) only [up2_x, upr_x])) (by intros; first | rfl | (simp (disch := omega) only [up2_x, upr_x]))
    · exact rFlt_fr h.flt (by intros; first | rfl | (simp (disch := omega) only [up2_x, upr_x])) (by intros; first | rfl | (simp (disch := omega) only [up2_x, upr_x]))
    · exact rZn_fr h.zn (by intros; first | rfl | (simp (disch := omega) only [up2_x, upr_x])) (by intros; first | rfl | (simp (disch := omega) only [up2_x, upr_x]))
    · exact rPc_fr h.pc (by intros; first | rfl | (simp (disch := omega) only [up2_x, upr_x])) (by intros; first | rfl | (simp (disch := omega) only [up2_x, upr_x]))
    · exact rSp_fr h.sp (by intros; first | rfl | (simp (disch := omega) only [up2_x, upr_x])) (by intros; first | rfl | (simp (disch := omega) only [up2_x, upr_x]))
    · exact rShu_fr h.shu (by intros; first | rfl | (simp (disch := omega) only [up2_x, upr_x])) (by intros; first | rfl | (simp (disch := omega) only [up2_x, upr_x]))
    · exact rBas_fr h.bas (by intros; first | rfl | (simp (disch := omega) only [up2_x, upr_x])) (by intros; first | rfl | (simp (disch := omega) only [up2_x, upr_x]))
    · exact rFls_fr h.fls (by intros; first | rfl | (simp (disch := omega) only [up2_x, upr_x])) (by intros; first | rfl | (simp (disch := omega) only [up2_x, upr_x]))
    · exact rLaz_fr h.laz (by intros; first | rfl | (simp (disch := omega) only [up2_x, upr_x])) (by intros; first | rfl | (simp (disch := omega) only [up2_x, upr_x]))
    · exact rPh_fr h.ph (by intros; first | rfl | (simp (disch := omega) only [up2_x, upr_x])) (by intros; first | rfl | (simp (disch := omega) only [up2_x, upr_x]))
    · exact rStp_fr h.stp (by intros; first | rfl | (simp (disch := omega) only [up2_x, upr_x])) (by intros; first | rfl | (simp (disch := omega) only [up2_x, upr_x]))
    · exact rStl_fr h.stl (by intros; first | rfl | (simp (disch := omega) only [up2_x, upr_x])) (by intros; first | rfl | (simp (disch := omega) only [up2_x, upr_x]))
    · refine ⟨?_, ?_⟩
      · simp (disch := omega) only [up2_x, up2_e, upr_x]
      · simp (disch := omega) only [up2_x, up2_e, upr_x]; exact hv
    · exact rClk_fr h.clk (by intros; first | rfl | (simp (disch := omega) only [up2_x, upr_x])) (by intros; first | rfl | (simp (disch := omega) only [up2_x, upr_x]))
    · exact rPer_fr h.per (by intros; first | rfl | (simp (disch := omega) only [up2_x, upr_x])) (by intros; first | rfl | (simp (disch := omega) only [up2_x, upr_x]))
    · exact rTim_fr h.tim (by intros; first | rfl | (simp (disch := omega) only [up2_x, upr_x])) (by intros; first | rfl | (simp (disch := omega) only [up2_x, upr_x]))
    · exact rNst_fr h.nst (by intros; first | rfl | (simp (disch := omega) only [up2_x, upr_x])) (by intros; first | rfl | (simp (disch := omega) only [up2_x, upr_x])) (by intros; first | rfl | (simp (disch := omega) only [up2_x, upr_x])) (by intros; first | rfl | (simp (disch := omega) only [up2_x, upr_x])) (by intros; first | rfl | (simp (disch := omega) only [up2_x, upr_x])) (by intros; first | rfl | (simp (disch := omega) only [up2_x, upr_x]))
    · exact rDue_fr h.due (by intros; first | rfl | (simp (disch := omega) only [up2_x, upr_x])) (by intros; first | rfl | (simp (disch := omega) only [up2_x, upr_x])) (by intros; first | rfl | (simp (disch := omega) only [up2_x, upr_x])) (by intros; first | rfl | (simp (disch := omega) only [up2_x, upr_x])) (by intros; first | rfl | (simp (disch := omega) only [up2_x, upr_x]))
    · exact rRnk_fr h.rnk (by intros; first | rfl | (simp (disch := omega) only [up2_x, upr_x])) (by intros; first | rfl | (simp (disch := omega) only [up2_x, upr_x]))
    · exact rVec_fr h.vec (by intros; first | rfl | (simp (disch := omega) only [up2_x, upr_x])) (by intros; first | rfl | (simp (disch := omega) only [up2_x, upr_x]))
    · exact rEna_fr h.ena (by intros; first | rfl | (simp (disch := omega) only [up2_x, upr_x])) (by intros; first | rfl | (simp (disch := omega) only [up2_x, upr_x]))
    · exact rPnd_fr h.pnd (by intros; first | rfl | (simp (disch := omega) only [up2_x, upr_x])) (by intros; first | rfl | (simp (disch := omega) only [up2_x, upr_x]))
    · exact rAct_fr h.act (by intros; first | rfl | (simp (disch := omega) only [up2_x, upr_x])) (by intros; first | rfl | (simp (disch := omega) only [up2_x, upr_x])) (by intros; first | rfl | (simp (disch := omega) only [up2_x, upr_x]))
    · exact rHld_fr h.hld (by intros; first | rfl | (simp (disch := omega) only [up2_x, upr_x])) (by intros; first | rfl | (simp (disch := omega) only [up2_x, upr_x]))
    · exact rSpl_fr h.spl (by intros; first | rfl | (simp (disch := omega) only [up2_x, upr_x])) (by intros; first | rfl | (simp (disch := omega) only [up2_x, upr_x]))
    · exact rSta_fr h.sta (by intros; first | rfl | (simp (disch := omega) only [up2_x, upr_x])) (by intros; first | rfl | (simp (disch := omega) only [up2_x, upr_x]))
    · exact rSav_fr h.sav (by intros; first | rfl | (simp (disch := omega) only [up2_x, upr_x])) (by intros; first | rfl | (simp (disch := omega) only [up2_x, upr_x]))
    · exact rUns_fr h.uns (by intros; first | rfl | (simp (disch := omega) only [up2_x, upr_x])) (by intros; first | rfl | (simp (disch := omega) only [up2_x, upr_x])) (by intros; first | rfl | (simp (disch := omega) only [up2_x, upr_x]))
    · exact rCod_fr h.cod (by intros; first | rfl | (simp (disch := omega) only [up2_x, upr_x])) (by intros; first | rfl | (simp (disch := omega) only [up2_x, upr_x]))
    · exact rObs_fr (C := C) (M := M) h.obs (by intros; first | rfl | (simp (disch := omega) only [up2_x, upr_x])) (by intros; first | rfl | (simp (disch := omega) only [up2_x, upr_x]))
    · exact rMdc_fr (C := C) (M := M) h.mdc (by intros; first | rfl | (simp (disch := omega) only [up2_x, upr_x]))
    · exact rCnt_fr h.cnt (by intros; first | rfl | (simp (disch := omega) only [up2_x, upr_x])) (by intros; first | rfl | (simp (disch := omega) only [up2_x, upr_x]))
    · exact rOut_fr h.out (by intros; first | rfl | (simp (disch := omega) only [up2_x, upr_x])) (by intros; first | rfl | (simp (disch := omega) only [up2_x, upr_x])) (by intros; first | rfl | (simp (disch := omega) only [up2_x, upr_x])) (by intros; first | rfl | (simp (disch := omega) only [up2_x, upr_x]))
    · exact rEvt_fr h.evt (by intros; first | rfl | (simp (disch := omega) only [up2_x, upr_x])) (by intros; first | rfl | (simp (disch := omega) only [up2_x, upr_x])) (by intros; first | rfl | (simp (disch := omega) only [up2_x, upr_x])) (by intros; first | rfl | (simp (disch := omega) only [up2_x, upr_x]))
    · exact rWai_fr h.wai (by intros; first | rfl | (simp (disch := omega) only [up2_x, upr_x])) (by intros; first | rfl | (simp (disch := omega) only [up2_x, upr_x]))
    · exact rFrm_fr h.frm (by intros; first | rfl | (simp (disch := omega) only [up2_x, upr_x])) (by intros; first | rfl | (simp (disch := omega) only [up2_x, upr_x]))
  · exact Md_fr hm (by first | rfl | simp (disch := omega) only [up2_x, upr_x]) (by first | rfl | simp (disch := omega) only [up2_x, upr_x]) (by first | rfl | simp (disch := omega) only [up2_x, upr_x]) (by first | rfl | simp (disch := omega) only [up2_x, upr_x]) (by first | rfl | simp (disch := omega) only [up2_x, upr_x])
set_option maxHeartbeats 4000000 in
theorem top_fls {c s T E : Nat} {L : List Int32} {C0 M0 C M : Mem} {v : Int32} (hcs : cs c s) (h : Top c s T E L C0 M0 C M) (hm : Md c C M) : Top c s T E L C0 M0 (up2 C c 45 v) (up2 M s 18 v) ∧ Md c (up2 C c 45 v) (up2 M s 18 v) := by
  refine ⟨?_, ?_⟩
  · refine ⟨⟨?_, ?_, ?_, ?_, ?_, ?_, ?_, ?_, ?_, ?_, ?_, ?_, ?_, ?_, ?_, ?_, ?_, ?_, ?_, ?_, ?_, ?_, ?_, ?_, ?_, ?_, ?_, ?_, ?_, ?_, ?_, ?_, ?_⟩, ⟨?_, ?_, ?_, ?_, ?_⟩⟩
    · exact rReg_fr h.reg (by intros; first | rfl | (simp (disch := omega) only [up2_x, upr_x])) (by intros; first | rfl | (simp (disch := omega) only [up2_x, upr_x]))
    · exact rDat_fr h.dat (by intros; first | rfl | (simp (disch := omega) only [up2_x, upr_x])) (by intros; first | rfl | (simp (disch := omega) only [up2_x, upr_x]))
    · exact rStk_fr h.stk (by intros; first | rfl | (simp (disch := omega) only [up2_x, upr_x])) (by intros; first | rfl | (simp (disch := omega) only [up2_x, upr_x]))
    · exact rFlt_fr h.flt (by intros; first | rfl | (simp (disch := omega) only [up2_x, upr_x])) (by intros; first | rfl | (simp (disch := omega) only [up2_x, upr_x]))
    · exact rZn_fr h.zn (by intros; first | rfl | (simp (disch := omega) only [up2_x, upr_x])) (by intros; first | rfl | (simp (disch := omega) only [up2_x, upr_x]))
    · exact rPc_fr h.pc (by intros; first | rfl | (simp (disch := omega) only [up2_x, upr_x])) (by intros; first | rfl | (simp (disch := omega) only [up2_x, upr_x]))
    · exact rSp_fr h.sp (by intros; first | rfl | (simp (disch := omega) only [up2_x, upr_x])) (by intros; first | rfl | (simp (disch := omega) only [up2_x, upr_x]))
    · exact rShu_fr h.shu (by intros; first | rfl | (simp (disch := omega) only [up2_x, upr_x])) (by intros; first | rfl | (simp (disch := omega) only [up2_x, upr_x]))
    · exact rBas_fr h.bas (by intros; first | rfl | (simp (disch := omega) only [up2_x, upr_x])) (by intros; first | rfl | (simp (disch := omega) only [up2_x, upr_x]))
    · unfold rFls
      simp (disch := omega) only [up2_x, up2_e, upr_x]
    · exact rLaz_fr h.laz (by intros; first | rfl | (simp (disch := omega) only [up2_x, upr_x])) (by intros; first | rfl | (simp (disch := omega) only [up2_x, upr_x]))
    · exact rPh_fr h.ph (by intros; first | rfl | (simp (disch := omega) only [up2_x, upr_x])) (by intros; first | rfl | (simp (disch := omega) only [up2_x, upr_x]))
    · exact rStp_fr h.stp (by intros; first | rfl | (simp (disch := omega) only [up2_x, upr_x])) (by intros; first | rfl | (simp (disch := omega) only [up2_x, upr_x]))
    · exact rStl_fr h.stl (by intros; first | rfl | (simp (disch := omega) only [up2_x, upr_x])) (by intros; first | rfl | (simp (disch := omega) only [up2_x, upr_x]))
    · exact rAsl_fr h.asl (by intros; first | rfl | (simp (disch := omega) only [up2_x, upr_x])) (by intros; first | rfl | (simp (disch := omega) only [up2_x, upr_x]))
    · exact rClk_fr h.clk (by intros; first | rfl | (simp (disch := omega) only [up2_x, upr_x])) (by intros; first | rfl | (simp (disch := omega) only [up2_x, upr_x]))
    · exact rPer_fr h.per (by intros; first | rfl | (simp (disch := omega) only [up2_x, upr_x])) (by intros; first | rfl | (simp (disch := omega) only [up2_x, upr_x]))
    · exact rTim_fr h.tim (by intros; first | rfl | (simp (disch := omega) only [up2_x, upr_x])) (by intros; first | rfl | (simp (disch := omega) only [up2_x, upr_x]))
    · exact rNst_fr h.nst (by intros; first | rfl | (simp (disch := omega) only [up2_x, upr_x])) (by intros; first | rfl | (simp (disch := omega) only [up2_x, upr_x])) (by intros; first | rfl | (simp (disch := omega) only [up2_x, upr_x])) (by intros; first | rfl | (simp (disch := omega) only [up2_x, upr_x])) (by intros; first | rfl | (simp (disch := omega) only [up2_x, upr_x])) (by intros; first | rfl | (simp (disch := omega) only [up2_x, upr_x]))
    · exact rDue_fr h.due (by intros; first | rfl | (simp (disch := omega) only [up2_x, upr_x])) (by intros; first | rfl | (simp (disch := omega) only [up2_x, upr_x])) (by intros; first | rfl | (simp (disch := omega) only [up2_x, upr_x])) (by intros; first | rfl | (simp (disch := omega) only [up2_x, upr_x])) (by intros; first | rfl | (simp (disch := omega) only [up2_x, upr_x]))
    · exact rRnk_fr h.rnk (by intros; first | rfl | (simp (disch := omega) only [up2_x, upr_x])) (by intros; first | rfl | (simp (disch := omega) only [up2_x, upr_x]))
    · exact rVec_fr h.vec (by intros; first | rfl | (simp (disch := omega) only [up2_x, upr_x])) (by intros; first | rfl | (simp (disch := omega) only [up2_x, upr_x]))
    · exact rEna_fr h.ena (by intros; first | rfl | (simp (disch := omega) only [up2_x, upr_x])) (by intros; first | rfl | (simp (disch := omega) only [up2_x, upr_x]))
    · exact rPnd_fr h.pnd (by intros; first | rfl | (simp (disch := omega) only [up2_x, upr_x])) (by intros; first | rfl | (simp (disch := omega) only [up2_x, upr_x]))
    · exact rAct_fr h.act (by intros; first | rfl | (simp (disch := omega) only [up2_x, upr_x])) (by intros; first | rfl | (simp (disch := omega) only [up2_x, upr_x])) (by intros; first | rfl | (simp (disch := omega) only [up2_x, upr_x]))
    · exact rHld_fr h.hld (by intros; first | rfl | (simp (disch := omega) only [up2_x, upr_x])) (by intros; first | rfl | (simp (disch := omega) only [up2_x, upr_x]))
    · exact rSpl_fr h.spl (by intros; first | rfl | (simp (disch := omega) only [up2_x, upr_x])) (by intros; first | rfl | (simp (disch := omega) only [up2_x, upr_x]))
    · exact rSta_fr h.sta (by intros; first | rfl | (simp (disch := omega) only [up2_x, upr_x])) (by intros; first | rfl | (simp (disch := omega) only [up2_x, upr_x]))
    · exact rSav_fr h.sav (by intros; first | rfl | (simp (disch := omega) only [up2_x, upr_x])) (by intros; first | rfl | (simp (disch := omega) only [up2_x, upr_x]))
    · exact rUns_fr h.uns (by intros; first | rfl | (simp (disch := omega) only [up2_x, upr_x])) (by intros; first | rfl | (simp (disch := omega) only [up2_x, upr_x])) (by intros; first | rfl | (simp (disch := omega) only [up2_x, upr_x]))
    · exact rCod_fr h.cod (by intros; first | rfl | (simp (disch := omega) only [up2_x, upr_x])) (by intros; first | rfl | (simp (disch := omega) only [up2_x, upr_x]))
    · exact rObs_fr (C := C) (M := M) h.obs (by intros; first | rfl | (simp (disch := omega) only [up2_x, upr_x])) (by intros; first | rfl | (simp (disch := omega) only [up2_x, upr_x]))
    · exact rMdc_fr (C := C) (M := M) h.mdc (by intros; first | rfl | (simp (disch := omega) only [up2_x, upr_x]))
    · exact rCnt_fr h.cnt (by intros; first | rfl | (simp (disch := omega) only [up2_x, upr_x])) (by intros; first | rfl | (simp (disch := omega) only [up2_x, upr_x]))
    · exact rOut_fr h.out (by intros; first | rfl | (simp (disch := omega) only [up2_x, upr_x])) (by intros; first | rfl | (simp (disch := omega) only [up2_x, upr_x])) (by intros; first | rfl | (simp (disch := omega) only [up2_x, upr_x])) (by intros; first | rfl | (simp (disch := omega) only [up2_x, upr_x]))
    · exact rEvt_fr h.evt (by intros; first | rfl | (simp (disch := omega) only [up2_x, upr_x])) (by intros; first | rfl | (simp (disch := omega) only [up2_x, upr_x])) (by intros; first | rfl | (simp (disch := omega) only [up2_x, upr_x])) (by intros; first | rfl | (simp (disch := omega) only [up2_x, upr_x]))
    · exact rWai_fr h.wai (by intros; first | rfl | (simp (disch := omega) only [up2_x, upr_x])) (by intros; first | rfl | (simp (disch := omega) only [up2_x, upr_x]))
    · exact rFrm_fr h.frm (by intros; first | rfl | (simp (disch := omega) only [up2_x, upr_x])) (by intros; first | rfl | (simp (disch := omega) only [up2_x, upr_x]))
  · exact Md_fr hm (by first | rfl | simp (disch := omega) only [up2_x, upr_x]) (by first | rfl | simp (disch := omega) only [up2_x, upr_x]) (by first | rfl | simp (disch := omega) only [up2_x, upr_x]) (by first | rfl | simp (disch := omega) only [up2_x, upr_x]) (by first | rfl | simp (disch := omega) only [up2_x, upr_x])
set_option maxHeartbeats 4000000 in
theorem top_drop {c s T E : Nat} {L : List Int32} {C0 M0 C M : Mem} {k : Nat} (hcs : cs c s) (h : Top c s T E L C0 M0 C M) (hm : Md c C M) (hk : k < 21) : Top c s T E L C0 M0 (up2 C (c + 22 + k) 4 0) (up2 M s (194 + k) (-1)) ∧ Md c (up2 C (c + 22 + k) 4 0) (up2 M s (194 + k) (-1)) := by
  refine ⟨?_, ?_⟩
  · refine ⟨⟨?_, ?_, ?_, ?_, ?_, ?_, ?_, ?_, ?_, ?_, ?_, ?_, ?_, ?_, ?_, ?_, ?_, ?_, ?_, ?_, ?_, ?_, ?_, ?_, ?_, ?_, ?_, ?_, ?_, ?_, ?_, ?_, ?_⟩, ⟨?_, ?_, ?_, ?_, ?_⟩⟩
    · exact rReg_fr h.reg (by intros; first | rfl | (simp (disch := omega) only [up2_x, upr_x])) (by intros; first | rfl | (simp (disch := omega) only [up2_x, upr_x]))
    · exact rDat_fr h.dat (by intros; first | rfl | (simp (disch := omega) only [up2_x, upr_x])) (by intros; first | rfl | (simp (disch := omega) only [up2_x, upr_x]))
    · exact rStk_fr h.stk (by intros; first | rfl | (simp (disch := omega) only [up2_x, upr_x])) (by intros; first | rfl | (simp (disch := omega) only [up2_x, upr_x]))
    · exact rFlt_fr h.flt (by intros; first | rfl | (simp (disch := omega) only [up2_x, upr_x])) (by intros; first | rfl | (simp (disch := omega) only [up2_x, upr_x]))
    · exact rZn_fr h.zn (by intros; first | rfl | (simp (disch := omega) only [up2_x, upr_x])) (by intros; first | rfl | (simp (disch := omega) only [up2_x, upr_x]))
    · exact rPc_fr h.pc (by intros; first | rfl | (simp (disch := omega) only [up2_x, upr_x])) (by intros; first | rfl | (simp (disch := omega) only [up2_x, upr_x]))
    · exact rSp_fr h.sp (by intros; first | rfl | (simp (disch := omega) only [up2_x, upr_x])) (by intros; first | rfl | (simp (disch := omega) only [up2_x, upr_x]))
    · exact rShu_fr h.shu (by intros; first | rfl | (simp (disch := omega) only [up2_x, upr_x])) (by intros; first | rfl | (simp (disch := omega) only [up2_x, upr_x]))
    · exact rBas_fr h.bas (by intros; first | rfl | (simp (disch := omega) only [up2_x, upr_x])) (by intros; first | rfl | (simp (disch := omega) only [up2_x, upr_x]))
    · exact rFls_fr h.fls (by intros; first | rfl | (simp (disch := omega) only [up2_x, upr_x])) (by intros; first | rfl | (simp (disch := omega) only [up2_x, upr_x]))
    · exact rLaz_fr h.laz (by intros; first | rfl | (simp (disch := omega) only [up2_x, upr_x])) (by intros; first | rfl | (simp (disch := omega) only [up2_x, upr_x]))
    · exact rPh_fr h.ph (by intros; first | rfl | (simp (disch := omega) only [up2_x, upr_x])) (by intros; first | rfl | (simp (disch := omega) only [up2_x, upr_x]))
    · exact rStp_fr h.stp (by intros; first | rfl | (simp (disch := omega) only [up2_x, upr_x])) (by intros; first | rfl | (simp (disch := omega) only [up2_x, upr_x]))
    · exact rStl_fr h.stl (by intros; first | rfl | (simp (disch := omega) only [up2_x, upr_x])) (by intros; first | rfl | (simp (disch := omega) only [up2_x, upr_x]))
    · exact rAsl_fr h.asl (by intros; first | rfl | (simp (disch := omega) only [up2_x, upr_x])) (by intros; first | rfl | (simp (disch := omega) only [up2_x, upr_x]))
    · exact rClk_fr h.clk (by intros; first | rfl | (simp (disch := omega) only [up2_x, upr_x])) (by intros; first | rfl | (simp (disch := omega) only [up2_x, upr_x]))
    · exact rPer_fr h.per (by intros; first | rfl | (simp (disch := omega) only [up2_x, upr_x])) (by intros; first | rfl | (simp (disch := omega) only [up2_x, upr_x]))
    · exact rTim_fr h.tim (by intros; first | rfl | (simp (disch := omega) only [up2_x, upr_x])) (by intros; first | rfl | (simp (disch := omega) only [up2_x, upr_x]))
    · exact rNst_fr h.nst (by intros; first | rfl | (simp (disch := omega) only [up2_x, upr_x])) (by intros; first | rfl | (simp (disch := omega) only [up2_x, upr_x])) (by intros; first | rfl | (simp (disch := omega) only [up2_x, upr_x])) (by intros; first | rfl | (simp (disch := omega) only [up2_x, upr_x])) (by intros; first | rfl | (simp (disch := omega) only [up2_x, upr_x])) (by intros; first | rfl | (simp (disch := omega) only [up2_x, upr_x]))
    · exact rDue_fr h.due (by intros; first | rfl | (simp (disch := omega) only [up2_x, upr_x])) (by intros; first | rfl | (simp (disch := omega) only [up2_x, upr_x])) (by intros; first | rfl | (simp (disch := omega) only [up2_x, upr_x])) (by intros; first | rfl | (simp (disch := omega) only [up2_x, upr_x])) (by intros; first | rfl | (simp (disch := omega) only [up2_x, upr_x]))
    · exact rRnk_fr h.rnk (by intros; first | rfl | (simp (disch := omega) only [up2_x, upr_x])) (by intros; first | rfl | (simp (disch := omega) only [up2_x, upr_x]))
    · exact rVec_fr h.vec (by intros; first | rfl | (simp (disch := omega) only [up2_x, upr_x])) (by intros; first | rfl | (simp (disch := omega) only [up2_x, upr_x]))
    · exact rEna_fr h.ena (by intros; first | rfl | (simp (disch := omega) only [up2_x, upr_x])) (by intros; first | rfl | (simp (disch := omega) only [up2_x, upr_x]))
    · intro j hj
      by_cases e : j = k
      · subst e
        refine Or.inl ⟨?_, ?_⟩
        · simp (disch := omega) only [up2_x, up2_e, upr_x]
        · simp (disch := omega) only [up2_x, up2_e, upr_x]
      · simp (disch := omega) only [up2_x, upr_x]
        exact h.pnd j hj
    · exact rAct_fr h.act (by intros; first | rfl | (simp (disch := omega) only [up2_x, upr_x])) (by intros; first | rfl | (simp (disch := omega) only [up2_x, upr_x])) (by intros; first | rfl | (simp (disch := omega) only [up2_x, upr_x]))
    · exact rHld_fr h.hld (by intros; first | rfl | (simp (disch := omega) only [up2_x, upr_x])) (by intros; first | rfl | (simp (disch := omega) only [up2_x, upr_x]))
    · exact rSpl_fr h.spl (by intros; first | rfl | (simp (disch := omega) only [up2_x, upr_x])) (by intros; first | rfl | (simp (disch := omega) only [up2_x, upr_x]))
    · exact rSta_fr h.sta (by intros; first | rfl | (simp (disch := omega) only [up2_x, upr_x])) (by intros; first | rfl | (simp (disch := omega) only [up2_x, upr_x]))
    · exact rSav_fr h.sav (by intros; first | rfl | (simp (disch := omega) only [up2_x, upr_x])) (by intros; first | rfl | (simp (disch := omega) only [up2_x, upr_x]))
    · exact rUns_fr h.uns (by intros; first | rfl | (simp (disch := omega) only [up2_x, upr_x])) (by intros; first | rfl | (simp (disch := omega) only [up2_x, upr_x])) (by intros; first | rfl | (simp (disch := omega) only [up2_x, upr_x]))
    · exact rCod_fr h.cod (by intros; first | rfl | (simp (disch := omega) only [up2_x, upr_x])) (by intros; first | rfl | (simp (disch := omega) only [up2_x, upr_x]))
    · exact rObs_fr (C := C) (M := M) h.obs (by intros; first | rfl | (simp (disch := omega) only [up2_x, upr_x])) (by intros; first | rfl | (simp (disch := omega) only [up2_x, upr_x]))
    · exact rMdc_fr (C := C) (M := M) h.mdc (by intros; first | rfl | (simp (disch := omega) only [up2_x, upr_x]))
    · exact rCnt_fr h.cnt (by intros; first | rfl | (simp (disch := omega) only [up2_x, upr_x])) (by intros; first | rfl | (simp (disch := omega) only [up2_x, upr_x]))
    · exact rOut_fr h.out (by intros; first | rfl | (simp (disch := omega) only [up2_x, upr_x])) (by intros; first | rfl | (simp (disch := omega) only [up2_x, upr_x])) (by intros; first | rfl | (simp (disch := omega) only [up2_x, upr_x])) (by intros; first | rfl | (simp (disch := omega) only [up2_x, upr_x]))
    · exact rEvt_fr h.evt (by intros; first | rfl | (simp (disch := omega) only [up2_x, upr_x])) (by intros; first | rfl | (simp (disch := omega) only [up2_x, upr_x])) (by intros; first | rfl | (simp (disch := omega) only [up2_x, upr_x])) (by intros; first | rfl | (simp (disch := omega) only [up2_x, upr_x]))
    · exact rWai_fr h.wai (by intros; first | rfl | (simp (disch := omega) only [up2_x, upr_x])) (by intros; first | rfl | (simp (disch := omega) only [up2_x, upr_x]))
    · exact rFrm_fr h.frm (by intros; first | rfl | (simp (disch := omega) only [up2_x, upr_x])) (by intros; first | rfl | (simp (disch := omega) only [up2_x, upr_x]))
  · exact Md_fr hm (by first | rfl | simp (disch := omega) only [up2_x, upr_x]) (by first | rfl | simp (disch := omega) only [up2_x, upr_x]) (by first | rfl | simp (disch := omega) only [up2_x, upr_x]) (by first | rfl | simp (disch := omega) only [up2_x, upr_x]) (by first | rfl | simp (disch := omega) only [up2_x, upr_x])
set_option maxHeartbeats 4000000 in
theorem top_rank {c s T E : Nat} {L : List Int32} {C0 M0 C M : Mem} {k r : Nat} (hcs : cs c s) (h : Top c s T E L C0 M0 C M) (hm : Md c C M) (hk : k < 20) (hr : r ≤ 255) (ha : C (c + 22 + k) 5 = 0) : Top c s T E L C0 M0 (up2 C (c + 22 + k) 1 (nI r)) (up2 M s (173 + k) (nI r)) ∧ Md c (up2 C (c + 22 + k) 1 (nI r)) (up2 M s (173 + k) (nI r)) := by
  refine ⟨?_, ?_⟩
  · refine ⟨⟨?_, ?_, ?_, ?_, ?_, ?_, ?_, ?_, ?_, ?_, ?_, ?_, ?_, ?_, ?_, ?_, ?_, ?_, ?_, ?_, ?_, ?_, ?_, ?_, ?_, ?_, ?_, ?_, ?_, ?_, ?_, ?_, ?_⟩, ⟨?_, ?_, ?_, ?_, ?_⟩⟩
    · exact rReg_fr h.reg (by intros; first | rfl | (simp (disch := omega) only [up2_x, upr_x])) (by intros; first | rfl | (simp (disch := omega) only [up2_x, upr_x]))
    · exact rDat_fr h.dat (by intros; first | rfl | (simp (disch := omega) only [up2_x, upr_x])) (by intros; first | rfl | (simp (disch := omega) only [up2_x, upr_x]))
    · exact rStk_fr h.stk (by intros; first | rfl | (simp (disch := omega) only [up2_x, upr_x])) (by intros; first | rfl | (simp (disch := omega) only [up2_x, upr_x]))
    · exact rFlt_fr h.flt (by intros; first | rfl | (simp (disch := omega) only [up2_x, upr_x])) (by intros; first | rfl | (simp (disch := omega) only [up2_x, upr_x]))
    · exact rZn_fr h.zn (by intros; first | rfl | (simp (disch := omega) only [up2_x, upr_x])) (by intros; first | rfl | (simp (disch := omega) only [up2_x, upr_x]))
    · exact rPc_fr h.pc (by intros; first | rfl | (simp (disch := omega) only [up2_x, upr_x])) (by intros; first | rfl | (simp (disch := omega) only [up2_x, upr_x]))
    · exact rSp_fr h.sp (by intros; first | rfl | (simp (disch := omega) only [up2_x, upr_x])) (by intros; first | rfl | (simp (disch := omega) only [up2_x, upr_x]))
    · exact rShu_fr h.shu (by intros; first | rfl | (simp (disch := omega) only [up2_x, upr_x])) (by intros; first | rfl | (simp (disch := omega) only [up2_x, upr_x]))
    · exact rBas_fr h.bas (by intros; first | rfl | (simp (disch := omega) only [up2_x, upr_x])) (by intros; first | rfl | (simp (disch := omega) only [up2_x, upr_x]))
    · exact rFls_fr h.fls (by intros; first | rfl | (simp (disch := omega) only [up2_x, upr_x])) (by intros; first | rfl | (simp (disch := omega) only [up2_x, upr_x]))
    · exact rLaz_fr h.laz (by intros; first | rfl | (simp (disch := omega) only [up2_x, upr_x])) (by intros; first | rfl | (simp (disch := omega) only [up2_x, upr_x]))
    · exact rPh_fr h.ph (by intros; first | rfl | (simp (disch := omega) only [up2_x, upr_x])) (by intros; first | rfl | (simp (disch := omega) only [up2_x, upr_x]))
    · exact rStp_fr h.stp (by intros; first | rfl | (simp (disch := omega) only [up2_x, upr_x])) (by intros; first | rfl | (simp (disch := omega) only [up2_x, upr_x]))
    · exact rStl_fr h.stl (by intros; first | rfl | (simp (disch := omega) only [up2_x, upr_x])) (by intros; first | rfl | (simp (disch := omega) only [up2_x, upr_x]))
    · exact rAsl_fr h.asl (by intros; first | rfl | (simp (disch := omega) only [up2_x, upr_x])) (by intros; first | rfl | (simp (disch := omega) only [up2_x, upr_x]))
    · exact rClk_fr h.clk (by intros; first | rfl | (simp (disch := omega) only [up2_x, upr_x])) (by intros; first | rfl | (simp (disch := omega) only [up2_x, upr_x]))
    · exact rPer_fr h.per (by intros; first | rfl | (simp (disch := omega) only [up2_x, upr_x])) (by intros; first | rfl | (simp (disch := omega) only [up2_x, upr_x]))
    · exact rTim_fr h.tim (by intros; first | rfl | (simp (disch := omega) only [up2_x, upr_x])) (by intros; first | rfl | (simp (disch := omega) only [up2_x, upr_x]))
    · obtain ⟨d, nst, n1, n2, n3, n4, n5⟩ := h.nst
      have hne : ∀ j, j < d → ¬ nst j = k := fun j hj z => by
        have := (n4 j hj).2.2.2
        rw [z, ha] at this
        exact absurd this (by decide)
      refine ⟨d, nst, n1, ?_, ?_, fun j hj => ?_, fun i j hij hj => ?_⟩
      · simp (disch := omega) only [up2_x, upr_x]; exact n2
      · simp (disch := omega) only [up2_x, upr_x]; exact n3
      · obtain ⟨a1, a2, a3, a4⟩ := n4 j hj
        have := hne j hj
        refine ⟨?_, ?_, a3, ?_⟩
        · simp (disch := omega) only [up2_x, upr_x]; exact a1
        · simp (disch := omega) only [up2_x, upr_x]; exact a2
        · simp (disch := omega) only [up2_x, upr_x]; exact a4
      · have b1 := hne j hj
        have b2 := hne i (by omega)
        have b3 := (n4 j hj).2.2.1
        have b4 := (n4 i (by omega)).2.2.1
        simp (disch := omega) only [up2_x, upr_x]
        exact n5 i j hij hj
    · exact rDue_fr h.due (by intros; first | rfl | (simp (disch := omega) only [up2_x, upr_x])) (by intros; first | rfl | (simp (disch := omega) only [up2_x, upr_x])) (by intros; first | rfl | (simp (disch := omega) only [up2_x, upr_x])) (by intros; first | rfl | (simp (disch := omega) only [up2_x, upr_x])) (by intros; first | rfl | (simp (disch := omega) only [up2_x, upr_x]))
    · intro j hj hj2
      by_cases e : j = k
      · subst e
        refine ⟨r, hr, ?_, ?_⟩
        · simp (disch := omega) only [up2_x, up2_e, upr_x]
        · simp (disch := omega) only [up2_x, up2_e, upr_x]
      · simp (disch := omega) only [up2_x, upr_x]
        exact h.rnk j hj hj2
    · exact rVec_fr h.vec (by intros; first | rfl | (simp (disch := omega) only [up2_x, upr_x])) (by intros; first | rfl | (simp (disch := omega) only [up2_x, upr_x]))
    · exact rEna_fr h.ena (by intros; first | rfl | (simp (disch := omega) only [up2_x, upr_x])) (by intros; first | rfl | (simp (disch := omega) only [up2_x, upr_x]))
    · exact rPnd_fr h.pnd (by intros; first | rfl | (simp (disch := omega) only [up2_x, upr_x])) (by intros; first | rfl | (simp (disch := omega) only [up2_x, upr_x]))
    · exact rAct_fr h.act (by intros; first | rfl | (simp (disch := omega) only [up2_x, upr_x])) (by intros; first | rfl | (simp (disch := omega) only [up2_x, upr_x])) (by intros; first | rfl | (simp (disch := omega) only [up2_x, upr_x]))
    · exact rHld_fr h.hld (by intros; first | rfl | (simp (disch := omega) only [up2_x, upr_x])) (by intros; first | rfl | (simp (disch := omega) only [up2_x, upr_x]))
    · exact rSpl_fr h.spl (by intros; first | rfl | (simp (disch := omega) only [up2_x, upr_x])) (by intros; first | rfl | (simp (disch := omega) only [up2_x, upr_x]))
    · exact rSta_fr h.sta (by intros; first | rfl | (simp (disch := omega) only [up2_x, upr_x])) (by intros; first | rfl | (simp (disch := omega) only [up2_x, upr_x]))
    · exact rSav_fr h.sav (by intros; first | rfl | (simp (disch := omega) only [up2_x, upr_x])) (by intros; first | rfl | (simp (disch := omega) only [up2_x, upr_x]))
    · exact rUns_fr h.uns (by intros; first | rfl | (simp (disch := omega) only [up2_x, upr_x])) (by intros; first | rfl | (simp (disch := omega) only [up2_x, upr_x])) (by intros; first | rfl | (simp (disch := omega) only [up2_x, upr_x]))
    · exact rCod_fr h.cod (by intros; first | rfl | (simp (disch := omega) only [up2_x, upr_x])) (by intros; first | rfl | (simp (disch := omega) only [up2_x, upr_x]))
    · exact rObs_fr (C := C) (M := M) h.obs (by intros; first | rfl | (simp (disch := omega) only [up2_x, upr_x])) (by intros; first | rfl | (simp (disch := omega) only [up2_x, upr_x]))
    · exact rMdc_fr (C := C) (M := M) h.mdc (by intros; first | rfl | (simp (disch := omega) only [up2_x, upr_x]))
    · exact rCnt_fr h.cnt (by intros; first | rfl | (simp (disch := omega) only [up2_x, upr_x])) (by intros; first | rfl | (simp (disch := omega) only [up2_x, upr_x]))
    · exact rOut_fr h.out (by intros; first | rfl | (simp (disch := omega) only [up2_x, upr_x])) (by intros; first | rfl | (simp (disch := omega) only [up2_x, upr_x])) (by intros; first | rfl | (simp (disch := omega) only [up2_x, upr_x])) (by intros; first | rfl | (simp (disch := omega) only [up2_x, upr_x]))
    · exact rEvt_fr h.evt (by intros; first | rfl | (simp (disch := omega) only [up2_x, upr_x])) (by intros; first | rfl | (simp (disch := omega) only [up2_x, upr_x])) (by intros; first | rfl | (simp (disch := omega) only [up2_x, upr_x])) (by intros; first | rfl | (simp (disch := omega) only [up2_x, upr_x]))
    · exact rWai_fr h.wai (by intros; first | rfl | (simp (disch := omega) only [up2_x, upr_x])) (by intros; first | rfl | (simp (disch := omega) only [up2_x, upr_x]))
    · exact rFrm_fr h.frm (by intros; first | rfl | (simp (disch := omega) only [up2_x, upr_x])) (by intros; first | rfl | (simp (disch := omega) only [up2_x, upr_x]))
  · exact Md_fr hm (by first | rfl | simp (disch := omega) only [up2_x, upr_x]) (by first | rfl | simp (disch := omega) only [up2_x, upr_x]) (by first | rfl | simp (disch := omega) only [up2_x, upr_x]) (by first | rfl | simp (disch := omega) only [up2_x, upr_x]) (by first | rfl | simp (disch := omega) only [up2_x, upr_x])
set_option maxHeartbeats 4000000 in
theorem top_tell_own_f {c s T E : Nat} {L : List Int32} {C0 M0 C M : Mem} {q : Nat} {v : Int32} (hcs : cs c s) (h : Top c s T E L C0 M0 C M) (hm : Md c C M) (hcc : c = 9) (hT : T < 2 ^ 29) (hq1 : C c 50 = nI q) (hq : q + 1 ≤ T) (hf : 64 ≤ q) : Top c s T E L C0 M0 (up2 C c 50 (nI (q + 1))) (up2 M 6 15 (nI (q + 1))) ∧ Md c (up2 C c 50 (nI (q + 1))) (up2 M 6 15 (nI (q + 1))) := by
  refine ⟨?_, ?_⟩
  · refine ⟨⟨?_, ?_, ?_, ?_, ?_, ?_, ?_, ?_, ?_, ?_, ?_, ?_, ?_, ?_, ?_, ?_, ?_, ?_, ?_, ?_, ?_, ?_, ?_, ?_, ?_, ?_, ?_, ?_, ?_, ?_, ?_, ?_, ?_⟩, ⟨?_, ?_, ?_, ?_, ?_⟩⟩
    · exact rReg_fr h.reg (by intros; first | rfl | (simp (disch := omega) only [up2_x, upr_x])) (by intros; first | rfl | (simp (disch := omega) only [up2_x, upr_x]))
    · exact rDat_fr h.dat (by intros; first | rfl | (simp (disch := omega) only [up2_x, upr_x])) (by intros; first | rfl | (simp (disch := omega) only [up2_x, upr_x]))
    · exact rStk_fr h.stk (by intros; first | rfl | (simp (disch := omega) only [up2_x, upr_x])) (by intros; first | rfl | (simp (disch := omega) only [up2_x, upr_x]))
    · exact rFlt_fr h.flt (by intros; first | rfl | (simp (disch := omega) only [up2_x, upr_x])) (by intros; first | rfl | (simp (disch := omega) only [up2_x, upr_x]))
    · exact rZn_fr h.zn (by intros; first | rfl | (simp (disch := omega) only [up2_x, upr_x])) (by intros; first | rfl | (simp (disch := omega) only [up2_x, upr_x]))
    · exact rPc_fr h.pc (by intros; first | rfl | (simp (disch := omega) only [up2_x, upr_x])) (by intros; first | rfl | (simp (disch := omega) only [up2_x, upr_x]))
    · exact rSp_fr h.sp (by intros; first | rfl | (simp (disch := omega) only [up2_x, upr_x])) (by intros; first | rfl | (simp (disch := omega) only [up2_x, upr_x]))
    · exact rShu_fr h.shu (by intros; first | rfl | (simp (disch := omega) only [up2_x, upr_x])) (by intros; first | rfl | (simp (disch := omega) only [up2_x, upr_x]))
    · exact rBas_fr h.bas (by intros; first | rfl | (simp (disch := omega) only [up2_x, upr_x])) (by intros; first | rfl | (simp (disch := omega) only [up2_x, upr_x]))
    · exact rFls_fr h.fls (by intros; first | rfl | (simp (disch := omega) only [up2_x, upr_x])) (by intros; first | rfl | (simp (disch := omega) only [up2_x, upr_x]))
    · exact rLaz_fr h.laz (by intros; first | rfl | (simp (disch := omega) only [up2_x, upr_x])) (by intros; first | rfl | (simp (disch := omega) only [up2_x, upr_x]))
    · exact rPh_fr h.ph (by intros; first | rfl | (simp (disch := omega) only [up2_x, upr_x])) (by intros; first | rfl | (simp (disch := omega) only [up2_x, upr_x]))
    · exact rStp_fr h.stp (by intros; first | rfl | (simp (disch := omega) only [up2_x, upr_x])) (by intros; first | rfl | (simp (disch := omega) only [up2_x, upr_x]))
    · exact rStl_fr h.stl (by intros; first | rfl | (simp (disch := omega) only [up2_x, upr_x])) (by intros; first | rfl | (simp (disch := omega) only [up2_x, upr_x]))
    · exact rAsl_fr h.asl (by intros; first | rfl | (simp (disch := omega) only [up2_x, upr_x])) (by intros; first | rfl | (simp (disch := omega) only [up2_x, upr_x]))
    · exact rClk_fr h.clk (by intros; first | rfl | (simp (disch := omega) only [up2_x, upr_x])) (by intros; first | rfl | (simp (disch := omega) only [up2_x, upr_x]))
    · exact rPer_fr h.per (by intros; first | rfl | (simp (disch := omega) only [up2_x, upr_x])) (by intros; first | rfl | (simp (disch := omega) only [up2_x, upr_x]))
    · exact rTim_fr h.tim (by intros; first | rfl | (simp (disch := omega) only [up2_x, upr_x])) (by intros; first | rfl | (simp (disch := omega) only [up2_x, upr_x]))
    · exact rNst_fr h.nst (by intros; first | rfl | (simp (disch := omega) only [up2_x, upr_x])) (by intros; first | rfl | (simp (disch := omega) only [up2_x, upr_x])) (by intros; first | rfl | (simp (disch := omega) only [up2_x, upr_x])) (by intros; first | rfl | (simp (disch := omega) only [up2_x, upr_x])) (by intros; first | rfl | (simp (disch := omega) only [up2_x, upr_x])) (by intros; first | rfl | (simp (disch := omega) only [up2_x, upr_x]))
    · exact rDue_fr h.due (by intros; first | rfl | (simp (disch := omega) only [up2_x, upr_x])) (by intros; first | rfl | (simp (disch := omega) only [up2_x, upr_x])) (by intros; first | rfl | (simp (disch := omega) only [up2_x, upr_x])) (by intros; first | rfl | (simp (disch := omega) only [up2_x, upr_x])) (by intros; first | rfl | (simp (disch := omega) only [up2_x, upr_x]))
    · exact rRnk_fr h.rnk (by intros; first | rfl | (simp (disch := omega) only [up2_x, upr_x])) (by intros; first | rfl | (simp (disch := omega) only [up2_x, upr_x]))
    · exact rVec_fr h.vec (by intros; first | rfl | (simp (disch := omega) only [up2_x, upr_x])) (by intros; first | rfl | (simp (disch := omega) only [up2_x, upr_x]))
    · exact rEna_fr h.ena (by intros; first | rfl | (simp (disch := omega) only [up2_x, upr_x])) (by intros; first | rfl | (simp (disch := omega) only [up2_x, upr_x]))
    · exact rPnd_fr h.pnd (by intros; first | rfl | (simp (disch := omega) only [up2_x, upr_x])) (by intros; first | rfl | (simp (disch := omega) only [up2_x, upr_x]))
    · exact rAct_fr h.act (by intros; first | rfl | (simp (disch := omega) only [up2_x, upr_x])) (by intros; first | rfl | (simp (disch := omega) only [up2_x, upr_x])) (by intros; first | rfl | (simp (disch := omega) only [up2_x, upr_x]))
    · exact rHld_fr h.hld (by intros; first | rfl | (simp (disch := omega) only [up2_x, upr_x])) (by intros; first | rfl | (simp (disch := omega) only [up2_x, upr_x]))
    · exact rSpl_fr h.spl (by intros; first | rfl | (simp (disch := omega) only [up2_x, upr_x])) (by intros; first | rfl | (simp (disch := omega) only [up2_x, upr_x]))
    · exact rSta_fr h.sta (by intros; first | rfl | (simp (disch := omega) only [up2_x, upr_x])) (by intros; first | rfl | (simp (disch := omega) only [up2_x, upr_x]))
    · exact rSav_fr h.sav (by intros; first | rfl | (simp (disch := omega) only [up2_x, upr_x])) (by intros; first | rfl | (simp (disch := omega) only [up2_x, upr_x]))
    · exact rUns_fr h.uns (by intros; first | rfl | (simp (disch := omega) only [up2_x, upr_x])) (by intros; first | rfl | (simp (disch := omega) only [up2_x, upr_x])) (by intros; first | rfl | (simp (disch := omega) only [up2_x, upr_x]))
    · exact rCod_fr h.cod (by intros; first | rfl | (simp (disch := omega) only [up2_x, upr_x])) (by intros; first | rfl | (simp (disch := omega) only [up2_x, upr_x]))
    · exact rObs_fr (C := C) (M := M) h.obs (by intros; first | rfl | (simp (disch := omega) only [up2_x, upr_x])) (by intros; first | rfl | (simp (disch := omega) only [up2_x, upr_x]))
    · exact rMdc_fr (C := C) (M := M) h.mdc (by intros; first | rfl | (simp (disch := omega) only [up2_x, upr_x]))
    · exact rCnt_fr h.cnt (by intros; first | rfl | (simp (disch := omega) only [up2_x, upr_x])) (by intros; first | rfl | (simp (disch := omega) only [up2_x, upr_x]))
    · obtain ⟨q0, hq0, f1, f2⟩ := h.out
      have hqq : q0 = q := (nI_eq (by omega) (by omega)).mp (f1.symm.trans hq1)
      subst hqq
      refine ⟨q0 + 1, hq, ?_, fun z => ?_⟩
      · simp (disch := omega) only [up2_x, up2_e, upr_x]
      · refine ⟨?_, fun j a b => ?_⟩
        · simp (disch := omega) only [up2_x, up2_e, upr_x]
        · simp (disch := omega) only [up2_x, upr_x]
          exact (f2 z).2 j a (by omega)
    · exact rEvt_fr h.evt (by intros; first | rfl | (simp (disch := omega) only [up2_x, upr_x])) (by intros; first | rfl | (simp (disch := omega) only [up2_x, upr_x])) (by intros; first | rfl | (simp (disch := omega) only [up2_x, upr_x])) (by intros; first | rfl | (simp (disch := omega) only [up2_x, upr_x]))
    · exact rWai_fr h.wai (by intros; first | rfl | (simp (disch := omega) only [up2_x, upr_x])) (by intros; first | rfl | (simp (disch := omega) only [up2_x, upr_x]))
    · exact rFrm_fr h.frm (by intros; first | rfl | (simp (disch := omega) only [up2_x, upr_x])) (by intros; first | rfl | (simp (disch := omega) only [up2_x, upr_x]))
  · exact Md_fr hm (by first | rfl | simp (disch := omega) only [up2_x, upr_x]) (by first | rfl | simp (disch := omega) only [up2_x, upr_x]) (by first | rfl | simp (disch := omega) only [up2_x, upr_x]) (by first | rfl | simp (disch := omega) only [up2_x, upr_x]) (by first | rfl | simp (disch := omega) only [up2_x, upr_x])
set_option maxHeartbeats 4000000 in
theorem top_tell_own_n {c s T E : Nat} {L : List Int32} {C0 M0 C M : Mem} {q : Nat} {v : Int32} (hcs : cs c s) (h : Top c s T E L C0 M0 C M) (hm : Md c C M) (hcc : c = 9) (hT : T < 2 ^ 29) (hq1 : C c 50 = nI q) (hq : q + 1 ≤ T) (hf : q < 64) : Top c s T E L C0 M0 (up2 (up2 C (c + 10) q v) c 50 (nI (q + 1))) (up2 (up2 M 11 q v) 6 15 (nI (q + 1))) ∧ Md c (up2 (up2 C (c + 10) q v) c 50 (nI (q + 1))) (up2 (up2 M 11 q v) 6 15 (nI (q + 1))) := by
  refine ⟨?_, ?_⟩
  · refine ⟨⟨?_, ?_, ?_, ?_, ?_, ?_, ?_, ?_, ?_, ?_, ?_, ?_, ?_, ?_, ?_, ?_, ?_, ?_, ?_, ?_, ?_, ?_, ?_, ?_, ?_, ?_, ?_, ?_, ?_, ?_, ?_, ?_, ?_⟩, ⟨?_, ?_, ?_, ?_, ?_⟩⟩
    · exact rReg_fr h.reg (by intros; first | rfl | (simp (disch := omega) only [up2_x, upr_x])) (by intros; first | rfl | (simp (disch := omega) only [up2_x, upr_x]))
    · exact rDat_fr h.dat (by intros; first | rfl | (simp (disch := omega) only [up2_x, upr_x])) (by intros; first | rfl | (simp (disch := omega) only [up2_x, upr_x]))
    · exact rStk_fr h.stk (by intros; first | rfl | (simp (disch := omega) only [up2_x, upr_x])) (by intros; first | rfl | (simp (disch := omega) only [up2_x, upr_x]))
    · exact rFlt_fr h.flt (by intros; first | rfl | (simp (disch := omega) only [up2_x, upr_x])) (by intros; first | rfl | (simp (disch := omega) only [up2_x, upr_x]))
    · exact rZn_fr h.zn (by intros; first | rfl | (simp (disch := omega) only [up2_x, upr_x])) (by intros; first | rfl | (simp (disch := omega) only [up2_x, upr_x]))
    · exact rPc_fr h.pc (by intros; first | rfl | (simp (disch := omega) only [up2_x, upr_x])) (by intros; first | rfl | (simp (disch := omega) only [up2_x, upr_x]))
    · exact rSp_fr h.sp (by intros; first | rfl | (simp (disch := omega) only [up2_x, upr_x])) (by intros; first | rfl | (simp (disch := omega) only [up2_x, upr_x]))
    · exact rShu_fr h.shu (by intros; first | rfl | (simp (disch := omega) only [up2_x, upr_x])) (by intros; first | rfl | (simp (disch := omega) only [up2_x, upr_x]))
    · exact rBas_fr h.bas (by intros; first | rfl | (simp (disch := omega) only [up2_x, upr_x])) (by intros; first | rfl | (simp (disch := omega) only [up2_x, upr_x]))
    · exact rFls_fr h.fls (by intros; first | rfl | (simp (disch := omega) only [up2_x, upr_x])) (by intros; first | rfl | (simp (disch := omega) only [up2_x, upr_x]))
    · exact rLaz_fr h.laz (by intros; first | rfl | (simp (disch := omega) only [up2_x, upr_x])) (by intros; first | rfl | (simp (disch := omega) only [up2_x, upr_x]))
    · exact rPh_fr h.ph (by intros; first | rfl | (simp (disch := omega) only [up2_x, upr_x])) (by intros; first | rfl | (simp (disch := omega) only [up2_x, upr_x]))
    · exact rStp_fr h.stp (by intros; first | rfl | (simp (disch := omega) only [up2_x, upr_x])) (by intros; first | rfl | (simp (disch := omega) only [up2_x, upr_x]))
    · exact rStl_fr h.stl (by intros; first | rfl | (simp (disch := omega) only [up2_x, upr_x])) (by intros; first | rfl | (simp (disch := omega) only [up2_x, upr_x]))
    · exact rAsl_fr h.asl (by intros; first | rfl | (simp (disch := omega) only [up2_x, upr_x])) (by intros; first | rfl | (simp (disch := omega) only [up2_x, upr_x]))
    · exact rClk_fr h.clk (by intros; first | rfl | (simp (disch := omega) only [up2_x, upr_x])) (by intros; first | rfl | (simp (disch := omega) only [up2_x, upr_x]))
    · exact rPer_fr h.per (by intros; first | rfl | (simp (disch := omega) only [up2_x, upr_x])) (by intros; first | rfl | (simp (disch := omega) only [up2_x, upr_x]))
    · exact rTim_fr h.tim (by intros; first | rfl | (simp (disch := omega) only [up2_x, upr_x])) (by intros; first | rfl | (simp (disch := omega) only [up2_x, upr_x]))
    · exact rNst_fr h.nst (by intros; first | rfl | (simp (disch := omega) only [up2_x, upr_x])) (by intros; first | rfl | (simp (disch := omega) only [up2_x, upr_x])) (by intros; first | rfl | (simp (disch := omega) only [up2_x, upr_x])) (by intros; first | rfl | (simp (disch := omega) only [up2_x, upr_x])) (by intros; first | rfl | (simp (disch := omega) only [up2_x, upr_x])) (by intros; first | rfl | (simp (disch := omega) only [up2_x, upr_x]))
    · exact rDue_fr h.due (by intros; first | rfl | (simp (disch := omega) only [up2_x, upr_x])) (by intros; first | rfl | (simp (disch := omega) only [up2_x, upr_x])) (by intros; first | rfl | (simp (disch := omega) only [up2_x, upr_x])) (by intros; first | rfl | (simp (disch := omega) only [up2_x, upr_x])) (by intros; first | rfl | (simp (disch := omega) only [up2_x, upr_x]))
    · exact rRnk_fr h.rnk (by intros; first | rfl | (simp (disch := omega) only [up2_x, upr_x])) (by intros; first | rfl | (simp (disch := omega) only [up2_x, upr_x]))
    · exact rVec_fr h.vec (by intros; first | rfl | (simp (disch := omega) only [up2_x, upr_x])) (by intros; first | rfl | (simp (disch := omega) only [up2_x, upr_x]))
    · exact rEna_fr h.ena (by intros; first | rfl | (simp (disch := omega) only [up2_x, upr_x])) (by intros; first | rfl | (simp (disch := omega) only [up2_x, upr_x]))
    · exact rPnd_fr h.pnd (by intros; first | rfl | (simp (disch := omega) only [up2_x, upr_x])) (by intros; first | rfl | (simp (disch := omega) only [up2_x, upr_x]))
    · exact rAct_fr h.act (by intros; first | rfl | (simp (disch := omega) only [up2_x, upr_x])) (by intros; first | rfl | (simp (disch := omega) only [up2_x, upr_x])) (by intros; first | rfl | (simp (disch := omega) only [up2_x, upr_x]))
    · exact rHld_fr h.hld (by intros; first | rfl | (simp (disch := omega) only [up2_x, upr_x])) (by intros; first | rfl | (simp (disch := omega) only [up2_x, upr_x]))
    · exact rSpl_fr h.spl (by intros; first | rfl | (simp (disch := omega) only [up2_x, upr_x])) (by intros; first | rfl | (simp (disch := omega) only [up2_x, upr_x]))
    · exact rSta_fr h.sta (by intros; first | rfl | (simp (disch := omega) only [up2_x, upr_x])) (by intros; first | rfl | (simp (disch := omega) only [up2_x, upr_x]))
    · exact rSav_fr h.sav (by intros; first | rfl | (simp (disch := omega) only [up2_x, upr_x])) (by intros; first | rfl | (simp (disch := omega) only [up2_x, upr_x]))
    · exact rUns_fr h.uns (by intros; first | rfl | (simp (disch := omega) only [up2_x, upr_x])) (by intros; first | rfl | (simp (disch := omega) only [up2_x, upr_x])) (by intros; first | rfl | (simp (disch := omega) only [up2_x, upr_x]))
    · exact rCod_fr h.cod (by intros; first | rfl | (simp (disch := omega) only [up2_x, upr_x])) (by intros; first | rfl | (simp (disch := omega) only [up2_x, upr_x]))
    · exact rObs_fr (C := C) (M := M) h.obs (by intros; first | rfl | (simp (disch := omega) only [up2_x, upr_x])) (by intros; first | rfl | (simp (disch := omega) only [up2_x, upr_x]))
    · exact rMdc_fr (C := C) (M := M) h.mdc (by intros; first | rfl | (simp (disch := omega) only [up2_x, upr_x]))
    · exact rCnt_fr h.cnt (by intros; first | rfl | (simp (disch := omega) only [up2_x, upr_x])) (by intros; first | rfl | (simp (disch := omega) only [up2_x, upr_x]))
    · obtain ⟨q0, hq0, f1, f2⟩ := h.out
      have hqq : q0 = q := (nI_eq (by omega) (by omega)).mp (f1.symm.trans hq1)
      subst hqq
      refine ⟨q0 + 1, hq, ?_, fun z => ?_⟩
      · simp (disch := omega) only [up2_x, up2_e, upr_x]
      · refine ⟨?_, fun j a b => ?_⟩
        · simp (disch := omega) only [up2_x, up2_e, upr_x]
        · by_cases e : j = q0
          · subst e
            simp (disch := omega) only [up2_x, up2_e, upr_x]
          · simp (disch := omega) only [up2_x, upr_x]
            exact (f2 z).2 j a (by omega)
    · exact rEvt_fr h.evt (by intros; first | rfl | (simp (disch := omega) only [up2_x, upr_x])) (by intros; first | rfl | (simp (disch := omega) only [up2_x, upr_x])) (by intros; first | rfl | (simp (disch := omega) only [up2_x, upr_x])) (by intros; first | rfl | (simp (disch := omega) only [up2_x, upr_x]))
    · exact rWai_fr h.wai (by intros; first | rfl | (simp (disch := omega) only [up2_x, upr_x])) (by intros; first | rfl | (simp (disch := omega) only [up2_x, upr_x]))
    · exact rFrm_fr h.frm (by intros; first | rfl | (simp (disch := omega) only [up2_x, upr_x])) (by intros; first | rfl | (simp (disch := omega) only [up2_x, upr_x]))
  · exact Md_fr hm (by first | rfl | simp (disch := omega) only [up2_x, upr_x]) (by first | rfl | simp (disch := omega) only [up2_x, upr_x]) (by first | rfl | simp (disch := omega) only [up2_x, upr_x]) (by first | rfl | simp (disch := omega) only [up2_x, upr_x]) (by first | rfl | simp (disch := omega) only [up2_x, upr_x])
set_option maxHeartbeats 4000000 in
theorem top_tell_for_f {c s T E : Nat} {L : List Int32} {C0 M0 C M : Mem} {q : Nat} {v : Int32} (hcs : cs c s) (h : Top c s T E L C0 M0 C M) (hm : Md c C M) (hcc : c = 52) (hT : T < 2 ^ 29) (hq1 : C c 50 = nI q) (hq : q + 1 ≤ T) (hf : 64 ≤ q) : Top c s T E L C0 M0 (up2 C c 50 (nI (q + 1))) (M) ∧ Md c (up2 C c 50 (nI (q + 1))) (M) := by
  refine ⟨?_, ?_⟩
  · refine ⟨⟨?_, ?_, ?_, ?_, ?_, ?_, ?_, ?_, ?_, ?_, ?_, ?_, ?_, ?_, ?_, ?_, ?_, ?_, ?_, ?_, ?_, ?_, ?_, ?_, ?_, ?_, ?_, ?_, ?_, ?_, ?_, ?_, ?_⟩, ⟨?_, ?_, ?_, ?_, ?_⟩⟩
    · exact rReg_fr h.reg (by intros; first | rfl | (simp (disch := omega) only [up2_x, upr_x])) (by intros; first | rfl | (simp (disch := omega) only [up2_x, upr_x]))
    · exact rDat_fr h.dat (by intros; first | rfl | (simp (disch := omega) only [up2_x, upr_x])) (by intros; first | rfl | (simp (disch := omega) only [up2_x, upr_x]))
    · exact rStk_fr h.stk (by intros; first | rfl | (simp (disch := omega) only [up2_x, upr_x])) (by intros; first | rfl | (simp (disch := omega) only [up2_x, upr_x]))
    · exact rFlt_fr h.flt (by intros; first | rfl | (simp (disch := omega) only [up2_x, upr_x])) (by intros; first | rfl | (simp (disch := omega) only [up2_x, upr_x]))
    · exact rZn_fr h.zn (by intros; first | rfl | (simp (disch := omega) only [up2_x, upr_x])) (by intros; first | rfl | (simp (disch := omega) only [up2_x, upr_x]))
    · exact rPc_fr h.pc (by intros; first | rfl | (simp (disch := omega) only [up2_x, upr_x])) (by intros; first | rfl | (simp (disch := omega) only [up2_x, upr_x]))
    · exact rSp_fr h.sp (by intros; first | rfl | (simp (disch := omega) only [up2_x, upr_x])) (by intros; first | rfl | (simp (disch := omega) only [up2_x, upr_x]))
    · exact rShu_fr h.shu (by intros; first | rfl | (simp (disch := omega) only [up2_x, upr_x])) (by intros; first | rfl | (simp (disch := omega) only [up2_x, upr_x]))
    · exact rBas_fr h.bas (by intros; first | rfl | (simp (disch := omega) only [up2_x, upr_x])) (by intros; first | rfl | (simp (disch := omega) only [up2_x, upr_x]))
    · exact rFls_fr h.fls (by intros; first | rfl | (simp (disch := omega) only [up2_x, upr_x])) (by intros; first | rfl | (simp (disch := omega) only [up2_x, upr_x]))
    · exact rLaz_fr h.laz (by intros; first | rfl | (simp (disch := omega) only [up2_x, upr_x])) (by intros; first | rfl | (simp (disch := omega) only [up2_x, upr_x]))
    · exact rPh_fr h.ph (by intros; first | rfl | (simp (disch := omega) only [up2_x, upr_x])) (by intros; first | rfl | (simp (disch := omega) only [up2_x, upr_x]))
    · exact rStp_fr h.stp (by intros; first | rfl | (simp (disch := omega) only [up2_x, upr_x])) (by intros; first | rfl | (simp (disch := omega) only [up2_x, upr_x]))
    · exact rStl_fr h.stl (by intros; first | rfl | (simp (disch := omega) only [up2_x, upr_x])) (by intros; first | rfl | (simp (disch := omega) only [up2_x, upr_x]))
    · exact rAsl_fr h.asl (by intros; first | rfl | (simp (disch := omega) only [up2_x, upr_x])) (by intros; first | rfl | (simp (disch := omega) only [up2_x, upr_x]))
    · exact rClk_fr h.clk (by intros; first | rfl | (simp (disch := omega) only [up2_x, upr_x])) (by intros; first | rfl | (simp (disch := omega) only [up2_x, upr_x]))
    · exact rPer_fr h.per (by intros; first | rfl | (simp (disch := omega) only [up2_x, upr_x])) (by intros; first | rfl | (simp (disch := omega) only [up2_x, upr_x]))
    · exact rTim_fr h.tim (by intros; first | rfl | (simp (disch := omega) only [up2_x, upr_x])) (by intros; first | rfl | (simp (disch := omega) only [up2_x, upr_x]))
    · exact rNst_fr h.nst (by intros; first | rfl | (simp (disch := omega) only [up2_x, upr_x])) (by intros; first | rfl | (simp (disch := omega) only [up2_x, upr_x])) (by intros; first | rfl | (simp (disch := omega) only [up2_x, upr_x])) (by intros; first | rfl | (simp (disch := omega) only [up2_x, upr_x])) (by intros; first | rfl | (simp (disch := omega) only [up2_x, upr_x])) (by intros; first | rfl | (simp (disch := omega) only [up2_x, upr_x]))
    · exact rDue_fr h.due (by intros; first | rfl | (simp (disch := omega) only [up2_x, upr_x])) (by intros; first | rfl | (simp (disch := omega) only [up2_x, upr_x])) (by intros; first | rfl | (simp (disch := omega) only [up2_x, upr_x])) (by intros; first | rfl | (simp (disch := omega) only [up2_x, upr_x])) (by intros; first | rfl | (simp (disch := omega) only [up2_x, upr_x]))
    · exact rRnk_fr h.rnk (by intros; first | rfl | (simp (disch := omega) only [up2_x, upr_x])) (by intros; first | rfl | (simp (disch := omega) only [up2_x, upr_x]))
    · exact rVec_fr h.vec (by intros; first | rfl | (simp (disch := omega) only [up2_x, upr_x])) (by intros; first | rfl | (simp (disch := omega) only [up2_x, upr_x]))
    · exact rEna_fr h.ena (by intros; first | rfl | (simp (disch := omega) only [up2_x, upr_x])) (by intros; first | rfl | (simp (disch := omega) only [up2_x, upr_x]))
    · exact rPnd_fr h.pnd (by intros; first | rfl | (simp (disch := omega) only [up2_x, upr_x])) (by intros; first | rfl | (simp (disch := omega) only [up2_x, upr_x]))
    · exact rAct_fr h.act (by intros; first | rfl | (simp (disch := omega) only [up2_x, upr_x])) (by intros; first | rfl | (simp (disch := omega) only [up2_x, upr_x])) (by intros; first | rfl | (simp (disch := omega) only [up2_x, upr_x]))
    · exact rHld_fr h.hld (by intros; first | rfl | (simp (disch := omega) only [up2_x, upr_x])) (by intros; first | rfl | (simp (disch := omega) only [up2_x, upr_x]))
    · exact rSpl_fr h.spl (by intros; first | rfl | (simp (disch := omega) only [up2_x, upr_x])) (by intros; first | rfl | (simp (disch := omega) only [up2_x, upr_x]))
    · exact rSta_fr h.sta (by intros; first | rfl | (simp (disch := omega) only [up2_x, upr_x])) (by intros; first | rfl | (simp (disch := omega) only [up2_x, upr_x]))
    · exact rSav_fr h.sav (by intros; first | rfl | (simp (disch := omega) only [up2_x, upr_x])) (by intros; first | rfl | (simp (disch := omega) only [up2_x, upr_x]))
    · exact rUns_fr h.uns (by intros; first | rfl | (simp (disch := omega) only [up2_x, upr_x])) (by intros; first | rfl | (simp (disch := omega) only [up2_x, upr_x])) (by intros; first | rfl | (simp (disch := omega) only [up2_x, upr_x]))
    · exact rCod_fr h.cod (by intros; first | rfl | (simp (disch := omega) only [up2_x, upr_x])) (by intros; first | rfl | (simp (disch := omega) only [up2_x, upr_x]))
    · exact rObs_fr (C := C) (M := M) h.obs (by intros; first | rfl | (simp (disch := omega) only [up2_x, upr_x])) (by intros; first | rfl | (simp (disch := omega) only [up2_x, upr_x]))
    · exact rMdc_fr (C := C) (M := M) h.mdc (by intros; first | rfl | (simp (disch := omega) only [up2_x, upr_x]))
    · exact rCnt_fr h.cnt (by intros; first | rfl | (simp (disch := omega) only [up2_x, upr_x])) (by intros; first | rfl | (simp (disch := omega) only [up2_x, upr_x]))
    · obtain ⟨q0, hq0, f1, f2⟩ := h.out
      have hqq : q0 = q := (nI_eq (by omega) (by omega)).mp (f1.symm.trans hq1)
      subst hqq
      refine ⟨q0 + 1, hq, ?_, fun z => ?_⟩
      · simp (disch := omega) only [up2_x, up2_e, upr_x]
      · omega
    · exact rEvt_fr h.evt (by intros; first | rfl | (simp (disch := omega) only [up2_x, upr_x])) (by intros; first | rfl | (simp (disch := omega) only [up2_x, upr_x])) (by intros; first | rfl | (simp (disch := omega) only [up2_x, upr_x])) (by intros; first | rfl | (simp (disch := omega) only [up2_x, upr_x]))
    · exact rWai_fr h.wai (by intros; first | rfl | (simp (disch := omega) only [up2_x, upr_x])) (by intros; first | rfl | (simp (disch := omega) only [up2_x, upr_x]))
    · exact rFrm_fr h.frm (by intros; first | rfl | (simp (disch := omega) only [up2_x, upr_x])) (by intros; first | rfl | (simp (disch := omega) only [up2_x, upr_x]))
  · exact Md_fr hm (by first | rfl | simp (disch := omega) only [up2_x, upr_x]) (by first | rfl | simp (disch := omega) only [up2_x, upr_x]) (by first | rfl | simp (disch := omega) only [up2_x, upr_x]) (by first | rfl | simp (disch := omega) only [up2_x, upr_x]) (by first | rfl | simp (disch := omega) only [up2_x, upr_x])
set_option maxHeartbeats 4000000 in
theorem top_tell_for_n {c s T E : Nat} {L : List Int32} {C0 M0 C M : Mem} {q : Nat} {v : Int32} (hcs : cs c s) (h : Top c s T E L C0 M0 C M) (hm : Md c C M) (hcc : c = 52) (hT : T < 2 ^ 29) (hq1 : C c 50 = nI q) (hq : q + 1 ≤ T) (hf : q < 64) : Top c s T E L C0 M0 (up2 (up2 C (c + 10) q v) c 50 (nI (q + 1))) (M) ∧ Md c (up2 (up2 C (c + 10) q v) c 50 (nI (q + 1))) (M) := by
  refine ⟨?_, ?_⟩
  · refine ⟨⟨?_, ?_, ?_, ?_, ?_, ?_, ?_, ?_, ?_, ?_, ?_, ?_, ?_, ?_, ?_, ?_, ?_, ?_, ?_, ?_, ?_, ?_, ?_, ?_, ?_, ?_, ?_, ?_, ?_, ?_, ?_, ?_, ?_⟩, ⟨?_, ?_, ?_, ?_, ?_⟩⟩
    · exact rReg_fr h.reg (by intros; first | rfl | (simp (disch := omega) only [up2_x, upr_x])) (by intros; first | rfl | (simp (disch := omega) only [up2_x, upr_x]))
    · exact rDat_fr h.dat (by intros; first | rfl | (simp (disch := omega) only [up2_x, upr_x])) (by intros; first | rfl | (simp (disch := omega) only [up2_x, upr_x]))
    · exact rStk_fr h.stk (by intros; first | rfl | (simp (disch := omega) only [up2_x, upr_x])) (by intros; first | rfl | (simp (disch := omega) only [up2_x, upr_x]))
    · exact rFlt_fr h.flt (by intros; first | rfl | (simp (disch := omega) only [up2_x, upr_x])) (by intros; first | rfl | (simp (disch := omega) only [up2_x, upr_x]))
    · exact rZn_fr h.zn (by intros; first | rfl | (simp (disch := omega) only [up2_x, upr_x])) (by intros; first | rfl | (simp (disch := omega) only [up2_x, upr_x]))
    · exact rPc_fr h.pc (by intros; first | rfl | (simp (disch := omega) only [up2_x, upr_x])) (by intros; first | rfl | (simp (disch := omega) only [up2_x, upr_x]))
    · exact rSp_fr h.sp (by intros; first | rfl | (simp (disch := omega) only [up2_x, upr_x])) (by intros; first | rfl | (simp (disch := omega) only [up2_x, upr_x]))
    · exact rShu_fr h.shu (by intros; first | rfl | (simp (disch := omega) only [up2_x, upr_x])) (by intros; first | rfl | (simp (disch := omega) only [up2_x, upr_x]))
    · exact rBas_fr h.bas (by intros; first | rfl | (simp (disch := omega) only [up2_x, upr_x])) (by intros; first | rfl | (simp (disch := omega) only [up2_x, upr_x]))
    · exact rFls_fr h.fls (by intros; first | rfl | (simp (disch := omega) only [up2_x, upr_x])) (by intros; first | rfl | (simp (disch := omega) only [up2_x, upr_x]))
    · exact rLaz_fr h.laz (by intros; first | rfl | (simp (disch := omega) only [up2_x, upr_x])) (by intros; first | rfl | (simp (disch := omega) only [up2_x, upr_x]))
    · exact rPh_fr h.ph (by intros; first | rfl | (simp (disch := omega) only [up2_x, upr_x])) (by intros; first | rfl | (simp (disch := omega) only [up2_x, upr_x]))
    · exact rStp_fr h.stp (by intros; first | rfl | (simp (disch := omega) only [up2_x, upr_x])) (by intros; first | rfl | (simp (disch := omega) only [up2_x, upr_x]))
    · exact rStl_fr h.stl (by intros; first | rfl | (simp (disch := omega) only [up2_x, upr_x])) (by intros; first | rfl | (simp (disch := omega) only [up2_x, upr_x]))
    · exact rAsl_fr h.asl (by intros; first | rfl | (simp (disch := omega) only [up2_x, upr_x])) (by intros; first | rfl | (simp (disch := omega) only [up2_x, upr_x]))
    · exact rClk_fr h.clk (by intros; first | rfl | (simp (disch := omega) only [up2_x, upr_x])) (by intros; first | rfl | (simp (disch := omega) only [up2_x, upr_x]))
    · exact rPer_fr h.per (by intros; first | rfl | (simp (disch := omega) only [up2_x, upr_x])) (by intros; first | rfl | (simp (disch := omega) only [up2_x, upr_x]))
    · exact rTim_fr h.tim (by intros; first | rfl | (simp (disch := omega) only [up2_x, upr_x])) (by intros; first | rfl | (simp (disch := omega) only [up2_x, upr_x]))
    · exact rNst_fr h.nst (by intros; first | rfl | (simp (disch := omega) only [up2_x, upr_x])) (by intros; first | rfl | (simp (disch := omega) only [up2_x, upr_x])) (by intros; first | rfl | (simp (disch := omega) only [up2_x, upr_x])) (by intros; first | rfl | (simp (disch := omega) only [up2_x, upr_x])) (by intros; first | rfl | (simp (disch := omega) only [up2_x, upr_x])) (by intros; first | rfl | (simp (disch := omega) only [up2_x, upr_x]))
    · exact rDue_fr h.due (by intros; first | rfl | (simp (disch := omega) only [up2_x, upr_x])) (by intros; first | rfl | (simp (disch := omega) only [up2_x, upr_x])) (by intros; first | rfl | (simp (disch := omega) only [up2_x, upr_x])) (by intros; first | rfl | (simp (disch := omega) only [up2_x, upr_x])) (by intros; first | rfl | (simp (disch := omega) only [up2_x, upr_x]))
    · exact rRnk_fr h.rnk (by intros; first | rfl | (simp (disch := omega) only [up2_x, upr_x])) (by intros; first | rfl | (simp (disch := omega) only [up2_x, upr_x]))
    · exact rVec_fr h.vec (by intros; first | rfl | (simp (disch := omega) only [up2_x, upr_x])) (by intros; first | rfl | (simp (disch := omega) only [up2_x, upr_x]))
    · exact rEna_fr h.ena (by intros; first | rfl | (simp (disch := omega) only [up2_x, upr_x])) (by intros; first | rfl | (simp (disch := omega) only [up2_x, upr_x]))
    · exact rPnd_fr h.pnd (by intros; first | rfl | (simp (disch := omega) only [up2_x, upr_x])) (by intros; first | rfl | (simp (disch := omega) only [up2_x, upr_x]))
    · exact rAct_fr h.act (by intros; first | rfl | (simp (disch := omega) only [up2_x, upr_x])) (by intros; first | rfl | (simp (disch := omega) only [up2_x, upr_x])) (by intros; first | rfl | (simp (disch := omega) only [up2_x, upr_x]))
    · exact rHld_fr h.hld (by intros; first | rfl | (simp (disch := omega) only [up2_x, upr_x])) (by intros; first | rfl | (simp (disch := omega) only [up2_x, upr_x]))
    · exact rSpl_fr h.spl (by intros; first | rfl | (simp (disch := omega) only [up2_x, upr_x])) (by intros; first | rfl | (simp (disch := omega) only [up2_x, upr_x]))
    · exact rSta_fr h.sta (by intros; first | rfl | (simp (disch := omega) only [up2_x, upr_x])) (by intros; first | rfl | (simp (disch := omega) only [up2_x, upr_x]))
    · exact rSav_fr h.sav (by intros; first | rfl | (simp (disch := omega) only [up2_x, upr_x])) (by intros; first | rfl | (simp (disch := omega) only [up2_x, upr_x]))
    · exact rUns_fr h.uns (by intros; first | rfl | (simp (disch := omega) only [up2_x, upr_x])) (by intros; first | rfl | (simp (disch := omega) only [up2_x, upr_x])) (by intros; first | rfl | (simp (disch := omega) only [up2_x, upr_x]))
    · exact rCod_fr h.cod (by intros; first | rfl | (simp (disch := omega) only [up2_x, upr_x])) (by intros; first | rfl | (simp (disch := omega) only [up2_x, upr_x]))
    · exact rObs_fr (C := C) (M := M) h.obs (by intros; first | rfl | (simp (disch := omega) only [up2_x, upr_x])) (by intros; first | rfl | (simp (disch := omega) only [up2_x, upr_x]))
    · exact rMdc_fr (C := C) (M := M) h.mdc (by intros; first | rfl | (simp (disch := omega) only [up2_x, upr_x]))
    · exact rCnt_fr h.cnt (by intros; first | rfl | (simp (disch := omega) only [up2_x, upr_x])) (by intros; first | rfl | (simp (disch := omega) only [up2_x, upr_x]))
    · obtain ⟨q0, hq0, f1, f2⟩ := h.out
      have hqq : q0 = q := (nI_eq (by omega) (by omega)).mp (f1.symm.trans hq1)
      subst hqq
      refine ⟨q0 + 1, hq, ?_, fun z => ?_⟩
      · simp (disch := omega) only [up2_x, up2_e, upr_x]
      · omega
    · exact rEvt_fr h.evt (by intros; first | rfl | (simp (disch := omega) only [up2_x, upr_x])) (by intros; first | rfl | (simp (disch := omega) only [up2_x, upr_x])) (by intros; first | rfl | (simp (disch := omega) only [up2_x, upr_x])) (by intros; first | rfl | (simp (disch := omega) only [up2_x, upr_x]))
    · exact rWai_fr h.wai (by intros; first | rfl | (simp (disch := omega) only [up2_x, upr_x])) (by intros; first | rfl | (simp (disch := omega) only [up2_x, upr_x]))
    · exact rFrm_fr h.frm (by intros; first | rfl | (simp (disch := omega) only [up2_x, upr_x])) (by intros; first | rfl | (simp (disch := omega) only [up2_x, upr_x]))
  · exact Md_fr hm (by first | rfl | simp (disch := omega) only [up2_x, upr_x]) (by first | rfl | simp (disch := omega) only [up2_x, upr_x]) (by first | rfl | simp (disch := omega) only [up2_x, upr_x]) (by first | rfl | simp (disch := omega) only [up2_x, upr_x]) (by first | rfl | simp (disch := omega) only [up2_x, upr_x])
