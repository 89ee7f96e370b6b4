/-! SINGLE PRECISION: the sum whole; whole numbers; what is finite -/
theorem fadd_v {x y : Int32} (hx : ¬ fE x = 255) (hy : ¬ fE y = 255) (hq : fQ y ≤ fQ x) : FP.fadd x.toUInt32 y.toUInt32 = UInt32.ofNat (esum (fSg x) (fC x) (fSg y) (fC y) (fQ x - fQ y).toNat (fQ y)) := by
  show UInt32.ofNat (FP.Core.encode FP.Core.b32 (FP.Core.round FP.Core.b32 (FP.Core.exactSum (FP.Core.decode _ _) (FP.Core.decode _ _)))) = _
  rw [dec_v hx, dec_v hy]
  show UInt32.ofNat (FP.Core.encode FP.Core.b32 (FP.Core.roundRatio FP.Core.b32 (FP.Core.sumSign (fSg x) (fSg y) (FP.Core.sumUnits (fSg x) (fC x) (fQ x) (fSg y) (fC y) (fQ y) (min (fQ x) (fQ y)))) (FP.Core.sumUnits (fSg x) (fC x) (fQ x) (fSg y) (fC y) (fQ y) (min (fQ x) (fQ y))).natAbs 1 (min (fQ x) (fQ y)))) = _
  unfold FP.Core.sumUnits FP.Core.inUnits esum
  rw [show min (fQ x) (fQ y) = fQ y by omega, Int.sub_self, Int.toNat_zero, Nat.pow_zero, Nat.mul_one]
theorem fadd_w {x y : Int32} (hx : ¬ fE x = 255) (hy : ¬ fE y = 255) (hq : fQ x ≤ fQ y) : FP.fadd x.toUInt32 y.toUInt32 = UInt32.ofNat (esum (fSg y) (fC y) (fSg x) (fC x) (fQ y - fQ x).toNat (fQ x)) := by
  show UInt32.ofNat (FP.Core.encode FP.Core.b32 (FP.Core.round FP.Core.b32 (FP.Core.exactSum (FP.Core.decode _ _) (FP.Core.decode _ _)))) = _
  rw [dec_v hx, dec_v hy]
  show UInt32.ofNat (FP.Core.encode FP.Core.b32 (FP.Core.roundRatio FP.Core.b32 (FP.Core.sumSign (fSg x) (fSg y) (FP.Core.sumUnits (fSg x) (fC x) (fQ x) (fSg y) (fC y) (fQ y) (min (fQ x) (fQ y)))) (FP.Core.sumUnits (fSg x) (fC x) (fQ x) (fSg y) (fC y) (fQ y) (min (fQ x) (fQ y))).natAbs 1 (min (fQ x) (fQ y)))) = _
  unfold FP.Core.sumUnits FP.Core.inUnits esum FP.Core.sumSign
  rw [show min (fQ x) (fQ y) = fQ x by omega, Int.sub_self, Int.toNat_zero, Nat.pow_zero, Nat.mul_one, Int.add_comm, Bool.and_comm]
/-- a number is what its own sign, fraction and place make -/
theorem self_v {x : Int32} (hx : ¬ fE x = 255) (h0 : 0 < fC x) (j : Nat) : FP.Core.encode FP.Core.b32 (FP.Core.roundRatio FP.Core.b32 (fSg x) (fC x * 2 ^ j) 1 (fQ x - (j : Int))) = fb x := by
  have hv := round_v (fSg x) (n := fC x) (j := j) (r := 0) (p := fQ x) (e := fQ x - (j : Int)) h0 (Nat.two_pow_pos _) rfl (fun z => absurd rfl z)
  rw [Nat.add_zero] at hv
  rw [hv]
  have c := fC_lt x
  have q := fQ_ge x
  have hE := fE_lt x
  have hT := fT_lt x
  obtain ⟨b1, b2, b3⟩ := bl_lo h0
  have hbl : bl (fC x) ≤ 24 := bl_le c
  have hl : lst (fC x) (fQ x) = fQ x := by
    unfold lst
    by_cases hz : fE x = 0
    · have hq : fQ x = -149 := by unfold fQ; rw [if_pos hz]
      rw [hq]
      split <;> omega
    · have hc : 8388608 ≤ fC x := by unfold fC; rw [if_neg hz]; omega
      have : 23 < bl (fC x) := by
        rcases Nat.lt_or_ge 23 (bl (fC x)) with z | z
        · exact z
        · have := Nat.pow_le_pow_right (show 0 < 2 by decide) z
          omega
      rw [if_pos (by omega)]
      omega
  rw [hl, Int.sub_self]
  have hk : rkept (fC x) 0 (decide (¬ (0 : Nat) = 0)) = fC x := by
    unfold rkept
    rw [if_pos (by omega)]
    simp
  rw [hk]
  have hr := rbits_v (fSg x) (k := fC x) (q := fQ x) (by omega) q.1 (fun z => by
    by_cases hz : fE x = 0
    · unfold fQ; rw [if_pos hz]; omega
    · exfalso; unfold fC at z; rw [if_neg hz] at z; omega)
  unfold rbits at hr
  rw [hr, fb_split x]
  unfold sgN
  rw [Nat.add_assoc]
  congr 1
  by_cases hz : fE x = 0
  · have hc : fC x = fT x := by unfold fC; rw [if_pos hz]
    rw [hc, if_pos hT, hz]
    omega
  · have hc : fC x = 8388608 + fT x := by unfold fC; rw [if_neg hz]
    have hq2 : fQ x = (fE x : Int) - 150 := by unfold fQ; rw [if_neg hz]
    rw [hc, if_neg (by omega), if_pos (by omega), hq2, if_pos (by omega)]
    have : ((fE x : Int) - 150 + 150).toNat = fE x := by omega
    rw [this]
    omega
theorem fb0_sg {x : Int32} (h : fC x = 0) : fb x = sgN (fSg x) := by
  have hT := fT_lt x
  unfold fC at h
  rw [fb_split x]
  by_cases hz : fE x = 0
  · rw [if_pos hz] at h
    rw [hz, h]
    unfold sgN
    omega
  · rw [if_neg hz] at h
    omega
theorem fQ_0 {x : Int32} (h : fC x = 0) : fQ x = -149 := by
  unfold fC at h
  unfold fQ
  by_cases hz : fE x = 0
  · rw [if_pos hz]
  · rw [if_neg hz] at h
    omega
/-- one of them is zero -/
theorem esum_0 {x : Int32} (hx : ¬ fE x = 255) (h0 : 0 < fC x) (t : Bool) : esum (fSg x) (fC x) t 0 (fQ x - -149).toNat (-149) = fb x := by
  have q := fQ_ge x
  unfold esum FP.Core.sumSign FP.Core.signed
  have hX : 0 < fC x * 2 ^ (fQ x - -149).toNat := Nat.mul_pos h0 (Nat.two_pow_pos _)
  have hs := self_v hx h0 (fQ x - -149).toNat
  rw [show fQ x - ((fQ x - -149).toNat : Int) = -149 by omega] at hs
  generalize fC x * 2 ^ (fQ x - -149).toNat = X at *
  have ht : (if t = true then -((0 : Nat) : Int) else ((0 : Nat) : Int)) = 0 := by cases t <;> rfl
  rw [ht, Int.add_zero]
  cases hsx : fSg x with
  | false =>
    rw [hsx] at hs
    simp only [Bool.false_eq_true, if_false]
    rw [if_neg (by omega), decide_eq_false (by omega), show ((X : Int)).natAbs = X by omega]
    exact hs
  | true =>
    rw [hsx] at hs
    simp only [if_true]
    rw [if_neg (by omega), decide_eq_true (by omega), show (-(X : Int)).natAbs = X by omega]
    exact hs
theorem sgN_and (x y : Int32) : (nI (sgN (fSg x)) &&& nI (sgN (fSg y))) &&& (-2147483648) = nI (sgN (fSg x && fSg y)) := by
  cases fSg x <;> cases fSg y <;> decide
theorem fm_sum_v {x y : Int32} (M : Mem) (hx : ¬ fE x = 255) (hy : ¬ fE y = 255) : fm_sum x y M = some ((FP.fadd x.toUInt32 y.toUInt32).toInt32, M) := by
  have q1 := fQ_ge x
  have q2 := fQ_ge y
  have cx := fC_lt x
  have cy := fC_lt y
  have key : 0 < fC x ∨ 0 < fC y → fm_sum_25 x y M = some ((FP.fadd x.toUInt32 y.toUInt32).toInt32, M) := by
    intro hxy
    unfold fm_sum_25
    rw [fm_fraction_v, bnd_s, fm_fraction_v, bnd_s]
    by_cases hx0 : fC x = 0
    · have hy0 : 0 < fC y := by omega
      rw [hx0, if_pos fC_0, fadd_w hx hy (by rw [fQ_0 hx0]; omega), uN_nI, hx0, fQ_0 hx0, esum_0 hy hy0, nI_fb]
    · rw [if_neg (fun z => hx0 ((lc_eq 0 0 (by omega) (by decide) rfl).mp z))]
      by_cases hy0 : fC y = 0
      · rw [hy0, if_pos fC_0, fadd_v hx hy (by rw [fQ_0 hy0]; omega), uN_nI, hy0, fQ_0 hy0, esum_0 hx (by omega), nI_fb]
      · rw [if_neg (fun z => hy0 ((lc_eq 0 0 (by omega) (by decide) rfl).mp z)), fm_place_v, bnd_s, fm_place_v, bnd_s]
        unfold fm_sum_63 fm_sum_73
        by_cases hq : fQ y ≤ fQ x
        · rw [if_pos ((iZ_le (by omega) (by omega)).mpr hq), if_pos rfl, if_pos rfl, fm_sum_core M hq (by omega) (by omega), fadd_v hx hy hq, uN_nI]
        · rw [if_neg (fun z => hq ((iZ_le (by omega) (by omega)).mp z)), if_neg (by decide), if_neg (by decide), fm_sum_core M (by omega) (by omega) (by omega), fadd_w hx hy (by omega), uN_nI]
  unfold fm_sum
  rw [fm_fraction_v, bnd_s]
  by_cases hx0 : fC x = 0
  · rw [hx0, if_pos fC_0, fm_fraction_v, bnd_s]
    by_cases hy0 : fC y = 0
    · rw [hy0, if_pos fC_0, fadd_v hx hy (by rw [fQ_0 hx0, fQ_0 hy0]; omega), uN_nI, hx0, hy0]
      have h1 : x = nI (sgN (fSg x)) := by rw [← fb0_sg hx0, nI_fb]
      have h2 : y = nI (sgN (fSg y)) := by rw [← fb0_sg hy0, nI_fb]
      have hand := sgN_and x y
      rw [← h1, ← h2] at hand
      rw [hand]
      unfold esum FP.Core.sumSign FP.Core.signed
      rw [Nat.zero_mul]
      have ht : ∀ t : Bool, (if t = true then -((0 : Nat) : Int) else ((0 : Nat) : Int)) = 0 := by intro t; cases t <;> rfl
      rw [ht, ht, if_pos (by rfl), show ((0 : Int) + 0).natAbs = 0 from rfl, zero32]
    · rw [if_neg (fun z => hy0 ((lc_eq 0 0 (by omega) (by decide) rfl).mp z))]
      exact key (by omega)
  · rw [if_neg (fun z => hx0 ((lc_eq 0 0 (by omega) (by decide) rfl).mp z))]
    exact key (by omega)
/-! whole numbers -/
theorem fm_ofInt_v (v : Int32) (M : Mem) : fm_ofInt v M = some ((FP.i2f v).toInt32, M) := by
  have e : FP.i2f v = UInt32.ofNat (FP.Core.encode FP.Core.b32 (FP.Core.roundRatio FP.Core.b32 (decide (v.toInt < 0)) v.toInt.natAbs 1 0)) := rfl
  rw [e, uN_nI]
  have hv := fb_int v
  have hl := fb_lt v
  unfold fm_ofInt fm_ofInt_18 fm_ofInt_28
  by_cases h0 : v = 0
  · subst h0
    rw [if_pos rfl]
    rfl
  · have hne : ¬ v.toInt = 0 := fun z => h0 (i32_eq.mpr (by rw [z]; rfl))
    rw [if_neg h0]
    by_cases hp : 0 ≤ v
    · have hp2 : 0 ≤ v.toInt := by rw [i32_le] at hp; exact hp
      rw [if_pos hp, if_pos hp]
      obtain ⟨n, hn⟩ : ∃ n : Nat, v.toInt = (n : Int) := ⟨v.toInt.toNat, by omega⟩
      have hvn : v = nI n := i32_eq.mpr (by rw [hn, nI_toInt (by omega)])
      have := fm_rounded_v false false (n := n) (p := 0) M (by omega) (by omega) (by omega) (by omega) (fun _ => by omega)
      rw [show (bI false) = (0 : Int32) from rfl, show iZ 0 = (0 : Int32) from rfl] at this
      rw [hn, decide_eq_false (by omega), show (n : Int).natAbs = n from rfl, round1 false (by omega), hvn, nI_l (by omega), this, bnd_s]
    · have hp2 : v.toInt < 0 := by rw [i32_le] at hp; simp only [show (0 : Int32).toInt = 0 from rfl] at hp; omega
      rw [if_neg hp, if_neg hp]
      obtain ⟨n, hn⟩ : ∃ n : Nat, v.toInt = -(n : Int) := ⟨v.toInt.natAbs, by omega⟩
      have hneg : -v.toInt64 = lN n := by
        apply Int64.toInt_inj.mp
        rw [Int64.toInt_neg, pk_lT (by omega), Int32.toInt_toInt64, hn]
        rw [Int.neg_neg]
        exact Int.bmod_eq_of_le (by omega) (by omega)
      have := fm_rounded_v true false (n := n) (p := 0) M (by omega) (by omega) (by omega) (by omega) (fun _ => by omega)
      rw [show (bI false) = (0 : Int32) from rfl, show (bI true) = (1 : Int32) from rfl, show iZ 0 = (0 : Int32) from rfl] at this
      rw [hn, decide_eq_true (by omega), show (-(n : Int)).natAbs = n by omega, round1 true (by omega), hneg, this, bnd_s]
