/-! SINGLE PRECISION: the model's rounding is the library's -/
theorem sh_l {k : Nat} (hk : k < 64) : (((nI k).toInt64 &&& 63).toBitVec.smod 64).toNat = k := by
  rw [wb_c k hk, wb_tb, wb_sm k hk, BitVec.toNat_ofNat]
  exact Nat.mod_eq_of_lt (by omega)
theorem lst_ge (n : Nat) (p : Int) : -149 ≤ lst n p ∧ (bl n : Int) + p - 24 ≤ lst n p ∧ (lst n p = -149 ∨ lst n p = (bl n : Int) + p - 24) := by
  unfold lst
  split <;> omega
theorem rkept_le {n : Nat} (hn : 0 < n) (p : Int) (lit : Bool) : rkept n (lst n p - p) lit ≤ 16777216 ∧ (rkept n (lst n p - p) lit < 8388608 → lst n p = -149) := by
  obtain ⟨l1, l2, l3⟩ := lst_ge n p
  obtain ⟨b1, b2, b3⟩ := bl_lo hn
  generalize lst n p = q at *
  unfold rkept
  by_cases h : q - p ≤ 0
  · rw [if_pos h]
    have e : (2 : Nat) ^ bl n * 2 ^ (-(q - p)).toNat ≤ 2 ^ 24 := by
      rw [← Nat.pow_add]
      exact Nat.pow_le_pow_right (by decide) (by omega)
    have e2 : n * 2 ^ (-(q - p)).toNat < 2 ^ bl n * 2 ^ (-(q - p)).toNat := Nat.mul_lt_mul_of_pos_right b2 (Nat.two_pow_pos _)
    refine ⟨by omega, fun z => ?_⟩
    rcases l3 with l3 | l3
    · exact l3
    · exfalso
      have e3 : (2 : Nat) ^ 23 ≤ 2 ^ (bl n - 1) * 2 ^ (-(q - p)).toNat := by
        rw [← Nat.pow_add]
        exact Nat.pow_le_pow_right (by decide) (by omega)
      have e4 : 2 ^ (bl n - 1) * 2 ^ (-(q - p)).toNat ≤ n * 2 ^ (-(q - p)).toNat := Nat.mul_le_mul_right _ b1
      omega
  · rw [if_neg h]
    have hd : n / 2 ^ (q - p).toNat < 2 ^ 24 := by
      apply (Nat.div_lt_iff_lt_mul (Nat.two_pow_pos _)).mpr
      rw [← Nat.pow_add]
      exact Nat.lt_of_lt_of_le b2 (Nat.pow_le_pow_right (by decide) (by omega))
    refine ⟨by split <;> omega, fun z => ?_⟩
    rcases l3 with l3 | l3
    · exact l3
    · exfalso
      have hd2 : 2 ^ 23 ≤ n / 2 ^ (q - p).toNat := by
        apply (Nat.le_div_iff_mul_le (Nat.two_pow_pos _)).mpr
        rw [← Nat.pow_add]
        exact Nat.le_trans (Nat.pow_le_pow_right (by decide) (by omega)) b1
      split at z <;> omega
theorem fm_rounded_v (s lit : Bool) {n : Nat} {p : Int} (M : Mem) (h0 : 0 < n) (hn : n < 2 ^ 62) (hp : -400 ≤ p) (hp2 : p ≤ 400) (hb : 60 < lst n p - p → n < 2 ^ 59) : fm_rounded (bI s) (lN n) (iZ p) (bI lit) M = some (nI (rbits s (rkept n (lst n p - p) lit) (lst n p)), M) := by
  obtain ⟨l1, l2, l3⟩ := lst_ge n p
  obtain ⟨b1, b2, b3⟩ := bl_lo h0
  obtain ⟨k1, k2⟩ := rkept_le h0 p lit
  have hbl : bl n ≤ 62 := bl_le hn
  have e0 : fm_rounded (bI s) (lN n) (iZ p) (bI lit) M = fm_rounded_10 (lN n) (iZ p) (bI lit) (nI (sgN s)) M := by
    unfold fm_rounded
    cases s
    · rfl
    · rfl
  have e1 : fm_rounded_10 (lN n) (iZ p) (bI lit) (nI (sgN s)) M = fm_rounded_36 (lN n) (iZ p) (bI lit) (nI (sgN s)) (iZ (lst n p)) M := by
    unfold fm_rounded_10
    rw [fm_lengthOf_v hn, bnd_s, ← iZ_nat (by omega), iZ_add, show (24 : Int32) = iZ 24 from rfl, iZ_sub, show (-149 : Int32) = iZ (-149) by decide]
    unfold lst
    by_cases h : (-149 : Int) ≤ (bl n : Int) + p - 24
    · rw [if_pos ((iZ_le (by decide) (by omega)).mpr h), if_pos h]
    · rw [if_neg (fun z => h ((iZ_le (by decide) (by omega)).mp z)), if_neg h]
  have e2 : fm_rounded_36 (lN n) (iZ p) (bI lit) (nI (sgN s)) (iZ (lst n p)) M = fm_rounded_132 (nI (sgN s)) (iZ (lst n p)) (lN (rkept n (lst n p - p) lit)) M := by
    unfold fm_rounded_36
    rw [iZ_sub, show (0 : Int32) = iZ 0 from rfl, show (60 : Int32) = iZ 60 from rfl]
    generalize hB : lst n p - p = B at *
    unfold rkept
    by_cases h1 : B ≤ 0
    · rw [if_neg (fun z => by have := (iZ_lt (by decide) (by omega)).mp z; omega), if_pos h1]
      obtain ⟨k, hk⟩ : ∃ k : Nat, -B = (k : Int) := ⟨(-B).toNat, by omega⟩
      have hneg : -iZ B = iZ (-B) := by
        apply i32_eq.mpr
        rw [Int32.toInt_neg, iZ_toInt (by omega) (by omega), iZ_toInt (by omega) (by omega)]
        exact Int.bmod_eq_of_le (by omega) (by omega)
      rw [hneg, hk, iZ_nat (by omega), wb_shl n (by omega)]
      rfl
    · rw [if_pos ((iZ_lt (by decide) (by omega)).mpr (by omega)), if_neg h1]
      obtain ⟨k, hk⟩ : ∃ k : Nat, B = (k : Int) := ⟨B.toNat, by omega⟩
      subst hk
      rw [show ((k : Nat) : Int).toNat = k from rfl]
      by_cases h2 : k ≤ 60
      · rw [if_pos ((iZ_le (by omega) (by decide)).mpr (by omega)), show (1 : Int32) = iZ 1 from rfl, iZ_sub, show ((k : Int) - 1) = ((k - 1 : Nat) : Int) by omega, iZ_nat (show k < 2147483648 by omega), iZ_nat (show k - 1 < 2147483648 by omega)]
        have hh : (1 : Int64) <<< ((nI (k - 1)).toInt64 &&& 63) = lN (2 ^ (k - 1)) := by
          have := wb_shl 1 (show k - 1 < 64 by omega)
          rw [Nat.one_mul] at this
          exact this
        have hpw : 2 * 2 ^ (k - 1) = 2 ^ k := by
          rw [← Nat.pow_succ']
          congr 1
          omega
        have hpos : 0 < 2 ^ k := Nat.two_pow_pos k
        have hk64 : 2 ^ k ≤ 2 ^ 60 := Nat.pow_le_pow_right (by decide) h2
        have hm : (2 : Int64) * lN (2 ^ (k - 1)) - 1 = lN (2 ^ k - 1) := by
          rw [show (2 : Int64) = lN 2 from rfl, lN_mul, show (1 : Int64) = lN 1 from rfl, lN_sub (by omega), hpw]
        have hmod : n % 2 ^ k < 2 ^ k := Nat.mod_lt _ hpos
        have hdiv : n / 2 ^ k ≤ n := Nat.div_le_self _ _
        rw [hh, hm, wb_mask (by omega) (by omega), pf_shr (sh_l (show k < 64 by omega)) hn]
        have c1 := lc_gt (a := n % 2 ^ k) (2 ^ (k - 1)) _ (by omega) (by omega) rfl
        have c2 := lc_eq (a := n % 2 ^ k) (2 ^ (k - 1)) _ (by omega) (by omega) rfl
        have c3 : lg_cmp (lN (n / 2 ^ k) &&& 1) 1 = 0 ↔ n / 2 ^ k % 2 = 1 := by
          rw [wb_a1 (by omega)]
          exact lc_eq 1 1 (by omega) (by decide) rfl
        unfold fm_rounded_126
        rw [show (1 : Int64) = lN 1 from rfl] at *
        rw [lN_add, show iZ 0 = (0 : Int32) from rfl]
        by_cases d1 : 2 ^ (k - 1) < n % 2 ^ k
        · rw [if_pos (c1.mpr d1), if_pos (Or.inl d1)]
        · rw [if_neg (fun z => d1 (c1.mp z))]
          by_cases d2 : n % 2 ^ k = 2 ^ (k - 1)
          · rw [if_pos (c2.mpr d2)]
            cases lit with
            | true =>
              rw [if_neg (by decide), if_pos (Or.inr ⟨d2, Or.inl rfl⟩)]
            | false =>
              rw [if_pos (by decide)]
              by_cases d3 : n / 2 ^ k % 2 = 1
              · rw [if_pos (c3.mpr d3), if_pos (Or.inr ⟨d2, Or.inr d3⟩)]
              · rw [if_neg (fun z => d3 (c3.mp z)), if_neg (fun z => by rcases z with z | ⟨-, z | z⟩ <;> first | omega | (cases z; done) | exact d3 z)]
          · rw [if_neg (fun z => d2 (c2.mp z)), if_neg (fun z => by rcases z with z | ⟨z, -⟩ <;> first | omega | exact d2 z)]
      · rw [if_neg (fun z => h2 (by have := (iZ_le (by omega) (by decide)).mp z; omega))]
        have hn2 := hb (by omega)
        have hk2 : 2 ^ 60 ≤ 2 ^ (k - 1) := Nat.pow_le_pow_right (by decide) (by omega)
        have hk3 : 2 ^ (k - 1) ≤ 2 ^ k := Nat.pow_le_pow_right (by decide) (by omega)
        rw [if_neg (by rw [Nat.mod_eq_of_lt (by omega)]; intro z; omega), Nat.div_eq_of_lt (by omega)]
        rfl
  rw [e0, e1, e2]
  exact fm_rounded_132_v s M k1 l1 (by omega) (fun z => by have := k2 z; omega)
/-! .. and the library's -/
theorem log2_bl {n : Nat} (h : 0 < n) : (n.log2 : Int) = (bl n : Int) - 1 := by
  unfold bl
  rw [if_neg (by omega)]
  omega
theorem lead1 {n : Nat} (h : 0 < n) : FP.Core.leading n 1 = (bl n : Int) - 1 := by
  unfold FP.Core.leading
  have e : (1 : Nat).log2 = 0 := by decide
  rw [e]
  simp only [Int.ofNat_zero, Int.sub_zero]
  rw [if_pos]
  · exact log2_bl h
  · rw [show (n.log2 : Int).toNat = n.log2 from rfl, show (-(n.log2 : Int)).toNat = 0 by omega]
    have := Nat.log2_self_le (show n ≠ 0 by omega)
    omega
theorem bl_shift {n j r : Nat} (h : 0 < n) (hr : r < 2 ^ j) : bl (n * 2 ^ j + r) = bl n + j := by
  obtain ⟨b1, b2, b3⟩ := bl_lo h
  have hV : 0 < n * 2 ^ j + r := Nat.add_pos_left (Nat.mul_pos h (Nat.two_pow_pos _)) _
  have e : (n * 2 ^ j + r).log2 = bl n - 1 + j := by
    apply Nat.le_antisymm
    · have : (n * 2 ^ j + r).log2 < bl n + j := (Nat.log2_lt (by omega)).mpr (by
        rw [Nat.pow_add]
        have : (n + 1) * 2 ^ j ≤ 2 ^ bl n * 2 ^ j := Nat.mul_le_mul_right _ b2
        rw [Nat.add_mul] at this
        omega)
      omega
    · refine (Nat.le_log2 (by omega)).mpr ?_
      rw [Nat.pow_add]
      have : 2 ^ (bl n - 1) * 2 ^ j ≤ n * 2 ^ j := Nat.mul_le_mul_right _ b1
      omega
  have : bl (n * 2 ^ j + r) = (n * 2 ^ j + r).log2 + 1 := by
    rw [bl, if_neg (by omega)]
  rw [this, e]
  omega
theorem near1 {M B : Nat} (hB : 0 < B) : FP.Core.nearest (M * B) B = M := by
  unfold FP.Core.nearest
  rw [Nat.mul_mod_left, Nat.mul_div_cancel _ hB, if_pos (by omega)]
/-- the exact number is (n + r / 2^j) 2^p -/
theorem round_v (s : Bool) {n j r : Nat} {p e : Int} (h : 0 < n) (hr : r < 2 ^ j) (he : e = p - (j : Int)) (hb : ¬ r = 0 → 0 < lst n p - p) : FP.Core.roundRatio FP.Core.b32 s (n * 2 ^ j + r) 1 e = FP.Core.settle FP.Core.b32 s (rkept n (lst n p - p) (decide (¬ r = 0))) (lst n p) := by
  obtain ⟨l1, l2, l3⟩ := lst_ge n p
  have hV : 0 < n * 2 ^ j + r := Nat.add_pos_left (Nat.mul_pos h (Nat.two_pow_pos _)) _
  unfold FP.Core.roundRatio
  rw [if_neg (by omega)]
  have hq : FP.Core.quantum FP.Core.b32 (n * 2 ^ j + r) 1 e = lst n p := by
    unfold FP.Core.quantum
    rw [lead1 hV, bl_shift h hr, show FP.Core.b32.qmin = -149 by decide, show FP.Core.b32.p = 24 from rfl]
    unfold lst
    split <;> omega
  rw [hq]
  unfold FP.Core.roundAt
  congr 1
  unfold FP.Core.unitsNum FP.Core.unitsDen
  generalize lst n p = q at *
  rw [Nat.one_mul]
  unfold rkept
  by_cases h1 : q - p ≤ 0
  · rw [if_pos h1]
    have hr0 : r = 0 := by
      by_cases z : r = 0
      · exact z
      · have := hb z
        omega
    subst hr0
    rw [Nat.add_zero]
    by_cases h2 : q - e ≤ 0
    · rw [show (q - e).toNat = 0 by omega, Nat.pow_zero]
      have := near1 (M := n * 2 ^ j * 2 ^ (e - q).toNat) (B := 1) (by decide)
      rw [Nat.mul_one] at this
      rw [this, Nat.mul_assoc, ← Nat.pow_add]
      congr 2
      omega
    · rw [show (e - q).toNat = 0 by omega, Nat.pow_zero, Nat.mul_one]
      have e1 : n * 2 ^ j = n * 2 ^ (-(q - p)).toNat * 2 ^ (q - e).toNat := by
        rw [Nat.mul_assoc, ← Nat.pow_add]
        congr 2
        omega
      rw [e1, near1 (Nat.two_pow_pos _)]
  · rw [if_neg h1]
    obtain ⟨k, hk⟩ : ∃ k : Nat, q - p = ((k + 1 : Nat) : Int) := ⟨(q - p).toNat - 1, by omega⟩
    rw [hk, show (e - q).toNat = 0 by omega, Nat.pow_zero, Nat.mul_one, show (q - e).toNat = j + (k + 1) by omega, show ((k + 1 : Nat) : Int).toNat = k + 1 from rfl, Nat.add_sub_cancel, Nat.pow_add 2 j (k + 1)]
    unfold FP.Core.nearest
    have hJ : 0 < 2 ^ j := Nat.two_pow_pos j
    have v1 : (n * 2 ^ j + r) / 2 ^ j = n := by
      rw [Nat.add_comm, Nat.add_mul_div_right _ _ hJ, Nat.div_eq_of_lt hr, Nat.zero_add]
    have v2 : (n * 2 ^ j + r) % 2 ^ j = r := by
      rw [Nat.add_comm, Nat.add_mul_mod_self_right, Nat.mod_eq_of_lt hr]
    have d1 : (n * 2 ^ j + r) / (2 ^ j * 2 ^ (k + 1)) = n / 2 ^ (k + 1) := by rw [← Nat.div_div_eq_div_mul, v1]
    have d2 : (n * 2 ^ j + r) % (2 ^ j * 2 ^ (k + 1)) = r + 2 ^ j * (n % 2 ^ (k + 1)) := by rw [Nat.mod_mul, v1, v2]
    rw [d1, d2]
    have hpk : 2 ^ (k + 1) = 2 * 2 ^ k := Nat.pow_succ'
    have hR : n % 2 ^ (k + 1) < 2 * 2 ^ k := by rw [← hpk]; exact Nat.mod_lt _ (Nat.two_pow_pos _)
    rw [hpk, show 2 ^ j * (2 * 2 ^ k) = 2 * (2 ^ j * 2 ^ k) by rw [Nat.mul_left_comm]]
    rw [← hpk]
    generalize n / 2 ^ (k + 1) = D
    generalize n % 2 ^ (k + 1) = R at *
    have t : R < 2 ^ k ∨ R = 2 ^ k ∨ 2 ^ k < R := by omega
    rcases t with t | t | t
    · have m1 : 2 ^ j * R + 2 ^ j ≤ 2 ^ j * 2 ^ k := by
        have := Nat.mul_le_mul_left (2 ^ j) (show R + 1 ≤ 2 ^ k by omega)
        rw [Nat.mul_add, Nat.mul_one] at this
        exact this
      rw [if_pos (by omega), if_neg (by intro z; omega)]
    · subst t
      by_cases z : r = 0
      · subst z
        rw [if_neg (by omega), if_neg (by omega)]
        simp only [not_true_eq_false, decide_false]
        by_cases w : D % 2 = 1
        · rw [if_pos (Or.inr ⟨trivial, Or.inr w⟩), w]
        · rw [if_neg (by rintro (z | ⟨-, z | z⟩) <;> first | omega | (cases z; done) | exact w z)]
          omega
      · rw [if_neg (by omega), if_pos (by omega), if_pos (Or.inr ⟨rfl, Or.inl (by simp [z])⟩)]
    · have m1 : 2 ^ j * 2 ^ k + 2 ^ j ≤ 2 ^ j * R := by
        have := Nat.mul_le_mul_left (2 ^ j) (show 2 ^ k + 1 ≤ R by omega)
        rw [Nat.mul_add, Nat.mul_one] at this
        exact this
      rw [if_neg (by omega), if_pos (by omega), if_pos (Or.inl t)]
