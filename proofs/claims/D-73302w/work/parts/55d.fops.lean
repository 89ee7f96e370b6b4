/-! SINGLE PRECISION: product and sum -/
theorem uN_nI (m : Nat) : (UInt32.ofNat m).toInt32 = nI m := rfl
theorem dec_v {x : Int32} (h : ¬ fE x = 255) : FP.Core.decode FP.Core.b32 x.toUInt32.toNat = .fin (fSg x) (fC x) (fQ x) := by
  have e0 : x.toUInt32.toNat = fb x := rfl
  have e1 : FP.Core.b32.tails = 8388608 := by decide
  have e2 : FP.Core.b32.exps = 256 := by decide
  have e3 : FP.Core.b32.qmin = -149 := by decide
  have hl := fb_lt x
  have hS : (fb x / 8388608 / 256 % 2 == 1) = fSg x := by
    unfold fSg
    rw [Bool.eq_iff_iff, beq_iff_eq, decide_eq_true_iff]
    omega
  unfold FP.Core.decode FP.Core.fieldE FP.Core.fieldT FP.Core.fieldS
  rw [e0, e1, e2, e3, hS]
  show (if fE x = 255 then _ else if fE x = 0 then FP.Core.Datum.fin _ (fT x) _ else FP.Core.Datum.fin _ (8388608 + fT x) (-149 + ((fE x : Int) - 1))) = _
  rw [if_neg h]
  unfold fC fQ
  by_cases h0 : fE x = 0
  · rw [if_pos h0, if_pos h0, if_pos h0]
  · rw [if_neg h0, if_neg h0, if_neg h0]
    congr 1
    omega
theorem msb_sg (x : Int32) : x.toBitVec.msb = fSg x := by
  rw [BitVec.msb_eq_decide]
  rfl
theorem xor_sg (x y : Int32) : 0 ≤ (x ^^^ y) ↔ fSg x = fSg y := by
  have h1 := fSg_neg (x ^^^ y)
  have h2 : fSg (x ^^^ y) = (fSg x ^^ fSg y) := by
    rw [← msb_sg, ← msb_sg, ← msb_sg, Int32.toBitVec_xor, BitVec.msb_xor]
  rw [h2] at h1
  have h3 : 0 ≤ (x ^^^ y) ↔ ¬ (x ^^^ y) < 0 := by
    rw [i32_le, i32_lt]
    omega
  rw [h3, h1]
  cases fSg x <;> cases fSg y <;> simp
theorem fC_0 : lg_cmp (lN 0) (0 : Int64) = 0 := rfl
theorem zero32 (s : Bool) (e : Int) : FP.Core.encode FP.Core.b32 (FP.Core.roundRatio FP.Core.b32 s 0 1 e) = sgN s := by
  unfold FP.Core.roundRatio
  rw [if_pos rfl]
  rw [enc_fin, if_pos (by decide)]
  omega
theorem round1 (s : Bool) {n : Nat} (h : 0 < n) (p : Int) : FP.Core.encode FP.Core.b32 (FP.Core.roundRatio FP.Core.b32 s n 1 p) = rbits s (rkept n (lst n p - p) false) (lst n p) := by
  have := round_v s (n := n) (j := 0) (r := 0) (p := p) (e := p) h (by decide) (by omega) (fun z => absurd rfl z)
  rw [Nat.pow_zero, Nat.mul_one, Nat.add_zero] at this
  rw [this]
  rfl
theorem bI_ite {x y : Int32} {α : Type} (f : Int32 → α) (h : (0 ≤ (x ^^^ y)) ↔ fSg x = fSg y) : (if 0 ≤ (x ^^^ y) then f 0 else f 1) = f (bI (fSg x != fSg y)) := by
  by_cases z : fSg x = fSg y
  · rw [if_pos (h.mpr z), z]
    cases fSg y <;> rfl
  · rw [if_neg (fun w => z (h.mp w))]
    have : (fSg x != fSg y) = true := by simp [z]
    rw [this]
    rfl
theorem sg_bI (s : Bool) : (if bI s = 0 then (0 : Int32) else -2147483648) = nI (sgN s) := by cases s <;> rfl
theorem fm_product_v {x y : Int32} (M : Mem) (hx : ¬ fE x = 255) (hy : ¬ fE y = 255) : fm_product x y M = some ((FP.fmul x.toUInt32 y.toUInt32).toInt32, M) := by
  have e : FP.fmul x.toUInt32 y.toUInt32 = UInt32.ofNat (FP.Core.encode FP.Core.b32 (FP.Core.roundRatio FP.Core.b32 (fSg x != fSg y) (fC x * fC y) 1 (fQ x + fQ y))) := by
    show UInt32.ofNat (FP.Core.encode FP.Core.b32 (FP.Core.round FP.Core.b32 (FP.Core.exactProduct (FP.Core.decode _ _) (FP.Core.decode _ _)))) = _
    rw [dec_v hx, dec_v hy]
    rfl
  have c1 := fC_lt x
  have c2 := fC_lt y
  have q1 := fQ_ge x
  have q2 := fQ_ge y
  have hm : fC x * fC y ≤ 16777216 * 16777216 := Nat.mul_le_mul (by omega) (by omega)
  rw [e, uN_nI]
  unfold fm_product
  rw [bI_ite (fun z => fm_product_11 x y z M) (xor_sg x y)]
  generalize (fSg x != fSg y) = S
  unfold fm_product_11 fm_product_38
  rw [fm_fraction_v, bnd_s, fm_fraction_v, bnd_s, lN_mul]
  by_cases h0 : fC x * fC y = 0
  · rw [h0, if_pos fC_0, zero32]
    cases S <;> rfl
  · rw [if_neg (fun z => h0 ((lc_eq 0 0 (by omega) (by decide) rfl).mp z)), fm_place_v, bnd_s, fm_place_v, bnd_s, iZ_add]
    have := fm_rounded_v S false (n := fC x * fC y) (p := fQ x + fQ y) M (by omega) (by omega) (by omega) (by omega) (fun _ => by omega)
    rw [show (bI false) = (0 : Int32) from rfl] at this
    rw [this, bnd_s, round1 S (by omega)]
/-! the sum -/
theorem sticky (M : Mem) (x3 x4 x6 : Int32) (x7 : Int64) (ap : Nat) (hap : ap < 500) : ∀ (m n k y : Nat) (lit : Bool), k + m = ap → m < n → y < 2 ^ 62 → fm_sum_136 n x3 x4 (nI ap) x6 x7 (lN y) (bI lit) (nI k) M = fm_sum_174 x3 x4 x6 x7 (lN (y / 2 ^ m)) (bI (lit || decide (¬ y % 2 ^ m = 0))) M := by
  intro m
  induction m with
  | zero =>
    intro n k y lit hk hn hy
    obtain ⟨n', rfl⟩ : ∃ n', n = n' + 1 := ⟨n - 1, by omega⟩
    show fm_sum_136b (fm_sum_136 n') _ _ _ _ _ _ _ _ M = _
    unfold fm_sum_136b
    have : k = ap := by omega
    subst this
    rw [if_pos (nI_le (Nat.le_refl _) (by omega)), Nat.pow_zero, Nat.div_one, Nat.mod_one]
    simp
  | succ m ih =>
    intro n k y lit hk hn hy
    obtain ⟨n', rfl⟩ : ∃ n', n = n' + 1 := ⟨n - 1, by omega⟩
    show fm_sum_136b (fm_sum_136 n') _ _ _ _ _ _ _ _ M = _
    unfold fm_sum_136b fm_sum_162
    rw [if_neg (nI_ge (show k < ap by omega) (by omega))]
    by_cases h0 : y = 0
    · subst h0
      rw [if_pos (by decide), Nat.zero_div, Nat.zero_mod]
      simp
    · rw [if_neg (fun z => h0 (by have := (lc_le 0 0 (show y < 2 ^ 63 by omega) (by decide) rfl).mp z; omega)), wb_a1 (by omega), nI_1, pf_shr sh1 hy, show y / 2 ^ 1 = y / 2 from rfl]
      have hp : 2 ^ (m + 1) = 2 * 2 ^ m := Nat.pow_succ'
      have d1 : y / 2 ^ (m + 1) = y / 2 / 2 ^ m := by rw [hp, Nat.div_div_eq_div_mul]
      have d2 : y % 2 ^ (m + 1) = y % 2 + 2 * (y / 2 % 2 ^ m) := by rw [hp, Nat.mod_mul]
      rw [d1, d2]
      have c := lc_eq (a := y % 2) 1 1 (by omega) (by decide) rfl
      by_cases hb : y % 2 = 1
      · rw [if_pos (c.mpr hb)]
        have := ih n' (k + 1) (y / 2) true (by omega) (by omega) (by omega)
        rw [show (bI true) = (1 : Int32) from rfl] at this
        rw [this]
        congr 2
        simp
        omega
      · rw [if_neg (fun z => hb (c.mp z)), ih n' (k + 1) (y / 2) lit (by omega) (by omega) (by omega)]
        congr 2
        have : y % 2 = 0 := by omega
        rw [this]
        by_cases hz : y / 2 % 2 ^ m = 0
        · simp [hz]
        · have h2 : ¬ (0 + 2 * (y / 2 % 2 ^ m) = 0) := by omega
          simp only [hz, h2]
theorem sgn_ite {x : Int32} {α : Type} (f : Int32 → α) : (if 0 ≤ x then f 0 else f 1) = f (bI (fSg x)) := by
  have h := fSg_neg x
  have h3 : 0 ≤ x ↔ ¬ x < 0 := by
    rw [i32_le, i32_lt]
    omega
  by_cases z : 0 ≤ x
  · rw [if_pos z]
    have : fSg x = false := by
      cases hs : fSg x with
      | false => rfl
      | true => exact absurd (h.mpr hs) (h3.mp z)
    rw [this]; rfl
  · rw [if_neg z]
    have : fSg x = true := h.mp (by
      rw [i32_lt]
      rw [i32_le] at z
      omega)
    rw [this]; rfl
/-- the library's sum, of two finite numbers -/
def esum (s : Bool) (c : Nat) (t : Bool) (d ap : Nat) (e : Int) : Nat := FP.Core.encode FP.Core.b32 (FP.Core.roundRatio FP.Core.b32 (FP.Core.sumSign s t (FP.Core.signed s (c * 2 ^ ap) + FP.Core.signed t d)) (FP.Core.signed s (c * 2 ^ ap) + FP.Core.signed t d).natAbs 1 e)
theorem esum_same (s : Bool) (c d ap : Nat) (e : Int) (hd : 0 < d) : esum s c s d ap e = FP.Core.encode FP.Core.b32 (FP.Core.roundRatio FP.Core.b32 s (c * 2 ^ ap + d) 1 e) := by
  unfold esum FP.Core.sumSign FP.Core.signed
  generalize c * 2 ^ ap = X
  cases s with
  | false =>
    simp only [Bool.false_eq_true, if_false]
    rw [if_neg (by omega), show ((X : Int) + (d : Int)).natAbs = X + d by omega]
    rw [decide_eq_false (by omega)]
  | true =>
    simp only [if_true]
    rw [if_neg (by omega), show (-(X : Int) + -(d : Int)).natAbs = X + d by omega]
    rw [decide_eq_true (by omega)]
theorem esum_gt (s : Bool) (c d ap : Nat) (e : Int) (h : d < c * 2 ^ ap) : esum s c (!s) d ap e = FP.Core.encode FP.Core.b32 (FP.Core.roundRatio FP.Core.b32 s (c * 2 ^ ap - d) 1 e) := by
  unfold esum FP.Core.sumSign FP.Core.signed
  generalize c * 2 ^ ap = X at *
  cases s with
  | false =>
    simp only [Bool.false_eq_true, if_false, Bool.not_false, if_true]
    rw [if_neg (by omega), show ((X : Int) + -(d : Int)).natAbs = X - d by omega]
    rw [decide_eq_false (by omega)]
  | true =>
    simp only [if_true, Bool.not_true, Bool.false_eq_true, if_false]
    rw [if_neg (by omega), show (-(X : Int) + (d : Int)).natAbs = X - d by omega]
    rw [decide_eq_true (by omega)]
theorem esum_lt (s : Bool) (c d ap : Nat) (e : Int) (h : c * 2 ^ ap < d) : esum s c (!s) d ap e = FP.Core.encode FP.Core.b32 (FP.Core.roundRatio FP.Core.b32 (!s) (d - c * 2 ^ ap) 1 e) := by
  unfold esum FP.Core.sumSign FP.Core.signed
  generalize c * 2 ^ ap = X at *
  cases s with
  | false =>
    simp only [Bool.false_eq_true, if_false, Bool.not_false, if_true]
    rw [if_neg (by omega), show ((X : Int) + -(d : Int)).natAbs = d - X by omega]
    rw [decide_eq_true (by omega)]
  | true =>
    simp only [if_true, Bool.not_true, Bool.false_eq_true, if_false]
    rw [if_neg (by omega), show (-(X : Int) + (d : Int)).natAbs = d - X by omega]
    rw [decide_eq_false (by omega)]
theorem esum_eq (s : Bool) (c d ap : Nat) (e : Int) (h : c * 2 ^ ap = d) : esum s c (!s) d ap e = 0 := by
  unfold esum FP.Core.sumSign FP.Core.signed
  rw [h]
  cases s with
  | false =>
    simp only [Bool.false_eq_true, if_false, Bool.not_false, if_true]
    rw [show ((d : Int) + -(d : Int)) = 0 by omega, if_pos rfl]
    exact zero32 _ _
  | true =>
    simp only [if_true, Bool.not_true, Bool.false_eq_true, if_false]
    rw [show (-(d : Int) + (d : Int)) = 0 by omega, if_pos rfl]
    exact zero32 _ _
theorem fm_sum_core {hi lo : Int32} (M : Mem) (hq : fQ lo ≤ fQ hi) (h1 : 0 < fC hi) (h2 : 0 < fC lo) : fm_sum_83 hi lo M = some (nI (esum (fSg hi) (fC hi) (fSg lo) (fC lo) (fQ hi - fQ lo).toNat (fQ lo)), M) := by
  have c1 := fC_lt hi
  have c2 := fC_lt lo
  have q1 := fQ_ge hi
  have q2 := fQ_ge lo
  have hnorm : fQ lo < fQ hi → 8388608 ≤ fC hi := by
    intro z
    unfold fC
    unfold fQ at z q2
    split
    · rename_i w
      rw [if_pos w] at z
      split at z <;> split at q2 <;> omega
    · omega
  obtain ⟨ap, hap⟩ : ∃ ap : Nat, fQ hi - fQ lo = (ap : Int) := ⟨(fQ hi - fQ lo).toNat, by omega⟩
  have hap2 : ap ≤ 254 := by omega
  unfold fm_sum_83 fm_sum_111
  rw [fm_place_v, bnd_s, fm_place_v, bnd_s, iZ_sub, hap, iZ_nat (by omega), show ((ap : Nat) : Int).toNat = ap from rfl]
  simp only [fm_fraction_v, bnd_s]
  -- by: how far the higher one is moved
  have key : ∀ b : Nat, b ≤ ap → b ≤ 38 → (b < ap → b = 38) → fm_sum_136 600 hi lo (nI ap) (nI b) (lN (fC hi) <<< ((nI b).toInt64 &&& 63)) (lN (fC lo)) 0 (nI b) M = some (nI (esum (fSg hi) (fC hi) (fSg lo) (fC lo) ap (fQ lo)), M) := by
    intro b hb hb38 hbe
    have hs := sticky M hi lo (nI b) (lN (fC hi * 2 ^ b)) ap (by omega) (ap - b) 600 b (fC lo) false (by omega) (by omega) (by omega)
    rw [show (bI false) = (0 : Int32) from rfl] at hs
    rw [wb_shl _ (by omega), hs, Bool.false_or]
    clear hs
    generalize hj : ap - b = j
    have hpj : 0 < 2 ^ j := Nat.two_pow_pos j
    have hbp : 2 ^ b ≤ 2 ^ 38 := Nat.pow_le_pow_right (by decide) hb38
    have hXle : fC hi * 2 ^ b ≤ 16777215 * 2 ^ 38 := Nat.mul_le_mul (by omega) hbp
    have hXpos : 0 < fC hi * 2 ^ b := Nat.mul_pos h1 (Nat.two_pow_pos _)
    have hXbig : ¬ j = 0 → 2 ^ 61 ≤ fC hi * 2 ^ b := by
      intro z
      have : b = 38 := hbe (by omega)
      subst this
      have := hnorm (by omega)
      omega
    have hyl : fC lo / 2 ^ j ≤ fC lo := Nat.div_le_self _ _
    have hdm : fC lo = fC lo / 2 ^ j * 2 ^ j + fC lo % 2 ^ j := by
      have := Nat.div_add_mod (fC lo) (2 ^ j)
      rw [Nat.mul_comm] at this
      exact this.symm
    have hrl : fC lo % 2 ^ j < 2 ^ j := Nat.mod_lt _ hpj
    have hr0 : j = 0 → fC lo % 2 ^ j = 0 := by
      intro z
      rw [z, Nat.pow_zero, Nat.mod_one]
    have hX2 : fC hi * 2 ^ ap = fC hi * 2 ^ b * 2 ^ j := by
      rw [Nat.mul_assoc, ← Nat.pow_add]
      congr 2
      omega
    unfold fm_sum_174
    rw [fm_place_v, bnd_s, ← iZ_nat (show b < 2147483648 by omega), iZ_sub]
    generalize hp : fQ hi - (b : Int) = p
    have hpe : fQ lo = p - (j : Int) := by omega
    generalize fC lo / 2 ^ j = y at *
    generalize fC lo % 2 ^ j = r at *
    generalize hX : fC hi * 2 ^ b = X at *
    have lstp : ∀ n : Nat, 0 < n → n < 2 ^ 62 → lst n p - p ≤ 60 := by
      intro n hn0 hn
      have := bl_le hn
      obtain ⟨l1, l2, l3⟩ := lst_ge n p
      omega
    have lstq : ∀ n : Nat, 2 ^ 60 ≤ n → 0 < lst n p - p := by
      intro n hn
      obtain ⟨l1, l2, l3⟩ := lst_ge n p
      obtain ⟨b1, b2, b3⟩ := bl_lo (show 0 < n by omega)
      have : 60 < bl n := by
        rcases Nat.lt_or_ge 60 (bl n) with z | z
        · exact z
        · have := Nat.pow_le_pow_right (show 0 < 2 by decide) z
          omega
      omega
    have hxs : (hi ^^^ lo) < 0 ↔ ¬ fSg hi = fSg lo := by
      rw [← xor_sg, i32_le, i32_lt]
      omega
    by_cases hsg : fSg hi = fSg lo
    · -- one sign
      rw [if_neg (fun z => (hxs.mp z) hsg), ← hsg, esum_same _ _ _ _ _ h2]
      have hn0 : 0 < X + y := by omega
      have hn : X + y < 2 ^ 62 := by omega
      rw [sgn_ite (fun z => fm_sum_199 (lN X) (lN y) (bI (decide (¬ r = 0))) (iZ p) z M)]
      unfold fm_sum_199
      rw [lN_add, fm_rounded_v _ _ M hn0 hn (by omega) (by omega) (fun z => by have := lstp _ hn0 hn; omega), bnd_s]
      have := round_v (fSg hi) (n := X + y) (j := j) (r := r) (p := p) (e := fQ lo) hn0 hrl hpe (fun z => lstq _ (by have := hXbig (fun w => z (hr0 w)); omega))
      rw [hX2, show X * 2 ^ j + fC lo = (X + y) * 2 ^ j + r by rw [Nat.add_mul]; omega, this]
      rfl
    · have hsn : fSg lo = !fSg hi := by
        cases ha : fSg hi <;> cases hb' : fSg lo <;> simp_all
      rw [if_pos (hxs.mpr hsg), hsn]
      by_cases hr : r = 0
      · -- nothing is lost
        have e0 : bI (decide (¬ r = 0)) = 0 := by simp [hr, bI]
        have hlo : fC lo = y * 2 ^ j := by omega
        rw [e0, if_pos rfl]
        by_cases hxy : X = y
        · rw [if_pos ((lc_eq _ _ (by omega) (by omega) rfl).mpr hxy), esum_eq _ _ _ _ _ (by rw [hX2, hlo, hxy])]
          rfl
        · rw [if_neg (fun z => hxy ((lc_eq _ _ (by omega) (by omega) rfl).mp z))]
          by_cases hle : X ≤ y
          · rw [if_pos ((lc_le _ _ (by omega) (by omega) rfl).mpr hle), sgn_ite (fun z => fm_sum_291 (lN X) (lN y) (iZ p) z M), hsn]
            have hm : X * 2 ^ j < y * 2 ^ j := Nat.mul_lt_mul_of_pos_right (by omega) hpj
            unfold fm_sum_291 fm_sum_302
            have := fm_rounded_v (!fSg hi) false (n := y - X) (p := p) M (by omega) (by omega) (by omega) (by omega) (fun z => by have := lstp (y - X) (by omega) (by omega); omega)
            rw [show (bI false) = (0 : Int32) from rfl] at this
            rw [lN_sub (by omega), this, bnd_s, esum_lt _ _ _ _ _ (by rw [hX2, hlo]; exact hm)]
            have hv := round_v (!fSg hi) (n := y - X) (j := j) (r := 0) (p := p) (e := fQ lo) (by omega) hpj hpe (fun z => absurd rfl z)
            rw [hX2, hlo, ← Nat.sub_mul, show (y - X) * 2 ^ j = (y - X) * 2 ^ j + 0 from rfl, hv]
            rfl
          · rw [if_neg (fun z => hle ((lc_le _ _ (by omega) (by omega) rfl).mp z)), sgn_ite (fun z => fm_sum_267 (lN X) (lN y) (iZ p) z M)]
            have hm : y * 2 ^ j < X * 2 ^ j := Nat.mul_lt_mul_of_pos_right (by omega) hpj
            unfold fm_sum_267 fm_sum_302
            have := fm_rounded_v (fSg hi) false (n := X - y) (p := p) M (by omega) (by omega) (by omega) (by omega) (fun z => by have := lstp (X - y) (by omega) (by omega); omega)
            rw [show (bI false) = (0 : Int32) from rfl] at this
            rw [lN_sub (by omega), this, bnd_s, esum_gt _ _ _ _ _ (by rw [hX2, hlo]; exact hm)]
            have hv := round_v (fSg hi) (n := X - y) (j := j) (r := 0) (p := p) (e := fQ lo) (by omega) hpj hpe (fun z => absurd rfl z)
            rw [hX2, hlo, ← Nat.sub_mul, show (X - y) * 2 ^ j = (X - y) * 2 ^ j + 0 from rfl, hv]
            rfl
      · -- a little is lost
        have hbig := hXbig (fun w => hr (hr0 w))
        have e0 : ¬ bI (decide (¬ r = 0)) = 0 := by simp [hr, bI]
        rw [if_neg e0, sgn_ite (fun z => fm_sum_226 (lN X) (lN y) (iZ p) z M)]
        unfold fm_sum_226
        have hn0 : 0 < X - y - 1 := by omega
        have hn : X - y - 1 < 2 ^ 62 := by omega
        have := fm_rounded_v (fSg hi) true (n := X - y - 1) (p := p) M hn0 hn (by omega) (by omega) (fun z => by have := lstp _ hn0 hn; omega)
        rw [show (bI true) = (1 : Int32) from rfl] at this
        rw [lN_sub (by omega), show (1 : Int64) = lN 1 from rfl, lN_sub (by omega), this, bnd_s]
        have hv := round_v (fSg hi) (n := X - y - 1) (j := j) (r := 2 ^ j - r) (p := p) (e := fQ lo) hn0 (by omega) hpe (fun _ => lstq _ (by omega))
        have hsub : X * 2 ^ j = (X - y - 1) * 2 ^ j + y * 2 ^ j + 2 ^ j := by
          rw [← Nat.add_mul]
          have : X = (X - y - 1) + y + 1 := by omega
          conv => lhs; rw [this, Nat.add_mul, Nat.one_mul]
        rw [esum_gt _ _ _ _ _ (by rw [hX2]; omega), hX2, show X * 2 ^ j - fC lo = (X - y - 1) * 2 ^ j + (2 ^ j - r) by omega, hv, decide_eq_true (show ¬ 2 ^ j - r = 0 by omega)]
        rfl
  by_cases h38 : 38 ≤ ap
  · rw [if_pos (show (38 : Int32) ≤ nI ap from nI_le (a := 38) h38 (by omega))]
    exact key 38 h38 (by omega) (fun _ => rfl)
  · rw [if_neg (show ¬ (38 : Int32) ≤ nI ap from nI_ge (b := 38) (by omega) (by decide))]
    exact key ap (Nat.le_refl _) (by omega) (fun z => by omega)
