/-! SINGLE PRECISION: against the greatest number; the number of some bits -/
theorem dec_max : FP.Core.decode FP.Core.b32 (2139095039 : UInt32).toNat = .fin false 16777215 104 := by decide +kernel
theorem dec_min : FP.Core.decode FP.Core.b32 (4286578687 : UInt32).toNat = .fin true 16777215 104 := by decide +kernel
theorem dec_inf {x : Int32} (h : fE x = 255) (h2 : fT x = 0) : FP.Core.decode FP.Core.b32 x.toUInt32.toNat = .inf (fSg x) := by
  have e0 : x.toUInt32.toNat = fb x := rfl
  have e1 : FP.Core.b32.tails = 8388608 := by decide
  have e2 : FP.Core.b32.exps = 256 := by decide
  have hl := fb_lt x
  have hS : (fb x / 8388608 / 256 % 2 == 1) = fSg x := by
    unfold fSg
    rw [Bool.eq_iff_iff, beq_iff_eq, decide_eq_true_iff]
    omega
  unfold FP.Core.decode FP.Core.fieldE FP.Core.fieldT FP.Core.fieldS
  rw [e0, e1, e2, hS]
  show (if fE x = 255 then (if fT x = 0 then FP.Core.Datum.inf (fSg x) else _) else _) = _
  rw [if_pos h, if_pos h2]
theorem cmp_int (a b : Int) : compare a b = .gt ↔ b < a := by
  rw [Int.compare_eq_gt]
theorem cmp_int' (a b : Int) : compare a b = .lt ↔ a < b := by
  rw [Int.compare_eq_lt]
theorem cmp_fin {x : Int32} (h : ¬ fE x = 255) : ¬ 0 < Op.cmpValue (FP.fcmp x.toUInt32 2139095039) .l ∧ 0 ≤ Op.cmpValue (FP.fcmp x.toUInt32 4286578687) .g := by
  have c := fC_lt x
  have q := fQ_ge x
  have hq : fQ x ≤ 104 := by
    have := fE_lt x
    unfold fQ
    split <;> omega
  have hpw : 1 ≤ 2 ^ (104 - fQ x).toNat := Nat.two_pow_pos _
  have e1 : FP.fcmp x.toUInt32 2139095039 = some (compare (FP.Core.signed (fSg x) (fC x)) (FP.Core.signed false (16777215 * 2 ^ (104 - fQ x).toNat))) := by
    show FP.Core.order (FP.Core.decode _ _) (FP.Core.decode _ _) = _
    rw [dec_v h, dec_max]
    show some (compare (FP.Core.signed (fSg x) (FP.Core.inUnits (fC x) (fQ x) (min (fQ x) 104))) (FP.Core.signed false (FP.Core.inUnits 16777215 104 (min (fQ x) 104)))) = _
    unfold FP.Core.inUnits
    rw [show min (fQ x) 104 = fQ x by omega, Int.sub_self, Int.toNat_zero, Nat.pow_zero, Nat.mul_one]
  have e2 : FP.fcmp x.toUInt32 4286578687 = some (compare (FP.Core.signed (fSg x) (fC x)) (FP.Core.signed true (16777215 * 2 ^ (104 - fQ x).toNat))) := by
    show FP.Core.order (FP.Core.decode _ _) (FP.Core.decode _ _) = _
    rw [dec_v h, dec_min]
    show some (compare (FP.Core.signed (fSg x) (FP.Core.inUnits (fC x) (fQ x) (min (fQ x) 104))) (FP.Core.signed true (FP.Core.inUnits 16777215 104 (min (fQ x) 104)))) = _
    unfold FP.Core.inUnits
    rw [show min (fQ x) 104 = fQ x by omega, Int.sub_self, Int.toNat_zero, Nat.pow_zero, Nat.mul_one]
  have hb : 16777215 ≤ 16777215 * 2 ^ (104 - fQ x).toNat := Nat.le_mul_of_pos_right _ hpw
  have hs : FP.Core.signed (fSg x) (fC x) ≤ (fC x : Int) ∧ -(fC x : Int) ≤ FP.Core.signed (fSg x) (fC x) := by
    unfold FP.Core.signed
    split <;> omega
  rw [e1, e2]
  generalize FP.Core.signed (fSg x) (fC x) = v at *
  generalize 16777215 * 2 ^ (104 - fQ x).toNat = B at *
  constructor
  · have : ¬ compare v (FP.Core.signed false B) = .gt := by
      rw [cmp_int]
      show ¬ (B : Int) < v
      omega
    cases hc : compare v (FP.Core.signed false B) with
    | lt => show ¬ (0 : Int32) < -1; decide
    | eq => show ¬ (0 : Int32) < 0; decide
    | gt => exact absurd hc this
  · have : ¬ compare v (FP.Core.signed true B) = .lt := by
      rw [cmp_int']
      show ¬ v < -(B : Int)
      omega
    cases hc : compare v (FP.Core.signed true B) with
    | lt => exact absurd hc this
    | eq => show (0 : Int32) ≤ 0; decide
    | gt => show (0 : Int32) ≤ 1; decide
theorem cmp_inf {x : Int32} (h : fE x = 255) (h2 : fT x = 0) : 0 < Op.cmpValue (FP.fcmp x.toUInt32 2139095039) .l ∨ ¬ 0 ≤ Op.cmpValue (FP.fcmp x.toUInt32 4286578687) .g := by
  cases hs : fSg x with
  | false =>
    left
    have e1 : FP.fcmp x.toUInt32 2139095039 = some .gt := by
      show FP.Core.order (FP.Core.decode _ _) (FP.Core.decode _ _) = _
      rw [dec_inf h h2, dec_max, hs]
      rfl
    rw [e1]
    show (0 : Int32) < 1
    decide
  | true =>
    right
    have e1 : FP.fcmp x.toUInt32 4286578687 = some .lt := by
      show FP.Core.order (FP.Core.decode _ _) (FP.Core.decode _ _) = _
      rw [dec_inf h h2, dec_min, hs]
      rfl
    rw [e1]
    show ¬ (0 : Int32) ≤ -1
    decide
theorem okF_inf {x : Int32} (h : okF (fb x)) (h2 : fE x = 255) : fT x = 0 := by
  unfold okF at h
  unfold fE at h2
  unfold fT
  omega
/-! the number of some bits -/
def zF (m : Nat) (e : Int) : UInt32 := UInt32.ofNat (FP.Core.encode FP.Core.b32 (FP.Core.roundRatio FP.Core.b32 false m 1 e))
theorem zF_ok (m : Nat) (e : Int) : okF (zF m e).toNat := by
  have h := rnd_ok false m e
  unfold zF
  rw [UInt32.toNat_ofNat_of_lt' (by exact h.1)]
  exact h
theorem zF_dec {m : Nat} {e : Int} (h0 : 0 < m) (hm : m < 16777216) (he : -149 ≤ e) (he2 : e ≤ 104) : FP.Core.decode FP.Core.b32 (zF m e).toNat = .fin false (m * 2 ^ (e - lst m e).toNat) (lst m e) ∧ lst m e ≤ e := by
  obtain ⟨l1, l2, l3⟩ := lst_ge m e
  obtain ⟨k1, k2⟩ := rkept_le h0 e false
  have hbl := bl_le (k := 24) hm
  have hle : lst m e ≤ e := by
    rcases l3 with l3 | l3 <;> omega
  have hk : rkept m (lst m e - e) false = m * 2 ^ (e - lst m e).toNat := by
    unfold rkept
    rw [if_pos (by omega)]
    congr 2
    omega
  rw [hk] at k1 k2
  refine ⟨?_, hle⟩
  have hne : ¬ m * 2 ^ (e - lst m e).toNat = 16777216 := by
    intro z
    obtain ⟨b1, b2, b3⟩ := bl_lo h0
    have e2 : m * 2 ^ (e - lst m e).toNat < 2 ^ bl m * 2 ^ (e - lst m e).toNat := Nat.mul_lt_mul_of_pos_right b2 (Nat.two_pow_pos _)
    rw [← Nat.pow_add] at e2
    have e3 : (2 : Nat) ^ (bl m + (e - lst m e).toNat) ≤ 2 ^ 24 := Nat.pow_le_pow_right (by decide) (by omega)
    omega
  have hz : (zF m e).toNat = (if m * 2 ^ (e - lst m e).toNat < 8388608 then m * 2 ^ (e - lst m e).toNat else (lst m e + 150).toNat * 8388608 + (m * 2 ^ (e - lst m e).toNat - 8388608)) := by
    have h := rnd_ok false m e
    unfold zF
    rw [UInt32.toNat_ofNat_of_lt' (by exact h.1), round1 false h0, hk, rbits_v false k1 l1 (fun z => by have := k2 z; omega)]
    show 0 + _ = _
    rw [Nat.zero_add]
    by_cases z : m * 2 ^ (e - lst m e).toNat < 8388608
    · rw [if_pos z, if_pos z]
    · rw [if_neg z, if_neg z, if_pos (by omega), if_pos (by omega)]
  have hx : ∃ x : Int32, fb x = (zF m e).toNat ∧ x.toUInt32.toNat = (zF m e).toNat := ⟨(zF m e).toInt32, rfl, rfl⟩
  obtain ⟨x, hx1, hx2⟩ := hx
  rw [← hx2]
  have hE : fE x = if m * 2 ^ (e - lst m e).toNat < 8388608 then 0 else (lst m e + 150).toNat := by
    unfold fE
    rw [hx1, hz]
    by_cases z : m * 2 ^ (e - lst m e).toNat < 8388608
    · rw [if_pos z, if_pos z]; omega
    · rw [if_neg z, if_neg z]; omega
  have hT : fT x = if m * 2 ^ (e - lst m e).toNat < 8388608 then m * 2 ^ (e - lst m e).toNat else m * 2 ^ (e - lst m e).toNat - 8388608 := by
    unfold fT
    rw [hx1, hz]
    by_cases z : m * 2 ^ (e - lst m e).toNat < 8388608
    · rw [if_pos z, if_pos z]; omega
    · rw [if_neg z, if_neg z]; omega
  have hS : fSg x = false := by
    unfold fSg
    rw [hx1, hz, decide_eq_false_iff_not]
    split <;> omega
  rw [dec_v (by rw [hE]; split <;> omega), hS]
  by_cases z : m * 2 ^ (e - lst m e).toNat < 8388608
  · rw [if_pos z] at hE hT
    unfold fC fQ
    rw [if_pos hE, if_pos hE, hT, k2 z]
  · rw [if_neg z] at hE hT
    have hE0 : ¬ fE x = 0 := by omega
    unfold fC fQ
    rw [if_neg hE0, if_neg hE0, hT, hE, show 8388608 + (m * 2 ^ (e - lst m e).toNat - 8388608) = m * 2 ^ (e - lst m e).toNat by omega, show (((lst m e + 150).toNat : Nat) : Int) - 150 = lst m e by omega]
theorem two_dec : FP.Core.decode FP.Core.b32 (FP.fconst2).toNat = .fin false 8388608 (-22) := by decide +kernel
theorem zF_mul {m : Nat} {e : Int} (h0 : 0 < m) (hm : m < 16777216) (he : -149 ≤ e) (he2 : e ≤ 104) : FP.fmul (zF m e) FP.fconst2 = zF m (e + 1) := by
  obtain ⟨d1, d2⟩ := zF_dec h0 hm he he2
  show UInt32.ofNat (FP.Core.encode FP.Core.b32 (FP.Core.round FP.Core.b32 (FP.Core.exactProduct (FP.Core.decode _ _) (FP.Core.decode _ _)))) = _
  rw [d1, two_dec]
  have hv := round_v false (n := m) (j := (e - lst m e).toNat + 23) (r := 0) (p := e + 1) (e := lst m e + -22) h0 (Nat.two_pow_pos _) (by omega) (fun z => absurd rfl z)
  have e1 : m * 2 ^ (e - lst m e).toNat * 8388608 = m * 2 ^ ((e - lst m e).toNat + 23) + 0 := by
    rw [Nat.pow_add, ← Nat.mul_assoc, show (2 : Nat) ^ 23 = 8388608 by decide, Nat.add_zero]
  unfold zF
  rw [round1 false h0]
  show UInt32.ofNat (FP.Core.encode FP.Core.b32 (FP.Core.roundRatio FP.Core.b32 false (m * 2 ^ (e - lst m e).toNat * 8388608) 1 (lst m e + -22))) = _
  rw [e1, hv]
  rfl
theorem near_scale (A B k : Nat) (hk : 0 < k) : FP.Core.nearest (A * k) (B * k) = FP.Core.nearest A B := by
  unfold FP.Core.nearest
  rw [Nat.mul_div_mul_right _ _ hk, Nat.mul_mod_mul_right]
  have h1 : 2 * (A % B * k) < B * k ↔ 2 * (A % B) < B := by
    rw [← Nat.mul_assoc]
    exact Nat.mul_lt_mul_right hk
  have h2 : B * k < 2 * (A % B * k) ↔ B < 2 * (A % B) := by
    rw [← Nat.mul_assoc]
    exact Nat.mul_lt_mul_right hk
  simp only [h1, h2]
theorem lead23 {A : Nat} (h : 0 < A) : FP.Core.leading A 8388608 = (bl A : Int) - 1 - 23 := by
  unfold FP.Core.leading
  have e : (8388608 : Nat).log2 = 23 := by decide
  have hl := log2_bl h
  have h2 := Nat.log2_self_le (show A ≠ 0 by omega)
  rw [e]
  simp only
  rw [if_pos]
  · omega
  · by_cases z : 23 ≤ A.log2
    · rw [show ((A.log2 : Int) - (23 : Nat)).toNat = A.log2 - 23 by omega, show (-((A.log2 : Int) - (23 : Nat))).toNat = 0 by omega, show (8388608 : Nat) = 2 ^ 23 from rfl, ← Nat.pow_add, show 23 + (A.log2 - 23) = A.log2 by omega]
      omega
    · rw [show ((A.log2 : Int) - (23 : Nat)).toNat = 0 by omega, show (-((A.log2 : Int) - (23 : Nat))).toNat = 23 - A.log2 by omega]
      have := Nat.mul_le_mul_right (2 ^ (23 - A.log2)) h2
      rw [← Nat.pow_add, show A.log2 + (23 - A.log2) = 23 by omega] at this
      omega
theorem rnd_den {A : Nat} {E : Int} (h : 0 < A) : FP.Core.roundRatio FP.Core.b32 false A 8388608 E = FP.Core.roundRatio FP.Core.b32 false A 1 (E - 23) := by
  unfold FP.Core.roundRatio
  rw [if_neg (by omega), if_neg (by omega)]
  have hq : FP.Core.quantum FP.Core.b32 A 8388608 E = FP.Core.quantum FP.Core.b32 A 1 (E - 23) := by
    unfold FP.Core.quantum
    rw [lead23 h, lead1 h]
    omega
  rw [hq]
  generalize FP.Core.quantum FP.Core.b32 A 1 (E - 23) = q
  unfold FP.Core.roundAt FP.Core.unitsNum FP.Core.unitsDen
  congr 1
  rw [Nat.one_mul]
  have hk : 0 < 2 ^ (E - q).toNat := Nat.two_pow_pos _
  by_cases z : q ≤ E - 23
  · have e1 : (E - q).toNat = (E - 23 - q).toNat + 23 := by omega
    rw [show (q - E).toNat = 0 by omega, show (q - (E - 23)).toNat = 0 by omega, e1, Nat.pow_add, ← Nat.mul_assoc, Nat.pow_zero, Nat.mul_one]
    have := near_scale (A * 2 ^ (E - 23 - q).toNat) 1 8388608 (by decide)
    rw [Nat.one_mul] at this
    exact this
  · have e1 : 8388608 * 2 ^ (q - E).toNat = 2 ^ (q - (E - 23)).toNat * 2 ^ (E - q).toNat := by
      rw [show (8388608 : Nat) = 2 ^ 23 from rfl, ← Nat.pow_add, ← Nat.pow_add]
      congr 1
      omega
    rw [e1, show (E - 23 - q).toNat = 0 by omega, Nat.pow_zero, Nat.mul_one]
    exact near_scale _ _ _ hk
theorem quot_v (c : Nat) (q : Int) : FP.Core.quotient FP.Core.b32 (.fin false c q) (.fin false 8388608 (-22)) = FP.Core.roundRatio FP.Core.b32 false c 8388608 (q - -22) := by
  show (if (8388608 : Nat) = 0 then (if c = 0 then FP.Core.Datum.nan else FP.Core.Datum.inf (false != false)) else FP.Core.roundRatio FP.Core.b32 (false != false) c 8388608 (q - -22)) = _
  rw [if_neg (by decide)]
  rfl
theorem zF_div {m : Nat} {e : Int} (h0 : 0 < m) (hm : m < 16777216) (he : -149 ≤ e) (he2 : e ≤ 104) : FP.fdiv (zF m e) FP.fconst2 = zF m (e - 1) := by
  obtain ⟨d1, d2⟩ := zF_dec h0 hm he he2
  have hpos : 0 < m * 2 ^ (e - lst m e).toNat := Nat.mul_pos h0 (Nat.two_pow_pos _)
  show UInt32.ofNat (FP.Core.encode FP.Core.b32 (FP.Core.quotient FP.Core.b32 (FP.Core.decode _ _) (FP.Core.decode _ _))) = _
  rw [d1, two_dec]
  have hv := round_v false (n := m) (j := (e - lst m e).toNat) (r := 0) (p := e - 1) (e := lst m e - -22 - 23) h0 (Nat.two_pow_pos _) (by omega) (fun z => absurd rfl z)
  unfold zF
  rw [round1 false h0]
  rw [quot_v, rnd_den hpos]
  rw [Nat.add_zero] at hv
  rw [hv]
  rfl
theorem zF_0 (e : Int) : zF 0 e = 0 := by
  unfold zF
  rw [zero32]
  rfl
theorem zF_mul' {m : Nat} {e : Int} (hm : m < 16777216) (he : -149 ≤ e) (he2 : e ≤ 104) : FP.fmul (zF m e) FP.fconst2 = zF m (e + 1) := by
  by_cases h : m = 0
  · subst h
    rw [zF_0, zF_0]
    decide +kernel
  · exact zF_mul (by omega) hm he he2
theorem zF_div' {m : Nat} {e : Int} (hm : m < 16777216) (he : -149 ≤ e) (he2 : e ≤ 104) : FP.fdiv (zF m e) FP.fconst2 = zF m (e - 1) := by
  by_cases h : m = 0
  · subst h
    rw [zF_0, zF_0]
    decide +kernel
  · exact zF_div (by omega) hm he he2
theorem num_69 (x0 : Int32) (C : Mem) {m : Nat} (hm : m < 16777216) : ∀ (a n : Nat) (e : Int), a < n → a < 300 → e ≤ 104 → -149 ≤ e - (a : Int) → fc_Core_number_69 n x0 (zF m e) (iZ (-(a : Int))) C = some (if 0 ≤ x0 then zF m (e - (a : Int)) else FP.fneg (zF m (e - (a : Int))), C) := by
  intro a
  induction a with
  | zero =>
    intro n e hn _ he he2
    obtain ⟨n', rfl⟩ : ∃ n', n = n' + 1 := ⟨n - 1, by omega⟩
    rw [show fc_Core_number_69 (n' + 1) = fc_Core_number_69b (fc_Core_number_69 n') from rfl]
    unfold fc_Core_number_69b fc_Core_number_94
    rw [if_pos (by decide), show e - ((0 : Nat) : Int) = e by omega]
    split <;> rfl
  | succ a ih =>
    intro n e hn h3 he he2
    obtain ⟨n', rfl⟩ : ∃ n', n = n' + 1 := ⟨n - 1, by omega⟩
    rw [show fc_Core_number_69 (n' + 1) = fc_Core_number_69b (fc_Core_number_69 n') from rfl]
    unfold fc_Core_number_69b
    rw [if_neg (show ¬ (0 : Int32) ≤ iZ (-((a + 1 : Nat) : Int)) from fun z => by have := (iZ_le (a := 0) (by decide) (by omega)).mp z; omega), zF_div' hm (by omega) he, okF_n32 (zF_ok m (e - 1)), gd_t, show (1 : Int32) = iZ 1 from rfl, iZ_add, show -((a + 1 : Nat) : Int) + 1 = -(a : Int) by omega, ih n' (e - 1) (by omega) (by omega) (by omega) (by omega), show e - 1 - (a : Int) = e - ((a + 1 : Nat) : Int) by omega]
theorem num_54 (x0 : Int32) (C : Mem) {m : Nat} (hm : m < 16777216) : ∀ (a n : Nat) (e : Int), a < n → a < 300 → -149 ≤ e → e + (a : Int) ≤ 104 → fc_Core_number_54 n x0 (zF m e) (nI a) C = fc_Core_number_69 600 x0 (zF m (e + (a : Int))) 0 C := by
  intro a
  induction a with
  | zero =>
    intro n e hn _ he he2
    obtain ⟨n', rfl⟩ : ∃ n', n = n' + 1 := ⟨n - 1, by omega⟩
    rw [show fc_Core_number_54 (n' + 1) = fc_Core_number_54b (fc_Core_number_54 n') from rfl]
    unfold fc_Core_number_54b
    rw [if_pos (by decide), show e + ((0 : Nat) : Int) = e by omega]
    rfl
  | succ a ih =>
    intro n e hn h3 he he2
    obtain ⟨n', rfl⟩ : ∃ n', n = n' + 1 := ⟨n - 1, by omega⟩
    rw [show fc_Core_number_54 (n' + 1) = fc_Core_number_54b (fc_Core_number_54 n') from rfl]
    unfold fc_Core_number_54b
    rw [if_neg (nI_nle (by omega) (by omega)), zF_mul' hm he (by omega), okF_n32 (zF_ok m (e + 1)), gd_t, pk_m1, ih n' (e + 1) (by omega) (by omega) (by omega) (by omega), show e + 1 + (a : Int) = e + ((a + 1 : Nat) : Int) by omega]
theorem i2f_nI {m : Nat} (h : m < 2147483648) : FP.i2f (nI m) = zF m 0 := by
  show UInt32.ofNat (FP.Core.encode FP.Core.b32 (FP.Core.roundRatio FP.Core.b32 (decide ((nI m).toInt < 0)) (nI m).toInt.natAbs 1 0)) = _
  rw [nI_toInt h, decide_eq_false (by omega)]
  rfl
theorem zF_self {x : Int32} (hx : ¬ fE x = 255) : (zF (fC x) (fQ x)).toNat = fb x % 2147483648 := by
  have hl := fb_lt x
  obtain ⟨y, hy⟩ : ∃ y : Int32, fb y = fb x % 2147483648 := ⟨nI (fb x % 2147483648), fb_nI (by omega)⟩
  have hE : fE y = fE x := by unfold fE; rw [hy]; omega
  have hT : fT y = fT x := by unfold fT; rw [hy]; omega
  have hS : fSg y = false := by unfold fSg; rw [hy, decide_eq_false_iff_not]; omega
  have hC : fC y = fC x := by unfold fC; rw [hE, hT]
  have hQ : fQ y = fQ x := by unfold fQ; rw [hE]
  have h := rnd_ok false (fC x) (fQ x)
  unfold zF
  rw [UInt32.toNat_ofNat_of_lt' (by exact h.1)]
  by_cases h0 : fC x = 0
  · have := fb0_sg (x := y) (by rw [hC, h0])
    rw [h0, zero32, ← hy, this, hS]
  · have hs := self_v (x := y) (by rw [hE]; exact hx) (by omega) 0
    rw [hS, hC, hQ, Nat.pow_zero, Nat.mul_one, show fQ x - ((0 : Nat) : Int) = fQ x by omega, hy] at hs
    exact hs
theorem xor31 {a : Nat} (h : a < 2147483648) : a ^^^ 2147483648 = a + 2147483648 := by
  have h1 := Nat.two_pow_add_eq_or_of_lt (i := 31) h 1
  have h2 : a ^^^ 2 ^ 31 = 2 ^ 31 * 1 ||| a := by
    apply Nat.eq_of_testBit_eq
    intro i
    rw [Nat.testBit_xor, Nat.testBit_or, Nat.mul_one, Nat.testBit_two_pow]
    by_cases z : 31 = i
    · subst z
      rw [Nat.testBit_lt_two_pow h]
      simp
    · simp [z]
  rw [show (2147483648 : Nat) = 2 ^ 31 from rfl, h2, ← h1]
  omega
theorem n54_s (n : Nat) : fc_Core_number_54 (n + 1) = fc_Core_number_54b (fc_Core_number_54 n) := rfl
theorem num_key {x : Int32} {C : Mem} (h : ¬ fE x = 255) : fc_Core_number_54 600 x (zF (fC x) 0) (iZ (fQ x)) C = some (if 0 ≤ x then zF (fC x) (fQ x) else FP.fneg (zF (fC x) (fQ x)), C) := by
  have hE := fE_lt x
  have hC := fC_lt x
  have hQ := fQ_ge x
  have hq2 : fQ x ≤ 104 := by unfold fQ; split <;> omega
  by_cases hq : fQ x ≤ 0
  · obtain ⟨a, ha⟩ : ∃ a : Nat, fQ x = -(a : Int) := ⟨(-(fQ x)).toNat, by omega⟩
    have h2 := num_69 x C hC a 600 0 (by omega) (by omega) (by omega) (by omega)
    rw [show (0 : Int) - (a : Int) = -(a : Int) by omega] at h2
    rw [ha]
    rw [show (600 : Nat) = 599 + 1 from rfl, n54_s]
    unfold fc_Core_number_54b
    rw [if_pos (show iZ (-(a : Int)) ≤ 0 from (iZ_le (b := 0) (by omega) (by decide)).mpr (by omega))]
    exact h2
  · obtain ⟨a, ha⟩ : ∃ a : Nat, fQ x = (a : Int) := ⟨(fQ x).toNat, by omega⟩
    have h1 := num_54 x C hC a 600 0 (by omega) (by omega) (by omega) (by omega)
    have h2 := num_69 x C hC 0 600 (0 + (a : Int)) (by omega) (by omega) (by omega) (by omega)
    rw [ha, iZ_nat (by omega), h1]
    rw [show iZ (-((0 : Nat) : Int)) = (0 : Int32) from rfl, show (0 : Int) + (a : Int) - ((0 : Nat) : Int) = (a : Int) by omega, show (0 : Int) + (a : Int) = (a : Int) by omega] at h2
    rw [show (0 : Int) + (a : Int) = (a : Int) by omega]
    exact h2
theorem u32_n (u : UInt32) : u.toInt32.toBitVec.toNat = u.toNat := rfl
theorem fneg_n (u : UInt32) : (FP.fneg u).toNat = u.toNat ^^^ 2147483648 := by
  unfold FP.fneg
  rw [UInt32.toNat_xor]
  rfl
theorem fc_number_v (x : Int32) (C : Mem) : ∃ r : UInt32, fc_Core_number x C = some (r, C) ∧ r.toInt32 = (if fE x = 255 then 0 else x) := by
  have hE := fE_lt x
  have hT := fT_lt x
  have hC := fC_lt x
  have hQ := fQ_ge x
  have hl := fb_lt x
  unfold fc_Core_number fc_Core_number_37 fc_Core_number_48
  rw [fE_eq, fT_eq]
  by_cases h : fE x = 255
  · rw [if_pos (by rw [h]; rfl), if_pos h]
    exact ⟨_, rfl, rfl⟩
  · rw [show (255 : Int32) = nI 255 from rfl, if_neg (fun z => h ((nI_eq (b := 255) (by omega) (by decide)).mp z)), if_neg h]
    have hq2 : fQ x ≤ 104 := by unfold fQ; split <;> omega
    have key := num_key (C := C) h
    have hr : ∃ r : UInt32, fc_Core_number_54 600 x (zF (fC x) 0) (iZ (fQ x)) C = some (r, C) ∧ r.toInt32 = x := by
      have hz := zF_self h
      have h3 : 0 ≤ x ↔ ¬ fSg x = true := by
        rw [← fSg_neg, i32_le, i32_lt]
        omega
      refine ⟨_, key, ?_⟩
      apply Int32.toBitVec_inj.mp
      apply BitVec.eq_of_toNat_eq
      rw [u32_n, show x.toBitVec.toNat = fb x from rfl]
      by_cases hp : 0 ≤ x
      · rw [if_pos hp]
        have hs := h3.mp hp
        unfold fSg at hs
        rw [decide_eq_true_iff] at hs
        rw [hz]
        omega
      · rw [if_neg hp]
        have hs : fSg x = true := by
          cases q : fSg x with
          | true => rfl
          | false => exact absurd (h3.mpr (by rw [q]; decide)) hp
        unfold fSg at hs
        rw [decide_eq_true_iff] at hs
        rw [fneg_n, hz, xor31 (by omega)]
        omega
    by_cases h0 : fE x = 0
    · rw [if_pos (by rw [h0]; rfl), if_pos (by rw [h0]; rfl)]
      have e1 : fC x = fT x := by unfold fC; rw [if_pos h0]
      have e2 : (1 : Int32) - 150 = iZ (fQ x) := by unfold fQ; rw [if_pos h0]; decide
      rw [e2, ← e1, i2f_nI (by omega)]
      exact hr
    · have hn : ¬ nI (fE x) = 0 := nI_ne0 (by omega) (by omega)
      rw [if_neg hn, if_neg hn]
      have e1 : nI (fT x) + 8388608 = nI (fC x) := by
        unfold fC
        rw [if_neg h0, show (8388608 : Int32) = nI 8388608 from rfl, nI_add, Nat.add_comm]
      have e2 : nI (fE x) - 150 = iZ (fQ x) := by
        unfold fQ
        rw [if_neg h0, ← iZ_nat (by omega), show (150 : Int32) = iZ 150 from rfl, iZ_sub]
      rw [e1, e2, i2f_nI (by omega)]
      exact hr
