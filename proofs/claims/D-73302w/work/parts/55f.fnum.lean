/-! SINGLE PRECISION: to whole numbers; what is finite; the number of some bits -/
theorem toInt_r (M : Mem) (x0 : Int32) (A : Nat) (hA : A < 400) : ∀ (m n k v : Nat), k + m = A → m < n → v < 2 ^ 62 → fm_toInt_13 n x0 (lN v) (iZ (-(A : Int))) (iZ (-(k : Int))) M = fm_toInt_35 x0 (lN (v / 2 ^ m)) (iZ (-(A : Int))) M := by
  intro m
  induction m with
  | zero =>
    intro n k v hk hn hv
    obtain ⟨n', rfl⟩ : ∃ n', n = n' + 1 := ⟨n - 1, by omega⟩
    show fm_toInt_13b (fm_toInt_13 n') _ _ _ _ M = _
    unfold fm_toInt_13b
    rw [if_pos ((iZ_le (by omega) (by omega)).mpr (by omega)), Nat.pow_zero, Nat.div_one]
  | succ m ih =>
    intro n k v hk hn hv
    obtain ⟨n', rfl⟩ : ∃ n', n = n' + 1 := ⟨n - 1, by omega⟩
    show fm_toInt_13b (fm_toInt_13 n') _ _ _ _ M = _
    unfold fm_toInt_13b
    rw [if_neg (fun z => by have := (iZ_le (by omega) (by omega)).mp z; omega)]
    by_cases h0 : v = 0
    · subst h0
      rw [if_pos (by decide), Nat.zero_div]
    · rw [if_neg (fun z => h0 (by have := (lc_le 0 0 (show v < 2 ^ 63 by omega) (by decide) rfl).mp z; omega)), pf_shr sh1 hv, show v / 2 ^ 1 = v / 2 from rfl, show (-1 : Int32) = iZ (-1) by decide, iZ_add, show -(k : Int) + -1 = -((k + 1 : Nat) : Int) by omega, ih n' (k + 1) (v / 2) (by omega) (by omega) (by omega), Nat.pow_succ', Nat.div_div_eq_div_mul]
theorem toInt_l (M : Mem) (x0 : Int32) (A : Nat) (hA : A < 400) : ∀ (m n k v : Nat), k + m = A → m < n → v < 2 ^ 33 → ∃ w, w < 2 ^ 33 ∧ fm_toInt_38 n x0 (lN v) (nI A) (nI k) M = fm_toInt_62 x0 (lN w) M ∧ (w = v * 2 ^ m ∨ (2 ^ 32 ≤ w ∧ 2 ^ 32 ≤ v * 2 ^ m)) := by
  intro m
  induction m with
  | zero =>
    intro n k v hk hn hv
    obtain ⟨n', rfl⟩ : ∃ n', n = n' + 1 := ⟨n - 1, by omega⟩
    refine ⟨v, hv, ?_, Or.inl (by rw [Nat.pow_zero, Nat.mul_one])⟩
    show fm_toInt_38b (fm_toInt_38 n') _ _ _ _ M = _
    unfold fm_toInt_38b
    rw [if_pos (nI_le (by omega) (by omega))]
  | succ m ih =>
    intro n k v hk hn hv
    obtain ⟨n', rfl⟩ : ∃ n', n = n' + 1 := ⟨n - 1, by omega⟩
    have e1 : fm_toInt_38 (n' + 1) x0 (lN v) (nI A) (nI k) M = fm_toInt_38b (fm_toInt_38 n') x0 (lN v) (nI A) (nI k) M := rfl
    have hp : 1 ≤ 2 ^ m := Nat.two_pow_pos m
    have hp2 : 2 ^ (m + 1) = 2 * 2 ^ m := Nat.pow_succ'
    by_cases hb : 2 ^ 32 ≤ v
    · refine ⟨v, hv, ?_, Or.inr ⟨hb, ?_⟩⟩
      · rw [e1]
        unfold fm_toInt_38b
        rw [if_neg (nI_ge (by omega) (by omega)), if_pos ((lc_ge 4294967296 4294967296 (by omega) (by decide) rfl).mpr (by omega))]
      · have := Nat.mul_le_mul_left v (show 1 ≤ 2 ^ (m + 1) by omega)
        omega
    · obtain ⟨w, w1, w2, w3⟩ := ih n' (k + 1) (v * 2) (by omega) (by omega) (by omega)
      refine ⟨w, w1, ?_, ?_⟩
      · rw [e1]
        unfold fm_toInt_38b
        have hs : lN v <<< ((1 : Int32).toInt64 &&& 63) = lN (v * 2) := wb_shl v (k := 1) (by decide)
        rw [if_neg (nI_ge (by omega) (by omega)), if_neg (fun z => hb (by have := (lc_ge 4294967296 4294967296 (show v < 2 ^ 63 by omega) (by decide) rfl).mp z; omega)), hs, nI_1, w2]
      · rw [hp2, show v * (2 * 2 ^ m) = v * 2 * 2 ^ m by rw [Nat.mul_assoc]]
        exact w3
theorem toInt_e {x : Int32} (M : Mem) {w W : Nat} (hw : w < 2 ^ 33) (h : w = W ∨ (2 ^ 32 ≤ w ∧ 2 ^ 32 ≤ W)) : fm_toInt_62 x (lN w) M = some (Int32.ofInt (max (-2 ^ 31) (min (2 ^ 31 - 1) (FP.Core.signed (fSg x) W))), M) := by
  unfold fm_toInt_62 fm_toInt_82 fm_toInt_98 FP.Core.signed
  have h3 : 0 ≤ x ↔ ¬ fSg x = true := by
    rw [← fSg_neg, i32_le, i32_lt]
    omega
  cases hs : fSg x with
  | false =>
    rw [if_pos (h3.mpr (by rw [hs]; decide))]
    simp only [Bool.false_eq_true, if_false]
    by_cases hb : w ≤ 2147483647
    · have : W = w := by omega
      subst this
      rw [if_pos ((lc_le 2147483647 2147483647 (by omega) (by decide) rfl).mpr hb), lN_i, show max (-2 ^ 31 : Int) (min (2 ^ 31 - 1) (W : Int)) = (W : Int) by omega]
      exact congrArg (fun z => some (z, M)) (iZ_nat (by omega)).symm
    · rw [if_neg (fun z => hb ((lc_le 2147483647 2147483647 (by omega) (by decide) rfl).mp z)), show max (-2 ^ 31 : Int) (min (2 ^ 31 - 1) (W : Int)) = 2147483647 by omega]
      rfl
  | true =>
    rw [if_neg (fun z => (h3.mp z) hs)]
    simp only [if_true]
    by_cases hb : w ≤ 2147483648
    · have : W = w := by omega
      subst this
      rw [if_pos ((lc_le 2147483648 2147483648 (by omega) (by decide) rfl).mpr hb), show max (-2 ^ 31 : Int) (min (2 ^ 31 - 1) (-(W : Int))) = -(W : Int) by omega]
      refine congrArg (fun z => some (z, M)) ?_
      apply i32_eq.mpr
      rw [Int32.toInt_ofInt_of_le (by omega) (by omega), Int64.toInt_toInt32, Int64.toInt_neg, pk_lT (by omega)]
      rw [Int.bmod_eq_of_le (n := -(W : Int)) (by omega) (by omega)]
      exact Int.bmod_eq_of_le (by omega) (by omega)
    · rw [if_neg (fun z => hb ((lc_le 2147483648 2147483648 (by omega) (by decide) rfl).mp z)), show max (-2 ^ 31 : Int) (min (2 ^ 31 - 1) (-(W : Int))) = -2147483648 by omega]
      rfl
theorem fm_toInt_v {x : Int32} (M : Mem) (hx : ¬ fE x = 255) : fm_toInt x M = some (FP.f2i x.toUInt32, M) := by
  have e : FP.f2i x.toUInt32 = Int32.ofInt (max (-2 ^ 31) (min (2 ^ 31 - 1) (FP.Core.signed (fSg x) (fC x * 2 ^ (fQ x).toNat / 2 ^ (-(fQ x)).toNat)))) := by
    show Int32.ofInt (FP.Core.toInt _ _ (FP.Core.decode _ _)) = _
    rw [dec_v hx]
    rfl
  have c := fC_lt x
  have q := fQ_ge x
  rw [e]
  unfold fm_toInt
  rw [fm_fraction_v, bnd_s, fm_place_v, bnd_s, show (0 : Int32) = iZ (-((0 : Nat) : Int)) from rfl]
  by_cases hq : fQ x < 0
  · obtain ⟨A, hA⟩ : ∃ A : Nat, fQ x = -(A : Int) := ⟨(-(fQ x)).toNat, by omega⟩
    rw [hA, toInt_r M x A (by omega) A 600 0 (fC x) (by omega) (by omega) (by omega)]
    unfold fm_toInt_35
    have hd : fC x / 2 ^ A ≤ fC x := Nat.div_le_self _ _
    have e1 : fm_toInt_38 600 x (lN (fC x / 2 ^ A)) (iZ (-(A : Int))) 0 M = fm_toInt_62 x (lN (fC x / 2 ^ A)) M := by
      show fm_toInt_38b (fm_toInt_38 599) _ _ _ _ M = _
      unfold fm_toInt_38b
      rw [if_pos (show iZ (-(A : Int)) ≤ 0 from (iZ_le (b := 0) (by omega) (by decide)).mpr (by omega))]
    rw [e1, show (-(A : Int)).toNat = 0 by omega, show (- -(A : Int)).toNat = A by omega, Nat.pow_zero, Nat.mul_one]
    exact toInt_e M (by omega) (Or.inl rfl)
  · obtain ⟨A, hA⟩ : ∃ A : Nat, fQ x = (A : Int) := ⟨(fQ x).toNat, by omega⟩
    have e1 : fm_toInt_13 600 x (lN (fC x)) (iZ (fQ x)) (iZ (-((0 : Nat) : Int))) M = fm_toInt_35 x (lN (fC x)) (iZ (fQ x)) M := by
      show fm_toInt_13b (fm_toInt_13 599) _ _ _ _ M = _
      unfold fm_toInt_13b
      rw [if_pos ((iZ_le (by omega) (by omega)).mpr (by omega))]
    rw [e1]
    unfold fm_toInt_35
    rw [hA, iZ_nat (by omega), show (A : Int).toNat = A from rfl, show (-(A : Int)).toNat = 0 by omega, Nat.pow_zero, Nat.div_one]
    obtain ⟨w, w1, w2, w3⟩ := toInt_l M x A (by omega) A 600 0 (fC x) (by omega) (by omega) (by omega)
    rw [show (0 : Int32) = nI 0 from rfl, w2]
    exact toInt_e M w1 w3
/-! what the rounded bits look like -/
def okF (m : Nat) : Prop := m < 4294967296 ∧ m % 2147483648 ≤ 2139095040
theorem rnd_ok (s : Bool) (n : Nat) (e : Int) : okF (FP.Core.encode FP.Core.b32 (FP.Core.roundRatio FP.Core.b32 s n 1 e)) := by
  unfold okF
  by_cases h : n = 0
  · rw [h, zero32]
    cases s <;> decide
  · rw [round1 s (by omega)]
    obtain ⟨k1, k2⟩ := rkept_le (show 0 < n by omega) e false
    obtain ⟨l1, l2, l3⟩ := lst_ge n e
    rw [rbits_v s k1 l1 (fun z => by have := k2 z; omega)]
    generalize rkept n (lst n e - e) false = k at *
    generalize lst n e = q at *
    have hs : sgN s = 0 ∨ sgN s = 2147483648 := by cases s <;> simp [sgN]
    generalize hX : (if k < 8388608 then k else if k < 16777216 then (if q ≤ 104 then (q + 150).toNat * 8388608 + (k - 8388608) else 255 * 8388608) else (if q ≤ 103 then (q + 151).toNat * 8388608 else 255 * 8388608)) = X
    have hXl : X ≤ 2139095040 := by
      subst hX
      repeat' split
      all_goals omega
    omega
theorem fmul_ok {x y : Int32} (hx : ¬ fE x = 255) (hy : ¬ fE y = 255) : okF (FP.fmul x.toUInt32 y.toUInt32).toNat := by
  have e : FP.fmul x.toUInt32 y.toUInt32 = UInt32.ofNat (FP.Core.encode FP.Core.b32 (FP.Core.roundRatio FP.Core.b32 (fSg x != fSg y) (fC x * fC y) 1 (fQ x + fQ y))) := by
    show UInt32.ofNat (FP.Core.encode FP.Core.b32 (FP.Core.round FP.Core.b32 (FP.Core.exactProduct (FP.Core.decode _ _) (FP.Core.decode _ _)))) = _
    rw [dec_v hx, dec_v hy]
    rfl
  have h := rnd_ok (fSg x != fSg y) (fC x * fC y) (fQ x + fQ y)
  rw [e]
  rw [UInt32.toNat_ofNat_of_lt' (by exact h.1)]
  exact h
theorem fadd_ok {x y : Int32} (hx : ¬ fE x = 255) (hy : ¬ fE y = 255) : okF (FP.fadd x.toUInt32 y.toUInt32).toNat := by
  rcases Int.le_total (fQ y) (fQ x) with hq | hq
  · rw [fadd_v hx hy hq]
    have h : okF (esum (fSg x) (fC x) (fSg y) (fC y) (fQ x - fQ y).toNat (fQ y)) := rnd_ok _ _ _
    rw [UInt32.toNat_ofNat_of_lt' (by exact h.1)]
    exact h
  · rw [fadd_w hx hy hq]
    have h : okF (esum (fSg y) (fC y) (fSg x) (fC x) (fQ y - fQ x).toNat (fQ x)) := rnd_ok _ _ _
    rw [UInt32.toNat_ofNat_of_lt' (by exact h.1)]
    exact h
theorem okF_n32 {r : UInt32} (h : okF r.toNat) : n32 r = true := by
  unfold n32
  rw [decide_eq_true_iff, UInt32.le_iff_toNat_le, UInt32.toNat_and]
  have : (0x7fffffff : UInt32).toNat = 2 ^ 31 - 1 := by decide
  rw [this, Nat.and_two_pow_sub_one_eq_mod]
  exact h.2
