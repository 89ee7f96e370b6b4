/-! SINGLE PRECISION IN WHOLE NUMBERS: bits, fraction, place; rounding once -/
def fb (x : Int32) : Nat := x.toBitVec.toNat
theorem fb_lt (x : Int32) : fb x < 4294967296 := x.toBitVec.isLt
theorem fb_nI {n : Nat} (h : n < 4294967296) : fb (nI n) = n := pk_tn h
theorem nI_fb (x : Int32) : nI (fb x) = x := Int32.toBitVec_inj.mp (by show BitVec.ofNat 32 _ = _; simp [fb])
theorem fb_int (x : Int32) : (x.toInt = (fb x : Int) ∧ fb x < 2147483648) ∨ (x.toInt = (fb x : Int) - 4294967296 ∧ 2147483648 ≤ fb x) := by
  have h := BitVec.toInt_eq_toNat_cond x.toBitVec
  have e : x.toInt = x.toBitVec.toInt := rfl
  have hl := x.toBitVec.isLt
  unfold fb
  rw [e, h]
  split <;> omega
def fT (x : Int32) : Nat := fb x % 8388608
def fE (x : Int32) : Nat := fb x / 8388608 % 256
def fSg (x : Int32) : Bool := decide (2147483648 ≤ fb x)
def fC (x : Int32) : Nat := if fE x = 0 then fT x else 8388608 + fT x
def fQ (x : Int32) : Int := if fE x = 0 then -149 else (fE x : Int) - 150
theorem fT_lt (x : Int32) : fT x < 8388608 := Nat.mod_lt _ (by decide)
theorem fE_lt (x : Int32) : fE x < 256 := Nat.mod_lt _ (by decide)
theorem fC_lt (x : Int32) : fC x < 16777216 := by
  have := fT_lt x
  unfold fC
  split <;> omega
theorem fQ_ge (x : Int32) : -149 ≤ fQ x ∧ fQ x ≤ 105 := by
  have := fE_lt x
  unfold fQ
  split <;> omega
theorem fb_split (x : Int32) : fb x = (if fSg x then 2147483648 else 0) + fE x * 8388608 + fT x := by
  have := fb_lt x
  unfold fSg fE fT
  by_cases h : 2147483648 ≤ fb x
  · simp only [h, decide_true, if_true]; omega
  · simp only [h, decide_false]; simp only [Bool.false_eq_true, if_false]; omega
theorem fSg_neg (x : Int32) : x < 0 ↔ fSg x = true := by
  unfold fSg
  rw [decide_eq_true_iff, i32_lt, show (0 : Int32).toInt = 0 from rfl]
  have := fb_int x
  have := fb_lt x
  omega
theorem fE_eq (x : Int32) : (x >>> (23 &&& 31)) &&& 255 = nI (fE x) := by
  rw [pk_and _ 8 (by decide)]
  have h1 := pk_shr x (23 &&& 31) 23 (by decide)
  rw [Int.shiftRight_eq_div_pow] at h1
  have h2 := fb_int x
  have h3 := fb_int (x >>> (23 &&& 31))
  have h4 : (x >>> (23 &&& 31)).toBitVec.toNat = fb (x >>> (23 &&& 31)) := rfl
  rw [h4]
  congr 1
  unfold fE
  omega
theorem fT_eq (x : Int32) : x &&& 8388607 = nI (fT x) := pk_and x 23 (by decide)
theorem orI (i A : Nat) {b : Nat} (hb : b < 2 ^ i) (h : 2 ^ i * A + b < 4294967296) : nI (2 ^ i * A) ||| nI b = nI (2 ^ i * A + b) := by
  apply Int32.toBitVec_inj.mp
  apply BitVec.eq_of_toNat_eq
  rw [Int32.toBitVec_or, BitVec.toNat_or, pk_tn (by omega), pk_tn (by omega), pk_tn (by omega), Nat.two_pow_add_eq_or_of_lt hb]
theorem fC_or (x : Int32) : (x &&& 8388607) ||| 8388608 = nI (8388608 + fT x) := by
  have := fT_lt x
  rw [fT_eq, Int32.or_comm]
  exact orI 23 1 this (by omega)
theorem fm_fraction_v (x : Int32) (M : Mem) : fm_fraction x M = some (lN (fC x), M) := by
  have := fT_lt x
  have := fE_lt x
  unfold fm_fraction fm_fraction_27 fC
  rw [fE_eq]
  by_cases h : fE x = 0
  · rw [if_pos (by rw [h]; rfl), if_pos h, fT_eq, nI_l (by omega)]
  · rw [if_neg (nI_ne0 (by omega) (by omega)), if_neg h, fC_or, nI_l (by omega)]
/-! signed numbers -/
def iZ (z : Int) : Int32 := Int32.ofInt z
theorem iZ_toInt {z : Int} (h : -2147483648 ≤ z) (h2 : z < 2147483648) : (iZ z).toInt = z := Int32.toInt_ofInt_of_le (by omega) (by omega)
theorem iZ_add (a b : Int) : iZ a + iZ b = iZ (a + b) := (Int32.ofInt_add a b).symm
theorem iZ_sub (a b : Int) : iZ a - iZ b = iZ (a - b) := (Int32.ofInt_sub a b).symm
theorem iZ_nat {n : Nat} (h : n < 2147483648) : iZ (n : Int) = nI n := by
  apply i32_eq.mpr
  rw [iZ_toInt (by omega) (by omega), nI_toInt (by omega)]
theorem iZ_le {a b : Int} (h1 : -2147483648 ≤ a ∧ a < 2147483648) (h2 : -2147483648 ≤ b ∧ b < 2147483648) : iZ a ≤ iZ b ↔ a ≤ b := by
  rw [i32_le, iZ_toInt h1.1 h1.2, iZ_toInt h2.1 h2.2]
theorem iZ_lt {a b : Int} (h1 : -2147483648 ≤ a ∧ a < 2147483648) (h2 : -2147483648 ≤ b ∧ b < 2147483648) : iZ a < iZ b ↔ a < b := by
  rw [i32_lt, iZ_toInt h1.1 h1.2, iZ_toInt h2.1 h2.2]
theorem fm_place_v (x : Int32) (M : Mem) : fm_place x M = some (iZ (fQ x), M) := by
  have := fE_lt x
  unfold fm_place fm_place_24 fQ
  rw [fE_eq]
  by_cases h : fE x = 0
  · rw [if_pos (by rw [h]; rfl), if_pos h]
    rfl
  · rw [if_neg (nI_ne0 (by omega) (by omega)), if_neg h, ← iZ_nat (by omega), show (150 : Int32) = iZ 150 from rfl, iZ_sub]
theorem fm_isFinite_v (x : Int32) (M : Mem) : fm_isFinite x M = some (bI (decide (¬ fE x = 255)), M) := by
  have := fE_lt x
  unfold fm_isFinite fm_isFinite_19
  rw [fE_eq]
  by_cases h : fE x = 255
  · rw [if_pos (by rw [h]; rfl), isB_0, gd_t]
    simp [h, bI]
  · rw [show (255 : Int32) = nI 255 from rfl, if_neg (fun z => h ((nI_eq (b := 255) (by omega) (by decide)).mp z)), isB_1, gd_t]
    simp [h, bI]
theorem fin32_iff (x : Int32) : fin32 x ↔ ¬ fE x = 255 := by
  have := fE_lt x
  unfold fin32
  rw [fE_eq]
  exact not_congr (nI_eq (b := 255) (by omega) (by decide))
/-! long numbers compared -/
theorem lc_le {a : Nat} (b : Nat) (y : Int64) (ha : a < 2 ^ 63) (hb : b < 2 ^ 63) (hy : y = lN b) : lg_cmp (lN a) y ≤ 0 ↔ a ≤ b := by
  subst hy
  unfold lg_cmp
  by_cases h1 : lN a > lN b
  · rw [if_pos h1]
    have := (pk_lLT hb ha).mp h1
    exact ⟨fun z => absurd z (by decide), fun z => by omega⟩
  · rw [if_neg h1]
    have : ¬ b < a := fun z => h1 ((pk_lLT hb ha).mpr z)
    by_cases h2 : lN a = lN b
    · rw [if_pos h2]; exact ⟨fun _ => by omega, fun _ => by decide⟩
    · rw [if_neg h2]; exact ⟨fun _ => by omega, fun _ => by decide⟩
theorem lc_eq {a : Nat} (b : Nat) (y : Int64) (ha : a < 2 ^ 63) (hb : b < 2 ^ 63) (hy : y = lN b) : lg_cmp (lN a) y = 0 ↔ a = b := by
  subst hy
  unfold lg_cmp
  by_cases h1 : lN a > lN b
  · rw [if_pos h1]
    have := (pk_lLT hb ha).mp h1
    exact ⟨fun z => absurd z (by decide), fun z => by omega⟩
  · rw [if_neg h1]
    by_cases h2 : lN a = lN b
    · rw [if_pos h2]; exact ⟨fun _ => (pk_lEQ ha hb).mp h2, fun _ => rfl⟩
    · rw [if_neg h2]; exact ⟨fun z => absurd z (by decide), fun z => absurd ((pk_lEQ ha hb).mpr z) h2⟩
theorem lc_gt {a : Nat} (b : Nat) (y : Int64) (ha : a < 2 ^ 63) (hb : b < 2 ^ 63) (hy : y = lN b) : 0 < lg_cmp (lN a) y ↔ b < a := by
  subst hy
  have := lc_le b _ ha hb rfl
  rw [i32_le] at this
  rw [i32_lt]
  simp only [show (0 : Int32).toInt = 0 from rfl] at *
  omega
theorem lc_ge {a : Nat} (b : Nat) (y : Int64) (ha : a < 2 ^ 63) (hb : b < 2 ^ 63) (hy : y = lN b) : 0 ≤ lg_cmp (lN a) y ↔ b ≤ a := by
  subst hy
  have h1 := lc_gt b _ ha hb rfl
  have h2 := lc_eq b _ ha hb rfl
  rw [i32_lt] at h1
  rw [i32_eq] at h2
  rw [i32_le]
  simp only [show (0 : Int32).toInt = 0 from rfl] at *
  omega
theorem sh1 : (((1 : Int32).toInt64 &&& 63).toBitVec.smod 64).toNat = 1 := by decide
/-! how many binary digits -/
def bl (v : Nat) : Nat := if v = 0 then 0 else v.log2 + 1
theorem bl_half {v : Nat} (h : ¬ v = 0) : bl v = bl (v / 2) + 1 := by
  unfold bl
  rw [if_neg h]
  by_cases h1 : v / 2 = 0
  · rw [if_pos h1]
    have : v = 1 := by omega
    subst this
    rfl
  · rw [if_neg h1]
    have a1 : 2 ^ (v / 2).log2 ≤ v / 2 := Nat.log2_self_le h1
    have a2 : v / 2 < 2 ^ ((v / 2).log2 + 1) := Nat.lt_log2_self
    have b1 : (v / 2).log2 + 1 ≤ v.log2 := (Nat.le_log2 h).mpr (by rw [Nat.pow_succ]; omega)
    have b2 : v.log2 < (v / 2).log2 + 2 := (Nat.log2_lt h).mpr (by rw [Nat.pow_succ]; omega)
    omega
theorem fm_lengthOf_loop (M : Mem) : ∀ (n v a : Nat), v < 2 ^ 62 → bl v < n → fm_lengthOf_4 n (nI a) (lN v) M = some (nI (a + bl v), M) := by
  intro n
  induction n with
  | zero => intro v a _ h; omega
  | succ n ih =>
    intro v a hv hn
    show fm_lengthOf_4b (fm_lengthOf_4 n) (nI a) (lN v) M = _
    unfold fm_lengthOf_4b
    by_cases h : v = 0
    · subst h
      rw [if_pos ((lc_le 0 0 (by decide) (by decide) rfl).mpr (Nat.le_refl _))]
      rfl
    · rw [if_neg (fun z => h (by have := (lc_le 0 0 (show v < 2 ^ 63 by omega) (by decide) rfl).mp z; omega)), nI_1, pf_shr sh1 hv, show v / 2 ^ 1 = v / 2 by rfl, ih (v / 2) (a + 1) (by omega) (by rw [bl_half h] at hn; omega), bl_half h]
      congr 3
      omega
theorem bl_le {v k : Nat} (h : v < 2 ^ k) : bl v ≤ k := by
  unfold bl
  by_cases h0 : v = 0
  · rw [if_pos h0]; omega
  · rw [if_neg h0]
    exact (Nat.log2_lt h0).mpr h
theorem bl_lo {v : Nat} (h : 0 < v) : 2 ^ (bl v - 1) ≤ v ∧ v < 2 ^ bl v ∧ 1 ≤ bl v := by
  unfold bl
  rw [if_neg (by omega)]
  exact ⟨Nat.log2_self_le (by omega), Nat.lt_log2_self, by omega⟩
theorem fm_lengthOf_v {v : Nat} (hv : v < 2 ^ 62) (M : Mem) : fm_lengthOf (lN v) M = some (nI (bl v), M) := by
  have h := fm_lengthOf_loop M 600 v 0 hv (by have := bl_le hv; omega)
  rw [Nat.zero_add] at h
  exact h
/-! rounding -/
def rkept (n : Nat) (by_ : Int) (lit : Bool) : Nat := if by_ ≤ 0 then n * 2 ^ (-by_).toNat else if 2 ^ (by_.toNat - 1) < n % 2 ^ by_.toNat ∨ (n % 2 ^ by_.toNat = 2 ^ (by_.toNat - 1) ∧ (lit = true ∨ n / 2 ^ by_.toNat % 2 = 1)) then n / 2 ^ by_.toNat + 1 else n / 2 ^ by_.toNat
def lst (n : Nat) (p : Int) : Int := if (-149 : Int) ≤ (bl n : Int) + p - 24 then (bl n : Int) + p - 24 else -149
def rbits (s : Bool) (k : Nat) (q : Int) : Nat := FP.Core.encode FP.Core.b32 (FP.Core.settle FP.Core.b32 s k q)
def sgN (s : Bool) : Nat := if s then 2147483648 else 0
theorem asm32 (s : Bool) (e t : Nat) : FP.Core.assemble FP.Core.b32 s e t = sgN s + e * 8388608 + t := by
  unfold FP.Core.assemble sgN
  show (s.toNat * 256 + e) * 8388608 + t = _
  cases s <;> simp <;> omega
theorem enc_fin (s : Bool) (c : Nat) (q : Int) : FP.Core.encode FP.Core.b32 (.fin s c q) = if c < 8388608 then sgN s + c else sgN s + ((q + 149).toNat + 1) * 8388608 + (c - 8388608) := by
  show (if c < 8388608 then FP.Core.assemble FP.Core.b32 s 0 c else FP.Core.assemble FP.Core.b32 s ((q - FP.Core.b32.qmin).toNat + 1) (c - 8388608)) = _
  rw [asm32, asm32, show FP.Core.b32.qmin = -149 by decide, show q - -149 = q + 149 by omega, Nat.zero_mul, Nat.add_zero]
theorem enc_inf (s : Bool) : FP.Core.encode FP.Core.b32 (.inf s) = sgN s + 255 * 8388608 := by
  show FP.Core.assemble FP.Core.b32 s 255 0 = _
  rw [asm32, Nat.add_zero]
theorem rbits_v (s : Bool) {k : Nat} {q : Int} (hk : k ≤ 16777216) (hq : -149 ≤ q) (hs : k < 8388608 → q ≤ 104) : rbits s k q = sgN s + (if k < 8388608 then k else if k < 16777216 then (if q ≤ 104 then (q + 150).toNat * 8388608 + (k - 8388608) else 255 * 8388608) else (if q ≤ 103 then (q + 151).toNat * 8388608 else 255 * 8388608)) := by
  have e1 : FP.Core.b32.qmax = 104 := by decide
  have e3 : FP.Core.b32.tails = 8388608 := by decide
  have e5 : (2 : Nat) ^ FP.Core.b32.p = 16777216 := by decide
  unfold rbits FP.Core.settle FP.Core.bound
  rw [e5, e1, e3]
  by_cases h1 : k < 8388608
  · have := hs h1
    rw [if_pos h1, if_pos (by omega), if_pos this, enc_fin, if_pos h1]
  · rw [if_neg h1]
    by_cases h2 : k < 16777216
    · rw [if_pos h2, if_pos h2]
      by_cases h3 : q ≤ 104
      · rw [if_pos h3, if_pos h3, enc_fin, if_neg h1]
        have : (q + 149).toNat + 1 = (q + 150).toNat := by omega
        rw [this]
        omega
      · rw [if_neg h3, if_neg h3, enc_inf]
    · rw [if_neg h2, if_neg h2]
      by_cases h3 : q ≤ 103
      · rw [if_pos h3, if_pos (by omega), enc_fin, if_neg (by omega)]
        have : (q + 1 + 149).toNat + 1 = (q + 151).toNat := by omega
        rw [this]
        omega
      · rw [if_neg h3, if_neg (by omega), enc_inf]
theorem sgN_or (s : Bool) {b : Nat} (hb : b < 2147483648) : nI (sgN s) ||| nI b = nI (sgN s + b) := by
  cases s with
  | false => show nI (2 ^ 31 * 0) ||| nI b = _; rw [orI 31 0 hb (by omega)]; rfl
  | true => exact orI 31 1 hb (by omega)
theorem fm_rounded_149_v (s : Bool) {k : Nat} {q : Int} (M : Mem) (hk : k < 16777216) (hq : -149 ≤ q) (hq2 : q ≤ 1000) (hs : k < 8388608 → q ≤ 104) : fm_rounded_149 (nI (sgN s)) (iZ q) (lN k) M = some (nI (rbits s k q), M) := by
  rw [rbits_v s (by omega) hq hs]
  unfold fm_rounded_149
  by_cases h1 : k < 8388608
  · rw [if_neg (fun z => by have := (lc_ge 8388608 8388608 (show k < 2 ^ 63 by omega) (by decide) rfl).mp z; omega), if_pos h1, lN_i, sgN_or s (by omega)]
  · rw [if_pos ((lc_ge 8388608 8388608 (show k < 2 ^ 63 by omega) (by decide) rfl).mpr (by omega)), if_neg h1, if_pos hk]
    rw [show (104 : Int32) = iZ 104 from rfl]
    by_cases h3 : q ≤ 104
    · rw [if_pos ((iZ_le (b := 104) (by omega) (by decide)).mpr h3), if_pos h3, lN_i, show (150 : Int32) = iZ 150 from rfl, iZ_add]
      obtain ⟨e, he⟩ : ∃ e : Nat, q + 150 = (e : Int) := ⟨(q + 150).toNat, by omega⟩
      rw [he, iZ_nat (by omega), pk_shlN (23 &&& 31) 23 (by decide) (by omega), pk_and _ 23 (by decide), pk_tn (by omega), show (e : Int).toNat = e from rfl]
      have e1 : k % 2 ^ 23 = k - 8388608 := by omega
      rw [e1, Int32.or_assoc, show e * 2 ^ 23 = 2 ^ 23 * e by omega, orI 23 e (by omega) (by omega), sgN_or s (by omega)]
    · rw [if_neg (fun z => h3 ((iZ_le (b := 104) (by omega) (by decide)).mp z)), if_neg h3, show (2139095040 : Int32) = nI (255 * 8388608) from rfl, sgN_or s (by decide)]
theorem fm_rounded_132_v (s : Bool) {k : Nat} {q : Int} (M : Mem) (hk : k ≤ 16777216) (hq : -149 ≤ q) (hq2 : q ≤ 900) (hs : k < 8388608 → q ≤ 104) : fm_rounded_132 (nI (sgN s)) (iZ q) (lN k) M = some (nI (rbits s k q), M) := by
  unfold fm_rounded_132
  by_cases h : k = 16777216
  · rw [if_pos ((lc_eq 16777216 16777216 (show k < 2 ^ 63 by omega) (by decide) rfl).mpr h), show (1 : Int32) = iZ 1 from rfl, iZ_add]
    have := fm_rounded_149_v s (k := 8388608) (q := q + 1) M (by decide) (by omega) (by omega) (by omega)
    rw [show (8388608 : Int64) = lN 8388608 from rfl, this, rbits_v s (by decide) (by omega) (by omega), rbits_v s hk hq hs, h]
    congr 3
    simp only [show ¬ (8388608 : Nat) < 8388608 by omega, show (8388608 : Nat) < 16777216 by omega, show ¬ (16777216 : Nat) < 8388608 by omega, show ¬ (16777216 : Nat) < 16777216 by omega, if_false, if_true]
    by_cases h3 : q ≤ 103
    · rw [if_pos (by omega), if_pos h3]
      have : (q + 1 + 150).toNat = (q + 151).toNat := by omega
      rw [this]
      omega
    · rw [if_neg (by omega), if_neg h3]
  · rw [if_neg (fun z => h ((lc_eq 16777216 16777216 (show k < 2 ^ 63 by omega) (by decide) rfl).mp z))]
    exact fm_rounded_149_v s M (by omega) hq (by omega) hs
