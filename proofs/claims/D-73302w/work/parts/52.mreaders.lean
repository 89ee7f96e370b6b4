/-! THE PURE PART: what is only read, in the model -/
theorem fm_grp {s k : Nat} {x : Int32} {M : Mem} (hk : k < 21) : fm_groupOf s (nI k) x M = some (grpV (M s (173 + k)) x k, M) := by
  unfold fm_groupOf fm_groupOf_19 grpV
  by_cases h : k = 20
  · rw [if_pos ((nI_20 (by omega)).mpr h), if_pos h]
  · rw [if_neg (fun z => h ((nI_20 (by omega)).mp z)), if_neg h, l_173, inb_nI (by omega) (by decide), gd_t, nI_clamp (by omega)]
theorem fm_sub {s k : Nat} {x : Int32} {M : Mem} (hk : k < 21) : fm_subOf s (nI k) x M = some (subV (M s (173 + k)) x k, M) := by
  unfold fm_subOf fm_subOf_29 subV
  by_cases h : k = 20
  · rw [if_pos ((nI_20 (by omega)).mpr h), if_pos h]
  · rw [if_neg (fun z => h ((nI_20 (by omega)).mp z)), if_neg h, l_173, inb_nI (by omega) (by decide), gd_t, gd_t, nI_clamp (by omega)]
def lesM (M : Mem) (s : Nat) (x : Int32) (a b : Nat) : Int32 := lesV (grpV (M s (173 + a)) x a - grpV (M s (173 + b)) x b) (subV (M s (173 + a)) x a - subV (M s (173 + b)) x b) a b
theorem i32_tri (x : Int32) : (x < 0 ∧ ¬ x = 0 ∧ ¬ 0 ≤ x) ∨ (¬ x < 0 ∧ x = 0 ∧ 0 ≤ x) ∨ (¬ x < 0 ∧ ¬ x = 0 ∧ 0 ≤ x) := by
  simp only [i32_lt, i32_le, i32_eq, show (0 : Int32).toInt = 0 from rfl]
  omega
theorem fm_les {s a b : Nat} {M : Mem} (ha : a < 21) (hb : b < 21) : fm_isLess s (nI a) (nI b) M = some (lesM M s (M 0 3) a b, M) := by
  unfold fm_isLess lesM
  rw [fm_grp ha, bnd_s, fm_grp hb, bnd_s, fm_sub ha, bnd_s, fm_sub hb, bnd_s]
  generalize grpV (M s (173 + a)) (M 0 3) a - grpV (M s (173 + b)) (M 0 3) b = g
  generalize subV (M s (173 + a)) (M 0 3) a - subV (M s (173 + b)) (M 0 3) b = u
  unfold fm_isLess_86 fm_isLess_36 lesV
  simp only [nI_leI (show b < 2 ^ 31 by omega) (show a < 2 ^ 31 by omega), isB_0, isB_1, gd_t]
  rcases i32_tri g with ⟨h1, h2, h3⟩ | ⟨h1, h2, h3⟩ | ⟨h1, h2, h3⟩
  · simp [h1, h2, h3]
  · rcases i32_tri u with ⟨k1, k2, k3⟩ | ⟨k1, k2, k3⟩ | ⟨k1, k2, k3⟩
    · simp [h1, h2, k1, k2, k3]
    · by_cases hab : b ≤ a
      · simp [h2, k2, hab]
      · simp [h2, k2, hab]
    · simp [h2, k1, k2, k3]
  · simp [h1, h2, h3]
def bmV (base x y : Int32) : Int32 := if base = 0 then y else if y ≤ base >>> (x &&& 31) then y else base >>> (x &&& 31)
theorem mn3 (m w b : Int32) : (if (if m ≤ w then m else w) ≤ b then (if m ≤ w then m else w) else b) = (if (if m ≤ b then m else b) ≤ w then (if m ≤ b then m else b) else w) := by
  by_cases h1 : m ≤ w <;> by_cases h2 : m ≤ b <;> by_cases h3 : w ≤ b <;> by_cases h4 : b ≤ w <;> simp only [h1, h2, h3, h4, if_true, if_false] <;> (simp only [i32_le] at *; first | omega | (apply i32_eq.mpr; omega))
theorem mnV_min {f : Nat → Int32} {b y : Int32} : ∀ n, (if mnV f y n ≤ b then mnV f y n else b) = mnV f (if y ≤ b then y else b) n := by
  intro n
  induction n with
  | zero => rfl
  | succ n ih =>
    simp only [mnV]
    rw [← ih]
    exact mn3 _ _ _
section MLIM
variable {s : Nat} {M : Mem} {d : Nat} {nst : Nat → Nat} {x z : Int32}
theorem fm_lim_loop (hd : M s 30 = nI d) (hd21 : d ≤ 21) (hn : ∀ j, j < d → M s (152 + j) = nI (nst j) ∧ nst j < 21) : ∀ m n k, k + m = d → m < n → fm_limitOf_7 s n x z (mnV (fun j => grpV (M s (173 + nst j)) x (nst j)) 256 k) (nI k) M = fm_limitOf_70 s z (bmV (M s 17) x (mnV (fun j => grpV (M s (173 + nst j)) x (nst j)) 256 d)) M := by
  intro m
  induction m with
  | zero =>
    intro n k hk hn0
    obtain ⟨n', rfl⟩ : ∃ n', n = n' + 1 := ⟨n - 1, by omega⟩
    have : k = d := by omega
    subst this
    show fm_limitOf_7b s (fm_limitOf_7 s n') x z _ (nI k) M = _
    unfold fm_limitOf_7b bmV
    rw [hd, if_pos (nI_le (Nat.le_refl _) (by omega))]
    repeat' split
    all_goals rfl
  | succ m ih =>
    intro n k hk hn0
    obtain ⟨n', rfl⟩ : ∃ n', n = n' + 1 := ⟨n - 1, by omega⟩
    show fm_limitOf_7b s (fm_limitOf_7 s n') x z _ (nI k) M = _
    obtain ⟨e1, e2⟩ := hn k (by omega)
    unfold fm_limitOf_7b
    rw [hd, if_neg (nI_ge (show k < d by omega) (by omega)), l_152, inb_nI (show 152 + k < 342 by omega) (by decide), gd_t, nI_clamp (by omega), e1, fm_grp e2, bnd_s]
    unfold fm_limitOf_40
    rw [nI_1]
    have key := ih n' (k + 1) (by omega) (by omega)
    rw [mnV] at key
    by_cases hle : mnV (fun j => grpV (M s (173 + nst j)) x (nst j)) 256 k ≤ grpV (M s (173 + nst k)) x (nst k)
    · rw [if_pos hle] at key ⊢
      exact key
    · rw [if_neg hle] at key ⊢
      exact key
/-- the limit -/
def limM (M : Mem) (s : Nat) (nst : Nat → Nat) (d : Nat) (x z : Int32) : Int32 := shV z (mnV (fun j => grpV (M s (173 + nst j)) x (nst j)) (bsV (M s 17) x) d)
theorem bmV_bsV {base x : Int32} {f : Nat → Int32} {d : Nat} (h0 : 0 ≤ base) (h1 : base >>> (x &&& 31) ≤ 256) : bmV base x (mnV f 256 d) = mnV f (bsV base x) d := by
  unfold bmV bsV
  by_cases h : base = 0
  · rw [if_pos h, if_pos (by rw [h]; decide)]
  · have : ¬ base ≤ 0 := by
      simp only [i32_le, i32_eq, show (0 : Int32).toInt = 0 from rfl] at *
      omega
    rw [if_neg h, if_neg this, mnV_min]
    congr 1
    by_cases hq : (256 : Int32) ≤ base >>> (x &&& 31)
    · rw [if_pos hq]
      apply i32_eq.mpr
      simp only [i32_le] at *
      omega
    · rw [if_neg hq]
theorem fm_lim (hd : M s 30 = nI d) (hd21 : d ≤ 21) (hn : ∀ j, j < d → M s (152 + j) = nI (nst j) ∧ nst j < 21) (h0 : 0 ≤ M s 17) (h1 : M s 17 >>> (x &&& 31) ≤ 256) (hz : isB z = true) : fm_limitOf s x z M = some (limM M s nst d x z, M) := by
  unfold fm_limitOf limM
  have := fm_lim_loop (x := x) (z := z) hd hd21 hn d 600 0 (by omega) (by omega)
  rw [show mnV (fun j => grpV (M s (173 + nst j)) x (nst j)) 256 0 = 256 from rfl, bmV_bsV h0 h1] at this
  rw [show (nI 0) = (0 : Int32) from rfl] at this
  rw [this]
  unfold fm_limitOf_70 fm_limitOf_80 shV
  rcases isB_or hz with rfl | rfl
  · rfl
  · rw [if_neg (by decide), if_pos rfl]
    split <;> rfl
end MLIM
def canM (M : Mem) (s : Nat) (x lim : Int32) (k : Nat) : Bool := decide (¬ M s (194 + k) < 0) && decide (¬ M 3 k = 0) && decide (¬ lim ≤ grpV (M s (173 + k)) x k)
theorem fm_nxt_loop {s : Nat} {M : Mem} {lim : Int32} : ∀ m n k, k + m = 21 → m < n → fm_nextOf_2_16 s n lim (oI (nxV (canM M s (M 0 3) lim) (lesM M s (M 0 3)) k)) (nI k) M = some (oI (nxV (canM M s (M 0 3) lim) (lesM M s (M 0 3)) 21), M) := by
  intro m
  induction m with
  | zero =>
    intro n k hk hn0
    obtain ⟨n', rfl⟩ : ∃ n', n = n' + 1 := ⟨n - 1, by omega⟩
    have : k = 21 := by omega
    subst this
    show fm_nextOf_2_16b s (fm_nextOf_2_16 s n') lim _ (nI 21) M = _
    unfold fm_nextOf_2_16b
    rw [if_pos (by decide)]
  | succ m ih =>
    intro n k hk hn0
    obtain ⟨n', rfl⟩ : ∃ n', n = n' + 1 := ⟨n - 1, by omega⟩
    show fm_nextOf_2_16b s (fm_nextOf_2_16 s n') lim _ (nI k) M = _
    have hk21 : k < 21 := by omega
    have key := ih n' (k + 1) (by omega) (by omega)
    rw [nxV] at key
    unfold fm_nextOf_2_16b fm_nextOf_2_75 fm_nextOf_2_79
    rw [if_neg (show ¬ (21 : Int32) ≤ nI k from nI_ge (b := 21) hk21 (by decide)), l_194, inb_nI (show 194 + k < 342 by omega) (by decide), gd_t, nI_clamp (show 194 + k < 2 ^ 31 by omega), inb_nI hk21 (by decide), gd_t, nI_clamp (show k < 2 ^ 31 by omega), fm_grp hk21, bnd_s, nI_1]
    have hno : canM M s (M 0 3) lim k = false → fm_nextOf_2_16 s n' lim (oI (nxV (canM M s (M 0 3) lim) (lesM M s (M 0 3)) k)) (nI (k + 1)) M = some (oI (nxV (canM M s (M 0 3) lim) (lesM M s (M 0 3)) 21), M) := by
      intro hcd
      rw [hcd] at key
      cases hx : nxV (canM M s (M 0 3) lim) (lesM M s (M 0 3)) k with
      | none => rw [hx] at key; exact key
      | some b => rw [hx] at key; exact key
    by_cases h1 : M s (194 + k) < 0
    · rw [if_pos h1]
      exact hno (by simp [canM, h1])
    · rw [if_neg h1]
      by_cases h2 : M 3 k = 0
      · rw [if_pos h2]
        exact hno (by simp [canM, h2])
      · rw [if_neg h2]
        by_cases h3 : lim ≤ grpV (M s (173 + k)) (M 0 3) k
        · rw [if_pos h3]
          exact hno (by simp [canM, h3])
        · rw [if_neg h3]
          have hcd : canM M s (M 0 3) lim k = true := by simp [canM, h1, h2, h3]
          rw [hcd] at key
          cases hx : nxV (canM M s (M 0 3) lim) (lesM M s (M 0 3)) k with
          | none =>
            rw [hx] at key
            rw [if_pos (by decide)]
            exact key
          | some b =>
            rw [hx] at key
            have hb := (nxV_lt hx).1
            show (if nI b < 0 then _ else _) = _
            rw [if_neg (nI_pos (by omega)), show oI (some b) = nI b from rfl, fm_les hk21 (show b < 21 by omega), bnd_s]
            simp only [if_true] at key
            by_cases hl : lesM M s (M 0 3) k b = 0
            · rw [if_pos hl] at key ⊢
              exact key
            · rw [if_neg hl] at key ⊢
              exact key
def nxtM (M : Mem) (s : Nat) (lim : Int32) : Option Nat := nxV (canM M s (M 0 3) lim) (lesM M s (M 0 3)) 21
section MNXT
variable {s : Nat} {M : Mem} {d : Nat} {nst : Nat → Nat} {x z : Int32}
theorem fm_nxt2 (hd : M s 30 = nI d) (hd21 : d ≤ 21) (hn : ∀ j, j < d → M s (152 + j) = nI (nst j) ∧ nst j < 21) (h0 : 0 ≤ M s 17) (h1 : M s 17 >>> (M 0 3 &&& 31) ≤ 256) (hz : isB z = true) : fm_nextOf_2 s z M = some (oI (nxtM M s (limM M s nst d (M 0 3) z)), M) := by
  unfold fm_nextOf_2
  rw [fm_lim hd hd21 hn h0 h1 hz, bnd_s]
  exact fm_nxt_loop 21 600 0 (by omega) (by omega)
def zV (z : Int32) : Int32 := if z = 1 then 1 else 0
theorem isB_zV (z : Int32) : isB (zV z) = true := by unfold zV; split <;> rfl
theorem shV_z (z x : Int32) : shV (zV z) x = shV z x := by
  unfold shV zV
  by_cases h : z = 1
  · simp [h]
  · simp [h]
theorem limM_z : limM M s nst d x (zV z) = limM M s nst d x z := shV_z _ _
theorem fm_nxt (hd : M s 30 = nI d) (hd21 : d ≤ 21) (hn : ∀ j, j < d → M s (152 + j) = nI (nst j) ∧ nst j < 21) (h0 : 0 ≤ M s 17) (h1 : M s 17 >>> (M 0 3 &&& 31) ≤ 256) : fm_nextOf s M = some (oI (nxtM M s (limM M s nst d (M 0 3) (M s 16))), M) := by
  unfold fm_nextOf fm_nextOf_15
  by_cases h : M s 16 = 1
  · rw [if_pos h, fm_nxt2 hd hd21 hn h0 h1 rfl, bnd_s, h]
  · rw [if_neg h, fm_nxt2 hd hd21 hn h0 h1 rfl, bnd_s, ← limM_z (z := M s 16), show zV (M s 16) = 0 from if_neg h]
theorem fm_could_v {k : Nat} (hk : k < 21) (hd : M s 30 = nI d) (hd21 : d ≤ 21) (hn : ∀ j, j < d → M s (152 + j) = nI (nst j) ∧ nst j < 21) (h0 : 0 ≤ M s 17) (h1 : M s 17 >>> (M 0 3 &&& 31) ≤ 256) : fm_could s (nI k) M = some (bI (decide (¬ M 3 k = 0) && decide (¬ limM M s nst d (M 0 3) (M s 16) ≤ grpV (M s (173 + k)) (M 0 3) k)), M) := by
  unfold fm_could fm_could_36 fm_could_46 fm_could_47
  rw [inb_nI hk (by decide), gd_t, nI_clamp (by omega), fm_grp hk, bnd_s]
  by_cases h2 : M 3 k = 0
  · simp [h2, bI, gd, isB]
  · rw [if_neg h2]
    have e : fm_could_36 s (zV (M s 16)) (M 0 3) (grpV (M s (173 + k)) (M 0 3) k) M = some (bI (decide (¬ M 3 k = 0) && decide (¬ limM M s nst d (M 0 3) (M s 16) ≤ grpV (M s (173 + k)) (M 0 3) k)), M) := by
      unfold fm_could_36 fm_could_46 fm_could_47
      rw [fm_lim hd hd21 hn h0 h1 (isB_zV _), bnd_s, limM_z]
      by_cases h3 : limM M s nst d (M 0 3) (M s 16) ≤ grpV (M s (173 + k)) (M 0 3) k
      · simp [h3, bI, gd, isB]
      · simp [h2, h3, bI, gd, isB]
    unfold fm_could_36 fm_could_46 fm_could_47 at e
    by_cases h : M s 16 = 1
    · rw [if_pos h]
      rw [show zV (M s 16) = 1 from if_pos h] at e
      exact e
    · rw [if_neg h]
      rw [show zV (M s 16) = 0 from if_neg h] at e
      exact e
end MNXT
