/-! THE OPERATIONS on the spare: keeps -/
def eqC (C : Mem) (j : Nat) : Bool := decide (C (52 + 1) j = C (9 + 1) j) && decide (C (52 + 2) j = C (9 + 2) j)
def allB (f : Nat → Bool) : Nat → Nat → Bool
  | _, 0 => true
  | i, d + 1 => f i && allB f (i + 1) d
theorem isAs_s {n : Nat} {a b : Int32} {C : Mem} : fc_Core_isAs_52 52 9 (n + 1) a b C = fc_Core_isAs_52b 52 9 (fc_Core_isAs_52 52 9 n) a b C := rfl
theorem isLike_s {n : Nat} {a : Int32} {M : Mem} : fm_isLikeNow_2 (n + 1) a M = fm_isLikeNow_2b (fm_isLikeNow_2 n) a M := rfl
theorem isAs_loop {C : Mem} (h1 : ∀ j, j < 4 → ¬ fE (C (52 + 2) j) = 255) (h2 : ∀ j, j < 4 → ¬ fE (C (9 + 2) j) = 255) : ∀ (d n i : Nat) (b : Bool), i + d = 4 → fc_Core_isAs_52 52 9 (n + d + 1) (bI b) (nI i) C = some (bI (b && allB (eqC C) i d), C) := by
  intro d
  induction d with
  | zero =>
    intro n i b hd
    rw [isAs_s]
    unfold fc_Core_isAs_52b
    have ei : i = 4 := by omega
    subst ei
    rw [if_pos (show (4 : Int32) ≤ nI 4 by decide), isB_bI, gd_t]
    simp [allB]
  | succ d ih =>
    intro n i b hd
    rw [show n + (d + 1) + 1 = (n + d + 1) + 1 by omega, isAs_s]
    unfold fc_Core_isAs_52b fc_Core_isAs_101 fc_Core_isAs_102
    rw [if_neg (show ¬ (4 : Int32) ≤ nI i from nI_ge (b := 4) (by omega) (by decide)), nI_1]
    have i0 := ih n (i + 1) false (by omega)
    have i1 := ih n (i + 1) true (by omega)
    rw [Bool.false_and] at i0
    rw [Bool.true_and] at i1
    cases b with
    | false =>
      rw [if_pos (show bI false = 0 from rfl), Bool.false_and]
      exact i0
    | true =>
      rw [if_neg (show ¬ bI true = 0 by decide), inb_nI (show i < 8 by omega) (by decide), inb_nI (show i < 4 by omega) (by decide), nI_clamp (show i < 2 ^ 31 by omega), Bool.true_and]
      simp only [gd_t]
      rw [fbits_v (h1 i (by omega)), bnd_s, fbits_v (h2 i (by omega)), bnd_s]
      show _ = some (bI (eqC C i && allB (eqC C) (i + 1) d), C)
      unfold eqC
      by_cases ha : C (52 + 1) i = C (9 + 1) i
      · rw [if_pos ha, decide_eq_true ha, Bool.true_and]
        by_cases hb : C (52 + 2) i = C (9 + 2) i
        · rw [if_pos hb, decide_eq_true hb, Bool.true_and]
          exact i1
        · rw [if_neg hb, decide_eq_false hb, Bool.false_and]
          exact i0
      · rw [if_neg ha, decide_eq_false ha, Bool.false_and, Bool.false_and]
        exact i0
def scC (C : Mem) : Bool := decide (C 52 31 = C 9 31) && (decide (C 52 29 = C 9 29) && (decide (C 52 30 = C 9 30) && decide (C 52 32 = C 9 32)))
theorem isAs_v {C : Mem} (h1 : ∀ j, j < 4 → ¬ fE (C (52 + 2) j) = 255) (h2 : ∀ j, j < 4 → ¬ fE (C (9 + 2) j) = 255) : fc_Core_isAs 52 9 C = some (bI (scC C && allB (eqC C) 0 4), C) := by
  unfold fc_Core_isAs fc_Core_isAs_48 fc_Core_isAs_49 scC
  have i0 : fc_Core_isAs_52 52 9 600 0 0 C = _ := isAs_loop h1 h2 4 595 0 false (by omega)
  have i1 : fc_Core_isAs_52 52 9 600 1 0 C = _ := isAs_loop h1 h2 4 595 0 true (by omega)
  by_cases a1 : C 52 31 = C 9 31 <;> by_cases a2 : C 52 29 = C 9 29 <;> by_cases a3 : C 52 30 = C 9 30 <;> by_cases a4 : C 52 32 = C 9 32 <;> simp [a1, a2, a3, a4, i0, i1]
def eqM (M : Mem) (j : Nat) : Bool := decide (M 5 j = M 4 j) && decide (M 5 (8 + j) = M 4 (8 + j))
def scM (M : Mem) : Bool := decide (M 5 12 = M 4 12) && (decide (M 5 13 = M 4 13) && (decide (M 5 14 = M 4 14) && decide (M 5 15 = M 4 15)))
theorem isLike_loop {M : Mem} : ∀ (d n i : Nat), i + d = 4 → fm_isLikeNow_2 (n + d + 1) (nI i) M = some (bI (allB (eqM M) i d && scM M), M) := by
  intro d
  induction d with
  | zero =>
    intro n i hd
    rw [isLike_s]
    unfold fm_isLikeNow_2b fm_isLikeNow_127 fm_isLikeNow_128 scM
    have ei : i = 4 := by omega
    subst ei
    rw [if_pos (show (4 : Int32) ≤ nI 4 by decide)]
    by_cases a1 : M 5 12 = M 4 12 <;> by_cases a2 : M 5 13 = M 4 13 <;> by_cases a3 : M 5 14 = M 4 14 <;> by_cases a4 : M 5 15 = M 4 15 <;> simp [a1, a2, a3, a4, allB, bI, isB_0, isB_1, gd_t]
  | succ d ih =>
    intro n i hd
    rw [show n + (d + 1) + 1 = (n + d + 1) + 1 by omega, isLike_s]
    unfold fm_isLikeNow_2b fm_isLikeNow_47
    rw [if_neg (show ¬ (4 : Int32) ≤ nI i from nI_ge (b := 4) (by omega) (by decide)), l_0, l_8, inb_nI (show i < 342 by omega) (by decide), inb_nI (show 8 + i < 342 by omega) (by decide), nI_clamp (show i < 2 ^ 31 by omega), nI_clamp (show 8 + i < 2 ^ 31 by omega), nI_1]
    simp only [gd_t]
    show _ = some (bI ((eqM M i && allB (eqM M) (i + 1) d) && scM M), M)
    rw [ih n (i + 1) (by omega)]
    unfold eqM
    by_cases ha : M 5 i = M 4 i
    · rw [if_pos ha, decide_eq_true ha, Bool.true_and]
      by_cases hb : M 5 (8 + i) = M 4 (8 + i)
      · rw [if_pos hb, decide_eq_true hb, Bool.true_and]
      · rw [if_neg hb, decide_eq_false hb, Bool.false_and, Bool.false_and]
        rfl
    · rw [if_neg ha, decide_eq_false ha, Bool.false_and, Bool.false_and, Bool.false_and]
      rfl
theorem allB_congr {f g : Nat → Bool} : ∀ (d i : Nat), (∀ j, i ≤ j → j < i + d → f j = g j) → allB f i d = allB g i d := by
  intro d
  induction d with
  | zero => intros; rfl
  | succ d ih =>
    intro i h
    show (f i && allB f (i + 1) d) = (g i && allB g (i + 1) d)
    rw [h i (by omega) (by omega), ih (i + 1) (fun j a b => h j (by omega) (by omega))]
theorem as_v {T E T1 E1 : Nat} {L L1 : List Int32} {C0 M0 C1 M1 C M : Mem} (h : Top 9 4 T E L C0 M0 C M) (k : Top 52 5 T1 E1 L1 C1 M1 C M) : ∃ b : Bool, fc_Core_isAs 52 9 C = some (bI b, C) ∧ fm_isLikeNow M = some (bI b, M) := by
  refine ⟨scC C && allB (eqC C) 0 4, isAs_v (fun j hj => ?_) (fun j hj => ?_), ?_⟩
  · rw [(k.flt j hj).1]; exact (fin32_iff _).mp (k.flt j hj).2
  · rw [(h.flt j hj).1]; exact (fin32_iff _).mp (h.flt j hj).2
  · have e := isLike_loop (M := M) 4 595 0 (by omega)
    have e1 : scC C = scM M := by
      unfold scC scM
      rw [k.pc.eq, h.pc.eq, k.zn.1, h.zn.1, k.zn.2, h.zn.2, k.sp.eq, h.sp.eq]
    have e2 : allB (eqC C) 0 4 = allB (eqM M) 0 4 := allB_congr 4 0 (fun j _ hj => by
      unfold eqC eqM
      have r1 := k.reg j (by omega)
      have r2 := h.reg j (by omega)
      rw [Nat.zero_add] at r1 r2
      rw [r1, r2, (k.flt j (by omega)).1, (h.flt j (by omega)).1])
    rw [e1, e2, Bool.and_comm]
    exact e
