/-! THE RELATION between a core of the component (its cells c ..) and a row of the model (the cell s), group by group; a group's frame lemma says what it depends on -/
abbrev cs (c s : Nat) : Prop := (c = 9 ∧ s = 4) ∨ (c = 52 ∧ s = 5)
def fin32 (b : Int32) : Prop := ¬ (b >>> (23 &&& 31)) &&& 255 = 255
def EqN (n : Nat) (a b : Int32) : Prop := ∃ p : Nat, p ≤ n ∧ a = nI p ∧ b = nI p
theorem EqN.eq {n : Nat} {a b : Int32} (h : EqN n a b) : a = b := by obtain ⟨p, h1, h2, h3⟩ := h; rw [h2, h3]
theorem EqN.le {n m : Nat} {a b : Int32} (h : EqN n a b) (hm : n ≤ m) : EqN m a b := by obtain ⟨p, h1, h2, h3⟩ := h; exact ⟨p, by omega, h2, h3⟩
def rReg (c s T E : Nat) (L : List Int32) (C0 M0 C M : Mem) : Prop := ∀ j, j < 8 → C (c + 1) j = M s (0 + j)
theorem rReg_fr {c s T E : Nat} {L : List Int32} {C0 M0 C M C' M' : Mem} (h : rReg c s T E L C0 M0 C M) (hC0 : ∀ k, k < 8 → C' (c + 1) (k) = C (c + 1) (k)) (hM0 : ∀ k, 0 ≤ k → k < 8 → M' (s) (k) = M (s) (k)) : rReg c s T E L C0 M0 C' M' := by
  intro j hj
  rw [hC0 j hj, hM0 (0 + j) (by omega) (by omega)]
  exact h j hj
def rDat (c s T E : Nat) (L : List Int32) (C0 M0 C M : Mem) : Prop := ∀ j, j < 16 → C (c + 3) j = M s (40 + j)
theorem rDat_fr {c s T E : Nat} {L : List Int32} {C0 M0 C M C' M' : Mem} (h : rDat c s T E L C0 M0 C M) (hC0 : ∀ k, k < 16 → C' (c + 3) (k) = C (c + 3) (k)) (hM0 : ∀ k, 40 ≤ k → k < 56 → M' (s) (k) = M (s) (k)) : rDat c s T E L C0 M0 C' M' := by
  intro j hj
  rw [hC0 j hj, hM0 (40 + j) (by omega) (by omega)]
  exact h j hj
def rStk (c s T E : Nat) (L : List Int32) (C0 M0 C M : Mem) : Prop := ∀ j, j < 96 → C (c + 4) j = M s (56 + j)
theorem rStk_fr {c s T E : Nat} {L : List Int32} {C0 M0 C M C' M' : Mem} (h : rStk c s T E L C0 M0 C M) (hC0 : ∀ k, k < 96 → C' (c + 4) (k) = C (c + 4) (k)) (hM0 : ∀ k, 56 ≤ k → k < 152 → M' (s) (k) = M (s) (k)) : rStk c s T E L C0 M0 C' M' := by
  intro j hj
  rw [hC0 j hj, hM0 (56 + j) (by omega) (by omega)]
  exact h j hj
def rFlt (c s T E : Nat) (L : List Int32) (C0 M0 C M : Mem) : Prop := ∀ j, j < 4 → C (c + 2) j = M s (8 + j) ∧ fin32 (M s (8 + j))
theorem rFlt_fr {c s T E : Nat} {L : List Int32} {C0 M0 C M C' M' : Mem} (h : rFlt c s T E L C0 M0 C M) (hC0 : ∀ k, k < 4 → C' (c + 2) (k) = C (c + 2) (k)) (hM0 : ∀ k, 8 ≤ k → k < 12 → M' (s) (k) = M (s) (k)) : rFlt c s T E L C0 M0 C' M' := by
  intro j hj
  rw [hC0 j hj, hM0 (8 + j) (by omega) (by omega)]
  exact h j hj
def rZn (c s T E : Nat) (L : List Int32) (C0 M0 C M : Mem) : Prop := C c 29 = M s 13 ∧ C c 30 = M s 14
theorem rZn_fr {c s T E : Nat} {L : List Int32} {C0 M0 C M C' M' : Mem} (h : rZn c s T E L C0 M0 C M) (hC0 : ∀ k, (k = 29 ∨ k = 30) → C' (c) (k) = C (c) (k)) (hM0 : ∀ k, (k = 13 ∨ k = 14) → M' (s) (k) = M (s) (k)) : rZn c s T E L C0 M0 C' M' := by
  unfold rZn at h ⊢
  rw [hC0 29 (by omega), hC0 30 (by omega), hM0 13 (by omega), hM0 14 (by omega)]
  exact h
def rPc (c s T E : Nat) (L : List Int32) (C0 M0 C M : Mem) : Prop := EqN 511 (C c 31) (M s 12)
theorem rPc_fr {c s T E : Nat} {L : List Int32} {C0 M0 C M C' M' : Mem} (h : rPc c s T E L C0 M0 C M) (hC0 : ∀ k, (k = 31) → C' (c) (k) = C (c) (k)) (hM0 : ∀ k, (k = 12) → M' (s) (k) = M (s) (k)) : rPc c s T E L C0 M0 C' M' := by
  unfold rPc at h ⊢
  rw [hC0 31 (by omega), hM0 12 (by omega)]
  exact h
def rSp (c s T E : Nat) (L : List Int32) (C0 M0 C M : Mem) : Prop := EqN 96 (C c 32) (M s 15)
theorem rSp_fr {c s T E : Nat} {L : List Int32} {C0 M0 C M C' M' : Mem} (h : rSp c s T E L C0 M0 C M) (hC0 : ∀ k, (k = 32) → C' (c) (k) = C (c) (k)) (hM0 : ∀ k, (k = 15) → M' (s) (k) = M (s) (k)) : rSp c s T E L C0 M0 C' M' := by
  unfold rSp at h ⊢
  rw [hC0 32 (by omega), hM0 15 (by omega)]
  exact h
def rShu (c s T E : Nat) (L : List Int32) (C0 M0 C M : Mem) : Prop := C c 36 = M s 16
theorem rShu_fr {c s T E : Nat} {L : List Int32} {C0 M0 C M C' M' : Mem} (h : rShu c s T E L C0 M0 C M) (hC0 : ∀ k, (k = 36) → C' (c) (k) = C (c) (k)) (hM0 : ∀ k, (k = 16) → M' (s) (k) = M (s) (k)) : rShu c s T E L C0 M0 C' M' := by
  unfold rShu at h ⊢
  rw [hC0 36 (by omega), hM0 16 (by omega)]
  exact h
def rBas (c s T E : Nat) (L : List Int32) (C0 M0 C M : Mem) : Prop := EqN 255 (C c 35) (M s 17)
theorem rBas_fr {c s T E : Nat} {L : List Int32} {C0 M0 C M C' M' : Mem} (h : rBas c s T E L C0 M0 C M) (hC0 : ∀ k, (k = 35) → C' (c) (k) = C (c) (k)) (hM0 : ∀ k, (k = 17) → M' (s) (k) = M (s) (k)) : rBas c s T E L C0 M0 C' M' := by
  unfold rBas at h ⊢
  rw [hC0 35 (by omega), hM0 17 (by omega)]
  exact h
def rFls (c s T E : Nat) (L : List Int32) (C0 M0 C M : Mem) : Prop := C c 45 = M s 18
theorem rFls_fr {c s T E : Nat} {L : List Int32} {C0 M0 C M C' M' : Mem} (h : rFls c s T E L C0 M0 C M) (hC0 : ∀ k, (k = 45) → C' (c) (k) = C (c) (k)) (hM0 : ∀ k, (k = 18) → M' (s) (k) = M (s) (k)) : rFls c s T E L C0 M0 C' M' := by
  unfold rFls at h ⊢
  rw [hC0 45 (by omega), hM0 18 (by omega)]
  exact h
def rLaz (c s T E : Nat) (L : List Int32) (C0 M0 C M : Mem) : Prop := (C c 46 = -1 ∧ M s 19 = -1) ∨ EqN 92 (C c 46) (M s 19)
theorem rLaz_fr {c s T E : Nat} {L : List Int32} {C0 M0 C M C' M' : Mem} (h : rLaz c s T E L C0 M0 C M) (hC0 : ∀ k, (k = 46) → C' (c) (k) = C (c) (k)) (hM0 : ∀ k, (k = 19) → M' (s) (k) = M (s) (k)) : rLaz c s T E L C0 M0 C' M' := by
  unfold rLaz at h ⊢
  rw [hC0 46 (by omega), hM0 19 (by omega)]
  exact h
def rPh (c s T E : Nat) (L : List Int32) (C0 M0 C M : Mem) : Prop := EqN 5 (C c 41) (M s 20) ∧ C c 24 = C c 41
theorem rPh_fr {c s T E : Nat} {L : List Int32} {C0 M0 C M C' M' : Mem} (h : rPh c s T E L C0 M0 C M) (hC0 : ∀ k, (k = 41 ∨ k = 24) → C' (c) (k) = C (c) (k)) (hM0 : ∀ k, (k = 20) → M' (s) (k) = M (s) (k)) : rPh c s T E L C0 M0 C' M' := by
  unfold rPh at h ⊢
  rw [hC0 41 (by omega), hC0 24 (by omega), hM0 20 (by omega)]
  exact h
def rStp (c s T E : Nat) (L : List Int32) (C0 M0 C M : Mem) : Prop := C c 42 = M s 21
theorem rStp_fr {c s T E : Nat} {L : List Int32} {C0 M0 C M C' M' : Mem} (h : rStp c s T E L C0 M0 C M) (hC0 : ∀ k, (k = 42) → C' (c) (k) = C (c) (k)) (hM0 : ∀ k, (k = 21) → M' (s) (k) = M (s) (k)) : rStp c s T E L C0 M0 C' M' := by
  unfold rStp at h ⊢
  rw [hC0 42 (by omega), hM0 21 (by omega)]
  exact h
def rStl (c s T E : Nat) (L : List Int32) (C0 M0 C M : Mem) : Prop := EqN 3 (C c 43) (M s 22) ∧ (¬ C c 41 = 0 → C c 43 = 0)
theorem rStl_fr {c s T E : Nat} {L : List Int32} {C0 M0 C M C' M' : Mem} (h : rStl c s T E L C0 M0 C M) (hC0 : ∀ k, (k = 43 ∨ k = 41) → C' (c) (k) = C (c) (k)) (hM0 : ∀ k, (k = 22) → M' (s) (k) = M (s) (k)) : rStl c s T E L C0 M0 C' M' := by
  unfold rStl at h ⊢
  rw [hC0 43 (by omega), hC0 41 (by omega), hM0 22 (by omega)]
  exact h
def rAsl (c s T E : Nat) (L : List Int32) (C0 M0 C M : Mem) : Prop := C c 44 = M s 23 ∧ isB (C c 44) = true
theorem rAsl_fr {c s T E : Nat} {L : List Int32} {C0 M0 C M C' M' : Mem} (h : rAsl c s T E L C0 M0 C M) (hC0 : ∀ k, (k = 44) → C' (c) (k) = C (c) (k)) (hM0 : ∀ k, (k = 23) → M' (s) (k) = M (s) (k)) : rAsl c s T E L C0 M0 C' M' := by
  unfold rAsl at h ⊢
  rw [hC0 44 (by omega), hM0 23 (by omega)]
  exact h
def rClk (c s T E : Nat) (L : List Int32) (C0 M0 C M : Mem) : Prop := EqN T (C c 37) (M s 25)
theorem rClk_fr {c s T E : Nat} {L : List Int32} {C0 M0 C M C' M' : Mem} (h : rClk c s T E L C0 M0 C M) (hC0 : ∀ k, (k = 37) → C' (c) (k) = C (c) (k)) (hM0 : ∀ k, (k = 25) → M' (s) (k) = M (s) (k)) : rClk c s T E L C0 M0 C' M' := by
  unfold rClk at h ⊢
  rw [hC0 37 (by omega), hM0 25 (by omega)]
  exact h
def rPer (c s T E : Nat) (L : List Int32) (C0 M0 C M : Mem) : Prop := EqN 999 (C c 38) (M s 26)
theorem rPer_fr {c s T E : Nat} {L : List Int32} {C0 M0 C M C' M' : Mem} (h : rPer c s T E L C0 M0 C M) (hC0 : ∀ k, (k = 38) → C' (c) (k) = C (c) (k)) (hM0 : ∀ k, (k = 26) → M' (s) (k) = M (s) (k)) : rPer c s T E L C0 M0 C' M' := by
  unfold rPer at h ⊢
  rw [hC0 38 (by omega), hM0 26 (by omega)]
  exact h
def rTim (c s T E : Nat) (L : List Int32) (C0 M0 C M : Mem) : Prop := C c 39 = M s 27
theorem rTim_fr {c s T E : Nat} {L : List Int32} {C0 M0 C M C' M' : Mem} (h : rTim c s T E L C0 M0 C M) (hC0 : ∀ k, (k = 39) → C' (c) (k) = C (c) (k)) (hM0 : ∀ k, (k = 27) → M' (s) (k) = M (s) (k)) : rTim c s T E L C0 M0 C' M' := by
  unfold rTim at h ⊢
  rw [hC0 39 (by omega), hM0 27 (by omega)]
  exact h
def rNst (c s T E : Nat) (L : List Int32) (C0 M0 C M : Mem) : Prop := ∃ (d : Nat) (nst : Nat → Nat), d ≤ 21 ∧ C c 33 = nI d ∧ M s 30 = nI d ∧ (∀ j, j < d → C (c + 6) j = nI (nst j) ∧ M s (152 + j) = nI (nst j) ∧ nst j < 21 ∧ C (c + 22 + nst j) 5 = 1) ∧ (∀ i j, i < j → j < d → grpV (M s (173 + nst j)) (M 0 3) (nst j) < grpV (M s (173 + nst i)) (M 0 3) (nst i))
theorem rNst_fr {c s T E : Nat} {L : List Int32} {C0 M0 C M C' M' : Mem} (h : rNst c s T E L C0 M0 C M) (hC0 : ∀ k, (k = 33) → C' (c) (k) = C (c) (k)) (hC1 : ∀ k, k < 21 → C' (c + 6) (k) = C (c + 6) (k)) (hC2 : ∀ j k, j < 21 → (k = 5) → C' (c + 22 + j) (k) = C (c + 22 + j) (k)) (hM0 : ∀ k, (k = 30) → M' (s) (k) = M (s) (k)) (hM1 : ∀ k, 152 ≤ k → k < 194 → M' (s) (k) = M (s) (k)) (hM2 : ∀ k, k = 3 → M' (0) (k) = M (0) (k)) : rNst c s T E L C0 M0 C' M' := by
  obtain ⟨d, nst, h1, h2, h3, h4, h5⟩ := h
  refine ⟨d, nst, h1, by rw [hC0 33 rfl]; exact h2, by rw [hM0 30 rfl]; exact h3, fun j hj => ?_, fun i j hi hj => ?_⟩
  · obtain ⟨a1, a2, a3, a4⟩ := h4 j hj
    exact ⟨by rw [hC1 j (by omega)]; exact a1, by rw [hM1 (152 + j) (by omega) (by omega)]; exact a2, a3, by rw [hC2 (nst j) 5 a3 rfl]; exact a4⟩
  · have a3 := (h4 j hj).2.2.1
    have b3 := (h4 i (by omega)).2.2.1
    rw [hM1 (173 + nst j) (by omega) (by omega), hM1 (173 + nst i) (by omega) (by omega), hM2 3 rfl]
    exact h5 i j hi hj
def rDue (c s T E : Nat) (L : List Int32) (C0 M0 C M : Mem) : Prop := ∃ e, e ≤ 32 ∧ C c 40 = nI e ∧ M s 31 = nI e ∧ ∀ j, j < e → C (c + 7) j = M s (268 + j) ∧ EqN 20 (C (c + 8) j) (M s (236 + j))
theorem rDue_fr {c s T E : Nat} {L : List Int32} {C0 M0 C M C' M' : Mem} (h : rDue c s T E L C0 M0 C M) (hC0 : ∀ k, (k = 40) → C' (c) (k) = C (c) (k)) (hC1 : ∀ k, k < 32 → C' (c + 7) (k) = C (c + 7) (k)) (hC2 : ∀ k, k < 32 → C' (c + 8) (k) = C (c + 8) (k)) (hM0 : ∀ k, (k = 31) → M' (s) (k) = M (s) (k)) (hM1 : ∀ k, 236 ≤ k → k < 300 → M' (s) (k) = M (s) (k)) : rDue c s T E L C0 M0 C' M' := by
  obtain ⟨e, h1, h2, h3, h4⟩ := h
  refine ⟨e, h1, by rw [hC0 40 rfl]; exact h2, by rw [hM0 31 rfl]; exact h3, fun j hj => ?_⟩
  rw [hC1 j (by omega), hC2 j (by omega), hM1 (268 + j) (by omega) (by omega), hM1 (236 + j) (by omega) (by omega)]
  exact h4 j hj
def rRnk (c s T E : Nat) (L : List Int32) (C0 M0 C M : Mem) : Prop := ∀ j, j < 21 → (j < 20 → EqN 255 (C (c + 22 + j) 1) (M s (173 + j)))
theorem rRnk_fr {c s T E : Nat} {L : List Int32} {C0 M0 C M C' M' : Mem} (h : rRnk c s T E L C0 M0 C M) (hC0 : ∀ j k, j < 21 → (k = 1) → C' (c + 22 + j) (k) = C (c + 22 + j) (k)) (hM0 : ∀ k, 173 ≤ k → k < 194 → M' (s) (k) = M (s) (k)) : rRnk c s T E L C0 M0 C' M' := by
  intro j hj
  rw [hC0 j 1 hj (by omega), hM0 (173 + j) (by omega) (by omega)]
  exact h j hj
def rVec (c s T E : Nat) (L : List Int32) (C0 M0 C M : Mem) : Prop := ∀ j, j < 21 → EqN 511 (C (c + 22 + j) 2) (M 2 j)
theorem rVec_fr {c s T E : Nat} {L : List Int32} {C0 M0 C M C' M' : Mem} (h : rVec c s T E L C0 M0 C M) (hC0 : ∀ j k, j < 21 → (k = 2) → C' (c + 22 + j) (k) = C (c + 22 + j) (k)) (hM0 : ∀ k, k < 21 → M' (2) (k) = M (2) (k)) : rVec c s T E L C0 M0 C' M' := by
  intro j hj
  rw [hC0 j 2 hj (by omega), hM0 j hj]
  exact h j hj
def rEna (c s T E : Nat) (L : List Int32) (C0 M0 C M : Mem) : Prop := ∀ j, j < 21 → C (c + 22 + j) 3 = M 3 j ∧ isB (C (c + 22 + j) 3) = true
theorem rEna_fr {c s T E : Nat} {L : List Int32} {C0 M0 C M C' M' : Mem} (h : rEna c s T E L C0 M0 C M) (hC0 : ∀ j k, j < 21 → (k = 3) → C' (c + 22 + j) (k) = C (c + 22 + j) (k)) (hM0 : ∀ k, k < 21 → M' (3) (k) = M (3) (k)) : rEna c s T E L C0 M0 C' M' := by
  intro j hj
  rw [hC0 j 3 hj (by omega), hM0 j hj]
  exact h j hj
def rPnd (c s T E : Nat) (L : List Int32) (C0 M0 C M : Mem) : Prop := ∀ j, j < 21 → (C (c + 22 + j) 4 = 0 ∧ M s (194 + j) = -1) ∨ (C (c + 22 + j) 4 = 1 ∧ EqN T (C (c + 22 + j) 6) (M s (194 + j)))
theorem rPnd_fr {c s T E : Nat} {L : List Int32} {C0 M0 C M C' M' : Mem} (h : rPnd c s T E L C0 M0 C M) (hC0 : ∀ j k, j < 21 → (k = 4 ∨ k = 6) → C' (c + 22 + j) (k) = C (c + 22 + j) (k)) (hM0 : ∀ k, 194 ≤ k → k < 215 → M' (s) (k) = M (s) (k)) : rPnd c s T E L C0 M0 C' M' := by
  intro j hj
  rw [hC0 j 4 hj (by omega), hC0 j 6 hj (by omega), hM0 (194 + j) (by omega) (by omega)]
  exact h j hj
def rAct (c s T E : Nat) (L : List Int32) (C0 M0 C M : Mem) : Prop := ∀ j, j < 21 → C (c + 22 + j) 5 = M s (300 + j) ∧ isB (C (c + 22 + j) 5) = true ∧ (C (c + 22 + j) 5 = 1 → C (c + 22 + j) 7 = M s (321 + j))
theorem rAct_fr {c s T E : Nat} {L : List Int32} {C0 M0 C M C' M' : Mem} (h : rAct c s T E L C0 M0 C M) (hC0 : ∀ j k, j < 21 → (k = 5 ∨ k = 7) → C' (c + 22 + j) (k) = C (c + 22 + j) (k)) (hM0 : ∀ k, 300 ≤ k → k < 321 → M' (s) (k) = M (s) (k)) (hM1 : ∀ k, 321 ≤ k → k < 342 → M' (s) (k) = M (s) (k)) : rAct c s T E L C0 M0 C' M' := by
  intro j hj
  rw [hC0 j 5 hj (by omega), hC0 j 7 hj (by omega), hM0 (300 + j) (by omega) (by omega), hM1 (321 + j) (by omega) (by omega)]
  exact h j hj
def rHld (c s T E : Nat) (L : List Int32) (C0 M0 C M : Mem) : Prop := ∀ j, j < 21 → (8 ≤ j ∧ j < 16 → C (c + 22 + j) 9 = M s (215 + j) ∧ isB (C (c + 22 + j) 9) = true) ∧ (¬ (8 ≤ j ∧ j < 16) → M s (215 + j) = 0)
theorem rHld_fr {c s T E : Nat} {L : List Int32} {C0 M0 C M C' M' : Mem} (h : rHld c s T E L C0 M0 C M) (hC0 : ∀ j k, j < 21 → (k = 9) → C' (c + 22 + j) (k) = C (c + 22 + j) (k)) (hM0 : ∀ k, 215 ≤ k → k < 236 → M' (s) (k) = M (s) (k)) : rHld c s T E L C0 M0 C' M' := by
  intro j hj
  rw [hC0 j 9 hj (by omega), hM0 (215 + j) (by omega) (by omega)]
  exact h j hj
def rSpl (c s T E : Nat) (L : List Int32) (C0 M0 C M : Mem) : Prop := EqN 7 (C c 34) (M 0 3) ∧ C c 27 = C c 34
theorem rSpl_fr {c s T E : Nat} {L : List Int32} {C0 M0 C M C' M' : Mem} (h : rSpl c s T E L C0 M0 C M) (hC0 : ∀ k, (k = 34 ∨ k = 27) → C' (c) (k) = C (c) (k)) (hM0 : ∀ k, k = 3 → M' (0) (k) = M (0) (k)) : rSpl c s T E L C0 M0 C' M' := by
  unfold rSpl at h ⊢
  rw [hC0 34 (by omega), hC0 27 (by omega), hM0 3 rfl]
  exact h
def rSta (c s T E : Nat) (L : List Int32) (C0 M0 C M : Mem) : Prop := isB (C c 48) = true ∧ isB (C c 49) = true ∧ (C c 41 = 1 → EqN 6 (C c 42) (M s 21) ∧ EqN 20 (C c 47) (M s 24) ∧ C c 48 = M s 28 ∧ C c 49 = M s 29)
theorem rSta_fr {c s T E : Nat} {L : List Int32} {C0 M0 C M C' M' : Mem} (h : rSta c s T E L C0 M0 C M) (hC0 : ∀ k, (k = 41 ∨ k = 42 ∨ k = 47 ∨ k = 48 ∨ k = 49) → C' (c) (k) = C (c) (k)) (hM0 : ∀ k, (k = 21 ∨ k = 24 ∨ k = 28 ∨ k = 29) → M' (s) (k) = M (s) (k)) : rSta c s T E L C0 M0 C' M' := by
  unfold rSta at h ⊢
  rw [hC0 41 (by omega), hC0 42 (by omega), hC0 47 (by omega), hC0 48 (by omega), hC0 49 (by omega), hM0 21 (by omega), hM0 24 (by omega), hM0 28 (by omega), hM0 29 (by omega)]
  exact h
def rSav (c s T E : Nat) (L : List Int32) (C0 M0 C M : Mem) : Prop := C c 41 = 4 → EqN 3 (C c 42) (M s 21) ∧ ¬ C c 46 = -1
theorem rSav_fr {c s T E : Nat} {L : List Int32} {C0 M0 C M C' M' : Mem} (h : rSav c s T E L C0 M0 C M) (hC0 : ∀ k, (k = 41 ∨ k = 42 ∨ k = 46) → C' (c) (k) = C (c) (k)) (hM0 : ∀ k, (k = 21) → M' (s) (k) = M (s) (k)) : rSav c s T E L C0 M0 C' M' := by
  unfold rSav at h ⊢
  rw [hC0 41 (by omega), hC0 42 (by omega), hC0 46 (by omega), hM0 21 (by omega)]
  exact h
def rUns (c s T E : Nat) (L : List Int32) (C0 M0 C M : Mem) : Prop := C c 41 = 3 → ¬ C c 42 = 0 → ¬ C c 42 = M s 32 → ∃ p m q : Nat, 6 ≤ p ∧ p ≤ 96 ∧ C c 32 = nI p ∧ m < 8 ∧ M s (55 + p) = nI (23040 + m) ∧ q < 512 ∧ M s (54 + p) = nI q ∧ C c 49 = (if 4 ≤ m then 1 else 0) ∧ (4 ≤ m → 10 ≤ p) ∧ M s 32 = (if 4 ≤ m ∧ ¬ C c 46 = nI p - 10 then 10 else 6)
theorem rUns_fr {c s T E : Nat} {L : List Int32} {C0 M0 C M C' M' : Mem} (h : rUns c s T E L C0 M0 C M) (hC0 : ∀ k, (k = 41 ∨ k = 42 ∨ k = 32 ∨ k = 49 ∨ k = 46) → C' (c) (k) = C (c) (k)) (hM0 : ∀ k, (k = 32) → M' (s) (k) = M (s) (k)) (hM1 : ∀ k, 56 ≤ k → k < 152 → M' (s) (k) = M (s) (k)) : rUns c s T E L C0 M0 C' M' := by
  unfold rUns at h ⊢
  rw [hC0 41 (by omega), hC0 42 (by omega), hC0 32 (by omega), hC0 49 (by omega), hC0 46 (by omega), hM0 32 rfl]
  intro z1 z2 z3
  obtain ⟨p, m, q, h1, h2, h3, h4, h5, h6, h7, h8⟩ := h z1 z2 z3
  refine ⟨p, m, q, h1, h2, h3, h4, ?_, h6, ?_, h8⟩
  · rw [hM1 (55 + p) (by omega) (by omega)]; exact h5
  · rw [hM1 (54 + p) (by omega) (by omega)]; exact h7
def rCod (c s T E : Nat) (L : List Int32) (C0 M0 C M : Mem) : Prop := ∀ j, j < 512 → ∃ b : Nat, b < 256 ∧ M 1 j = nI b ∧ C 2 j &&& 255 = nI b
theorem rCod_fr {c s T E : Nat} {L : List Int32} {C0 M0 C M C' M' : Mem} (h : rCod c s T E L C0 M0 C M) (hC0 : ∀ k, k < 512 → C' (2) (k) = C (2) (k)) (hM0 : ∀ k, k < 512 → M' (1) (k) = M (1) (k)) : rCod c s T E L C0 M0 C' M' := by
  intro j hj
  rw [hC0 j hj, hM0 j hj]
  exact h j hj
def rObs (c s T E : Nat) (L : List Int32) (C0 M0 C M : Mem) : Prop := C c 53 = nI L.length ∧ L.length ≤ T ∧ ∀ j, j < L.length → j < 300 → C (c + 12) j = L.getD j 0
theorem rObs_fr {c s T E : Nat} {L : List Int32} {C0 M0 C M C' M' : Mem} (h : rObs c s T E L C0 M0 C M) (hC0 : ∀ k, (k = 53) → C' (c) (k) = C (c) (k)) (hC1 : ∀ k, k < 300 → C' (c + 12) (k) = C (c + 12) (k)) : rObs c s T E L C0 M0 C' M' := by
  obtain ⟨h1, h2, h3⟩ := h
  exact ⟨by rw [hC0 53 rfl]; exact h1, h2, fun j a b => by rw [hC1 j b]; exact h3 j a b⟩
def rMdc (c s T E : Nat) (L : List Int32) (C0 M0 C M : Mem) : Prop := (c = 9 → C c 28 = 0 ∧ C c 25 = 0 ∧ C c 26 = 0) ∧ (c = 52 → C c 28 = 1 ∧ isB (C c 25) = true ∧ C c 26 = C c 25)
theorem rMdc_fr {c s T E : Nat} {L : List Int32} {C0 M0 C M C' M' : Mem} (h : rMdc c s T E L C0 M0 C M) (hC0 : ∀ k, (k = 25 ∨ k = 26 ∨ k = 28) → C' (c) (k) = C (c) (k)) : rMdc c s T E L C0 M0 C' M' := by
  unfold rMdc at h ⊢
  rw [hC0 25 (by omega), hC0 26 (by omega), hC0 28 (by omega)]
  exact h
def rCnt (c s T E : Nat) (L : List Int32) (C0 M0 C M : Mem) : Prop := c = 9 → ∀ k, k < 14 → ¬ k = 0 → ¬ k = 11 → C (c + 9) k = M 6 k
theorem rCnt_fr {c s T E : Nat} {L : List Int32} {C0 M0 C M C' M' : Mem} (h : rCnt c s T E L C0 M0 C M) (hC0 : ∀ k, c = 9 → k < 14 → C' (c + 9) (k) = C (c + 9) (k)) (hM0 : ∀ k, c = 9 → k < 14 → M' (6) (k) = M (6) (k)) : rCnt c s T E L C0 M0 C' M' := by
  intro z k h1 h2 h3
  rw [hC0 k z h1, hM0 k z h1]
  exact h z k h1 h2 h3
def rOut (c s T E : Nat) (L : List Int32) (C0 M0 C M : Mem) : Prop := ∃ q : Nat, q ≤ T ∧ C c 50 = nI q ∧ (c = 9 → M 6 15 = nI q ∧ ∀ j, j < 64 → j < q → C (c + 10) j = M 11 j)
theorem rOut_fr {c s T E : Nat} {L : List Int32} {C0 M0 C M C' M' : Mem} (h : rOut c s T E L C0 M0 C M) (hC0 : ∀ k, (k = 50) → C' (c) (k) = C (c) (k)) (hC1 : ∀ k, c = 9 → k < 64 → C' (c + 10) (k) = C (c + 10) (k)) (hM0 : ∀ k, c = 9 → k = 15 → M' (6) (k) = M (6) (k)) (hM1 : ∀ k, c = 9 → k < 64 → M' (11) (k) = M (11) (k)) : rOut c s T E L C0 M0 C' M' := by
  obtain ⟨q, h1, h2, h3⟩ := h
  refine ⟨q, h1, by rw [hC0 50 rfl]; exact h2, fun z => ⟨by rw [hM0 15 z rfl]; exact (h3 z).1, fun j a b => ?_⟩⟩
  rw [hC1 j z a, hM1 j z a]
  exact (h3 z).2 j a b
def rEvt (c s T E : Nat) (L : List Int32) (C0 M0 C M : Mem) : Prop := c = 9 → ∃ q : Nat, q ≤ E ∧ C c 51 = nI q ∧ M 0 11 = nI q ∧ ∀ j, j < 24 → j < q → EqN 5 (C (c + 11) (8 * j)) (M 7 j) ∧ C (c + 11) (8 * j + 1) = M 8 j ∧ C (c + 11) (8 * j + 2) = M 9 j ∧ C (c + 11) (8 * j + 3) = M 10 j
theorem rEvt_fr {c s T E : Nat} {L : List Int32} {C0 M0 C M C' M' : Mem} (h : rEvt c s T E L C0 M0 C M) (hC0 : ∀ k, c = 9 → k = 51 → C' (c) (k) = C (c) (k)) (hC1 : ∀ k, c = 9 → C' (c + 11) (k) = C (c + 11) (k)) (hM0 : ∀ k, c = 9 → k = 11 → M' (0) (k) = M (0) (k)) (hM1 : ∀ o k, c = 9 → 7 ≤ o → o ≤ 10 → k < 24 → M' (o) (k) = M (o) (k)) : rEvt c s T E L C0 M0 C' M' := by
  intro z
  obtain ⟨q, h1, h2, h3, h4⟩ := h z
  refine ⟨q, h1, by rw [hC0 51 z rfl]; exact h2, by rw [hM0 11 z rfl]; exact h3, fun j a b => ?_⟩
  rw [hC1 _ z, hC1 _ z, hC1 _ z, hC1 _ z, hM1 7 j z (by omega) (by omega) a, hM1 8 j z (by omega) (by omega) a, hM1 9 j z (by omega) (by omega) a, hM1 10 j z (by omega) (by omega) a]
  exact h4 j a b
def rWai (c s T E : Nat) (L : List Int32) (C0 M0 C M : Mem) : Prop := c = 9 → ∀ k, k < 21 → C (c + 22 + k) 8 = M 12 k
theorem rWai_fr {c s T E : Nat} {L : List Int32} {C0 M0 C M C' M' : Mem} (h : rWai c s T E L C0 M0 C M) (hC0 : ∀ j k, c = 9 → j < 21 → k = 8 → C' (c + 22 + j) (k) = C (c + 22 + j) (k)) (hM0 : ∀ k, c = 9 → k < 21 → M' (12) (k) = M (12) (k)) : rWai c s T E L C0 M0 C' M' := by
  intro z k hk
  rw [hC0 k 8 z hk rfl, hM0 k z hk]
  exact h z k hk
def rFrm (c s T E : Nat) (L : List Int32) (C0 M0 C M : Mem) : Prop := (∀ o k, (o < c ∨ c + 43 ≤ o) → C o k = C0 o k) ∧ (s = 5 → ∀ o k, ¬ o = 5 → (¬ o = 0 ∨ ¬ k = 16) → M o k = M0 o k)
theorem rFrm_fr {c s T E : Nat} {L : List Int32} {C0 M0 C M C' M' : Mem} (h : rFrm c s T E L C0 M0 C M) (hC0 : ∀ o k, (o < c ∨ c + 43 ≤ o) → C' (o) (k) = C (o) (k)) (hM0 : ∀ o k, s = 5 → ¬ o = 5 → (¬ o = 0 ∨ ¬ k = 16) → M' (o) (k) = M (o) (k)) : rFrm c s T E L C0 M0 C' M' := by
  exact ⟨fun o k a => by rw [hC0 o k a]; exact h.1 o k a, fun z o k a b => by rw [hM0 o k z a b]; exact h.2 z o k a b⟩
def Mch (c s T E : Nat) (L : List Int32) (C0 M0 C M : Mem) : Prop := rReg c s T E L C0 M0 C M ∧ rDat c s T E L C0 M0 C M ∧ rStk c s T E L C0 M0 C M ∧ rFlt c s T E L C0 M0 C M ∧ rZn c s T E L C0 M0 C M ∧ rPc c s T E L C0 M0 C M ∧ rSp c s T E L C0 M0 C M ∧ rShu c s T E L C0 M0 C M ∧ rBas c s T E L C0 M0 C M ∧ rFls c s T E L C0 M0 C M ∧ rLaz c s T E L C0 M0 C M ∧ rPh c s T E L C0 M0 C M ∧ rStp c s T E L C0 M0 C M ∧ rStl c s T E L C0 M0 C M ∧ rAsl c s T E L C0 M0 C M ∧ rClk c s T E L C0 M0 C M ∧ rPer c s T E L C0 M0 C M ∧ rTim c s T E L C0 M0 C M ∧ rNst c s T E L C0 M0 C M ∧ rDue c s T E L C0 M0 C M ∧ rRnk c s T E L C0 M0 C M ∧ rVec c s T E L C0 M0 C M ∧ rEna c s T E L C0 M0 C M ∧ rPnd c s T E L C0 M0 C M ∧ rAct c s T E L C0 M0 C M ∧ rHld c s T E L C0 M0 C M ∧ rSpl c s T E L C0 M0 C M ∧ rSta c s T E L C0 M0 C M ∧ rSav c s T E L C0 M0 C M ∧ rUns c s T E L C0 M0 C M ∧ rCod c s T E L C0 M0 C M ∧ rObs c s T E L C0 M0 C M ∧ rMdc c s T E L C0 M0 C M
theorem Mch.reg {c s T E : Nat} {L : List Int32} {C0 M0 C M : Mem} (h : Mch c s T E L C0 M0 C M) : rReg c s T E L C0 M0 C M := h.1
theorem Mch.dat {c s T E : Nat} {L : List Int32} {C0 M0 C M : Mem} (h : Mch c s T E L C0 M0 C M) : rDat c s T E L C0 M0 C M := h.2.1
theorem Mch.stk {c s T E : Nat} {L : List Int32} {C0 M0 C M : Mem} (h : Mch c s T E L C0 M0 C M) : rStk c s T E L C0 M0 C M := h.2.2.1
theorem Mch.flt {c s T E : Nat} {L : List Int32} {C0 M0 C M : Mem} (h : Mch c s T E L C0 M0 C M) : rFlt c s T E L C0 M0 C M := h.2.2.2.1
theorem Mch.zn {c s T E : Nat} {L : List Int32} {C0 M0 C M : Mem} (h : Mch c s T E L C0 M0 C M) : rZn c s T E L C0 M0 C M := h.2.2.2.2.1
theorem Mch.pc {c s T E : Nat} {L : List Int32} {C0 M0 C M : Mem} (h : Mch c s T E L C0 M0 C M) : rPc c s T E L C0 M0 C M := h.2.2.2.2.2.1
theorem Mch.sp {c s T E : Nat} {L : List Int32} {C0 M0 C M : Mem} (h : Mch c s T E L C0 M0 C M) : rSp c s T E L C0 M0 C M := h.2.2.2.2.2.2.1
theorem Mch.shu {c s T E : Nat} {L : List Int32} {C0 M0 C M : Mem} (h : Mch c s T E L C0 M0 C M) : rShu c s T E L C0 M0 C M := h.2.2.2.2.2.2.2.1
theorem Mch.bas {c s T E : Nat} {L : List Int32} {C0 M0 C M : Mem} (h : Mch c s T E L C0 M0 C M) : rBas c s T E L C0 M0 C M := h.2.2.2.2.2.2.2.2.1
theorem Mch.fls {c s T E : Nat} {L : List Int32} {C0 M0 C M : Mem} (h : Mch c s T E L C0 M0 C M) : rFls c s T E L C0 M0 C M := h.2.2.2.2.2.2.2.2.2.1
theorem Mch.laz {c s T E : Nat} {L : List Int32} {C0 M0 C M : Mem} (h : Mch c s T E L C0 M0 C M) : rLaz c s T E L C0 M0 C M := h.2.2.2.2.2.2.2.2.2.2.1
theorem Mch.ph {c s T E : Nat} {L : List Int32} {C0 M0 C M : Mem} (h : Mch c s T E L C0 M0 C M) : rPh c s T E L C0 M0 C M := h.2.2.2.2.2.2.2.2.2.2.2.1
theorem Mch.stp {c s T E : Nat} {L : List Int32} {C0 M0 C M : Mem} (h : Mch c s T E L C0 M0 C M) : rStp c s T E L C0 M0 C M := h.2.2.2.2.2.2.2.2.2.2.2.2.1
theorem Mch.stl {c s T E : Nat} {L : List Int32} {C0 M0 C M : Mem} (h : Mch c s T E L C0 M0 C M) : rStl c s T E L C0 M0 C M := h.2.2.2.2.2.2.2.2.2.2.2.2.2.1
theorem Mch.asl {c s T E : Nat} {L : List Int32} {C0 M0 C M : Mem} (h : Mch c s T E L C0 M0 C M) : rAsl c s T E L C0 M0 C M := h.2.2.2.2.2.2.2.2.2.2.2.2.2.2.1
theorem Mch.clk {c s T E : Nat} {L : List Int32} {C0 M0 C M : Mem} (h : Mch c s T E L C0 M0 C M) : rClk c s T E L C0 M0 C M := h.2.2.2.2.2.2.2.2.2.2.2.2.2.2.2.1
theorem Mch.per {c s T E : Nat} {L : List Int32} {C0 M0 C M : Mem} (h : Mch c s T E L C0 M0 C M) : rPer c s T E L C0 M0 C M := h.2.2.2.2.2.2.2.2.2.2.2.2.2.2.2.2.1
theorem Mch.tim {c s T E : Nat} {L : List Int32} {C0 M0 C M : Mem} (h : Mch c s T E L C0 M0 C M) : rTim c s T E L C0 M0 C M := h.2.2.2.2.2.2.2.2.2.2.2.2.2.2.2.2.2.1
theorem Mch.nst {c s T E : Nat} {L : List Int32} {C0 M0 C M : Mem} (h : Mch c s T E L C0 M0 C M) : rNst c s T E L C0 M0 C M := h.2.2.2.2.2.2.2.2.2.2.2.2.2.2.2.2.2.2.1
theorem Mch.due {c s T E : Nat} {L : List Int32} {C0 M0 C M : Mem} (h : Mch c s T E L C0 M0 C M) : rDue c s T E L C0 M0 C M := h.2.2.2.2.2.2.2.2.2.2.2.2.2.2.2.2.2.2.2.1
theorem Mch.rnk {c s T E : Nat} {L : List Int32} {C0 M0 C M : Mem} (h : Mch c s T E L C0 M0 C M) : rRnk c s T E L C0 M0 C M := h.2.2.2.2.2.2.2.2.2.2.2.2.2.2.2.2.2.2.2.2.1
theorem Mch.vec {c s T E : Nat} {L : List Int32} {C0 M0 C M : Mem} (h : Mch c s T E L C0 M0 C M) : rVec c s T E L C0 M0 C M := h.2.2.2.2.2.2.2.2.2.2.2.2.2.2.2.2.2.2.2.2.2.1
theorem Mch.ena {c s T E : Nat} {L : List Int32} {C0 M0 C M : Mem} (h : Mch c s T E L C0 M0 C M) : rEna c s T E L C0 M0 C M := h.2.2.2.2.2.2.2.2.2.2.2.2.2.2.2.2.2.2.2.2.2.2.1
theorem Mch.pnd {c s T E : Nat} {L : List Int32} {C0 M0 C M : Mem} (h : Mch c s T E L C0 M0 C M) : rPnd c s T E L C0 M0 C M := h.2.2.2.2.2.2.2.2.2.2.2.2.2.2.2.2.2.2.2.2.2.2.2.1
theorem Mch.act {c s T E : Nat} {L : List Int32} {C0 M0 C M : Mem} (h : Mch c s T E L C0 M0 C M) : rAct c s T E L C0 M0 C M := h.2.2.2.2.2.2.2.2.2.2.2.2.2.2.2.2.2.2.2.2.2.2.2.2.1
theorem Mch.hld {c s T E : Nat} {L : List Int32} {C0 M0 C M : Mem} (h : Mch c s T E L C0 M0 C M) : rHld c s T E L C0 M0 C M := h.2.2.2.2.2.2.2.2.2.2.2.2.2.2.2.2.2.2.2.2.2.2.2.2.2.1
theorem Mch.spl {c s T E : Nat} {L : List Int32} {C0 M0 C M : Mem} (h : Mch c s T E L C0 M0 C M) : rSpl c s T E L C0 M0 C M := h.2.2.2.2.2.2.2.2.2.2.2.2.2.2.2.2.2.2.2.2.2.2.2.2.2.2.1
theorem Mch.sta {c s T E : Nat} {L : List Int32} {C0 M0 C M : Mem} (h : Mch c s T E L C0 M0 C M) : rSta c s T E L C0 M0 C M := h.2.2.2.2.2.2.2.2.2.2.2.2.2.2.2.2.2.2.2.2.2.2.2.2.2.2.2.1
theorem Mch.sav {c s T E : Nat} {L : List Int32} {C0 M0 C M : Mem} (h : Mch c s T E L C0 M0 C M) : rSav c s T E L C0 M0 C M := h.2.2.2.2.2.2.2.2.2.2.2.2.2.2.2.2.2.2.2.2.2.2.2.2.2.2.2.2.1
theorem Mch.uns {c s T E : Nat} {L : List Int32} {C0 M0 C M : Mem} (h : Mch c s T E L C0 M0 C M) : rUns c s T E L C0 M0 C M := h.2.2.2.2.2.2.2.2.2.2.2.2.2.2.2.2.2.2.2.2.2.2.2.2.2.2.2.2.2.1
theorem Mch.cod {c s T E : Nat} {L : List Int32} {C0 M0 C M : Mem} (h : Mch c s T E L C0 M0 C M) : rCod c s T E L C0 M0 C M := h.2.2.2.2.2.2.2.2.2.2.2.2.2.2.2.2.2.2.2.2.2.2.2.2.2.2.2.2.2.2.1
theorem Mch.obs {c s T E : Nat} {L : List Int32} {C0 M0 C M : Mem} (h : Mch c s T E L C0 M0 C M) : rObs c s T E L C0 M0 C M := h.2.2.2.2.2.2.2.2.2.2.2.2.2.2.2.2.2.2.2.2.2.2.2.2.2.2.2.2.2.2.2.1
theorem Mch.mdc {c s T E : Nat} {L : List Int32} {C0 M0 C M : Mem} (h : Mch c s T E L C0 M0 C M) : rMdc c s T E L C0 M0 C M := h.2.2.2.2.2.2.2.2.2.2.2.2.2.2.2.2.2.2.2.2.2.2.2.2.2.2.2.2.2.2.2.2
def Own (c s T E : Nat) (L : List Int32) (C0 M0 C M : Mem) : Prop := rCnt c s T E L C0 M0 C M ∧ rOut c s T E L C0 M0 C M ∧ rEvt c s T E L C0 M0 C M ∧ rWai c s T E L C0 M0 C M ∧ rFrm c s T E L C0 M0 C M
theorem Own.cnt {c s T E : Nat} {L : List Int32} {C0 M0 C M : Mem} (h : Own c s T E L C0 M0 C M) : rCnt c s T E L C0 M0 C M := h.1
theorem Own.out {c s T E : Nat} {L : List Int32} {C0 M0 C M : Mem} (h : Own c s T E L C0 M0 C M) : rOut c s T E L C0 M0 C M := h.2.1
theorem Own.evt {c s T E : Nat} {L : List Int32} {C0 M0 C M : Mem} (h : Own c s T E L C0 M0 C M) : rEvt c s T E L C0 M0 C M := h.2.2.1
theorem Own.wai {c s T E : Nat} {L : List Int32} {C0 M0 C M : Mem} (h : Own c s T E L C0 M0 C M) : rWai c s T E L C0 M0 C M := h.2.2.2.1
theorem Own.frm {c s T E : Nat} {L : List Int32} {C0 M0 C M : Mem} (h : Own c s T E L C0 M0 C M) : rFrm c s T E L C0 M0 C M := h.2.2.2.2
def Top (c s T E : Nat) (L : List Int32) (C0 M0 C M : Mem) : Prop := Mch c s T E L C0 M0 C M ∧ Own c s T E L C0 M0 C M
theorem Top.reg {c s T E : Nat} {L : List Int32} {C0 M0 C M : Mem} (h : Top c s T E L C0 M0 C M) : rReg c s T E L C0 M0 C M := h.1.reg
theorem Top.dat {c s T E : Nat} {L : List Int32} {C0 M0 C M : Mem} (h : Top c s T E L C0 M0 C M) : rDat c s T E L C0 M0 C M := h.1.dat
theorem Top.stk {c s T E : Nat} {L : List Int32} {C0 M0 C M : Mem} (h : Top c s T E L C0 M0 C M) : rStk c s T E L C0 M0 C M := h.1.stk
theorem Top.flt {c s T E : Nat} {L : List Int32} {C0 M0 C M : Mem} (h : Top c s T E L C0 M0 C M) : rFlt c s T E L C0 M0 C M := h.1.flt
theorem Top.zn {c s T E : Nat} {L : List Int32} {C0 M0 C M : Mem} (h : Top c s T E L C0 M0 C M) : rZn c s T E L C0 M0 C M := h.1.zn
theorem Top.pc {c s T E : Nat} {L : List Int32} {C0 M0 C M : Mem} (h : Top c s T E L C0 M0 C M) : rPc c s T E L C0 M0 C M := h.1.pc
theorem Top.sp {c s T E : Nat} {L : List Int32} {C0 M0 C M : Mem} (h : Top c s T E L C0 M0 C M) : rSp c s T E L C0 M0 C M := h.1.sp
theorem Top.shu {c s T E : Nat} {L : List Int32} {C0 M0 C M : Mem} (h : Top c s T E L C0 M0 C M) : rShu c s T E L C0 M0 C M := h.1.shu
theorem Top.bas {c s T E : Nat} {L : List Int32} {C0 M0 C M : Mem} (h : Top c s T E L C0 M0 C M) : rBas c s T E L C0 M0 C M := h.1.bas
theorem Top.fls {c s T E : Nat} {L : List Int32} {C0 M0 C M : Mem} (h : Top c s T E L C0 M0 C M) : rFls c s T E L C0 M0 C M := h.1.fls
theorem Top.laz {c s T E : Nat} {L : List Int32} {C0 M0 C M : Mem} (h : Top c s T E L C0 M0 C M) : rLaz c s T E L C0 M0 C M := h.1.laz
theorem Top.ph {c s T E : Nat} {L : List Int32} {C0 M0 C M : Mem} (h : Top c s T E L C0 M0 C M) : rPh c s T E L C0 M0 C M := h.1.ph
theorem Top.stp {c s T E : Nat} {L : List Int32} {C0 M0 C M : Mem} (h : Top c s T E L C0 M0 C M) : rStp c s T E L C0 M0 C M := h.1.stp
theorem Top.stl {c s T E : Nat} {L : List Int32} {C0 M0 C M : Mem} (h : Top c s T E L C0 M0 C M) : rStl c s T E L C0 M0 C M := h.1.stl
theorem Top.asl {c s T E : Nat} {L : List Int32} {C0 M0 C M : Mem} (h : Top c s T E L C0 M0 C M) : rAsl c s T E L C0 M0 C M := h.1.asl
theorem Top.clk {c s T E : Nat} {L : List Int32} {C0 M0 C M : Mem} (h : Top c s T E L C0 M0 C M) : rClk c s T E L C0 M0 C M := h.1.clk
theorem Top.per {c s T E : Nat} {L : List Int32} {C0 M0 C M : Mem} (h : Top c s T E L C0 M0 C M) : rPer c s T E L C0 M0 C M := h.1.per
theorem Top.tim {c s T E : Nat} {L : List Int32} {C0 M0 C M : Mem} (h : Top c s T E L C0 M0 C M) : rTim c s T E L C0 M0 C M := h.1.tim
theorem Top.nst {c s T E : Nat} {L : List Int32} {C0 M0 C M : Mem} (h : Top c s T E L C0 M0 C M) : rNst c s T E L C0 M0 C M := h.1.nst
theorem Top.due {c s T E : Nat} {L : List Int32} {C0 M0 C M : Mem} (h : Top c s T E L C0 M0 C M) : rDue c s T E L C0 M0 C M := h.1.due
theorem Top.rnk {c s T E : Nat} {L : List Int32} {C0 M0 C M : Mem} (h : Top c s T E L C0 M0 C M) : rRnk c s T E L C0 M0 C M := h.1.rnk
theorem Top.vec {c s T E : Nat} {L : List Int32} {C0 M0 C M : Mem} (h : Top c s T E L C0 M0 C M) : rVec c s T E L C0 M0 C M := h.1.vec
theorem Top.ena {c s T E : Nat} {L : List Int32} {C0 M0 C M : Mem} (h : Top c s T E L C0 M0 C M) : rEna c s T E L C0 M0 C M := h.1.ena
theorem Top.pnd {c s T E : Nat} {L : List Int32} {C0 M0 C M : Mem} (h : Top c s T E L C0 M0 C M) : rPnd c s T E L C0 M0 C M := h.1.pnd
theorem Top.act {c s T E : Nat} {L : List Int32} {C0 M0 C M : Mem} (h : Top c s T E L C0 M0 C M) : rAct c s T E L C0 M0 C M := h.1.act
theorem Top.hld {c s T E : Nat} {L : List Int32} {C0 M0 C M : Mem} (h : Top c s T E L C0 M0 C M) : rHld c s T E L C0 M0 C M := h.1.hld
theorem Top.spl {c s T E : Nat} {L : List Int32} {C0 M0 C M : Mem} (h : Top c s T E L C0 M0 C M) : rSpl c s T E L C0 M0 C M := h.1.spl
theorem Top.sta {c s T E : Nat} {L : List Int32} {C0 M0 C M : Mem} (h : Top c s T E L C0 M0 C M) : rSta c s T E L C0 M0 C M := h.1.sta
theorem Top.sav {c s T E : Nat} {L : List Int32} {C0 M0 C M : Mem} (h : Top c s T E L C0 M0 C M) : rSav c s T E L C0 M0 C M := h.1.sav
theorem Top.uns {c s T E : Nat} {L : List Int32} {C0 M0 C M : Mem} (h : Top c s T E L C0 M0 C M) : rUns c s T E L C0 M0 C M := h.1.uns
theorem Top.cod {c s T E : Nat} {L : List Int32} {C0 M0 C M : Mem} (h : Top c s T E L C0 M0 C M) : rCod c s T E L C0 M0 C M := h.1.cod
theorem Top.obs {c s T E : Nat} {L : List Int32} {C0 M0 C M : Mem} (h : Top c s T E L C0 M0 C M) : rObs c s T E L C0 M0 C M := h.1.obs
theorem Top.mdc {c s T E : Nat} {L : List Int32} {C0 M0 C M : Mem} (h : Top c s T E L C0 M0 C M) : rMdc c s T E L C0 M0 C M := h.1.mdc
theorem Top.cnt {c s T E : Nat} {L : List Int32} {C0 M0 C M : Mem} (h : Top c s T E L C0 M0 C M) : rCnt c s T E L C0 M0 C M := h.2.cnt
theorem Top.out {c s T E : Nat} {L : List Int32} {C0 M0 C M : Mem} (h : Top c s T E L C0 M0 C M) : rOut c s T E L C0 M0 C M := h.2.out
theorem Top.evt {c s T E : Nat} {L : List Int32} {C0 M0 C M : Mem} (h : Top c s T E L C0 M0 C M) : rEvt c s T E L C0 M0 C M := h.2.evt
theorem Top.wai {c s T E : Nat} {L : List Int32} {C0 M0 C M : Mem} (h : Top c s T E L C0 M0 C M) : rWai c s T E L C0 M0 C M := h.2.wai
theorem Top.frm {c s T E : Nat} {L : List Int32} {C0 M0 C M : Mem} (h : Top c s T E L C0 M0 C M) : rFrm c s T E L C0 M0 C M := h.2.frm
theorem Top.mono {c s T E T' E' : Nat} {L : List Int32} {C0 M0 C M : Mem} (hT : T ≤ T') (hE : E ≤ E') (h : Top c s T E L C0 M0 C M) : Top c s T' E' L C0 M0 C M := by
  refine ⟨⟨?_, ?_, ?_, ?_, ?_, ?_, ?_, ?_, ?_, ?_, ?_, ?_, ?_, ?_, ?_, ?_, ?_, ?_, ?_, ?_, ?_, ?_, ?_, ?_, ?_, ?_, ?_, ?_, ?_, ?_, ?_, ?_, ?_⟩, ⟨?_, ?_, ?_, ?_, ?_⟩⟩
  · exact h.reg
  · exact h.dat
  · exact h.stk
  · exact h.flt
  · exact h.zn
  · exact h.pc
  · exact h.sp
  · exact h.shu
  · exact h.bas
  · exact h.fls
  · exact h.laz
  · exact h.ph
  · exact h.stp
  · exact h.stl
  · exact h.asl
  · exact EqN.le h.clk hT
  · exact h.per
  · exact h.tim
  · exact h.nst
  · exact h.due
  · exact h.rnk
  · exact h.vec
  · exact h.ena
  · intro j hj
    rcases h.pnd j hj with q | ⟨q1, q2⟩
    · exact Or.inl q
    · exact Or.inr ⟨q1, q2.le hT⟩
  · exact h.act
  · exact h.hld
  · exact h.spl
  · exact h.sta
  · exact h.sav
  · exact h.uns
  · exact h.cod
  · exact ⟨h.obs.1, Nat.le_trans h.obs.2.1 hT, h.obs.2.2⟩
  · exact h.mdc
  · exact h.cnt
  · obtain ⟨q, h1, h2⟩ := h.out
    exact ⟨q, Nat.le_trans h1 hT, h2⟩
  · intro z
    obtain ⟨q, h1, h2⟩ := h.evt z
    exact ⟨q, Nat.le_trans h1 hE, h2⟩
  · exact h.wai
  · exact h.frm
