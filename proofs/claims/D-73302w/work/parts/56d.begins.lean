/-! THE SIMULATION: a source begins -/
theorem up2_self {M : Mem} {o k : Nat} : up2 M o k (M o k) = M := by
  funext o' k'
  by_cases h : o' = o ∧ k' = k
  · obtain ⟨rfl, rfl⟩ := h
    rw [up2_e]
  · rw [up2_x (by omega)]
/-- who began is kept, the first 300 -/
def obU (c : Nat) (x : Int32) (C : Mem) : Mem := if 300 ≤ C c 53 then C else up2 C (c + 12) (C c 53).toNatClampNeg x
theorem obU_n {c o : Nat} {x : Int32} {C : Mem} (h : ¬ o = c + 12) : obU c x C o = C o := by
  unfold obU
  split
  · rfl
  · exact up2_n h
def mxI (a b : Int32) : Int32 := if a ≤ b then b else a
theorem fc_sbegins_v {o : Nat} {t : Int32} {C : Mem} : fv_begins o t C = some ((), up2 (up2 (up2 (up2 C o 4 0) o 5 1) o 7 t) o 8 (mxI (t - C o 6) (C o 8))) := by
  unfold fv_begins fc_Src_begins fc_Src_begins_42 mxI
  simp (disch := omega) only [stp_e, up2_x]
  by_cases h : t - C o 6 ≤ C o 8
  · rw [if_pos h, if_pos h]
  · rw [if_neg h, if_neg h]
theorem fc_begins_107_v {c l : Nat} {x1 x2 x4 y2 y3 : Int32} {x3 : Nat} {C : Mem} (hc : ¬ x3 = c + 9) (hl : C c 53 = nI l) (hl2 : l < 2 ^ 31) : fc_Core_begins_107 c x1 x2 x3 x4 y3 y2 2 C = fc_Core_begins_147 c x1 x2 x4 (obU c x1 (up2 (up2 (up2 (up2 C (c + 9) 2 (y2 + y3)) c 31 (C x3 2)) c 45 0) c 52 x1)) := by
  unfold fc_Core_begins_107 obU
  rw [i14_2, gd_t, cl_2]
  simp (disch := omega) only [stp_e, up2_x]
  rw [hl]
  by_cases h : (300 : Int32) ≤ nI l
  · rw [if_pos h, if_pos h]
  · rw [if_neg h, if_neg h, inb_nI (by
      rcases Nat.lt_or_ge l 300 with z | z
      · exact z
      · exact absurd (nI_le (a := 300) z hl2) h) (by decide), gd_t]
theorem fc_begins_v {c b d l x : Nat} {C : Mem} (hb : b < 21) (hd : d < 21) (hd1 : C c 33 = nI d) (hl : C c 53 = nI l) (hl2 : l < 2 ^ 31) (hx : x = 0 ∨ x = 1) : fc_Core_begins c (nI b) (nI x) C = fc_Core_begins_147 c (nI b) (nI x) (C c 37 - C (c + 22 + b) 6) (obU c (nI b) (up2 (up2 (up2 (up2 (up2 (up2 (up2 (up2 (up2 (up2 (up2 (up2 C (c + 22 + b) 4 0) (c + 22 + b) 5 1) (c + 22 + b) 7 (C c 37)) (c + 22 + b) 8 (mxI (C c 37 - C (c + 22 + b) 6) (C (c + 22 + b) 8))) (c + 6) d (nI b)) c 33 (nI (d + 1))) (c + 9) 12 (mxI (nI (d + 1)) (C (c + 9) 12))) (c + 9) 1 (C (c + 9) 1 + 1)) (c + 9) 2 (C (c + 9) 2 + nI x)) c 31 (C (c + 22 + b) 2)) c 45 0) c 52 (nI b))) := by
  unfold fc_Core_begins
  rw [inb_nI hb (by decide), gd_t, nI_clamp (show b < 2 ^ 31 by omega), fc_sbegins_v, bnd_s]
  simp (disch := omega) only [stp_e, up2_x, up2_e]
  rw [hd1, inb_nI hd (by decide), gd_t, nI_clamp (show d < 2 ^ 31 by omega), nI_1]
  have key : ∀ y2 : Int32, fc_Core_begins_80 c (nI b) (nI x) (c + 22 + b) (C c 37 - C (c + 22 + b) 6) y2 12 (up2 (up2 (up2 (up2 (up2 (up2 C (c + 22 + b) 4 0) (c + 22 + b) 5 1) (c + 22 + b) 7 (C c 37)) (c + 22 + b) 8 (mxI (C c 37 - C (c + 22 + b) 6) (C (c + 22 + b) 8))) (c + 6) d (nI b)) c 33 (nI (d + 1))) = fc_Core_begins_147 c (nI b) (nI x) (C c 37 - C (c + 22 + b) 6) (obU c (nI b) (up2 (up2 (up2 (up2 (up2 (up2 (up2 (up2 (up2 (up2 (up2 (up2 C (c + 22 + b) 4 0) (c + 22 + b) 5 1) (c + 22 + b) 7 (C c 37)) (c + 22 + b) 8 (mxI (C c 37 - C (c + 22 + b) 6) (C (c + 22 + b) 8))) (c + 6) d (nI b)) c 33 (nI (d + 1))) (c + 9) 12 y2) (c + 9) 1 (C (c + 9) 1 + 1)) (c + 9) 2 (C (c + 9) 2 + nI x)) c 31 (C (c + 22 + b) 2)) c 45 0) c 52 (nI b))) := by
    intro y2
    unfold fc_Core_begins_80
    rw [i14_12, gd_t, cl_12]
    simp (disch := omega) only [stp_e, up2_x, up2_e]
    rcases hx with rfl | rfl
    · rw [if_pos (show nI 0 = 0 from rfl), fc_begins_107_v (l := l) (by omega) (by simp (disch := omega) only [up2_x]; exact hl) hl2]
      simp (disch := omega) only [up2_x]
      rfl
    · rw [if_neg (show ¬ nI 1 = 0 by decide), fc_begins_107_v (l := l) (by omega) (by simp (disch := omega) only [up2_x]; exact hl) hl2]
      simp (disch := omega) only [up2_x]
      rfl
  have hmx : mxI (nI (d + 1)) (C (c + 9) 12) = if nI (d + 1) ≤ C (c + 9) 12 then C (c + 9) 12 else nI (d + 1) := rfl
  rw [hmx]
  by_cases h : nI (d + 1) ≤ C (c + 9) 12
  · rw [if_pos h, if_pos h]
    exact key _
  · rw [if_neg h, if_neg h]
    exact key _
theorem fm_begins_own {s b d x : Nat} {M : Mem} (hb : b < 21) (hd : d < 21) (hs : s = 4) (hd1 : M s 30 = nI d) (ho : M 0 14 = 1) (hx : x = 0 ∨ x = 1) : fm_begins s (nI b) (nI x) M = fm_begins_153 s (nI b) (nI x) (M s 25 - M s (194 + b)) (up2 (up2 (up2 (up2 (up2 (up2 (up2 (up2 (up2 (up2 (up2 (up2 (up2 (up2 M s (194 + b) (-1)) s (300 + b) 1) s (321 + b) (M s 25)) s (152 + d) (nI b)) s 30 (nI (d + 1))) s 12 (M 2 b)) s 18 0) s 20 0) s 21 0) 0 16 (nI b)) 6 1 (M 6 1 + 1)) 6 2 (M 6 2 + nI x)) 6 12 (mxI (nI (d + 1)) (M 6 12))) 12 b (mxI (M s 25 - M s (194 + b)) (M 12 b))) := by
  unfold fm_begins
  rw [l_194, l_300, l_321, inb_nI (show 194 + b < 342 by omega) (by decide), inb_nI (show 300 + b < 342 by omega) (by decide), inb_nI (show 321 + b < 342 by omega) (by decide), nI_clamp (show 194 + b < 2 ^ 31 by omega), nI_clamp (show 300 + b < 2 ^ 31 by omega), nI_clamp (show 321 + b < 2 ^ 31 by omega), inb_nI hb (by decide), nI_clamp (show b < 2 ^ 31 by omega)]
  simp (disch := omega) only [gd_t, stp_e, up2_x, up2_e]
  rw [hd1, l_152, inb_nI (show 152 + d < 342 by omega) (by decide), nI_clamp (show 152 + d < 2 ^ 31 by omega)]
  simp (disch := omega) only [gd_t, stp_e, up2_x, up2_e]
  rw [hd1, nI_1, fm_turns_v, bnd_s]
  unfold fm_counts fm_counts_17
  simp (disch := omega) only [stp_e, bnd_s, gd_t, up2_x, up2_e, ho, n10, ↓reduceIte, i17_1, i17_2, cl_1, cl_2]
  have key : ∀ (W : Int32) (M1 : Mem), M1 0 14 = 1 → M1 s 30 = nI (d + 1) → fm_begins_102 s (nI b) (nI x) W M1 = fm_begins_153 s (nI b) (nI x) W (up2 (up2 M1 6 12 (mxI (nI (d + 1)) (M1 6 12))) 12 b (mxI W (M1 12 b))) := by
    intro W M1 h1 h2
    unfold fm_begins_102
    rw [h1, if_neg (by decide), h2]
    have k2 : ∀ M2 : Mem, fm_begins_134 s (nI b) (nI x) W M2 = fm_begins_153 s (nI b) (nI x) W (up2 M2 12 b (mxI W (M2 12 b))) := by
      intro M2
      unfold fm_begins_134 mxI
      rw [inb_nI hb (by decide), gd_t, gd_t, nI_clamp (show b < 2 ^ 31 by omega)]
      by_cases h : W ≤ M2 12 b
      · rw [if_pos h, if_pos h, up2_self]
      · rw [if_neg h, if_neg h, stp_e]
    unfold mxI
    by_cases h : nI (d + 1) ≤ M1 6 12
    · rw [if_pos h, if_pos h, up2_self, k2]
      rfl
    · rw [if_neg h, if_neg h, stp_e, k2]
      simp (disch := omega) only [up2_x]
      rfl
  rcases hx with rfl | rfl
  · rw [if_neg (show ¬ nI 0 = 1 by decide), key _ _ (by simp (disch := omega) only [up2_x]; exact ho) (by simp (disch := omega) only [up2_x, up2_e])]
    simp (disch := omega) only [up2_x]
    rw [show M 6 2 + nI 0 = M 6 2 from by simp [nI]]
    congr 3
    rw [show ∀ N : Mem, N 6 2 = M 6 2 → up2 N 6 2 (M 6 2) = N from fun N hN => by rw [← hN, up2_self]]
    simp (disch := omega) only [up2_x]
  · rw [if_pos (show nI 1 = 1 from rfl), key _ _ (by simp (disch := omega) only [up2_x]; exact ho) (by simp (disch := omega) only [up2_x, up2_e])]
    simp (disch := omega) only [up2_x]
    rfl
theorem fm_begins_for {s b d x : Nat} {M : Mem} (hb : b < 21) (hd : d < 21) (hs : s = 5) (hd1 : M s 30 = nI d) (ho : M 0 14 = 0) (hx : x = 0 ∨ x = 1) : fm_begins s (nI b) (nI x) M = some ((), up2 (up2 (up2 (up2 (up2 (up2 (up2 (up2 (up2 (up2 M s (194 + b) (-1)) s (300 + b) 1) s (321 + b) (M s 25)) s (152 + d) (nI b)) s 30 (nI (d + 1))) s 12 (M 2 b)) s 18 0) s 20 0) s 21 0) 0 16 (nI b)) := by
  unfold fm_begins
  rw [l_194, l_300, l_321, inb_nI (show 194 + b < 342 by omega) (by decide), inb_nI (show 300 + b < 342 by omega) (by decide), inb_nI (show 321 + b < 342 by omega) (by decide), nI_clamp (show 194 + b < 2 ^ 31 by omega), nI_clamp (show 300 + b < 2 ^ 31 by omega), nI_clamp (show 321 + b < 2 ^ 31 by omega), inb_nI hb (by decide), nI_clamp (show b < 2 ^ 31 by omega)]
  simp (disch := omega) only [gd_t, stp_e, up2_x, up2_e]
  rw [hd1, l_152, inb_nI (show 152 + d < 342 by omega) (by decide), nI_clamp (show 152 + d < 2 ^ 31 by omega)]
  simp (disch := omega) only [gd_t, stp_e, up2_x, up2_e]
  rw [hd1, nI_1, fm_turns_v, bnd_s]
  unfold fm_counts fm_counts_17 fm_begins_102 fm_begins_153
  simp (disch := omega) only [stp_e, bnd_s, gd_t, up2_x, up2_e, ho, ↓reduceIte]
  rw [fm_notes_0 (by simp (disch := omega) only [up2_x]; exact ho), bnd_s]
  split <;> rfl
