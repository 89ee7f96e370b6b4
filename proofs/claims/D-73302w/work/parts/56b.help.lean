/-! THE SIMULATION: helpers -/
theorem n10 : ((1 : Int32) = 0) = False := by simp
theorem n01 : ((0 : Int32) = 1) = False := by simp
theorem n1m : ((0 : Int32) ≤ -1) = False := by decide
theorem nm0 : ((-1 : Int32) < 0) = True := by decide
theorem i17_1 : inb 1 17 = true := rfl
theorem i14_1 : inb 1 14 = true := rfl
theorem cl_1 : (1 : Int32).toNatClampNeg = 1 := rfl
theorem i17_2 : inb 2 17 = true := rfl
theorem i14_2 : inb 2 14 = true := rfl
theorem cl_2 : (2 : Int32).toNatClampNeg = 2 := rfl
theorem i17_3 : inb 3 17 = true := rfl
theorem i14_3 : inb 3 14 = true := rfl
theorem cl_3 : (3 : Int32).toNatClampNeg = 3 := rfl
theorem i17_4 : inb 4 17 = true := rfl
theorem i14_4 : inb 4 14 = true := rfl
theorem cl_4 : (4 : Int32).toNatClampNeg = 4 := rfl
theorem i17_5 : inb 5 17 = true := rfl
theorem i14_5 : inb 5 14 = true := rfl
theorem cl_5 : (5 : Int32).toNatClampNeg = 5 := rfl
theorem i17_6 : inb 6 17 = true := rfl
theorem i14_6 : inb 6 14 = true := rfl
theorem cl_6 : (6 : Int32).toNatClampNeg = 6 := rfl
theorem i17_7 : inb 7 17 = true := rfl
theorem i14_7 : inb 7 14 = true := rfl
theorem cl_7 : (7 : Int32).toNatClampNeg = 7 := rfl
theorem i17_8 : inb 8 17 = true := rfl
theorem i14_8 : inb 8 14 = true := rfl
theorem cl_8 : (8 : Int32).toNatClampNeg = 8 := rfl
theorem i17_9 : inb 9 17 = true := rfl
theorem i14_9 : inb 9 14 = true := rfl
theorem cl_9 : (9 : Int32).toNatClampNeg = 9 := rfl
theorem i17_10 : inb 10 17 = true := rfl
theorem i14_10 : inb 10 14 = true := rfl
theorem cl_10 : (10 : Int32).toNatClampNeg = 10 := rfl
theorem i17_11 : inb 11 17 = true := rfl
theorem i14_11 : inb 11 14 = true := rfl
theorem cl_11 : (11 : Int32).toNatClampNeg = 11 := rfl
theorem i17_12 : inb 12 17 = true := rfl
theorem i14_12 : inb 12 14 = true := rfl
theorem cl_12 : (12 : Int32).toNatClampNeg = 12 := rfl
theorem i17_13 : inb 13 17 = true := rfl
theorem i14_13 : inb 13 14 = true := rfl
theorem cl_13 : (13 : Int32).toNatClampNeg = 13 := rfl
/-- the mode, while cycles run: whose machine it is, whether it is the plain one; who began -/
def Md (c : Nat) (C M : Mem) : Prop := ownOk c M ∧ C c 25 = M 0 15 ∧ C c 52 = M 0 16
theorem Md_fr {c : Nat} {C M C' M' : Mem} (h : Md c C M) (h1 : C' c 25 = C c 25) (h2 : M' 0 14 = M 0 14) (h3 : M' 0 15 = M 0 15) (h4 : C' c 52 = C c 52) (h5 : M' 0 16 = M 0 16) : Md c C' M' := by
  obtain ⟨⟨a1, a2⟩, a3, a4⟩ := h
  exact ⟨⟨fun z => by rw [h2]; exact a1 z, fun z => by rw [h2]; exact a2 z⟩, by rw [h1, h3]; exact a3, by rw [h4, h5]; exact a4⟩
theorem own14 {c s : Nat} {C M : Mem} (h : Md c C M) (z : c = 9) : M 0 14 = 1 := h.1.1 z
theorem for14 {c s : Nat} {C M : Mem} (h : Md c C M) (z : c = 52) : M 0 14 = 0 := h.1.2 z
theorem fc_turns_v {c p : Nat} {C : Mem} (hp : p ≤ 5) : fc_Core_turns c (nI p) C = some ((), up2 (up2 (up2 C c 41 (nI p)) c 42 0) c 24 (nI p)) := by
  unfold fc_Core_turns fc_Core_turns_74
  match p, hp with
  | 0, _ => rfl
  | 1, _ => rfl
  | 2, _ => rfl
  | 3, _ => rfl
  | 4, _ => rfl
  | 5, _ => rfl
theorem fm_turns_v {s : Nat} {x y : Int32} {M : Mem} : fm_turns s x y M = some ((), up2 (up2 M s 20 x) s 21 y) := rfl
theorem mod24 {q : Nat} (h : q < 2 ^ 31) : nI q - nI q / 24 * 24 = nI (q % 24) := pk_rem (d := 24) h (by decide) (by decide)
theorem fc_notes_v {c q m : Nat} {C : Mem} {x1 x2 x3 : Int32} (hq : C c 51 = nI q) (h : q < 2 ^ 30) (hm : m ≤ 5) : fc_Core_notes c (nI m) x1 x2 x3 C = some ((), up2 (upr C (c + 11) (evRow (C (c + 11)) (q % 24) (nI m) x1 x2 x3)) c 51 (nI (q + 1))) := by
  have hl : q % 24 < 24 := Nat.mod_lt _ (by decide)
  unfold fc_Core_notes
  rw [hq, mod24 (by omega), inb_nI hl (by decide), gd_t, nI_clamp (by omega), decide_eq_true (nI_pos (show m < 2 ^ 31 by omega)), gd_t]
  simp (disch := omega) only [stp_e, upr_x]
  rw [hq, nI_1]
theorem fm_notes_v {q : Nat} {M : Mem} {k x1 x3 : Int32} (ho : M 0 14 = 1) (hq : M 0 11 = nI q) (h : q < 2 ^ 30) : fm_notes k x1 x3 M = some ((), up2 (up2 (up2 (up2 (up2 M 7 (q % 24) k) 8 (q % 24) x1) 9 (q % 24) (M 4 25)) 10 (q % 24) x3) 0 11 (nI (q + 1))) := by
  have hl : q % 24 < 24 := Nat.mod_lt _ (by decide)
  unfold fm_notes
  rw [ho, if_neg (by decide), hq, mod24 (by omega), inb_nI hl (by decide), nI_clamp (by omega)]
  simp (disch := omega) only [gd_t, stp_e, up2_x]
  rw [hq, nI_1]
theorem fm_notes_0 {M : Mem} {k x1 x3 : Int32} (ho : M 0 14 = 0) : fm_notes k x1 x3 M = some ((), M) := by
  unfold fm_notes
  rw [ho, if_pos rfl]
theorem ev_0 {r : Nat → Int32} {j : Nat} {k x1 x2 x3 : Int32} : evRow r j k x1 x2 x3 (8 * j) = k ∧ evRow r j k x1 x2 x3 (8 * j + 1) = x1 ∧ evRow r j k x1 x2 x3 (8 * j + 2) = x2 ∧ evRow r j k x1 x2 x3 (8 * j + 3) = x3 := by
  unfold evRow
  refine ⟨by simp, ?_, ?_, ?_⟩
  · rw [if_neg (by omega), if_pos rfl]
  · rw [if_neg (by omega), if_neg (by omega), if_pos rfl]
  · rw [if_neg (by omega), if_neg (by omega), if_neg (by omega), if_pos rfl]
theorem ev_n {r : Nat → Int32} {j i : Nat} {k x1 x2 x3 : Int32} (h : ¬ i = j) : evRow r j k x1 x2 x3 (8 * i) = r (8 * i) ∧ evRow r j k x1 x2 x3 (8 * i + 1) = r (8 * i + 1) ∧ evRow r j k x1 x2 x3 (8 * i + 2) = r (8 * i + 2) ∧ evRow r j k x1 x2 x3 (8 * i + 3) = r (8 * i + 3) := by
  unfold evRow
  refine ⟨?_, ?_, ?_, ?_⟩ <;> rw [if_neg (by omega), if_neg (by omega), if_neg (by omega), if_neg (by omega)]
/-- an event more, on both sides -/
theorem evt_note {c s T E q m : Nat} {L : List Int32} {C0 M0 C M C' M' : Mem} {x1 x2 x3 : Int32} (h : rEvt c s T E L C0 M0 C M) (hq : c = 9 → C c 51 = nI q ∧ q < 2 ^ 30) (hE : E < 2 ^ 30) (hm : m ≤ 5) (a1 : c = 9 → C' c 51 = nI (q + 1)) (a2 : c = 9 → M' 0 11 = nI (q + 1)) (a3 : c = 9 → ∀ i, C' (c + 11) i = evRow (C (c + 11)) (q % 24) (nI m) x1 x2 x3 i) (a7 : c = 9 → ∀ j, M' 7 j = if j = q % 24 then nI m else M 7 j) (a8 : c = 9 → ∀ j, M' 8 j = if j = q % 24 then x1 else M 8 j) (a9 : c = 9 → ∀ j, M' 9 j = if j = q % 24 then x2 else M 9 j) (a10 : c = 9 → ∀ j, M' 10 j = if j = q % 24 then x3 else M 10 j) : rEvt c s T (E + 1) L C0 M0 C' M' := by
  intro z
  obtain ⟨q', h1, h2, h3, h4⟩ := h z
  have hqq : q' = q := by
    have := (hq z).1
    rw [h2] at this
    exact (nI_eq (by omega) (by have := (hq z).2; omega)).mp this
  subst hqq
  refine ⟨q' + 1, by omega, a1 z, a2 z, fun j hj hjq => ?_⟩
  rw [a3 z, a3 z, a3 z, a3 z, a7 z, a8 z, a9 z, a10 z]
  by_cases e : j = q' % 24
  · subst e
    obtain ⟨e0, e1, e2, e3⟩ := ev_0 (r := C (c + 11)) (j := q' % 24) (k := nI m) (x1 := x1) (x2 := x2) (x3 := x3)
    rw [e0, e1, e2, e3, if_pos rfl, if_pos rfl, if_pos rfl, if_pos rfl]
    exact ⟨⟨m, hm, rfl, rfl⟩, rfl, rfl, rfl⟩
  · obtain ⟨e0, e1, e2, e3⟩ := ev_n (r := C (c + 11)) (j := q' % 24) (i := j) (k := nI m) (x1 := x1) (x2 := x2) (x3 := x3) e
    rw [e0, e1, e2, e3, if_neg e, if_neg e, if_neg e, if_neg e]
    exact h4 j hj (by omega)
/-- the number of events -/
theorem top_told {c s T E : Nat} {L : List Int32} {C0 M0 C M : Mem} (h : Top c s T E L C0 M0 C M) (hE : E < 2 ^ 29) (z : c = 9) : ∃ q : Nat, q < 2 ^ 30 ∧ C c 51 = nI q ∧ M 0 11 = nI q := by
  obtain ⟨q, h1, h2, h3, -⟩ := h.evt z
  exact ⟨q, by omega, h2, h3⟩
/-! 'becomes' and 'pends', written out -/
theorem ne_nI {a b : Nat} (h : ¬ a = b) (ha : a < 2 ^ 31) (hb : b < 2 ^ 31) : ¬ nI a = nI b := fun z => h ((nI_eq ha hb).mp z)
theorem fc_becomes_f {c k : Nat} {C : Mem} (hk : k < 21) (p : C (c + 22 + k) 4 = 0) : fc_Core_becomes c (nI k) C = some (1, up2 (up2 C (c + 22 + k) 4 1) (c + 22 + k) 6 (C c 37)) := by
  unfold fc_Core_becomes fc_Core_becomes_29 fv_becomes fc_Src_becomes
  rw [inb_nI hk (by decide), gd_t, nI_clamp (show k < 2 ^ 31 by omega), if_pos p, stp_e, stp_e, bnd_s, if_neg (by decide), isB_1, gd_t]
theorem fc_becomes_m {c k : Nat} {C : Mem} (hk : k < 21) (p : C (c + 22 + k) 4 = 1) : fc_Core_becomes c (nI k) C = some (0, up2 C (c + 9) 9 (C (c + 9) 9 + 1)) := by
  unfold fc_Core_becomes fc_Core_becomes_29 fv_becomes fc_Src_becomes
  rw [inb_nI hk (by decide), gd_t, nI_clamp (show k < 2 ^ 31 by omega), if_neg (by rw [p]; decide), bnd_s, if_pos rfl, stp_e, isB_0, gd_t]
theorem fm_pends_f {s k : Nat} {M : Mem} (hk : k < 21) (p : M s (194 + k) = -1) : fm_pends s (nI k) M = some ((), up2 M s (194 + k) (M s 25)) := by
  unfold fm_pends fm_pends_30
  rw [l_194, inb_nI (show 194 + k < 342 by omega) (by decide), gd_t, gd_t, nI_clamp (show 194 + k < 2 ^ 31 by omega), p, if_pos (by decide), stp_e]
theorem fm_pends_m {s k q : Nat} {M : Mem} (hk : k < 21) (p : M s (194 + k) = nI q) (hq : q < 2 ^ 31) (ho : M 0 14 = 1) : fm_pends s (nI k) M = some ((), up2 M 6 9 (M 6 9 + 1)) := by
  unfold fm_pends fm_pends_30 fm_counts fm_counts_17
  rw [l_194, inb_nI (show 194 + k < 342 by omega) (by decide), gd_t, nI_clamp (show 194 + k < 2 ^ 31 by omega), p, if_neg (nI_pos hq), ho, if_neg (by decide), i17_9, gd_t, gd_t, cl_9, stp_e, bnd_s]
theorem fm_pends_0 {s k q : Nat} {M : Mem} (hk : k < 21) (p : M s (194 + k) = nI q) (hq : q < 2 ^ 31) (ho : M 0 14 = 0) : fm_pends s (nI k) M = some ((), M) := by
  unfold fm_pends fm_pends_30 fm_counts fm_counts_17
  rw [l_194, inb_nI (show 194 + k < 342 by omega) (by decide), gd_t, nI_clamp (show 194 + k < 2 ^ 31 by omega), p, if_neg (nI_pos hq), ho, if_pos rfl, bnd_s]
