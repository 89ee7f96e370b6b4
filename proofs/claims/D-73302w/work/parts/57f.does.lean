/-! INSTRUCTIONS: one of them is done -/
def flC (b c : Nat) (C : Mem) : Mem := if 20 ≤ b ∧ b ≤ 24 then up2 C c 45 1 else C
theorem sim_op {c s T E : Nat} {L : List Int32} {C0 M0 C M : Mem} {b x y : Nat} (hcs : cs c s) (h : Top c s T E L C0 M0 C M) (hm : Md c C M) (hT : T < 2 ^ 29) (hE : E < 2 ^ 28) (hph : C c 41 = 0) (hx : x < 256) (hy : y < 256) (hb1 : 1 ≤ b) (hb : b ≤ 29) (h43 : b = 18 → C c 43 = 0) (hO : ∃ q : Nat, q < T ∧ C c 50 = nI q) : (∃ f, (f = 18 ∨ f = 19) ∧ fv_o_does c (nI b) (nI x) (nI y) C = some (Sum.inr (nI f), C) ∧ (∀ Ma : Mem, (∀ j, ¬ j = 12 → ¬ j = 22 → Ma s j = M s j) → fm_faultOf s (nI b) (nI x) (nI y) Ma = some (nI f, Ma))) ∨ ((∀ Ma : Mem, (∀ j, ¬ j = 12 → ¬ j = 22 → Ma s j = M s j) → fm_faultOf s (nI b) (nI x) (nI y) Ma = some (-1, Ma)) ∧ ∃ C' M', fv_o_does c (nI b) (nI x) (nI y) C = some (Sum.inl (), C') ∧ effM s (nI b) (nI x) (nI y) (k10 c M) = some ((), k10 c M') ∧ Top c s T (E + 1) L C0 M0 (flC b c C') M' ∧ Md c (flC b c C') M' ∧ Bd c s (flC b c C') M' ∧ C' c 52 = C c 52) := by
  match b, hb1, hb with
  | 1, _, _ =>
    have e : fv_o_does c (nI 1) (nI x) (nI y) C = fc_Op1_does c (nI x) (nI y) C := by
      unfold fv_o_does
      rw [if_pos (show nI 1 = 1 from rfl)]
    rw [e]
    exact op_1 hcs h hm hT hE hph hx hy
  | 2, _, _ =>
    have e : fv_o_does c (nI 2) (nI x) (nI y) C = fc_Op2_does c (nI x) (nI y) C := by
      unfold fv_o_does
      rw [if_neg (show ¬ nI 2 = 1 by decide), if_pos (show nI 2 = 2 from rfl)]
    rw [e]
    exact op_2 hcs h hm hT hE hph hx hy
  | 3, _, _ =>
    have e : fv_o_does c (nI 3) (nI x) (nI y) C = fc_Op3_does c (nI x) (nI y) C := by
      unfold fv_o_does
      rw [if_neg (show ¬ nI 3 = 1 by decide), if_neg (show ¬ nI 3 = 2 by decide), if_pos (show nI 3 = 3 from rfl)]
    rw [e]
    exact op_3 hcs h hm hT hE hph hx hy
  | 4, _, _ =>
    have e : fv_o_does c (nI 4) (nI x) (nI y) C = fc_Op4_does c (nI x) (nI y) C := by
      unfold fv_o_does
      rw [if_neg (show ¬ nI 4 = 1 by decide), if_neg (show ¬ nI 4 = 2 by decide), if_neg (show ¬ nI 4 = 3 by decide), if_pos (show nI 4 = 4 from rfl)]
    rw [e]
    exact op_4 hcs h hm hT hE hph hx hy
  | 5, _, _ =>
    have e : fv_o_does c (nI 5) (nI x) (nI y) C = fc_Op5_does c (nI x) (nI y) C := by
      unfold fv_o_does
      rw [if_neg (show ¬ nI 5 = 1 by decide), if_neg (show ¬ nI 5 = 2 by decide), if_neg (show ¬ nI 5 = 3 by decide), if_neg (show ¬ nI 5 = 4 by decide), if_pos (show nI 5 = 5 from rfl)]
    rw [e]
    exact op_5 hcs h hm hT hE hph hx hy
  | 6, _, _ =>
    have e : fv_o_does c (nI 6) (nI x) (nI y) C = fc_Op6_does c (nI x) (nI y) C := by
      unfold fv_o_does
      rw [if_neg (show ¬ nI 6 = 1 by decide), if_neg (show ¬ nI 6 = 2 by decide), if_neg (show ¬ nI 6 = 3 by decide), if_neg (show ¬ nI 6 = 4 by decide), if_neg (show ¬ nI 6 = 5 by decide), if_pos (show nI 6 = 6 from rfl)]
    rw [e]
    exact op_6 hcs h hm hT hE hph hx hy
  | 7, _, _ =>
    have e : fv_o_does c (nI 7) (nI x) (nI y) C = fc_Op7_does c (nI x) (nI y) C := by
      unfold fv_o_does
      rw [if_neg (show ¬ nI 7 = 1 by decide), if_neg (show ¬ nI 7 = 2 by decide), if_neg (show ¬ nI 7 = 3 by decide), if_neg (show ¬ nI 7 = 4 by decide), if_neg (show ¬ nI 7 = 5 by decide), if_neg (show ¬ nI 7 = 6 by decide), if_pos (show nI 7 = 7 from rfl)]
    rw [e]
    exact op_7 hcs h hm hT hE hph hx hy
  | 8, _, _ =>
    have e : fv_o_does c (nI 8) (nI x) (nI y) C = fc_Op8_does c (nI x) (nI y) C := by
      unfold fv_o_does
      rw [if_neg (show ¬ nI 8 = 1 by decide), if_neg (show ¬ nI 8 = 2 by decide), if_neg (show ¬ nI 8 = 3 by decide), if_neg (show ¬ nI 8 = 4 by decide), if_neg (show ¬ nI 8 = 5 by decide), if_neg (show ¬ nI 8 = 6 by decide), if_neg (show ¬ nI 8 = 7 by decide), if_pos (show nI 8 = 8 from rfl)]
    rw [e]
    exact op_8 hcs h hm hT hE hph hx hy
  | 9, _, _ =>
    have e : fv_o_does c (nI 9) (nI x) (nI y) C = fc_Op9_does c (nI x) (nI y) C := by
      unfold fv_o_does
      rw [if_neg (show ¬ nI 9 = 1 by decide), if_neg (show ¬ nI 9 = 2 by decide), if_neg (show ¬ nI 9 = 3 by decide), if_neg (show ¬ nI 9 = 4 by decide), if_neg (show ¬ nI 9 = 5 by decide), if_neg (show ¬ nI 9 = 6 by decide), if_neg (show ¬ nI 9 = 7 by decide), if_neg (show ¬ nI 9 = 8 by decide), if_pos (show nI 9 = 9 from rfl)]
    rw [e]
    exact op_9 hcs h hm hT hE hph hx hy
  | 10, _, _ =>
    have e : fv_o_does c (nI 10) (nI x) (nI y) C = fc_Op10_does c (nI x) (nI y) C := by
      unfold fv_o_does
      rw [if_neg (show ¬ nI 10 = 1 by decide), if_neg (show ¬ nI 10 = 2 by decide), if_neg (show ¬ nI 10 = 3 by decide), if_neg (show ¬ nI 10 = 4 by decide), if_neg (show ¬ nI 10 = 5 by decide), if_neg (show ¬ nI 10 = 6 by decide), if_neg (show ¬ nI 10 = 7 by decide), if_neg (show ¬ nI 10 = 8 by decide), if_neg (show ¬ nI 10 = 9 by decide), if_pos (show nI 10 = 10 from rfl)]
    rw [e]
    exact op_10 hcs h hm hT hE hph hx hy
  | 11, _, _ =>
    have e : fv_o_does c (nI 11) (nI x) (nI y) C = fc_Op11_does c (nI x) (nI y) C := by
      unfold fv_o_does
      rw [if_neg (show ¬ nI 11 = 1 by decide), if_neg (show ¬ nI 11 = 2 by decide), if_neg (show ¬ nI 11 = 3 by decide), if_neg (show ¬ nI 11 = 4 by decide), if_neg (show ¬ nI 11 = 5 by decide), if_neg (show ¬ nI 11 = 6 by decide), if_neg (show ¬ nI 11 = 7 by decide), if_neg (show ¬ nI 11 = 8 by decide), if_neg (show ¬ nI 11 = 9 by decide), if_neg (show ¬ nI 11 = 10 by decide), if_pos (show nI 11 = 11 from rfl)]
    rw [e]
    exact op_11 hcs h hm hT hE hph hx hy
  | 12, _, _ =>
    have e : fv_o_does c (nI 12) (nI x) (nI y) C = fc_Op12_does c (nI x) (nI y) C := by
      unfold fv_o_does
      rw [if_neg (show ¬ nI 12 = 1 by decide), if_neg (show ¬ nI 12 = 2 by decide), if_neg (show ¬ nI 12 = 3 by decide), if_neg (show ¬ nI 12 = 4 by decide), if_neg (show ¬ nI 12 = 5 by decide), if_neg (show ¬ nI 12 = 6 by decide), if_neg (show ¬ nI 12 = 7 by decide), if_neg (show ¬ nI 12 = 8 by decide), if_neg (show ¬ nI 12 = 9 by decide), if_neg (show ¬ nI 12 = 10 by decide), if_neg (show ¬ nI 12 = 11 by decide), if_pos (show nI 12 = 12 from rfl)]
    rw [e]
    exact op_12 hcs h hm hT hE hph hx hy
  | 13, _, _ =>
    have e : fv_o_does c (nI 13) (nI x) (nI y) C = fc_Op13_does c (nI x) (nI y) C := by
      unfold fv_o_does
      rw [if_neg (show ¬ nI 13 = 1 by decide), if_neg (show ¬ nI 13 = 2 by decide), if_neg (show ¬ nI 13 = 3 by decide), if_neg (show ¬ nI 13 = 4 by decide), if_neg (show ¬ nI 13 = 5 by decide), if_neg (show ¬ nI 13 = 6 by decide), if_neg (show ¬ nI 13 = 7 by decide), if_neg (show ¬ nI 13 = 8 by decide), if_neg (show ¬ nI 13 = 9 by decide), if_neg (show ¬ nI 13 = 10 by decide), if_neg (show ¬ nI 13 = 11 by decide), if_neg (show ¬ nI 13 = 12 by decide), if_pos (show nI 13 = 13 from rfl)]
    rw [e]
    exact op_13 hcs h hm hT hE hph hx hy
  | 14, _, _ =>
    have e : fv_o_does c (nI 14) (nI x) (nI y) C = fc_Op14_does c (nI x) (nI y) C := by
      unfold fv_o_does
      rw [if_neg (show ¬ nI 14 = 1 by decide), if_neg (show ¬ nI 14 = 2 by decide), if_neg (show ¬ nI 14 = 3 by decide), if_neg (show ¬ nI 14 = 4 by decide), if_neg (show ¬ nI 14 = 5 by decide), if_neg (show ¬ nI 14 = 6 by decide), if_neg (show ¬ nI 14 = 7 by decide), if_neg (show ¬ nI 14 = 8 by decide), if_neg (show ¬ nI 14 = 9 by decide), if_neg (show ¬ nI 14 = 10 by decide), if_neg (show ¬ nI 14 = 11 by decide), if_neg (show ¬ nI 14 = 12 by decide), if_neg (show ¬ nI 14 = 13 by decide), if_pos (show nI 14 = 14 from rfl)]
    rw [e]
    exact op_14 hcs h hm hT hE hph hx hy
  | 15, _, _ =>
    have e : fv_o_does c (nI 15) (nI x) (nI y) C = fc_Op15_does c (nI x) (nI y) C := by
      unfold fv_o_does
      rw [if_neg (show ¬ nI 15 = 1 by decide), if_neg (show ¬ nI 15 = 2 by decide), if_neg (show ¬ nI 15 = 3 by decide), if_neg (show ¬ nI 15 = 4 by decide), if_neg (show ¬ nI 15 = 5 by decide), if_neg (show ¬ nI 15 = 6 by decide), if_neg (show ¬ nI 15 = 7 by decide), if_neg (show ¬ nI 15 = 8 by decide), if_neg (show ¬ nI 15 = 9 by decide), if_neg (show ¬ nI 15 = 10 by decide), if_neg (show ¬ nI 15 = 11 by decide), if_neg (show ¬ nI 15 = 12 by decide), if_neg (show ¬ nI 15 = 13 by decide), if_neg (show ¬ nI 15 = 14 by decide), if_pos (show nI 15 = 15 from rfl)]
    rw [e]
    exact op_15 hcs h hm hT hE hph hx hy
  | 16, _, _ =>
    have e : fv_o_does c (nI 16) (nI x) (nI y) C = fc_Op16_does c (nI x) (nI y) C := by
      unfold fv_o_does
      rw [if_neg (show ¬ nI 16 = 1 by decide), if_neg (show ¬ nI 16 = 2 by decide), if_neg (show ¬ nI 16 = 3 by decide), if_neg (show ¬ nI 16 = 4 by decide), if_neg (show ¬ nI 16 = 5 by decide), if_neg (show ¬ nI 16 = 6 by decide), if_neg (show ¬ nI 16 = 7 by decide), if_neg (show ¬ nI 16 = 8 by decide), if_neg (show ¬ nI 16 = 9 by decide), if_neg (show ¬ nI 16 = 10 by decide), if_neg (show ¬ nI 16 = 11 by decide), if_neg (show ¬ nI 16 = 12 by decide), if_neg (show ¬ nI 16 = 13 by decide), if_neg (show ¬ nI 16 = 14 by decide), if_neg (show ¬ nI 16 = 15 by decide), if_pos (show nI 16 = 16 from rfl)]
    rw [e]
    exact op_16 hcs h hm hT hE hph hx hy
  | 17, _, _ =>
    have e : fv_o_does c (nI 17) (nI x) (nI y) C = fc_Op17_does c (nI x) (nI y) C := by
      unfold fv_o_does
      rw [if_neg (show ¬ nI 17 = 1 by decide), if_neg (show ¬ nI 17 = 2 by decide), if_neg (show ¬ nI 17 = 3 by decide), if_neg (show ¬ nI 17 = 4 by decide), if_neg (show ¬ nI 17 = 5 by decide), if_neg (show ¬ nI 17 = 6 by decide), if_neg (show ¬ nI 17 = 7 by decide), if_neg (show ¬ nI 17 = 8 by decide), if_neg (show ¬ nI 17 = 9 by decide), if_neg (show ¬ nI 17 = 10 by decide), if_neg (show ¬ nI 17 = 11 by decide), if_neg (show ¬ nI 17 = 12 by decide), if_neg (show ¬ nI 17 = 13 by decide), if_neg (show ¬ nI 17 = 14 by decide), if_neg (show ¬ nI 17 = 15 by decide), if_neg (show ¬ nI 17 = 16 by decide), if_pos (show nI 17 = 17 from rfl)]
    rw [e]
    exact op_17 hcs h hm hT hE hph hx hy
  | 18, _, _ =>
    have e : fv_o_does c (nI 18) (nI x) (nI y) C = fc_Op18_does c (nI x) (nI y) C := by
      unfold fv_o_does
      rw [if_neg (show ¬ nI 18 = 1 by decide), if_neg (show ¬ nI 18 = 2 by decide), if_neg (show ¬ nI 18 = 3 by decide), if_neg (show ¬ nI 18 = 4 by decide), if_neg (show ¬ nI 18 = 5 by decide), if_neg (show ¬ nI 18 = 6 by decide), if_neg (show ¬ nI 18 = 7 by decide), if_neg (show ¬ nI 18 = 8 by decide), if_neg (show ¬ nI 18 = 9 by decide), if_neg (show ¬ nI 18 = 10 by decide), if_neg (show ¬ nI 18 = 11 by decide), if_neg (show ¬ nI 18 = 12 by decide), if_neg (show ¬ nI 18 = 13 by decide), if_neg (show ¬ nI 18 = 14 by decide), if_neg (show ¬ nI 18 = 15 by decide), if_neg (show ¬ nI 18 = 16 by decide), if_neg (show ¬ nI 18 = 17 by decide), if_pos (show nI 18 = 18 from rfl)]
    rw [e]
    exact op_18 hcs h hm hT hE hph hx hy (h43 rfl)
  | 19, _, _ =>
    have e : fv_o_does c (nI 19) (nI x) (nI y) C = fc_Op19_does c (nI x) (nI y) C := by
      unfold fv_o_does
      rw [if_neg (show ¬ nI 19 = 1 by decide), if_neg (show ¬ nI 19 = 2 by decide), if_neg (show ¬ nI 19 = 3 by decide), if_neg (show ¬ nI 19 = 4 by decide), if_neg (show ¬ nI 19 = 5 by decide), if_neg (show ¬ nI 19 = 6 by decide), if_neg (show ¬ nI 19 = 7 by decide), if_neg (show ¬ nI 19 = 8 by decide), if_neg (show ¬ nI 19 = 9 by decide), if_neg (show ¬ nI 19 = 10 by decide), if_neg (show ¬ nI 19 = 11 by decide), if_neg (show ¬ nI 19 = 12 by decide), if_neg (show ¬ nI 19 = 13 by decide), if_neg (show ¬ nI 19 = 14 by decide), if_neg (show ¬ nI 19 = 15 by decide), if_neg (show ¬ nI 19 = 16 by decide), if_neg (show ¬ nI 19 = 17 by decide), if_neg (show ¬ nI 19 = 18 by decide), if_pos (show nI 19 = 19 from rfl)]
    rw [e]
    exact op_19 hcs h hm hT hE hph hx hy
  | 20, _, _ =>
    have e : fv_o_does c (nI 20) (nI x) (nI y) C = fc_Op20_does c (nI x) (nI y) C := by
      unfold fv_o_does
      rw [if_neg (show ¬ nI 20 = 1 by decide), if_neg (show ¬ nI 20 = 2 by decide), if_neg (show ¬ nI 20 = 3 by decide), if_neg (show ¬ nI 20 = 4 by decide), if_neg (show ¬ nI 20 = 5 by decide), if_neg (show ¬ nI 20 = 6 by decide), if_neg (show ¬ nI 20 = 7 by decide), if_neg (show ¬ nI 20 = 8 by decide), if_neg (show ¬ nI 20 = 9 by decide), if_neg (show ¬ nI 20 = 10 by decide), if_neg (show ¬ nI 20 = 11 by decide), if_neg (show ¬ nI 20 = 12 by decide), if_neg (show ¬ nI 20 = 13 by decide), if_neg (show ¬ nI 20 = 14 by decide), if_neg (show ¬ nI 20 = 15 by decide), if_neg (show ¬ nI 20 = 16 by decide), if_neg (show ¬ nI 20 = 17 by decide), if_neg (show ¬ nI 20 = 18 by decide), if_neg (show ¬ nI 20 = 19 by decide), if_pos (show nI 20 = 20 from rfl)]
    rw [e]
    exact op_20 hcs h hm hT hE hph hx hy
  | 21, _, _ =>
    have e : fv_o_does c (nI 21) (nI x) (nI y) C = fc_Op21_does c (nI x) (nI y) C := by
      unfold fv_o_does
      rw [if_neg (show ¬ nI 21 = 1 by decide), if_neg (show ¬ nI 21 = 2 by decide), if_neg (show ¬ nI 21 = 3 by decide), if_neg (show ¬ nI 21 = 4 by decide), if_neg (show ¬ nI 21 = 5 by decide), if_neg (show ¬ nI 21 = 6 by decide), if_neg (show ¬ nI 21 = 7 by decide), if_neg (show ¬ nI 21 = 8 by decide), if_neg (show ¬ nI 21 = 9 by decide), if_neg (show ¬ nI 21 = 10 by decide), if_neg (show ¬ nI 21 = 11 by decide), if_neg (show ¬ nI 21 = 12 by decide), if_neg (show ¬ nI 21 = 13 by decide), if_neg (show ¬ nI 21 = 14 by decide), if_neg (show ¬ nI 21 = 15 by decide), if_neg (show ¬ nI 21 = 16 by decide), if_neg (show ¬ nI 21 = 17 by decide), if_neg (show ¬ nI 21 = 18 by decide), if_neg (show ¬ nI 21 = 19 by decide), if_neg (show ¬ nI 21 = 20 by decide), if_pos (show nI 21 = 21 from rfl)]
    rw [e]
    exact op_21 hcs h hm hT hE hph hx hy
  | 22, _, _ =>
    have e : fv_o_does c (nI 22) (nI x) (nI y) C = fc_Op22_does c (nI x) (nI y) C := by
      unfold fv_o_does
      rw [if_neg (show ¬ nI 22 = 1 by decide), if_neg (show ¬ nI 22 = 2 by decide), if_neg (show ¬ nI 22 = 3 by decide), if_neg (show ¬ nI 22 = 4 by decide), if_neg (show ¬ nI 22 = 5 by decide), if_neg (show ¬ nI 22 = 6 by decide), if_neg (show ¬ nI 22 = 7 by decide), if_neg (show ¬ nI 22 = 8 by decide), if_neg (show ¬ nI 22 = 9 by decide), if_neg (show ¬ nI 22 = 10 by decide), if_neg (show ¬ nI 22 = 11 by decide), if_neg (show ¬ nI 22 = 12 by decide), if_neg (show ¬ nI 22 = 13 by decide), if_neg (show ¬ nI 22 = 14 by decide), if_neg (show ¬ nI 22 = 15 by decide), if_neg (show ¬ nI 22 = 16 by decide), if_neg (show ¬ nI 22 = 17 by decide), if_neg (show ¬ nI 22 = 18 by decide), if_neg (show ¬ nI 22 = 19 by decide), if_neg (show ¬ nI 22 = 20 by decide), if_neg (show ¬ nI 22 = 21 by decide), if_pos (show nI 22 = 22 from rfl)]
    rw [e]
    exact op_22 hcs h hm hT hE hph hx hy
  | 23, _, _ =>
    have e : fv_o_does c (nI 23) (nI x) (nI y) C = fc_Op23_does c (nI x) (nI y) C := by
      unfold fv_o_does
      rw [if_neg (show ¬ nI 23 = 1 by decide), if_neg (show ¬ nI 23 = 2 by decide), if_neg (show ¬ nI 23 = 3 by decide), if_neg (show ¬ nI 23 = 4 by decide), if_neg (show ¬ nI 23 = 5 by decide), if_neg (show ¬ nI 23 = 6 by decide), if_neg (show ¬ nI 23 = 7 by decide), if_neg (show ¬ nI 23 = 8 by decide), if_neg (show ¬ nI 23 = 9 by decide), if_neg (show ¬ nI 23 = 10 by decide), if_neg (show ¬ nI 23 = 11 by decide), if_neg (show ¬ nI 23 = 12 by decide), if_neg (show ¬ nI 23 = 13 by decide), if_neg (show ¬ nI 23 = 14 by decide), if_neg (show ¬ nI 23 = 15 by decide), if_neg (show ¬ nI 23 = 16 by decide), if_neg (show ¬ nI 23 = 17 by decide), if_neg (show ¬ nI 23 = 18 by decide), if_neg (show ¬ nI 23 = 19 by decide), if_neg (show ¬ nI 23 = 20 by decide), if_neg (show ¬ nI 23 = 21 by decide), if_neg (show ¬ nI 23 = 22 by decide), if_pos (show nI 23 = 23 from rfl)]
    rw [e]
    exact op_23 hcs h hm hT hE hph hx hy
  | 24, _, _ =>
    have e : fv_o_does c (nI 24) (nI x) (nI y) C = fc_Op24_does c (nI x) (nI y) C := by
      unfold fv_o_does
      rw [if_neg (show ¬ nI 24 = 1 by decide), if_neg (show ¬ nI 24 = 2 by decide), if_neg (show ¬ nI 24 = 3 by decide), if_neg (show ¬ nI 24 = 4 by decide), if_neg (show ¬ nI 24 = 5 by decide), if_neg (show ¬ nI 24 = 6 by decide), if_neg (show ¬ nI 24 = 7 by decide), if_neg (show ¬ nI 24 = 8 by decide), if_neg (show ¬ nI 24 = 9 by decide), if_neg (show ¬ nI 24 = 10 by decide), if_neg (show ¬ nI 24 = 11 by decide), if_neg (show ¬ nI 24 = 12 by decide), if_neg (show ¬ nI 24 = 13 by decide), if_neg (show ¬ nI 24 = 14 by decide), if_neg (show ¬ nI 24 = 15 by decide), if_neg (show ¬ nI 24 = 16 by decide), if_neg (show ¬ nI 24 = 17 by decide), if_neg (show ¬ nI 24 = 18 by decide), if_neg (show ¬ nI 24 = 19 by decide), if_neg (show ¬ nI 24 = 20 by decide), if_neg (show ¬ nI 24 = 21 by decide), if_neg (show ¬ nI 24 = 22 by decide), if_neg (show ¬ nI 24 = 23 by decide), if_pos (show nI 24 = 24 from rfl)]
    rw [e]
    exact op_24 hcs h hm hT hE hph hx hy
  | 25, _, _ =>
    have e : fv_o_does c (nI 25) (nI x) (nI y) C = fc_Op25_does c (nI x) (nI y) C := by
      unfold fv_o_does
      rw [if_neg (show ¬ nI 25 = 1 by decide), if_neg (show ¬ nI 25 = 2 by decide), if_neg (show ¬ nI 25 = 3 by decide), if_neg (show ¬ nI 25 = 4 by decide), if_neg (show ¬ nI 25 = 5 by decide), if_neg (show ¬ nI 25 = 6 by decide), if_neg (show ¬ nI 25 = 7 by decide), if_neg (show ¬ nI 25 = 8 by decide), if_neg (show ¬ nI 25 = 9 by decide), if_neg (show ¬ nI 25 = 10 by decide), if_neg (show ¬ nI 25 = 11 by decide), if_neg (show ¬ nI 25 = 12 by decide), if_neg (show ¬ nI 25 = 13 by decide), if_neg (show ¬ nI 25 = 14 by decide), if_neg (show ¬ nI 25 = 15 by decide), if_neg (show ¬ nI 25 = 16 by decide), if_neg (show ¬ nI 25 = 17 by decide), if_neg (show ¬ nI 25 = 18 by decide), if_neg (show ¬ nI 25 = 19 by decide), if_neg (show ¬ nI 25 = 20 by decide), if_neg (show ¬ nI 25 = 21 by decide), if_neg (show ¬ nI 25 = 22 by decide), if_neg (show ¬ nI 25 = 23 by decide), if_neg (show ¬ nI 25 = 24 by decide), if_pos (show nI 25 = 25 from rfl)]
    rw [e]
    exact op_25 hcs h hm hT hE hph hx hy
  | 26, _, _ =>
    have e : fv_o_does c (nI 26) (nI x) (nI y) C = fc_Op26_does c (nI x) (nI y) C := by
      unfold fv_o_does
      rw [if_neg (show ¬ nI 26 = 1 by decide), if_neg (show ¬ nI 26 = 2 by decide), if_neg (show ¬ nI 26 = 3 by decide), if_neg (show ¬ nI 26 = 4 by decide), if_neg (show ¬ nI 26 = 5 by decide), if_neg (show ¬ nI 26 = 6 by decide), if_neg (show ¬ nI 26 = 7 by decide), if_neg (show ¬ nI 26 = 8 by decide), if_neg (show ¬ nI 26 = 9 by decide), if_neg (show ¬ nI 26 = 10 by decide), if_neg (show ¬ nI 26 = 11 by decide), if_neg (show ¬ nI 26 = 12 by decide), if_neg (show ¬ nI 26 = 13 by decide), if_neg (show ¬ nI 26 = 14 by decide), if_neg (show ¬ nI 26 = 15 by decide), if_neg (show ¬ nI 26 = 16 by decide), if_neg (show ¬ nI 26 = 17 by decide), if_neg (show ¬ nI 26 = 18 by decide), if_neg (show ¬ nI 26 = 19 by decide), if_neg (show ¬ nI 26 = 20 by decide), if_neg (show ¬ nI 26 = 21 by decide), if_neg (show ¬ nI 26 = 22 by decide), if_neg (show ¬ nI 26 = 23 by decide), if_neg (show ¬ nI 26 = 24 by decide), if_neg (show ¬ nI 26 = 25 by decide), if_pos (show nI 26 = 26 from rfl)]
    rw [e]
    exact op_26 hcs h hm hT hE hph hx hy
  | 27, _, _ =>
    have e : fv_o_does c (nI 27) (nI x) (nI y) C = fc_Op27_does c (nI x) (nI y) C := by
      unfold fv_o_does
      rw [if_neg (show ¬ nI 27 = 1 by decide), if_neg (show ¬ nI 27 = 2 by decide), if_neg (show ¬ nI 27 = 3 by decide), if_neg (show ¬ nI 27 = 4 by decide), if_neg (show ¬ nI 27 = 5 by decide), if_neg (show ¬ nI 27 = 6 by decide), if_neg (show ¬ nI 27 = 7 by decide), if_neg (show ¬ nI 27 = 8 by decide), if_neg (show ¬ nI 27 = 9 by decide), if_neg (show ¬ nI 27 = 10 by decide), if_neg (show ¬ nI 27 = 11 by decide), if_neg (show ¬ nI 27 = 12 by decide), if_neg (show ¬ nI 27 = 13 by decide), if_neg (show ¬ nI 27 = 14 by decide), if_neg (show ¬ nI 27 = 15 by decide), if_neg (show ¬ nI 27 = 16 by decide), if_neg (show ¬ nI 27 = 17 by decide), if_neg (show ¬ nI 27 = 18 by decide), if_neg (show ¬ nI 27 = 19 by decide), if_neg (show ¬ nI 27 = 20 by decide), if_neg (show ¬ nI 27 = 21 by decide), if_neg (show ¬ nI 27 = 22 by decide), if_neg (show ¬ nI 27 = 23 by decide), if_neg (show ¬ nI 27 = 24 by decide), if_neg (show ¬ nI 27 = 25 by decide), if_neg (show ¬ nI 27 = 26 by decide), if_pos (show nI 27 = 27 from rfl)]
    rw [e]
    exact op_27 hcs h hm hT hE hph hx hy hO
  | 28, _, _ =>
    have e : fv_o_does c (nI 28) (nI x) (nI y) C = fc_Op28_does c (nI x) (nI y) C := by
      unfold fv_o_does
      rw [if_neg (show ¬ nI 28 = 1 by decide), if_neg (show ¬ nI 28 = 2 by decide), if_neg (show ¬ nI 28 = 3 by decide), if_neg (show ¬ nI 28 = 4 by decide), if_neg (show ¬ nI 28 = 5 by decide), if_neg (show ¬ nI 28 = 6 by decide), if_neg (show ¬ nI 28 = 7 by decide), if_neg (show ¬ nI 28 = 8 by decide), if_neg (show ¬ nI 28 = 9 by decide), if_neg (show ¬ nI 28 = 10 by decide), if_neg (show ¬ nI 28 = 11 by decide), if_neg (show ¬ nI 28 = 12 by decide), if_neg (show ¬ nI 28 = 13 by decide), if_neg (show ¬ nI 28 = 14 by decide), if_neg (show ¬ nI 28 = 15 by decide), if_neg (show ¬ nI 28 = 16 by decide), if_neg (show ¬ nI 28 = 17 by decide), if_neg (show ¬ nI 28 = 18 by decide), if_neg (show ¬ nI 28 = 19 by decide), if_neg (show ¬ nI 28 = 20 by decide), if_neg (show ¬ nI 28 = 21 by decide), if_neg (show ¬ nI 28 = 22 by decide), if_neg (show ¬ nI 28 = 23 by decide), if_neg (show ¬ nI 28 = 24 by decide), if_neg (show ¬ nI 28 = 25 by decide), if_neg (show ¬ nI 28 = 26 by decide), if_neg (show ¬ nI 28 = 27 by decide), if_pos (show nI 28 = 28 from rfl)]
    rw [e]
    exact op_28 hcs h hm hT hE hph hx hy
  | 29, _, _ =>
    have e : fv_o_does c (nI 29) (nI x) (nI y) C = fc_Op29_does c (nI x) (nI y) C := by
      unfold fv_o_does
      rw [if_neg (show ¬ nI 29 = 1 by decide), if_neg (show ¬ nI 29 = 2 by decide), if_neg (show ¬ nI 29 = 3 by decide), if_neg (show ¬ nI 29 = 4 by decide), if_neg (show ¬ nI 29 = 5 by decide), if_neg (show ¬ nI 29 = 6 by decide), if_neg (show ¬ nI 29 = 7 by decide), if_neg (show ¬ nI 29 = 8 by decide), if_neg (show ¬ nI 29 = 9 by decide), if_neg (show ¬ nI 29 = 10 by decide), if_neg (show ¬ nI 29 = 11 by decide), if_neg (show ¬ nI 29 = 12 by decide), if_neg (show ¬ nI 29 = 13 by decide), if_neg (show ¬ nI 29 = 14 by decide), if_neg (show ¬ nI 29 = 15 by decide), if_neg (show ¬ nI 29 = 16 by decide), if_neg (show ¬ nI 29 = 17 by decide), if_neg (show ¬ nI 29 = 18 by decide), if_neg (show ¬ nI 29 = 19 by decide), if_neg (show ¬ nI 29 = 20 by decide), if_neg (show ¬ nI 29 = 21 by decide), if_neg (show ¬ nI 29 = 22 by decide), if_neg (show ¬ nI 29 = 23 by decide), if_neg (show ¬ nI 29 = 24 by decide), if_neg (show ¬ nI 29 = 25 by decide), if_neg (show ¬ nI 29 = 26 by decide), if_neg (show ¬ nI 29 = 27 by decide), if_neg (show ¬ nI 29 = 28 by decide)]
    rw [e]
    exact op_29 hcs h hm hT hE hph hx hy
  | 0, h1, _ => omega
  | b + 30, _, h2 => omega
theorem isF_v {b : Nat} {C : Mem} (h1 : 1 ≤ b) (h2 : b ≤ 29) : fv_o_isFloat (nI b) C = some (bI (decide (20 ≤ b ∧ b ≤ 24)), C) := by
  unfold fv_o_isFloat
  match b, h1, h2 with
  | 1, _, _ => rw [if_neg (show ¬ nI 1 = 20 by decide), if_neg (show ¬ nI 1 = 21 by decide), if_neg (show ¬ nI 1 = 22 by decide), if_neg (show ¬ nI 1 = 23 by decide), if_neg (show ¬ nI 1 = 24 by decide)]; rfl
  | 2, _, _ => rw [if_neg (show ¬ nI 2 = 20 by decide), if_neg (show ¬ nI 2 = 21 by decide), if_neg (show ¬ nI 2 = 22 by decide), if_neg (show ¬ nI 2 = 23 by decide), if_neg (show ¬ nI 2 = 24 by decide)]; rfl
  | 3, _, _ => rw [if_neg (show ¬ nI 3 = 20 by decide), if_neg (show ¬ nI 3 = 21 by decide), if_neg (show ¬ nI 3 = 22 by decide), if_neg (show ¬ nI 3 = 23 by decide), if_neg (show ¬ nI 3 = 24 by decide)]; rfl
  | 4, _, _ => rw [if_neg (show ¬ nI 4 = 20 by decide), if_neg (show ¬ nI 4 = 21 by decide), if_neg (show ¬ nI 4 = 22 by decide), if_neg (show ¬ nI 4 = 23 by decide), if_neg (show ¬ nI 4 = 24 by decide)]; rfl
  | 5, _, _ => rw [if_neg (show ¬ nI 5 = 20 by decide), if_neg (show ¬ nI 5 = 21 by decide), if_neg (show ¬ nI 5 = 22 by decide), if_neg (show ¬ nI 5 = 23 by decide), if_neg (show ¬ nI 5 = 24 by decide)]; rfl
  | 6, _, _ => rw [if_neg (show ¬ nI 6 = 20 by decide), if_neg (show ¬ nI 6 = 21 by decide), if_neg (show ¬ nI 6 = 22 by decide), if_neg (show ¬ nI 6 = 23 by decide), if_neg (show ¬ nI 6 = 24 by decide)]; rfl
  | 7, _, _ => rw [if_neg (show ¬ nI 7 = 20 by decide), if_neg (show ¬ nI 7 = 21 by decide), if_neg (show ¬ nI 7 = 22 by decide), if_neg (show ¬ nI 7 = 23 by decide), if_neg (show ¬ nI 7 = 24 by decide)]; rfl
  | 8, _, _ => rw [if_neg (show ¬ nI 8 = 20 by decide), if_neg (show ¬ nI 8 = 21 by decide), if_neg (show ¬ nI 8 = 22 by decide), if_neg (show ¬ nI 8 = 23 by decide), if_neg (show ¬ nI 8 = 24 by decide)]; rfl
  | 9, _, _ => rw [if_neg (show ¬ nI 9 = 20 by decide), if_neg (show ¬ nI 9 = 21 by decide), if_neg (show ¬ nI 9 = 22 by decide), if_neg (show ¬ nI 9 = 23 by decide), if_neg (show ¬ nI 9 = 24 by decide)]; rfl
  | 10, _, _ => rw [if_neg (show ¬ nI 10 = 20 by decide), if_neg (show ¬ nI 10 = 21 by decide), if_neg (show ¬ nI 10 = 22 by decide), if_neg (show ¬ nI 10 = 23 by decide), if_neg (show ¬ nI 10 = 24 by decide)]; rfl
  | 11, _, _ => rw [if_neg (show ¬ nI 11 = 20 by decide), if_neg (show ¬ nI 11 = 21 by decide), if_neg (show ¬ nI 11 = 22 by decide), if_neg (show ¬ nI 11 = 23 by decide), if_neg (show ¬ nI 11 = 24 by decide)]; rfl
  | 12, _, _ => rw [if_neg (show ¬ nI 12 = 20 by decide), if_neg (show ¬ nI 12 = 21 by decide), if_neg (show ¬ nI 12 = 22 by decide), if_neg (show ¬ nI 12 = 23 by decide), if_neg (show ¬ nI 12 = 24 by decide)]; rfl
  | 13, _, _ => rw [if_neg (show ¬ nI 13 = 20 by decide), if_neg (show ¬ nI 13 = 21 by decide), if_neg (show ¬ nI 13 = 22 by decide), if_neg (show ¬ nI 13 = 23 by decide), if_neg (show ¬ nI 13 = 24 by decide)]; rfl
  | 14, _, _ => rw [if_neg (show ¬ nI 14 = 20 by decide), if_neg (show ¬ nI 14 = 21 by decide), if_neg (show ¬ nI 14 = 22 by decide), if_neg (show ¬ nI 14 = 23 by decide), if_neg (show ¬ nI 14 = 24 by decide)]; rfl
  | 15, _, _ => rw [if_neg (show ¬ nI 15 = 20 by decide), if_neg (show ¬ nI 15 = 21 by decide), if_neg (show ¬ nI 15 = 22 by decide), if_neg (show ¬ nI 15 = 23 by decide), if_neg (show ¬ nI 15 = 24 by decide)]; rfl
  | 16, _, _ => rw [if_neg (show ¬ nI 16 = 20 by decide), if_neg (show ¬ nI 16 = 21 by decide), if_neg (show ¬ nI 16 = 22 by decide), if_neg (show ¬ nI 16 = 23 by decide), if_neg (show ¬ nI 16 = 24 by decide)]; rfl
  | 17, _, _ => rw [if_neg (show ¬ nI 17 = 20 by decide), if_neg (show ¬ nI 17 = 21 by decide), if_neg (show ¬ nI 17 = 22 by decide), if_neg (show ¬ nI 17 = 23 by decide), if_neg (show ¬ nI 17 = 24 by decide)]; rfl
  | 18, _, _ => rw [if_neg (show ¬ nI 18 = 20 by decide), if_neg (show ¬ nI 18 = 21 by decide), if_neg (show ¬ nI 18 = 22 by decide), if_neg (show ¬ nI 18 = 23 by decide), if_neg (show ¬ nI 18 = 24 by decide)]; rfl
  | 19, _, _ => rw [if_neg (show ¬ nI 19 = 20 by decide), if_neg (show ¬ nI 19 = 21 by decide), if_neg (show ¬ nI 19 = 22 by decide), if_neg (show ¬ nI 19 = 23 by decide), if_neg (show ¬ nI 19 = 24 by decide)]; rfl
  | 20, _, _ => rw [if_pos (show nI 20 = 20 from rfl)]; rfl
  | 21, _, _ => rw [if_neg (show ¬ nI 21 = 20 by decide), if_pos (show nI 21 = 21 from rfl)]; rfl
  | 22, _, _ => rw [if_neg (show ¬ nI 22 = 20 by decide), if_neg (show ¬ nI 22 = 21 by decide), if_pos (show nI 22 = 22 from rfl)]; rfl
  | 23, _, _ => rw [if_neg (show ¬ nI 23 = 20 by decide), if_neg (show ¬ nI 23 = 21 by decide), if_neg (show ¬ nI 23 = 22 by decide), if_pos (show nI 23 = 23 from rfl)]; rfl
  | 24, _, _ => rw [if_neg (show ¬ nI 24 = 20 by decide), if_neg (show ¬ nI 24 = 21 by decide), if_neg (show ¬ nI 24 = 22 by decide), if_neg (show ¬ nI 24 = 23 by decide), if_pos (show nI 24 = 24 from rfl)]; rfl
  | 25, _, _ => rw [if_neg (show ¬ nI 25 = 20 by decide), if_neg (show ¬ nI 25 = 21 by decide), if_neg (show ¬ nI 25 = 22 by decide), if_neg (show ¬ nI 25 = 23 by decide), if_neg (show ¬ nI 25 = 24 by decide)]; rfl
  | 26, _, _ => rw [if_neg (show ¬ nI 26 = 20 by decide), if_neg (show ¬ nI 26 = 21 by decide), if_neg (show ¬ nI 26 = 22 by decide), if_neg (show ¬ nI 26 = 23 by decide), if_neg (show ¬ nI 26 = 24 by decide)]; rfl
  | 27, _, _ => rw [if_neg (show ¬ nI 27 = 20 by decide), if_neg (show ¬ nI 27 = 21 by decide), if_neg (show ¬ nI 27 = 22 by decide), if_neg (show ¬ nI 27 = 23 by decide), if_neg (show ¬ nI 27 = 24 by decide)]; rfl
  | 28, _, _ => rw [if_neg (show ¬ nI 28 = 20 by decide), if_neg (show ¬ nI 28 = 21 by decide), if_neg (show ¬ nI 28 = 22 by decide), if_neg (show ¬ nI 28 = 23 by decide), if_neg (show ¬ nI 28 = 24 by decide)]; rfl
  | 29, _, _ => rw [if_neg (show ¬ nI 29 = 20 by decide), if_neg (show ¬ nI 29 = 21 by decide), if_neg (show ¬ nI 29 = 22 by decide), if_neg (show ¬ nI 29 = 23 by decide), if_neg (show ¬ nI 29 = 24 by decide)]; rfl
  | 0, h1, _ => omega
  | b + 30, _, h2 => omega
theorem tk_ok : ∀ b : Fin 30, 1 ≤ b.val → ∃ t : Fin 4, opY.getD (b.val - 1) 0 - 1 = nI t.val ∧ mTakes b.val - 1 = nI t.val ∧ (b.val = 18 → t.val = 0) := by decide +kernel
theorem ln_ok : ∀ b : Fin 30, 1 ≤ b.val → ∃ t : Fin 4, opL.getD (b.val - 1) 0 = nI t.val ∧ mLong b.val = nI t.val := by decide +kernel
theorem code_at {c s T E : Nat} {L : List Int32} {C0 M0 C M : Mem} (h : Top c s T E L C0 M0 C M) {a : Nat} (ha : a < 2 ^ 31) : ∃ b : Nat, b < 256 ∧ fc_Code_at (nI a) C = some (nI b, C) ∧ M 1 (a % 512) = nI b := by
  obtain ⟨b, hb, c1, c2⟩ := h.cod (a % 512) (Nat.mod_lt _ (by decide))
  refine ⟨b, hb, ?_, c1⟩
  unfold fc_Code_at
  rw [and511 (by omega), inb_nI (show a % 512 < 512 from Nat.mod_lt _ (by decide)) (by decide), gd_t, nI_clamp (by omega), c2]
theorem code_op {a b : Nat} {C : Mem} (hb : b < 256) (h : fc_Code_at (nI a) C = some (nI b, C)) : fc_Code_op (nI a) C = some (if 1 ≤ b ∧ b ≤ 29 then nI b else 0, C) := by
  unfold fc_Code_op fc_Code_op_31 fc_Code_op_32
  rw [h, bnd_s]
  by_cases h1 : 1 ≤ b
  · rw [if_neg (show ¬ nI b < 1 from nI_nlt (b := 1) h1 (by omega))]
    by_cases h2 : b ≤ 29
    · rw [if_neg (show ¬ (29 : Int32) < nI b from nI_nlt (a := 29) h2 (by decide)), if_pos ⟨h1, h2⟩, s_1 h1, inb_nI (show b - 1 < 29 by omega) (by decide), gd_t, nI_1, Nat.sub_add_cancel h1]
    · rw [if_pos (show (29 : Int32) < nI b from nI_lt (a := 29) (by omega) (by omega)), if_neg (fun z => h2 z.2)]
  · rw [if_pos (show nI b < 1 from nI_lt (b := 1) (by omega) (by decide)), if_neg (fun z => h1 z.1)]
set_option maxHeartbeats 4000000 in
theorem top_turn4 {c s T E : Nat} {L : List Int32} {C0 M0 C M : Mem} (hcs : cs c s) (h : Top c s T E L C0 M0 C M) (hm : Md c C M) (h0 : C c 43 = 0) (hlz : ¬ C c 46 = -1) : Top c s T E L C0 M0 (up2 (up2 (up2 C c 41 (nI 4)) c 42 0) c 24 (nI 4)) (up2 (up2 M s 20 4) s 21 0) ∧ Md c (up2 (up2 (up2 C c 41 (nI 4)) c 42 0) c 24 (nI 4)) (up2 (up2 M s 20 4) s 21 0) := by
  refine ⟨?_, ?_⟩
  · refine ⟨⟨?_, ?_, ?_, ?_, ?_, ?_, ?_, ?_, ?_, ?_, ?_, ?_, ?_, ?_, ?_, ?_, ?_, ?_, ?_, ?_, ?_, ?_, ?_, ?_, ?_, ?_, ?_, ?_, ?_, ?_, ?_, ?_, ?_⟩, ⟨?_, ?_, ?_, ?_, ?_⟩⟩
    · exact rReg_fr h.reg (by intros; first | rfl | (simp (disch := omega) only [up2_x, upr_x])) (by intros; first | rfl | (simp (disch := omega) only [up2_x, upr_x]))
    · exact rDat_fr h.dat (by intros; first | rfl | (simp (disch := omega) only [up2_x, upr_x])) (by intros; first | rfl | (simp (disch := omega) only [up2_x, upr_x]))
    · exact rStk_fr h.stk (by intros; first | rfl | (simp (disch := omega) only [up2_x, upr_x])) (by intros; first | rfl | (simp (disch := omega) only [up2_x, upr_x]))
    · exact rFlt_fr h.flt (by intros; first | rfl | (simp (disch := omega) only [up2_x, upr_x])) (by intros; first | rfl | (simp (disch := omega) only [up2_x, upr_x]))
    · exact rZn_fr h.zn (by intros; first | rfl | (simp (disch := omega) only [up2_x, upr_x])) (by intros; first | rfl | (simp (disch := omega) only [up2_x, upr_x]))
    · exact rPc_fr h.pc (by intros; first | rfl | (simp (disch := omega) only [up2_x, upr_x])) (by intros; first | rfl | (simp (disch := omega) only [up2_x, upr_x]))
    · exact rSp_fr h.sp (by intros; first | rfl | (simp (disch := omega) only [up2_x, upr_x])) (by intros; first | rfl | (simp (disch := omega) only [up2_x, upr_x]))
    · exact rShu_fr h.shu (by intros; first | rfl | (simp (disch := omega) only [up2_x, upr_x])) (by intros; first | rfl | (simp (disch := omega) only [up2_x, upr_x]))
    · exact rBas_fr h.bas (by intros; first | rfl | (simp (disch := omega) only [up2_x, upr_x])) (by intros; first | rfl | (simp (disch := omega) only [up2_x, upr_x]))
    · exact rFls_fr h.fls (by intros; first | rfl | (simp (disch := omega) only [up2_x, upr_x])) (by intros; first | rfl | (simp (disch := omega) only [up2_x, upr_x]))
    · exact rLaz_fr h.laz (by intros; first | rfl | (simp (disch := omega) only [up2_x, upr_x])) (by intros; first | rfl | (simp (disch := omega) only [up2_x, upr_x]))
    · refine ⟨⟨4, by omega, ?_, ?_⟩, ?_⟩
      · simp (disch := omega) only [up2_x, up2_e, upr_x]
      · simp (disch := omega) only [up2_x, up2_e, upr_x]; try rfl
      · simp (disch := omega) only [up2_x, up2_e, upr_x]
    · unfold rStp
      simp (disch := omega) only [up2_x, up2_e, upr_x]
    · obtain ⟨p0, hp0, f1, f2⟩ := h.stl.1
      refine ⟨⟨p0, hp0, ?_, ?_⟩, fun _ => ?_⟩
      · simp (disch := omega) only [up2_x, up2_e, upr_x]; exact f1
      · simp (disch := omega) only [up2_x, up2_e, upr_x]; exact f2
      · simp (disch := omega) only [up2_x, up2_e, upr_x]; exact h0
    · exact rAsl_fr h.asl (by intros; first | rfl | (simp (disch := omega) only [up2_x, upr_x])) (by intros; first | rfl | (simp (disch := omega) only [up2_x, upr_x]))
    · exact rClk_fr h.clk (by intros; first | rfl | (simp (disch := omega) only [up2_x, upr_x])) (by intros; first | rfl | (simp (disch := omega) only [up2_x, upr_x]))
    · exact rPer_fr h.per (by intros; first | rfl | (simp (disch := omega) only [up2_x, upr_x])) (by intros; first | rfl | (simp (disch := omega) only [up2_x, upr_x]))
    · exact rTim_fr h.tim (by intros; first | rfl | (simp (disch := omega) only [up2_x, upr_x])) (by intros; first | rfl | (simp (disch := omega) only [up2_x, upr_x]))
    · exact rNst_fr h.nst (by intros; first | rfl | (simp (disch := omega) only [up2_x, upr_x])) (by intros; first | rfl | (simp (disch := omega) only [up2_x, upr_x])) (by intros; first | rfl | (simp (disch := omega) only [up2_x, upr_x])) (by intros; first | rfl | (simp (disch := omega) only [up2_x, upr_x])) (by intros; first | rfl | (simp (disch := omega) only [up2_x, upr_x])) (by intros; first | rfl | (simp (disch := omega) only [up2_x, upr_x]))
    · exact rDue_fr h.due (by intros; first | rfl | (simp (disch := omega) only [up2_x, upr_x])) (by intros; first | rfl | (simp (disch := omega) only [up2_x, upr_x])) (by intros; first | rfl | (simp (disch := omega) only [up2_x, upr_x])) (by intros; first | rfl | (simp (disch := omega) only [up2_x, upr_x])) (by intros; first | rfl | (simp (disch := omega) only [up2_x, upr_x]))
    · exact rRnk_fr h.rnk (by intros; first | rfl | (simp (disch := omega) only [up2_x, upr_x])) (by intros; first | rfl | (simp (disch := omega) only [up2_x, upr_x]))
    · exact rVec_fr h.vec (by intros; first | rfl | (simp (disch := omega) only [up2_x, upr_x])) (by intros; first | rfl | (simp (disch := omega) only [up2_x, upr_x]))
    · exact rEna_fr h.ena (by intros; first | rfl | (simp (disch := omega) only [up2_x, upr_x])) (by intros; first | rfl | (simp (disch := omega) only [up2_x, upr_x]))
    · exact rPnd_fr h.pnd (by intros; first | rfl | (simp (disch := omega) only [up2_x, upr_x])) (by intros; first | rfl | (simp (disch := omega) only [up2_x, upr_x]))
    · exact rAct_fr h.act (by intros; first | rfl | (simp (disch := omega) only [up2_x, upr_x])) (by intros; first | rfl | (simp (disch := omega) only [up2_x, upr_x])) (by intros; first | rfl | (simp (disch := omega) only [up2_x, upr_x]))
    · exact rHld_fr h.hld (by intros; first | rfl | (simp (disch := omega) only [up2_x, upr_x])) (by intros; first | rfl | (simp (disch := omega) only [up2_x, upr_x]))
    · exact rSpl_fr h.spl (by intros; first | rfl | (simp (disch := omega) only [up2_x, upr_x])) (by intros; first | rfl | (simp (disch := omega) only [up2_x, upr_x]))
    · refine ⟨?_, ?_, fun z => absurd z ?_⟩
      · simp (disch := omega) only [up2_x, up2_e, upr_x]; exact h.sta.1
      · simp (disch := omega) only [up2_x, up2_e, upr_x]; exact h.sta.2.1
      · simp (disch := omega) only [up2_x, up2_e, upr_x]; exact ne_nI (b := 1) (by omega) (by decide) (by decide)
    · refine fun _ => ⟨⟨0, by omega, ?_, ?_⟩, ?_⟩
      · simp (disch := omega) only [up2_x, up2_e, upr_x]; rfl
      · simp (disch := omega) only [up2_x, up2_e, upr_x]; rfl
      · simp (disch := omega) only [up2_x, upr_x]; exact hlz
    · refine fun z => absurd z ?_
      simp (disch := omega) only [up2_x, up2_e, upr_x]; exact ne_nI (b := 3) (by omega) (by decide) (by decide)
    · exact rCod_fr h.cod (by intros; first | rfl | (simp (disch := omega) only [up2_x, upr_x])) (by intros; first | rfl | (simp (disch := omega) only [up2_x, upr_x]))
    · exact rObs_fr (C := C) (M := M) h.obs (by intros; first | rfl | (simp (disch := omega) only [up2_x, upr_x])) (by intros; first | rfl | (simp (disch := omega) only [up2_x, upr_x]))
    · exact rMdc_fr (C := C) (M := M) h.mdc (by intros; first | rfl | (simp (disch := omega) only [up2_x, upr_x]))
    · exact rCnt_fr h.cnt (by intros; first | rfl | (simp (disch := omega) only [up2_x, upr_x])) (by intros; first | rfl | (simp (disch := omega) only [up2_x, upr_x]))
    · exact rOut_fr h.out (by intros; first | rfl | (simp (disch := omega) only [up2_x, upr_x])) (by intros; first | rfl | (simp (disch := omega) only [up2_x, upr_x])) (by intros; first | rfl | (simp (disch := omega) only [up2_x, upr_x])) (by intros; first | rfl | (simp (disch := omega) only [up2_x, upr_x]))
    · exact rEvt_fr h.evt (by intros; first | rfl | (simp (disch := omega) only [up2_x, upr_x])) (by intros; first | rfl | (simp (disch := omega) only [up2_x, upr_x])) (by intros; first | rfl | (simp (disch := omega) only [up2_x, upr_x])) (by intros; first | rfl | (simp (disch := omega) only [up2_x, upr_x]))
    · exact rWai_fr h.wai (by intros; first | rfl | (simp (disch := omega) only [up2_x, upr_x])) (by intros; first | rfl | (simp (disch := omega) only [up2_x, upr_x]))
    · exact rFrm_fr h.frm (by intros; first | rfl | (simp (disch := omega) only [up2_x, upr_x])) (by intros; first | rfl | (simp (disch := omega) only [up2_x, upr_x]))
  · exact Md_fr hm (by first | rfl | simp (disch := omega) only [up2_x, upr_x]) (by first | rfl | simp (disch := omega) only [up2_x, upr_x]) (by first | rfl | simp (disch := omega) only [up2_x, upr_x]) (by first | rfl | simp (disch := omega) only [up2_x, upr_x]) (by first | rfl | simp (disch := omega) only [up2_x, upr_x])
theorem inO_nI {b : Nat} (h1 : 1 ≤ b) (h2 : b ≤ 29) : inO (nI b) = true := by
  match b, h1, h2 with
  | 1, _, _ => rfl
  | 2, _, _ => rfl
  | 3, _, _ => rfl
  | 4, _, _ => rfl
  | 5, _, _ => rfl
  | 6, _, _ => rfl
  | 7, _, _ => rfl
  | 8, _, _ => rfl
  | 9, _, _ => rfl
  | 10, _, _ => rfl
  | 11, _, _ => rfl
  | 12, _, _ => rfl
  | 13, _, _ => rfl
  | 14, _, _ => rfl
  | 15, _, _ => rfl
  | 16, _, _ => rfl
  | 17, _, _ => rfl
  | 18, _, _ => rfl
  | 19, _, _ => rfl
  | 20, _, _ => rfl
  | 21, _, _ => rfl
  | 22, _, _ => rfl
  | 23, _, _ => rfl
  | 24, _, _ => rfl
  | 25, _, _ => rfl
  | 26, _, _ => rfl
  | 27, _, _ => rfl
  | 28, _, _ => rfl
  | 29, _, _ => rfl
  | 0, h1, _ => omega
  | b + 30, _, h2 => omega
theorem sim_does {c s T E : Nat} {L : List Int32} {C0 M0 C M : Mem} (hcs : cs c s) (h : Top c s T E L C0 M0 C M) (hm : Md c C M) (hT : T < 2 ^ 29) (hE : E < 2 ^ 28) (hph : C c 41 = 0) (h0 : C c 43 = 0) (hO : ∃ q : Nat, q < T ∧ C c 50 = nI q) : ∃ C' M', fc_Core_does c C = some ((), C') ∧ fm_instructs s M = some ((), M') ∧ Top c s T (E + 1) L C0 M0 C' M' ∧ Md c C' M' ∧ Bd c s C' M' ∧ C' c 52 = C c 52 := by
  obtain ⟨p, hp, pc1, pc2⟩ := h.pc
  obtain ⟨b, hb, b1, b2⟩ := code_at h (show p < 2 ^ 31 by omega)
  obtain ⟨x, hx, x1, x2⟩ := code_at h (show p + 1 < 2 ^ 31 by omega)
  obtain ⟨y, hy, y1, y2⟩ := code_at h (show p + 2 < 2 ^ 31 by omega)
  rw [Nat.mod_eq_of_lt (show p < 512 by omega)] at b2
  have hmod : fm_instructs s M = (if nI b < 20 then fm_instructs_72 s (nI p) (nI b) (nI x) (nI y) M else if 24 < nI b then fm_instructs_72 s (nI p) (nI b) (nI x) (nI y) M else if M s 19 < 0 then fm_instructs_72 s (nI p) (nI b) (nI x) (nI y) M else (bnd (fm_turns s 4 0 M) fun r7 M7 => bnd (fm_saves s M7) fun r8 M8 => some ((), M8))) := by
    unfold fm_instructs
    rw [pc2, show nI p + 2 = nI (p + 2) from nI_add p 2, nI_1, rem512 (by omega), rem512 (by omega), inb_nI (show p < 512 by omega) (by decide), inb_nI (show (p + 1) % 512 < 512 by omega) (by decide), inb_nI (show (p + 2) % 512 < 512 by omega) (by decide), gd_t, gd_t, gd_t, nI_clamp (show p < 2 ^ 31 by omega), nI_clamp (show (p + 1) % 512 < 2 ^ 31 by omega), nI_clamp (show (p + 2) % 512 < 2 ^ 31 by omega), b2, x2, y2]
  -- a fault: as if nothing had been done
  have fault : ∀ f, (f = 18 ∨ f = 19) → ∃ C' M', fc_Core_raises c (nI f) C = some ((), C') ∧ (bnd (fm_raises s (nI f) M) fun r46 M46 => some ((), M46)) = some ((), M') ∧ Top c s T (E + 1) L C0 M0 C' M' ∧ Md c C' M' ∧ Bd c s C' M' ∧ C' c 52 = C c 52 := by
    intro f hf
    obtain ⟨r, C', M', a1, a2, a3, a4, a5, a6⟩ := sim_raises (k := f) hcs hT (by omega) h hm (by rw [hph]; decide) h0 hf
    refine ⟨C', M', a1, by rw [a2, bnd_s], a3, a4, ?_, a6 52 (by omega) (by omega) (by omega) (by omega)⟩
    rcases a5 with ⟨-, z⟩ | ⟨-, z, -⟩
    · exact Bd_of (by rw [z]; decide) (by rw [z]; decide)
    · exact Bd_of (by rw [z, hph]; decide) (by rw [z, hph]; decide)
  unfold fc_Core_does fc_Core_executes
  rw [pc1, code_op hb b1, bnd_s, hmod]
  by_cases hop : 1 ≤ b ∧ b ≤ 29
  · obtain ⟨ho1, ho2⟩ := hop
    rw [if_pos (show 1 ≤ b ∧ b ≤ 29 from ⟨ho1, ho2⟩), if_neg (show ¬ nI b < 1 from nI_nlt (b := 1) ho1 (by omega)), inO_nI ho1 ho2, gd_t, isF_v ho1 ho2, bnd_s]
    -- the instruction itself
    have go : ∃ C' M', (bndc (fc_Core_executes_46 c (nI b) C) (fun r C1 => if r = 0 then some ((), C1) else stp (up2 C1 (c + 9) 10 (C1 (c + 9) 10 + 1)) fun C2 => some ((), C2)) (fun f C1 => stp (up2 C1 c 31 (nI p)) fun C2 => stp (up2 C2 c 43 0) fun C3 => bnd (fc_Core_raises c f C3) fun _ C4 => some ((), C4))) = some ((), C') ∧ fm_instructs_72 s (nI p) (nI b) (nI x) (nI y) M = some ((), M') ∧ Top c s T (E + 1) L C0 M0 C' M' ∧ Md c C' M' ∧ Bd c s C' M' ∧ C' c 52 = C c 52 := by
      obtain ⟨tk, k1, k2, k3⟩ := tk_ok ⟨b, by omega⟩ ho1
      obtain ⟨ln, l1, l2⟩ := ln_ok ⟨b, by omega⟩ ho1
      have htk := tk.isLt
      have hln := ln.isLt
      obtain ⟨t1, t2⟩ := top_instr (k := (p + ln.val) % 512) (w := tk.val) hcs h hm (Nat.mod_lt _ (by decide)) (by omega) hph
      have hso := sim_op (b := b) (x := x) (y := y) hcs t1 t2 hT hE (by simp (disch := omega) only [up2_x, upr_x]; exact hph) hx hy ho1 ho2 (fun z => by rw [up2_e, k3 z]; rfl) (by obtain ⟨q, q1, q2⟩ := hO; exact ⟨q, q1, by simp (disch := omega) only [up2_x, upr_x]; exact q2⟩)
      have hMa : ∀ j, ¬ j = 12 → ¬ j = 22 → M s j = up2 (up2 M s 22 (nI tk.val)) s 12 (nI ((p + ln.val) % 512)) s j := fun j j1 j2 => by simp (disch := omega) only [up2_x, upr_x]
      have hexec : fc_Core_executes_46 c (nI b) C = (bndx (fv_o_does c (nI b) (nI x) (nI y) (up2 (up2 C c 31 (nI ((p + ln.val) % 512))) c 43 (nI tk.val))) fun r8 C8 => bnd (fv_o_isFloat (nI b) C8) fun r10 C10 => if r10 = 0 then fc_Core_executes_120 c C10 else stp (up2 C10 c 45 1) fun C12 => fc_Core_executes_120 c C12) := by
        unfold fc_Core_executes_46
        rw [pc1, nI_1, x1, bnd_s, pc1, show nI p + 2 = nI (p + 2) from nI_add p 2, y1, bnd_s, inO_nI ho1 ho2, gd_t, pc1, nI_clamp (show b < 2 ^ 31 by omega), l1, nI_add, and511 (by omega), stp_e, gd_t, k1, stp_e, gd_t]
        rfl
      rw [hexec, fm_ins72_v]
      rcases hso with ⟨f, hf, f1, f2⟩ | ⟨f2, C', M', d1, d2, d3, d4, d5, d6⟩
      · rw [f1, bndx_r, bndc_r, stp_e, stp_e, f2 M hMa, bnd_s, if_neg (show ¬ nI f < 0 from nI_pos (by omega))]
        have hC : up2 (up2 (up2 (up2 C c 31 (nI ((p + ln.val) % 512))) c 43 (nI tk.val)) c 31 (nI p)) c 43 0 = C := by
          rw [up2_comm (o := c) (k := 43) (o' := c) (k' := 31) (by omega), up2_up2, up2_up2, ← pc1, up2_self, ← h0, up2_self]
        rw [hC]
        obtain ⟨C', M', g1, g2, g3, g4, g5, g6⟩ := fault f hf
        rw [g1, bnd_s]
        exact ⟨C', M', rfl, g2, g3, g4, g5, g6⟩
      · rw [d1, bndx_l, isF_v ho1 ho2, bnd_s, f2 M hMa, bnd_s, if_pos (show (-1 : Int32) < 0 by decide), fm_cnt10 hcs hm.1, bnd_s, inb_nI (show b < 30 by omega) (by decide), gd_t, nI_clamp (show b < 2 ^ 31 by omega), k2, l2, stp_e, stp_e, gd_t, nI_add, rem512 (by omega), stp_e, k10_up (by omega), k10_up (by omega), d2]
        have hfl : (if bI (decide (20 ≤ b ∧ b ≤ 24)) = 0 then fc_Core_executes_120 c C' else fc_Core_executes_120 c (up2 C' c 45 1)) = some (Sum.inl 1, flC b c C') := by
          unfold flC fc_Core_executes_120
          by_cases hz : 20 ≤ b ∧ b ≤ 24
          · rw [if_neg (show ¬ bI (decide (20 ≤ b ∧ b ≤ 24)) = 0 by simp [hz, bI]), if_pos hz]
          · rw [if_pos (show bI (decide (20 ≤ b ∧ b ≤ 24)) = 0 by rw [decide_eq_false hz]; rfl), if_neg hz]
        rw [hfl, bndc_l, if_neg (show ¬ (1 : Int32) = 0 by decide), stp_e]
        obtain ⟨u1, u2⟩ := top_k10 hcs d3 d4
        refine ⟨_, _, rfl, rfl, u1, u2, ?_, ?_⟩
        · refine ⟨fun z => ?_, fun z1 z2 => ?_⟩
          · have z' : flC b c C' c 41 = 1 := by rw [← z]; simp (disch := omega) only [up2_x, upr_x]
            obtain ⟨k, k1, k2, k3⟩ := d5.1 z'
            exact ⟨k, k1, k2, by simp (disch := omega) only [up2_x, upr_x]; exact k3⟩
          · have z1' : flC b c C' c 41 = 3 := by rw [← z1]; simp (disch := omega) only [up2_x, upr_x]
            have z2' : ¬ flC b c C' c 42 = 0 := by intro w; refine z2 ?_; simp (disch := omega) only [up2_x, upr_x]; exact w
            have := d5.2 z1' z2'
            rw [k10_x (by omega)]
            simp (disch := omega) only [up2_x, upr_x]
            exact this
        · simp (disch := omega) only [up2_x, upr_x]
          unfold flC
          split
          · simp (disch := omega) only [up2_x, upr_x]; rw [d6]; simp (disch := omega) only [up2_x, upr_x]
          · rw [d6]; simp (disch := omega) only [up2_x, upr_x]
    by_cases hfl : 20 ≤ b ∧ b ≤ 24
    · rw [if_neg (show ¬ bI (decide (20 ≤ b ∧ b ≤ 24)) = 0 by simp [hfl, bI]), if_neg (show ¬ nI b < 20 from nI_nlt (b := 20) hfl.1 (by omega)), if_neg (show ¬ (24 : Int32) < nI b from nI_nlt (a := 24) hfl.2 (by decide))]
      rcases h.laz with ⟨z1, z2⟩ | ⟨l, hl, z1, z2⟩
      · rw [z1, z2, if_pos (by decide), if_pos (by decide)]
        exact go
      · rw [z1, z2, if_neg (show ¬ nI l < 0 from nI_pos (by omega)), if_neg (show ¬ nI l < 0 from nI_pos (by omega))]
        obtain ⟨t1, t2⟩ := top_turn4 hcs h hm h0 (by rw [z1]; exact nI_n1 (by omega))
        obtain ⟨C', M', a1, a2, a3, a4, a5, a6⟩ := sim_saving hcs t1 t2 (by simp (disch := omega) only [up2_x, up2_e, upr_x]; rfl)
        rw [show fc_Core_turns c 4 = fc_Core_turns c (nI 4) from rfl, fc_turns_v (by omega), bnd_s, a1, bnd_s, bndc_l, if_pos rfl, fm_turns_v, bnd_s, a2, bnd_s]
        exact ⟨C', M', rfl, rfl, a3.mono (Nat.le_refl _) (Nat.le_succ E), a4, a5, by rw [a6]; simp (disch := omega) only [up2_x, upr_x]⟩
    · rw [if_pos (show bI (decide (20 ≤ b ∧ b ≤ 24)) = 0 by rw [decide_eq_false hfl]; rfl)]
      have hm72 : (if nI b < 20 then fm_instructs_72 s (nI p) (nI b) (nI x) (nI y) M else if 24 < nI b then fm_instructs_72 s (nI p) (nI b) (nI x) (nI y) M else if M s 19 < 0 then fm_instructs_72 s (nI p) (nI b) (nI x) (nI y) M else (bnd (fm_turns s 4 0 M) fun r7 M7 => bnd (fm_saves s M7) fun r8 M8 => some ((), M8))) = fm_instructs_72 s (nI p) (nI b) (nI x) (nI y) M := by
        by_cases h20 : b < 20
        · rw [if_pos (show nI b < 20 from nI_lt (b := 20) h20 (by decide))]
        · rw [if_neg (show ¬ nI b < 20 from nI_nlt (b := 20) (by omega) (by omega)), if_pos (show (24 : Int32) < nI b from nI_lt (a := 24) (by omega) (by omega))]
      rw [hm72]
      exact go
  · rw [if_neg hop, if_pos (show (0 : Int32) < 1 by decide), bndc_r, stp_e, stp_e, ← pc1, up2_self]
    have hC : up2 C c 43 0 = C := by rw [← h0, up2_self]
    rw [hC]
    have hm72 : (if nI b < 20 then fm_instructs_72 s (C c 31) (nI b) (nI x) (nI y) M else if 24 < nI b then fm_instructs_72 s (C c 31) (nI b) (nI x) (nI y) M else if M s 19 < 0 then fm_instructs_72 s (C c 31) (nI b) (nI x) (nI y) M else (bnd (fm_turns s 4 0 M) fun r7 M7 => bnd (fm_saves s M7) fun r8 M8 => some ((), M8))) = fm_instructs_72 s (C c 31) (nI b) (nI x) (nI y) M := by
      by_cases h20 : b < 20
      · rw [if_pos (show nI b < 20 from nI_lt (b := 20) h20 (by decide))]
      · rw [if_neg (show ¬ nI b < 20 from nI_nlt (b := 20) (by omega) (by omega)), if_pos (show (24 : Int32) < nI b from nI_lt (a := 24) (by omega) (by omega))]
    rw [hm72, fm_ins72_v]
    have hf : fm_faultOf s (nI b) (nI x) (nI y) M = some (18, M) := by
      unfold fm_faultOf fm_faultOf_10
      by_cases hb0 : b = 0
      · subst hb0
        rw [if_pos (show nI 0 = 0 from rfl)]
      · rw [if_neg (show ¬ nI b = 0 from nI_ne0 (by omega) (by omega)), if_neg (show ¬ nI b ≤ 29 from nI_ge (a := 29) (by omega) (by omega))]
    rw [hf, bnd_s, if_neg (show ¬ (18 : Int32) < 0 by decide)]
    obtain ⟨C', M', g1, g2, g3, g4, g5, g6⟩ := fault 18 (Or.inl rfl)
    rw [show (18 : Int32) = nI 18 from rfl, g1, bnd_s]
    exact ⟨C', M', rfl, g2, g3, g4, g5, g6⟩
set_option maxHeartbeats 4000000 in
theorem top_start {c s T E : Nat} {L : List Int32} {C0 M0 C M : Mem} {r : Nat} (hcs : cs c s) (h : Top c s T E L C0 M0 C M) (hm : Md c C M) (h0 : C c 43 = 0) (hr : r < 21) : Top c s T E L C0 M0 (up2 (up2 (up2 (up2 (up2 (up2 (up2 C c 47 (nI r)) c 44 0) c 48 0) c 49 0) c 41 (nI 1)) c 42 0) c 24 (nI 1)) (up2 (up2 (up2 (up2 (up2 (up2 M s 24 (nI r)) s 23 0) s 28 0) s 29 0) s 20 1) s 21 0) ∧ Md c (up2 (up2 (up2 (up2 (up2 (up2 (up2 C c 47 (nI r)) c 44 0) c 48 0) c 49 0) c 41 (nI 1)) c 42 0) c 24 (nI 1)) (up2 (up2 (up2 (up2 (up2 (up2 M s 24 (nI r)) s 23 0) s 28 0) s 29 0) s 20 1) s 21 0) := by
  refine ⟨?_, ?_⟩
  · refine ⟨⟨?_, ?_, ?_, ?_, ?_, ?_, ?_, ?_, ?_, ?_, ?_, ?_, ?_, ?_, ?_, ?_, ?_, ?_, ?_, ?_, ?_, ?_, ?_, ?_, ?_, ?_, ?_, ?_, ?_, ?_, ?_, ?_, ?_⟩, ⟨?_, ?_, ?_, ?_, ?_⟩⟩
    · exact rReg_fr h.reg (by intros; first | rfl | (simp (disch := omega) only [up2_x, upr_x])) (by intros; first | rfl | (simp (disch := omega) only [up2_x, upr_x]))
    · exact rDat_fr h.dat (by intros; first | rfl | (simp (disch := omega) only [up2_x, upr_x])) (by intros; first | rfl | (simp (disch := omega) only [up2_x, upr_x]))
    · exact rStk_fr h.stk (by intros; first | rfl | (simp (disch := omega) only [up2_x, upr_x])) (by intros; first | rfl | (simp (disch := omega) only [up2_x, upr_x]))
    · exact rFlt_fr h.flt (by intros; first | rfl | (simp (disch := omega) only [up2_x, upr_x])) (by intros; first | rfl | (simp (disch := omega) only [up2_x, upr_x]))
    · exact rZn_fr h.zn (by intros; first | rfl | (simp (disch := omega) only [up2_x, upr_x])) (by intros; first | rfl | (simp (disch := omega) only [up2_x, upr_x]))
    · exact rPc_fr h.pc (by intros; first | rfl | (simp (disch := omega) only [up2_x, upr_x])) (by intros; first | rfl | (simp (disch := omega) only [up2_x, upr_x]))
    · exact rSp_fr h.sp (by intros; first | rfl | (simp (disch := omega) only [up2_x, upr_x])) (by intros; first | rfl | (simp (disch := omega) only [up2_x, upr_x]))
    · exact rShu_fr h.shu (by intros; first | rfl | (simp (disch := omega) only [up2_x, upr_x])) (by intros; first | rfl | (simp (disch := omega) only [up2_x, upr_x]))
    · exact rBas_fr h.bas (by intros; first | rfl | (simp (disch := omega) only [up2_x, upr_x])) (by intros; first | rfl | (simp (disch := omega) only [up2_x, upr_x]))
    · exact rFls_fr h.fls (by intros; first | rfl | (simp (disch := omega) only [up2_x, upr_x])) (by intros; first | rfl | (simp (disch := omega) only [up2_x, upr_x]))
    · exact rLaz_fr h.laz (by intros; first | rfl | (simp (disch := omega) only [up2_x, upr_x])) (by intros; first | rfl | (simp (disch := omega) only [up2_x, upr_x]))
    · refine ⟨⟨1, by omega, ?_, ?_⟩, ?_⟩
      · simp (disch := omega) only [up2_x, up2_e, upr_x]
      · simp (disch := omega) only [up2_x, up2_e, upr_x]; try rfl
      · simp (disch := omega) only [up2_x, up2_e, upr_x]
    · unfold rStp
      simp (disch := omega) only [up2_x, up2_e, upr_x]
    · obtain ⟨p0, hp0, f1, f2⟩ := h.stl.1
      refine ⟨⟨p0, hp0, ?_, ?_⟩, fun _ => ?_⟩
      · simp (disch := omega) only [up2_x, up2_e, upr_x]; exact f1
      · simp (disch := omega) only [up2_x, up2_e, upr_x]; exact f2
      · simp (disch := omega) only [up2_x, up2_e, upr_x]; exact h0
    · refine ⟨?_, ?_⟩
      · simp (disch := omega) only [up2_x, up2_e, upr_x]
      · simp (disch := omega) only [up2_x, up2_e, upr_x]; rfl
    · exact rClk_fr h.clk (by intros; first | rfl | (simp (disch := omega) only [up2_x, upr_x])) (by intros; first | rfl | (simp (disch := omega) only [up2_x, upr_x]))
    · exact rPer_fr h.per (by intros; first | rfl | (simp (disch := omega) only [up2_x, upr_x])) (by intros; first | rfl | (simp (disch := omega) only [up2_x, upr_x]))
    · exact rTim_fr h.tim (by intros; first | rfl | (simp (disch := omega) only [up2_x, upr_x])) (by intros; first | rfl | (simp (disch := omega) only [up2_x, upr_x]))
    · exact rNst_fr h.nst (by intros; first | rfl | (simp (disch := omega) only [up2_x, upr_x])) (by intros; first | rfl | (simp (disch := omega) only [up2_x, upr_x])) (by intros; first | rfl | (simp (disch := omega) only [up2_x, upr_x])) (by intros; first | rfl | (simp (disch := omega) only [up2_x, upr_x])) (by intros; first | rfl | (simp (disch := omega) only [up2_x, upr_x])) (by intros; first | rfl | (simp (disch := omega) only [up2_x, upr_x]))
    · exact rDue_fr h.due (by intros; first | rfl | (simp (disch := omega) only [up2_x, upr_x])) (by intros; first | rfl | (simp (disch := omega) only [up2_x, upr_x])) (by intros; first | rfl | (simp (disch := omega) only [up2_x, upr_x])) (by intros; first | rfl | (simp (disch := omega) only [up2_x, upr_x])) (by intros; first | rfl | (simp (disch := omega) only [up2_x, upr_x]))
    · exact rRnk_fr h.rnk (by intros; first | rfl | (simp (disch := omega) only [up2_x, upr_x])) (by intros; first | rfl | (simp (disch := omega) only [up2_x, upr_x]))
    · exact rVec_fr h.vec (by intros; first | rfl | (simp (disch := omega) only [up2_x, upr_x])) (by intros; first | rfl | (simp (disch := omega) only [up2_x, upr_x]))
    · exact rEna_fr h.ena (by intros; first | rfl | (simp (disch := omega) only [up2_x, upr_x])) (by intros; first | rfl | (simp (disch := omega) only [up2_x, upr_x]))
    · exact rPnd_fr h.pnd (by intros; first | rfl | (simp (disch := omega) only [up2_x, upr_x])) (by intros; first | rfl | (simp (disch := omega) only [up2_x, upr_x]))
    · exact rAct_fr h.act (by intros; first | rfl | (simp (disch := omega) only [up2_x, upr_x])) (by intros; first | rfl | (simp (disch := omega) only [up2_x, upr_x])) (by intros; first | rfl | (simp (disch := omega) only [up2_x, upr_x]))
    · exact rHld_fr h.hld (by intros; first | rfl | (simp (disch := omega) only [up2_x, upr_x])) (by intros; first | rfl | (simp (disch := omega) only [up2_x, upr_x]))
    · exact rSpl_fr h.spl (by intros; first | rfl | (simp (disch := omega) only [up2_x, upr_x])) (by intros; first | rfl | (simp (disch := omega) only [up2_x, upr_x]))
    · refine ⟨?_, ?_, fun _ => ⟨⟨0, by omega, ?_, ?_⟩, ⟨r, by omega, ?_, ?_⟩, ?_, ?_⟩⟩
      · simp (disch := omega) only [up2_x, up2_e, upr_x]; rfl
      · simp (disch := omega) only [up2_x, up2_e, upr_x]; rfl
      · simp (disch := omega) only [up2_x, up2_e, upr_x]; rfl
      · simp (disch := omega) only [up2_x, up2_e, upr_x]; rfl
      · simp (disch := omega) only [up2_x, up2_e, upr_x]
      · simp (disch := omega) only [up2_x, up2_e, upr_x]
      · simp (disch := omega) only [up2_x, up2_e, upr_x]
      · simp (disch := omega) only [up2_x, up2_e, upr_x]
    · refine fun z => absurd z ?_
      simp (disch := omega) only [up2_x, up2_e, upr_x]; exact ne_nI (b := 4) (by omega) (by decide) (by decide)
    · refine fun z => absurd z ?_
      simp (disch := omega) only [up2_x, up2_e, upr_x]; exact ne_nI (b := 3) (by omega) (by decide) (by decide)
    · exact rCod_fr h.cod (by intros; first | rfl | (simp (disch := omega) only [up2_x, upr_x])) (by intros; first | rfl | (simp (disch := omega) only [up2_x, upr_x]))
    · exact rObs_fr (C := C) (M := M) h.obs (by intros; first | rfl | (simp (disch := omega) only [up2_x, upr_x])) (by intros; first | rfl | (simp (disch := omega) only [up2_x, upr_x]))
    · exact rMdc_fr (C := C) (M := M) h.mdc (by intros; first | rfl | (simp (disch := omega) only [up2_x, upr_x]))
    · exact rCnt_fr h.cnt (by intros; first | rfl | (simp (disch := omega) only [up2_x, upr_x])) (by intros; first | rfl | (simp (disch := omega) only [up2_x, upr_x]))
    · exact rOut_fr h.out (by intros; first | rfl | (simp (disch := omega) only [up2_x, upr_x])) (by intros; first | rfl | (simp (disch := omega) only [up2_x, upr_x])) (by intros; first | rfl | (simp (disch := omega) only [up2_x, upr_x])) (by intros; first | rfl | (simp (disch := omega) only [up2_x, upr_x]))
    · exact rEvt_fr h.evt (by intros; first | rfl | (simp (disch := omega) only [up2_x, upr_x])) (by intros; first | rfl | (simp (disch := omega) only [up2_x, upr_x])) (by intros; first | rfl | (simp (disch := omega) only [up2_x, upr_x])) (by intros; first | rfl | (simp (disch := omega) only [up2_x, upr_x]))
    · exact rWai_fr h.wai (by intros; first | rfl | (simp (disch := omega) only [up2_x, upr_x])) (by intros; first | rfl | (simp (disch := omega) only [up2_x, upr_x]))
    · exact rFrm_fr h.frm (by intros; first | rfl | (simp (disch := omega) only [up2_x, upr_x])) (by intros; first | rfl | (simp (disch := omega) only [up2_x, upr_x]))
  · exact Md_fr hm (by first | rfl | simp (disch := omega) only [up2_x, upr_x]) (by first | rfl | simp (disch := omega) only [up2_x, upr_x]) (by first | rfl | simp (disch := omega) only [up2_x, upr_x]) (by first | rfl | simp (disch := omega) only [up2_x, upr_x]) (by first | rfl | simp (disch := omega) only [up2_x, upr_x])
set_option maxHeartbeats 4000000 in
theorem top_stall {c s T E : Nat} {L : List Int32} {C0 M0 C M : Mem} {w : Nat} (hcs : cs c s) (h : Top c s T E L C0 M0 C M) (hm : Md c C M) (hw : w ≤ 3) (hph : C c 41 = 0) : Top c s T E L C0 M0 (up2 C c 43 (nI w)) (up2 M s 22 (nI w)) ∧ Md c (up2 C c 43 (nI w)) (up2 M s 22 (nI w)) := by
  refine ⟨?_, ?_⟩
  · refine ⟨⟨?_, ?_, ?_, ?_, ?_, ?_, ?_, ?_, ?_, ?_, ?_, ?_, ?_, ?_, ?_, ?_, ?_, ?_, ?_, ?_, ?_, ?_, ?_, ?_, ?_, ?_, ?_, ?_, ?_, ?_, ?_, ?_, ?_⟩, ⟨?_, ?_, ?_, ?_, ?_⟩⟩
    · exact rReg_fr h.reg (by intros; first | rfl | (simp (disch := omega) only [up2_x, upr_x])) (by intros; first | rfl | (simp (disch := omega) only [up2_x, upr_x]))
    · exact rDat_fr h.dat (by intros; first | rfl | (simp (disch := omega) only [up2_x, upr_x])) (by intros; first | rfl | (simp (disch := omega) only [up2_x, upr_x]))
    · exact rStk_fr h.stk (by intros; first | rfl | (simp (disch := omega) only [up2_x, upr_x])) (by intros; first | rfl | (simp (disch := omega) only [up2_x, upr_x]))
    · exact rFlt_fr h.flt (by intros; first | rfl | (simp (disch := omega) only [up2_x, upr_x])) (by intros; first | rfl | (simp (disch := omega) only [up2_x, upr_x]))
    · exact rZn_fr h.zn (by intros; first | rfl | (simp (disch := omega) only [up2_x, upr_x])) (by intros; first | rfl | (simp (disch := omega) only [up2_x, upr_x]))
    · exact rPc_fr h.pc (by intros; first | rfl | (simp (disch := omega) only [up2_x, upr_x])) (by intros; first | rfl | (simp (disch := omega) only [up2_x, upr_x]))
    · exact rSp_fr h.sp (by intros; first | rfl | (simp (disch := omega) only [up2_x, upr_x])) (by intros; first | rfl | (simp (disch := omega) only [up2_x, upr_x]))
    · exact rShu_fr h.shu (by intros; first | rfl | (simp (disch := omega) only [up2_x, upr_x])) (by intros; first | rfl | (simp (disch := omega) only [up2_x, upr_x]))
    · exact rBas_fr h.bas (by intros; first | rfl | (simp (disch := omega) only [up2_x, upr_x])) (by intros; first | rfl | (simp (disch := omega) only [up2_x, upr_x]))
    · exact rFls_fr h.fls (by intros; first | rfl | (simp (disch := omega) only [up2_x, upr_x])) (by intros; first | rfl | (simp (disch := omega) only [up2_x, upr_x]))
    · exact rLaz_fr h.laz (by intros; first | rfl | (simp (disch := omega) only [up2_x, upr_x])) (by intros; first | rfl | (simp (disch := omega) only [up2_x, upr_x]))
    · exact rPh_fr h.ph (by intros; first | rfl | (simp (disch := omega) only [up2_x, upr_x])) (by intros; first | rfl | (simp (disch := omega) only [up2_x, upr_x]))
    · exact rStp_fr h.stp (by intros; first | rfl | (simp (disch := omega) only [up2_x, upr_x])) (by intros; first | rfl | (simp (disch := omega) only [up2_x, upr_x]))
    · refine ⟨⟨w, hw, ?_, ?_⟩, fun z => absurd ?_ z⟩
      · simp (disch := omega) only [up2_x, up2_e, upr_x]
      · simp (disch := omega) only [up2_x, up2_e, upr_x]
      · simp (disch := omega) only [up2_x, upr_x]; exact hph
    · exact rAsl_fr h.asl (by intros; first | rfl | (simp (disch := omega) only [up2_x, upr_x])) (by intros; first | rfl | (simp (disch := omega) only [up2_x, upr_x]))
    · exact rClk_fr h.clk (by intros; first | rfl | (simp (disch := omega) only [up2_x, upr_x])) (by intros; first | rfl | (simp (disch := omega) only [up2_x, upr_x]))
    · exact rPer_fr h.per (by intros; first | rfl | (simp (disch := omega) only [up2_x, upr_x])) (by intros; first | rfl | (simp (disch := omega) only [up2_x, upr_x]))
    · exact rTim_fr h.tim (by intros; first | rfl | (simp (disch := omega) only [up2_x, upr_x])) (by intros; first | rfl | (simp (disch := omega) only [up2_x, upr_x]))
    · exact rNst_fr h.nst (by intros; first | rfl | (simp (disch := omega) only [up2_x, upr_x])) (by intros; first | rfl | (simp (disch := omega) only [up2_x, upr_x])) (by intros; first | rfl | (simp (disch := omega) only [up2_x, upr_x])) (by intros; first | rfl | (simp (disch := omega) only [up2_x, upr_x])) (by intros; first | rfl | (simp (disch := omega) only [up2_x, upr_x])) (by intros; first | rfl | (simp (disch := omega) only [up2_x, upr_x]))
    · exact rDue_fr h.due (by intros; first | rfl | (simp (disch := omega) only [up2_x, upr_x])) (by intros; first | rfl | (simp (disch := omega) only [up2_x, upr_x])) (by intros; first | rfl | (simp (disch := omega) only [up2_x, upr_x])) (by intros; first | rfl | (simp (disch := omega) only [up2_x, upr_x])) (by intros; first | rfl | (simp (disch := omega) only [up2_x, upr_x]))
    · exact rRnk_fr h.rnk (by intros; first | rfl | (simp (disch := omega) only [up2_x, upr_x])) (by intros; first | rfl | (simp (disch := omega) only [up2_x, upr_x]))
    · exact rVec_fr h.vec (by intros; first | rfl | (simp (disch := omega) only [up2_x, upr_x])) (by intros; first | rfl | (simp (disch := omega) only [up2_x, upr_x]))
    · exact rEna_fr h.ena (by intros; first | rfl | (simp (disch := omega) only [up2_x, upr_x])) (by intros; first | rfl | (simp (disch := omega) only [up2_x, upr_x]))
    · exact rPnd_fr h.pnd (by intros; first | rfl | (simp (disch := omega) only [up2_x, upr_x])) (by intros; first | rfl | (simp (disch := omega) only [up2_x, upr_x]))
    · exact rAct_fr h.act (by intros; first | rfl | (simp (disch := omega) only [up2_x, upr_x])) (by intros; first | rfl | (simp (disch := omega) only [up2_x, upr_x])) (by intros; first | rfl | (simp (disch := omega) only [up2_x, upr_x]))
    · exact rHld_fr h.hld (by intros; first | rfl | (simp (disch := omega) only [up2_x, upr_x])) (by intros; first | rfl | (simp (disch := omega) only [up2_x, upr_x]))
    · exact rSpl_fr h.spl (by intros; first | rfl | (simp (disch := omega) only [up2_x, upr_x])) (by intros; first | rfl | (simp (disch := omega) only [up2_x, upr_x]))
    · exact rSta_fr h.sta (by intros; first | rfl | (simp (disch := omega) only [up2_x, upr_x])) (by intros; first | rfl | (simp (disch := omega) only [up2_x, upr_x]))
    · exact rSav_fr h.sav (by intros; first | rfl | (simp (disch := omega) only [up2_x, upr_x])) (by intros; first | rfl | (simp (disch := omega) only [up2_x, upr_x]))
    · exact rUns_fr h.uns (by intros; first | rfl | (simp (disch := omega) only [up2_x, upr_x])) (by intros; first | rfl | (simp (disch := omega) only [up2_x, upr_x])) (by intros; first | rfl | (simp (disch := omega) only [up2_x, upr_x]))
    · exact rCod_fr h.cod (by intros; first | rfl | (simp (disch := omega) only [up2_x, upr_x])) (by intros; first | rfl | (simp (disch := omega) only [up2_x, upr_x]))
    · exact rObs_fr (C := C) (M := M) h.obs (by intros; first | rfl | (simp (disch := omega) only [up2_x, upr_x])) (by intros; first | rfl | (simp (disch := omega) only [up2_x, upr_x]))
    · exact rMdc_fr (C := C) (M := M) h.mdc (by intros; first | rfl | (simp (disch := omega) only [up2_x, upr_x]))
    · exact rCnt_fr h.cnt (by intros; first | rfl | (simp (disch := omega) only [up2_x, upr_x])) (by intros; first | rfl | (simp (disch := omega) only [up2_x, upr_x]))
    · exact rOut_fr h.out (by intros; first | rfl | (simp (disch := omega) only [up2_x, upr_x])) (by intros; first | rfl | (simp (disch := omega) only [up2_x, upr_x])) (by intros; first | rfl | (simp (disch := omega) only [up2_x, upr_x])) (by intros; first | rfl | (simp (disch := omega) only [up2_x, upr_x]))
    · exact rEvt_fr h.evt (by intros; first | rfl | (simp (disch := omega) only [up2_x, upr_x])) (by intros; first | rfl | (simp (disch := omega) only [up2_x, upr_x])) (by intros; first | rfl | (simp (disch := omega) only [up2_x, upr_x])) (by intros; first | rfl | (simp (disch := omega) only [up2_x, upr_x]))
    · exact rWai_fr h.wai (by intros; first | rfl | (simp (disch := omega) only [up2_x, upr_x])) (by intros; first | rfl | (simp (disch := omega) only [up2_x, upr_x]))
    · exact rFrm_fr h.frm (by intros; first | rfl | (simp (disch := omega) only [up2_x, upr_x])) (by intros; first | rfl | (simp (disch := omega) only [up2_x, upr_x]))
  · exact Md_fr hm (by first | rfl | simp (disch := omega) only [up2_x, upr_x]) (by first | rfl | simp (disch := omega) only [up2_x, upr_x]) (by first | rfl | simp (disch := omega) only [up2_x, upr_x]) (by first | rfl | simp (disch := omega) only [up2_x, upr_x]) (by first | rfl | simp (disch := omega) only [up2_x, upr_x])
theorem sim_running {c s T E : Nat} {L : List Int32} {C0 M0 C M : Mem} (hcs : cs c s) (h : Top c s T E L C0 M0 C M) (hm : Md c C M) (hT : T < 2 ^ 29) (hE : E < 2 ^ 28) (hL : L.length < T) (hph : C c 41 = 0) (hO : ∃ q : Nat, q < T ∧ C c 50 = nI q) : ∃ C' M' L', fc_Core_running c C = some ((), C') ∧ fm_runs s M = some ((), M') ∧ Top c s T (E + 3) L' C0 M0 C' M' ∧ Md c C' M' ∧ Bd c s C' M' ∧ Nw (C c 52) c C' L L' := by
  obtain ⟨⟨w, hw, w1, w2⟩, -⟩ := h.stl
  unfold fc_Core_running fm_runs
  rw [w1, w2]
  by_cases hw0 : w = 0
  · subst hw0
    have h0 : C c 43 = 0 := w1
    rw [if_pos (show nI 0 ≤ 0 by decide), if_pos (show nI 0 ≤ 0 by decide)]
    obtain ⟨o, n1, n2, n3⟩ := top_next hcs (by omega) h.1
    rw [n1, bnd_s, n2, bnd_s]
    cases o with
    | none =>
      rw [if_pos (show oI none < 0 by decide), if_pos (show oI none < 0 by decide)]
      have run : ∃ C' M' L', fc_Core_running_76 c C = some ((), C') ∧ fm_runs_77 s M = some ((), M') ∧ Top c s T (E + 3) L' C0 M0 C' M' ∧ Md c C' M' ∧ Bd c s C' M' ∧ Nw (C c 52) c C' L L' := by
        obtain ⟨t1, t2⟩ := top_asl (v := 0) hcs h hm rfl
        obtain ⟨q, q1, q2⟩ := hO
        obtain ⟨C', M', a1, a2, a3, a4, a5, a6⟩ := sim_does hcs t1 t2 hT hE (by simp (disch := omega) only [up2_x, upr_x]; exact hph) (by simp (disch := omega) only [up2_x, upr_x]; exact h0) ⟨q, q1, by simp (disch := omega) only [up2_x, upr_x]; exact q2⟩
        unfold fc_Core_running_76 fm_runs_77
        rw [stp_e, a1, bnd_s, stp_e, a2, bnd_s]
        exact ⟨C', M', L, rfl, rfl, a3.mono (Nat.le_refl _) (by omega), a4, a5, Or.inl ⟨by rw [a6]; simp (disch := omega) only [up2_x, upr_x], rfl⟩⟩
      obtain ⟨as1, as2⟩ := h.asl
      rcases isB_or as2 with z | z
      · rw [z, if_pos rfl, ← as1, z, if_neg (show ¬ (0 : Int32) = 1 by decide)]
        exact run
      · rw [z, if_neg (show ¬ (1 : Int32) = 0 by decide), ← as1, z, if_pos rfl]
        obtain ⟨l, o, p1, p2, p3, p4⟩ := top_open hcs (by omega) h.1
        rw [p1, bnd_s, p2, bnd_s, p3, bnd_s]
        by_cases ho : 0 ≤ oI o
        · rw [if_pos ho, if_pos ho]
          exact run
        · rw [if_neg ho, if_neg ho]
          exact ⟨C, M, L, rfl, rfl, h.mono (Nat.le_refl _) (by omega), hm, Bd_of (by rw [hph]; decide) (by rw [hph]; decide), Or.inl ⟨rfl, rfl⟩⟩
    | some r =>
      have hr := (n3 r rfl).1
      rw [show oI (some r) = nI r from rfl, if_neg (show ¬ nI r < 0 from nI_pos (by omega)), if_neg (show ¬ nI r < 0 from nI_pos (by omega))]
      simp only [stp_e]
      rw [show fc_Core_turns c 1 = fc_Core_turns c (nI 1) from rfl, fc_turns_v (by omega), bnd_s, fm_turns_v, bnd_s]
      obtain ⟨t1, t2⟩ := top_start hcs h hm h0 hr
      obtain ⟨C', M', L', a1, a2, a3, a4, a5, a6⟩ := sim_stacking (k := 0) hcs hT hE hL t1 t2 (by simp (disch := omega) only [up2_x, up2_e, upr_x]; rfl) (by omega) (by simp (disch := omega) only [up2_x, up2_e, upr_x]; rfl) (fun _ => by simp (disch := omega) only [up2_x, up2_e, upr_x])
      rw [a1, bnd_s, a2, bnd_s]
      refine ⟨C', M', L', rfl, rfl, a3, a4, a5, ?_⟩
      rw [show C c 52 = up2 (up2 (up2 (up2 (up2 (up2 (up2 C c 47 (nI r)) c 44 0) c 48 0) c 49 0) c 41 (nI 1)) c 42 0) c 24 (nI 1) c 52 from by simp (disch := omega) only [up2_x, upr_x]]
      exact a6
  · rw [if_neg (show ¬ nI w ≤ 0 from nI_nle (by omega) (by omega)), if_neg (show ¬ nI w ≤ 0 from nI_nle (by omega) (by omega)), stp_e, stp_e, s_1 (show 1 ≤ w by omega)]
    obtain ⟨t1, t2⟩ := top_stall (w := w - 1) hcs h hm (by omega) hph
    exact ⟨_, _, L, rfl, rfl, t1.mono (Nat.le_refl _) (by omega), t2, Bd_of (by simp (disch := omega) only [up2_x, upr_x]; rw [hph]; decide) (by simp (disch := omega) only [up2_x, upr_x]; rw [hph]; decide), Or.inl ⟨by simp (disch := omega) only [up2_x, upr_x], rfl⟩⟩
