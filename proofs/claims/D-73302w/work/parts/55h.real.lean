/-! an eighth part and so on: y / 16 -/
theorem real_v : ∀ y, y < 256 → n32 (FP.fdiv (FP.i2f (nI y)) 1098907648) = true ∧ ¬ fE (FP.fdiv (FP.i2f (nI y)) 1098907648).toInt32 = 255 ∧ (FP.fdiv (FP.i2f (nI y)) 1098907648).toInt32 = (if y = 0 then 0 else nI (rbits false (rkept y (lst y (-4) - -4) false) (lst y (-4)))) := by decide +kernel
theorem fm_real_v {y : Nat} (h0 : ¬ y = 0) (hy : y < 256) (M : Mem) : fm_rounded 0 (nI y).toInt64 (-4) 0 M = some ((FP.fdiv (FP.i2f (nI y)) 1098907648).toInt32, M) := by
  have := fm_rounded_v false false (n := y) (p := -4) M (by omega) (by omega) (by omega) (by omega) (fun _ => by omega)
  rw [show (bI false) = (0 : Int32) from rfl, show iZ (-4) = (-4 : Int32) by decide] at this
  rw [nI_l (by omega), this, (real_v y hy).2.2, if_neg h0]
