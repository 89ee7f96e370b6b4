/-- a loop of at most n turns -/
def lpc {τ : Type} (b : τ → τ) (z : τ) : Nat → τ
  | 0 => z
  | n + 1 => b (lpc b z n)
def mS (s : Nat) : Prop := s = 4 ∨ s = 5
theorem mS_4 : mS 4 := Or.inl rfl
theorem mS_5 : mS 5 := Or.inr rfl
theorem mS_i {s : Nat} (h : mS s) : mI s = true := by rcases h with rfl | rfl <;> rfl
theorem mS_l {s : Nat} (h : mS s) : mLen s = 342 := by rcases h with rfl | rfl <;> rfl
theorem v_sub {X : Cxt} {nL b : Nat} {P : Heap → Prop} {pc : Nat} {lv lv' : List (Nat × Value)} {st : List Value} (ks : List Nat) (h : lv_pick lv ks = lv') (k : V X nL b P pc lv' st) : V X nL b P pc lv st := fun H lo ce sl ls h1 h2 h3 h4 h5 => k H lo ce sl ls h1 h2 h3 h4 (lv_sub h5 ks h)
theorem tbl_out {x : Int32} (n : Nat) (hn : n < 2 ^ 31) (h : ∀ i, i < n → ¬ x = Int32.ofNat i) : x.toInt < 0 ∨ ((n : Int) - 1) < x.toInt := by
  rcases Int.lt_or_le x.toInt 0 with q | q
  · exact Or.inl q
  · refine Or.inr ?_
    rcases Int.lt_or_le ((n : Int) - 1) x.toInt with z | z
    · exact z
    · exfalso
      refine h x.toInt.toNat (by omega) ?_
      apply Int32.toInt_inj.mp
      rw [show Int32.ofNat x.toInt.toNat = nI x.toInt.toNat from rfl, nI_toInt (by omega)]
      omega
