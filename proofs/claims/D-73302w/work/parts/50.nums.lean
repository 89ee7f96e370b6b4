/-! THE PURE PART. Numbers and memories. -/
theorem up2_e {S : Mem} {o k : Nat} {v : Int32} : up2 S o k v o k = v := by simp [up2, upd]
theorem up2_x {S : Mem} {o k o' k' : Nat} {v : Int32} (h : o' ≠ o ∨ k' ≠ k) : up2 S o k v o' k' = S o' k' := by
  unfold up2 upd
  by_cases h1 : o' = o
  · subst h1
    rw [if_pos rfl]
    rcases h with h | h
    · exact absurd rfl h
    · simp [h]
  · rw [if_neg h1]
theorem up2_i {S : Mem} {o k k' : Nat} {v : Int32} : up2 S o k v o k' = if k' = k then v else S o k' := by
  by_cases h : k' = k
  · subst h; rw [up2_e, if_pos rfl]
  · rw [up2_x (Or.inr h), if_neg h]
theorem upr_e {S : Mem} {o : Nat} {r : Nat → Int32} : upr S o r o = r := by simp [upr]
theorem upr_x {S : Mem} {o o' : Nat} {r : Nat → Int32} (h : o' ≠ o) : upr S o r o' = S o' := by simp [upr, h]
theorem gd_t {α : Type} {k : Option α} : gd true k = k := rfl
theorem bnd_s {α β σ : Type} {r : α} {s : σ} {k : α → σ → Option β} : bnd (some (r, s)) k = k r s := rfl
theorem stp_e {σ β : Type} {v : σ} {k : σ → Option β} : stp v k = k v := rfl
theorem inb_nI {a n : Nat} (h : a < n) (hn : n < 2 ^ 31) : inb (nI a) n = true := by
  unfold inb
  rw [nI_clamp (by omega)]
  simp [h, nI_pos' (show a < 2 ^ 31 by omega)]
theorem inb_of {i : Int32} {n : Nat} (h : inb i n = true) : i = nI i.toNatClampNeg ∧ i.toNatClampNeg < n := by
  simp only [inb, Bool.and_eq_true, decide_eq_true_eq] at h
  obtain ⟨j, hj, rfl⟩ := nI_of (x := i) (Int32.not_lt.mpr h.1)
  rw [nI_clamp hj] at h ⊢
  exact ⟨rfl, h.2⟩
theorem nI_sub {a b : Nat} (h : b ≤ a) : nI a - nI b = nI (a - b) := by
  have : nI a = nI (a - b) + nI b := by rw [nI_add]; congr 1; omega
  rw [this, Int32.add_sub_cancel]
theorem i32_le {a b : Int32} : a ≤ b ↔ a.toInt ≤ b.toInt := Int32.le_iff_toInt_le
theorem i32_lt {a b : Int32} : a < b ↔ a.toInt < b.toInt := Int32.lt_iff_toInt_lt
theorem i32_eq {a b : Int32} : a = b ↔ a.toInt = b.toInt := ⟨fun h => by rw [h], Int32.toInt_inj.mp⟩
theorem nI_n1 {a : Nat} (h : a < 2 ^ 31) : ¬ nI a = -1 := by
  intro z
  have := congrArg Int32.toInt z
  rw [nI_toInt h, show (-1 : Int32).toInt = -1 from rfl] at this
  omega
theorem isB_0 : isB 0 = true := rfl
theorem isB_1 : isB 1 = true := rfl
