/-! WAYS THROUGH THE CODE: the graph of the places, walks in it, the dearest of them -/
def gL (v : Nat) : Nat := ([0, 3, 3, 3, 3, 3, 3, 3, 3, 2, 2, 3, 3, 3, 2, 2, 2, 2, 1, 1, 3, 3, 3, 3, 3, 3, 2, 2, 3, 3] : List Nat).getD v 0
def gY (v : Nat) : Nat := ([0, 1, 1, 1, 2, 4, 1, 1, 1, 1, 1, 1, 1, 1, 1, 1, 1, 1, 1, 1, 1, 2, 3, 1, 1, 1, 1, 1, 1, 1] : List Nat).getD v 0
def gP (v : Nat) : Int := if v = 9 then 1 else if v = 10 then -1 else 0
def gOk (v : Nat) : Prop := 1 ≤ v ∧ v ≤ 29 ∧ ¬ v = 19
def gW (v : Nat) : Nat := if v = 18 then 0 else if v = 12 ∨ v = 13 then 2 else 1
def gT (K : Nat → Nat) (p w : Nat) : Nat := if K p = 11 ∨ w = 1 then (256 * K ((p + 1) % 512) + K ((p + 2) % 512)) % 512 else (p + gL (K p)) % 512
def gE (K : Nat → Nat) (p q : Nat) : Prop := ∃ w, w < gW (K p) ∧ gT K p w = q
theorem gT_lt {K : Nat → Nat} {p w : Nat} : gT K p w < 512 := by
  unfold gT
  split <;> exact Nat.mod_lt _ (by decide)
theorem gE_lt {K : Nat → Nat} {p q : Nat} (h : gE K p q) : q < 512 := by
  obtain ⟨w, -, rfl⟩ := h
  exact gT_lt
theorem gW_le {v : Nat} : gW v ≤ 2 := by
  unfold gW
  split
  · decide
  · split <;> decide
theorem gY_b : ∀ v, v < 30 → 1 ≤ v → 1 ≤ gY v ∧ gY v ≤ 4 := by decide +kernel
theorem gL_b : ∀ v, v < 30 → gL v ≤ 3 := by decide +kernel
def wk (K : Nat → Nat) : Nat → Nat → Nat → Prop
  | 0, s, p => s = p
  | n + 1, s, p => ∃ q, wk K n s q ∧ gE K q p
def pw (K : Nat → Nat) (f : Nat → Int) : Nat → Nat → Nat → Int → Prop
  | 0, s, p, x => s = p ∧ x = f s
  | n + 1, s, p, x => ∃ q y, pw K f n s q y ∧ gE K q p ∧ x = y + f p
def Best (K : Nat → Nat) (f : Nat → Int) (s : Nat) (v : Int) : Prop := 0 ≤ v ∧ (∀ n p x, pw K f n s p x → x ≤ v) ∧ (v = 0 ∨ ∃ n p, pw K f n s p v)
def Bad (K : Nat → Nat) (s : Nat) : Prop := (∃ n p, wk K n s p ∧ ¬ gOk (K p)) ∨ ∃ n p m, wk K n s p ∧ wk K (m + 1) p p
theorem Best.eq {K : Nat → Nat} {f : Nat → Int} {s : Nat} {v w : Int} (a : Best K f s v) (b : Best K f s w) : v = w := by
  obtain ⟨a1, a2, a3⟩ := a
  obtain ⟨b1, b2, b3⟩ := b
  have h1 : v ≤ w := by
    rcases a3 with a3 | ⟨n, p, a3⟩
    · omega
    · exact b2 n p v a3
  have h2 : w ≤ v := by
    rcases b3 with b3 | ⟨n, p, b3⟩
    · omega
    · exact a2 n p w b3
  omega
theorem wk_cons {K : Nat → Nat} : ∀ {n s p : Nat}, wk K (n + 1) s p ↔ ∃ q, gE K s q ∧ wk K n q p := by
  intro n
  induction n with
  | zero =>
    intro s p
    constructor
    · rintro ⟨q, h1, h2⟩
      have h1 : s = q := h1
      subst h1
      exact ⟨p, h2, rfl⟩
    · rintro ⟨q, h1, h2⟩
      have h2 : q = p := h2
      subst h2
      exact ⟨s, rfl, h1⟩
  | succ n ih =>
    intro s p
    constructor
    · rintro ⟨q, h1, h2⟩
      obtain ⟨r, h3, h4⟩ := ih.mp h1
      exact ⟨r, h3, q, h4, h2⟩
    · rintro ⟨r, h3, q, h4, h2⟩
      exact ⟨q, ih.mpr ⟨r, h3, h4⟩, h2⟩
theorem pw_cons {K : Nat → Nat} {f : Nat → Int} : ∀ {n s p : Nat} {x : Int}, pw K f (n + 1) s p x ↔ ∃ q y, gE K s q ∧ pw K f n q p y ∧ x = f s + y := by
  intro n
  induction n with
  | zero =>
    intro s p x
    constructor
    · rintro ⟨q, y, h1, h2, h3⟩
      obtain ⟨h4, h5⟩ := h1
      subst h4
      exact ⟨p, f p, h2, ⟨rfl, rfl⟩, by omega⟩
    · rintro ⟨q, y, h1, h2, h3⟩
      obtain ⟨h4, h5⟩ := h2
      subst h4
      exact ⟨s, f s, ⟨rfl, rfl⟩, h1, by omega⟩
  | succ n ih =>
    intro s p x
    constructor
    · rintro ⟨q, y, h1, h2, h3⟩
      obtain ⟨r, z, h4, h5, h6⟩ := ih.mp h1
      exact ⟨r, z + f p, h4, ⟨q, z, h5, h2, rfl⟩, by omega⟩
    · rintro ⟨r, z, h4, ⟨q, y, h5, h2, h7⟩, h6⟩
      exact ⟨q, f s + y, ih.mpr ⟨r, y, h4, h5, rfl⟩, h2, by omega⟩
theorem wk_trans {K : Nat → Nat} : ∀ {m n s p q : Nat}, wk K n s p → wk K m p q → wk K (n + m) s q := by
  intro m
  induction m with
  | zero =>
    intro n s p q h1 h2
    have h2 : p = q := h2
    subst h2
    exact h1
  | succ m ih =>
    intro n s p q h1 h2
    obtain ⟨r, h3, h4⟩ := h2
    exact ⟨r, ih h1 h3, h4⟩
theorem pw_wk {K : Nat → Nat} {f : Nat → Int} : ∀ {n s p : Nat} {x : Int}, pw K f n s p x → wk K n s p := by
  intro n
  induction n with
  | zero => intro s p x h; exact h.1
  | succ n ih =>
    intro s p x h
    obtain ⟨q, y, h1, h2, -⟩ := h
    exact ⟨q, ih h1, h2⟩
/-- the most of the first n -/
def mx (a : Nat → Nat) : Nat → Nat
  | 0 => 0
  | n + 1 => if a n ≤ mx a n then mx a n else a n
theorem mx_ge {a : Nat → Nat} : ∀ {n i : Nat}, i < n → a i ≤ mx a n := by
  intro n
  induction n with
  | zero => intro i h; omega
  | succ n ih =>
    intro i h
    unfold mx
    by_cases e : i = n
    · subst e
      split
      · assumption
      · exact Nat.le_refl _
    · have := ih (i := i) (by omega)
      split
      · exact this
      · omega
theorem mx_at {a : Nat → Nat} : ∀ {n : Nat}, mx a n = 0 ∨ ∃ i, i < n ∧ a i = mx a n := by
  intro n
  induction n with
  | zero => exact Or.inl rfl
  | succ n ih =>
    unfold mx
    split
    · rcases ih with h | ⟨i, h1, h2⟩
      · exact Or.inl h
      · exact Or.inr ⟨i, by omega, h2⟩
    · exact Or.inr ⟨n, by omega, rfl⟩
theorem mx_le {a : Nat → Nat} {b : Nat} : ∀ {n : Nat}, (∀ i, i < n → a i ≤ b) → mx a n ≤ b := by
  intro n
  induction n with
  | zero => intro _; exact Nat.zero_le _
  | succ n ih =>
    intro h
    unfold mx
    split
    · exact ih (fun i hi => h i (by omega))
    · exact h n (by omega)
/-- the best from a place, by the best from those that come next -/
theorem best_step {K : Nat → Nat} {f : Nat → Int} {p : Nat} {c : Nat → Nat} (h : ∀ w, w < gW (K p) → Best K f (gT K p w) (c w)) {v : Nat} (hv : (v : Int) = if ((mx c (gW (K p)) : Nat) : Int) + f p ≤ 0 then 0 else ((mx c (gW (K p)) : Nat) : Int) + f p) : Best K f p v := by
  refine ⟨Int.natCast_nonneg v, ?_, ?_⟩
  · intro n q x hx
    have hb : x ≤ ((mx c (gW (K p)) : Nat) : Int) + f p := by
      cases n with
      | zero =>
        obtain ⟨-, e⟩ := hx
        omega
      | succ n =>
        obtain ⟨r, y, ⟨w, hw, hr⟩, h2, h3⟩ := pw_cons.mp hx
        subst hr
        have h4 := (h w hw).2.1 n q y h2
        have h5 := mx_ge (a := c) hw
        omega
    rw [hv]
    split <;> omega
  · rw [hv]
    split
    · exact Or.inl rfl
    · rename_i hn
      right
      rcases mx_at (a := c) (n := gW (K p)) with h0 | ⟨w, hw, hc⟩
      · rw [h0] at hn ⊢
        exact ⟨0, p, rfl, by omega⟩
      · rcases (h w hw).2.2 with h1 | ⟨n, q, h1⟩
        · rw [← hc]
          exact ⟨0, p, rfl, by omega⟩
        · rw [← hc]
          exact ⟨n + 1, q, pw_cons.mpr ⟨_, _, ⟨w, hw, rfl⟩, h1, by omega⟩⟩
/-! sums -/
def sm (f : Nat → Nat) : Nat → Nat
  | 0 => 0
  | n + 1 => sm f n + f n
theorem sm_congr {f g : Nat → Nat} : ∀ {n : Nat}, (∀ i, i < n → g i = f i) → sm g n = sm f n := by
  intro n
  induction n with
  | zero => intro _; rfl
  | succ n ih =>
    intro h
    show sm g n + g n = sm f n + f n
    rw [ih (fun i hi => h i (by omega)), h n (by omega)]
theorem sm_up {f g : Nat → Nat} {j : Nat} : ∀ {n : Nat}, j < n → (∀ i, i < n → ¬ i = j → g i = f i) → sm g n + f j = sm f n + g j := by
  intro n
  induction n with
  | zero => intro h; omega
  | succ n ih =>
    intro hj h
    show sm g n + g n + f j = sm f n + f n + g j
    by_cases e : j = n
    · subst e
      rw [sm_congr (f := f) (g := g) (fun i hi => h i (by omega) (by omega))]
      omega
    · have h1 := ih (by omega) (fun i hi hn => h i (by omega) hn)
      have h2 := h n (by omega) (by omega)
      omega
theorem sm_le {f : Nat → Nat} {c : Nat} : ∀ {n : Nat}, (∀ i, i < n → f i ≤ c) → sm f n ≤ n * c := by
  intro n
  induction n with
  | zero => intro _; exact Nat.zero_le _
  | succ n ih =>
    intro h
    have h1 := ih (fun i hi => h i (by omega))
    have h2 := h n (by omega)
    show sm f n + f n ≤ (n + 1) * c
    rw [Nat.succ_mul]
    omega
theorem sm_ge {f : Nat → Nat} {j : Nat} : ∀ {n : Nat}, j < n → f j ≤ sm f n := by
  intro n
  induction n with
  | zero => intro h; omega
  | succ n ih =>
    intro h
    show f j ≤ sm f n + f n
    by_cases e : j = n
    · subst e; omega
    · have := ih (by omega)
      omega
theorem sm_pos {f : Nat → Nat} : ∀ {n : Nat}, 0 < sm f n → ∃ i, i < n ∧ 0 < f i := by
  intro n
  induction n with
  | zero => intro h; exact absurd (show 0 < 0 from h) (by decide)
  | succ n ih =>
    intro h
    have h : 0 < sm f n + f n := h
    by_cases e : 0 < f n
    · exact ⟨n, by omega, e⟩
    · obtain ⟨i, h1, h2⟩ := ih (by omega)
      exact ⟨i, by omega, h2⟩
theorem sm_lt {f : Nat → Nat} {j n : Nat} (hj : j < n) (h0 : f j = 0) (h : ∀ i, i < n → f i ≤ 1) : sm f n < n := by
  have h1 := sm_up (f := f) (g := fun i => if i = j then 1 else f i) hj (fun i _ hn => if_neg hn)
  have h2 := sm_le (f := fun i => if i = j then 1 else f i) (c := 1) (n := n) (fun i hi => by
    show (if i = j then 1 else f i) ≤ 1
    split
    · exact Nat.le_refl _
    · exact h i hi)
  simp only [if_true] at h1
  omega
theorem sm_zero {f : Nat → Nat} {n : Nat} (h : ∀ i, i < n → f i = 0) : sm f n = 0 := by
  have := sm_le (f := f) (c := 0) (n := n) (fun i hi => by rw [h i hi]; exact Nat.le_refl _)
  omega
/-- two of n + 1 that come to the same of n -/
theorem pigeon : ∀ (n : Nat) (f : Nat → Nat), (∀ i, i ≤ n → f i < n) → ∃ i j, i < j ∧ j ≤ n ∧ f i = f j := by
  intro n
  induction n with
  | zero =>
    intro f h
    exact absurd (h 0 (Nat.le_refl _)) (Nat.not_lt_zero _)
  | succ n ih =>
    intro f h
    by_cases hx : ∃ i, i ≤ n ∧ f i = f (n + 1)
    · obtain ⟨i, h1, h2⟩ := hx
      exact ⟨i, n + 1, by omega, Nat.le_refl _, h2⟩
    · have hn : ∀ i, i ≤ n → ¬ f i = f (n + 1) := fun i h1 h2 => hx ⟨i, h1, h2⟩
      obtain ⟨i, j, h1, h2, h3⟩ := ih (fun i => if f i = n then f (n + 1) else f i) (fun i hi => by
        show (if f i = n then f (n + 1) else f i) < n
        have h4 := h i (by omega)
        have h5 := h (n + 1) (Nat.le_refl _)
        have h6 := hn i hi
        split
        · omega
        · omega)
      have a1 := hn i (by omega)
      have a2 := hn j (by omega)
      refine ⟨i, j, h1, by omega, ?_⟩
      have h3 : (if f i = n then f (n + 1) else f i) = (if f j = n then f (n + 1) else f j) := h3
      by_cases e1 : f i = n
      · by_cases e2 : f j = n
        · rw [e1, e2]
        · rw [if_pos e1, if_neg e2] at h3
          exact absurd h3.symm a2
      · by_cases e2 : f j = n
        · rw [if_neg e1, if_pos e2] at h3
          exact absurd h3 a1
        · rw [if_neg e1, if_neg e2] at h3
          exact h3
/-! what the code's bytes say, on both sides -/
def CodeC (K : Nat → Nat) (C : Mem) : Prop := ∀ j, j < 512 → K j < 256 ∧ C 2 j &&& 255 = nI (K j)
def CodeM (K : Nat → Nat) (M : Mem) : Prop := ∀ j, j < 512 → K j < 256 ∧ M 1 j = nI (K j)
theorem at_v {K : Nat → Nat} {C : Mem} (h : CodeC K C) {a : Nat} (ha : a < 2 ^ 31) : fc_Code_at (nI a) C = some (nI (K (a % 512)), C) := by
  unfold fc_Code_at
  rw [and511 (by omega), inb_nI (show a % 512 < 512 from Nat.mod_lt _ (by decide)) (by decide), gd_t, nI_clamp (by omega), (h (a % 512) (Nat.mod_lt _ (by decide))).2]
theorem op_v {K : Nat → Nat} {C : Mem} (h : CodeC K C) {p : Nat} (hp : p < 512) : fc_Code_op (nI p) C = some (if 1 ≤ K p ∧ K p ≤ 29 then nI (K p) else 0, C) := by
  have h1 := at_v h (a := p) (by omega)
  rw [Nat.mod_eq_of_lt hp] at h1
  exact code_op (h p hp).1 h1
theorem o_goesOn_v : ∀ v, v < 30 → ∀ C : Mem, fv_o_goesOn (nI v) C = some (if v = 11 ∨ v = 18 then 0 else 1, C) := by
  intro v hv C
  have e1 : (nI v = 11) = (v = 11) := propext (nI_eq (b := 11) (by omega) (by decide))
  have e2 : (nI v = 18) = (v = 18) := propext (nI_eq (b := 18) (by omega) (by decide))
  unfold fv_o_goesOn fc_Op11_goesOn fc_Op18_goesOn fc_Op_goesOn
  simp only [e1, e2]
  by_cases h1 : v = 11
  · rw [if_pos h1, if_pos (Or.inl h1)]
  · by_cases h2 : v = 18
    · rw [if_neg h1, if_pos h2, if_pos (Or.inr h2)]
    · rw [if_neg h1, if_neg h2, if_neg (by omega)]
theorem o_jumps_v : ∀ v, v < 30 → ∀ C : Mem, fv_o_jumps (nI v) C = some (if v = 11 ∨ v = 12 ∨ v = 13 then 1 else 0, C) := by
  intro v hv C
  have e1 : (nI v = 11) = (v = 11) := propext (nI_eq (b := 11) (by omega) (by decide))
  have e2 : (nI v = 12) = (v = 12) := propext (nI_eq (b := 12) (by omega) (by decide))
  have e3 : (nI v = 13) = (v = 13) := propext (nI_eq (b := 13) (by omega) (by decide))
  unfold fv_o_jumps fc_Op11_jumps fc_Op12_jumps fc_Op13_jumps fc_Op_jumps
  simp only [e1, e2, e3]
  by_cases h1 : v = 11
  · rw [if_pos h1, if_pos (Or.inl h1)]
  · by_cases h2 : v = 12
    · rw [if_neg h1, if_pos h2, if_pos (Or.inr (Or.inl h2))]
    · by_cases h3 : v = 13
      · rw [if_neg h1, if_neg h2, if_pos h3, if_pos (Or.inr (Or.inr h3))]
      · rw [if_neg h1, if_neg h2, if_neg h3, if_neg (by omega)]
theorem o_stops_v : ∀ v, v < 30 → ∀ C : Mem, fv_o_stops (nI v) C = some (if v = 19 then 1 else 0, C) := by
  intro v hv C
  have e1 : (nI v = 19) = (v = 19) := propext (nI_eq (b := 19) (by omega) (by decide))
  unfold fv_o_stops fc_Op19_stops fc_Op_stops
  simp only [e1]
  by_cases h1 : v = 19
  · rw [if_pos h1, if_pos h1]
  · rw [if_neg h1, if_neg h1]
theorem o_pushes_v : ∀ v, v < 30 → ∀ C : Mem, fv_o_pushes (nI v) C = some (if v = 9 then 1 else if v = 10 then -1 else 0, C) := by
  intro v hv C
  have e1 : (nI v = 9) = (v = 9) := propext (nI_eq (b := 9) (by omega) (by decide))
  have e2 : (nI v = 10) = (v = 10) := propext (nI_eq (b := 10) (by omega) (by decide))
  unfold fv_o_pushes fc_Op9_pushes fc_Op10_pushes fc_Op_pushes
  simp only [e1, e2]
  by_cases h1 : v = 9
  · rw [if_pos h1, if_pos h1]
  · by_cases h2 : v = 10
    · rw [if_neg h1, if_pos h2, if_neg h1, if_pos h2]
    · rw [if_neg h1, if_neg h2, if_neg h1, if_neg h2]
theorem o_ways_v : ∀ v, v < 30 → ∀ C : Mem, fv_o_ways (nI v) C = some (nI (gW v), C) := by
  intro v hv C
  unfold fv_o_ways fc_Op_ways fc_Op_ways_12 fc_Op_ways_24 gW
  rw [o_goesOn_v v hv, bnd_s]
  simp only [o_jumps_v v hv, bnd_s]
  by_cases h1 : v = 11
  · subst h1; rfl
  · by_cases h2 : v = 18
    · subst h2; rfl
    · by_cases h3 : v = 12
      · subst h3; rfl
      · by_cases h4 : v = 13
        · subst h4; rfl
        · rw [if_neg (show ¬ (v = 11 ∨ v = 18) by omega), if_neg (show ¬ (v = 11 ∨ v = 12 ∨ v = 13) by omega), if_neg h2, if_neg (show ¬ (v = 12 ∨ v = 13) by omega)]
          rfl
theorem opL_v : ∀ v, v < 30 → 1 ≤ v → opL.getD (v - 1) 0 = nI (gL v) := by decide +kernel
theorem opY_v : ∀ v, v < 30 → 1 ≤ v → opY.getD (v - 1) 0 = nI (gY v) := by decide +kernel
theorem mLong_v : ∀ v, v < 30 → mLong v = nI (gL v) := by decide +kernel
theorem mTakes_v : ∀ v, v < 30 → mTakes v = nI (gY v) := by decide +kernel
theorem target_v {K : Nat → Nat} {C : Mem} (h : CodeC K C) {p : Nat} (hp : p < 512) : (bnd (fc_Code_at (nI p + 1) C) fun r2 C2 => bnd (fc_Code_at (nI p + 2) C2) fun r3 C3 => bnd (fc_Op_target r2 r3 C3) fun r4 C4 => fc_Code_next_59 r4 C4) = some (nI ((256 * K ((p + 1) % 512) + K ((p + 2) % 512)) % 512), C) := by
  have b1 := (h ((p + 1) % 512) (Nat.mod_lt _ (by decide))).1
  have b2 := (h ((p + 2) % 512) (Nat.mod_lt _ (by decide))).1
  rw [nI_1, show nI p + 2 = nI (p + 2) from nI_add p 2, at_v h (show p + 1 < 2 ^ 31 by omega), bnd_s, at_v h (show p + 2 < 2 ^ 31 by omega), bnd_s]
  unfold fc_Op_target fc_Code_next_59
  rw [bnd_s, mul256, nI_add, and511 (by omega)]
theorem next_v {K : Nat → Nat} {C : Mem} (h : CodeC K C) {p w : Nat} (hp : p < 512) (ho : gOk (K p)) (hw : w < gW (K p)) : fc_Code_next (nI p) (nI w) C = some (nI (gT K p w), C) := by
  obtain ⟨o1, o2, o3⟩ := ho
  unfold fc_Code_next fc_Code_next_21
  rw [op_v h hp, if_pos ⟨o1, o2⟩, bnd_s, inO_nI o1 o2, gd_t, o_goesOn_v (K p) (by omega), bnd_s]
  unfold fc_Code_next_22
  rw [target_v h hp, if_pos rfl]
  unfold gW at hw
  unfold gT
  by_cases h1 : K p = 11
  · rw [if_pos (Or.inl h1), if_pos rfl, if_pos (Or.inl h1)]
  · have h18 : ¬ K p = 18 := fun z => by rw [if_pos z] at hw; omega
    rw [if_neg h18] at hw
    rw [if_neg (show ¬ (K p = 11 ∨ K p = 18) by omega), if_neg (show ¬ (1 : Int32) = 0 by decide), if_neg (show ¬ (1 : Int32) = 0 by decide), inO_nI o1 o2, gd_t]
    by_cases h2 : w = 0
    · subst h2
      rw [if_pos (show nI 0 = 0 from rfl), if_neg (show ¬ (K p = 11 ∨ 0 = 1) by omega), nI_clamp (show K p < 2 ^ 31 by omega), opL_v (K p) (by omega) o1, nI_add]
      unfold fc_Code_next_59
      have := gL_b (K p) (by omega)
      rw [and511 (by omega)]
    · have hw1 : w = 1 := by
        split at hw <;> omega
      subst hw1
      rw [if_neg (show ¬ nI 1 = 0 by decide), if_pos (Or.inr rfl)]
