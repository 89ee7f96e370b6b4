/-! THE PURE PART: what is only read. The values, in words of their own; both sides come to them. -/
def grpV (r x : Int32) (k : Nat) : Int32 := if k = 20 then -1 else r >>> (x &&& 31)
def subV (r x : Int32) (k : Nat) : Int32 := if k = 20 then 0 else r - ((r >>> (x &&& 31)) <<< (x &&& 31))
def mnV (f : Nat → Int32) (x : Int32) : Nat → Int32
  | 0 => x
  | n + 1 => if mnV f x n ≤ f n then mnV f x n else f n
def shV (z x : Int32) : Int32 := if z = 1 then (if x ≤ 0 then x else 0) else x
def lesV (g u : Int32) (a b : Nat) : Int32 := if g < 0 then 1 else if g = 0 then (if u < 0 then 1 else if u = 0 then (if b ≤ a then 0 else 1) else 0) else 0
def nxV (cand : Nat → Bool) (ls : Nat → Nat → Int32) : Nat → Option Nat
  | 0 => none
  | k + 1 => match nxV cand ls k with
    | none => if cand k then some k else none
    | some b => if cand k then (if ls k b = 0 then some b else some k) else some b
def oI : Option Nat → Int32
  | none => -1
  | some b => nI b
theorem nxV_lt {cand : Nat → Bool} {ls : Nat → Nat → Int32} : ∀ {k b : Nat}, nxV cand ls k = some b → b < k ∧ cand b = true := by
  intro k
  induction k with
  | zero => intro b h; cases h
  | succ k ih =>
    intro b h
    unfold nxV at h
    cases hn : nxV cand ls k with
    | none =>
      rw [hn] at h
      simp only at h
      by_cases hc : cand k = true
      · rw [if_pos hc] at h
        cases h
        exact ⟨Nat.lt_succ_self _, hc⟩
      · rw [if_neg hc] at h
        cases h
    | some a =>
      rw [hn] at h
      simp only at h
      obtain ⟨h1, h2⟩ := ih hn
      by_cases hc : cand k = true
      · rw [if_pos hc] at h
        by_cases hl : ls k a = 0
        · rw [if_pos hl] at h
          cases h
          exact ⟨Nat.lt_succ_of_lt h1, h2⟩
        · rw [if_neg hl] at h
          cases h
          exact ⟨Nat.lt_succ_self _, hc⟩
      · rw [if_neg hc] at h
        cases h
        exact ⟨Nat.lt_succ_of_lt h1, h2⟩
theorem mnV_congr {f f' : Nat → Int32} {x : Int32} : ∀ {n : Nat}, (∀ j, j < n → f j = f' j) → mnV f x n = mnV f' x n := by
  intro n
  induction n with
  | zero => intro _; rfl
  | succ n ih =>
    intro h
    unfold mnV
    rw [ih (fun j hj => h j (Nat.lt_succ_of_lt hj)), h n (Nat.lt_succ_self n)]
theorem nxV_congr {cand cand' : Nat → Bool} {ls ls' : Nat → Nat → Int32} : ∀ {n : Nat}, (∀ j, j < n → cand j = cand' j) → (∀ a b, a < n → b < n → ls a b = ls' a b) → nxV cand ls n = nxV cand' ls' n := by
  intro n
  induction n with
  | zero => intro _ _; rfl
  | succ n ih =>
    intro h1 h2
    unfold nxV
    rw [← ih (fun j hj => h1 j (Nat.lt_succ_of_lt hj)) (fun a b ha hb => h2 a b (Nat.lt_succ_of_lt ha) (Nat.lt_succ_of_lt hb)), h1 n (Nat.lt_succ_self n)]
    cases hn : nxV cand ls n with
    | none => rfl
    | some b =>
      have := (nxV_lt hn).1
      simp only
      rw [h2 n b (Nat.lt_succ_self n) (Nat.lt_succ_of_lt this)]
theorem l_173 (k : Nat) : (173 : Int32) + nI k = nI (173 + k) := nI_add 173 k
theorem l_194 (k : Nat) : (194 : Int32) + nI k = nI (194 + k) := nI_add 194 k
theorem l_300 (k : Nat) : (300 : Int32) + nI k = nI (300 + k) := nI_add 300 k
theorem l_321 (k : Nat) : (321 : Int32) + nI k = nI (321 + k) := nI_add 321 k
theorem l_152 (k : Nat) : (152 : Int32) + nI k = nI (152 + k) := nI_add 152 k
theorem l_215 (k : Nat) : (215 : Int32) + nI k = nI (215 + k) := nI_add 215 k
theorem l_236 (k : Nat) : (236 : Int32) + nI k = nI (236 + k) := nI_add 236 k
theorem l_268 (k : Nat) : (268 : Int32) + nI k = nI (268 + k) := nI_add 268 k
theorem l_56 (k : Nat) : (56 : Int32) + nI k = nI (56 + k) := nI_add 56 k
theorem l_40 (k : Nat) : (40 : Int32) + nI k = nI (40 + k) := nI_add 40 k
theorem l_8 (k : Nat) : (8 : Int32) + nI k = nI (8 + k) := nI_add 8 k
theorem l_0 (x : Int32) : (0 : Int32) + x = x := by simp
theorem nI_20 {k : Nat} (h : k < 2 ^ 31) : (nI k = 20) ↔ k = 20 := nI_eq (b := 20) h (by decide)
/-! the component -/
theorem fc_grp {c k : Nat} {x : Int32} {C : Mem} (hc : cC c) (hk : k < 21) : fv_group (c + 22 + k) x C = some (grpV (C (c + 22 + k) 1) x k, C) := by
  unfold fv_group grpV
  rw [cS_k hc hk]
  by_cases h : k = 20
  · rw [if_pos h, if_pos h]; rfl
  · rw [if_neg h, if_neg h]; rfl
theorem fc_sub {c k : Nat} {x : Int32} {C : Mem} (hc : cC c) (hk : k < 21) : fv_sub (c + 22 + k) x C = some (subV (C (c + 22 + k) 1) x k, C) := by
  unfold fv_sub subV
  rw [cS_k hc hk]
  by_cases h : k = 20
  · rw [if_pos h, if_pos h]; rfl
  · rw [if_neg h, if_neg h]
    unfold fc_Src_sub
    rw [fc_grp hc hk, bnd_s]
    unfold grpV
    rw [if_neg h]
theorem isB_les (g u : Int32) (a b : Nat) : isB (lesV g u a b) = true := by
  unfold lesV
  repeat' split
  all_goals rfl
theorem fc_les {c a b : Nat} {x : Int32} {C : Mem} (hc : cC c) (ha : a < 21) (hb : b < 21) : fv_is (c + 22 + a) (c + 22 + b) x C = some (lesV (grpV (C (c + 22 + a) 1) x a - grpV (C (c + 22 + b) 1) x b) (subV (C (c + 22 + a) 1) x a - subV (C (c + 22 + b) 1) x b) a b, C) := by
  unfold fv_is fc_RE_lambda_by_0
  rw [fc_grp hc ha, bnd_s, fc_grp hc hb, bnd_s, fc_sub hc ha, bnd_s, fc_sub hc hb, bnd_s, cS_k hc ha, cS_k hc hb]
  unfold fc_RE_lambda_by_0_54 fc_RE_lambda_by_0_58 fc_RE_lambda_by_0_59 lesV
  simp only [nI_leI (show b < 2 ^ 31 by omega) (show a < 2 ^ 31 by omega), isB_0, isB_1, gd_t]
  repeat' split
  all_goals simp [bnd, gd, isB]
section OLIM
variable {c : Nat} {C : Mem} {d : Nat} {nst : Nat → Nat}
theorem fc_olim_loop (hc : cC c) (hd : C c 33 = nI d) (hd21 : d ≤ 21) (hn : ∀ j, j < d → C (c + 6) j = nI (nst j) ∧ nst j < 21) (x : Int32) : ∀ m n k, k + m = d → m < n → fc_Core_openLimit_25 c n (mnV (fun j => grpV (C (c + 22 + nst j) 1) (C c 34) (nst j)) x k) (nI k) C = some (mnV (fun j => grpV (C (c + 22 + nst j) 1) (C c 34) (nst j)) x d, C) := by
  intro m
  induction m with
  | zero =>
    intro n k hk hn0
    obtain ⟨n', rfl⟩ : ∃ n', n = n' + 1 := ⟨n - 1, by omega⟩
    have : k = d := by omega
    subst this
    show fc_Core_openLimit_25b c (fc_Core_openLimit_25 c n') _ (nI k) C = _
    unfold fc_Core_openLimit_25b
    rw [hd, if_pos (nI_le (Nat.le_refl _) (by omega))]
  | succ m ih =>
    intro n k hk hn0
    obtain ⟨n', rfl⟩ : ∃ n', n = n' + 1 := ⟨n - 1, by omega⟩
    show fc_Core_openLimit_25b c (fc_Core_openLimit_25 c n') _ (nI k) C = _
    obtain ⟨e1, e2⟩ := hn k (by omega)
    unfold fc_Core_openLimit_25b
    rw [hd, if_neg (nI_ge (show k < d by omega) (by omega)), inb_nI (show k < 21 by omega) (by decide), gd_t, nI_clamp (by omega), e1, inb_nI e2 (by decide), gd_t, nI_clamp (by omega), fc_grp hc e2, bnd_s]
    unfold fc_Core_openLimit_62
    rw [nI_1]
    have key := ih n' (k + 1) (by omega) (by omega)
    rw [mnV] at key
    by_cases hle : mnV (fun j => grpV (C (c + 22 + nst j) 1) (C c 34) (nst j)) x k ≤ grpV (C (c + 22 + nst k) 1) (C c 34) (nst k)
    · rw [if_pos hle] at key ⊢
      exact key
    · rw [if_neg hle] at key ⊢
      exact key
def bsV (base x : Int32) : Int32 := if base ≤ 0 then 256 else base >>> (x &&& 31)
theorem fc_olim (hc : cC c) (hd : C c 33 = nI d) (hd21 : d ≤ 21) (hn : ∀ j, j < d → C (c + 6) j = nI (nst j) ∧ nst j < 21) : fc_Core_openLimit c C = some (mnV (fun j => grpV (C (c + 22 + nst j) 1) (C c 34) (nst j)) (bsV (C c 35) (C c 34)) d, C) := by
  unfold fc_Core_openLimit fc_Core_openLimit_22 bsV
  by_cases h : C c 35 ≤ 0
  · rw [if_pos h, if_pos h]
    exact fc_olim_loop hc hd hd21 hn 256 d 600 0 (by omega) (by omega)
  · rw [if_neg h, if_neg h]
    exact fc_olim_loop hc hd hd21 hn _ d 600 0 (by omega) (by omega)
theorem fc_lim (hc : cC c) (hd : C c 33 = nI d) (hd21 : d ≤ 21) (hn : ∀ j, j < d → C (c + 6) j = nI (nst j) ∧ nst j < 21) : fc_Core_limit c C = some (shV (C c 36) (mnV (fun j => grpV (C (c + 22 + nst j) 1) (C c 34) (nst j)) (bsV (C c 35) (C c 34)) d), C) := by
  unfold fc_Core_limit fc_Core_limit_22 fc_Core_limit_21 fc_Core_limit_22 shV
  rw [fc_olim hc hd hd21 hn, bnd_s]
  repeat' split
  all_goals rfl
end OLIM
def canV (C : Mem) (c : Nat) (x lim : Int32) (k : Nat) : Bool := decide (¬ C (c + 22 + k) 4 = 0) && decide (¬ C (c + 22 + k) 3 = 0) && decide (¬ lim ≤ grpV (C (c + 22 + k) 1) x k)
def bI (b : Bool) : Int32 := if b then 1 else 0
theorem isB_bI (b : Bool) : isB (bI b) = true := by cases b <;> rfl
theorem fc_canBelow {c k : Nat} {C : Mem} {lim : Int32} (hc : cC c) (hk : k < 21) : fc_Core_canBelow c (c + 22 + k) lim C = some (bI (canV C c (C c 34) lim k), C) := by
  unfold fc_Core_canBelow fc_Core_canBelow_30 fc_Core_canBelow_31 canV bI
  rw [fc_grp hc hk, bnd_s]
  by_cases h1 : C (c + 22 + k) 4 = 0
  · simp [h1, gd, isB]
  · by_cases h2 : C (c + 22 + k) 3 = 0
    · simp [h1, h2, gd, isB]
    · by_cases h3 : lim ≤ grpV (C (c + 22 + k) 1) (C c 34) k
      · simp [h1, h2, h3, gd, isB]
      · simp [h1, h2, h3, gd, isB]
def lesC (C : Mem) (c : Nat) (x : Int32) (a b : Nat) : Int32 := lesV (grpV (C (c + 22 + a) 1) x a - grpV (C (c + 22 + b) 1) x b) (subV (C (c + 22 + a) 1) x a - subV (C (c + 22 + b) 1) x b) a b
theorem oI_neg {o : Option Nat} (h : ∀ b, o = some b → b < 2 ^ 31) : (oI o < 0) ↔ o = none := by
  cases o with
  | none => exact ⟨fun _ => rfl, fun _ => by decide⟩
  | some b => exact ⟨fun z => absurd z (nI_pos (h b rfl)), fun z => by cases z⟩
theorem fc_nxt_loop {c : Nat} {C : Mem} {lim : Int32} (hc : cC c) : ∀ m n k, k + m = 21 → m < n → fc_Core_nextBelow_4 c n lim (oI (nxV (canV C c (C c 34) lim) (lesC C c (C c 27)) k)) (nI k) C = some (oI (nxV (canV C c (C c 34) lim) (lesC C c (C c 27)) 21), C) := by
  intro m
  induction m with
  | zero =>
    intro n k hk hn0
    obtain ⟨n', rfl⟩ : ∃ n', n = n' + 1 := ⟨n - 1, by omega⟩
    have : k = 21 := by omega
    subst this
    show fc_Core_nextBelow_4b c (fc_Core_nextBelow_4 c n') lim _ (nI 21) C = _
    unfold fc_Core_nextBelow_4b fc_Core_nextBelow_68
    rw [if_pos (by decide)]
    cases hx : nxV (canV C c (C c 34) lim) (lesC C c (C c 27)) 21 with
    | none => rw [if_pos (by decide)]; rfl
    | some b =>
      have hb := (nxV_lt hx).1
      show (if nI b < 0 then _ else _) = _
      rw [if_neg (nI_pos (by omega)), show oI (some b) = nI b from rfl, inb_nI hb (by decide), gd_t, nI_clamp (by omega), cS_k hc hb]
  | succ m ih =>
    intro n k hk hn0
    obtain ⟨n', rfl⟩ : ∃ n', n = n' + 1 := ⟨n - 1, by omega⟩
    show fc_Core_nextBelow_4b c (fc_Core_nextBelow_4 c n') lim _ (nI k) C = _
    have hk21 : k < 21 := by omega
    have key := ih n' (k + 1) (by omega) (by omega)
    rw [nxV] at key
    unfold fc_Core_nextBelow_4b fc_Core_nextBelow_50 fc_Core_nextBelow_47 fc_Core_nextBelow_50
    rw [if_neg (show ¬ (21 : Int32) ≤ nI k from nI_ge (b := 21) hk21 (by decide)), inb_nI hk21 (by decide), gd_t, gd_t, nI_clamp (by omega), fc_canBelow hc hk21, bnd_s, nI_1]
    cases hcd : canV C c (C c 34) lim k with
    | false =>
      rw [hcd] at key
      rw [if_pos (by rfl)]
      cases hx : nxV (canV C c (C c 34) lim) (lesC C c (C c 27)) k with
      | none => rw [hx] at key; exact key
      | some b => rw [hx] at key; exact key
    | true =>
      rw [hcd] at key
      rw [if_neg (by decide)]
      cases hx : nxV (canV C c (C c 34) lim) (lesC C c (C c 27)) k with
      | none =>
        rw [hx] at key
        rw [if_pos (by decide), gd_t]
        exact key
      | some b =>
        rw [hx] at key
        have hb := (nxV_lt hx).1
        show (if nI b < 0 then _ else _) = _
        rw [if_neg (nI_pos (by omega)), gd_t, show oI (some b) = nI b from rfl, inb_nI (show b < 21 by omega) (by decide), gd_t, nI_clamp (by omega), fc_les hc hk21 (show b < 21 by omega), bnd_s]
        show (if lesC C c (C c 27) k b = 0 then _ else _) = _
        simp only [if_true] at key
        by_cases hl : lesC C c (C c 27) k b = 0
        · rw [if_pos hl] at key ⊢
          exact key
        · rw [if_neg hl] at key ⊢
          rw [gd_t]
          exact key
theorem fc_nxtB {c : Nat} {C : Mem} {lim : Int32} (hc : cC c) : fc_Core_nextBelow c lim C = some (oI (nxV (canV C c (C c 34) lim) (lesC C c (C c 27)) 21), C) :=
  fc_nxt_loop hc 21 600 0 (by omega) (by omega)
