/-! THE PURE PART: what is read, under the relation: both sides come to the same -/
def ownOk (c : Nat) (M : Mem) : Prop := (c = 9 → M 0 14 = 1) ∧ (c = 52 → M 0 14 = 0)
theorem cs_cC {c s : Nat} (h : cs c s) : cC c := by
  rcases h with ⟨h, -⟩ | ⟨h, -⟩
  · exact Or.inl h
  · exact Or.inr h
theorem sh_s : ∀ n, n < 32 → ((nI n &&& 31).toBitVec.smod 32).toNat = n := by decide +kernel
theorem sh_nI {b x : Nat} (hb : b < 2 ^ 31) (hx : x < 32) : nI b >>> (nI x &&& 31) = nI (b / 2 ^ x) := pk_shrN hb _ x (sh_s x hx)
theorem sh_le {b x : Nat} (hb : b ≤ 255) (hx : x < 32) : nI b >>> (nI x &&& 31) ≤ 256 := by
  rw [sh_nI (by omega) hx]
  have : b / 2 ^ x ≤ b := Nat.div_le_self _ _
  exact nI_le (b := 256) (by omega) (by decide)
section TREAD
variable {c s T E : Nat} {L : List Int32} {C0 M0 C M : Mem}
theorem grp_eq (h : Mch c s T E L C0 M0 C M) {k : Nat} (hk : k < 21) (x : Int32) : grpV (C (c + 22 + k) 1) x k = grpV (M s (173 + k)) x k := by
  unfold grpV
  by_cases e : k = 20
  · rw [if_pos e, if_pos e]
  · rw [if_neg e, if_neg e, (h.rnk k hk (by omega)).eq]
theorem sub_eq (h : Mch c s T E L C0 M0 C M) {k : Nat} (hk : k < 21) (x : Int32) : subV (C (c + 22 + k) 1) x k = subV (M s (173 + k)) x k := by
  unfold subV
  by_cases e : k = 20
  · rw [if_pos e, if_pos e]
  · rw [if_neg e, if_neg e, (h.rnk k hk (by omega)).eq]
theorem les_eq (h : Mch c s T E L C0 M0 C M) {a b : Nat} (ha : a < 21) (hb : b < 21) (x : Int32) : lesC C c x a b = lesM M s x a b := by
  unfold lesC lesM
  rw [grp_eq h ha, grp_eq h hb, sub_eq h ha, sub_eq h hb]
theorem can_eq (hT : T < 2 ^ 30) (h : Mch c s T E L C0 M0 C M) {k : Nat} (hk : k < 21) (x lim : Int32) : canV C c x lim k = canM M s x lim k := by
  unfold canV canM
  rw [grp_eq h hk, (h.ena k hk).1]
  congr 2
  rcases h.pnd k hk with ⟨p1, p2⟩ | ⟨p1, q, hq, p2, p3⟩
  · rw [p1, p2]; rfl
  · rw [p1, p3]
    simp [nI_pos (show q < 2 ^ 31 by omega)]
/-- the nest's data, as the readers want them -/
theorem top_nst (h : Mch c s T E L C0 M0 C M) : ∃ (d : Nat) (nst : Nat → Nat), d ≤ 21 ∧ C c 33 = nI d ∧ M s 30 = nI d ∧ (∀ j, j < d → C (c + 6) j = nI (nst j) ∧ nst j < 21) ∧ (∀ j, j < d → M s (152 + j) = nI (nst j) ∧ nst j < 21) ∧ (∀ j, j < d → C (c + 22 + nst j) 5 = 1) ∧ (∀ i j, i < j → j < d → grpV (M s (173 + nst j)) (M 0 3) (nst j) < grpV (M s (173 + nst i)) (M 0 3) (nst i)) := by
  obtain ⟨d, nst, h1, h2, h3, h4, h5⟩ := h.nst
  exact ⟨d, nst, h1, h2, h3, fun j hj => ⟨(h4 j hj).1, (h4 j hj).2.2.1⟩, fun j hj => ⟨(h4 j hj).2.1, (h4 j hj).2.2.1⟩, fun j hj => (h4 j hj).2.2.2, h5⟩
theorem top_base (h : Mch c s T E L C0 M0 C M) : 0 ≤ M s 17 ∧ ∀ x, x < 32 → M s 17 >>> (nI x &&& 31) ≤ 256 := by
  obtain ⟨b, hb, -, e⟩ := h.bas
  rw [e]
  exact ⟨nI_pos' (by omega), fun x hx => sh_le hb hx⟩
theorem top_split (h : Mch c s T E L C0 M0 C M) : ∃ x, x ≤ 7 ∧ C c 34 = nI x ∧ M 0 3 = nI x ∧ C c 27 = nI x := by
  obtain ⟨⟨x, hx, e1, e2⟩, e3⟩ := h.spl
  exact ⟨x, hx, e1, e2, by rw [e3, e1]⟩
theorem olim_eq (h : Mch c s T E L C0 M0 C M) {d : Nat} {nst : Nat → Nat} (hn : ∀ j, j < d → M s (152 + j) = nI (nst j) ∧ nst j < 21) (x : Int32) : mnV (fun j => grpV (C (c + 22 + nst j) 1) x (nst j)) (bsV (C c 35) x) d = mnV (fun j => grpV (M s (173 + nst j)) x (nst j)) (bsV (M s 17) x) d := by
  rw [h.bas.eq]
  exact mnV_congr (fun j hj => grp_eq h (hn j hj).2 x)
theorem top_olim (hcs : cs c s) (h : Mch c s T E L C0 M0 C M) {d : Nat} {nst : Nat → Nat} (h1 : d ≤ 21) (h2 : C c 33 = nI d) (h4 : ∀ j, j < d → C (c + 6) j = nI (nst j) ∧ nst j < 21) (hn : ∀ j, j < d → M s (152 + j) = nI (nst j) ∧ nst j < 21) : fc_Core_openLimit c C = some (limM M s nst d (C c 34) 0, C) := by
  rw [fc_olim (cs_cC hcs) h2 h1 h4, olim_eq h hn]
  rfl
theorem top_lim (hcs : cs c s) (h : Mch c s T E L C0 M0 C M) {d : Nat} {nst : Nat → Nat} (h1 : d ≤ 21) (h2 : C c 33 = nI d) (h4 : ∀ j, j < d → C (c + 6) j = nI (nst j) ∧ nst j < 21) (hn : ∀ j, j < d → M s (152 + j) = nI (nst j) ∧ nst j < 21) : fc_Core_limit c C = some (limM M s nst d (C c 34) (M s 16), C) := by
  rw [fc_lim (cs_cC hcs) h2 h1 h4, olim_eq h hn, h.shu]
  rfl
theorem nxt_eq (hT : T < 2 ^ 30) (h : Mch c s T E L C0 M0 C M) (lim : Int32) : nxV (canV C c (C c 34) lim) (lesC C c (C c 27)) 21 = nxtM M s lim := by
  obtain ⟨x, hx, e1, e2, e3⟩ := top_split h
  unfold nxtM
  rw [e1, e2, e3]
  exact nxV_congr (fun j hj => can_eq hT h hj _ _) (fun a b ha hb => les_eq h ha hb _)
theorem mnV_le {f : Nat → Int32} {x : Int32} : ∀ {n j : Nat}, j < n → mnV f x n ≤ f j := by
  intro n
  induction n with
  | zero => intro j hj; omega
  | succ n ih =>
    intro j hj
    unfold mnV
    by_cases e : j = n
    · subst e
      by_cases h : mnV f x j ≤ f j
      · rw [if_pos h]; exact h
      · rw [if_neg h]; exact Int32.le_refl _
    · have := ih (j := j) (by omega)
      by_cases h : mnV f x n ≤ f n
      · rw [if_pos h]; exact this
      · rw [if_neg h]
        simp only [i32_le] at *
        omega
theorem shV_le {z x : Int32} : shV z x ≤ x := by
  unfold shV
  by_cases h : z = 1
  · rw [if_pos h]
    by_cases h2 : x ≤ 0
    · rw [if_pos h2]; exact Int32.le_refl _
    · rw [if_neg h2]
      simp only [i32_le] at *
      omega
  · rw [if_neg h]; exact Int32.le_refl _
/-- who may begin: it's pending, and ahead of all that are in the nest -/
def Elig (c s : Nat) (C M : Mem) (b : Nat) : Prop := b < 21 ∧ ¬ M s (194 + b) < 0 ∧ ∀ (d : Nat), d ≤ 21 → M s 30 = nI d → ∀ j n, j < d → n < 21 → M s (152 + j) = nI n → grpV (M s (173 + b)) (M 0 3) b < grpV (M s (173 + n)) (M 0 3) n
theorem can_elig {d : Nat} {nst : Nat → Nat} (h1 : d ≤ 21) (h3 : M s 30 = nI d) (hn : ∀ j, j < d → M s (152 + j) = nI (nst j) ∧ nst j < 21) {z : Int32} {b : Nat} (hb : b < 21) (hc : canM M s (M 0 3) (limM M s nst d (M 0 3) z) b = true) : Elig c s C M b := by
  simp only [canM, Bool.and_eq_true, decide_eq_true_eq] at hc
  obtain ⟨⟨c1, -⟩, c3⟩ := hc
  refine ⟨hb, c1, fun d' hd' e' j n hj hn' en => ?_⟩
  have hdd : d' = d := by
    rw [h3] at e'
    exact ((nI_eq (by omega) (by omega)).mp e').symm
  subst hdd
  obtain ⟨e2, e3⟩ := hn j hj
  rw [e2] at en
  have := (nI_eq (by omega) (by omega)).mp en
  subst this
  have k1 : limM M s nst d' (M 0 3) z ≤ grpV (M s (173 + nst j)) (M 0 3) (nst j) := by
    have a1 : limM M s nst d' (M 0 3) z ≤ mnV (fun j => grpV (M s (173 + nst j)) (M 0 3) (nst j)) (bsV (M s 17) (M 0 3)) d' := shV_le
    have a2 := mnV_le (f := fun j => grpV (M s (173 + nst j)) (M 0 3) (nst j)) (x := bsV (M s 17) (M 0 3)) hj
    simp only [i32_le] at *
    omega
  simp only [i32_le, i32_lt] at *
  omega
theorem top_next (hcs : cs c s) (hT : T < 2 ^ 30) (h : Mch c s T E L C0 M0 C M) : ∃ o : Option Nat, fc_Core_next c C = some (oI o, C) ∧ fm_nextOf s M = some (oI o, M) ∧ ∀ b, o = some b → Elig c s C M b := by
  obtain ⟨d, nst, h1, h2, h3, h4, hn, h5, h6⟩ := top_nst h
  obtain ⟨x, hx, e1, e2, e3⟩ := top_split h
  obtain ⟨b1, b2⟩ := top_base h
  refine ⟨nxtM M s (limM M s nst d (M 0 3) (M s 16)), ?_, fm_nxt h3 h1 hn b1 (by rw [e2]; exact b2 x (by omega)), fun b hb => ?_⟩
  · unfold fc_Core_next
    rw [top_lim hcs h h1 h2 h4 hn, bnd_s, fc_nxtB (cs_cC hcs), bnd_s, nxt_eq hT h, e1, e2]
  · obtain ⟨z1, z2⟩ := nxV_lt hb
    exact can_elig h1 h3 hn z1 z2
/-- .. below the open limit -/
theorem top_open (hcs : cs c s) (hT : T < 2 ^ 30) (h : Mch c s T E L C0 M0 C M) : ∃ (l : Int32) (o : Option Nat), fc_Core_openLimit c C = some (l, C) ∧ fc_Core_nextBelow c l C = some (oI o, C) ∧ fm_nextOf_2 s 0 M = some (oI o, M) ∧ ∀ b, o = some b → b < 21 := by
  obtain ⟨d, nst, h1, h2, h3, h4, hn, h5, h6⟩ := top_nst h
  obtain ⟨x, hx, e1, e2, e3⟩ := top_split h
  obtain ⟨b1, b2⟩ := top_base h
  refine ⟨_, nxtM M s (limM M s nst d (M 0 3) 0), top_olim hcs h h1 h2 h4 hn, ?_, fm_nxt2 h3 h1 hn b1 (by rw [e2]; exact b2 x (by omega)) rfl, fun b hb => (nxV_lt hb).1⟩
  rw [fc_nxtB (cs_cC hcs), nxt_eq hT h, e1, e2]
/-- whether a source could begin, were it pending -/
theorem top_could (hcs : cs c s) (hT : T < 2 ^ 30) (h : Mch c s T E L C0 M0 C M) : ∃ l : Int32, fc_Core_limit c C = some (l, C) ∧ ∀ k, k < 21 → fm_could s (nI k) M = some (bI (decide (¬ M 3 k = 0) && decide (¬ l ≤ grpV (M s (173 + k)) (M 0 3) k)), M) ∧ (canM M s (M 0 3) l k = true → Elig c s C M k) := by
  obtain ⟨d, nst, h1, h2, h3, h4, hn, h5, h6⟩ := top_nst h
  obtain ⟨x, hx, e1, e2, e3⟩ := top_split h
  obtain ⟨b1, b2⟩ := top_base h
  refine ⟨_, top_lim hcs h h1 h2 h4 hn, fun k hk => ⟨?_, fun hc => ?_⟩⟩
  · rw [fm_could_v hk h3 h1 hn b1 (by rw [e2]; exact b2 x (by omega)), e1, e2]
  · rw [e1, ← e2] at hc
    exact can_elig h1 h3 hn hk hc
/-- a fault's target -/
def tgV (b a : Bool) (k : Nat) (z : Int32) : Int32 := if b then nI k else if a then z else 20
theorem top_target (hcs : cs c s) (hT : T < 2 ^ 30) (h : Mch c s T E L C0 M0 C M) (h5 : ¬ C c 41 = 5) {k : Nat} (hk : k < 20) : ∃ b a : Bool, fc_Core_becoming c (nI k) C = some (tgV b a k (-2), C) ∧ fm_targetOf s (nI k) M = some (tgV b a k (-1), M) := by
  obtain ⟨l, l1, l2⟩ := top_could hcs hT h
  obtain ⟨x, hx, e1, e2, e3⟩ := top_split h
  refine ⟨decide (¬ M 3 k = 0) && decide (¬ l ≤ grpV (M s (173 + k)) (M 0 3) k), decide (¬ M s 320 = 0), ?_, ?_⟩
  · unfold fc_Core_becoming fc_Core_becoming_33 fc_Core_becoming_54 fc_Core_becoming_61 tgV
    have hact := (h.act 20 (by omega)).1
    rw [inb_nI (show k < 21 by omega) (by decide), gd_t, nI_clamp (by omega), fc_grp (cs_cC hcs) (show k < 21 by omega), bnd_s, l1, bnd_s, grp_eq h (show k < 21 by omega), (h.ena k (by omega)).1, if_neg h5, hact, e1, e2]
    by_cases q1 : M 3 k = 0
    · by_cases q3 : M s (300 + 20) = 0
      · simp [q1, q3]
      · simp [q1, q3]
    · by_cases q2 : l ≤ grpV (M s (173 + k)) (nI x) k
      · by_cases q3 : M s (300 + 20) = 0
        · simp [q1, q2, q3]
        · simp [q1, q2, q3]
      · simp [q1, q2]
  · unfold fm_targetOf fm_targetOf_27 tgV
    rw [(l2 k (by omega)).1, bnd_s]
    generalize hB : (decide (¬ M 3 k = 0) && decide (¬ l ≤ grpV (M s (173 + k)) (M 0 3) k)) = B
    cases B with
    | false =>
      by_cases q3 : M s 320 = 0
      · simp [bI, q3]
      · simp [bI, q3]
    | true => simp [bI]
end TREAD
