/-! THE OPERATIONS on the spare: splits -/
def orL (bt : Nat → Bool) (y : Int32) (i : Nat) : Nat → Int32
  | 0 => y
  | d + 1 => orL bt (y ||| (if bt i then (1 : Int32) <<< (nI i &&& 31) else 0)) (i + 1) d
def hoL (bt : Nat → Bool) (x : Int32) : Nat → Int32
  | 0 => x
  | j + 1 => hoL bt (2 * x + (if bt j then 1 else 0)) j
theorem or_ho (bt : Nat → Bool) : orL bt 0 0 8 = hoL bt 0 8 := by
  have key : ∀ b0 b1 b2 b3 b4 b5 b6 b7 : Bool, ((((((((0 : Int32) ||| (if b0 then (1 : Int32) <<< (nI 0 &&& 31) else 0)) ||| (if b1 then (1 : Int32) <<< (nI 1 &&& 31) else 0)) ||| (if b2 then (1 : Int32) <<< (nI 2 &&& 31) else 0)) ||| (if b3 then (1 : Int32) <<< (nI 3 &&& 31) else 0)) ||| (if b4 then (1 : Int32) <<< (nI 4 &&& 31) else 0)) ||| (if b5 then (1 : Int32) <<< (nI 5 &&& 31) else 0)) ||| (if b6 then (1 : Int32) <<< (nI 6 &&& 31) else 0)) ||| (if b7 then (1 : Int32) <<< (nI 7 &&& 31) else 0) = 2 * (2 * (2 * (2 * (2 * (2 * (2 * (2 * (0 : Int32) + (if b7 then 1 else 0)) + (if b6 then 1 else 0)) + (if b5 then 1 else 0)) + (if b4 then 1 else 0)) + (if b3 then 1 else 0)) + (if b2 then 1 else 0)) + (if b1 then 1 else 0)) + (if b0 then 1 else 0) := by decide +kernel
  exact key (bt 0) (bt 1) (bt 2) (bt 3) (bt 4) (bt 5) (bt 6) (bt 7)
theorem spl_s {n : Nat} {a b e : Int32} {C : Mem} : fc_RE_splits_23 (n + 1) a b e C = fc_RE_splits_23b (fc_RE_splits_23 n) a b e C := rfl
theorem mspl_s {n : Nat} {a b e : Int32} {M : Mem} : fm_splits_22 (n + 1) a b e M = fm_splits_22b (fm_splits_22 n) a b e M := rfl
/-- is the group of k below the limit, at split x -/
def btM (M : Mem) (k d : Nat) (nst : Nat → Nat) (x : Nat) : Bool := !decide (limM M 4 nst d (nI x) (M 4 16) ≤ grpV (M 4 (173 + k)) (nI x) k)
theorem spl_loop {T E k d : Nat} {L : List Int32} {C0 M0 C M C2 : Mem} {nst : Nat → Nat} {p : Nat} (h : Top 9 4 T E L C0 M0 C M) (hk : k < 21) (hd : d ≤ 21) (n1 : C 9 33 = nI d) (n2 : ∀ j, j < d → C (9 + 6) j = nI (nst j) ∧ nst j < 21) (n3 : ∀ j, j < d → M 4 (152 + j) = nI (nst j) ∧ nst j < 21) (tk : TK p C C2) : ∀ (r n i : Nat) (y : Int32) (C' : Mem), i + r = 8 → (∀ o j, (¬ o = 52 ∨ ¬ j = 34) → C' o j = C2 o j) → ∃ C'', fc_RE_splits_23 (n + r + 1) (nI k) y (nI i) C' = some (orL (btM M k d nst) y i r, C'') ∧ (∀ o j, (¬ o = 52 ∨ ¬ j = 34) → C'' o j = C2 o j) := by
  obtain ⟨fS, f9, fo, f1, f2, f3, f4, f6, f7, f8, fs, f24, f50⟩ := tk
  intro r
  induction r with
  | zero =>
    intro n i y C' hi hC
    rw [spl_s]
    unfold fc_RE_splits_23b
    have ei : i = 8 := by omega
    subst ei
    rw [if_pos (show (7 : Int32) < nI 8 by decide)]
    exact ⟨C', rfl, hC⟩
  | succ r ih =>
    intro n i y C' hi hC
    rw [show n + (r + 1) + 1 = (n + r + 1) + 1 by omega, spl_s]
    unfold fc_RE_splits_23b fc_RE_splits_63
    have hC3 : ∀ o j, (¬ o = 52 ∨ ¬ j = 34) → up2 C' 52 34 (nI i) o j = C2 o j := fun o j z => by rw [up2_x (by omega)]; exact hC o j z
    rw [if_neg (show ¬ (7 : Int32) < nI i from nI_nlt (a := 7) (by omega) (by decide)), stp_e, inb_nI hk (by decide), gd_t, nI_clamp (show k < 2 ^ 31 by omega), fc_grp (Or.inr rfl) hk, bnd_s]
    have g33 : up2 C' 52 34 (nI i) 52 33 = nI d := by rw [hC3 _ _ (by omega), fs 33 (by omega)]; exact n1
    have g6 : ∀ j, j < d → up2 C' 52 34 (nI i) (52 + 6) j = nI (nst j) ∧ nst j < 21 := fun j hj => by
      rw [hC3 _ _ (by omega), f6 j (by omega)]; exact n2 j hj
    rw [fc_lim (Or.inr rfl) g33 hd g6, bnd_s]
    have eg : grpV (up2 C' 52 34 (nI i) (52 + 22 + k) 1) (nI i) k = grpV (M 4 (173 + k)) (nI i) k := by
      rw [hC3 _ _ (by omega), fS k 1 hk (by omega) (by omega)]
      exact grp_eq h.1 hk _
    have el : shV (up2 C' 52 34 (nI i) 52 36) (mnV (fun j => grpV (up2 C' 52 34 (nI i) (52 + 22 + nst j) 1) (up2 C' 52 34 (nI i) 52 34) (nst j)) (bsV (up2 C' 52 34 (nI i) 52 35) (up2 C' 52 34 (nI i) 52 34)) d) = limM M 4 nst d (nI i) (M 4 16) := by
      rw [up2_e, hC3 52 36 (by omega), hC3 52 35 (by omega), fs 36 (by omega), fs 35 (by omega), show C 9 36 = M 4 16 from h.shu, h.bas.eq]
      unfold limM
      refine congrArg (shV (M 4 16)) (mnV_congr (fun j hj => ?_))
      rw [hC3 _ _ (by omega), fS _ 1 (n3 j hj).2 (by omega) (by omega)]
      exact grp_eq h.1 (n3 j hj).2 _
    rw [eg, el, nI_1]
    show ∃ C'', _ = some (orL (btM M k d nst) (y ||| (if btM M k d nst i then (1 : Int32) <<< (nI i &&& 31) else 0)) (i + 1) r, C'') ∧ _
    by_cases hz : limM M 4 nst d (nI i) (M 4 16) ≤ grpV (M 4 (173 + k)) (nI i) k
    · have hb : btM M k d nst i = false := by unfold btM; rw [decide_eq_true hz]; rfl
      rw [if_pos hz, hb, if_neg (show ¬ false = true by decide)]
      exact ih n (i + 1) _ _ (by omega) hC3
    · have hb : btM M k d nst i = true := by unfold btM; rw [decide_eq_false hz]; rfl
      rw [if_neg hz, hb, if_pos rfl]
      exact ih n (i + 1) _ _ (by omega) hC3
