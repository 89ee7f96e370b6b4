/-! THE OPERATIONS: room -/
theorem shr_v : ∀ p, p < 256 → ∀ v, v < 8 → (nI p : Int32) >>> (nI v &&& 31) = nI (p >>> v) := by decide +kernel
theorem shr_le : ∀ p, p < 256 → ∀ v, v < 8 → p >>> v < 256 := by decide +kernel
section ROOMN
variable (e : Nat → Bool) (gi v : Nat → Nat)
/-- the most of a group among the first, plus one; the most *-/
def mo : Nat → Nat → Nat
  | 0, _ => 0
  | n + 1, g => if e n = true ∧ gi n = g then (if v n + 1 ≤ mo n g then mo n g else v n + 1) else mo n g
def be : Nat → Nat → Nat
  | 0, _ => 0
  | n + 1, g => if e n = true ∧ gi n = g then (if v n ≤ be n g then be n g else v n) else be n g
variable {e gi v}
theorem mo_s {n g : Nat} : mo e gi v (n + 1) g = if e n = true ∧ gi n = g then (if v n + 1 ≤ mo e gi v n g then mo e gi v n g else v n + 1) else mo e gi v n g := rfl
theorem be_s {n g : Nat} : be e gi v (n + 1) g = if e n = true ∧ gi n = g then (if v n ≤ be e gi v n g then be e gi v n g else v n) else be e gi v n g := rfl
theorem mo_be : ∀ n g, (mo e gi v n g = 0 ∧ be e gi v n g = 0) ∨ mo e gi v n g = be e gi v n g + 1 := by
  intro n
  induction n with
  | zero => intro g; exact Or.inl ⟨rfl, rfl⟩
  | succ n ih =>
    intro g
    have := ih g
    rw [mo_s, be_s]
    by_cases h : e n = true ∧ gi n = g
    · rw [if_pos h, if_pos h]
      split <;> split <;> omega
    · rw [if_neg h, if_neg h]
      exact this
theorem be_le {b : Nat} (hv : ∀ k, k < 21 → v k ≤ b) : ∀ n g, n ≤ 21 → be e gi v n g ≤ b := by
  intro n
  induction n with
  | zero => intro g _; exact Nat.zero_le _
  | succ n ih =>
    intro g hn
    have h1 := ih g (by omega)
    have h2 := hv n (by omega)
    rw [be_s]
    split
    · split <;> omega
    · exact h1
theorem mo_first {W : Nat → Nat} : ∀ n, (∀ k, k < n → gi k < 257) → sm (fun g => if mo e gi v n g = 0 then 0 else W g) 257 = sm (fun k => if e k = true ∧ mo e gi v k (gi k) = 0 then W (gi k) else 0) n := by
  intro n
  induction n with
  | zero => intro _; exact sm_zero (fun _ _ => if_pos rfl)
  | succ n ih =>
    intro hg
    have h0 := ih (fun k hk => hg k (by omega))
    show _ = sm _ n + (if e n = true ∧ mo e gi v n (gi n) = 0 then W (gi n) else 0)
    by_cases he : e n = true
    · have hu := sm_up (f := fun g => if mo e gi v n g = 0 then 0 else W g) (g := fun g => if mo e gi v (n + 1) g = 0 then 0 else W g) (j := gi n) (n := 257) (hg n (by omega)) (fun i _ hi => by
        show (if mo e gi v (n + 1) i = 0 then 0 else W i) = (if mo e gi v n i = 0 then 0 else W i)
        rw [mo_s, if_neg (show ¬ (e n = true ∧ gi n = i) from fun z => hi z.2.symm)])
      have hn : ¬ mo e gi v (n + 1) (gi n) = 0 := by
        rw [mo_s, if_pos ⟨he, rfl⟩]
        split <;> omega
      have hu : sm (fun g => if mo e gi v (n + 1) g = 0 then 0 else W g) 257 + (if mo e gi v n (gi n) = 0 then 0 else W (gi n)) = sm (fun g => if mo e gi v n g = 0 then 0 else W g) 257 + (if mo e gi v (n + 1) (gi n) = 0 then 0 else W (gi n)) := hu
      rw [if_neg hn] at hu
      by_cases hz : mo e gi v n (gi n) = 0
      · rw [if_pos hz] at hu
        rw [if_pos ⟨he, hz⟩]
        omega
      · rw [if_neg hz] at hu
        rw [if_neg (fun z => hz z.2)]
        omega
    · have hm : (fun g => if mo e gi v (n + 1) g = 0 then 0 else W g) = (fun g => if mo e gi v n g = 0 then 0 else W g) := by
        funext g
        rw [mo_s, if_neg (show ¬ (e n = true ∧ gi n = g) from fun z => he z.1)]
      rw [hm, if_neg (fun z => he z.1), Nat.add_zero]
      exact h0
end ROOMN
def fF (x1 : Int32) : Nat := if x1 = 0 then 6 else 10
def fR (x1 : Int32) (R : Nat → Nat) (g : Nat) : Nat := if R g = 0 then 0 else R g - 1 + fF x1
theorem fF_le {x1 : Int32} : fF x1 ≤ 10 := by
  unfold fF
  split <;> decide
theorem rmB_v {x1 : Int32} {r : Nat → Int32} {C : Mem} {R : Nat → Nat} (hr : ∀ g, g < 257 → r g = nI (R g) ∧ R g ≤ 4097) : ∀ d n j, j + d = 257 → rmB x1 r C (n + d + 1) (nI (sm (fR x1 R) j)) (nI j) = some (nI (sm (fR x1 R) 257), C) := by
  intro d
  induction d with
  | zero =>
    intro n j hj
    have ej : j = 257 := by omega
    subst ej
    rw [show n + 0 + 1 = n + 1 from rfl, rmB_s, if_pos (show (256 : Int32) < nI 257 by decide)]
  | succ d ih =>
    intro n j hj
    obtain ⟨r1, r2⟩ := hr j (by omega)
    have h := ih n (j + 1) (by omega)
    have es : sm (fR x1 R) (j + 1) = sm (fR x1 R) j + fR x1 R j := rfl
    rw [show n + (d + 1) + 1 = (n + d + 1) + 1 by omega, rmB_s, if_neg (show ¬ (256 : Int32) < nI j from nI_nlt (a := 256) (b := j) (by omega) (by decide)), inb_nI (show j < 257 by omega) (by decide), gd_t, nI_clamp (show j < 2 ^ 31 by omega), r1, nI_1]
    by_cases hz : R j = 0
    · have ef : fR x1 R j = 0 := if_pos hz
      rw [hz, if_pos (show nI 0 = 0 from rfl), Int32.add_zero]
      rw [es, ef, Nat.add_zero] at h
      exact h
    · have ef : fR x1 R j = R j - 1 + fF x1 := if_neg hz
      rw [if_neg (show ¬ nI (R j) = 0 from fun z => hz ((nI_eq (b := 0) (by omega) (by decide)).mp z)), s_1 (by omega)]
      rw [es, ef] at h
      by_cases hx : x1 = 0
      · have e6 : fF x1 = 6 := if_pos hx
        rw [if_pos hx, show nI (R j - 1) + 6 = nI (R j - 1 + 6) from nI_add _ 6, nI_add]
        rw [e6] at h
        exact h
      · have e6 : fF x1 = 10 := if_neg hx
        rw [if_neg hx, show nI (R j - 1) + 10 = nI (R j - 1 + 10) from nI_add _ 10, nI_add]
        rw [e6] at h
        exact h
/-- what both sides hold of the sources -/
def FrC (C0 C : Mem) : Prop := ∀ o k, (o < 4 ∨ 8 < o) → C o k = C0 o k
def FrM (M0 M : Mem) : Prop := ∀ o j, (o < 13 ∨ 17 < o) → (¬ o = 0 ∨ (¬ j = 23 ∧ ¬ j = 24)) → M o j = M0 o j
def RmH (C0 M0 : Mem) (e : Nat → Bool) (gi v : Nat → Nat) (bad : Nat → Prop) : Prop := (∀ k, k < 21 → (C0 (9 + 22 + k) 3 = 0 ↔ e k = false)) ∧ (∀ k, k < 21 → (M0 3 k = 0 ↔ e k = false)) ∧ (∀ k, k < 21 → grpV (C0 (9 + 22 + k) 1) (C0 9 34) k + 1 = nI (gi k)) ∧ (∀ k, k < 21 → grpV (M0 4 (173 + k)) (M0 0 3) k + 1 = nI (gi k)) ∧ (∀ k, k < 21 → gi k < 257) ∧ (∀ k, k < 21 → v k ≤ 4096) ∧ (∀ k, k < 21 → ∀ C, FrC C0 C → ∃ r C', fc_RE_pushes (nI k) C = some (r, C') ∧ FrC C0 C' ∧ ((r = -1 ∧ bad k) ∨ (r = nI (v k) ∧ ¬ bad k))) ∧ (∀ k, k < 21 → ∀ M, FrM M0 M → ∃ r M', fm_walks (M 2 k) M = some (r, M') ∧ FrM M0 M' ∧ ((r = 0 ∧ bad k) ∨ (r = 1 ∧ M' 0 24 = nI (v k) ∧ ¬ bad k)))
theorem RmH.eC {C0 M0 : Mem} {e : Nat → Bool} {gi v : Nat → Nat} {bad : Nat → Prop} (H : RmH C0 M0 e gi v bad) : ∀ k, k < 21 → (C0 (9 + 22 + k) 3 = 0 ↔ e k = false) := H.1
theorem RmH.eM {C0 M0 : Mem} {e : Nat → Bool} {gi v : Nat → Nat} {bad : Nat → Prop} (H : RmH C0 M0 e gi v bad) : ∀ k, k < 21 → (M0 3 k = 0 ↔ e k = false) := H.2.1
theorem RmH.gC {C0 M0 : Mem} {e : Nat → Bool} {gi v : Nat → Nat} {bad : Nat → Prop} (H : RmH C0 M0 e gi v bad) : ∀ k, k < 21 → grpV (C0 (9 + 22 + k) 1) (C0 9 34) k + 1 = nI (gi k) := H.2.2.1
theorem RmH.gM {C0 M0 : Mem} {e : Nat → Bool} {gi v : Nat → Nat} {bad : Nat → Prop} (H : RmH C0 M0 e gi v bad) : ∀ k, k < 21 → grpV (M0 4 (173 + k)) (M0 0 3) k + 1 = nI (gi k) := H.2.2.2.1
theorem RmH.gl {C0 M0 : Mem} {e : Nat → Bool} {gi v : Nat → Nat} {bad : Nat → Prop} (H : RmH C0 M0 e gi v bad) : ∀ k, k < 21 → gi k < 257 := H.2.2.2.2.1
theorem RmH.vl {C0 M0 : Mem} {e : Nat → Bool} {gi v : Nat → Nat} {bad : Nat → Prop} (H : RmH C0 M0 e gi v bad) : ∀ k, k < 21 → v k ≤ 4096 := H.2.2.2.2.2.1
theorem RmH.wC {C0 M0 : Mem} {e : Nat → Bool} {gi v : Nat → Nat} {bad : Nat → Prop} (H : RmH C0 M0 e gi v bad) : ∀ k, k < 21 → ∀ C, FrC C0 C → ∃ r C', fc_RE_pushes (nI k) C = some (r, C') ∧ FrC C0 C' ∧ ((r = -1 ∧ bad k) ∨ (r = nI (v k) ∧ ¬ bad k)) := H.2.2.2.2.2.2.1
theorem RmH.wM {C0 M0 : Mem} {e : Nat → Bool} {gi v : Nat → Nat} {bad : Nat → Prop} (H : RmH C0 M0 e gi v bad) : ∀ k, k < 21 → ∀ M, FrM M0 M → ∃ r M', fm_walks (M 2 k) M = some (r, M') ∧ FrM M0 M' ∧ ((r = 0 ∧ bad k) ∨ (r = 1 ∧ M' 0 24 = nI (v k) ∧ ¬ bad k)) := H.2.2.2.2.2.2.2
section ROOMS
variable {C0 M0 : Mem} {e : Nat → Bool} {gi v : Nat → Nat} {bad : Nat → Prop} {x1 : Int32}
theorem rmA_v (H : RmH C0 M0 e gi v bad) : ∀ d n k r C, k + d = 21 → FrC C0 C → (∀ g, g < 257 → r g = nI (mo e gi v k g)) → ∃ res C', rmA x1 (n + d + 1) (nI k) r C = some (res, C') ∧ FrC C0 C' ∧ ((res = -1 ∧ ∃ j, k ≤ j ∧ j < 21 ∧ e j = true ∧ bad j) ∨ (res = nI (sm (fR x1 (mo e gi v 21)) 257) ∧ ∀ j, k ≤ j → j < 21 → e j = true → ¬ bad j)) := by
  intro d
  induction d with
  | zero =>
    intro n k r C hk hC hr
    have ek : k = 21 := by omega
    subst ek
    have h := rmB_v (x1 := x1) (r := r) (C := C) (R := mo e gi v 21) (fun g hg => ⟨hr g hg, by
      have h1 := be_le H.vl 21 g (Nat.le_refl _) (e := e) (gi := gi)
      have h2 := mo_be (e := e) (gi := gi) (v := v) 21 g
      omega⟩) 257 342 0 (by omega)
    refine ⟨_, _, ?_, hC, Or.inr ⟨rfl, fun j h1 h2 => absurd h2 (by omega)⟩⟩
    rw [show n + 0 + 1 = n + 1 from rfl, rmA_s, if_pos (show (21 : Int32) ≤ nI 21 by decide)]
    exact h
  | succ d ih =>
    intro n k r C hk hC hr
    rw [show n + (d + 1) + 1 = (n + d + 1) + 1 by omega, rmA_s, if_neg (show ¬ (21 : Int32) ≤ nI k from nI_ge (a := k) (b := 21) (by omega) (by decide)), inb_nI (show k < 21 by omega) (by decide), gd_t, nI_clamp (show k < 2 ^ 31 by omega), hC (9 + 22 + k) 3 (by omega), nI_1]
    by_cases he : e k = true
    · have hne : ¬ C0 (9 + 22 + k) 3 = 0 := fun z => by rw [(H.eC k (by omega)).mp z] at he; cases he
      obtain ⟨w, C1, w1, w2, w3⟩ := H.wC k (by omega) C hC
      rw [if_neg hne, w1, bnd_s]
      rcases w3 with ⟨rfl, hb⟩ | ⟨rfl, hb⟩
      · rw [if_neg (show ¬ (0 : Int32) ≤ -1 by decide)]
        exact ⟨_, _, rfl, w2, Or.inl ⟨rfl, k, Nat.le_refl _, by omega, he, hb⟩⟩
      · have hv := H.vl k (by omega)
        have hgl := H.gl k (by omega)
        have hm : mo e gi v k (gi k) ≤ 4097 := by
          have h1 := be_le H.vl k (gi k) (by omega) (e := e) (gi := gi)
          have h2 := mo_be (e := e) (gi := gi) (v := v) k (gi k)
          omega
        rw [if_pos (nI_pos' (show v k < 2 ^ 31 by omega)), fc_grp (Or.inl rfl) (by omega), bnd_s, w2 (9 + 22 + k) 1 (by omega), w2 9 34 (by omega), H.gC k (by omega), inb_nI hgl (by decide), gd_t, nI_clamp (show gi k < 2 ^ 31 by omega), hr (gi k) hgl, nI_1]
        have hu : ∀ z : Nat, z = mo e gi v (k + 1) (gi k) → ∀ g, g < 257 → upd r (gi k) (nI z) g = nI (mo e gi v (k + 1) g) := by
          intro z hz g hg
          by_cases eg : g = gi k
          · subst eg
            rw [hz]
            simp [upd]
          · have : upd r (gi k) (nI z) g = r g := by simp [upd, eg]
            rw [this, hr g hg, mo_s, if_neg (fun y => eg y.2.symm)]
        have em : mo e gi v (k + 1) (gi k) = (if v k + 1 ≤ mo e gi v k (gi k) then mo e gi v k (gi k) else v k + 1) := by rw [mo_s, if_pos ⟨he, rfl⟩]
        have fin : ∀ z : Nat, z = mo e gi v (k + 1) (gi k) → ∃ res C', rmA x1 (n + d + 1) (nI (k + 1)) (upd r (gi k) (nI z)) C1 = some (res, C') ∧ FrC C0 C' ∧ ((res = -1 ∧ ∃ j, k ≤ j ∧ j < 21 ∧ e j = true ∧ bad j) ∨ (res = nI (sm (fR x1 (mo e gi v 21)) 257) ∧ ∀ j, k ≤ j → j < 21 → e j = true → ¬ bad j)) := by
          intro z hz
          obtain ⟨res, C', f1, f2, f3⟩ := ih n (k + 1) (upd r (gi k) (nI z)) C1 (by omega) w2 (hu z hz)
          refine ⟨res, C', f1, f2, ?_⟩
          rcases f3 with ⟨f3, j, j1, j2⟩ | ⟨f3, f4⟩
          · exact Or.inl ⟨f3, j, by omega, j2⟩
          · refine Or.inr ⟨f3, fun j j1 j2 j3 => ?_⟩
            by_cases ej : j = k
            · rw [ej]; exact hb
            · exact f4 j (by omega) j2 j3
        by_cases hc : v k + 1 ≤ mo e gi v k (gi k)
        · rw [if_pos (nI_le hc (by omega))]
          rw [if_pos hc] at em
          exact fin _ em.symm
        · rw [if_neg (nI_ge (show mo e gi v k (gi k) < v k + 1 by omega) (by omega))]
          rw [if_neg hc] at em
          exact fin _ em.symm
    · have hf : e k = false := by cases h : e k with | false => rfl | true => exact absurd h he
      rw [if_pos ((H.eC k (by omega)).mpr hf)]
      obtain ⟨res, C', f1, f2, f3⟩ := ih n (k + 1) r C (by omega) hC (fun g hg => by rw [hr g hg, mo_s, if_neg (fun y => he y.1)])
      refine ⟨res, C', f1, f2, ?_⟩
      rcases f3 with ⟨f3, j, j1, j2⟩ | ⟨f3, f4⟩
      · exact Or.inl ⟨f3, j, by omega, j2⟩
      · refine Or.inr ⟨f3, fun j j1 j2 j3 => ?_⟩
        by_cases ej : j = k
        · rw [ej] at j3; exact absurd j3 he
        · exact f4 j (by omega) j2 j3
theorem room36_s {K9 : Int32 → Int32 → Int32 → Mem → Option (Int32 × Mem)} {n : Nat} {a b c d f h : Int32} {M : Mem} : fm_room_36 K9 (n + 1) a b c d f h M = fm_room_36b K9 (fm_room_36 K9 n) a b c d f h M := rfl
theorem room9_s {n : Nat} {a b c : Int32} {M : Mem} : fm_room_9 (n + 1) a b c M = fm_room_9b (fm_room_9 n) a b c M := rfl
theorem room_grp (H : RmH C0 M0 e gi v bad) {j k : Nat} (hj : j < 21) (hk : k < 21) : (grpV (M0 4 (173 + j)) (M0 0 3) j = grpV (M0 4 (173 + k)) (M0 0 3) k) = (gi j = gi k) := by
  have a := H.gM j hj
  have b := H.gM k hk
  have la := H.gl j hj
  have lb := H.gl k hk
  apply propext
  constructor
  · intro h
    rw [h, b] at a
    exact ((nI_eq (by omega) (by omega)).mp a).symm
  · intro h
    rw [h, ← b] at a
    have := congrArg (fun z : Int32 => z - 1) a
    simpa using this
/-- what the model adds for a source -/
def fK (x1 : Int32) (e : Nat → Bool) (gi v : Nat → Nat) (k : Nat) : Nat := if e k = true ∧ mo e gi v k (gi k) = 0 then be e gi v 21 (gi k) + fF x1 else 0
theorem room36_v (H : RmH C0 M0 e gi v bad) {K9 : Int32 → Int32 → Int32 → Mem → Option (Int32 × Mem)} {k s : Nat} (hk : k < 21) (he : e k = true) : ∀ d n j M, j + d = 21 → FrM M0 M → ∃ M', FrM M0 M' ∧ ((fm_room_36 K9 (n + d + 1) x1 (nI s) (nI k) (if mo e gi v (if j ≤ k then j else k) (gi k) = 0 then 1 else 0) (nI (be e gi v j (gi k))) (nI j) M = some (-1, M') ∧ ∃ i, i < 21 ∧ e i = true ∧ bad i) ∨ (fm_room_36 K9 (n + d + 1) x1 (nI s) (nI k) (if mo e gi v (if j ≤ k then j else k) (gi k) = 0 then 1 else 0) (nI (be e gi v j (gi k))) (nI j) M = K9 x1 (nI (s + fK x1 e gi v k)) (nI (k + 1)) M' ∧ (j ≤ k → ¬ bad k))) := by
  intro d
  induction d with
  | zero =>
    intro n j M hj hM
    have ej : j = 21 := by omega
    subst ej
    refine ⟨M, hM, Or.inr ⟨?_, fun z => absurd z (by omega)⟩⟩
    rw [show n + 0 + 1 = n + 1 from rfl, room36_s]
    unfold fm_room_36b fm_room_149 fm_room_152 fK
    rw [if_pos (show (21 : Int32) ≤ nI 21 by decide), if_neg (show ¬ 21 ≤ k by omega), nI_1]
    by_cases hz : mo e gi v k (gi k) = 0
    · rw [if_pos hz, if_neg (show ¬ (1 : Int32) = 0 by decide), if_pos (show e k = true ∧ mo e gi v k (gi k) = 0 from ⟨he, hz⟩)]
      by_cases hx : x1 = 0
      · rw [if_pos hx, show fF x1 = 6 from if_pos hx, show nI (be e gi v 21 (gi k)) + 6 = nI (be e gi v 21 (gi k) + 6) from nI_add _ 6, nI_add]
      · rw [if_neg hx, show fF x1 = 10 from if_neg hx, show nI (be e gi v 21 (gi k)) + 10 = nI (be e gi v 21 (gi k) + 10) from nI_add _ 10, nI_add]
    · rw [if_neg hz, if_pos rfl, if_neg (show ¬ (e k = true ∧ mo e gi v k (gi k) = 0) from fun z => hz z.2)]
      exact rfl
  | succ d ih =>
    intro n j M hj hM
    rw [show n + (d + 1) + 1 = (n + d + 1) + 1 by omega, room36_s]
    unfold fm_room_36b fm_room_124
    have e3 : M 3 j = M0 3 j := hM 3 j (by omega) (by omega)
    rw [if_neg (show ¬ (21 : Int32) ≤ nI j from nI_ge (a := j) (b := 21) (by omega) (by decide)), inb_nI (show j < 21 by omega) (by decide), gd_t, nI_clamp (show j < 2 ^ 31 by omega), e3, nI_1]
    -- the source isn't of the group: on
    have skip : ¬ (e j = true ∧ gi j = gi k) → ∃ M', FrM M0 M' ∧ ((fm_room_36 K9 (n + d + 1) x1 (nI s) (nI k) (if mo e gi v (if j ≤ k then j else k) (gi k) = 0 then 1 else 0) (nI (be e gi v j (gi k))) (nI (j + 1)) M = some (-1, M') ∧ ∃ i, i < 21 ∧ e i = true ∧ bad i) ∨ (fm_room_36 K9 (n + d + 1) x1 (nI s) (nI k) (if mo e gi v (if j ≤ k then j else k) (gi k) = 0 then 1 else 0) (nI (be e gi v j (gi k))) (nI (j + 1)) M = K9 x1 (nI (s + fK x1 e gi v k)) (nI (k + 1)) M' ∧ (j ≤ k → ¬ bad k))) := by
      intro hn
      have hjk : ¬ j = k := fun z => hn ⟨by rw [z]; exact he, by rw [z]⟩
      obtain ⟨M', q1, q2⟩ := ih n (j + 1) M (by omega) hM
      have e1 : mo e gi v (if j + 1 ≤ k then j + 1 else k) (gi k) = mo e gi v (if j ≤ k then j else k) (gi k) := by
        by_cases hl : j + 1 ≤ k
        · rw [if_pos hl, if_pos (show j ≤ k by omega), mo_s, if_neg hn]
        · rw [if_neg hl, if_neg (show ¬ j ≤ k by omega)]
      have e2 : be e gi v (j + 1) (gi k) = be e gi v j (gi k) := by rw [be_s, if_neg hn]
      rw [e1, e2] at q2
      refine ⟨M', q1, ?_⟩
      rcases q2 with q2 | ⟨q2, q3⟩
      · exact Or.inl q2
      · exact Or.inr ⟨q2, fun z => q3 (by omega)⟩
    by_cases hej : e j = true
    · have hne : ¬ M0 3 j = 0 := fun z => by rw [(H.eM j (by omega)).mp z] at hej; cases hej
      rw [if_neg hne, fm_grp (by omega), bnd_s, fm_grp hk, bnd_s, hM 4 (173 + j) (by omega) (by omega), hM 4 (173 + k) (by omega) (by omega), hM 0 3 (by omega) (by omega)]
      by_cases hg : gi j = gi k
      · have hg' : grpV (M0 4 (173 + j)) (M0 0 3) j = grpV (M0 4 (173 + k)) (M0 0 3) k := by rw [room_grp H (by omega) hk]; exact hg
        rw [if_pos hg']
        have hv := H.vl j (by omega)
        have hb := be_le H.vl j (gi k) (by omega) (e := e) (gi := gi)
        obtain ⟨w, M1, w1, w2, w3⟩ := H.wM j (by omega) M hM
        have e1 : (if mo e gi v (if j + 1 ≤ k then j + 1 else k) (gi k) = 0 then (1 : Int32) else 0) = (if k ≤ j then (if mo e gi v (if j ≤ k then j else k) (gi k) = 0 then (1 : Int32) else 0) else 0) := by
          by_cases hl : j + 1 ≤ k
          · have hn : ¬ mo e gi v (j + 1) (gi k) = 0 := by
              rw [mo_s, if_pos (show e j = true ∧ gi j = gi k from ⟨hej, hg⟩)]
              split <;> omega
            rw [if_pos hl, if_neg (show ¬ k ≤ j by omega), if_neg hn]
          · rw [if_neg hl, if_pos (show k ≤ j by omega)]
            by_cases hjk : j = k
            · subst hjk
              rw [if_pos (Nat.le_refl j)]
            · rw [if_neg (show ¬ j ≤ k by omega)]
        have e2 : be e gi v (j + 1) (gi k) = (if v j ≤ be e gi v j (gi k) then be e gi v j (gi k) else v j) := by rw [be_s, if_pos (show e j = true ∧ gi j = gi k from ⟨hej, hg⟩)]
        have fin : ∀ (f0 : Int32), f0 = (if k ≤ j then (if mo e gi v (if j ≤ k then j else k) (gi k) = 0 then (1 : Int32) else 0) else 0) → ∃ M', FrM M0 M' ∧ ((fm_room_93 K9 (fm_room_36 K9 (n + d + 1)) x1 (nI s) (nI k) f0 (nI (be e gi v j (gi k))) (nI j) M = some (-1, M') ∧ ∃ i, i < 21 ∧ e i = true ∧ bad i) ∨ (fm_room_93 K9 (fm_room_36 K9 (n + d + 1)) x1 (nI s) (nI k) f0 (nI (be e gi v j (gi k))) (nI j) M = K9 x1 (nI (s + fK x1 e gi v k)) (nI (k + 1)) M' ∧ (j ≤ k → ¬ bad k))) := by
          intro f0 hf0
          rw [← e1] at hf0
          subst hf0
          unfold fm_room_93 fm_room_124
          rw [inb_nI (show j < 21 by omega) (by decide), gd_t, nI_clamp (show j < 2 ^ 31 by omega), w1, bnd_s, nI_1]
          rcases w3 with ⟨rfl, hbad⟩ | ⟨rfl, hw, hnb⟩
          · rw [if_pos rfl]
            exact ⟨M1, w2, Or.inl ⟨rfl, j, by omega, hej, hbad⟩⟩
          · rw [if_neg (show ¬ (1 : Int32) = 0 by decide), hw]
            obtain ⟨M', q1, q2⟩ := ih n (j + 1) M1 (by omega) w2
            rw [e2] at q2
            have q2' : (fm_room_36 K9 (n + d + 1) x1 (nI s) (nI k) (if mo e gi v (if j + 1 ≤ k then j + 1 else k) (gi k) = 0 then 1 else 0) (nI (if v j ≤ be e gi v j (gi k) then be e gi v j (gi k) else v j)) (nI (j + 1)) M1 = some (-1, M') ∧ ∃ i, i < 21 ∧ e i = true ∧ bad i) ∨ (fm_room_36 K9 (n + d + 1) x1 (nI s) (nI k) (if mo e gi v (if j + 1 ≤ k then j + 1 else k) (gi k) = 0 then 1 else 0) (nI (if v j ≤ be e gi v j (gi k) then be e gi v j (gi k) else v j)) (nI (j + 1)) M1 = K9 x1 (nI (s + fK x1 e gi v k)) (nI (k + 1)) M' ∧ (j ≤ k → ¬ bad k)) := by
              rcases q2 with q2 | ⟨q2, q3⟩
              · exact Or.inl q2
              · refine Or.inr ⟨q2, fun z => ?_⟩
                by_cases ejk : j = k
                · rw [← ejk]; exact hnb
                · exact q3 (by omega)
            by_cases hc : v j ≤ be e gi v j (gi k)
            · rw [if_pos (nI_le hc (by omega))]
              rw [if_pos hc] at q2'
              exact ⟨M', q1, q2'⟩
            · rw [if_neg (nI_ge (show be e gi v j (gi k) < v j by omega) (by omega))]
              rw [if_neg hc] at q2'
              exact ⟨M', q1, q2'⟩
        by_cases hkj : k ≤ j
        · rw [if_pos (nI_le hkj (by omega))]
          exact fin _ (by rw [if_pos hkj])
        · rw [if_neg (nI_ge (show j < k by omega) (by omega))]
          exact fin _ (by rw [if_neg hkj])
      · rw [if_neg (show ¬ grpV (M0 4 (173 + j)) (M0 0 3) j = grpV (M0 4 (173 + k)) (M0 0 3) k by rw [room_grp H (by omega) hk]; exact hg)]
        exact skip (fun z => hg z.2)
    · have hf : e j = false := by cases h : e j with | false => rfl | true => exact absurd h hej
      rw [if_pos ((H.eM j (by omega)).mpr hf)]
      exact skip (fun z => hej z.1)
theorem room9_v (H : RmH C0 M0 e gi v bad) : ∀ d n k M, k + d = 21 → FrM M0 M → ∃ res M', fm_room_9 (n + d + 1) x1 (nI (sm (fK x1 e gi v) k)) (nI k) M = some (res, M') ∧ FrM M0 M' ∧ ((res = -1 ∧ ∃ i, i < 21 ∧ e i = true ∧ bad i) ∨ (res = nI (sm (fK x1 e gi v) 21) ∧ ∀ j, k ≤ j → j < 21 → e j = true → ¬ bad j)) := by
  intro d
  induction d with
  | zero =>
    intro n k M hk hM
    have ek : k = 21 := by omega
    subst ek
    rw [show n + 0 + 1 = n + 1 from rfl, room9_s]
    unfold fm_room_9b
    rw [if_pos (show (21 : Int32) ≤ nI 21 by decide)]
    exact ⟨_, M, rfl, hM, Or.inr ⟨rfl, fun j h1 h2 => absurd h2 (by omega)⟩⟩
  | succ d ih =>
    intro n k M hk hM
    rw [show n + (d + 1) + 1 = (n + d + 1) + 1 by omega, room9_s]
    unfold fm_room_9b fm_room_152
    have e3 : M 3 k = M0 3 k := hM 3 k (by omega) (by omega)
    have es : sm (fK x1 e gi v) (k + 1) = sm (fK x1 e gi v) k + fK x1 e gi v k := rfl
    rw [if_neg (show ¬ (21 : Int32) ≤ nI k from nI_ge (a := k) (b := 21) (by omega) (by decide)), inb_nI (show k < 21 by omega) (by decide), gd_t, nI_clamp (show k < 2 ^ 31 by omega), e3, nI_1]
    by_cases he : e k = true
    · have hne : ¬ M0 3 k = 0 := fun z => by rw [(H.eM k (by omega)).mp z] at he; cases he
      rw [if_neg hne]
      obtain ⟨M', q1, q2⟩ := room36_v (x1 := x1) H (K9 := fm_room_9 (n + d + 1)) (k := k) (s := sm (fK x1 e gi v) k) (by omega) he 21 578 0 M (by omega) hM
      have q2 : (fm_room_36 (fm_room_9 (n + d + 1)) 600 x1 (nI (sm (fK x1 e gi v) k)) (nI k) 1 0 0 M = some (-1, M') ∧ ∃ i, i < 21 ∧ e i = true ∧ bad i) ∨ (fm_room_36 (fm_room_9 (n + d + 1)) 600 x1 (nI (sm (fK x1 e gi v) k)) (nI k) 1 0 0 M = fm_room_9 (n + d + 1) x1 (nI (sm (fK x1 e gi v) k + fK x1 e gi v k)) (nI (k + 1)) M' ∧ (0 ≤ k → ¬ bad k)) := by
        rw [if_pos (Nat.zero_le k)] at q2
        exact q2
      rcases q2 with ⟨q2, q3⟩ | ⟨q2, q3⟩
      · rw [q2]
        exact ⟨_, M', rfl, q1, Or.inl ⟨rfl, q3⟩⟩
      · rw [q2]
        obtain ⟨res, M2, f1, f2, f3⟩ := ih n (k + 1) M' (by omega) q1
        rw [es] at f1
        refine ⟨res, M2, f1, f2, ?_⟩
        rcases f3 with f3 | ⟨f3, f4⟩
        · exact Or.inl f3
        · refine Or.inr ⟨f3, fun j j1 j2 j3 => ?_⟩
          by_cases ej : j = k
          · rw [ej]; exact q3 (Nat.zero_le _)
          · exact f4 j (by omega) j2 j3
    · have hf : e k = false := by cases h : e k with | false => rfl | true => exact absurd h he
      rw [if_pos ((H.eM k (by omega)).mpr hf)]
      obtain ⟨res, M2, f1, f2, f3⟩ := ih n (k + 1) M (by omega) hM
      rw [es, show fK x1 e gi v k = 0 from if_neg (fun z => he z.1), Nat.add_zero] at f1
      refine ⟨res, M2, f1, f2, ?_⟩
      rcases f3 with f3 | ⟨f3, f4⟩
      · exact Or.inl f3
      · refine Or.inr ⟨f3, fun j j1 j2 j3 => ?_⟩
        by_cases ej : j = k
        · rw [ej] at j3; exact absurd j3 he
        · exact f4 j (by omega) j2 j3
theorem sums_eq (H : RmH C0 M0 e gi v bad) : sm (fR x1 (mo e gi v 21)) 257 = sm (fK x1 e gi v) 21 := by
  have h := mo_first (e := e) (gi := gi) (v := v) (W := fun g => be e gi v 21 g + fF x1) 21 H.gl
  rw [show sm (fR x1 (mo e gi v 21)) 257 = sm (fun g => if mo e gi v 21 g = 0 then 0 else be e gi v 21 g + fF x1) 257 from ?_]
  · exact h
  · congr 1
    funext g
    unfold fR
    by_cases hz : mo e gi v 21 g = 0
    · rw [if_pos hz, if_pos hz]
    · rw [if_neg hz, if_neg hz]
      have := mo_be (e := e) (gi := gi) (v := v) 21 g
      omega
end ROOMS
theorem s_room {T E : Nat} {C M : Mem} {x1 : Int32} (hi : Inv T E C M) : OpS (fc_RE_room x1) (fm_room x1) T E C M := by
  have h17 := hi.err 0
  obtain ⟨⟨L, h⟩, hb, hq⟩ := hi.err 0
  unfold OpS fc_RE_room fm_room
  rw [stp_e]
  generalize up2 M 0 17 0 = M at *
  obtain ⟨K, k1, k2⟩ := code_fn h17
  obtain ⟨sv, sv1, sv2, sv3⟩ := h.spl.1
  have hv : ∀ k, ∃ s : Nat, k < 21 → s < 512 ∧ C (9 + 22 + k) 2 = nI s ∧ M 2 k = nI s := fun k => by
    by_cases z : k < 21
    · obtain ⟨s, s1, s2, s3⟩ := h.vec k z
      exact ⟨s, fun _ => ⟨by omega, s2, s3⟩⟩
    · exact ⟨0, fun y => absurd y z⟩
  have hp : ∀ k, ∃ p : Nat, k < 20 → p < 256 ∧ C (9 + 22 + k) 1 = nI p ∧ M 4 (173 + k) = nI p := fun k => by
    by_cases z : k < 20
    · obtain ⟨p, p1, p2, p3⟩ := h.rnk k (by omega) (by omega)
      exact ⟨p, fun _ => ⟨by omega, p2, p3⟩⟩
    · exact ⟨0, fun y => absurd y z⟩
  have hS := fun k => Classical.choose_spec (hv k)
  have hP := fun k => Classical.choose_spec (hp k)
  generalize hsf : (fun k => Classical.choose (hv k)) = sf at *
  generalize hpf : (fun k => Classical.choose (hp k)) = pf at *
  have hS : ∀ k, k < 21 → sf k < 512 ∧ C (9 + 22 + k) 2 = nI (sf k) ∧ M 2 k = nI (sf k) := by rw [← hsf]; exact hS
  have hP : ∀ k, k < 20 → pf k < 256 ∧ C (9 + 22 + k) 1 = nI (pf k) ∧ M 4 (173 + k) = nI (pf k) := by rw [← hpf]; exact hP
  have hb : ∀ k, ∃ b : Nat, k < 21 → b ≤ 4096 ∧ (¬ Bad K (sf k) → Best K (fP K) (sf k) b) := fun k => by
    by_cases z : k < 21
    · obtain ⟨r, C', -, -, c3⟩ := end_v (hS k z).1 k1
      rcases c3 with ⟨-, c3⟩ | ⟨-, c3, a, b, a1, a2, a3, a4, a5, a6⟩
      · exact ⟨0, fun _ => ⟨by omega, fun y => absurd c3 y⟩⟩
      · exact ⟨b, fun _ => ⟨a2, fun _ => a6⟩⟩
    · exact ⟨0, fun y => absurd y z⟩
  have hB := fun k => Classical.choose_spec (hb k)
  generalize hbf : (fun k => Classical.choose (hb k)) = bf at *
  have hB : ∀ k, k < 21 → bf k ≤ 4096 ∧ (¬ Bad K (sf k) → Best K (fP K) (sf k) (bf k)) := by rw [← hbf]; exact hB
  have hgrp : ∀ k, k < 21 → grpV (M 4 (173 + k)) (M 0 3) k + 1 = nI (if k = 20 then 0 else (pf k >>> sv) + 1) ∧ (if k = 20 then 0 else (pf k >>> sv) + 1) < 257 ∧ grpV (C (9 + 22 + k) 1) (C 9 34) k = grpV (M 4 (173 + k)) (M 0 3) k := fun k hk => by
    unfold grpV
    by_cases z : k = 20
    · rw [if_pos z, if_pos z, if_pos z]
      exact ⟨by decide, by decide, rfl⟩
    · obtain ⟨p1, p2, p3⟩ := hP k (by omega)
      have := shr_le (pf k) p1 sv (by omega)
      rw [if_neg z, if_neg z, if_neg z, p2, p3, sv2, sv3, shr_v (pf k) p1 sv (by omega), nI_1]
      exact ⟨rfl, by omega, rfl⟩
  have H : RmH C M (fun k => decide (¬ M 3 k = 0)) (fun k => if k = 20 then 0 else (pf k >>> sv) + 1) bf (fun k => Bad K (sf k)) := by
    refine ⟨fun k hk => ?_, fun k hk => ?_, fun k hk => ?_, fun k hk => (hgrp k hk).1, fun k hk => (hgrp k hk).2.1, fun k hk => (hB k hk).1, fun k hk C1 hC1 => ?_, fun k hk M1 hM1 => ?_⟩
    · rw [(h.ena k hk).1]
      simp
    · simp
    · rw [(hgrp k hk).2.2]
      exact (hgrp k hk).1
    · have kC : CodeC K C1 := k1.fr (fun j _ => hC1 2 j (by omega))
      obtain ⟨s1, s2, -⟩ := hS k hk
      obtain ⟨r, C', c1, c2, c3⟩ := end_v s1 kC
      unfold fc_RE_pushes fc_RE_pushes_49
      rw [wi, bnd_s, show wth (nI k) 0 20 = 1 from ?_, if_neg (show ¬ (1 : Int32) = 0 by decide), inb_nI (show k < 21 by omega) (by decide), gd_t, nI_clamp (show k < 2 ^ 31 by omega), hC1 (9 + 22 + k) 2 (by omega), s2, c1, bnd_s]
      · have fr : FrC C C' := fun o j z => (c2 o j z).trans (hC1 o j z)
        rcases c3 with ⟨rfl, c3⟩ | ⟨rfl, c3, a, b, a1, a2, a3, a4, a5, a6⟩
        · rw [if_pos rfl]
          exact ⟨_, _, rfl, fr, Or.inl ⟨rfl, c3⟩⟩
        · rw [if_neg (show ¬ (1 : Int32) = 0 by decide), inb_nI s1 (by decide), gd_t, nI_clamp (show sf k < 2 ^ 31 by omega), a4]
          refine ⟨_, _, rfl, fr, Or.inr ⟨?_, c3⟩⟩
          have := a6.eq ((hB k hk).2 c3)
          rw [show b = bf k by omega]
      · unfold wth
        rw [if_neg (show ¬ nI k < 0 from nI_pos (by omega)), if_neg (show ¬ (20 : Int32) < nI k from nI_nlt (a := 20) (b := k) (by omega) (by decide))]
    · have kM : CodeM K M1 := k2.fr (fun j _ => hM1 1 j (by omega) (by omega))
      obtain ⟨s1, -, s3⟩ := hS k hk
      obtain ⟨r, M', m1, m2, m3⟩ := walks_v s1 kM
      rw [hM1 2 k (by omega) (by omega), s3]
      refine ⟨r, M', m1, fun o j z1 z2 => (m2 o j z1 z2).trans (hM1 o j z1 z2), ?_⟩
      rcases m3 with m3 | ⟨m3, m4, -, m5⟩
      · exact Or.inl m3
      · refine Or.inr ⟨m3, ?_, m4⟩
        have h1 := (hB k hk).1
        apply i32_eq.mpr
        rw [nI_toInt (by omega)]
        exact m5.eq ((hB k hk).2 m4)
  obtain ⟨rc, C', c1, c2, c3⟩ := rmA_v (x1 := x1) H 21 578 0 (fun _ => 0) C (by omega) (fun _ _ _ => rfl) (fun _ _ => rfl)
  obtain ⟨rm, M', m1, m2, m3⟩ := room9_v (x1 := x1) H 21 578 0 M (by omega) (fun _ _ _ _ => rfl)
  have hI : Inv T E C' M' := inv_ways h17 c2 m2
  have hr : rc = rm := by
    rcases c3 with ⟨c3, j, -, j2, j3, j4⟩ | ⟨c3, c4⟩
    · rcases m3 with ⟨m3, -⟩ | ⟨-, m4⟩
      · rw [c3, m3]
      · exact absurd j4 (m4 j (Nat.zero_le _) j2 j3)
    · rcases m3 with ⟨-, i, i1, i2, i3⟩ | ⟨m3, -⟩
      · exact absurd i3 (c4 i (Nat.zero_le _) i1 i2)
      · rw [c3, m3, sums_eq H]
  exact ⟨rc, C', M', c1, by rw [hr]; exact m1, hI⟩
