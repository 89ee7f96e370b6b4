/-! THE OPERATIONS on the spare: soon, quiet -/
def SpS (T E : Nat) (L : List Int32) (C2 M2 C M : Mem) : Prop := Top 52 5 T E L C2 M2 C M ∧ Bd 52 5 C M ∧ ownOk 52 M ∧ C 52 25 = M 0 15
def FR (T : Nat) (C2 M2 C' M' : Mem) : Prop := (∀ o k, (o < 52 ∨ 95 ≤ o) → C' o k = C2 o k) ∧ (∀ o k, ¬ o = 5 → (¬ o = 0 ∨ ¬ k = 16) → M' o k = M2 o k) ∧ ∃ q : Nat, q ≤ T ∧ C' 52 50 = nI q
theorem SpS.fr {T E : Nat} {L : List Int32} {C2 M2 C M : Mem} (h : SpS T E L C2 M2 C M) : FR T C2 M2 C M := by
  obtain ⟨q, q1, q2, -⟩ := h.1.out
  exact ⟨fun o k z => h.1.frm.1 o k (by omega), fun o k z w => h.1.frm.2 rfl o k z w, q, q1, q2⟩
theorem FR.mono {T T' : Nat} {C2 M2 C' M' : Mem} (hT : T ≤ T') (h : FR T C2 M2 C' M') : FR T' C2 M2 C' M' := by
  obtain ⟨a, b, q, q1, q2⟩ := h
  exact ⟨a, b, q, by omega, q2⟩
theorem fr_back {T E T' : Nat} {C M C2 M2 C3 M3 : Mem} (hi : Inv T E C M) (hT : T ≤ T') (h1 : ∀ o k, (o < 52 ∨ 95 ≤ o) → C2 o k = C o k) (h2 : ∀ o k, ¬ o = 5 → (¬ o = 0 ∨ (¬ k = 14 ∧ ¬ k = 15)) → M2 o k = M o k) (h3 : FR T' C2 M2 C3 M3) : Inv T' E C3 M3 := by
  obtain ⟨a, b, q⟩ := h3
  refine back (hi.mono hT (Nat.le_refl _)) (fun o k z => ?_) (fun o k z w => ?_) q
  · rw [a o k z, h1 o k z]
  · rw [b o k z (by omega), h2 o k z (by omega)]
theorem sp_start {T E : Nat} {C M : Mem} {v : Int32} (hi : Inv T E C M) (hv : isB v = true) : ∃ C2 M2, fc_RE_tried v C = some ((), C2) ∧ fm_likeNow v M = some ((), M2) ∧ SpS T E [] C2 M2 C2 M2 ∧ (∀ o k, (o < 52 ∨ 95 ≤ o) → C2 o k = C o k) ∧ (∀ o k, ¬ o = 5 → (¬ o = 0 ∨ (¬ k = 14 ∧ ¬ k = 15)) → M2 o k = M o k) := by
  obtain ⟨C2, M2, a1, a2, a3, a4, a5, a6, a7, a8⟩ := sim_tried hi hv
  exact ⟨C2, M2, a1, a2, ⟨a3, a4, a5, a6⟩, a7, a8⟩
theorem sp_step {T E : Nat} {L : List Int32} {C2 M2 C M : Mem} (h : SpS T E L C2 M2 C M) (hT : T + 1 < 2 ^ 29) (hE : E < 2 ^ 28) : ∃ C' M' L', fc_Core_cycle 52 C = some ((), C') ∧ fm_cycle 5 M = some ((), M') ∧ SpS (T + 1) (E + 3) L' C2 M2 C' M' ∧ C' 52 52 = M' 0 16 ∧ Nw (-1) 52 C' L L' ∧ (C 52 41 = 5 → C' 52 41 = 5 ∧ C' 52 52 = -1) := by
  obtain ⟨h1, h2, h3, h4⟩ := h
  obtain ⟨C', M', L', a1, a2, a3, a4, a5, a6, a7⟩ := sim_cycle (Or.inr ⟨rfl, rfl⟩) h1 h3 h4 hT hE h2
  exact ⟨C', M', L', a1, a2, ⟨a3, a5, a4.1, a4.2.1⟩, a4.2.2, a6, a7⟩
theorem soon_s {n : Nat} {a b : Int32} {M : Mem} : fm_soon_24 (n + 1) a b M = fm_soon_24b (fm_soon_24 n) a b M := rfl
/-- the model goes on where the core is locked: nobody begins -/
theorem soon_locked {k : Nat} (hk : k < 21) {C2 M2 : Mem} : ∀ (d m i T E : Nat) (L : List Int32) (C M : Mem), i + d = 301 → SpS T E L C2 M2 C M → C 52 41 = 5 → T + d < 2 ^ 29 → E + 3 * d < 2 ^ 28 → ∃ M', fm_soon_24 (m + d + 1) (nI k) (nI i) M = some (-1, M') ∧ (∀ o k, ¬ o = 5 → (¬ o = 0 ∨ ¬ k = 16) → M' o k = M2 o k) := by
  intro d
  induction d with
  | zero =>
    intro m i T E L C M hd h h5 hT hE
    rw [soon_s]
    unfold fm_soon_24b
    have ei : i = 301 := by omega
    subst ei
    rw [if_pos (show (300 : Int32) < nI 301 by decide)]
    exact ⟨M, rfl, h.fr.2.1⟩
  | succ d ih =>
    intro m i T E L C M hd h h5 hT hE
    rw [soon_s]
    unfold fm_soon_24b
    obtain ⟨C', M', L', a1, a2, a3, a4, a5, a6⟩ := sp_step h (by omega) (by omega)
    obtain ⟨b1, b2⟩ := a6 h5
    rw [if_neg (show ¬ (300 : Int32) < nI i from nI_nlt (a := 300) (by omega) (by decide)), a2, bnd_s, ← a4, b2, if_neg (show ¬ (-1 : Int32) = nI k from fun z => nI_n1 (show k < 2 ^ 31 by omega) z.symm), nI_1]
    exact ih m (i + 1) (T + 1) (E + 3) L' C' M' (by omega) a3 b1 (by omega) (by omega)
theorem soon_loop {k : Nat} (hk : k < 21) {C2 M2 : Mem} : ∀ (d n m i T E : Nat) (L : List Int32) (C M : Mem), i + d = 301 → SpS T E L C2 M2 C M → T + d < 2 ^ 29 → E + 3 * d < 2 ^ 28 → ∃ r C' M', fc_RE_goes_2 52 (n + d + 1) (nI k) (nI i) C = some (r, C') ∧ fm_soon_24 (m + d + 1) (nI k) (nI i) M = some (r, M') ∧ FR (T + d) C2 M2 C' M' := by
  intro d
  induction d with
  | zero =>
    intro n m i T E L C M hd h hT hE
    rw [goes_s, soon_s]
    unfold fc_RE_goes_2b fm_soon_24b fc_RE_goes_37
    have ei : i = 301 := by omega
    subst ei
    rw [if_pos (show (300 : Int32) < nI 301 by decide), if_pos (show (300 : Int32) < nI 301 by decide)]
    exact ⟨_, _, _, rfl, rfl, h.fr⟩
  | succ d ih =>
    intro n m i T E L C M hd h hT hE
    by_cases h5 : C 52 41 = 5
    · obtain ⟨M', b1, b2⟩ := soon_locked hk (d + 1) m i T E L C M hd h h5 hT hE
      rw [goes_s]
      unfold fc_RE_goes_2b fc_RE_goes_37
      rw [if_neg (show ¬ (300 : Int32) < nI i from nI_nlt (a := 300) (by omega) (by decide)), if_pos h5]
      obtain ⟨f1, f2, q, q1, q2⟩ := h.fr
      exact ⟨_, _, _, rfl, b1, f1, b2, q, by omega, q2⟩
    · rw [goes_s, soon_s]
      unfold fc_RE_goes_2b fm_soon_24b fc_RE_goes_37
      obtain ⟨C', M', L', a1, a2, a3, a4, a5, a6⟩ := sp_step h (by omega) (by omega)
      rw [if_neg (show ¬ (300 : Int32) < nI i from nI_nlt (a := 300) (by omega) (by decide)), if_neg (show ¬ (300 : Int32) < nI i from nI_nlt (a := 300) (by omega) (by decide)), if_neg h5, a1, a2, bnd_s, bnd_s, a4]
      by_cases hx : M' 0 16 = nI k
      · rw [if_pos hx, if_pos hx]
        exact ⟨_, _, _, rfl, rfl, a3.fr.mono (by omega)⟩
      · rw [if_neg hx, if_neg hx, nI_1]
        obtain ⟨r, C3, M3, b1, b2, b3⟩ := ih n m (i + 1) (T + 1) (E + 3) L' C' M' (by omega) a3 (by omega) (by omega)
        exact ⟨r, C3, M3, b1, b2, b3.mono (by omega)⟩
theorem s_soon {T E : Nat} {C M : Mem} {x1 : Int32} (hi : Inv T E C M) (hT : T + 400 < 2 ^ 29) (hE : E + 1000 < 2 ^ 28) : OpS (fc_RE_soon x1) (fm_soon x1) (T + 400) (E + 1000) C M := by
  have h17 := hi.err 0
  obtain ⟨⟨L, h⟩, hb, hq⟩ := hi.err 0
  unfold OpS fc_RE_soon fm_soon
  rw [stp_e, wi, wim, bnd_s, bnd_s]
  generalize up2 M 0 17 0 = M at *
  rcases wth_or x1 (n := 20) (by decide) with z | ⟨z, k, hk, ek⟩
  · rw [show wth x1 0 20 = wth x1 0 (nI 20) from rfl, z, if_pos rfl, if_pos rfl]
    exact ⟨_, _, _, rfl, rfl, h17.mono (by omega) (by omega)⟩
  rw [show wth x1 0 20 = wth x1 0 (nI 20) from rfl, z, if_neg (show ¬ (1 : Int32) = 0 by decide), if_neg (show ¬ (1 : Int32) = 0 by decide)]
  subst ek
  obtain ⟨C2, M2, a1, a2, a3, a4, a5⟩ := sp_start h17 isB_0
  rw [a1, a2, bnd_s, bnd_s]
  obtain ⟨r, C', M', b1, b2, b3⟩ := soon_loop (show k < 21 by omega) 300 4 299 1 T E [] C2 M2 (by omega) a3 (by omega) (by omega)
  unfold fc_RE_goes fc_RE_soon_23
  rw [show fc_RE_goes_2 52 305 (nI k) 1 C2 = fc_RE_goes_2 52 (4 + 300 + 1) (nI k) (nI 1) C2 from rfl, b1, bnd_s]
  exact ⟨r, C', M', rfl, b2, (fr_back h17 (by omega) a4 a5 b3).mono (by omega) (by omega)⟩
theorem quiet_s {n : Nat} {a : Int32} {C : Mem} : fc_RE_quiet_8 (n + 1) a C = fc_RE_quiet_8b (fc_RE_quiet_8 n) a C := rfl
theorem mquiet_s {n : Nat} {a : Int32} {C : Mem} : fm_quiet_12 (n + 1) a C = fm_quiet_12b (fm_quiet_12 n) a C := rfl
theorem quiet_v {T E : Nat} {L : List Int32} {C0 M0 C M : Mem} {K : Int32 → Mem → Option (Int32 × Mem)} {x : Int32} (hT : T < 2 ^ 30) (h : Top 52 5 T E L C0 M0 C M) : ∃ b : Bool, fc_Core_isQuiet 52 C = some (bI b, C) ∧ (if M 5 20 = 0 then (if M 5 30 = 0 then (bnd (fm_nextOf 5 M) fun r4 M4 => if 0 ≤ r4 then fm_quiet_52 K x M4 else some (x, M4)) else fm_quiet_52 K x M) else fm_quiet_52 K x M) = (if b then some (x, M) else fm_quiet_52 K x M) := by
  obtain ⟨d, nst, a1, a2, a3, -⟩ := h.nst
  unfold fc_Core_isQuiet fc_Core_isQuiet_25 fc_Core_isQuiet_26
  rw [← h.ph.1.eq, a2, a3]
  by_cases h0 : C 52 41 = 0
  · rw [if_pos h0, if_pos h0]
    by_cases hd : nI d = 0
    · rw [if_pos hd, if_pos hd]
      obtain ⟨o, n1, n2, -⟩ := top_next (Or.inr ⟨rfl, rfl⟩) hT h.1
      rw [n1, n2, bnd_s, bnd_s]
      by_cases ho : 0 ≤ oI o
      · rw [if_pos ho, if_pos ho]
        exact ⟨false, rfl, rfl⟩
      · rw [if_neg ho, if_neg ho]
        exact ⟨true, rfl, rfl⟩
    · rw [if_neg hd, if_neg hd]
      exact ⟨false, rfl, rfl⟩
  · rw [if_neg h0, if_neg h0]
    exact ⟨false, rfl, rfl⟩
theorem quiet_loop {C2 M2 : Mem} : ∀ (d n m i T E : Nat) (L : List Int32) (C M : Mem), i + d = 301 → SpS T E L C2 M2 C M → T + d < 2 ^ 29 → E + 3 * d < 2 ^ 28 → ∃ r C' M', fc_RE_quiet_8 (n + d + 1) (nI i) C = some (r, C') ∧ fm_quiet_12 (m + d + 1) (nI i) M = some (r, M') ∧ FR (T + d) C2 M2 C' M' := by
  intro d
  induction d with
  | zero =>
    intro n m i T E L C M hd h hT hE
    rw [quiet_s, mquiet_s]
    unfold fc_RE_quiet_8b fm_quiet_12b
    have ei : i = 301 := by omega
    subst ei
    rw [if_pos (show (300 : Int32) < nI 301 by decide), if_pos (show (300 : Int32) < nI 301 by decide)]
    exact ⟨_, _, _, rfl, rfl, h.fr⟩
  | succ d ih =>
    intro n m i T E L C M hd h hT hE
    rw [quiet_s, mquiet_s]
    unfold fc_RE_quiet_8b fm_quiet_12b
    obtain ⟨b, q1, q2⟩ := quiet_v (K := fm_quiet_12 (m + d + 1)) (x := nI i) (by omega) h.1
    rw [if_neg (show ¬ (300 : Int32) < nI i from nI_nlt (a := 300) (by omega) (by decide)), if_neg (show ¬ (300 : Int32) < nI i from nI_nlt (a := 300) (by omega) (by decide)), q1, bnd_s]
    cases b with
    | true =>
      exact ⟨_, _, _, rfl, q2, h.fr.mono (by omega)⟩
    | false =>
      obtain ⟨C', M', L', a1, a2, a3, a4, a5, a6⟩ := sp_step h (by omega) (by omega)
      rw [if_pos (show bI false = 0 from rfl), a1, bnd_s, nI_1]
      obtain ⟨r, C3, M3, b1, b2, b3⟩ := ih n m (i + 1) (T + 1) (E + 3) L' C' M' (by omega) a3 (by omega) (by omega)
      refine ⟨r, C3, M3, b1, ?_, b3.mono (by omega)⟩
      refine q2.trans ?_
      unfold fm_quiet_52
      rw [if_neg (show ¬ false = true by decide), a2, bnd_s, nI_1]
      exact b2
theorem s_quiet {T E : Nat} {C M : Mem} {x1 : Int32} (hi : Inv T E C M) (hx : isB x1 = true) (hT : T + 400 < 2 ^ 29) (hE : E + 1000 < 2 ^ 28) : OpS (fc_RE_quiet x1) (fm_quiet x1) (T + 400) (E + 1000) C M := by
  have h17 := hi.err 0
  obtain ⟨C2, M2, a1, a2, a3, a4, a5⟩ := sp_start h17 hx
  unfold OpS fc_RE_quiet fm_quiet
  rw [stp_e, a1, a2, bnd_s, bnd_s]
  obtain ⟨r, C', M', b1, b2, b3⟩ := quiet_loop 301 3 298 0 T E [] C2 M2 (by omega) a3 (by omega) (by omega)
  exact ⟨r, C', M', b1, b2, (fr_back h17 (by omega) a4 a5 b3).mono (by omega) (by omega)⟩
