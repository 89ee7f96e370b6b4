/-! THE SIMULATION: a source begins, whole -/
theorem pig : ∀ (n d : Nat) (f : Nat → Nat), (∀ i, i < d → f i < n) → (∀ i j, i < j → j < d → ¬ f i = f j) → d ≤ n := by
  intro n
  induction n with
  | zero =>
    intro d f h1 h2
    rcases Nat.eq_zero_or_pos d with z | z
    · omega
    · have := h1 0 z
      omega
  | succ n ih =>
    intro d f h1 h2
    by_cases hx : ∃ i, i < d ∧ f i = n
    · obtain ⟨i0, hi, he⟩ := hx
      have := ih (d - 1) (fun j => if j < i0 then f j else f (j + 1)) (fun j hj => by
        by_cases z : j < i0
        · simp only [z, if_true]
          have a1 := h1 j (by omega)
          have a2 := h2 j i0 z hi
          omega
        · simp only [z, if_false]
          have a1 := h1 (j + 1) (by omega)
          have a2 := h2 i0 (j + 1) (by omega) (by omega)
          omega) (fun i j hij hj => by
        by_cases z1 : i < i0 <;> by_cases z2 : j < i0
        · simp only [z1, z2, if_true]; exact h2 i j hij (by omega)
        · simp only [z1, z2, if_true, if_false]; exact h2 i (j + 1) (by omega) (by omega)
        · omega
        · simp only [z1, z2, if_false]; exact h2 (i + 1) (j + 1) (by omega) (by omega))
      omega
    · have := ih d f (fun i hi => by
        have a1 := h1 i hi
        have a2 : ¬ f i = n := fun z => hx ⟨i, hi, z⟩
        omega) h2
      omega
theorem i32_irr {x : Int32} : ¬ x < x := by
  rw [i32_lt]
  omega
theorem obU_row {c l j : Nat} {x : Int32} {B : Mem} (hl : B c 53 = nI l) (hl2 : l < 2 ^ 31) : obU c x B (c + 12) j = if j = l ∧ l < 300 then x else B (c + 12) j := by
  unfold obU
  rw [hl]
  by_cases h : l < 300
  · rw [if_neg (show ¬ (300 : Int32) ≤ nI l from nI_ge (b := 300) h (by decide)), nI_clamp hl2, up2_i]
    by_cases e : j = l
    · rw [if_pos e, if_pos ⟨e, h⟩]
    · rw [if_neg e, if_neg (fun z => e z.1)]
  · rw [if_pos (show (300 : Int32) ≤ nI l from nI_le (a := 300) (by omega) hl2), if_neg (fun z => h z.2)]
set_option maxHeartbeats 8000000 in
theorem sim_begins_own {c s T E : Nat} {L : List Int32} {C0 M0 C M : Mem} {b x : Nat} (hcs : cs c s) (hcc : c = 9) (hT : T < 2 ^ 29) (hE : E < 2 ^ 29) (hL : L.length < T) (h : Top c s T E L C0 M0 C M) (hm : Md c C M) (hb : Elig c s C M b) (h0 : C c 43 = 0) (hx : x = 0 ∨ x = 1) : ∃ C' M', fc_Core_begins c (nI b) (nI x) C = some ((), C') ∧ fm_begins s (nI b) (nI x) M = some ((), M') ∧ Top c s T (E + 1) (L ++ [nI b]) C0 M0 C' M' ∧ Md c C' M' ∧ C' c 52 = nI b ∧ C' c 41 = 0 := by
  obtain ⟨hb21, hbp, hbg⟩ := hb
  obtain ⟨t, ht, e1, e2⟩ := h.clk
  obtain ⟨d, nst, n1, n2, n3, n4, n5⟩ := h.nst
  obtain ⟨o1, o2, o3⟩ := h.obs
  obtain ⟨pv, hpv, pv1, pv2⟩ := h.vec b hb21
  have hgr : ∀ j, j < d → grpV (M s (173 + b)) (M 0 3) b < grpV (M s (173 + nst j)) (M 0 3) (nst j) := fun j hj => hbg d n1 n3 j (nst j) hj (n4 j hj).2.2.1 (n4 j hj).2.1
  have hnb : ∀ j, j < d → ¬ nst j = b := fun j hj z => by
    have := hgr j hj
    rw [z] at this
    exact i32_irr this
  have hd : d < 21 := by
    have := pig 21 (d + 1) (fun j => if j < d then nst j else b) (fun i hi => by
      by_cases z : i < d
      · simp only [z, if_true]; exact (n4 i z).2.2.1
      · simp only [z, if_false]; exact hb21) (fun i j hij hj => by
      have z1 : i < d := by omega
      by_cases z2 : j < d
      · simp only [z1, z2, if_true]
        intro e
        have := n5 i j hij z2
        rw [e] at this
        exact i32_irr this
      · simp only [z1, z2, if_true, if_false]
        exact hnb i z1)
    omega
  rcases h.pnd b hb21 with ⟨p1, p2⟩ | ⟨p1, u, hu, p2, p3⟩
  · exact absurd (by rw [p2]; decide) hbp
  have e28 := (h.mdc.1 hcc).1
  have e14 := hm.1.1 hcc
  obtain ⟨q, hq0, hq1, hq2⟩ := top_told h hE hcc
  have e25 : M 4 25 = nI t := by rw [show (4 : Nat) = s by omega]; exact e2
  rw [fc_begins_v hb21 hd n2 o1 (by omega) hx]
  unfold fc_Core_begins_147 fc_Core_begins_183
  simp (disch := omega) only [stp_e, up2_x, up2_e, obU_n, e28, n10, ↓reduceIte]
  rw [show isB (nI x) = true from by rcases hx with rfl | rfl <;> rfl, gd_t, fc_notes_v (q := q) (by simp (disch := omega) only [up2_x, obU_n]; exact hq1) hq0 (by omega), bnd_s, show (0 : Int32) = nI 0 from rfl, fc_turns_v (by omega), bnd_s, fm_begins_own hb21 hd (by omega) n3 e14 hx]
  unfold fm_begins_153
  rw [fm_notes_v (q := q) (by simp (disch := omega) only [up2_x]; exact e14) (by simp (disch := omega) only [up2_x]; exact hq2) hq0, bnd_s]
  refine ⟨_, _, rfl, rfl, ?_, ?_, ?_⟩
  · refine ⟨⟨?_, ?_, ?_, ?_, ?_, ?_, ?_, ?_, ?_, ?_, ?_, ?_, ?_, ?_, ?_, ?_, ?_, ?_, ?_, ?_, ?_, ?_, ?_, ?_, ?_, ?_, ?_, ?_, ?_, ?_, ?_, ?_, ?_⟩, ⟨?_, ?_, ?_, ?_, ?_⟩⟩
    · exact rReg_fr h.reg (by intros; first | rfl | (simp (disch := omega) only [up2_x, upr_x, obU_n])) (by intros; first | rfl | (simp (disch := omega) only [up2_x, upr_x, obU_n]))
    · exact rDat_fr h.dat (by intros; first | rfl | (simp (disch := omega) only [up2_x, upr_x, obU_n])) (by intros; first | rfl | (simp (disch := omega) only [up2_x, upr_x, obU_n]))
    · exact rStk_fr h.stk (by intros; first | rfl | (simp (disch := omega) only [up2_x, upr_x, obU_n])) (by intros; first | rfl | (simp (disch := omega) only [up2_x, upr_x, obU_n]))
    · exact rFlt_fr h.flt (by intros; first | rfl | (simp (disch := omega) only [up2_x, upr_x, obU_n])) (by intros; first | rfl | (simp (disch := omega) only [up2_x, upr_x, obU_n]))
    · exact rZn_fr h.zn (by intros; first | rfl | (simp (disch := omega) only [up2_x, upr_x, obU_n])) (by intros; first | rfl | (simp (disch := omega) only [up2_x, upr_x, obU_n]))
    · refine ⟨pv, hpv, ?_, ?_⟩
      · simp (disch := omega) only [up2_x, up2_e, upr_x, upr_e, obU_n]; exact pv1
      · simp (disch := omega) only [up2_x, up2_e, upr_x, upr_e, obU_n]; exact pv2
    · exact rSp_fr h.sp (by intros; first | rfl | (simp (disch := omega) only [up2_x, upr_x, obU_n])) (by intros; first | rfl | (simp (disch := omega) only [up2_x, upr_x, obU_n]))
    · exact rShu_fr h.shu (by intros; first | rfl | (simp (disch := omega) only [up2_x, upr_x, obU_n])) (by intros; first | rfl | (simp (disch := omega) only [up2_x, upr_x, obU_n]))
    · exact rBas_fr h.bas (by intros; first | rfl | (simp (disch := omega) only [up2_x, upr_x, obU_n])) (by intros; first | rfl | (simp (disch := omega) only [up2_x, upr_x, obU_n]))
    · unfold rFls
      simp (disch := omega) only [up2_x, up2_e, upr_x, upr_e, obU_n]; try rfl
    · exact rLaz_fr h.laz (by intros; first | rfl | (simp (disch := omega) only [up2_x, upr_x, obU_n])) (by intros; first | rfl | (simp (disch := omega) only [up2_x, upr_x, obU_n]))
    · refine ⟨⟨0, by omega, ?_, ?_⟩, ?_⟩
      · simp (disch := omega) only [up2_x, up2_e, upr_x, upr_e, obU_n]
      · simp (disch := omega) only [up2_x, up2_e, upr_x, upr_e, obU_n]; try rfl
      · simp (disch := omega) only [up2_x, up2_e, upr_x, upr_e, obU_n]
    · unfold rStp
      simp (disch := omega) only [up2_x, up2_e, upr_x, upr_e, obU_n]; try rfl
    · obtain ⟨p0, hp0, f1, f2⟩ := h.stl.1
      refine ⟨⟨p0, hp0, ?_, ?_⟩, fun _ => ?_⟩
      · simp (disch := omega) only [up2_x, up2_e, upr_x, upr_e, obU_n]; exact f1
      · simp (disch := omega) only [up2_x, up2_e, upr_x, upr_e, obU_n]; exact f2
      · simp (disch := omega) only [up2_x, up2_e, upr_x, upr_e, obU_n]; exact h0
    · exact rAsl_fr h.asl (by intros; first | rfl | (simp (disch := omega) only [up2_x, upr_x, obU_n])) (by intros; first | rfl | (simp (disch := omega) only [up2_x, upr_x, obU_n]))
    · exact rClk_fr h.clk (by intros; first | rfl | (simp (disch := omega) only [up2_x, upr_x, obU_n])) (by intros; first | rfl | (simp (disch := omega) only [up2_x, upr_x, obU_n]))
    · exact rPer_fr h.per (by intros; first | rfl | (simp (disch := omega) only [up2_x, upr_x, obU_n])) (by intros; first | rfl | (simp (disch := omega) only [up2_x, upr_x, obU_n]))
    · exact rTim_fr h.tim (by intros; first | rfl | (simp (disch := omega) only [up2_x, upr_x, obU_n])) (by intros; first | rfl | (simp (disch := omega) only [up2_x, upr_x, obU_n]))
    · refine ⟨d + 1, fun j => if j = d then b else nst j, by omega, ?_, ?_, fun j hj => ?_, fun i j hij hj => ?_⟩
      · simp (disch := omega) only [up2_x, up2_e, upr_x, upr_e, obU_n]
      · simp (disch := omega) only [up2_x, up2_e, upr_x, upr_e, obU_n]
      · by_cases z : j = d
        · subst z
          simp only [if_true]
          refine ⟨?_, ?_, hb21, ?_⟩
          · simp (disch := omega) only [up2_x, up2_e, upr_x, upr_e, obU_n]
          · simp (disch := omega) only [up2_x, up2_e, upr_x, upr_e, obU_n]
          · simp (disch := omega) only [up2_x, up2_e, upr_x, upr_e, obU_n]
        · have hjd : j < d := by omega
          obtain ⟨a1, a2, a3, a4⟩ := n4 j hjd
          have a5 := hnb j hjd
          simp only [z, if_false]
          refine ⟨?_, ?_, a3, ?_⟩
          · simp (disch := omega) only [up2_x, upr_x, obU_n]; exact a1
          · simp (disch := omega) only [up2_x, upr_x, obU_n]; exact a2
          · simp (disch := omega) only [up2_x, upr_x, obU_n]; exact a4
      · have hid : i < d := by omega
        have zi : ¬ i = d := by omega
        have a3 := (n4 i hid).2.2.1
        by_cases z : j = d
        · subst z
          simp only [zi, if_true, if_false]
          simp (disch := omega) only [up2_x, upr_x, obU_n]
          exact hgr i hid
        · have hjd : j < d := by omega
          have b3 := (n4 j hjd).2.2.1
          simp only [zi, z, if_false]
          simp (disch := omega) only [up2_x, upr_x, obU_n]
          exact n5 i j hij hjd
    · exact rDue_fr h.due (by intros; first | rfl | (simp (disch := omega) only [up2_x, upr_x, obU_n])) (by intros; first | rfl | (simp (disch := omega) only [up2_x, upr_x, obU_n])) (by intros; first | rfl | (simp (disch := omega) only [up2_x, upr_x, obU_n])) (by intros; first | rfl | (simp (disch := omega) only [up2_x, upr_x, obU_n])) (by intros; first | rfl | (simp (disch := omega) only [up2_x, upr_x, obU_n]))
    · exact rRnk_fr h.rnk (by intros; first | rfl | (simp (disch := omega) only [up2_x, upr_x, obU_n])) (by intros; first | rfl | (simp (disch := omega) only [up2_x, upr_x, obU_n]))
    · exact rVec_fr h.vec (by intros; first | rfl | (simp (disch := omega) only [up2_x, upr_x, obU_n])) (by intros; first | rfl | (simp (disch := omega) only [up2_x, upr_x, obU_n]))
    · exact rEna_fr h.ena (by intros; first | rfl | (simp (disch := omega) only [up2_x, upr_x, obU_n])) (by intros; first | rfl | (simp (disch := omega) only [up2_x, upr_x, obU_n]))
    · intro j hj
      by_cases e : j = b
      · subst e
        refine Or.inl ⟨?_, ?_⟩
        · simp (disch := omega) only [up2_x, up2_e, upr_x, upr_e, obU_n]; try rfl
        · simp (disch := omega) only [up2_x, up2_e, upr_x, upr_e, obU_n]
      · simp (disch := omega) only [up2_x, upr_x, obU_n]
        exact h.pnd j hj
    · intro j hj
      by_cases e : j = b
      · subst e
        refine ⟨?_, ?_, fun _ => ?_⟩
        · simp (disch := omega) only [up2_x, up2_e, upr_x, upr_e, obU_n]
        · simp (disch := omega) only [up2_x, up2_e, upr_x, upr_e, obU_n]; rfl
        · simp (disch := omega) only [up2_x, up2_e, upr_x, upr_e, obU_n]; rw [e1, e2]
      · simp (disch := omega) only [up2_x, upr_x, obU_n]
        exact h.act j hj
    · exact rHld_fr h.hld (by intros; first | rfl | (simp (disch := omega) only [up2_x, upr_x, obU_n])) (by intros; first | rfl | (simp (disch := omega) only [up2_x, upr_x, obU_n]))
    · exact rSpl_fr h.spl (by intros; first | rfl | (simp (disch := omega) only [up2_x, upr_x, obU_n])) (by intros; first | rfl | (simp (disch := omega) only [up2_x, upr_x, obU_n]))
    · refine ⟨?_, ?_, fun z => absurd z ?_⟩
      · simp (disch := omega) only [up2_x, up2_e, upr_x, upr_e, obU_n]; exact h.sta.1
      · simp (disch := omega) only [up2_x, up2_e, upr_x, upr_e, obU_n]; exact h.sta.2.1
      · simp (disch := omega) only [up2_x, up2_e, upr_x, upr_e, obU_n]; exact ne_nI (b := 1) (by omega) (by decide) (by decide)
    · refine fun z => absurd z ?_
      simp (disch := omega) only [up2_x, up2_e, upr_x, upr_e, obU_n]; exact ne_nI (b := 4) (by omega) (by decide) (by decide)
    · refine fun z => absurd z ?_
      simp (disch := omega) only [up2_x, up2_e, upr_x, upr_e, obU_n]; exact ne_nI (b := 3) (by omega) (by decide) (by decide)
    · exact rCod_fr h.cod (by intros; first | rfl | (simp (disch := omega) only [up2_x, upr_x, obU_n])) (by intros; first | rfl | (simp (disch := omega) only [up2_x, upr_x, obU_n]))
    · refine ⟨?_, ?_, fun j hj hj3 => ?_⟩
      · simp (disch := omega) only [up2_x, up2_e, upr_x, upr_e, obU_n]
        rw [o1, nI_1, List.length_append]
        rfl
      · rw [List.length_append]
        show L.length + 1 ≤ T
        omega
      · simp (disch := omega) only [up2_x, upr_x, obU_n]
        rw [obU_row (l := L.length) (by simp (disch := omega) only [up2_x]; exact o1) (by omega)]
        rw [List.length_append] at hj
        by_cases z : j = L.length
        · subst z
          rw [if_pos ⟨rfl, hj3⟩]
          simp
        · have hjl : j < L.length := by
            have : j < L.length + 1 := hj
            omega
          rw [if_neg (fun w => z w.1)]
          simp (disch := omega) only [up2_x, upr_x, obU_n]
          rw [o3 j hjl hj3, List.getD_eq_getElem?_getD, List.getD_eq_getElem?_getD, List.getElem?_append_left hjl]
    · exact rMdc_fr (C := C) (M := M) h.mdc (by intros; first | rfl | (simp (disch := omega) only [up2_x, upr_x, obU_n]))
    · intro z k h1 h2 h3
      by_cases k1 : k = 1
      · subst k1
        simp (disch := omega) only [up2_x, up2_e, upr_x, upr_e, obU_n]
        rw [h.cnt z 1 (by omega) (by omega) (by omega)]
      · by_cases k2 : k = 2
        · subst k2
          simp (disch := omega) only [up2_x, up2_e, upr_x, upr_e, obU_n]
          rw [h.cnt z 2 (by omega) (by omega) (by omega)]
        · by_cases k12 : k = 12
          · subst k12
            simp (disch := omega) only [up2_x, up2_e, upr_x, upr_e, obU_n]
            rw [h.cnt z 12 (by omega) (by omega) (by omega)]
          · simp (disch := omega) only [up2_x, upr_x, obU_n]
            exact h.cnt z k h1 h2 h3
    · exact rOut_fr h.out (by intros; first | rfl | (simp (disch := omega) only [up2_x, upr_x, obU_n])) (by intros; first | rfl | (simp (disch := omega) only [up2_x, upr_x, obU_n])) (by intros; first | rfl | (simp (disch := omega) only [up2_x, upr_x, obU_n])) (by intros; first | rfl | (simp (disch := omega) only [up2_x, upr_x, obU_n]))
    · exact evt_note h.evt (fun z => ⟨hq1, hq0⟩) (by omega) (m := x) (x1 := nI b) (x2 := nI t) (x3 := nI t - nI u) (by omega) (by intros; simp (disch := omega) only [up2_x, up2_e, upr_x, upr_e, up2_i, up2_n, e1, e2, e25, p2, p3, obU_n]) (by intros; simp (disch := omega) only [up2_x, up2_e, upr_x, upr_e, up2_i, up2_n, e1, e2, e25, p2, p3, obU_n]) (by intros; simp (disch := omega) only [up2_x, up2_e, upr_x, upr_e, up2_i, up2_n, e1, e2, e25, p2, p3, obU_n]) (by intros; simp (disch := omega) only [up2_x, up2_e, upr_x, upr_e, up2_i, up2_n, e1, e2, e25, p2, p3, obU_n]) (by intros; simp (disch := omega) only [up2_x, up2_e, upr_x, upr_e, up2_i, up2_n, e1, e2, e25, p2, p3, obU_n]) (by intros; simp (disch := omega) only [up2_x, up2_e, upr_x, upr_e, up2_i, up2_n, e1, e2, e25, p2, p3, obU_n]) (by intros; simp (disch := omega) only [up2_x, up2_e, upr_x, upr_e, up2_i, up2_n, e1, e2, e25, p2, p3, obU_n])
    · intro z k hk
      by_cases e : k = b
      · subst e
        simp (disch := omega) only [up2_x, up2_e, upr_x, upr_e, obU_n]
        rw [h.wai z k hk, e1, e2, p2, p3]
      · simp (disch := omega) only [up2_x, upr_x, obU_n]
        exact h.wai z k hk
    · exact rFrm_fr h.frm (by intros; first | rfl | (simp (disch := omega) only [up2_x, upr_x, obU_n])) (by intros; first | rfl | (simp (disch := omega) only [up2_x, upr_x, obU_n]))
  · exact ⟨⟨fun z => by simp (disch := omega) only [up2_x, upr_x, obU_n]; exact hm.1.1 z, fun z => by simp (disch := omega) only [up2_x, upr_x, obU_n]; exact hm.1.2 z⟩, by simp (disch := omega) only [up2_x, upr_x, obU_n]; exact hm.2.1, by simp (disch := omega) only [up2_x, up2_e, upr_x, upr_e, obU_n]⟩
  · exact ⟨by simp (disch := omega) only [up2_x, up2_e, upr_x, upr_e, obU_n], by simp (disch := omega) only [up2_x, up2_e, upr_x, upr_e, obU_n]; try rfl⟩
set_option maxHeartbeats 8000000 in
theorem sim_begins_for {c s T E : Nat} {L : List Int32} {C0 M0 C M : Mem} {b x : Nat} (hcs : cs c s) (hcc : c = 52) (hT : T < 2 ^ 29) (hE : E < 2 ^ 29) (hL : L.length < T) (h : Top c s T E L C0 M0 C M) (hm : Md c C M) (hb : Elig c s C M b) (h0 : C c 43 = 0) (hx : x = 0 ∨ x = 1) : ∃ C' M', fc_Core_begins c (nI b) (nI x) C = some ((), C') ∧ fm_begins s (nI b) (nI x) M = some ((), M') ∧ Top c s T (E + 1) (L ++ [nI b]) C0 M0 C' M' ∧ Md c C' M' ∧ C' c 52 = nI b ∧ C' c 41 = 0 := by
  obtain ⟨hb21, hbp, hbg⟩ := hb
  obtain ⟨t, ht, e1, e2⟩ := h.clk
  obtain ⟨d, nst, n1, n2, n3, n4, n5⟩ := h.nst
  obtain ⟨o1, o2, o3⟩ := h.obs
  obtain ⟨pv, hpv, pv1, pv2⟩ := h.vec b hb21
  have hgr : ∀ j, j < d → grpV (M s (173 + b)) (M 0 3) b < grpV (M s (173 + nst j)) (M 0 3) (nst j) := fun j hj => hbg d n1 n3 j (nst j) hj (n4 j hj).2.2.1 (n4 j hj).2.1
  have hnb : ∀ j, j < d → ¬ nst j = b := fun j hj z => by
    have := hgr j hj
    rw [z] at this
    exact i32_irr this
  have hd : d < 21 := by
    have := pig 21 (d + 1) (fun j => if j < d then nst j else b) (fun i hi => by
      by_cases z : i < d
      · simp only [z, if_true]; exact (n4 i z).2.2.1
      · simp only [z, if_false]; exact hb21) (fun i j hij hj => by
      have z1 : i < d := by omega
      by_cases z2 : j < d
      · simp only [z1, z2, if_true]
        intro e
        have := n5 i j hij z2
        rw [e] at this
        exact i32_irr this
      · simp only [z1, z2, if_true, if_false]
        exact hnb i z1)
    omega
  rcases h.pnd b hb21 with ⟨p1, p2⟩ | ⟨p1, u, hu, p2, p3⟩
  · exact absurd (by rw [p2]; decide) hbp
  have e28 := (h.mdc.2 hcc).1
  have e14 := hm.1.2 hcc
  rw [fc_begins_v hb21 hd n2 o1 (by omega) hx]
  unfold fc_Core_begins_147 fc_Core_begins_183
  simp (disch := omega) only [stp_e, up2_x, up2_e, obU_n, e28, n10, ↓reduceIte]
  rw [show (0 : Int32) = nI 0 from rfl, fc_turns_v (by omega), bnd_s, fm_begins_for hb21 hd (by omega) n3 e14 hx]
  refine ⟨_, _, rfl, rfl, ?_, ?_, ?_⟩
  · refine ⟨⟨?_, ?_, ?_, ?_, ?_, ?_, ?_, ?_, ?_, ?_, ?_, ?_, ?_, ?_, ?_, ?_, ?_, ?_, ?_, ?_, ?_, ?_, ?_, ?_, ?_, ?_, ?_, ?_, ?_, ?_, ?_, ?_, ?_⟩, ⟨?_, ?_, ?_, ?_, ?_⟩⟩
    · exact rReg_fr h.reg (by intros; first | rfl | (simp (disch := omega) only [up2_x, upr_x, obU_n])) (by intros; first | rfl | (simp (disch := omega) only [up2_x, upr_x, obU_n]))
    · exact rDat_fr h.dat (by intros; first | rfl | (simp (disch := omega) only [up2_x, upr_x, obU_n])) (by intros; first | rfl | (simp (disch := omega) only [up2_x, upr_x, obU_n]))
    · exact rStk_fr h.stk (by intros; first | rfl | (simp (disch := omega) only [up2_x, upr_x, obU_n])) (by intros; first | rfl | (simp (disch := omega) only [up2_x, upr_x, obU_n]))
    · exact rFlt_fr h.flt (by intros; first | rfl | (simp (disch := omega) only [up2_x, upr_x, obU_n])) (by intros; first | rfl | (simp (disch := omega) only [up2_x, upr_x, obU_n]))
    · exact rZn_fr h.zn (by intros; first | rfl | (simp (disch := omega) only [up2_x, upr_x, obU_n])) (by intros; first | rfl | (simp (disch := omega) only [up2_x, upr_x, obU_n]))
    · refine ⟨pv, hpv, ?_, ?_⟩
      · simp (disch := omega) only [up2_x, up2_e, upr_x, upr_e, obU_n]; exact pv1
      · simp (disch := omega) only [up2_x, up2_e, upr_x, upr_e, obU_n]; exact pv2
    · exact rSp_fr h.sp (by intros; first | rfl | (simp (disch := omega) only [up2_x, upr_x, obU_n])) (by intros; first | rfl | (simp (disch := omega) only [up2_x, upr_x, obU_n]))
    · exact rShu_fr h.shu (by intros; first | rfl | (simp (disch := omega) only [up2_x, upr_x, obU_n])) (by intros; first | rfl | (simp (disch := omega) only [up2_x, upr_x, obU_n]))
    · exact rBas_fr h.bas (by intros; first | rfl | (simp (disch := omega) only [up2_x, upr_x, obU_n])) (by intros; first | rfl | (simp (disch := omega) only [up2_x, upr_x, obU_n]))
    · unfold rFls
      simp (disch := omega) only [up2_x, up2_e, upr_x, upr_e, obU_n]; try rfl
    · exact rLaz_fr h.laz (by intros; first | rfl | (simp (disch := omega) only [up2_x, upr_x, obU_n])) (by intros; first | rfl | (simp (disch := omega) only [up2_x, upr_x, obU_n]))
    · refine ⟨⟨0, by omega, ?_, ?_⟩, ?_⟩
      · simp (disch := omega) only [up2_x, up2_e, upr_x, upr_e, obU_n]
      · simp (disch := omega) only [up2_x, up2_e, upr_x, upr_e, obU_n]; try rfl
      · simp (disch := omega) only [up2_x, up2_e, upr_x, upr_e, obU_n]
    · unfold rStp
      simp (disch := omega) only [up2_x, up2_e, upr_x, upr_e, obU_n]; try rfl
    · obtain ⟨p0, hp0, f1, f2⟩ := h.stl.1
      refine ⟨⟨p0, hp0, ?_, ?_⟩, fun _ => ?_⟩
      · simp (disch := omega) only [up2_x, up2_e, upr_x, upr_e, obU_n]; exact f1
      · simp (disch := omega) only [up2_x, up2_e, upr_x, upr_e, obU_n]; exact f2
      · simp (disch := omega) only [up2_x, up2_e, upr_x, upr_e, obU_n]; exact h0
    · exact rAsl_fr h.asl (by intros; first | rfl | (simp (disch := omega) only [up2_x, upr_x, obU_n])) (by intros; first | rfl | (simp (disch := omega) only [up2_x, upr_x, obU_n]))
    · exact rClk_fr h.clk (by intros; first | rfl | (simp (disch := omega) only [up2_x, upr_x, obU_n])) (by intros; first | rfl | (simp (disch := omega) only [up2_x, upr_x, obU_n]))
    · exact rPer_fr h.per (by intros; first | rfl | (simp (disch := omega) only [up2_x, upr_x, obU_n])) (by intros; first | rfl | (simp (disch := omega) only [up2_x, upr_x, obU_n]))
    · exact rTim_fr h.tim (by intros; first | rfl | (simp (disch := omega) only [up2_x, upr_x, obU_n])) (by intros; first | rfl | (simp (disch := omega) only [up2_x, upr_x, obU_n]))
    · refine ⟨d + 1, fun j => if j = d then b else nst j, by omega, ?_, ?_, fun j hj => ?_, fun i j hij hj => ?_⟩
      · simp (disch := omega) only [up2_x, up2_e, upr_x, upr_e, obU_n]
      · simp (disch := omega) only [up2_x, up2_e, upr_x, upr_e, obU_n]
      · by_cases z : j = d
        · subst z
          simp only [if_true]
          refine ⟨?_, ?_, hb21, ?_⟩
          · simp (disch := omega) only [up2_x, up2_e, upr_x, upr_e, obU_n]
          · simp (disch := omega) only [up2_x, up2_e, upr_x, upr_e, obU_n]
          · simp (disch := omega) only [up2_x, up2_e, upr_x, upr_e, obU_n]
        · have hjd : j < d := by omega
          obtain ⟨a1, a2, a3, a4⟩ := n4 j hjd
          have a5 := hnb j hjd
          simp only [z, if_false]
          refine ⟨?_, ?_, a3, ?_⟩
          · simp (disch := omega) only [up2_x, upr_x, obU_n]; exact a1
          · simp (disch := omega) only [up2_x, upr_x, obU_n]; exact a2
          · simp (disch := omega) only [up2_x, upr_x, obU_n]; exact a4
      · have hid : i < d := by omega
        have zi : ¬ i = d := by omega
        have a3 := (n4 i hid).2.2.1
        by_cases z : j = d
        · subst z
          simp only [zi, if_true, if_false]
          simp (disch := omega) only [up2_x, upr_x, obU_n]
          exact hgr i hid
        · have hjd : j < d := by omega
          have b3 := (n4 j hjd).2.2.1
          simp only [zi, z, if_false]
          simp (disch := omega) only [up2_x, upr_x, obU_n]
          exact n5 i j hij hjd
    · exact rDue_fr h.due (by intros; first | rfl | (simp (disch := omega) only [up2_x, upr_x, obU_n])) (by intros; first | rfl | (simp (disch := omega) only [up2_x, upr_x, obU_n])) (by intros; first | rfl | (simp (disch := omega) only [up2_x, upr_x, obU_n])) (by intros; first | rfl | (simp (disch := omega) only [up2_x, upr_x, obU_n])) (by intros; first | rfl | (simp (disch := omega) only [up2_x, upr_x, obU_n]))
    · exact rRnk_fr h.rnk (by intros; first | rfl | (simp (disch := omega) only [up2_x, upr_x, obU_n])) (by intros; first | rfl | (simp (disch := omega) only [up2_x, upr_x, obU_n]))
    · exact rVec_fr h.vec (by intros; first | rfl | (simp (disch := omega) only [up2_x, upr_x, obU_n])) (by intros; first | rfl | (simp (disch := omega) only [up2_x, upr_x, obU_n]))
    · exact rEna_fr h.ena (by intros; first | rfl | (simp (disch := omega) only [up2_x, upr_x, obU_n])) (by intros; first | rfl | (simp (disch := omega) only [up2_x, upr_x, obU_n]))
    · intro j hj
      by_cases e : j = b
      · subst e
        refine Or.inl ⟨?_, ?_⟩
        · simp (disch := omega) only [up2_x, up2_e, upr_x, upr_e, obU_n]; try rfl
        · simp (disch := omega) only [up2_x, up2_e, upr_x, upr_e, obU_n]
      · simp (disch := omega) only [up2_x, upr_x, obU_n]
        exact h.pnd j hj
    · intro j hj
      by_cases e : j = b
      · subst e
        refine ⟨?_, ?_, fun _ => ?_⟩
        · simp (disch := omega) only [up2_x, up2_e, upr_x, upr_e, obU_n]
        · simp (disch := omega) only [up2_x, up2_e, upr_x, upr_e, obU_n]; rfl
        · simp (disch := omega) only [up2_x, up2_e, upr_x, upr_e, obU_n]; rw [e1, e2]
      · simp (disch := omega) only [up2_x, upr_x, obU_n]
        exact h.act j hj
    · exact rHld_fr h.hld (by intros; first | rfl | (simp (disch := omega) only [up2_x, upr_x, obU_n])) (by intros; first | rfl | (simp (disch := omega) only [up2_x, upr_x, obU_n]))
    · exact rSpl_fr h.spl (by intros; first | rfl | (simp (disch := omega) only [up2_x, upr_x, obU_n])) (by intros; first | rfl | (simp (disch := omega) only [up2_x, upr_x, obU_n]))
    · refine ⟨?_, ?_, fun z => absurd z ?_⟩
      · simp (disch := omega) only [up2_x, up2_e, upr_x, upr_e, obU_n]; exact h.sta.1
      · simp (disch := omega) only [up2_x, up2_e, upr_x, upr_e, obU_n]; exact h.sta.2.1
      · simp (disch := omega) only [up2_x, up2_e, upr_x, upr_e, obU_n]; exact ne_nI (b := 1) (by omega) (by decide) (by decide)
    · refine fun z => absurd z ?_
      simp (disch := omega) only [up2_x, up2_e, upr_x, upr_e, obU_n]; exact ne_nI (b := 4) (by omega) (by decide) (by decide)
    · refine fun z => absurd z ?_
      simp (disch := omega) only [up2_x, up2_e, upr_x, upr_e, obU_n]; exact ne_nI (b := 3) (by omega) (by decide) (by decide)
    · exact rCod_fr h.cod (by intros; first | rfl | (simp (disch := omega) only [up2_x, upr_x, obU_n])) (by intros; first | rfl | (simp (disch := omega) only [up2_x, upr_x, obU_n]))
    · refine ⟨?_, ?_, fun j hj hj3 => ?_⟩
      · simp (disch := omega) only [up2_x, up2_e, upr_x, upr_e, obU_n]
        rw [o1, nI_1, List.length_append]
        rfl
      · rw [List.length_append]
        show L.length + 1 ≤ T
        omega
      · simp (disch := omega) only [up2_x, upr_x, obU_n]
        rw [obU_row (l := L.length) (by simp (disch := omega) only [up2_x]; exact o1) (by omega)]
        rw [List.length_append] at hj
        by_cases z : j = L.length
        · subst z
          rw [if_pos ⟨rfl, hj3⟩]
          simp
        · have hjl : j < L.length := by
            have : j < L.length + 1 := hj
            omega
          rw [if_neg (fun w => z w.1)]
          simp (disch := omega) only [up2_x, upr_x, obU_n]
          rw [o3 j hjl hj3, List.getD_eq_getElem?_getD, List.getD_eq_getElem?_getD, List.getElem?_append_left hjl]
    · exact rMdc_fr (C := C) (M := M) h.mdc (by intros; first | rfl | (simp (disch := omega) only [up2_x, upr_x, obU_n]))
    · exact fun z => absurd z (by omega)
    · exact rOut_fr h.out (by intros; first | rfl | (simp (disch := omega) only [up2_x, upr_x, obU_n])) (by intros; first | rfl | (simp (disch := omega) only [up2_x, upr_x, obU_n])) (by intros; first | rfl | (simp (disch := omega) only [up2_x, upr_x, obU_n])) (by intros; first | rfl | (simp (disch := omega) only [up2_x, upr_x, obU_n]))
    · exact fun z => absurd z (by omega)
    · exact fun z => absurd z (by omega)
    · exact rFrm_fr h.frm (by intros; first | rfl | (simp (disch := omega) only [up2_x, upr_x, obU_n])) (by intros; first | rfl | (simp (disch := omega) only [up2_x, upr_x, obU_n]))
  · exact ⟨⟨fun z => by simp (disch := omega) only [up2_x, upr_x, obU_n]; exact hm.1.1 z, fun z => by simp (disch := omega) only [up2_x, upr_x, obU_n]; exact hm.1.2 z⟩, by simp (disch := omega) only [up2_x, upr_x, obU_n]; exact hm.2.1, by simp (disch := omega) only [up2_x, up2_e, upr_x, upr_e, obU_n]⟩
  · exact ⟨by simp (disch := omega) only [up2_x, up2_e, upr_x, upr_e, obU_n], by simp (disch := omega) only [up2_x, up2_e, upr_x, upr_e, obU_n]; try rfl⟩
theorem sim_begins {c s T E : Nat} {L : List Int32} {C0 M0 C M : Mem} {b x : Nat} (hcs : cs c s) (hT : T < 2 ^ 29) (hE : E < 2 ^ 29) (hL : L.length < T) (h : Top c s T E L C0 M0 C M) (hm : Md c C M) (hb : Elig c s C M b) (h0 : C c 43 = 0) (hx : x = 0 ∨ x = 1) : ∃ C' M', fc_Core_begins c (nI b) (nI x) C = some ((), C') ∧ fm_begins s (nI b) (nI x) M = some ((), M') ∧ Top c s T (E + 1) (L ++ [nI b]) C0 M0 C' M' ∧ Md c C' M' ∧ C' c 52 = nI b ∧ C' c 41 = 0 := by
  rcases hcs with ⟨z, w⟩ | ⟨z, w⟩
  · exact sim_begins_own (Or.inl ⟨z, w⟩) z hT hE hL h hm hb h0 hx
  · exact sim_begins_for (Or.inr ⟨z, w⟩) z hT hE hL h hm hb h0 hx
