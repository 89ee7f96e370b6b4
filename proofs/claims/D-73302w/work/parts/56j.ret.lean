/-! THE SIMULATION: returns -/
theorem up2_comm {M : Mem} {o k o' k' : Nat} {v w : Int32} (h : ¬ o = o' ∨ ¬ k = k') : up2 (up2 M o k v) o' k' w = up2 (up2 M o' k' w) o k v := by
  funext x y
  by_cases h1 : x = o ∧ y = k
  · obtain ⟨rfl, rfl⟩ := h1
    rw [up2_e, up2_x (by omega), up2_e]
  · by_cases h2 : x = o' ∧ y = k'
    · obtain ⟨rfl, rfl⟩ := h2
      rw [up2_e, up2_x (by omega), up2_e]
    · rw [up2_x (by omega), up2_x (by omega), up2_x (by omega), up2_x (by omega)]
theorem ret_regs {c s T E p : Nat} {L : List Int32} {C0 M0 : Mem} (hcs : cs c s) (h6 : 6 ≤ p) (hp : p ≤ 96) (x1 x3 w : Int32) : ∀ (i k n : Nat) (C M : Mem), k + i = 4 → i < n → Top c s T E L C0 M0 C M → Md c C M → C c 32 = nI p → ∃ C' M', fc_Core_returns_89 c n x1 (nI k) C = fc_Core_returns_89 c 1 x1 (nI 4) C' ∧ fm_returns_113 s n (nI (56 + p)) x3 (nI k) (up2 M s 18 w) = fm_returns_113 s 1 (nI (56 + p)) x3 (nI 4) (up2 M' s 18 w) ∧ Top c s T E L C0 M0 C' M' ∧ Md c C' M' ∧ (∀ o j, ¬ o = c + 1 → C' o j = C o j) ∧ (∀ o j, (¬ o = s ∨ 8 ≤ j) → M' o j = M o j) := by
  intro i
  induction i with
  | zero =>
    intro k n C M hk hn h hm hsp
    obtain ⟨n', rfl⟩ : ∃ n', n = n' + 1 := ⟨n - 1, by omega⟩
    have hk4 : k = 4 := by omega
    subst hk4
    refine ⟨C, M, ?_, ?_, h, hm, fun _ _ _ => rfl, fun _ _ _ => rfl⟩
    · rw [show fc_Core_returns_89 c (n' + 1) = fc_Core_returns_89b c (fc_Core_returns_89 c n') from rfl, show fc_Core_returns_89 c 1 = fc_Core_returns_89b c (fc_Core_returns_89 c 0) from rfl]
      unfold fc_Core_returns_89b
      rw [if_pos (show (4 : Int32) ≤ nI 4 by decide), if_pos (show (4 : Int32) ≤ nI 4 by decide)]
    · rw [show fm_returns_113 s (n' + 1) = fm_returns_113b s (fm_returns_113 s n') from rfl, show fm_returns_113 s 1 = fm_returns_113b s (fm_returns_113 s 0) from rfl]
      unfold fm_returns_113b
      rw [if_pos (show (4 : Int32) ≤ nI 4 by decide), if_pos (show (4 : Int32) ≤ nI 4 by decide)]
  | succ i ih =>
    intro k n C M hk hn h hm hsp
    obtain ⟨n', rfl⟩ : ∃ n', n = n' + 1 := ⟨n - 1, by omega⟩
    have hst := h.stk (p - 6 + k) (by omega)
    obtain ⟨t1, t2⟩ := top_reg (k := k) (v := M s (56 + (p - 6 + k))) hcs h hm (by omega)
    obtain ⟨C', M', a1, a2, a3, a4, a5, a6⟩ := ih (k + 1) n' _ _ (by omega) (by omega) t1 t2 (by simp (disch := omega) only [up2_x, upr_x]; exact hsp)
    refine ⟨C', M', ?_, ?_, a3, a4, fun o j ho => ?_, fun o j ho => ?_⟩
    · rw [← a1, show fc_Core_returns_89 c (n' + 1) = fc_Core_returns_89b c (fc_Core_returns_89 c n') from rfl]
      unfold fc_Core_returns_89b
      rw [if_neg (show ¬ (4 : Int32) ≤ nI k from nI_ge (b := 4) (by omega) (by decide)), hsp, s_6 h6, nI_add, inb_nI (show p - 6 + k < 96 by omega) (by decide), gd_t, inb_nI (show k < 8 by omega) (by decide), gd_t, nI_clamp (show k < 2 ^ 31 by omega), nI_clamp (show p - 6 + k < 2 ^ 31 by omega), stp_e, nI_1, hst]
    · rw [← a2, show fm_returns_113 s (n' + 1) = fm_returns_113b s (fm_returns_113 s n') from rfl]
      unfold fm_returns_113b
      rw [if_neg (show ¬ (4 : Int32) ≤ nI k from nI_ge (b := 4) (by omega) (by decide)), s_6 (show 6 ≤ 56 + p by omega), nI_add, inb_nI (show 56 + p - 6 + k < 342 by omega) (by decide), gd_t, l_0, inb_nI (show k < 342 by omega) (by decide), gd_t, nI_clamp (show k < 2 ^ 31 by omega), nI_clamp (show 56 + p - 6 + k < 2 ^ 31 by omega), stp_e, nI_1, up2_x (Or.inr (by omega)), show 56 + p - 6 + k = 56 + (p - 6 + k) by omega, up2_comm (Or.inr (by omega))]
    · rw [a5 o j ho, up2_x (Or.inl ho)]
    · rw [a6 o j ho, up2_x (by omega)]
theorem fin0 : fin32 0 := by unfold fin32; decide
theorem ret_flts {c s T E p : Nat} {L : List Int32} {C0 M0 : Mem} (hcs : cs c s) (h10 : 10 ≤ p) (hp : p ≤ 96) (x1 : Int32) : ∀ (i k n : Nat) (C M : Mem), k + i = 4 → i < n → Top c s T E L C0 M0 C M → Md c C M → ∃ C' M', fc_Core_returns_33 c n x1 (nI (p - 10)) (nI k) C = fc_Core_returns_87 c x1 C' ∧ fm_returns_30 s n (nI (56 + p)) x1 (nI k) M = fm_returns_96 s (nI (56 + p)) x1 M' ∧ Top c s T E L C0 M0 C' M' ∧ Md c C' M' ∧ (∀ o j, ¬ o = c + 2 → C' o j = C o j) ∧ (∀ o j, (¬ o = s ∨ 12 ≤ j) → M' o j = M o j) := by
  intro i
  induction i with
  | zero =>
    intro k n C M hk hn h hm
    obtain ⟨n', rfl⟩ : ∃ n', n = n' + 1 := ⟨n - 1, by omega⟩
    have hk4 : k = 4 := by omega
    subst hk4
    refine ⟨C, M, ?_, ?_, h, hm, fun _ _ _ => rfl, fun _ _ _ => rfl⟩
    · rw [show fc_Core_returns_33 c (n' + 1) = fc_Core_returns_33b c (fc_Core_returns_33 c n') from rfl]
      unfold fc_Core_returns_33b
      rw [if_pos (show (4 : Int32) ≤ nI 4 by decide)]
    · rw [show fm_returns_30 s (n' + 1) = fm_returns_30b s (fm_returns_30 s n') from rfl]
      unfold fm_returns_30b
      rw [if_pos (show (4 : Int32) ≤ nI 4 by decide)]
  | succ i ih =>
    intro k n C M hk hn h hm
    obtain ⟨n', rfl⟩ : ∃ n', n = n' + 1 := ⟨n - 1, by omega⟩
    have hst := h.stk (p - 10 + k) (by omega)
    have hfin : fin32 (if fE (M s (56 + (p - 10 + k))) = 255 then 0 else M s (56 + (p - 10 + k))) := by
      by_cases z : fE (M s (56 + (p - 10 + k))) = 255
      · rw [if_pos z]; exact fin0
      · rw [if_neg z]; exact (fin32_iff _).mpr z
    obtain ⟨t1, t2⟩ := top_flt (k := k) hcs h hm (by omega) hfin
    obtain ⟨C', M', a1, a2, a3, a4, a5, a6⟩ := ih (k + 1) n' _ _ (by omega) (by omega) t1 t2
    obtain ⟨r, r1, r2⟩ := fc_number_v (M s (56 + (p - 10 + k))) C
    refine ⟨C', M', ?_, ?_, a3, a4, fun o j ho => ?_, fun o j ho => ?_⟩
    · rw [← a1, show fc_Core_returns_33 c (n' + 1) = fc_Core_returns_33b c (fc_Core_returns_33 c n') from rfl]
      unfold fc_Core_returns_33b
      rw [if_neg (show ¬ (4 : Int32) ≤ nI k from nI_ge (b := 4) (by omega) (by decide)), nI_add, inb_nI (show p - 10 + k < 96 by omega) (by decide), gd_t, inb_nI (show k < 4 by omega) (by decide), nI_clamp (show k < 2 ^ 31 by omega), nI_clamp (show p - 10 + k < 2 ^ 31 by omega), hst, r1, bnd_s, gd_t, stp_e, nI_1, r2]
    · rw [← a2, show fm_returns_30 s (n' + 1) = fm_returns_30b s (fm_returns_30 s n') from rfl]
      unfold fm_returns_30b fm_returns_70
      rw [if_neg (show ¬ (4 : Int32) ≤ nI k from nI_ge (b := 4) (by omega) (by decide)), s_10 (show 10 ≤ 56 + p by omega), nI_add, inb_nI (show 56 + p - 10 + k < 342 by omega) (by decide), gd_t, nI_clamp (show 56 + p - 10 + k < 2 ^ 31 by omega), l_8, inb_nI (show 8 + k < 342 by omega) (by decide), nI_clamp (show 8 + k < 2 ^ 31 by omega), fm_isFinite_v, bnd_s, show 56 + p - 10 + k = 56 + (p - 10 + k) by omega]
      simp only [gd_t, stp_e]
      rw [nI_1]
      by_cases z : fE (M s (56 + (p - 10 + k))) = 255
      · rw [if_pos (show bI (decide (¬ fE (M s (56 + (p - 10 + k))) = 255)) = 0 by simp [z, bI]), if_pos z]
      · rw [if_neg (show ¬ bI (decide (¬ fE (M s (56 + (p - 10 + k))) = 255)) = 0 by simp [z, bI]), if_neg z]
    · rw [a5 o j ho, up2_x (Or.inl ho)]
    · rw [a6 o j ho, up2_x (by omega)]
set_option maxHeartbeats 4000000 in
theorem top_ret_for {c s T E : Nat} {L : List Int32} {C0 M0 C M : Mem} {q y : Nat} {a b f : Int32} (hcs : cs c s) (h : Top c s T E L C0 M0 C M) (hm : Md c C M) (h0 : C c 43 = 0) (hq : q < 512) (hy : y ≤ 96) : Top c s T E L C0 M0 (up2 (up2 (up2 (up2 (up2 (up2 (up2 (up2 C c 31 (nI q)) c 29 a) c 30 b) c 45 f) c 32 (nI y)) c 41 (nI 0)) c 42 0) c 24 (nI 0)) (up2 (up2 (up2 (up2 (up2 (up2 (up2 M s 18 f) s 12 (nI q)) s 13 a) s 14 b) s 15 (nI y)) s 20 0) s 21 0) ∧ Md c (up2 (up2 (up2 (up2 (up2 (up2 (up2 (up2 C c 31 (nI q)) c 29 a) c 30 b) c 45 f) c 32 (nI y)) c 41 (nI 0)) c 42 0) c 24 (nI 0)) (up2 (up2 (up2 (up2 (up2 (up2 (up2 M s 18 f) s 12 (nI q)) s 13 a) s 14 b) s 15 (nI y)) s 20 0) s 21 0) := by
  refine ⟨?_, ?_⟩
  · refine ⟨⟨?_, ?_, ?_, ?_, ?_, ?_, ?_, ?_, ?_, ?_, ?_, ?_, ?_, ?_, ?_, ?_, ?_, ?_, ?_, ?_, ?_, ?_, ?_, ?_, ?_, ?_, ?_, ?_, ?_, ?_, ?_, ?_, ?_⟩, ⟨?_, ?_, ?_, ?_, ?_⟩⟩
    · exact rReg_fr h.reg (by intros; first | rfl | (simp (disch := omega) only [up2_x, upr_x])) (by intros; first | rfl | (simp (disch := omega) only [up2_x, upr_x]))
    · exact rDat_fr h.dat (by intros; first | rfl | (simp (disch := omega) only [up2_x, upr_x])) (by intros; first | rfl | (simp (disch := omega) only [up2_x, upr_x]))
    · exact rStk_fr h.stk (by intros; first | rfl | (simp (disch := omega) only [up2_x, upr_x])) (by intros; first | rfl | (simp (disch := omega) only [up2_x, upr_x]))
    · exact rFlt_fr h.flt (by intros; first | rfl | (simp (disch := omega) only [up2_x, upr_x])) (by intros; first | rfl | (simp (disch := omega) only [up2_x, upr_x]))
    · refine ⟨?_, ?_⟩
      · simp (disch := omega) only [up2_x, up2_e, upr_x]
      · simp (disch := omega) only [up2_x, up2_e, upr_x]
    · refine ⟨q, by omega, ?_, ?_⟩
      · simp (disch := omega) only [up2_x, up2_e, upr_x]
      · simp (disch := omega) only [up2_x, up2_e, upr_x]
    · refine ⟨y, hy, ?_, ?_⟩
      · simp (disch := omega) only [up2_x, up2_e, upr_x]
      · simp (disch := omega) only [up2_x, up2_e, upr_x]
    · exact rShu_fr h.shu (by intros; first | rfl | (simp (disch := omega) only [up2_x, upr_x])) (by intros; first | rfl | (simp (disch := omega) only [up2_x, upr_x]))
    · exact rBas_fr h.bas (by intros; first | rfl | (simp (disch := omega) only [up2_x, upr_x])) (by intros; first | rfl | (simp (disch := omega) only [up2_x, upr_x]))
    · unfold rFls
      simp (disch := omega) only [up2_x, up2_e, upr_x]
    · exact rLaz_fr h.laz (by intros; first | rfl | (simp (disch := omega) only [up2_x, upr_x])) (by intros; first | rfl | (simp (disch := omega) only [up2_x, upr_x]))
    · refine ⟨⟨0, by omega, ?_, ?_⟩, ?_⟩
      · simp (disch := omega) only [up2_x, up2_e, upr_x]
      · simp (disch := omega) only [up2_x, up2_e, upr_x]; try rfl
      · simp (disch := omega) only [up2_x, up2_e, upr_x]
    · unfold rStp
      simp (disch := omega) only [up2_x, up2_e, upr_x]
    · obtain ⟨p0, hp0, f1, f2⟩ := h.stl.1
      refine ⟨⟨p0, hp0, ?_, ?_⟩, fun _ => ?_⟩
      · simp (disch := omega) only [up2_x, up2_e, upr_x]; exact f1
      · simp (disch := omega) only [up2_x, up2_e, upr_x]; exact f2
      · simp (disch := omega) only [up2_x, up2_e, upr_x]; exact h0
    · exact rAsl_fr h.asl (by intros; first | rfl | (simp (disch := omega) only [up2_x, upr_x])) (by intros; first | rfl | (simp (disch := omega) only [up2_x, upr_x]))
    · exact rClk_fr h.clk (by intros; first | rfl | (simp (disch := omega) only [up2_x, upr_x])) (by intros; first | rfl | (simp (disch := omega) only [up2_x, upr_x]))
    · exact rPer_fr h.per (by intros; first | rfl | (simp (disch := omega) only [up2_x, upr_x])) (by intros; first | rfl | (simp (disch := omega) only [up2_x, upr_x]))
    · exact rTim_fr h.tim (by intros; first | rfl | (simp (disch := omega) only [up2_x, upr_x])) (by intros; first | rfl | (simp (disch := omega) only [up2_x, upr_x]))
    · exact rNst_fr h.nst (by intros; first | rfl | (simp (disch := omega) only [up2_x, upr_x])) (by intros; first | rfl | (simp (disch := omega) only [up2_x, upr_x])) (by intros; first | rfl | (simp (disch := omega) only [up2_x, upr_x])) (by intros; first | rfl | (simp (disch := omega) only [up2_x, upr_x])) (by intros; first | rfl | (simp (disch := omega) only [up2_x, upr_x])) (by intros; first | rfl | (simp (disch := omega) only [up2_x, upr_x]))
    · exact rDue_fr h.due (by intros; first | rfl | (simp (disch := omega) only [up2_x, upr_x])) (by intros; first | rfl | (simp (disch := omega) only [up2_x, upr_x])) (by intros; first | rfl | (simp (disch := omega) only [up2_x, upr_x])) (by intros; first | rfl | (simp (disch := omega) only [up2_x, upr_x])) (by intros; first | rfl | (simp (disch := omega) only [up2_x, upr_x]))
    · exact rRnk_fr h.rnk (by intros; first | rfl | (simp (disch := omega) only [up2_x, upr_x])) (by intros; first | rfl | (simp (disch := omega) only [up2_x, upr_x]))
    · exact rVec_fr h.vec (by intros; first | rfl | (simp (disch := omega) only [up2_x, upr_x])) (by intros; first | rfl | (simp (disch := omega) only [up2_x, upr_x]))
    · exact rEna_fr h.ena (by intros; first | rfl | (simp (disch := omega) only [up2_x, upr_x])) (by intros; first | rfl | (simp (disch := omega) only [up2_x, upr_x]))
    · exact rPnd_fr h.pnd (by intros; first | rfl | (simp (disch := omega) only [up2_x, upr_x])) (by intros; first | rfl | (simp (disch := omega) only [up2_x, upr_x]))
    · exact rAct_fr h.act (by intros; first | rfl | (simp (disch := omega) only [up2_x, upr_x])) (by intros; first | rfl | (simp (disch := omega) only [up2_x, upr_x])) (by intros; first | rfl | (simp (disch := omega) only [up2_x, upr_x]))
    · exact rHld_fr h.hld (by intros; first | rfl | (simp (disch := omega) only [up2_x, upr_x])) (by intros; first | rfl | (simp (disch := omega) only [up2_x, upr_x]))
    · exact rSpl_fr h.spl (by intros; first | rfl | (simp (disch := omega) only [up2_x, upr_x])) (by intros; first | rfl | (simp (disch := omega) only [up2_x, upr_x]))
    · refine ⟨?_, ?_, fun z => absurd z ?_⟩
      · simp (disch := omega) only [up2_x, up2_e, upr_x]; exact h.sta.1
      · simp (disch := omega) only [up2_x, up2_e, upr_x]; exact h.sta.2.1
      · simp (disch := omega) only [up2_x, up2_e, upr_x]; exact ne_nI (b := 1) (by omega) (by decide) (by decide)
    · refine fun z => absurd z ?_
      simp (disch := omega) only [up2_x, up2_e, upr_x]; exact ne_nI (b := 4) (by omega) (by decide) (by decide)
    · refine fun z => absurd z ?_
      simp (disch := omega) only [up2_x, up2_e, upr_x]; exact ne_nI (b := 3) (by omega) (by decide) (by decide)
    · exact rCod_fr h.cod (by intros; first | rfl | (simp (disch := omega) only [up2_x, upr_x])) (by intros; first | rfl | (simp (disch := omega) only [up2_x, upr_x]))
    · exact rObs_fr (C := C) (M := M) h.obs (by intros; first | rfl | (simp (disch := omega) only [up2_x, upr_x])) (by intros; first | rfl | (simp (disch := omega) only [up2_x, upr_x]))
    · exact rMdc_fr (C := C) (M := M) h.mdc (by intros; first | rfl | (simp (disch := omega) only [up2_x, upr_x]))
    · exact rCnt_fr h.cnt (by intros; first | rfl | (simp (disch := omega) only [up2_x, upr_x])) (by intros; first | rfl | (simp (disch := omega) only [up2_x, upr_x]))
    · exact rOut_fr h.out (by intros; first | rfl | (simp (disch := omega) only [up2_x, upr_x])) (by intros; first | rfl | (simp (disch := omega) only [up2_x, upr_x])) (by intros; first | rfl | (simp (disch := omega) only [up2_x, upr_x])) (by intros; first | rfl | (simp (disch := omega) only [up2_x, upr_x]))
    · exact rEvt_fr h.evt (by intros; first | rfl | (simp (disch := omega) only [up2_x, upr_x])) (by intros; first | rfl | (simp (disch := omega) only [up2_x, upr_x])) (by intros; first | rfl | (simp (disch := omega) only [up2_x, upr_x])) (by intros; first | rfl | (simp (disch := omega) only [up2_x, upr_x]))
    · exact rWai_fr h.wai (by intros; first | rfl | (simp (disch := omega) only [up2_x, upr_x])) (by intros; first | rfl | (simp (disch := omega) only [up2_x, upr_x]))
    · exact rFrm_fr h.frm (by intros; first | rfl | (simp (disch := omega) only [up2_x, upr_x])) (by intros; first | rfl | (simp (disch := omega) only [up2_x, upr_x]))
  · exact Md_fr hm (by first | rfl | simp (disch := omega) only [up2_x, upr_x]) (by first | rfl | simp (disch := omega) only [up2_x, upr_x]) (by first | rfl | simp (disch := omega) only [up2_x, upr_x]) (by first | rfl | simp (disch := omega) only [up2_x, upr_x]) (by first | rfl | simp (disch := omega) only [up2_x, upr_x])
set_option maxHeartbeats 4000000 in
theorem top_ret_own {c s T E : Nat} {L : List Int32} {C0 M0 C M : Mem} {q y n t : Nat} {a b f x : Int32} (hcs : cs c s) (h : Top c s T E L C0 M0 C M) (hm : Md c C M) (hcc : c = 9) (hE : E < 2 ^ 29) (h0 : C c 43 = 0) (hq : q < 512) (hy : y ≤ 96) (hq0 : n < 2 ^ 30) (hq1 : C c 51 = nI n) (e1 : C c 37 = nI t) (e25 : M 4 25 = nI t) : Top c s T (E + 1) L C0 M0 (up2 (upr (up2 (up2 (up2 (up2 (up2 (up2 (up2 (up2 C c 31 (nI q)) c 29 a) c 30 b) c 45 f) c 32 (nI y)) c 41 (nI 0)) c 42 0) c 24 (nI 0)) (c + 11) (evRow (C (c + 11)) (n % 24) (nI 5) x (nI t) (nI y))) c 51 (nI (n + 1))) (up2 (up2 (up2 (up2 (up2 (up2 (up2 (up2 (up2 (up2 (up2 (up2 M s 18 f) s 12 (nI q)) s 13 a) s 14 b) s 15 (nI y)) s 20 0) s 21 0) 7 (n % 24) (nI 5)) 8 (n % 24) x) 9 (n % 24) (nI t)) 10 (n % 24) (nI y)) 0 11 (nI (n + 1))) ∧ Md c (up2 (upr (up2 (up2 (up2 (up2 (up2 (up2 (up2 (up2 C c 31 (nI q)) c 29 a) c 30 b) c 45 f) c 32 (nI y)) c 41 (nI 0)) c 42 0) c 24 (nI 0)) (c + 11) (evRow (C (c + 11)) (n % 24) (nI 5) x (nI t) (nI y))) c 51 (nI (n + 1))) (up2 (up2 (up2 (up2 (up2 (up2 (up2 (up2 (up2 (up2 (up2 (up2 M s 18 f) s 12 (nI q)) s 13 a) s 14 b) s 15 (nI y)) s 20 0) s 21 0) 7 (n % 24) (nI 5)) 8 (n % 24) x) 9 (n % 24) (nI t)) 10 (n % 24) (nI y)) 0 11 (nI (n + 1))) := by
  refine ⟨?_, ?_⟩
  · refine ⟨⟨?_, ?_, ?_, ?_, ?_, ?_, ?_, ?_, ?_, ?_, ?_, ?_, ?_, ?_, ?_, ?_, ?_, ?_, ?_, ?_, ?_, ?_, ?_, ?_, ?_, ?_, ?_, ?_, ?_, ?_, ?_, ?_, ?_⟩, ⟨?_, ?_, ?_, ?_, ?_⟩⟩
    · exact rReg_fr h.reg (by intros; first | rfl | (simp (disch := omega) only [up2_x, upr_x])) (by intros; first | rfl | (simp (disch := omega) only [up2_x, upr_x]))
    · exact rDat_fr h.dat (by intros; first | rfl | (simp (disch := omega) only [up2_x, upr_x])) (by intros; first | rfl | (simp (disch := omega) only [up2_x, upr_x]))
    · exact rStk_fr h.stk (by intros; first | rfl | (simp (disch := omega) only [up2_x, upr_x])) (by intros; first | rfl | (simp (disch := omega) only [up2_x, upr_x]))
    · exact rFlt_fr h.flt (by intros; first | rfl | (simp (disch := omega) only [up2_x, upr_x])) (by intros; first | rfl | (simp (disch := omega) only [up2_x, upr_x]))
    · refine ⟨?_, ?_⟩
      · simp (disch := omega) only [up2_x, up2_e, upr_x]
      · simp (disch := omega) only [up2_x, up2_e, upr_x]
    · refine ⟨q, by omega, ?_, ?_⟩
      · simp (disch := omega) only [up2_x, up2_e, upr_x]
      · simp (disch := omega) only [up2_x, up2_e, upr_x]
    · refine ⟨y, hy, ?_, ?_⟩
      · simp (disch := omega) only [up2_x, up2_e, upr_x]
      · simp (disch := omega) only [up2_x, up2_e, upr_x]
    · exact rShu_fr h.shu (by intros; first | rfl | (simp (disch := omega) only [up2_x, upr_x])) (by intros; first | rfl | (simp (disch := omega) only [up2_x, upr_x]))
    · exact rBas_fr h.bas (by intros; first | rfl | (simp (disch := omega) only [up2_x, upr_x])) (by intros; first | rfl | (simp (disch := omega) only [up2_x, upr_x]))
    · unfold rFls
      simp (disch := omega) only [up2_x, up2_e, upr_x]
    · exact rLaz_fr h.laz (by intros; first | rfl | (simp (disch := omega) only [up2_x, upr_x])) (by intros; first | rfl | (simp (disch := omega) only [up2_x, upr_x]))
    · refine ⟨⟨0, by omega, ?_, ?_⟩, ?_⟩
      · simp (disch := omega) only [up2_x, up2_e, upr_x]
      · simp (disch := omega) only [up2_x, up2_e, upr_x]; try rfl
      · simp (disch := omega) only [up2_x, up2_e, upr_x]
    · unfold rStp
      simp (disch := omega) only [up2_x, up2_e, upr_x]
    · obtain ⟨p0, hp0, f1, f2⟩ := h.stl.1
      refine ⟨⟨p0, hp0, ?_, ?_⟩, fun _ => ?_⟩
      · simp (disch := omega) only [up2_x, up2_e, upr_x]; exact f1
      · simp (disch := omega) only [up2_x, up2_e, upr_x]; exact f2
      · simp (disch := omega) only [up2_x, up2_e, upr_x]; exact h0
    · exact rAsl_fr h.asl (by intros; first | rfl | (simp (disch := omega) only [up2_x, upr_x])) (by intros; first | rfl | (simp (disch := omega) only [up2_x, upr_x]))
    · exact rClk_fr h.clk (by intros; first | rfl | (simp (disch := omega) only [up2_x, upr_x])) (by intros; first | rfl | (simp (disch := omega) only [up2_x, upr_x]))
    · exact rPer_fr h.per (by intros; first | rfl | (simp (disch := omega) only [up2_x, upr_x])) (by intros; first | rfl | (simp (disch := omega) only [up2_x, upr_x]))
    · exact rTim_fr h.tim (by intros; first | rfl | (simp (disch := omega) only [up2_x, upr_x])) (by intros; first | rfl | (simp (disch := omega) only [up2_x, upr_x]))
    · exact rNst_fr h.nst (by intros; first | rfl | (simp (disch := omega) only [up2_x, upr_x])) (by intros; first | rfl | (simp (disch := omega) only [up2_x, upr_x])) (by intros; first | rfl | (simp (disch := omega) only [up2_x, upr_x])) (by intros; first | rfl | (simp (disch := omega) only [up2_x, upr_x])) (by intros; first | rfl | (simp (disch := omega) only [up2_x, upr_x])) (by intros; first | rfl | (simp (disch := omega) only [up2_x, upr_x]))
    · exact rDue_fr h.due (by intros; first | rfl | (simp (disch := omega) only [up2_x, upr_x])) (by intros; first | rfl | (simp (disch := omega) only [up2_x, upr_x])) (by intros; first | rfl | (simp (disch := omega) only [up2_x, upr_x])) (by intros; first | rfl | (simp (disch := omega) only [up2_x, upr_x])) (by intros; first | rfl | (simp (disch := omega) only [up2_x, upr_x]))
    · exact rRnk_fr h.rnk (by intros; first | rfl | (simp (disch := omega) only [up2_x, upr_x])) (by intros; first | rfl | (simp (disch := omega) only [up2_x, upr_x]))
    · exact rVec_fr h.vec (by intros; first | rfl | (simp (disch := omega) only [up2_x, upr_x])) (by intros; first | rfl | (simp (disch := omega) only [up2_x, upr_x]))
    · exact rEna_fr h.ena (by intros; first | rfl | (simp (disch := omega) only [up2_x, upr_x])) (by intros; first | rfl | (simp (disch := omega) only [up2_x, upr_x]))
    · exact rPnd_fr h.pnd (by intros; first | rfl | (simp (disch := omega) only [up2_x, upr_x])) (by intros; first | rfl | (simp (disch := omega) only [up2_x, upr_x]))
    · exact rAct_fr h.act (by intros; first | rfl | (simp (disch := omega) only [up2_x, upr_x])) (by intros; first | rfl | (simp (disch := omega) only [up2_x, upr_x])) (by intros; first | rfl | (simp (disch := omega) only [up2_x, upr_x]))
    · exact rHld_fr h.hld (by intros; first | rfl | (simp (disch := omega) only [up2_x, upr_x])) (by intros; first | rfl | (simp (disch := omega) only [up2_x, upr_x]))
    · exact rSpl_fr h.spl (by intros; first | rfl | (simp (disch := omega) only [up2_x, upr_x])) (by intros; first | rfl | (simp (disch := omega) only [up2_x, upr_x]))
    · refine ⟨?_, ?_, fun z => absurd z ?_⟩
      · simp (disch := omega) only [up2_x, up2_e, upr_x]; exact h.sta.1
      · simp (disch := omega) only [up2_x, up2_e, upr_x]; exact h.sta.2.1
      · simp (disch := omega) only [up2_x, up2_e, upr_x]; exact ne_nI (b := 1) (by omega) (by decide) (by decide)
    · refine fun z => absurd z ?_
      simp (disch := omega) only [up2_x, up2_e, upr_x]; exact ne_nI (b := 4) (by omega) (by decide) (by decide)
    · refine fun z => absurd z ?_
      simp (disch := omega) only [up2_x, up2_e, upr_x]; exact ne_nI (b := 3) (by omega) (by decide) (by decide)
    · exact rCod_fr h.cod (by intros; first | rfl | (simp (disch := omega) only [up2_x, upr_x])) (by intros; first | rfl | (simp (disch := omega) only [up2_x, upr_x]))
    · exact rObs_fr (C := C) (M := M) h.obs (by intros; first | rfl | (simp (disch := omega) only [up2_x, upr_x])) (by intros; first | rfl | (simp (disch := omega) only [up2_x, upr_x]))
    · exact rMdc_fr (C := C) (M := M) h.mdc (by intros; first | rfl | (simp (disch := omega) only [up2_x, upr_x]))
    · exact rCnt_fr h.cnt (by intros; first | rfl | (simp (disch := omega) only [up2_x, upr_x])) (by intros; first | rfl | (simp (disch := omega) only [up2_x, upr_x]))
    · exact rOut_fr h.out (by intros; first | rfl | (simp (disch := omega) only [up2_x, upr_x])) (by intros; first | rfl | (simp (disch := omega) only [up2_x, upr_x])) (by intros; first | rfl | (simp (disch := omega) only [up2_x, upr_x])) (by intros; first | rfl | (simp (disch := omega) only [up2_x, upr_x]))
    · exact evt_note h.evt (fun z => ⟨hq1, hq0⟩) (by omega) (m := 5) (x1 := x) (x2 := nI t) (x3 := nI y) (by omega) (by intros; simp (disch := omega) only [up2_x, up2_e, upr_x, upr_e, up2_i, up2_n, e1, e25]) (by intros; simp (disch := omega) only [up2_x, up2_e, upr_x, upr_e, up2_i, up2_n, e1, e25]) (by intros; simp (disch := omega) only [up2_x, up2_e, upr_x, upr_e, up2_i, up2_n, e1, e25]) (by intros; simp (disch := omega) only [up2_x, up2_e, upr_x, upr_e, up2_i, up2_n, e1, e25]) (by intros; simp (disch := omega) only [up2_x, up2_e, upr_x, upr_e, up2_i, up2_n, e1, e25]) (by intros; simp (disch := omega) only [up2_x, up2_e, upr_x, upr_e, up2_i, up2_n, e1, e25]) (by intros; simp (disch := omega) only [up2_x, up2_e, upr_x, upr_e, up2_i, up2_n, e1, e25])
    · exact rWai_fr h.wai (by intros; first | rfl | (simp (disch := omega) only [up2_x, upr_x])) (by intros; first | rfl | (simp (disch := omega) only [up2_x, upr_x]))
    · exact rFrm_fr h.frm (by intros; first | rfl | (simp (disch := omega) only [up2_x, upr_x])) (by intros; first | rfl | (simp (disch := omega) only [up2_x, upr_x]))
  · exact Md_fr hm (by first | rfl | simp (disch := omega) only [up2_x, upr_x]) (by first | rfl | simp (disch := omega) only [up2_x, upr_x]) (by first | rfl | simp (disch := omega) only [up2_x, upr_x]) (by first | rfl | simp (disch := omega) only [up2_x, upr_x]) (by first | rfl | simp (disch := omega) only [up2_x, upr_x])
/-- the end of 'returns': both sides -/
theorem ret_end {c s T E : Nat} {L : List Int32} {C0 M0 C M : Mem} {p m q : Nat} (hcs : cs c s) (h : Top c s T E L C0 M0 C M) (hm : Md c C M) (hE : E < 2 ^ 29) (h0 : C c 43 = 0) (hu : UnF c s C M p m q) (hf : C c 49 = (if 4 ≤ m then 1 else 0)) : ∃ C' M', fc_Core_returns_89 c 1 (nI m) (nI 4) C = some ((), C') ∧ fm_returns_113 s 1 (nI (56 + p)) (nI m) (nI 4) (up2 M s 18 (if 4 ≤ m then 1 else 0)) = some ((), M') ∧ Top c s T (E + 1) L C0 M0 C' M' ∧ Md c C' M' ∧ Bd c s C' M' ∧ C' c 52 = C c 52 := by
  obtain ⟨h6, hp, sp1, hm8, k1, hq, k2, h10⟩ := hu
  obtain ⟨d, nst, n1, n2, n3, n4, n5⟩ := h.nst
  obtain ⟨t, ht, e1, e2⟩ := h.clk
  have sp2 : M s 15 = nI p := by rw [← h.sp.eq]; exact sp1
  have hst := h.stk (p - 2) (by omega)
  rw [show 56 + (p - 2) = 54 + p by omega, k2] at hst
  rw [show fc_Core_returns_89 c 1 = fc_Core_returns_89b c (fc_Core_returns_89 c 0) from rfl, show fm_returns_113 s 1 = fm_returns_113b s (fm_returns_113 s 0) from rfl]
  unfold fc_Core_returns_89b fm_returns_113b
  rw [if_pos (show (4 : Int32) ≤ nI 4 by decide), if_pos (show (4 : Int32) ≤ nI 4 by decide), sp1, s_2 (show 2 ≤ p by omega), inb_nI (show p - 2 < 96 by omega) (by decide), gd_t, nI_clamp (show p - 2 < 2 ^ 31 by omega), hst, s_2 (show 2 ≤ 56 + p by omega), inb_nI (show 56 + p - 2 < 342 by omega) (by decide), gd_t, nI_clamp (show 56 + p - 2 < 2 ^ 31 by omega), up2_x (Or.inr (by omega)), show 56 + p - 2 = 54 + p by omega, k2]
  generalize nI m &&& 1 = a
  generalize (nI m >>> (1 &&& 31)) &&& 1 = b
  unfold fc_Core_returns_164 fc_Core_returns_186 fc_Core_returns_229 fc_Core_returns_243 fm_returns_182 fm_returns_216
  have hnest : ∃ x : Int32, (C c 33 = 0 ∧ M s 30 = 0 ∧ x = -1) ∨ (¬ C c 33 = 0 ∧ ¬ M s 30 = 0 ∧ ∃ j, j < 21 ∧ C c 33 - 1 = nI j ∧ (152 + M s 30) - 1 = nI (152 + j) ∧ C (c + 6) j = x ∧ M s (152 + j) = x) := by
    rw [n2, n3]
    by_cases hd : d = 0
    · subst hd
      exact ⟨-1, Or.inl ⟨rfl, rfl, rfl⟩⟩
    · have hd1 := n4 (d - 1) (by omega)
      refine ⟨nI (nst (d - 1)), Or.inr ⟨nI_ne0 (by omega) (by omega), nI_ne0 (by omega) (by omega), d - 1, by omega, s_1 (by omega), ?_, hd1.1, hd1.2.1⟩⟩
      rw [l_152, s_1 (by omega)]
      congr 1
      omega
  have core : ∀ (y f : Int32) (yn : Nat), yn ≤ 96 → nI p - y = nI yn → ∃ C' M',
      (bnd (fc_Core_turns c 0 (up2 (up2 (up2 (up2 (up2 C c 31 (nI q)) c 29 a) c 30 b) c 45 f) c 32 (nI yn))) fun r2 C2 => if (C2 c 28) = 0 then (if (C2 c 33) = 0 then (bnd (fc_Core_notes c 5 (-1) (C2 c 37) (C2 c 32) C2) fun r2 C2 => some ((), C2)) else gd (inb ((C2 c 33) - 1) 21) (bnd (fc_Core_notes c 5 (C2 (c + 6) ((C2 c 33) - 1).toNatClampNeg) (C2 c 37) (C2 c 32) C2) fun r2 C2 => some ((), C2))) else some ((), C2)) = some ((), C') ∧
      (bnd (fm_turns s 0 0 (up2 (up2 (up2 (up2 (up2 M s 18 f) s 12 (nI q)) s 13 a) s 14 b) s 15 (nI yn))) fun r3 M3 => if (M3 s 30) = 0 then (bnd (fm_notes 5 (-1) (M3 s 15) M3) fun r1 M1 => some ((), M1)) else gd (inb ((152 + (M3 s 30)) - 1) 342) (bnd (fm_notes 5 (M3 s ((152 + (M3 s 30)) - 1).toNatClampNeg) (M3 s 15) M3) fun r1 M1 => some ((), M1))) = some ((), M') ∧ Top c s T (E + 1) L C0 M0 C' M' ∧ Md c C' M' ∧ Bd c s C' M' ∧ C' c 52 = C c 52 := by
    intro y f yn hyn hy
    obtain ⟨x, hx⟩ := hnest
    have key : ∃ C' M', (if C c 28 = 0 then (bnd (fc_Core_notes c 5 x (C c 37) (nI yn) (up2 (up2 (up2 (up2 (up2 (up2 (up2 (up2 C c 31 (nI q)) c 29 a) c 30 b) c 45 f) c 32 (nI yn)) c 41 (nI 0)) c 42 0) c 24 (nI 0))) fun r2 C2 => some ((), C2)) else some ((), up2 (up2 (up2 (up2 (up2 (up2 (up2 (up2 C c 31 (nI q)) c 29 a) c 30 b) c 45 f) c 32 (nI yn)) c 41 (nI 0)) c 42 0) c 24 (nI 0))) = some ((), C') ∧ (bnd (fm_notes 5 x (nI yn) (up2 (up2 (up2 (up2 (up2 (up2 (up2 M s 18 f) s 12 (nI q)) s 13 a) s 14 b) s 15 (nI yn)) s 20 0) s 21 0)) fun r1 M1 => some ((), M1)) = some ((), M') ∧ Top c s T (E + 1) L C0 M0 C' M' ∧ Md c C' M' ∧ Bd c s C' M' ∧ C' c 52 = C c 52 := by
      rcases hcs with ⟨z, w⟩ | ⟨z, w⟩
      · obtain ⟨n, hq0, hq1, hq2⟩ := top_told h hE z
        have e25 : M 4 25 = nI t := by rw [show (4 : Nat) = s by omega]; exact e2
        rw [(h.mdc.1 z).1, if_pos rfl, show (5 : Int32) = nI 5 from rfl, fc_notes_v (q := n) (by simp (disch := omega) only [up2_x, upr_x]; exact hq1) hq0 (by omega), bnd_s, fm_notes_v (q := n) (by simp (disch := omega) only [up2_x, upr_x]; exact hm.1.1 z) (by simp (disch := omega) only [up2_x, upr_x]; exact hq2) hq0, bnd_s]
        obtain ⟨t1, t2⟩ := top_ret_own (a := a) (b := b) (f := f) (x := x) (Or.inl ⟨z, w⟩) h hm z hE h0 hq hyn hq0 hq1 e1 e25
        simp (disch := omega) only [up2_x, up2_n]
        rw [e1, e25]
        refine ⟨_, _, rfl, rfl, t1, t2, Bd_of (by simp (disch := omega) only [up2_x, up2_e, upr_x]; decide) (by simp (disch := omega) only [up2_x, up2_e, upr_x]; decide), ?_⟩
        · simp (disch := omega) only [up2_x, upr_x]
      · rw [(h.mdc.2 z).1, if_neg (by decide), fm_notes_0 (by simp (disch := omega) only [up2_x, upr_x]; exact hm.1.2 z), bnd_s]
        obtain ⟨t1, t2⟩ := top_ret_for (a := a) (b := b) (f := f) (Or.inr ⟨z, w⟩) h hm h0 hq hyn
        refine ⟨_, _, rfl, rfl, t1.mono (Nat.le_refl _) (Nat.le_succ E), t2, Bd_of (by simp (disch := omega) only [up2_x, up2_e, upr_x]; decide) (by simp (disch := omega) only [up2_x, up2_e, upr_x]; decide), ?_⟩
        · simp (disch := omega) only [up2_x, upr_x]
    rw [show fc_Core_turns c 0 = fc_Core_turns c (nI 0) from rfl, fc_turns_v (by omega), bnd_s, fm_turns_v, bnd_s]
    simp (disch := omega) only [up2_x, up2_e]
    rcases hx with ⟨x1, x2, x3⟩ | ⟨x1, x2, j, j1, j2, j3, j4, j5⟩
    · rw [if_pos x1, if_pos x2]
      subst x3
      exact key
    · rw [if_neg x1, if_neg x2, j2, j3, inb_nI j1 (by decide), gd_t, nI_clamp (show j < 2 ^ 31 by omega), j4, inb_nI (show 152 + j < 342 by omega) (by decide), gd_t, nI_clamp (show 152 + j < 2 ^ 31 by omega)]
      simp (disch := omega) only [up2_x]
      rw [j5]
      exact key
  by_cases h4 : 4 ≤ m
  · rw [if_pos h4] at hf ⊢
    simp (disch := omega) only [stp_e, up2_x, up2_e, gd_t]
    rw [hf, if_neg (show ¬ (1 : Int32) = 0 by decide), if_neg (show ¬ (1 : Int32) = 0 by decide), if_neg (show ¬ nI m ≤ 3 from nI_ge (a := 3) (by omega) (by omega)), sp1, sp2, show inb 15 342 = true from rfl, gd_t, show (15 : Int32).toNatClampNeg = 15 from rfl, s_10 (h10 h4)]
    exact core 10 1 (p - 10) (by omega) (s_10 (h10 h4))
  · rw [if_neg h4] at hf ⊢
    simp (disch := omega) only [stp_e, up2_x, up2_e, gd_t]
    rw [hf, if_pos rfl, if_pos rfl, if_pos (show nI m ≤ 3 from nI_le (b := 3) (by omega) (by decide)), sp1, sp2, show inb 15 342 = true from rfl, gd_t, show (15 : Int32).toNatClampNeg = 15 from rfl, s_6 h6]
    exact core 6 0 (p - 6) (by omega) (s_6 h6)
