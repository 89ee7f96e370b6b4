theorem metg_Rec (l : Launch) (g : gC) (a : Nat) (ws : va_W) : MetG l g yJ2_init cJ2_init 1 1 0 [.ref a] ws (gQ g ws) :=
  g_body (by decide +kernel) rfl (Nat.le_of_ble_eq_true rfl) (fun X O hnm => by
    refine v_aload_n O.1 dJ2_init_0 rfl (q := 1) rfl ?_
    refine g_obj O q270 (by decide) (Nat.le_of_ble_eq_true rfl) dJ2_init_1 (q := 4) rfl ?_
    exact g_vret O dJ2_init_4)
theorem metg_Ended (l : Launch) (g : gC) (a : Nat) (x1 x2 x3 : Int32) (W0 : va_W) : MetG l g yX11_init cX11_init 4 2 0 [.ref a, .int x1, .int x2, .int x3] (W0 ++ [(a, .inr (10, [.int 0, .int 0, .int 0]))]) (gQ g (W0 ++ [(a, .inr (10, [.int x1, .int x2, .int x3]))])) :=
  g_body (by decide +kernel) rfl (Nat.le_of_ble_eq_true rfl) (fun X O hnm => by
    refine v_aload_n O.1 dX11_init_0 rfl (q := 1) rfl ?_
    refine g_callI (As := []) (rest := []) (n := 0) (a := a) (b' := 0) O (metg_Rec _ g a _) q495 q67 q268 q269 rfl (by decide +kernel) (by decide) (by decide) rfl rfl (by decide) dX11_init_1 (q := 4) rfl rfl ?_
    refine v_aload_n O.1 dX11_init_4 rfl (q := 5) rfl ?_
    refine v_iload_n O.1 dX11_init_5 rfl (q := 6) rfl ?_
    refine g_putF O hnm (ci := 10) 0 (ty := .int) in_X11 tyX11_ok nmX11 rfl (by decide) q496 rfl rfl rfl rfl rfl (Nat.le_of_ble_eq_true rfl) dX11_init_6 (q := 9) rfl ?_
    refine v_aload_n O.1 dX11_init_9 rfl (q := 10) rfl ?_
    refine v_iload_n O.1 dX11_init_10 rfl (q := 11) rfl ?_
    refine g_putF O hnm (ci := 10) 1 (ty := .int) in_X11 tyX11_ok nmX11 rfl (by decide) q497 rfl rfl rfl rfl rfl (Nat.le_of_ble_eq_true rfl) dX11_init_11 (q := 14) rfl ?_
    refine v_aload_n O.1 dX11_init_14 rfl (q := 15) rfl ?_
    refine v_iload_n O.1 dX11_init_15 rfl (q := 16) rfl ?_
    refine g_putF O hnm (ci := 10) 2 (ty := .int) in_X11 tyX11_ok nmX11 rfl (by decide) q498 rfl rfl rfl rfl rfl (Nat.le_of_ble_eq_true rfl) dX11_init_16 (q := 19) rfl ?_
    exact g_vret O dX11_init_19)
theorem metg_Raised (l : Launch) (g : gC) (a : Nat) (x1 x2 x3 : Int32) (W0 : va_W) : MetG l g yX6_init cX6_init 4 2 0 [.ref a, .int x1, .int x2, .int x3] (W0 ++ [(a, .inr (11, [.int 0, .int 0, .int 0]))]) (gQ g (W0 ++ [(a, .inr (11, [.int x1, .int x2, .int x3]))])) :=
  g_body (by decide +kernel) rfl (Nat.le_of_ble_eq_true rfl) (fun X O hnm => by
    refine v_aload_n O.1 dX6_init_0 rfl (q := 1) rfl ?_
    refine g_callI (As := []) (rest := []) (n := 0) (a := a) (b' := 0) O (metg_Rec _ g a _) q267 q67 q268 q269 rfl (by decide +kernel) (by decide) (by decide) rfl rfl (by decide) dX6_init_1 (q := 4) rfl rfl ?_
    refine v_aload_n O.1 dX6_init_4 rfl (q := 5) rfl ?_
    refine v_iload_n O.1 dX6_init_5 rfl (q := 6) rfl ?_
    refine g_putF O hnm (ci := 11) 0 (ty := .int) in_X6 tyX6_ok nmX6 rfl (by decide) q271 rfl rfl rfl rfl rfl (Nat.le_of_ble_eq_true rfl) dX6_init_6 (q := 9) rfl ?_
    refine v_aload_n O.1 dX6_init_9 rfl (q := 10) rfl ?_
    refine v_iload_n O.1 dX6_init_10 rfl (q := 11) rfl ?_
    refine g_putF O hnm (ci := 11) 1 (ty := .int) in_X6 tyX6_ok nmX6 rfl (by decide) q272 rfl rfl rfl rfl rfl (Nat.le_of_ble_eq_true rfl) dX6_init_11 (q := 14) rfl ?_
    refine v_aload_n O.1 dX6_init_14 rfl (q := 15) rfl ?_
    refine v_iload_n O.1 dX6_init_15 rfl (q := 16) rfl ?_
    refine g_putF O hnm (ci := 11) 2 (ty := .int) in_X6 tyX6_ok nmX6 rfl (by decide) q273 rfl rfl rfl rfl rfl (Nat.le_of_ble_eq_true rfl) dX6_init_16 (q := 19) rfl ?_
    exact g_vret O dX6_init_19)
theorem metg_Abandoned (l : Launch) (g : gC) (a : Nat) (x1 x2 x3 : Int32) (W0 : va_W) : MetG l g yX12_init cX12_init 4 2 0 [.ref a, .int x1, .int x2, .int x3] (W0 ++ [(a, .inr (12, [.int 0, .int 0, .int 0]))]) (gQ g (W0 ++ [(a, .inr (12, [.int x1, .int x2, .int x3]))])) :=
  g_body (by decide +kernel) rfl (Nat.le_of_ble_eq_true rfl) (fun X O hnm => by
    refine v_aload_n O.1 dX12_init_0 rfl (q := 1) rfl ?_
    refine g_callI (As := []) (rest := []) (n := 0) (a := a) (b' := 0) O (metg_Rec _ g a _) q639 q67 q268 q269 rfl (by decide +kernel) (by decide) (by decide) rfl rfl (by decide) dX12_init_1 (q := 4) rfl rfl ?_
    refine v_aload_n O.1 dX12_init_4 rfl (q := 5) rfl ?_
    refine v_iload_n O.1 dX12_init_5 rfl (q := 6) rfl ?_
    refine g_putF O hnm (ci := 12) 0 (ty := .int) in_X12 tyX12_ok nmX12 rfl (by decide) q640 rfl rfl rfl rfl rfl (Nat.le_of_ble_eq_true rfl) dX12_init_6 (q := 9) rfl ?_
    refine v_aload_n O.1 dX12_init_9 rfl (q := 10) rfl ?_
    refine v_iload_n O.1 dX12_init_10 rfl (q := 11) rfl ?_
    refine g_putF O hnm (ci := 12) 1 (ty := .int) in_X12 tyX12_ok nmX12 rfl (by decide) q641 rfl rfl rfl rfl rfl (Nat.le_of_ble_eq_true rfl) dX12_init_11 (q := 14) rfl ?_
    refine v_aload_n O.1 dX12_init_14 rfl (q := 15) rfl ?_
    refine v_iload_n O.1 dX12_init_15 rfl (q := 16) rfl ?_
    refine g_putF O hnm (ci := 12) 2 (ty := .int) in_X12 tyX12_ok nmX12 rfl (by decide) q642 rfl rfl rfl rfl rfl (Nat.le_of_ble_eq_true rfl) dX12_init_16 (q := 19) rfl ?_
    exact g_vret O dX12_init_19)
theorem metg_Returned (l : Launch) (g : gC) (a : Nat) (x1 x2 x3 : Int32) (W0 : va_W) : MetG l g yX13_init cX13_init 4 2 0 [.ref a, .int x1, .int x2, .int x3] (W0 ++ [(a, .inr (13, [.int 0, .int 0, .int 0]))]) (gQ g (W0 ++ [(a, .inr (13, [.int x1, .int x2, .int x3]))])) :=
  g_body (by decide +kernel) rfl (Nat.le_of_ble_eq_true rfl) (fun X O hnm => by
    refine v_aload_n O.1 dX13_init_0 rfl (q := 1) rfl ?_
    refine g_callI (As := []) (rest := []) (n := 0) (a := a) (b' := 0) O (metg_Rec _ g a _) q676 q67 q268 q269 rfl (by decide +kernel) (by decide) (by decide) rfl rfl (by decide) dX13_init_1 (q := 4) rfl rfl ?_
    refine v_aload_n O.1 dX13_init_4 rfl (q := 5) rfl ?_
    refine v_iload_n O.1 dX13_init_5 rfl (q := 6) rfl ?_
    refine g_putF O hnm (ci := 13) 0 (ty := .int) in_X13 tyX13_ok nmX13 rfl (by decide) q677 rfl rfl rfl rfl rfl (Nat.le_of_ble_eq_true rfl) dX13_init_6 (q := 9) rfl ?_
    refine v_aload_n O.1 dX13_init_9 rfl (q := 10) rfl ?_
    refine v_iload_n O.1 dX13_init_10 rfl (q := 11) rfl ?_
    refine g_putF O hnm (ci := 13) 1 (ty := .int) in_X13 tyX13_ok nmX13 rfl (by decide) q678 rfl rfl rfl rfl rfl (Nat.le_of_ble_eq_true rfl) dX13_init_11 (q := 14) rfl ?_
    refine v_aload_n O.1 dX13_init_14 rfl (q := 15) rfl ?_
    refine v_iload_n O.1 dX13_init_15 rfl (q := 16) rfl ?_
    refine g_putF O hnm (ci := 13) 2 (ty := .int) in_X13 tyX13_ok nmX13 rfl (by decide) q679 rfl rfl rfl rfl rfl (Nat.le_of_ble_eq_true rfl) dX13_init_16 (q := 19) rfl ?_
    exact g_vret O dX13_init_19)
theorem metg_Began (l : Launch) (g : gC) (a : Nat) (x1 x2 x3 x4 : Int32) (hz : isB x4 = true) (W0 : va_W) : MetG l g yX7_init cX7_init 5 2 0 [.ref a, .int x1, .int x2, .int x3, .int x4] (W0 ++ [(a, .inr (9, [.int 0, .int 0, .int 0, .int 0]))]) (gQ g (W0 ++ [(a, .inr (9, [.int x1, .int x2, .int x3, .int x4]))])) :=
  g_body (by decide +kernel) rfl (Nat.le_of_ble_eq_true rfl) (fun X O hnm => by
    refine v_aload_n O.1 dX7_init_0 rfl (q := 1) rfl ?_
    refine g_callI (As := []) (rest := []) (n := 0) (a := a) (b' := 0) O (metg_Rec _ g a _) q332 q67 q268 q269 rfl (by decide +kernel) (by decide) (by decide) rfl rfl (by decide) dX7_init_1 (q := 4) rfl rfl ?_
    refine v_aload_n O.1 dX7_init_4 rfl (q := 5) rfl ?_
    refine v_iload_n O.1 dX7_init_5 rfl (q := 6) rfl ?_
    refine g_putF O hnm (ci := 9) 0 (ty := .int) in_X7 tyX7_ok nmX7 rfl (by decide) q333 rfl rfl rfl rfl rfl (Nat.le_of_ble_eq_true rfl) dX7_init_6 (q := 9) rfl ?_
    refine v_aload_n O.1 dX7_init_9 rfl (q := 10) rfl ?_
    refine v_iload_n O.1 dX7_init_10 rfl (q := 11) rfl ?_
    refine g_putF O hnm (ci := 9) 1 (ty := .int) in_X7 tyX7_ok nmX7 rfl (by decide) q334 rfl rfl rfl rfl rfl (Nat.le_of_ble_eq_true rfl) dX7_init_11 (q := 14) rfl ?_
    refine v_aload_n O.1 dX7_init_14 rfl (q := 15) rfl ?_
    refine v_iload_n O.1 dX7_init_15 rfl (q := 16) rfl ?_
    refine g_putF O hnm (ci := 9) 2 (ty := .int) in_X7 tyX7_ok nmX7 rfl (by decide) q335 rfl rfl rfl rfl rfl (Nat.le_of_ble_eq_true rfl) dX7_init_16 (q := 19) rfl ?_
    refine v_aload_n O.1 dX7_init_19 rfl (q := 20) rfl ?_
    refine v_iload O.1 dX7_init_20 rfl (q := 22) rfl ?_
    refine g_putF O hnm (ci := 9) 3 (ty := .boolean) in_X7 tyX7_ok nmX7 rfl (by decide) q336 rfl rfl rfl (isB_nar hz) (isB_fit hz) (Nat.le_of_ble_eq_true rfl) dX7_init_22 (q := 25) rfl ?_
    exact g_vret O dX7_init_25)
/-- the world, and a cell that nobody holds yet -/
def PN (g : gC) (C : Mem) (a ci : Nat) (fs : List Value) : Heap → Prop := fun H => ∃ (Y : va_W) (ah : Nat → Nat) (ev : Nat → Nat → Option Nat), Wg g ((cWs g C ah ev ++ Y) ++ [(a, .inr (ci, fs))]) H ∧ Dy g C Y ah ev
theorem Dy.mono {g : gC} {C : Mem} {Y Z : va_W} {ah : Nat → Nat} {ev : Nat → Nat → Option Nat} (h : Dy g C Y ah ev) : Dy g C (Y ++ Z) ah ev := by
  intro c hc
  obtain ⟨h1, h2⟩ := h c hc
  refine ⟨List.mem_append_left _ h1, fun j hj => ?_⟩
  have h3 := h2 j hj
  unfold EvIn at h3 ⊢
  split at h3
  · rename_i hn
    rw [if_pos hn]
    exact h3
  · rename_i hn
    rw [if_neg hn]
    obtain ⟨a, h4, h5⟩ := h3
    exact ⟨a, h4, List.mem_append_left _ h5⟩
theorem PN.wd {g : gC} {C : Mem} {a ci : Nat} {fs : List Value} : ∀ H, PN g C a ci fs H → WdC g C H := by
  rintro H ⟨Y, ah, ev, ⟨hP, hD⟩, hY⟩
  rw [List.append_assoc] at hP hD
  exact ⟨_, ah, ev, hP, hD, hY.mono⟩
def evFs (k x1 x2 x3 : Int32) : List Value := [.int x1, .int x2, .int x3] ++ (if k = 0 ∨ k = 1 then [.int k] else [])
def evRow (r : Nat → Int32) (j : Nat) (k x1 x2 x3 : Int32) : Nat → Int32 := fun i => if i = 8 * j then k else if i = 8 * j + 1 then x1 else if i = 8 * j + 2 then x2 else if i = 8 * j + 3 then x3 else r i
theorem cBlk_e {g : gC} {r : Nat → Int32} {a : Nat} {e e' : Nat → Option Nat} {c j : Nat} (hj : j ≠ 11) : cBlk g r a e c j = cBlk g r a e' c j := by
  match j, hj with
  | 11, hj => exact absurd rfl hj
  | 0, _ => rfl | 1, _ => rfl | 2, _ => rfl | 3, _ => rfl | 4, _ => rfl | 5, _ => rfl | 6, _ => rfl | 7, _ => rfl | 8, _ => rfl | 9, _ => rfl | 10, _ => rfl | 12, _ => rfl | 13, _ => rfl | 14, _ => rfl | 15, _ => rfl | 16, _ => rfl | 17, _ => rfl | 18, _ => rfl | 19, _ => rfl | 20, _ => rfl | 21, _ => rfl
  | j + 22, _ => rfl
theorem ev_cast (k : Int32) : ∃ r, cCl[evC k]? = some r ∧ Cond.castable r.1 "RankEntry$Event" ∈ lw_tbl := by
  unfold evC
  split
  · exact ⟨_, rfl, q1640⟩
  · split
    · exact ⟨_, rfl, q1646⟩
    · split
      · exact ⟨_, rfl, q1652⟩
      · split
        · exact ⟨_, rfl, q1634⟩
        · exact ⟨_, rfl, q1658⟩
section CEV
variable {g : gC} {X : Cxt} {cc : ByteArray} {nL b lvl mc : Nat} {ret : Option FieldType} {own : String} {Qc : Array Value → State → Outcome → State → Prop} {pc q : Nat} {lv : List (Nat × Value)} {st rest : List Value} {C C' : Mem}
/-- new: a record -/
theorem c_newE (O : OkC g X cc nL ret own lvl mc Qc) {ci idx N : Nat} {Cn : String} {T : u_T} {ty : Nat → FieldType} {fs : List Value} (hci : cCl[ci]? = some (Cn, T, N)) (hN : N ≤ 8) (hin : ∀ w ∈ u_ws Cn T N, w ∈ lw_all) (hty : ∀ k, k < N → parseFieldDescriptor (T k).2.2.1 = some (ty k)) (hcl : Cond.classLink own idx Cn ∈ lw_all) (hins : Cond.instantiable Cn N ∈ lw_all) (hini : Cond.initialized Cn ∈ lw_all) (hfs : ∀ j, j < N → defaultValue (ty j) = vp_V fs j) (d : decode cc pc = .ok (.new idx, 3)) (hq : pc + 3 = q) (kk : ∀ a, V X nL b (PN g C a ci fs) q lv (.ref a :: st)) : V X nL (b + 1) (WdC g C) pc lv st := by
  subst hq
  intro H lo ce sl ls h1 h2 h3 h4 h5
  obtain ⟨Y, ah, ev, hP, hD, hY⟩ := h1
  have hts := O.1.ts
  refine va_new O.1.ex O.1.bc hts hin ty hty O.1.ow (hts _ hcl) (hts _ hins) (hts _ hini) O.2.1.1 hP hD (O.S h2) O.free hci hfs (by omega) (by omega) d (fun a H1 p1 p2 p3 => ?_)
  exact kk a H1 lo _ _ ls ⟨Y, ah, ev, ⟨p1, p2⟩, hY⟩ (by rw [O.2.2.1]; exact p3) (by omega) (by omega) h5
theorem EvIn.congr {Z : va_W} {r r' : Nat → Int32} {j : Nat} {x : Option Nat} (h0 : r' (8 * j) = r (8 * j)) (h1 : r' (8 * j + 1) = r (8 * j + 1)) (h2 : r' (8 * j + 2) = r (8 * j + 2)) (h3 : r' (8 * j + 3) = r (8 * j + 3)) (h : EvIn Z r j x) : EvIn Z r' j x := by
  unfold EvIn evE at h ⊢
  rw [h0, h1, h2, h3]
  exact h
/-- events[i] = the new one -/
theorem c_evs (O : OkC g X cc nL ret own lvl mc Qc) {c a j : Nat} (hc : cC c) {k x1 x2 x3 i : Int32} (hk : ¬ k < 0) (hin : inb i 24 = true) (hj : i.toNatClampNeg = j) (d : decode cc pc = .ok (.aastore, 1)) (hq : pc + 1 = q) (hC : C' = upr C (c + 11) (evRow (C (c + 11)) j k x1 x2 x3)) (kk : V X nL b (WdC g C') q lv st) : V X nL b (PN g C a (evC k) (evFs k x1 x2 x3)) pc lv (.ref a :: .int i :: .ref (gCa g (c + 11)) :: st) := by
  subst hq
  subst hj
  subst hC
  intro H lo ce sl ls h1 h2 h3 h4 h5
  obtain ⟨Y, ah, ev, ⟨hP, hD⟩, hY⟩ := h1
  have hlt : c + 11 < 95 := cC_lt hc (by decide)
  obtain ⟨r, hr, hca⟩ := ev_cast k
  have ha : ((cWs g C ah ev ++ Y) ++ [(a, .inr (evC k, evFs k x1 x2 x3))])[c + 11]? = some (gCa g (c + 11), .inl (gCk g 4, 24, qr (ev c))) := by
    rw [List.append_assoc, cWs_get hlt, cCell_blk hc (by decide)]
    rfl
  have hv : ((cWs g C ah ev ++ Y) ++ [(a, (.inr (evC k, evFs k x1 x2 x3) : va_E))])[(cWs g C ah ev ++ Y).length]? = some (a, .inr (evC k, evFs k x1 x2 x3)) := by simp
  refine va_astqO O.1.ex O.1.bc O.2.1.1 hP hD (O.S h2) (c + 11) 4 (cWs g C ah ev ++ Y).length (evC k) ha rfl (O.2.1.nest _ (List.mem_filter.mpr ⟨hca, rfl⟩)) hv hr (inb_in hin) d (fun H1 lo1 p1 p2 p3 => ?_)
  have es : ((cWs g C ah ev ++ Y) ++ [(a, (.inr (evC k, evFs k x1 x2 x3) : va_E))]).set (c + 11) (gCa g (c + 11), .inl (gCk g 4, 24, qr (va_up (ev c) i.toNatClampNeg (some a)))) = cWs g (upr C (c + 11) (evRow (C (c + 11)) i.toNatClampNeg k x1 x2 x3)) ah (va_up ev c (va_up (ev c) i.toNatClampNeg (some a))) ++ (Y ++ [(a, .inr (evC k, evFs k x1 x2 x3))]) := by
    rw [List.append_assoc, List.set_append_left _ _ (by rw [cWs_len]; exact hlt)]
    congr 1
    refine wl_set ?_ (fun o' ho => ?_)
    · rw [cCell_blk hc (by decide)]
      show (gCa g (c + 11), (Sum.inl (gCk g 4, 24, qr (va_up (ev c) i.toNatClampNeg (some a))) : va_E)) = (gCa g (c + 11), (Sum.inl (gCk g 4, 24, qr (va_up ev c (va_up (ev c) i.toNatClampNeg (some a)) c)) : va_E))
      simp only [va_up, if_true]
    · unfold cCell
      rw [upr_n ho]
      split
      · rfl
      · by_cases hb : cB o' = c
        · have hj : cJ o' ≠ 11 := fun hj => ho (by have h9 : cB o' = o' - cJ o' := rfl; have h8 : cJ o' ≤ o' := Nat.le_trans (Nat.mod_le _ _) (Nat.sub_le _ _); omega)
          rw [cBlk_e hj]
        · simp only [va_up, if_neg hb]
  rw [es] at p1 p2
  refine kk H1 lo1 ce sl ls ⟨_, ah, _, p1, p2, ?_⟩ (by rw [O.2.2.1]; exact p3) h3 h4 h5
  intro c2 hc2
  have n1 : c2 ≠ c + 11 := by rcases hc with rfl | rfl <;> rcases hc2 with rfl | rfl <;> decide
  rw [upr_n n1]
  refine ⟨List.mem_append_left _ (hY c2 hc2).1, fun j' hj' => ?_⟩
  have old := (hY.mono (Z := [(a, .inr (evC k, evFs k x1 x2 x3))]) c2 hc2).2 j' hj'
  by_cases e : c2 = c
  · subst e
    rw [upr_s]
    simp only [va_up, if_true]
    by_cases ej : j' = i.toNatClampNeg
    · subst ej
      rw [if_pos rfl]
      unfold EvIn evE
      have r0 : evRow (C (c2 + 11)) i.toNatClampNeg k x1 x2 x3 (8 * i.toNatClampNeg) = k := by simp [evRow]
      have r1 : evRow (C (c2 + 11)) i.toNatClampNeg k x1 x2 x3 (8 * i.toNatClampNeg + 1) = x1 := by simp [evRow]
      have r2 : evRow (C (c2 + 11)) i.toNatClampNeg k x1 x2 x3 (8 * i.toNatClampNeg + 2) = x2 := by simp [evRow]
      have r3 : evRow (C (c2 + 11)) i.toNatClampNeg k x1 x2 x3 (8 * i.toNatClampNeg + 3) = x3 := by simp [evRow]
      rw [r0, r1, r2, r3, if_neg hk]
      exact ⟨a, rfl, List.mem_append_right _ (List.mem_singleton.mpr rfl)⟩
    · rw [if_neg ej]
      refine EvIn.congr ?_ ?_ ?_ ?_ old <;> unfold evRow
      · rw [if_neg (by omega), if_neg (by omega), if_neg (by omega), if_neg (by omega)]
      · rw [if_neg (by omega), if_neg (by omega), if_neg (by omega), if_neg (by omega)]
      · rw [if_neg (by omega), if_neg (by omega), if_neg (by omega), if_neg (by omega)]
      · rw [if_neg (by omega), if_neg (by omega), if_neg (by omega), if_neg (by omega)]
  · have n2 : c2 + 11 ≠ c + 11 := by omega
    rw [upr_n n2]
    simp only [va_up, if_neg e]
    exact old
end CEV
/-! RankEntry$Core.notes -/
def fc_Core_notes (c : Nat) (k x1 x2 x3 : Int32) (C : Mem) : Option (Unit × Mem) :=
  gd (inb (C c 51 - C c 51 / 24 * 24) 24) <|
  gd (decide (¬ k < 0)) <|
  stp (upr C (c + 11) (evRow (C (c + 11)) (C c 51 - C c 51 / 24 * 24).toNatClampNeg k x1 x2 x3)) fun C1 =>
  stp (up2 C1 c 51 (C1 c 51 + 1)) fun C2 =>
  some ((), C2)
theorem metc_Core_notes (l : Launch) (g : gC) (c : Nat) (hc : cC c) (a : Nat) (k x1 x2 x3 : Int32) (C C' : Mem) (r : Unit) (h : fc_Core_notes c k x1 x2 x3 C = some (r, C')) : Met l yX4_notes (ws_ yX4_notes cX4_notes 2 none) (rmz 0 0) (va_Pc [.ref (gCa g c), .ref a] (fun U => PN g C a (evC k) (evFs k x1 x2 x3) U.heap ∧ KC g U)) (cQv g r C') 0 (8 * 0) (cA g) :=
  g_body (by decide +kernel) rfl (Nat.le_of_ble_eq_true rfl) (fun X O hnm => by
    unfold fc_Core_notes at h
    obtain ⟨g1, h⟩ := gd_some h
    obtain ⟨g2, h⟩ := gd_some h
    obtain ⟨C1, e1, h⟩ := stp_some h
    obtain ⟨C2, e2, h⟩ := stp_some h
    refine v_aload_n O.1 dX4_notes_0 rfl (q := 1) rfl ?_
    refine c_getCP O PN.wd hc 13 (v := .ref (gCa g (c + 11))) (by decide) (O.lk q862) rfl (fun _ => rfl) dX4_notes_1 (q := 4) rfl ?_
    refine v_aload_n O.1 dX4_notes_4 rfl (q := 5) rfl ?_
    refine c_getCP O PN.wd hc 51 (v := .int (C c 51)) (by decide) (O.lk q931) rfl (fun _ => rfl) dX4_notes_5 (q := 8) rfl ?_
    refine v_bipush O.1 dX4_notes_8 (v := 24) (by decide) (q := 10) rfl ?_
    refine v_irem O.1 dX4_notes_10 (by decide) (q := 11) rfl ?_
    refine v_aload_n O.1 dX4_notes_11 rfl (q := 12) rfl ?_
    refine c_evs O hc (of_decide_eq_true g2) g1 rfl dX4_notes_12 (q := 13) rfl e1 ?_
    refine v_aload_n O.1 dX4_notes_13 rfl (q := 14) rfl ?_
    refine v_dup O.1 dX4_notes_14 rfl (q := 15) rfl ?_
    refine c_getC O hc 51 (v := .int (C1 c 51)) (by decide) (O.lk q931) rfl (fun _ => rfl) dX4_notes_15 (q := 18) rfl ?_
    refine v_iconst O.1 dX4_notes_18 (v := 1) rfl (q := 19) rfl ?_
    refine v_iadd O.1 dX4_notes_19 (q := 20) rfl ?_
    refine c_putC O hc 51 (u := (C1 c 51 + 1)) (ty := .int) (by decide) (by decide) (O.lk q931) rfl rfl rfl rfl rfl (fun _ => rfl) dX4_notes_20 (q := 23) rfl e2 ?_
    exact c_vret O h dX4_notes_23)
section CEV2
variable {g : gC} {X : Cxt} {cc : ByteArray} {nL b lvl mc : Nat} {ret : Option FieldType} {own : String} {Qc : Array Value → State → Outcome → State → Prop} {pc q : Nat} {lv : List (Nat × Value)} {st rest : List Value} {C C' : Mem}
theorem c_init_Ended (O : OkC g X cc nL ret own lvl mc Qc) {idx a : Nat} {host : String} {x1 x2 x3 : Int32} (hl : Cond.methodLinkNest own idx ⟨"RankEntry$Ended", "<init>", "(III)V"⟩ host ∈ lw_tbl) (hlv : 3 ≤ lvl) (hst : st = .int x3 :: .int x2 :: .int x1 :: .ref a :: rest) (hr : (rest.map fun v => v.category).sum ≤ 8) (d : decode cc pc = .ok (.invokespecial idx, 3)) (hq : pc + 3 = q) (kk : V X nL b (PN g C a (evC 2) (evFs 2 x1 x2 x3)) q lv rest) : V X nL b (PN g C a 10 [.int 0, .int 0, .int 0]) pc lv st :=
  g_callIN (As := [.int x1, .int x2, .int x3]) (n := 3) (b' := b) (mc' := 0) (lvl' := 2) (maxL := 4) (by_ := cX11_init) O hl q75 q493 q494 rfl (by decide +kernel) hlv (by decide) rfl hst hr d hq rfl (fun H hH => by
    obtain ⟨Y, ah, ev, h, hY⟩ := hH
    exact ⟨_, _, h, metg_Ended _ g a x1 x2 x3 _, fun H' h => ⟨Y, ah, ev, h, hY⟩⟩) kk
theorem c_init_Raised (O : OkC g X cc nL ret own lvl mc Qc) {idx a : Nat} {host : String} {x1 x2 x3 : Int32} (hl : Cond.methodLinkNest own idx ⟨"RankEntry$Raised", "<init>", "(III)V"⟩ host ∈ lw_tbl) (hlv : 3 ≤ lvl) (hst : st = .int x3 :: .int x2 :: .int x1 :: .ref a :: rest) (hr : (rest.map fun v => v.category).sum ≤ 8) (d : decode cc pc = .ok (.invokespecial idx, 3)) (hq : pc + 3 = q) (kk : V X nL b (PN g C a (evC 3) (evFs 3 x1 x2 x3)) q lv rest) : V X nL b (PN g C a 11 [.int 0, .int 0, .int 0]) pc lv st :=
  g_callIN (As := [.int x1, .int x2, .int x3]) (n := 3) (b' := b) (mc' := 0) (lvl' := 2) (maxL := 4) (by_ := cX6_init) O hl q68 q265 q266 rfl (by decide +kernel) hlv (by decide) rfl hst hr d hq rfl (fun H hH => by
    obtain ⟨Y, ah, ev, h, hY⟩ := hH
    exact ⟨_, _, h, metg_Raised _ g a x1 x2 x3 _, fun H' h => ⟨Y, ah, ev, h, hY⟩⟩) kk
theorem c_init_Abandoned (O : OkC g X cc nL ret own lvl mc Qc) {idx a : Nat} {host : String} {x1 x2 x3 : Int32} (hl : Cond.methodLinkNest own idx ⟨"RankEntry$Abandoned", "<init>", "(III)V"⟩ host ∈ lw_tbl) (hlv : 3 ≤ lvl) (hst : st = .int x3 :: .int x2 :: .int x1 :: .ref a :: rest) (hr : (rest.map fun v => v.category).sum ≤ 8) (d : decode cc pc = .ok (.invokespecial idx, 3)) (hq : pc + 3 = q) (kk : V X nL b (PN g C a (evC 4) (evFs 4 x1 x2 x3)) q lv rest) : V X nL b (PN g C a 12 [.int 0, .int 0, .int 0]) pc lv st :=
  g_callIN (As := [.int x1, .int x2, .int x3]) (n := 3) (b' := b) (mc' := 0) (lvl' := 2) (maxL := 4) (by_ := cX12_init) O hl q76 q637 q638 rfl (by decide +kernel) hlv (by decide) rfl hst hr d hq rfl (fun H hH => by
    obtain ⟨Y, ah, ev, h, hY⟩ := hH
    exact ⟨_, _, h, metg_Abandoned _ g a x1 x2 x3 _, fun H' h => ⟨Y, ah, ev, h, hY⟩⟩) kk
theorem c_init_Returned (O : OkC g X cc nL ret own lvl mc Qc) {idx a : Nat} {host : String} {x1 x2 x3 : Int32} (hl : Cond.methodLinkNest own idx ⟨"RankEntry$Returned", "<init>", "(III)V"⟩ host ∈ lw_tbl) (hlv : 3 ≤ lvl) (hst : st = .int x3 :: .int x2 :: .int x1 :: .ref a :: rest) (hr : (rest.map fun v => v.category).sum ≤ 8) (d : decode cc pc = .ok (.invokespecial idx, 3)) (hq : pc + 3 = q) (kk : V X nL b (PN g C a (evC 5) (evFs 5 x1 x2 x3)) q lv rest) : V X nL b (PN g C a 13 [.int 0, .int 0, .int 0]) pc lv st :=
  g_callIN (As := [.int x1, .int x2, .int x3]) (n := 3) (b' := b) (mc' := 0) (lvl' := 2) (maxL := 4) (by_ := cX13_init) O hl q77 q674 q675 rfl (by decide +kernel) hlv (by decide) rfl hst hr d hq rfl (fun H hH => by
    obtain ⟨Y, ah, ev, h, hY⟩ := hH
    exact ⟨_, _, h, metg_Returned _ g a x1 x2 x3 _, fun H' h => ⟨Y, ah, ev, h, hY⟩⟩) kk
theorem c_init_Began (O : OkC g X cc nL ret own lvl mc Qc) {idx a : Nat} {host : String} {x1 x2 x3 x4 : Int32} (hz : isB x4 = true) (hl : Cond.methodLinkNest own idx ⟨"RankEntry$Began", "<init>", "(IIIZ)V"⟩ host ∈ lw_tbl) (hlv : 3 ≤ lvl) (hst : st = .int x4 :: .int x3 :: .int x2 :: .int x1 :: .ref a :: rest) (hr : (rest.map fun v => v.category).sum ≤ 8) (d : decode cc pc = .ok (.invokespecial idx, 3)) (hq : pc + 3 = q) (kk : V X nL b (PN g C a (evC x4) (evFs x4 x1 x2 x3)) q lv rest) : V X nL b (PN g C a 9 [.int 0, .int 0, .int 0, .int 0]) pc lv st :=
  g_callIN (As := [.int x1, .int x2, .int x3, .int x4]) (n := 4) (b' := b) (mc' := 0) (lvl' := 2) (maxL := 5) (by_ := cX7_init) O hl q69 q330 q331 rfl (by decide +kernel) hlv (by decide) rfl hst hr d hq rfl (fun H hH => by
    obtain ⟨Y, ah, ev, h, hY⟩ := hH
    exact ⟨_, _, h, metg_Began _ g a x1 x2 x3 x4 hz _, fun H' h => ⟨Y, ah, ev, (by rcases isB_or hz with rfl | rfl <;> exact h), hY⟩⟩) kk
/-- notes(the new one) -/
theorem c_notes {r : Unit} (O : OkC g X cc nL ret own lvl mc Qc) {idx a c : Nat} (hc : cC c) {k x1 x2 x3 : Int32} (h : fc_Core_notes c k x1 x2 x3 C = some (r, C')) (hl : Cond.methodLink own idx ⟨"RankEntry$Core", "notes", "(LRankEntry$Event;)V"⟩ ∈ lw_all) (hlv : 1 ≤ lvl) (hst : st = .ref a :: .ref (gCa g c) :: rest) (hr : (rest.map fun v => v.category).sum ≤ 8) (d : decode cc pc = .ok (.invokevirtual idx, 3)) (hq : pc + 3 = q) (kk : V X nL b (WdC g C') q lv rest) : V X nL b (PN g C a (evC k) (evFs k x1 x2 x3)) pc lv st := by
  subst hq
  subst hst
  intro H lo ce sl ls h1 h2 h3 h4 h5
  have S2 := O.S h2
  have h0 := PN.wd H h1
  refine va_callv (A1 := cA g) (A0 := cA g) (va_runV (As := [.ref a]) (rest := rest) (n := 1) ⟨O.1.ex, O.1.bc, O.1.ml, O.1.ow, O.1.ts⟩ (metc_Core_notes (xl X) g c hc a k x1 x2 x3 C C' r h) (cwV 1 O.1.ts (lw_V hl q284 q285 q63 q286) rfl rfl rfl (by decide +kernel) (c_room O hlv (by decide))) ⟨fun a U f mk z => by obtain ⟨z0, z1, z2⟩ := z; exact ⟨z0, z1, z2.calling⟩, c_recv O h0 (o := c) (ci := 2) (p := (RX4, TX4, 55)) (cC_lt (j := 0) hc (by decide)) rfl (fun _ _ => ⟨_, cCell_core hc⟩), fun U hU hW => ⟨rfl, by rw [hU]; exact h1, O.2.1.moved S2 hU hW⟩⟩ rfl rfl h5.1 rfl (lv_room hr) d ⟨by omega, by omega⟩) S2 (fun q _ h => h) (fun q h => h) (fun u t H1 lo1 ht hvm hw hB hz hk hS1 => ?_)
  subst hw
  exact kk H1 lo1 _ _ ls (by rw [← ht]; exact hB) (by rw [O.2.2.1]; exact hS1) (by omega) (by omega) h5
end CEV2
