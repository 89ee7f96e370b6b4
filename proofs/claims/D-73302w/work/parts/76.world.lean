/-! WHAT THE CONSTRUCTORS LEAVE is the component's world -/
def posB (j : Nat) : Nat := if j < 22 then ([0, 3, 4, 5, 6, 7, 8, 9, 10, 11, 12, 13, 22, 14, 15, 16, 17, 18, 19, 20, 1, 2] : List Nat).getD j 0 else j + 1
def posR (o : Nat) : Nat := if o < 4 then o else if o < 9 then o + 88 else if o < 52 then 4 + posB (o - 9) else if o < 95 then 48 + posB (o - 52) else if o = 95 then 25 else 69
theorem posR_inj : ∀ i, i < 97 → ∀ j, j < 97 → posR i = posR j → i = j := by decide +kernel
theorem posB_lt : ∀ j, j < 43 → posB j < 44 := by decide +kernel
def blkAd (z : Nat) (u : coU) (j : Nat) : Nat := if j = 0 then z else if j < 22 then u.1.getD (([0, 3, 4, 5, 6, 7, 8, 9, 10, 11, 12, 13, 22, 14, 15, 16, 17, 18, 19, 20, 1, 2] : List Nat).getD j 0 - 1) 0 else u.2.1 (j - 22)
def coreR : Nat → Int32 := fun k => if k = 46 ∨ k = 52 then -1 else 0
def srcR (k : Nat) : Nat → Int32 := fun j => if j = 1 then 255 else if j = 8 then -1 else if j = 3 ∧ k = 20 then 1 else 0
theorem cell_qr {cA : ClassId} {n : Nat} {F F' : Nat → Option Nat} (h : ∀ i, i < n → F i = F' i) : vp_cell cA (n, qr F) = vp_cell cA (n, qr F') := by
  show arrV cA n (fun j => va_rf (F j)) = arrV cA n (fun j => va_rf (F' j))
  unfold arrV
  congr 2
  funext j
  show va_rf (F j.val) = va_rf (F' j.val)
  rw [h j.val j.isLt]
theorem blk_len {g : gC} {z cd : Nat} {u : coU} : (blk g z cd u).length = 44 := by simp [blk, coreZ, srcL]
theorem blk_src {g : gC} {z cd k : Nat} {u : coU} (hk : k < 21) : (blk g z cd u)[k + 23]? = some (u.2.1 k, .inr (cSc k, srcF k)) := by
  show (srcL u.2.1 21)[k]? = _
  unfold srcL
  rw [List.getElem?_map, List.getElem?_range hk]
  rfl
set_option maxHeartbeats 4000000 in
theorem blk_at {g g' : gC} {H : Heap} {C : Mem} {c z cd : Nat} {u : coU} (e1 : g'.1 = g.1) (e2 : gCk g' = gCk g) (e3 : gCo g' = gCo g) (hc1 : gCa g' 1 = cd) (hA : ∀ j, j < 43 → gCa g' (c + j) = blkAd z u j) (hT0 : gCt g' (c + 20) = u.2.2.1) (hT1 : gCt g' (c + 21) = u.2.2.2.1) (hG : coG u) (hC0 : C c = coreR) (hC : ∀ j, 1 ≤ j → j < 22 → ¬ j = 11 → C (c + j) = fun _ => 0) (hS : ∀ k, k < 21 → C (c + (k + 22)) = srcR k) (h : ∀ (k : Nat) (x : Nat × va_E), (blk g z cd u)[k]? = some x → va_at g.1 cCl x H) : ∀ j, j < 43 → ∃ y, (blk g z cd u)[posB j]? = some y ∧ y.1 = gCa g' (c + j) ∧ va_at g'.1 cCl (gCa g' (c + j), cBlk g' (C (c + j)) (u.1.getD 20 0) (fun _ => none) c j) H := by
  intro j hj
  have hA0 : gCa g' c = z := hA 0 (by decide)
  by_cases h22 : 22 ≤ j
  · obtain ⟨k, rfl⟩ : ∃ k, j = k + 22 := ⟨j - 22, by omega⟩
    have hk : k < 21 := by omega
    have ea : blkAd z u (k + 22) = u.2.1 k := by
      unfold blkAd
      rw [if_neg (by omega), if_neg (by omega), Nat.add_sub_cancel]
    refine ⟨(u.2.1 k, .inr (cSc k, srcF k)), ?_, ?_, ?_⟩
    · rw [show posB (k + 22) = k + 23 from if_neg (by omega)]
      exact blk_src hk
    · rw [hA _ hj, ea]
    · rw [hA _ hj, ea, hS k hk, e1]
      exact h (k + 23) _ (blk_src hk)
  · have hb : ∀ i, i < 22 → (∀ x : Nat × va_E, (blk g z cd u)[posB i]? = some x → x.1 = gCa g' (c + i) ∧ va_at g'.1 cCl (gCa g' (c + i), cBlk g' (C (c + i)) (u.1.getD 20 0) (fun _ => none) c i) H) → ∃ y, (blk g z cd u)[posB i]? = some y ∧ y.1 = gCa g' (c + i) ∧ va_at g'.1 cCl (gCa g' (c + i), cBlk g' (C (c + i)) (u.1.getD 20 0) (fun _ => none) c i) H := fun i hi k => by
      have hl : posB i < (blk g z cd u).length := by rw [blk_len]; exact posB_lt i (by omega)
      exact ⟨_, List.getElem?_eq_getElem hl, k _ (List.getElem?_eq_getElem hl)⟩
    refine hb j (by omega) (fun x hx => ?_)
    have hv := h _ _ hx
    have : j = 0 ∨ j = 1 ∨ j = 2 ∨ j = 3 ∨ j = 4 ∨ j = 5 ∨ j = 6 ∨ j = 7 ∨ j = 8 ∨ j = 9 ∨ j = 10 ∨ j = 11 ∨ j = 12 ∨ j = 13 ∨ j = 14 ∨ j = 15 ∨ j = 16 ∨ j = 17 ∨ j = 18 ∨ j = 19 ∨ j = 20 ∨ j = 21 := by omega
    rcases this with rfl | rfl | rfl | rfl | rfl | rfl | rfl | rfl | rfl | rfl | rfl | rfl | rfl | rfl | rfl | rfl | rfl | rfl | rfl | rfl | rfl | rfl
    · cases hx
      rw [hA 0 (by decide)]
      refine ⟨rfl, ?_⟩
      have ev : cFs g' c (C (c + 0)) (u.1.getD 20 0) = coreV g cd u.1 := by
        rw [Nat.add_zero, hC0]
        unfold cFs coreV cCh cMc
        rw [hc1, e3, hA 20 (by decide), hA 21 (by decide), hA 1 (by decide), hA 2 (by decide), hA 3 (by decide), hA 4 (by decide), hA 5 (by decide), hA 6 (by decide), hA 7 (by decide), hA 8 (by decide), hA 9 (by decide), hA 10 (by decide), hA 11 (by decide), show coreR 25 = 0 from rfl, show coreR 26 = 0 from rfl, show c + 13 + (coreR 24).toNatClampNeg = c + 13 from rfl, hA 13 (by decide), hA 14 (by decide), hA 15 (by decide), hA 16 (by decide), hA 17 (by decide), hA 18 (by decide), hA 19 (by decide), hA 12 (by decide)]
        rfl
      show va_at g'.1 cCl (_, .inr (2, cFs g' c (C (c + 0)) (u.1.getD 20 0))) H
      rw [ev, e1]
      exact hv
    · cases hx
      rw [hA 1 (by decide), e1]
      refine ⟨rfl, ?_⟩
      show H[_]? = some (vp_cell (gCk g' 0) (8, .inl (C (c + 1))))
      rw [e2, hC 1 (by decide) (by decide) (by decide)]
      exact hv
    · cases hx
      rw [hA 2 (by decide), e1]
      refine ⟨rfl, ?_⟩
      show H[_]? = some (vp_cell (gCk g' 2) (4, qf (fun i => (C (c + 2) i).toUInt32)))
      rw [e2, hC 2 (by decide) (by decide) (by decide)]
      exact hv
    · cases hx
      rw [hA 3 (by decide), e1]
      refine ⟨rfl, ?_⟩
      show H[_]? = some (vp_cell (gCk g' 0) (16, .inl (C (c + 3))))
      rw [e2, hC 3 (by decide) (by decide) (by decide)]
      exact hv
    · cases hx
      rw [hA 4 (by decide), e1]
      refine ⟨rfl, ?_⟩
      show H[_]? = some (vp_cell (gCk g' 0) (96, .inl (C (c + 4))))
      rw [e2, hC 4 (by decide) (by decide) (by decide)]
      exact hv
    · cases hx
      rw [hA 5 (by decide), e1]
      refine ⟨rfl, ?_⟩
      show H[_]? = some (vp_cell (gCk g' 3) (21, qr (fun i => some (gCa g' (c + 22 + i)))))
      rw [e2, ← cell_qr (F := u.2.2.2.2) (fun i hi => by
        rw [hG i hi, Nat.add_assoc, hA (22 + i) (by omega)]
        unfold blkAd
        rw [if_neg (by omega), if_neg (by omega), Nat.add_sub_cancel_left])]
      exact hv
    · cases hx
      rw [hA 6 (by decide), e1]
      refine ⟨rfl, ?_⟩
      show H[_]? = some (vp_cell (gCk g' 0) (21, .inl (C (c + 6))))
      rw [e2, hC 6 (by decide) (by decide) (by decide)]
      exact hv
    · cases hx
      rw [hA 7 (by decide), e1]
      refine ⟨rfl, ?_⟩
      show H[_]? = some (vp_cell (gCk g' 0) (32, .inl (C (c + 7))))
      rw [e2, hC 7 (by decide) (by decide) (by decide)]
      exact hv
    · cases hx
      rw [hA 8 (by decide), e1]
      refine ⟨rfl, ?_⟩
      show H[_]? = some (vp_cell (gCk g' 0) (32, .inl (C (c + 8))))
      rw [e2, hC 8 (by decide) (by decide) (by decide)]
      exact hv
    · cases hx
      rw [hA 9 (by decide), e1]
      refine ⟨rfl, ?_⟩
      show H[_]? = some (vp_cell (gCk g' 0) (14, .inl (C (c + 9))))
      rw [e2, hC 9 (by decide) (by decide) (by decide)]
      exact hv
    · cases hx
      rw [hA 10 (by decide), e1]
      refine ⟨rfl, ?_⟩
      show H[_]? = some (vp_cell (gCk g' 0) (64, .inl (C (c + 10))))
      rw [e2, hC 10 (by decide) (by decide) (by decide)]
      exact hv
    · cases hx
      rw [hA 11 (by decide), e1]
      refine ⟨rfl, ?_⟩
      show H[_]? = some (vp_cell (gCk g' 4) (24, qr (fun _ => none)))
      rw [e2]
      exact hv
    · cases hx
      rw [hA 12 (by decide), e1]
      refine ⟨rfl, ?_⟩
      show H[_]? = some (vp_cell (gCk g' 0) (300, .inl (C (c + 12))))
      rw [e2, hC 12 (by decide) (by decide) (by decide)]
      exact hv
    · cases hx
      rw [hA 13 (by decide), e1]
      refine ⟨rfl, ?_⟩
      show H[_]? = some (vp_cell (gCk g' 10) (1, qr (fun _ => some (gCa g' c))))
      rw [e2, hA0]
      exact hv
    · cases hx
      rw [hA 14 (by decide), e1]
      refine ⟨rfl, ?_⟩
      show H[_]? = some (vp_cell (gCk g' 11) (1, qr (fun _ => some (gCa g' c))))
      rw [e2, hA0]
      exact hv
    · cases hx
      rw [hA 15 (by decide), e1]
      refine ⟨rfl, ?_⟩
      show H[_]? = some (vp_cell (gCk g' 12) (1, qr (fun _ => some (gCa g' c))))
      rw [e2, hA0]
      exact hv
    · cases hx
      rw [hA 16 (by decide), e1]
      refine ⟨rfl, ?_⟩
      show H[_]? = some (vp_cell (gCk g' 13) (1, qr (fun _ => some (gCa g' c))))
      rw [e2, hA0]
      exact hv
    · cases hx
      rw [hA 17 (by decide), e1]
      refine ⟨rfl, ?_⟩
      show H[_]? = some (vp_cell (gCk g' 14) (1, qr (fun _ => some (gCa g' c))))
      rw [e2, hA0]
      exact hv
    · cases hx
      rw [hA 18 (by decide), e1]
      refine ⟨rfl, ?_⟩
      show H[_]? = some (vp_cell (gCk g' 15) (1, qr (fun _ => some (gCa g' c))))
      rw [e2, hA0]
      exact hv
    · cases hx
      rw [hA 19 (by decide), e1]
      refine ⟨rfl, ?_⟩
      show H[_]? = some (vp_cell (gCk g' 17) (1, qr (fun _ => some (gCa g' c))))
      rw [e2, hA0]
      exact hv
    · cases hx
      rw [hA 20 (by decide), e1]
      refine ⟨rfl, ?_⟩
      show va_at g.1 cCl (_, .inr (4, [gCt g' (c + 20) 0, gCt g' (c + 20) 1, gCt g' (c + 20) 2, gCt g' (c + 20) 3, gCt g' (c + 20) 4, gCt g' (c + 20) 5, .int 18])) H
      rw [hT0]
      exact hv
    · cases hx
      rw [hA 21 (by decide), e1]
      refine ⟨rfl, ?_⟩
      show va_at g.1 cCl (_, .inr (4, [gCt g' (c + 21) 0, gCt g' (c + 21) 1, gCt g' (c + 21) 2, gCt g' (c + 21) 3, gCt g' (c + 21) 4, gCt g' (c + 21) 5, .int 19])) H
      rw [hT1]
      exact hv
/-- the first memory of the component -/
def C0 : Mem := fun o => if o = 9 ∨ o = 52 then coreR else if o = 20 ∨ o = 63 then fun _ => -1 else if 31 ≤ o ∧ o < 52 then srcR (o - 31) else if 74 ≤ o then srcR (o - 74) else fun _ => 0
def reAd (a : Nat) (u : reU) (o : Nat) : Nat := if o < 9 then ([a, u.1, u.2.1.1, u.2.1.2, u.2.2.2.2.2.2.1, u.2.2.2.2.2.2.2.1, u.2.2.2.2.2.2.2.2.1, u.2.2.2.2.2.2.2.2.2.1, u.2.2.2.2.2.2.2.2.2.2] : List Nat).getD o 0 else if o < 52 then blkAd u.2.2.1 u.2.2.2.1 (o - 9) else blkAd u.2.2.2.2.1 u.2.2.2.2.2.1 (o - 52)
def reTv (u : reU) (o : Nat) : Nat → Value := if o = 29 then u.2.2.2.1.2.2.1 else if o = 30 then u.2.2.2.1.2.2.2.1 else if o = 72 then u.2.2.2.2.2.1.2.2.1 else u.2.2.2.2.2.1.2.2.2.1
def gRe (g : gC) (a : Nat) (u : reU) : gC := (g.1, reAd a u, g.2.2.1, g.2.2.2.1, reTv u, g.2.2.2.2.2.1, g.2.2.2.2.2.2)
theorem re_b1 {g : gC} {a k : Nat} {u : reU} (hk : k < 44) : (reW g a u)[4 + k]? = (blk g u.2.2.1 u.1 u.2.2.2.1)[k]? := by
  unfold reW
  rw [show 4 + k = (3 + k) + 1 by omega, List.getElem?_cons_succ, List.getElem?_append_left (by simp [blk_len]; omega), List.getElem?_append_left (by simp [blk_len]; omega), List.getElem?_append_right (by simp)]
  congr 1
  simp
theorem re_b2 {g : gC} {a k : Nat} {u : reU} (hk : k < 44) : (reW g a u)[48 + k]? = (blk g u.2.2.2.2.1 u.1 u.2.2.2.2.2.1)[k]? := by
  unfold reW
  rw [show 48 + k = (47 + k) + 1 by omega, List.getElem?_cons_succ, List.getElem?_append_left (by simp [blk_len]; omega), List.getElem?_append_right (by simp [blk_len])]
  congr 1
  simp [blk_len]
theorem re_w {g : gC} {a k : Nat} {u : reU} : (reW g a u)[92 + k]? = (wayW g u.2.2.2.2.2.2.1 u.1 u.2.2.2.2.2.2.2)[k]? := by
  unfold reW
  rw [show 92 + k = (91 + k) + 1 by omega, List.getElem?_cons_succ, List.getElem?_append_right (by simp [blk_len])]
  congr 1
  simp [blk_len]
set_option maxHeartbeats 4000000 in
theorem re_world {g : gC} {a : Nat} {u : reU} {H : Heap} (h : reL g [] a u H) : WdC (gRe g a u) C0 H := by
  obtain ⟨⟨hP, hD⟩, g1, g2⟩ := h
  have hP : va_P g.1 cCl (reW g a u) H := hP
  have hD : va_D (cA g) (reW g a u) := hD
  have B1 := blk_at (g := g) (g' := gRe g a u) (H := H) (C := C0) (c := 9) (z := u.2.2.1) (cd := u.1) (u := u.2.2.2.1) rfl rfl rfl rfl (fun j hj => by
    show reAd a u (9 + j) = _
    unfold reAd
    rw [if_neg (by omega), if_pos (by omega), Nat.add_sub_cancel_left]) rfl rfl g1 rfl (fun j j1 j2 j3 => by
    unfold C0
    rw [if_neg (by omega), if_neg (by omega), if_neg (by omega), if_neg (by omega)]) (fun k hk => by
    unfold C0
    rw [if_neg (by omega), if_neg (by omega), if_pos (by omega)]
    congr 1
    omega) (fun k x hx => hP (4 + k) x (by
      have hk : k < 44 := by have := (List.getElem?_eq_some_iff.mp hx).1; rw [blk_len] at this; exact this
      rw [re_b1 hk]; exact hx))
  have B2 := blk_at (g := g) (g' := gRe g a u) (H := H) (C := C0) (c := 52) (z := u.2.2.2.2.1) (cd := u.1) (u := u.2.2.2.2.2.1) rfl rfl rfl rfl (fun j hj => by
    show reAd a u (52 + j) = _
    unfold reAd
    rw [if_neg (by omega), if_neg (by omega), Nat.add_sub_cancel_left]) rfl rfl g2 rfl (fun j j1 j2 j3 => by
    unfold C0
    rw [if_neg (by omega), if_neg (by omega), if_neg (by omega), if_neg (by omega)]) (fun k hk => by
    unfold C0
    rw [if_neg (by omega), if_neg (by omega), if_neg (by omega), if_pos (by omega)]
    congr 1
    omega) (fun k x hx => hP (48 + k) x (by
      have hk : k < 44 := by have := (List.getElem?_eq_some_iff.mp hx).1; rw [blk_len] at this; exact this
      rw [re_b2 hk]; exact hx))
  have key : ∀ o : Nat, o < 97 → ∀ x : Nat × va_E, (cWs (gRe g a u) C0 (fun c => if c = 9 then u.2.2.2.1.1.getD 20 0 else u.2.2.2.2.2.1.1.getD 20 0) (fun _ _ => none) ++ [(u.2.2.2.1.1.getD 20 0, lamE g 0), (u.2.2.2.2.2.1.1.getD 20 0, lamE g 0)])[o]? = some x → (∃ y, (reW g a u)[posR o]? = some y ∧ y.1 = x.1) ∧ va_at g.1 cCl x H := by
    intro o ho x hx
    by_cases h95 : o < 95
    · rw [cWs_get h95] at hx
      by_cases h9 : o < 9
      · have : o = 0 ∨ o = 1 ∨ o = 2 ∨ o = 3 ∨ o = 4 ∨ o = 5 ∨ o = 6 ∨ o = 7 ∨ o = 8 := by omega
        rcases this with rfl | rfl | rfl | rfl | rfl | rfl | rfl | rfl | rfl
        · cases hx; exact ⟨⟨_, rfl, rfl⟩, hP 0 _ rfl⟩
        · cases hx; exact ⟨⟨_, rfl, rfl⟩, hP 1 _ rfl⟩
        · cases hx; exact ⟨⟨_, rfl, rfl⟩, hP 2 _ rfl⟩
        · cases hx; exact ⟨⟨_, rfl, rfl⟩, hP 3 _ rfl⟩
        · cases hx; exact ⟨⟨_, re_w (k := 0), rfl⟩, hP (92 + 0) _ re_w⟩
        · cases hx; exact ⟨⟨_, re_w (k := 1), rfl⟩, hP (92 + 1) _ re_w⟩
        · cases hx; exact ⟨⟨_, re_w (k := 2), rfl⟩, hP (92 + 2) _ re_w⟩
        · cases hx; exact ⟨⟨_, re_w (k := 3), rfl⟩, hP (92 + 3) _ re_w⟩
        · cases hx; exact ⟨⟨_, re_w (k := 4), rfl⟩, hP (92 + 4) _ re_w⟩
      · by_cases h52 : o < 52
        · obtain ⟨j, rfl⟩ : ∃ j, o = 9 + j := ⟨o - 9, by omega⟩
          have hj : j < 43 := by omega
          obtain ⟨y, y1, y2, y3⟩ := B1 j hj
          rw [cCell_blk (Or.inl rfl) hj] at hx
          cases hx
          refine ⟨⟨y, ?_, y2⟩, y3⟩
          rw [show posR (9 + j) = 4 + posB j by unfold posR; rw [if_neg (by omega), if_neg (by omega), if_pos (by omega), Nat.add_sub_cancel_left], re_b1 (posB_lt j hj)]
          exact y1
        · obtain ⟨j, rfl⟩ : ∃ j, o = 52 + j := ⟨o - 52, by omega⟩
          have hj : j < 43 := by omega
          obtain ⟨y, y1, y2, y3⟩ := B2 j hj
          rw [cCell_blk (Or.inr rfl) hj] at hx
          cases hx
          refine ⟨⟨y, ?_, y2⟩, y3⟩
          rw [show posR (52 + j) = 48 + posB j by unfold posR; rw [if_neg (by omega), if_neg (by omega), if_neg (by omega), if_pos (by omega), Nat.add_sub_cancel_left], re_b2 (posB_lt j hj)]
          exact y1
    · rw [List.getElem?_append_right (by rw [cWs_len]; omega), cWs_len] at hx
      have : o = 95 ∨ o = 96 := by omega
      rcases this with rfl | rfl
      · cases hx
        exact ⟨⟨_, re_b1 (k := 21) (by decide), rfl⟩, hP (4 + 21) _ (re_b1 (by decide))⟩
      · cases hx
        exact ⟨⟨_, re_b2 (k := 21) (by decide), rfl⟩, hP (48 + 21) _ (re_b2 (by decide))⟩
  have hlen : ∀ (k : Nat) (x : Nat × va_E), (cWs (gRe g a u) C0 (fun c => if c = 9 then u.2.2.2.1.1.getD 20 0 else u.2.2.2.2.2.1.1.getD 20 0) (fun _ _ => none) ++ [(u.2.2.2.1.1.getD 20 0, lamE g 0), (u.2.2.2.2.2.1.1.getD 20 0, lamE g 0)])[k]? = some x → k < 97 := fun k x hx => by
    have := (List.getElem?_eq_some_iff.mp hx).1
    rw [List.length_append, cWs_len] at this
    exact this
  refine ⟨_, _, _, fun k x hx => (key k (hlen k x hx) x hx).2, ⟨fun i j p q hi hj e => ?_, fun k x hx => ?_⟩, fun c hc => ?_⟩
  · obtain ⟨⟨y, y1, y2⟩, -⟩ := key i (hlen i p hi) p hi
    obtain ⟨⟨z, z1, z2⟩, -⟩ := key j (hlen j q hj) q hj
    exact posR_inj i (hlen i p hi) j (hlen j q hj) (hD.1 _ _ y z y1 z1 (by rw [y2, z2]; exact e))
  · obtain ⟨⟨y, y1, y2⟩, -⟩ := key k (hlen k x hx) x hx
    have := hD.2 _ y y1
    rw [y2] at this
    exact this
  · rcases hc with rfl | rfl
    · exact ⟨by simp [C0, coreR]; first | exact Or.inl rfl | exact Or.inr rfl, fun j _ => by unfold EvIn; rw [if_pos (show C0 (9 + 11) (8 * j) < 0 from by show (-1 : Int32) < 0; decide)]⟩
    · exact ⟨by simp [C0, coreR]; first | exact Or.inl rfl | exact Or.inr rfl, fun j _ => by unfold EvIn; rw [if_pos (show C0 (52 + 11) (8 * j) < 0 from by show (-1 : Int32) < 0; decide)]⟩
