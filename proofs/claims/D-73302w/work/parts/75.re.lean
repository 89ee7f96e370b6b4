/-! RANKENTRY: its constructor -/
theorem X2fresh : ∀ j, j < 2 → defaultValue (tyX2 j) = vp_V [.null, .null] j := by decide +kernel
theorem X4fresh : ∀ j, j < 55 → defaultValue (tyX4 j) = vp_V [.null, .null, .null, .null, .null, .null, .null, .null, .null, .null, .null, .null, .null, .null, .null, .null, .null, .null, .null, .null, .null, .null, .null, .null, .null, .null, .null, .null, .int 0, .int 0, .int 0, .int 0, .int 0, .int 0, .int 0, .int 0, .int 0, .int 0, .int 0, .int 0, .int 0, .int 0, .int 0, .int 0, .int 0, .int 0, .int 0, .int 0, .int 0, .int 0, .int 0, .int 0, .int 0, .int 0, .null] j := by decide +kernel
theorem X19fresh : ∀ j, j < 6 → defaultValue (tyX19 j) = vp_V [.null, .null, .null, .null, .null, .int 0] j := by decide +kernel
theorem wo_out {g : gC} {W0 Z : va_W} {a ci z cj : Nat} {fs f : List Value} {H : Heap} (h : Wo g W0 a ci fs (Z ++ [(z, .inr (cj, f))]) H) : Wo g (W0 ++ (a, .inr (ci, fs)) :: Z) z cj f [] H := by
  unfold Wo at h ⊢
  rw [wo_app] at h
  exact h
theorem wo_back {g : gC} {W0 Z zs : va_W} {a ci : Nat} {fs : List Value} {H : Heap} (h : Wg g ((W0 ++ (a, .inr (ci, fs)) :: Z) ++ zs) H) : Wo g W0 a ci fs (Z ++ zs) H := by
  unfold Wo
  rw [wo_app]
  exact h
theorem v_and {X : Cxt} {nL b pc : Nat} {P : Heap → Prop} {p : Prop} {lv : List (Nat × Value)} {st : List Value} (k : p → V X nL b P pc lv st) : V X nL b (fun H => P H ∧ p) pc lv st := fun H lo ce sl ls h1 h2 h3 h4 h5 => k h1.2 H lo ce sl ls h1.1 h2 h3 h4 h5
theorem set_self {α : Type} {l : List α} {k : Nat} {x : α} (h : l[k]? = some x) : l.set k x = l := by
  apply List.ext_getElem?
  intro i
  rw [List.getElem?_set]
  split
  · rename_i e
    subst e
    rw [h]
    simp [(List.getElem?_eq_some_iff.mp h).1]
  · rfl
def blk (g : gC) (z cd : Nat) (u : coU) : va_W := (z, .inr (2, coreV g cd u.1)) :: coreZ g z u.1 u.2.2.1 u.2.2.2.1 u.2.2.2.2 (srcL u.2.1 21)
def coG (u : coU) : Prop := ∀ j, j < 21 → u.2.2.2.2 j = some (u.2.1 j)
abbrev reU : Type := Nat × (Nat × Nat) × Nat × coU × Nat × coU × Nat × (Nat × Nat × Nat × Nat)
def reW (g : gC) (a : Nat) (u : reU) : va_W := (a, .inr (0, [.ref u.1, .ref u.2.2.1, .ref u.2.2.2.2.1, .ref u.2.2.2.2.2.2.1])) :: (((([] ++ codW g u.1 u.2.1) ++ blk g u.2.2.1 u.1 u.2.2.2.1) ++ blk g u.2.2.2.2.1 u.1 u.2.2.2.2.2.1) ++ wayW g u.2.2.2.2.2.2.1 u.1 u.2.2.2.2.2.2.2)
def reL (g : gC) (W : va_W) (a : Nat) (u : reU) : Heap → Prop := fun H => Wg g (W ++ reW g a u) H ∧ coG u.2.2.2.1 ∧ coG u.2.2.2.2.2.1
/-- a field of a thing further on in the list, set again to what it holds -/
theorem k_same {g : gC} {X : Cxt} {cc : ByteArray} {nL b lvl mc : Nat} {ret : Option FieldType} {own : String} {Qc : Array Value → State → Outcome → State → Prop} {pc q : Nat} {lv : List (Nat × Value)} {st : List Value} (O : OkC g X cc nL ret own lvl mc Qc) {ws : va_W} {q0 z idx ci : Nat} {fs : List Value} {ref Cn host : String} {T : u_T} {N : Nat} (k : Nat) {v : Value} {ty : FieldType} {ty0 : Nat → FieldType} (he : ws[q0]? = some (z, .inr (ci, fs))) (hv : fs[k]? = some v) (hin : ∀ w ∈ u_ws Cn T N, w ∈ lw_all) (hty : ∀ k, k < N → parseFieldDescriptor (T k).2.2.1 = some (ty0 k)) (hnn : ∀ a, a < N → ∀ b, b < N → a ≠ b → (T a).2.1 ≠ (T b).2.1) (hci : cCl[ci]? = some (Cn, T, N)) (hk : k < N) (hl : Cond.fieldLinkNest own idx ref (T k).2.1 (T k).2.2.1 host ∈ lw_tbl) (hT : (T k).1 = ref) (hfin : (T k).2.2.2 = false) (hd : parseFieldDescriptor (T k).2.2.1 = some ty) (hn : narrow ty v = v) (hf : fits ty v = true) (d : decode cc pc = .ok (.putfield idx, 3)) (hq : pc + 3 = q) (kk : V X nL b (Wg g ws) q lv st) : V X nL b (Wg g ws) pc lv (v :: .ref z :: st) := by
  subst hq
  intro H lo ce sl ls h1 h2 h3 h4 h5
  obtain ⟨hP, hD⟩ := h1
  refine va_putN O.1.ex O.1.bc O.1.ts hin ty0 hty hnn O.1.ow O.2.1.1 hP hD (O.S h2) q0 he hci k hk (va_any rfl (O.2.1.nest _ (List.mem_filter.mpr ⟨hl, rfl⟩))) (fun x hx => by rw [← hT]; exact hx) hfin hd hn hf (List.getElem?_eq_some_iff.mp hv).1 d (fun H1 lo1 p1 p2 p3 => ?_)
  rw [set_self hv, set_self he] at p1 p2
  exact kk H1 lo1 ce sl ls ⟨p1, p2⟩ (by rw [O.2.2.1]; exact p3) h3 h4 h5
set_option maxHeartbeats 4000000 in
theorem metk_RE (l : Launch) (hl : l.stackTraces = false) (g : gC) (a : Nat) (W : va_W) : MetK (S := reU) l g yX1_init cX1_init 1 7 606 [.ref a] (Wo g W a 0 [.null, .null, .null, .null] []) (reL g W a) :=
  g_bodyL (by decide +kernel) rfl (Nat.le_of_ble_eq_true rfl) (fun X O hnm hxl => by
    have O : OkC g X cX1_init 1 none "RankEntry" 7 606 (kQ g (reL g W a)) := O
    refine v_aload_n O.1 dX1_init_0 rfl (q := 1) rfl ?_
    refine g_obj O q96 (by decide) (Nat.le_of_ble_eq_true rfl) dX1_init_1 (q := 4) rfl ?_
    refine v_aload_n O.1 dX1_init_4 rfl (q := 5) rfl ?_
    refine k_new (b' := 605) (m := 1) (N := 2) (f0 := [.null, .null]) (cj := 1) O rfl in_X2 tyX2_ok q99 q100 q60 X2fresh (by decide) rfl dX1_init_5 (q := 8) rfl (fun zc => ?_)
    refine v_dup O.1 dX1_init_8 rfl (q := 9) rfl ?_
    refine v_world (fun _ h => wo_out h) ?_
    refine g_ctorN (S := Nat × Nat) (As := []) (rest := [.ref zc, .ref a]) (n := 0) (b' := 537) (mc' := 68) (lvl' := 2) O (metk_Code _ g zc _) q101 q60 q102 q103 rfl (by decide +kernel) (by decide) (by decide) rfl rfl (Nat.le_of_ble_eq_true rfl) dX1_init_9 (q := 12) rfl rfl (fun uc => ?_)
    refine v_world (fun _ h => wo_back h) ?_
    refine k_putF O hnm (Cn := RX1) (T := TX1) (N := 4) 0 (v := .ref zc) (ty := .object "RankEntry$Code") in_X1 tyX1_ok nmX1 rfl (by decide) q1077 rfl rfl rfl rfl rfl (Nat.le_of_ble_eq_true rfl) dX1_init_12 (q := 15) rfl ?_
    refine v_aload_n O.1 dX1_init_15 rfl (q := 16) rfl ?_
    refine k_new (b' := 530) (m := 7) (N := 55) (f0 := [.null, .null, .null, .null, .null, .null, .null, .null, .null, .null, .null, .null, .null, .null, .null, .null, .null, .null, .null, .null, .null, .null, .null, .null, .null, .null, .null, .null, .int 0, .int 0, .int 0, .int 0, .int 0, .int 0, .int 0, .int 0, .int 0, .int 0, .int 0, .int 0, .int 0, .int 0, .int 0, .int 0, .int 0, .int 0, .int 0, .int 0, .int 0, .int 0, .int 0, .int 0, .int 0, .int 0, .null]) (cj := 2) O rfl in_X4 tyX4_ok q127 q128 q63 X4fresh (by decide) rfl dX1_init_16 (q := 19) rfl (fun z1 => ?_)
    refine v_dup O.1 dX1_init_19 rfl (q := 20) rfl ?_
    refine v_aload_n O.1 dX1_init_20 rfl (q := 21) rfl ?_
    refine k_get (Cn := RX1) (T := TX1) (N := 4) O 0 (v := .ref zc) in_X1 rfl (by decide) q1077 rfl rfl dX1_init_21 (q := 24) rfl ?_
    refine v_world (fun _ h => wo_out h) ?_
    refine g_ctor (S := coU) (As := [.ref zc]) (rest := [.ref z1, .ref a]) (n := 1) (b' := 397) (mc' := 133) (lvl' := 6) O (metk_Core _ (by rw [hxl]; exact hl) g z1 zc _) q129 q63 q130 q131 rfl (by decide +kernel) (by decide) (by decide) rfl rfl (Nat.le_of_ble_eq_true rfl) dX1_init_24 (q := 27) rfl rfl (fun u1 => ?_)
    refine v_and (fun hgu1 => ?_)
    refine v_world (fun _ h => wo_back (zs := blk g z1 zc u1) h) ?_
    refine k_putF O hnm (Cn := RX1) (T := TX1) (N := 4) 1 (v := .ref z1) (ty := .object "RankEntry$Core") in_X1 tyX1_ok nmX1 rfl (by decide) q1078 rfl rfl rfl rfl rfl (Nat.le_of_ble_eq_true rfl) dX1_init_27 (q := 30) rfl ?_
    refine v_aload_n O.1 dX1_init_30 rfl (q := 31) rfl ?_
    refine k_new (b' := 390) (m := 7) (N := 55) (f0 := [.null, .null, .null, .null, .null, .null, .null, .null, .null, .null, .null, .null, .null, .null, .null, .null, .null, .null, .null, .null, .null, .null, .null, .null, .null, .null, .null, .null, .int 0, .int 0, .int 0, .int 0, .int 0, .int 0, .int 0, .int 0, .int 0, .int 0, .int 0, .int 0, .int 0, .int 0, .int 0, .int 0, .int 0, .int 0, .int 0, .int 0, .int 0, .int 0, .int 0, .int 0, .int 0, .int 0, .null]) (cj := 2) O rfl in_X4 tyX4_ok q127 q128 q63 X4fresh (by decide) rfl dX1_init_31 (q := 34) rfl (fun z2 => ?_)
    refine v_dup O.1 dX1_init_34 rfl (q := 35) rfl ?_
    refine v_aload_n O.1 dX1_init_35 rfl (q := 36) rfl ?_
    refine k_get (Cn := RX1) (T := TX1) (N := 4) O 0 (v := .ref zc) in_X1 rfl (by decide) q1077 rfl rfl dX1_init_36 (q := 39) rfl ?_
    refine v_world (fun _ h => wo_out h) ?_
    refine g_ctor (S := coU) (As := [.ref zc]) (rest := [.ref z2, .ref a]) (n := 1) (b' := 257) (mc' := 133) (lvl' := 6) O (metk_Core _ (by rw [hxl]; exact hl) g z2 zc _) q129 q63 q130 q131 rfl (by decide +kernel) (by decide) (by decide) rfl rfl (Nat.le_of_ble_eq_true rfl) dX1_init_39 (q := 42) rfl rfl (fun u2 => ?_)
    refine v_and (fun hgu2 => ?_)
    refine v_world (fun _ h => wo_back (zs := blk g z2 zc u2) h) ?_
    refine k_putF O hnm (Cn := RX1) (T := TX1) (N := 4) 2 (v := .ref z2) (ty := .object "RankEntry$Core") in_X1 tyX1_ok nmX1 rfl (by decide) q1079 rfl rfl rfl rfl rfl (Nat.le_of_ble_eq_true rfl) dX1_init_42 (q := 45) rfl ?_
    refine v_aload_n O.1 dX1_init_45 rfl (q := 46) rfl ?_
    refine k_new (b' := 256) (m := 1) (N := 6) (f0 := [.null, .null, .null, .null, .null, .int 0]) (cj := 3) O rfl in_X19 tyX19_ok q1050 q1051 q83 X19fresh (by decide) rfl dX1_init_46 (q := 49) rfl (fun zw => ?_)
    refine v_dup O.1 dX1_init_49 rfl (q := 50) rfl ?_
    refine v_aload_n O.1 dX1_init_50 rfl (q := 51) rfl ?_
    refine k_get (Cn := RX1) (T := TX1) (N := 4) O 0 (v := .ref zc) in_X1 rfl (by decide) q1077 rfl rfl dX1_init_51 (q := 54) rfl ?_
    refine v_world (fun _ h => wo_out h) ?_
    refine g_ctor (S := Nat × Nat × Nat × Nat) (As := [.ref zc]) (rest := [.ref zw, .ref a]) (n := 1) (b' := 0) (mc' := 256) (lvl' := 1) O (metk_Ways _ g zw zc _) q1052 q83 q1053 q1054 rfl (by decide +kernel) (by decide) (by decide) rfl rfl (Nat.le_of_ble_eq_true rfl) dX1_init_54 (q := 57) rfl rfl (fun uw => ?_)
    refine v_world (fun _ h => wo_back (zs := wayW g zw zc uw) h) ?_
    refine k_putF O hnm (Cn := RX1) (T := TX1) (N := 4) 3 (v := .ref zw) (ty := .object "RankEntry$Ways") in_X1 tyX1_ok nmX1 rfl (by decide) q1080 rfl rfl rfl rfl rfl (Nat.le_of_ble_eq_true rfl) dX1_init_57 (q := 60) rfl ?_
    refine v_aload_n O.1 dX1_init_60 rfl (q := 61) rfl ?_
    refine k_get (Cn := RX1) (T := TX1) (N := 4) O 1 (v := .ref z1) in_X1 rfl (by decide) q1078 rfl rfl dX1_init_61 (q := 64) rfl ?_
    refine v_iconst O.1 dX1_init_64 (v := 0) rfl (q := 65) rfl ?_
    refine v_world (P' := Wg g (W ++ reW g a (zc, uc, z1, u1, z2, u2, zw, uw))) (fun _ h => h) ?_
    refine k_same (q0 := W.length + 4) (ci := 2) (fs := coreV g zc u1.1) (Cn := RX4) (T := TX4) (N := 55) O 39 (v := .int 0) (ty := .int) (by rw [w_get]; rfl) rfl in_X4 tyX4_ok nmX4 rfl (by decide) q910 rfl rfl rfl rfl rfl dX1_init_65 (q := 68) rfl ?_
    refine v_world (P' := reL g W a (zc, uc, z1, u1, z2, u2, zw, uw)) (fun _ h => ⟨h, hgu1, hgu2⟩) ?_
    exact k_vret O (zc, uc, z1, u1, z2, u2, zw, uw) dX1_init_68)
