set_option maxRecDepth 100000
set_option maxHeartbeats 4000000
def fX0_init_352P (w : Wd) (l : Launch) (G : Cx) (Q : State → Prop) (m : Dt) (s : Dt × Int) : Prop := V w l WF G Q s.1 m 1543 85085 352 [mA 1, mI (s.2), mU] []
def fX0_init_369P (w : Wd) (l : Launch) (G : Cx) (Q : State → Prop) (m : Dt) (v1 : Int) (s : Dt × Int) : Prop := V w l WF G Q s.1 m 1543 85085 369 [mA 1, mI v1, mI (s.2)] []
theorem fX0_init_369f_ok {w : Wd} {l : Launch} {G : Cx} {m dd : Dt} {v1 : Int} {d' : Dt} {s : Dt × Int} {x : ((Dt × Int) ⊕ ((Dt × Int) ⊕ Dt))} (F : Fx w G cX0_init RX0 3 none { frames := 6, cells := 1543, slots := 85085, locals := 134 }) (hX : WF dd m) (hp : PB m 1 0) (h : fX0_init_369f v1 s = some x) (K : (Sum.elim (fX0_init_369P w l G (QM w G WF none d' m 1543 85085) m v1) (Sum.elim (fX0_init_352P w l G (QM w G WF none d' m 1543 85085) m) (fun q => q = d'))) x) : V w l WF G (QM w G WF none d' m 1543 85085) s.1 m 1543 85085 369 [mA 1, mI v1, mI (s.2)] [] := by
  obtain ⟨d, v2⟩ := s
  unfold fX0_init_369f at h
  dsimp only at h
  refine v_iload_n F dX0_init_369 rfl rfl ?_
  refine v_iload_n F dX0_init_370 rfl rfl ?_
  refine v_icmp_gt F dX0_init_371 rfl (fun hq4 => ?_) (fun hq4 => ?_)
  · rw [if_pos hq4] at h
    obtain ⟨z, hu, ez⟩ := up_some h
    clear h
    subst ez
    have h := hu
    clear hu
    obtain ⟨x5, ex5, h⟩ := lv_some h
    refine v_iincN F dX0_init_411 (Nat.le_of_ble_eq_true rfl) rfl ex5 (L' := [mA 1, mI x5, mI v2]) rfl ?_
    refine v_goto F dX0_init_414 rfl ?_
    cases h
    refine v_fgt (L' := [mA 1, mI x5, mU]) ⟨Or.inl rfl, Or.inl rfl, Or.inr rfl, trivial⟩ ?_
    exact K
  · rw [if_neg hq4] at h
    refine v_aload_n F dX0_init_374 rfl rfl ?_
    refine gf_X0_148 F dX0_init_375 hp (v := 567) rfl ?_
    refine v_iload_n F dX0_init_378 rfl rfl ?_
    obtain ⟨hi6, h⟩ := ck_some h
    refine v_aaldF (c := 0) (k := 48) F dX0_init_379 hp (Nat.le_of_ble_eq_true rfl) (Nat.le_of_ble_eq_true rfl) (by decide) (by decide) rfl (ar_X0_48 hX hp) (Nat.le_of_ble_eq_true rfl) rfl rfl rfl rfl hi6 (v := (568 + v1)) (by show 1 + 567 + 1 * v1 = _; omega) ?_
    refine v_iload_n F dX0_init_380 rfl rfl ?_
    refine v_aload_n F dX0_init_381 rfl rfl ?_
    refine gf_X0_148 F dX0_init_382 hp (v := 567) rfl ?_
    refine v_iload_n F dX0_init_385 rfl rfl ?_
    refine v_iconst F dX0_init_386 ⟨by decide, by decide⟩ ?_
    refine v_isub F dX0_init_387 ?_
    obtain ⟨x7, ex7, h⟩ := lv_some h
    refine v_nI ex7 ?_
    obtain ⟨hi8, h⟩ := ck_some h
    refine v_aaldF (c := 0) (k := 48) F dX0_init_388 hp (Nat.le_of_ble_eq_true rfl) (Nat.le_of_ble_eq_true rfl) (by decide) (by decide) rfl (ar_X0_48 hX hp) (Nat.le_of_ble_eq_true rfl) rfl rfl rfl rfl hi8 (v := (568 + x7)) (by show 1 + 567 + 1 * x7 = _; omega) ?_
    refine v_iload_n F dX0_init_389 rfl rfl ?_
    refine v_iconst F dX0_init_390 ⟨by decide, by decide⟩ ?_
    refine v_isub F dX0_init_391 ?_
    obtain ⟨x9, ex9, h⟩ := lv_some h
    refine v_nI ex9 ?_
    obtain ⟨hi10, h⟩ := ck_some h
    refine v_lald F dX0_init_392 (ae_X0_48 (i := x7) hX hp hi8 (v := (568 + x7)) (by omega)) hi10 ?_
    refine v_aload_n F dX0_init_393 rfl rfl ?_
    refine gf_X0_148 F dX0_init_394 hp (v := 567) rfl ?_
    refine v_iload_n F dX0_init_397 rfl rfl ?_
    refine v_iconst F dX0_init_398 ⟨by decide, by decide⟩ ?_
    refine v_isub F dX0_init_399 ?_
    obtain ⟨x11, ex11, h⟩ := lv_some h
    refine v_nI ex11 ?_
    obtain ⟨hi12, h⟩ := ck_some h
    refine v_aaldF (c := 0) (k := 48) F dX0_init_400 hp (Nat.le_of_ble_eq_true rfl) (Nat.le_of_ble_eq_true rfl) (by decide) (by decide) rfl (ar_X0_48 hX hp) (Nat.le_of_ble_eq_true rfl) rfl rfl rfl rfl hi12 (v := (568 + x11)) (by show 1 + 567 + 1 * x11 = _; omega) ?_
    refine v_iload_n F dX0_init_401 rfl rfl ?_
    obtain ⟨hi13, h⟩ := ck_some h
    refine v_lald F dX0_init_402 (ae_X0_48 (i := x11) hX hp hi12 (v := (568 + x11)) (by omega)) hi13 ?_
    refine v_ladd F dX0_init_403 ?_
    obtain ⟨d14, ed14, h⟩ := sd_some h
    refine v_last F dX0_init_404 (ae_X0_48 (i := v1) hX hp hi6 (v := (568 + v1)) (by omega)) hi13 ?_
    refine v_nD ed14 ?_
    obtain ⟨x15, ex15, h⟩ := lv_some h
    refine v_iincN F dX0_init_405 (Nat.le_of_ble_eq_true rfl) rfl ex15 (L' := [mA 1, mI v1, mI x15]) rfl ?_
    refine v_goto F dX0_init_408 rfl ?_
    cases h
    exact K
theorem fX0_init_369_ok {w : Wd} {l : Launch} {G : Cx} {d m dd : Dt} {v1 v2 : Int} {d' : Dt} {x : ((Dt × Int) ⊕ Dt)} (F : Fx w G cX0_init RX0 3 none { frames := 6, cells := 1543, slots := 85085, locals := 134 }) (hX : WF dd m) (hp : PB m 1 0) (h : fX0_init_369 d v1 v2 = some x) (K : (Sum.elim (fX0_init_352P w l G (QM w G WF none d' m 1543 85085) m) (fun q => q = d')) x) : V w l WF G (QM w G WF none d' m 1543 85085) d m 1543 85085 369 [mA 1, mI v1, mI v2] [] := by
  unfold fX0_init_369 at h
  exact loop_ok (P := fX0_init_369P w l G (QM w G WF none d' m 1543 85085) m v1) (fun s x hx h1 h2 => fX0_init_369f_ok F hX hp hx (by
    cases x with
    | inl s' => exact h1 s' rfl
    | inr z => cases h2 z rfl; exact K)) h
theorem fX0_init_352f_ok {w : Wd} {l : Launch} {G : Cx} {m dd : Dt} {d' : Dt} {s : Dt × Int} {x : ((Dt × Int) ⊕ Dt)} (F : Fx w G cX0_init RX0 3 none { frames := 6, cells := 1543, slots := 85085, locals := 134 }) (hX : WF dd m) (hp : PB m 1 0) (h : fX0_init_352f s = some x) (K : (Sum.elim (fX0_init_352P w l G (QM w G WF none d' m 1543 85085) m) (fun q => q = d')) x) : V w l WF G (QM w G WF none d' m 1543 85085) s.1 m 1543 85085 352 [mA 1, mI (s.2), mU] [] := by
  obtain ⟨d, v1⟩ := s
  unfold fX0_init_352f at h
  dsimp only at h
  refine v_iload_n F dX0_init_352 rfl rfl ?_
  refine v_bipush F dX0_init_353 rfl ⟨by decide, by decide⟩ ?_
  refine v_icmp_gt F dX0_init_355 rfl (fun hq1 => ?_) (fun hq1 => ?_)
  · rw [if_pos hq1] at h
    obtain ⟨z, hu, ez⟩ := up_some h
    clear h
    subst ez
    have h := hu
    clear hu
    cases h
    cases (show _ = d' from K)
    exact v_vret F dX0_init_417
  · rw [if_neg hq1] at h
    refine v_aload_n F dX0_init_358 rfl rfl ?_
    refine gf_X0_148 F dX0_init_359 hp (v := 567) rfl ?_
    refine v_iload_n F dX0_init_362 rfl rfl ?_
    obtain ⟨hi2, h⟩ := ck_some h
    refine v_aaldF (c := 0) (k := 48) F dX0_init_363 hp (Nat.le_of_ble_eq_true rfl) (Nat.le_of_ble_eq_true rfl) (by decide) (by decide) rfl (ar_X0_48 hX hp) (Nat.le_of_ble_eq_true rfl) rfl rfl rfl rfl hi2 (v := (568 + v1)) (by show 1 + 567 + 1 * v1 = _; omega) ?_
    refine v_iconst F dX0_init_364 ⟨by decide, by decide⟩ ?_
    refine v_lconst1 F dX0_init_365 ?_
    obtain ⟨d3, ed3, h⟩ := sd_some h
    refine v_last F dX0_init_366 (ae_X0_48 (i := v1) hX hp hi2 (v := (568 + v1)) (by omega)) ⟨by decide, by decide⟩ ?_
    refine v_nD ed3 ?_
    refine v_iconst F dX0_init_367 ⟨by decide, by decide⟩ ?_
    refine v_istore_n F dX0_init_368 rfl (Nat.le_of_ble_eq_true rfl) (L' := [mA 1, mI v1, mI 1]) rfl ?_
    exact fX0_init_369_ok F hX hp h K
theorem fX0_init_352_ok {w : Wd} {l : Launch} {G : Cx} {d m dd : Dt} {v1 : Int} {d' : Dt} {x : Dt} (F : Fx w G cX0_init RX0 3 none { frames := 6, cells := 1543, slots := 85085, locals := 134 }) (hX : WF dd m) (hp : PB m 1 0) (h : fX0_init_352 d v1 = some x) (K : (fun q => q = d') x) : V w l WF G (QM w G WF none d' m 1543 85085) d m 1543 85085 352 [mA 1, mI v1, mU] [] := by
  unfold fX0_init_352 at h
  exact loop_ok (P := fX0_init_352P w l G (QM w G WF none d' m 1543 85085) m) (fun s x hx h1 h2 => fX0_init_352f_ok F hX hp hx (by
    cases x with
    | inl s' => exact h1 s' rfl
    | inr z => cases h2 z rfl; exact K)) h
theorem vm_X0_init {w : Wd} {l : Launch} {d m d' : Dt} (hm : m 0 0 = 1 + 1) (obm : OB m 1 0) (hW : VT w d m → XT d m → WF (wr 1 WSX0_init d) (pubF (al TSX0_init m) 1 1545)) (h : fX0_init_352 (wr 1 WSX0_init d) 0 = some d') : VM2 w l XT WF yX0_init cX0_init 3 none 6 134 1543 85085 d m [mA 1] none d' (pubF (al TSX0_init m) 1 1545) := by
  refine VM2.of (L := [mA 1, mU, mU]) (by decide +kernel) rfl (Nat.le_of_ble_eq_true rfl) fun G F hnm => v_fact fun hv hx _ _ => ?_
  refine v_X (Y := XT) (fun _ _ => trivial) (w0_X0_init F hnm hm obm ?_)
  have hnx : al TSX0_init m 0 0 = 1545 := (al_nxo rfl hm (by decide) (by decide) alX0_init rfl).trans rfl
  refine v_col3 (X' := WF) (col3_pubF (by decide) (by rw [hnx]; decide)) (fun _ _ => hW hv hx) ?_
  refine v_iconst F dX0_init_350 ⟨by decide, by decide⟩ ?_
  refine v_istore_n F dX0_init_351 rfl (Nat.le_of_ble_eq_true rfl) (L' := [mA 1, mI 0, mU]) rfl ?_
  refine v_fact fun _ hX _ _ => ?_
  have hp : PB (pubF (al TSX0_init m) 1 1545) 1 0 := by
    show pubF _ _ _ _ 3 = _
    rw [pubF_3 ⟨by decide, by decide⟩, al_old rfl (by rw [hm]; decide) (by rw [hm]; decide) (by decide)]
    exact obm.2
  exact fX0_init_352_ok F hX hp h rfl
def fX11_init_1498P (w : Wd) (l : Launch) (G : Cx) (Q : State → Prop) (m : Dt) (s : Dt × Int) : Prop := V w l WF G Q s.1 m 120 81688 1498 [mA 1545, mI (s.2), mU] []
def fX11_init_1516P (w : Wd) (l : Launch) (G : Cx) (Q : State → Prop) (m : Dt) (v1 : Int) (s : Dt × Int) : Prop := V w l WF G Q s.1 m 120 81688 1516 [mA 1545, mI v1, mI (s.2)] []
theorem fX11_init_1568_ok {w : Wd} {l : Launch} {G : Cx} {d m dd : Dt} {v1 v2 s1 s2 s3 : Int} {d' : Dt} {x : ((Dt × Int) ⊕ ((Dt × Int) ⊕ Dt))} (F : Fx w G cX11_init RX11 3 none { frames := 1, cells := 120, slots := 81688, locals := 20 }) (hX : WF dd m) (hp : PB m 1545 11) (h : fX11_init_1568 d v1 v2 s1 s2 s3 = some x) (K : (Sum.elim (fX11_init_1516P w l G (QM w G WF none d' m 120 81688) m v1) (Sum.elim (fX11_init_1498P w l G (QM w G WF none d' m 120 81688) m) (fun q => q = d'))) x) : V w l WF G (QM w G WF none d' m 120 81688) d m 120 81688 1568 [mA 1545, mI v1, mI v2] [mL s3, mL s2, mI s1, mA 1653] := by
  unfold fX11_init_1568 at h
  refine v_ladd F dX11_init_1568 ?_
  obtain ⟨hi10, h⟩ := ck_some h
  obtain ⟨d11, ed11, h⟩ := sd_some h
  refine v_last F dX11_init_1569 (ar_X11_151 hX hp) hi10 ?_
  refine v_nD ed11 ?_
  obtain ⟨x12, ex12, h⟩ := lv_some h
  refine v_iincN F dX11_init_1570 (Nat.le_of_ble_eq_true rfl) rfl ex12 (L' := [mA 1545, mI v1, mI x12]) rfl ?_
  refine v_goto F dX11_init_1573 rfl ?_
  cases h
  exact K
theorem fX11_init_1516f_ok {w : Wd} {l : Launch} {G : Cx} {m dd : Dt} {v1 : Int} {d' : Dt} {s : Dt × Int} {x : ((Dt × Int) ⊕ ((Dt × Int) ⊕ Dt))} (F : Fx w G cX11_init RX11 3 none { frames := 1, cells := 120, slots := 81688, locals := 20 }) (hX : WF dd m) (hp : PB m 1545 11) (h : fX11_init_1516f v1 s = some x) (K : (Sum.elim (fX11_init_1516P w l G (QM w G WF none d' m 120 81688) m v1) (Sum.elim (fX11_init_1498P w l G (QM w G WF none d' m 120 81688) m) (fun q => q = d'))) x) : V w l WF G (QM w G WF none d' m 120 81688) s.1 m 120 81688 1516 [mA 1545, mI v1, mI (s.2)] [] := by
  obtain ⟨d, v2⟩ := s
  unfold fX11_init_1516f at h
  dsimp only at h
  refine v_iload_n F dX11_init_1516 rfl rfl ?_
  refine v_iload_n F dX11_init_1517 rfl rfl ?_
  refine v_icmp_gt F dX11_init_1518 rfl (fun hq5 => ?_) (fun hq5 => ?_)
  · rw [if_pos hq5] at h
    obtain ⟨z, hu, ez⟩ := up_some h
    clear h
    subst ez
    have h := hu
    clear hu
    obtain ⟨x6, ex6, h⟩ := lv_some h
    refine v_iincN F dX11_init_1576 (Nat.le_of_ble_eq_true rfl) rfl ex6 (L' := [mA 1545, mI x6, mI v2]) rfl ?_
    refine v_goto F dX11_init_1579 rfl ?_
    cases h
    refine v_fgt (L' := [mA 1545, mI x6, mU]) ⟨Or.inl rfl, Or.inl rfl, Or.inr rfl, trivial⟩ ?_
    exact K
  · rw [if_neg hq5] at h
    refine v_aload_n F dX11_init_1521 rfl rfl ?_
    refine gf_X11_1123 F dX11_init_1522 hp (v := 1653) rfl ?_
    refine v_bipush F dX11_init_1525 rfl ⟨by decide, by decide⟩ ?_
    refine v_iload_n F dX11_init_1527 rfl rfl ?_
    refine v_imul F dX11_init_1528 ?_
    refine v_iload_n F dX11_init_1529 rfl rfl ?_
    refine v_iadd F dX11_init_1530 ?_
    refine v_aload_n F dX11_init_1531 rfl rfl ?_
    refine gf_X11_1123 F dX11_init_1532 hp (v := 1653) rfl ?_
    refine v_bipush F dX11_init_1535 rfl ⟨by decide, by decide⟩ ?_
    refine v_iload_n F dX11_init_1537 rfl rfl ?_
    refine v_iconst F dX11_init_1538 ⟨by decide, by decide⟩ ?_
    refine v_isub F dX11_init_1539 ?_
    refine v_imul F dX11_init_1540 ?_
    refine v_iload_n F dX11_init_1541 rfl rfl ?_
    refine v_iadd F dX11_init_1542 ?_
    refine v_iconst F dX11_init_1543 ⟨by decide, by decide⟩ ?_
    refine v_isub F dX11_init_1544 ?_
    obtain ⟨x7, ex7, h⟩ := lv_some h
    refine v_nI ex7 ?_
    obtain ⟨hi8, h⟩ := ck_some h
    refine v_lald F dX11_init_1545 (ar_X11_151 hX hp) hi8 ?_
    refine v_iload_n F dX11_init_1546 rfl rfl ?_
    refine v_iload_n F dX11_init_1547 rfl rfl ?_
    refine v_icmp_ge F dX11_init_1548 rfl (fun hq9 => ?_) (fun hq9 => ?_)
    · rw [if_pos hq9] at h
      refine v_lconst0 F dX11_init_1567 ?_
      exact fX11_init_1568_ok F hX hp h K
    · rw [if_neg hq9] at h
      refine v_aload_n F dX11_init_1551 rfl rfl ?_
      refine gf_X11_1123 F dX11_init_1552 hp (v := 1653) rfl ?_
      refine v_bipush F dX11_init_1555 rfl ⟨by decide, by decide⟩ ?_
      refine v_iload_n F dX11_init_1557 rfl rfl ?_
      refine v_iconst F dX11_init_1558 ⟨by decide, by decide⟩ ?_
      refine v_isub F dX11_init_1559 ?_
      refine v_imul F dX11_init_1560 ?_
      refine v_iload_n F dX11_init_1561 rfl rfl ?_
      refine v_iadd F dX11_init_1562 ?_
      obtain ⟨x13, ex13, h⟩ := lv_some h
      refine v_nI ex13 ?_
      obtain ⟨hi14, h⟩ := ck_some h
      refine v_lald F dX11_init_1563 (ar_X11_151 hX hp) hi14 ?_
      refine v_goto F dX11_init_1564 rfl ?_
      exact fX11_init_1568_ok F hX hp h K
theorem fX11_init_1516_ok {w : Wd} {l : Launch} {G : Cx} {d m dd : Dt} {v1 v2 : Int} {d' : Dt} {x : ((Dt × Int) ⊕ Dt)} (F : Fx w G cX11_init RX11 3 none { frames := 1, cells := 120, slots := 81688, locals := 20 }) (hX : WF dd m) (hp : PB m 1545 11) (h : fX11_init_1516 d v1 v2 = some x) (K : (Sum.elim (fX11_init_1498P w l G (QM w G WF none d' m 120 81688) m) (fun q => q = d')) x) : V w l WF G (QM w G WF none d' m 120 81688) d m 120 81688 1516 [mA 1545, mI v1, mI v2] [] := by
  unfold fX11_init_1516 at h
  exact loop_ok (P := fX11_init_1516P w l G (QM w G WF none d' m 120 81688) m v1) (fun s x hx h1 h2 => fX11_init_1516f_ok F hX hp hx (by
    cases x with
    | inl s' => exact h1 s' rfl
    | inr z => cases h2 z rfl; exact K)) h
theorem fX11_init_1498f_ok {w : Wd} {l : Launch} {G : Cx} {m dd : Dt} {d' : Dt} {s : Dt × Int} {x : ((Dt × Int) ⊕ Dt)} (F : Fx w G cX11_init RX11 3 none { frames := 1, cells := 120, slots := 81688, locals := 20 }) (hX : WF dd m) (hp : PB m 1545 11) (h : fX11_init_1498f s = some x) (K : (Sum.elim (fX11_init_1498P w l G (QM w G WF none d' m 120 81688) m) (fun q => q = d')) x) : V w l WF G (QM w G WF none d' m 120 81688) s.1 m 120 81688 1498 [mA 1545, mI (s.2), mU] [] := by
  obtain ⟨d, v1⟩ := s
  unfold fX11_init_1498f at h
  dsimp only at h
  refine v_iload_n F dX11_init_1498 rfl rfl ?_
  refine v_bipush F dX11_init_1499 rfl ⟨by decide, by decide⟩ ?_
  refine v_icmp_ge F dX11_init_1501 rfl (fun hq1 => ?_) (fun hq1 => ?_)
  · rw [if_pos hq1] at h
    obtain ⟨z, hu, ez⟩ := up_some h
    clear h
    subst ez
    have h := hu
    clear hu
    cases h
    cases (show _ = d' from K)
    exact v_vret F dX11_init_1582
  · rw [if_neg hq1] at h
    refine v_aload_n F dX11_init_1504 rfl rfl ?_
    refine gf_X11_1123 F dX11_init_1505 hp (v := 1653) rfl ?_
    refine v_bipush F dX11_init_1508 rfl ⟨by decide, by decide⟩ ?_
    refine v_iload_n F dX11_init_1510 rfl rfl ?_
    refine v_imul F dX11_init_1511 ?_
    refine v_lconst1 F dX11_init_1512 ?_
    obtain ⟨x2, ex2, h⟩ := lv_some h
    refine v_n2 ex2 ?_
    obtain ⟨hi3, h⟩ := ck_some h
    obtain ⟨d4, ed4, h⟩ := sd_some h
    refine v_last F dX11_init_1513 (ar_X11_151 hX hp) hi3 ?_
    refine v_nD ed4 ?_
    refine v_iconst F dX11_init_1514 ⟨by decide, by decide⟩ ?_
    refine v_istore_n F dX11_init_1515 rfl (Nat.le_of_ble_eq_true rfl) (L' := [mA 1545, mI v1, mI 1]) rfl ?_
    exact fX11_init_1516_ok F hX hp h K
theorem fX11_init_1498_ok {w : Wd} {l : Launch} {G : Cx} {d m dd : Dt} {v1 : Int} {d' : Dt} {x : Dt} (F : Fx w G cX11_init RX11 3 none { frames := 1, cells := 120, slots := 81688, locals := 20 }) (hX : WF dd m) (hp : PB m 1545 11) (h : fX11_init_1498 d v1 = some x) (K : (fun q => q = d') x) : V w l WF G (QM w G WF none d' m 120 81688) d m 120 81688 1498 [mA 1545, mI v1, mU] [] := by
  unfold fX11_init_1498 at h
  exact loop_ok (P := fX11_init_1498P w l G (QM w G WF none d' m 120 81688) m) (fun s x hx h1 h2 => fX11_init_1498f_ok F hX hp hx (by
    cases x with
    | inl s' => exact h1 s' rfl
    | inr z => cases h2 z rfl; exact K)) h
theorem vm_X11_init {w : Wd} {l : Launch} {d m d' : Dt} (hm : m 0 0 = 1545 + 1) (obm : OB m 1545 11) (hW : VT w d m → WF d m → WF (wr 1545 WSX11_init d) (pubF (al TSX11_init m) 1545 1666)) (h : fX11_init_1498 (wr 1545 WSX11_init d) 0 = some d') : VM2 w l WF WF yX11_init cX11_init 3 none 1 20 120 81688 d m [mA 1545] none d' (pubF (al TSX11_init m) 1545 1666) := by
  refine VM2.of (L := [mA 1545, mU, mU]) (by decide +kernel) rfl (Nat.le_of_ble_eq_true rfl) fun G F hnm => v_fact fun hv hx _ _ => ?_
  refine v_X (Y := XT) (fun _ _ => trivial) (w0_X11_init F hnm hm obm ?_)
  have hnx : al TSX11_init m 0 0 = 1666 := (al_nxo rfl hm (by decide) (by decide) alX11_init rfl).trans rfl
  refine v_col3 (X' := WF) (col3_pubF (by decide) (by rw [hnx]; decide)) (fun _ _ => hW hv hx) ?_
  refine v_iconst F dX11_init_1496 ⟨by decide, by decide⟩ ?_
  refine v_istore_n F dX11_init_1497 rfl (Nat.le_of_ble_eq_true rfl) (L' := [mA 1545, mI 0, mU]) rfl ?_
  refine v_fact fun _ hX _ _ => ?_
  have hp : PB (pubF (al TSX11_init m) 1545 1666) 1545 11 := by
    show pubF _ _ _ _ 3 = _
    rw [pubF_3 ⟨by decide, by decide⟩, al_old rfl (by rw [hm]; decide) (by rw [hm]; decide) (by decide)]
    exact obm.2
  exact fX11_init_1498_ok F hX hp h rfl
