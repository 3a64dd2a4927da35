set_option maxRecDepth 100000
set_option maxHeartbeats 4000000
theorem lc_30 {w : Wd} {l : Launch} {G : Cx} {Q : State → Prop} {d m : Dt} {kc ks : Nat} {n i : Int} {f : Int → Int} {I : Dt → Dt → Prop} (F : Fx w G code R_law 4 ret room_1) (hT : va_T .int (w.2.1 (-1)) n.toNat (fun j => .int (Int32.ofInt (f j))) (fun q => w.1.size ≤ q) G.2.2.2.1 w.1) (hf : ∀ j, in32 (f j)) (hi : 0 ≤ i ∧ i + 6 ≤ n ∧ n ≤ 384) (hp : PB m 1 0) (hq : PB m 1545 11) (r1 : kc + 7 ≤ room_1.cells) (r2 : ks + 82 ≤ room_1.slots)
    (hs : ∃ d1 m1 r, opX 30 d m (f (i + 1)) (f (i + 2)) (f (i + 3)) (f (i + 4)) (f (i + 5)) = some (d1, m1, r) ∧ PB m1 1 0 ∧ PB m1 1545 11 ∧ (VT w d1 m1 → WF d1 m1 → ∃ d2, opM 30 d1 (f (i + 1)) (f (i + 2)) (f (i + 3)) (f (i + 4)) (f (i + 5)) = some (d2, r) ∧ (VT w d2 m1 → WF d2 m1 → I d2 m1)))
    (kk : ∀ d2 m1, PB m1 1 0 → PB m1 1545 11 → I d2 m1 → V w l WF G Q d2 m1 (kc + 7) (ks + 82) 2206 [mA (-1), mA 1, mA 1545, mI i] []) : V w l WF G Q d m kc ks 1310 [mA (-1), mA 1, mA 1545, mI i] [] := by
  obtain ⟨d1, m1, r, h1, hp1, hq1, h2⟩ := hs
  refine v_fact fun hv hX _ _ => ?_
  have hc : fX0_clock d (f (i + 1)) (f (i + 2)) = some (d1, r) ∧ m = m1 := opx_w h1
  obtain ⟨hc, rfl⟩ := hc
  refine v_aload_n F dL_law_1310 rfl rfl ?_
  refine v_aload_n F dL_law_1311 rfl rfl ?_
  refine v_iload_n F dL_law_1312 rfl rfl ?_
  refine v_iconst F dL_law_1313 ⟨by decide, by decide⟩ ?_
  refine v_iadd F dL_law_1314 ?_
  refine v_nI (x := i + 1) (w32_id (by unfold in32; omega)).symm ?_
  refine v_xald (n := n) (f := f) F dL_law_1315 (by decide) hT (by omega) (hf _) ?_
  refine v_aload_n F dL_law_1316 rfl rfl ?_
  refine v_iload_n F dL_law_1317 rfl rfl ?_
  refine v_iconst F dL_law_1318 ⟨by decide, by decide⟩ ?_
  refine v_iadd F dL_law_1319 ?_
  refine v_nI (x := i + 2) (w32_id (by unfold in32; omega)).symm ?_
  refine v_xald (n := n) (f := f) F dL_law_1320 (by decide) hT (by omega) (hf _) ?_
  refine v_callVv (c := 0) F dL_law_1321 cv_L_142 rfl (PB.ob hp hX (Nat.le_of_ble_eq_true rfl)) (Nat.le_of_ble_eq_true rfl) rfl (vm_X0_clock hp hc) rfl ⟨(Nat.le_of_ble_eq_true rfl), (Nat.le_of_ble_eq_true rfl), Nat.le_trans (show _ ≤ kc + 7 by omega) r1, Nat.le_trans (show _ ≤ ks + 82 by omega) r2, (Nat.le_of_ble_eq_true rfl)⟩ ?_
  refine v_fact fun hv1 hX1 _ _ => ?_
  obtain ⟨d2, h3, h4⟩ := h2 hv1 hX1
  have hc2 : fX11_clock d1 (f (i + 1)) (f (i + 2)) = some (d2, r) := h3
  refine v_aload_n F dL_law_1324 rfl rfl ?_
  refine v_aload_n F dL_law_1325 rfl rfl ?_
  refine v_iload_n F dL_law_1326 rfl rfl ?_
  refine v_iconst F dL_law_1327 ⟨by decide, by decide⟩ ?_
  refine v_iadd F dL_law_1328 ?_
  refine v_nI (x := i + 1) (w32_id (by unfold in32; omega)).symm ?_
  refine v_xald (n := n) (f := f) F dL_law_1329 (by decide) hT (by omega) (hf _) ?_
  refine v_aload_n F dL_law_1330 rfl rfl ?_
  refine v_iload_n F dL_law_1331 rfl rfl ?_
  refine v_iconst F dL_law_1332 ⟨by decide, by decide⟩ ?_
  refine v_iadd F dL_law_1333 ?_
  refine v_nI (x := i + 2) (w32_id (by unfold in32; omega)).symm ?_
  refine v_xald (n := n) (f := f) F dL_law_1334 (by decide) hT (by omega) (hf _) ?_
  refine v_callVv (c := 11) F dL_law_1335 cv_L_145 rfl (PB.ob hq1 hX1 (Nat.le_of_ble_eq_true rfl)) (Nat.le_of_ble_eq_true rfl) rfl (vm_X11_clock hq1 hc2) rfl ⟨(Nat.le_of_ble_eq_true rfl), (Nat.le_of_ble_eq_true rfl), Nat.le_trans (show _ ≤ kc + 7 by omega) r1, Nat.le_trans (show _ ≤ ks + 82 by omega) r2, (Nat.le_of_ble_eq_true rfl)⟩ ?_
  refine v_icmp_eq F dL_law_1338 rfl (fun _ => ?_) (fun h => absurd rfl h)
  refine v_fact fun hv2 hX2 _ _ => ?_
  exact v_widen (show _ ≤ kc + 7 by omega) (show _ ≤ ks + 82 by omega) (kk _ _ hp1 hq1 (h4 hv2 hX2))
theorem lc_31 {w : Wd} {l : Launch} {G : Cx} {Q : State → Prop} {d m : Dt} {kc ks : Nat} {n i : Int} {f : Int → Int} {I : Dt → Dt → Prop} (F : Fx w G code R_law 4 ret room_1) (hT : va_T .int (w.2.1 (-1)) n.toNat (fun j => .int (Int32.ofInt (f j))) (fun q => w.1.size ≤ q) G.2.2.2.1 w.1) (hf : ∀ j, in32 (f j)) (hi : 0 ≤ i ∧ i + 6 ≤ n ∧ n ≤ 384) (hp : PB m 1 0) (hq : PB m 1545 11) (r1 : kc + 7 ≤ room_1.cells) (r2 : ks + 82 ≤ room_1.slots)
    (hs : ∃ d1 m1 r, opX 31 d m (f (i + 1)) (f (i + 2)) (f (i + 3)) (f (i + 4)) (f (i + 5)) = some (d1, m1, r) ∧ PB m1 1 0 ∧ PB m1 1545 11 ∧ (VT w d1 m1 → WF d1 m1 → ∃ d2, opM 31 d1 (f (i + 1)) (f (i + 2)) (f (i + 3)) (f (i + 4)) (f (i + 5)) = some (d2, r) ∧ (VT w d2 m1 → WF d2 m1 → I d2 m1)))
    (kk : ∀ d2 m1, PB m1 1 0 → PB m1 1545 11 → I d2 m1 → V w l WF G Q d2 m1 (kc + 7) (ks + 82) 2206 [mA (-1), mA 1, mA 1545, mI i] []) : V w l WF G Q d m kc ks 1343 [mA (-1), mA 1, mA 1545, mI i] [] := by
  obtain ⟨d1, m1, r, h1, hp1, hq1, h2⟩ := hs
  refine v_fact fun hv hX _ _ => ?_
  have hc : fX0_cutLine d (f (i + 1)) = some (d1, r) ∧ m = m1 := opx_w h1
  obtain ⟨hc, rfl⟩ := hc
  refine v_aload_n F dL_law_1343 rfl rfl ?_
  refine v_aload_n F dL_law_1344 rfl rfl ?_
  refine v_iload_n F dL_law_1345 rfl rfl ?_
  refine v_iconst F dL_law_1346 ⟨by decide, by decide⟩ ?_
  refine v_iadd F dL_law_1347 ?_
  refine v_nI (x := i + 1) (w32_id (by unfold in32; omega)).symm ?_
  refine v_xald (n := n) (f := f) F dL_law_1348 (by decide) hT (by omega) (hf _) ?_
  refine v_callVv (c := 0) F dL_law_1349 cv_L_146 rfl (PB.ob hp hX (Nat.le_of_ble_eq_true rfl)) (Nat.le_of_ble_eq_true rfl) rfl (vm_X0_cutLine hp hc) rfl ⟨(Nat.le_of_ble_eq_true rfl), (Nat.le_of_ble_eq_true rfl), Nat.le_trans (show _ ≤ kc + 7 by omega) r1, Nat.le_trans (show _ ≤ ks + 82 by omega) r2, (Nat.le_of_ble_eq_true rfl)⟩ ?_
  refine v_fact fun hv1 hX1 _ _ => ?_
  obtain ⟨d2, h3, h4⟩ := h2 hv1 hX1
  have hc2 : fX11_cutLine d1 (f (i + 1)) = some (d2, r) := h3
  refine v_aload_n F dL_law_1352 rfl rfl ?_
  refine v_aload_n F dL_law_1353 rfl rfl ?_
  refine v_iload_n F dL_law_1354 rfl rfl ?_
  refine v_iconst F dL_law_1355 ⟨by decide, by decide⟩ ?_
  refine v_iadd F dL_law_1356 ?_
  refine v_nI (x := i + 1) (w32_id (by unfold in32; omega)).symm ?_
  refine v_xald (n := n) (f := f) F dL_law_1357 (by decide) hT (by omega) (hf _) ?_
  refine v_callVv (c := 11) F dL_law_1358 cv_L_149 rfl (PB.ob hq1 hX1 (Nat.le_of_ble_eq_true rfl)) (Nat.le_of_ble_eq_true rfl) rfl (vm_X11_cutLine hq1 hc2) rfl ⟨(Nat.le_of_ble_eq_true rfl), (Nat.le_of_ble_eq_true rfl), Nat.le_trans (show _ ≤ kc + 7 by omega) r1, Nat.le_trans (show _ ≤ ks + 82 by omega) r2, (Nat.le_of_ble_eq_true rfl)⟩ ?_
  refine v_icmp_eq F dL_law_1361 rfl (fun _ => ?_) (fun h => absurd rfl h)
  refine v_fact fun hv2 hX2 _ _ => ?_
  exact v_widen (show _ ≤ kc + 7 by omega) (show _ ≤ ks + 82 by omega) (kk _ _ hp1 hq1 (h4 hv2 hX2))
theorem lc_32 {w : Wd} {l : Launch} {G : Cx} {Q : State → Prop} {d m : Dt} {kc ks : Nat} {n i : Int} {f : Int → Int} {I : Dt → Dt → Prop} (F : Fx w G code R_law 4 ret room_1) (hT : va_T .int (w.2.1 (-1)) n.toNat (fun j => .int (Int32.ofInt (f j))) (fun q => w.1.size ≤ q) G.2.2.2.1 w.1) (hf : ∀ j, in32 (f j)) (hi : 0 ≤ i ∧ i + 6 ≤ n ∧ n ≤ 384) (hp : PB m 1 0) (hq : PB m 1545 11) (r1 : kc + 7 ≤ room_1.cells) (r2 : ks + 82 ≤ room_1.slots)
    (hs : ∃ d1 m1 r, opX 32 d m (f (i + 1)) (f (i + 2)) (f (i + 3)) (f (i + 4)) (f (i + 5)) = some (d1, m1, r) ∧ PB m1 1 0 ∧ PB m1 1545 11 ∧ (VT w d1 m1 → WF d1 m1 → ∃ d2, opM 32 d1 (f (i + 1)) (f (i + 2)) (f (i + 3)) (f (i + 4)) (f (i + 5)) = some (d2, r) ∧ (VT w d2 m1 → WF d2 m1 → I d2 m1)))
    (kk : ∀ d2 m1, PB m1 1 0 → PB m1 1545 11 → I d2 m1 → V w l WF G Q d2 m1 (kc + 7) (ks + 82) 2206 [mA (-1), mA 1, mA 1545, mI i] []) : V w l WF G Q d m kc ks 1366 [mA (-1), mA 1, mA 1545, mI i] [] := by
  obtain ⟨d1, m1, r, h1, hp1, hq1, h2⟩ := hs
  refine v_fact fun hv hX _ _ => ?_
  have hc : fX0_mend d (f (i + 1)) = some (d1, r) ∧ m = m1 := opx_w h1
  obtain ⟨hc, rfl⟩ := hc
  refine v_aload_n F dL_law_1366 rfl rfl ?_
  refine v_aload_n F dL_law_1367 rfl rfl ?_
  refine v_iload_n F dL_law_1368 rfl rfl ?_
  refine v_iconst F dL_law_1369 ⟨by decide, by decide⟩ ?_
  refine v_iadd F dL_law_1370 ?_
  refine v_nI (x := i + 1) (w32_id (by unfold in32; omega)).symm ?_
  refine v_xald (n := n) (f := f) F dL_law_1371 (by decide) hT (by omega) (hf _) ?_
  refine v_callVv (c := 0) F dL_law_1372 cv_L_150 rfl (PB.ob hp hX (Nat.le_of_ble_eq_true rfl)) (Nat.le_of_ble_eq_true rfl) rfl (vm_X0_mend hp hc) rfl ⟨(Nat.le_of_ble_eq_true rfl), (Nat.le_of_ble_eq_true rfl), Nat.le_trans (show _ ≤ kc + 7 by omega) r1, Nat.le_trans (show _ ≤ ks + 82 by omega) r2, (Nat.le_of_ble_eq_true rfl)⟩ ?_
  refine v_fact fun hv1 hX1 _ _ => ?_
  obtain ⟨d2, h3, h4⟩ := h2 hv1 hX1
  have hc2 : fX11_mend d1 (f (i + 1)) = some (d2, r) := h3
  refine v_aload_n F dL_law_1375 rfl rfl ?_
  refine v_aload_n F dL_law_1376 rfl rfl ?_
  refine v_iload_n F dL_law_1377 rfl rfl ?_
  refine v_iconst F dL_law_1378 ⟨by decide, by decide⟩ ?_
  refine v_iadd F dL_law_1379 ?_
  refine v_nI (x := i + 1) (w32_id (by unfold in32; omega)).symm ?_
  refine v_xald (n := n) (f := f) F dL_law_1380 (by decide) hT (by omega) (hf _) ?_
  refine v_callVv (c := 11) F dL_law_1381 cv_L_153 rfl (PB.ob hq1 hX1 (Nat.le_of_ble_eq_true rfl)) (Nat.le_of_ble_eq_true rfl) rfl (vm_X11_mend hq1 hc2) rfl ⟨(Nat.le_of_ble_eq_true rfl), (Nat.le_of_ble_eq_true rfl), Nat.le_trans (show _ ≤ kc + 7 by omega) r1, Nat.le_trans (show _ ≤ ks + 82 by omega) r2, (Nat.le_of_ble_eq_true rfl)⟩ ?_
  refine v_icmp_eq F dL_law_1384 rfl (fun _ => ?_) (fun h => absurd rfl h)
  refine v_fact fun hv2 hX2 _ _ => ?_
  exact v_widen (show _ ≤ kc + 7 by omega) (show _ ≤ ks + 82 by omega) (kk _ _ hp1 hq1 (h4 hv2 hX2))
theorem lc_33 {w : Wd} {l : Launch} {G : Cx} {Q : State → Prop} {d m : Dt} {kc ks : Nat} {n i : Int} {f : Int → Int} {I : Dt → Dt → Prop} (F : Fx w G code R_law 4 ret room_1) (hT : va_T .int (w.2.1 (-1)) n.toNat (fun j => .int (Int32.ofInt (f j))) (fun q => w.1.size ≤ q) G.2.2.2.1 w.1) (hf : ∀ j, in32 (f j)) (hi : 0 ≤ i ∧ i + 6 ≤ n ∧ n ≤ 384) (hp : PB m 1 0) (hq : PB m 1545 11) (r1 : kc + 7 ≤ room_1.cells) (r2 : ks + 82 ≤ room_1.slots)
    (hs : ∃ d1 m1 r, opX 33 d m (f (i + 1)) (f (i + 2)) (f (i + 3)) (f (i + 4)) (f (i + 5)) = some (d1, m1, r) ∧ PB m1 1 0 ∧ PB m1 1545 11 ∧ (VT w d1 m1 → WF d1 m1 → ∃ d2, opM 33 d1 (f (i + 1)) (f (i + 2)) (f (i + 3)) (f (i + 4)) (f (i + 5)) = some (d2, r) ∧ (VT w d2 m1 → WF d2 m1 → I d2 m1)))
    (kk : ∀ d2 m1, PB m1 1 0 → PB m1 1545 11 → I d2 m1 → V w l WF G Q d2 m1 (kc + 7) (ks + 82) 2206 [mA (-1), mA 1, mA 1545, mI i] []) : V w l WF G Q d m kc ks 1389 [mA (-1), mA 1, mA 1545, mI i] [] := by
  obtain ⟨d1, m1, r, h1, hp1, hq1, h2⟩ := hs
  refine v_fact fun hv hX _ _ => ?_
  have hc : fX0_checkIn d m (f (i + 1)) (f (i + 2)) = some (d1, m1, r) := h1
  refine v_aload_n F dL_law_1389 rfl rfl ?_
  refine v_aload_n F dL_law_1390 rfl rfl ?_
  refine v_iload_n F dL_law_1391 rfl rfl ?_
  refine v_iconst F dL_law_1392 ⟨by decide, by decide⟩ ?_
  refine v_iadd F dL_law_1393 ?_
  refine v_nI (x := i + 1) (w32_id (by unfold in32; omega)).symm ?_
  refine v_xald (n := n) (f := f) F dL_law_1394 (by decide) hT (by omega) (hf _) ?_
  refine v_aload_n F dL_law_1395 rfl rfl ?_
  refine v_iload_n F dL_law_1396 rfl rfl ?_
  refine v_iconst F dL_law_1397 ⟨by decide, by decide⟩ ?_
  refine v_iadd F dL_law_1398 ?_
  refine v_nI (x := i + 2) (w32_id (by unfold in32; omega)).symm ?_
  refine v_xald (n := n) (f := f) F dL_law_1399 (by decide) hT (by omega) (hf _) ?_
  refine v_callV (c := 0) F dL_law_1400 cv_L_154 rfl (PB.ob hp hX (Nat.le_of_ble_eq_true rfl)) (Nat.le_of_ble_eq_true rfl) rfl (vm_X0_checkIn hp hc) rfl ⟨(Nat.le_of_ble_eq_true rfl), (Nat.le_of_ble_eq_true rfl), Nat.le_trans (show _ ≤ kc + 7 by omega) r1, Nat.le_trans (show _ ≤ ks + 82 by omega) r2, (Nat.le_of_ble_eq_true rfl)⟩ ?_
  refine v_fact fun hv1 hX1 _ _ => ?_
  obtain ⟨d2, h3, h4⟩ := h2 hv1 hX1
  have hc2 : fX11_checkIn d1 (f (i + 1)) (f (i + 2)) = some (d2, r) := h3
  refine v_aload_n F dL_law_1403 rfl rfl ?_
  refine v_aload_n F dL_law_1404 rfl rfl ?_
  refine v_iload_n F dL_law_1405 rfl rfl ?_
  refine v_iconst F dL_law_1406 ⟨by decide, by decide⟩ ?_
  refine v_iadd F dL_law_1407 ?_
  refine v_nI (x := i + 1) (w32_id (by unfold in32; omega)).symm ?_
  refine v_xald (n := n) (f := f) F dL_law_1408 (by decide) hT (by omega) (hf _) ?_
  refine v_aload_n F dL_law_1409 rfl rfl ?_
  refine v_iload_n F dL_law_1410 rfl rfl ?_
  refine v_iconst F dL_law_1411 ⟨by decide, by decide⟩ ?_
  refine v_iadd F dL_law_1412 ?_
  refine v_nI (x := i + 2) (w32_id (by unfold in32; omega)).symm ?_
  refine v_xald (n := n) (f := f) F dL_law_1413 (by decide) hT (by omega) (hf _) ?_
  refine v_callVv (c := 11) F dL_law_1414 cv_L_157 rfl (PB.ob hq1 hX1 (Nat.le_of_ble_eq_true rfl)) (Nat.le_of_ble_eq_true rfl) rfl (vm_X11_checkIn hq1 hc2) rfl ⟨(Nat.le_of_ble_eq_true rfl), (Nat.le_of_ble_eq_true rfl), Nat.le_trans (show _ ≤ kc + 7 by omega) r1, Nat.le_trans (show _ ≤ ks + 82 by omega) r2, (Nat.le_of_ble_eq_true rfl)⟩ ?_
  refine v_icmp_eq F dL_law_1417 rfl (fun _ => ?_) (fun h => absurd rfl h)
  refine v_fact fun hv2 hX2 _ _ => ?_
  exact v_widen (show _ ≤ kc + 7 by omega) (show _ ≤ ks + 82 by omega) (kk _ _ hp1 hq1 (h4 hv2 hX2))
theorem lc_34 {w : Wd} {l : Launch} {G : Cx} {Q : State → Prop} {d m : Dt} {kc ks : Nat} {n i : Int} {f : Int → Int} {I : Dt → Dt → Prop} (F : Fx w G code R_law 4 ret room_1) (hT : va_T .int (w.2.1 (-1)) n.toNat (fun j => .int (Int32.ofInt (f j))) (fun q => w.1.size ≤ q) G.2.2.2.1 w.1) (hf : ∀ j, in32 (f j)) (hi : 0 ≤ i ∧ i + 6 ≤ n ∧ n ≤ 384) (hp : PB m 1 0) (hq : PB m 1545 11) (r1 : kc + 7 ≤ room_1.cells) (r2 : ks + 82 ≤ room_1.slots)
    (hs : ∃ d1 m1 r, opX 34 d m (f (i + 1)) (f (i + 2)) (f (i + 3)) (f (i + 4)) (f (i + 5)) = some (d1, m1, r) ∧ PB m1 1 0 ∧ PB m1 1545 11 ∧ (VT w d1 m1 → WF d1 m1 → ∃ d2, opM 34 d1 (f (i + 1)) (f (i + 2)) (f (i + 3)) (f (i + 4)) (f (i + 5)) = some (d2, r) ∧ (VT w d2 m1 → WF d2 m1 → I d2 m1)))
    (kk : ∀ d2 m1, PB m1 1 0 → PB m1 1545 11 → I d2 m1 → V w l WF G Q d2 m1 (kc + 7) (ks + 82) 2206 [mA (-1), mA 1, mA 1545, mI i] []) : V w l WF G Q d m kc ks 1422 [mA (-1), mA 1, mA 1545, mI i] [] := by
  obtain ⟨d1, m1, r, h1, hp1, hq1, h2⟩ := hs
  refine v_fact fun hv hX _ _ => ?_
  have hc : fX0_spoil d (f (i + 1)) = some (d1, r) ∧ m = m1 := opx_w h1
  obtain ⟨hc, rfl⟩ := hc
  refine v_aload_n F dL_law_1422 rfl rfl ?_
  refine v_aload_n F dL_law_1423 rfl rfl ?_
  refine v_iload_n F dL_law_1424 rfl rfl ?_
  refine v_iconst F dL_law_1425 ⟨by decide, by decide⟩ ?_
  refine v_iadd F dL_law_1426 ?_
  refine v_nI (x := i + 1) (w32_id (by unfold in32; omega)).symm ?_
  refine v_xald (n := n) (f := f) F dL_law_1427 (by decide) hT (by omega) (hf _) ?_
  refine v_callVv (c := 0) F dL_law_1428 cv_L_158 rfl (PB.ob hp hX (Nat.le_of_ble_eq_true rfl)) (Nat.le_of_ble_eq_true rfl) rfl (vm_X0_spoil hp hc) rfl ⟨(Nat.le_of_ble_eq_true rfl), (Nat.le_of_ble_eq_true rfl), Nat.le_trans (show _ ≤ kc + 7 by omega) r1, Nat.le_trans (show _ ≤ ks + 82 by omega) r2, (Nat.le_of_ble_eq_true rfl)⟩ ?_
  refine v_fact fun hv1 hX1 _ _ => ?_
  obtain ⟨d2, h3, h4⟩ := h2 hv1 hX1
  have hc2 : fX11_spoil d1 (f (i + 1)) = some (d2, r) := h3
  refine v_aload_n F dL_law_1431 rfl rfl ?_
  refine v_aload_n F dL_law_1432 rfl rfl ?_
  refine v_iload_n F dL_law_1433 rfl rfl ?_
  refine v_iconst F dL_law_1434 ⟨by decide, by decide⟩ ?_
  refine v_iadd F dL_law_1435 ?_
  refine v_nI (x := i + 1) (w32_id (by unfold in32; omega)).symm ?_
  refine v_xald (n := n) (f := f) F dL_law_1436 (by decide) hT (by omega) (hf _) ?_
  refine v_callVv (c := 11) F dL_law_1437 cv_L_161 rfl (PB.ob hq1 hX1 (Nat.le_of_ble_eq_true rfl)) (Nat.le_of_ble_eq_true rfl) rfl (vm_X11_spoil hq1 hc2) rfl ⟨(Nat.le_of_ble_eq_true rfl), (Nat.le_of_ble_eq_true rfl), Nat.le_trans (show _ ≤ kc + 7 by omega) r1, Nat.le_trans (show _ ≤ ks + 82 by omega) r2, (Nat.le_of_ble_eq_true rfl)⟩ ?_
  refine v_icmp_eq F dL_law_1440 rfl (fun _ => ?_) (fun h => absurd rfl h)
  refine v_fact fun hv2 hX2 _ _ => ?_
  exact v_widen (show _ ≤ kc + 7 by omega) (show _ ≤ ks + 82 by omega) (kk _ _ hp1 hq1 (h4 hv2 hX2))
theorem lc_35 {w : Wd} {l : Launch} {G : Cx} {Q : State → Prop} {d m : Dt} {kc ks : Nat} {n i : Int} {f : Int → Int} {I : Dt → Dt → Prop} (F : Fx w G code R_law 4 ret room_1) (hT : va_T .int (w.2.1 (-1)) n.toNat (fun j => .int (Int32.ofInt (f j))) (fun q => w.1.size ≤ q) G.2.2.2.1 w.1) (hf : ∀ j, in32 (f j)) (hi : 0 ≤ i ∧ i + 6 ≤ n ∧ n ≤ 384) (hp : PB m 1 0) (hq : PB m 1545 11) (r1 : kc + 7 ≤ room_1.cells) (r2 : ks + 82 ≤ room_1.slots)
    (hs : ∃ d1 m1 r, opX 35 d m (f (i + 1)) (f (i + 2)) (f (i + 3)) (f (i + 4)) (f (i + 5)) = some (d1, m1, r) ∧ PB m1 1 0 ∧ PB m1 1545 11 ∧ (VT w d1 m1 → WF d1 m1 → ∃ d2, opM 35 d1 (f (i + 1)) (f (i + 2)) (f (i + 3)) (f (i + 4)) (f (i + 5)) = some (d2, r) ∧ (VT w d2 m1 → WF d2 m1 → I d2 m1)))
    (kk : ∀ d2 m1, PB m1 1 0 → PB m1 1545 11 → I d2 m1 → V w l WF G Q d2 m1 (kc + 7) (ks + 82) 2206 [mA (-1), mA 1, mA 1545, mI i] []) : V w l WF G Q d m kc ks 1445 [mA (-1), mA 1, mA 1545, mI i] [] := by
  obtain ⟨d1, m1, r, h1, hp1, hq1, h2⟩ := hs
  refine v_fact fun hv hX _ _ => ?_
  have hc : fX0_put d (f (i + 1)) = some (d1, r) ∧ m = m1 := opx_w h1
  obtain ⟨hc, rfl⟩ := hc
  refine v_aload_n F dL_law_1445 rfl rfl ?_
  refine v_aload_n F dL_law_1446 rfl rfl ?_
  refine v_iload_n F dL_law_1447 rfl rfl ?_
  refine v_iconst F dL_law_1448 ⟨by decide, by decide⟩ ?_
  refine v_iadd F dL_law_1449 ?_
  refine v_nI (x := i + 1) (w32_id (by unfold in32; omega)).symm ?_
  refine v_xald (n := n) (f := f) F dL_law_1450 (by decide) hT (by omega) (hf _) ?_
  refine v_callVv (c := 0) F dL_law_1451 cv_L_162 rfl (PB.ob hp hX (Nat.le_of_ble_eq_true rfl)) (Nat.le_of_ble_eq_true rfl) rfl (vm_X0_put hp hc) rfl ⟨(Nat.le_of_ble_eq_true rfl), (Nat.le_of_ble_eq_true rfl), Nat.le_trans (show _ ≤ kc + 7 by omega) r1, Nat.le_trans (show _ ≤ ks + 82 by omega) r2, (Nat.le_of_ble_eq_true rfl)⟩ ?_
  refine v_fact fun hv1 hX1 _ _ => ?_
  obtain ⟨d2, h3, h4⟩ := h2 hv1 hX1
  have hc2 : fX11_put d1 (f (i + 1)) = some (d2, r) := h3
  refine v_aload_n F dL_law_1454 rfl rfl ?_
  refine v_aload_n F dL_law_1455 rfl rfl ?_
  refine v_iload_n F dL_law_1456 rfl rfl ?_
  refine v_iconst F dL_law_1457 ⟨by decide, by decide⟩ ?_
  refine v_iadd F dL_law_1458 ?_
  refine v_nI (x := i + 1) (w32_id (by unfold in32; omega)).symm ?_
  refine v_xald (n := n) (f := f) F dL_law_1459 (by decide) hT (by omega) (hf _) ?_
  refine v_callVv (c := 11) F dL_law_1460 cv_L_165 rfl (PB.ob hq1 hX1 (Nat.le_of_ble_eq_true rfl)) (Nat.le_of_ble_eq_true rfl) rfl (vm_X11_put hq1 hc2) rfl ⟨(Nat.le_of_ble_eq_true rfl), (Nat.le_of_ble_eq_true rfl), Nat.le_trans (show _ ≤ kc + 7 by omega) r1, Nat.le_trans (show _ ≤ ks + 82 by omega) r2, (Nat.le_of_ble_eq_true rfl)⟩ ?_
  refine v_icmp_eq F dL_law_1463 rfl (fun _ => ?_) (fun h => absurd rfl h)
  refine v_fact fun hv2 hX2 _ _ => ?_
  exact v_widen (show _ ≤ kc + 7 by omega) (show _ ≤ ks + 82 by omega) (kk _ _ hp1 hq1 (h4 hv2 hX2))
theorem lc_36 {w : Wd} {l : Launch} {G : Cx} {Q : State → Prop} {d m : Dt} {kc ks : Nat} {n i : Int} {f : Int → Int} {I : Dt → Dt → Prop} (F : Fx w G code R_law 4 ret room_1) (hT : va_T .int (w.2.1 (-1)) n.toNat (fun j => .int (Int32.ofInt (f j))) (fun q => w.1.size ≤ q) G.2.2.2.1 w.1) (hf : ∀ j, in32 (f j)) (hi : 0 ≤ i ∧ i + 6 ≤ n ∧ n ≤ 384) (hp : PB m 1 0) (hq : PB m 1545 11) (r1 : kc + 7 ≤ room_1.cells) (r2 : ks + 82 ≤ room_1.slots)
    (hs : ∃ d1 m1 r, opX 36 d m (f (i + 1)) (f (i + 2)) (f (i + 3)) (f (i + 4)) (f (i + 5)) = some (d1, m1, r) ∧ PB m1 1 0 ∧ PB m1 1545 11 ∧ (VT w d1 m1 → WF d1 m1 → ∃ d2, opM 36 d1 (f (i + 1)) (f (i + 2)) (f (i + 3)) (f (i + 4)) (f (i + 5)) = some (d2, r) ∧ (VT w d2 m1 → WF d2 m1 → I d2 m1)))
    (kk : ∀ d2 m1, PB m1 1 0 → PB m1 1545 11 → I d2 m1 → V w l WF G Q d2 m1 (kc + 7) (ks + 82) 2206 [mA (-1), mA 1, mA 1545, mI i] []) : V w l WF G Q d m kc ks 1468 [mA (-1), mA 1, mA 1545, mI i] [] := by
  obtain ⟨d1, m1, r, h1, hp1, hq1, h2⟩ := hs
  refine v_fact fun hv hX _ _ => ?_
  have hc : fX0_ask d m (f (i + 1)) = some (d1, m1, r) := h1
  refine v_aload_n F dL_law_1468 rfl rfl ?_
  refine v_aload_n F dL_law_1469 rfl rfl ?_
  refine v_iload_n F dL_law_1470 rfl rfl ?_
  refine v_iconst F dL_law_1471 ⟨by decide, by decide⟩ ?_
  refine v_iadd F dL_law_1472 ?_
  refine v_nI (x := i + 1) (w32_id (by unfold in32; omega)).symm ?_
  refine v_xald (n := n) (f := f) F dL_law_1473 (by decide) hT (by omega) (hf _) ?_
  refine v_callV (c := 0) F dL_law_1474 cv_L_166 rfl (PB.ob hp hX (Nat.le_of_ble_eq_true rfl)) (Nat.le_of_ble_eq_true rfl) rfl (vm_X0_ask hp hc) rfl ⟨(Nat.le_of_ble_eq_true rfl), (Nat.le_of_ble_eq_true rfl), Nat.le_trans (show _ ≤ kc + 7 by omega) r1, Nat.le_trans (show _ ≤ ks + 82 by omega) r2, (Nat.le_of_ble_eq_true rfl)⟩ ?_
  refine v_fact fun hv1 hX1 _ _ => ?_
  obtain ⟨d2, h3, h4⟩ := h2 hv1 hX1
  have hc2 : fX11_ask d1 (f (i + 1)) = some (d2, r) := h3
  refine v_aload_n F dL_law_1477 rfl rfl ?_
  refine v_aload_n F dL_law_1478 rfl rfl ?_
  refine v_iload_n F dL_law_1479 rfl rfl ?_
  refine v_iconst F dL_law_1480 ⟨by decide, by decide⟩ ?_
  refine v_iadd F dL_law_1481 ?_
  refine v_nI (x := i + 1) (w32_id (by unfold in32; omega)).symm ?_
  refine v_xald (n := n) (f := f) F dL_law_1482 (by decide) hT (by omega) (hf _) ?_
  refine v_callVv (c := 11) F dL_law_1483 cv_L_169 rfl (PB.ob hq1 hX1 (Nat.le_of_ble_eq_true rfl)) (Nat.le_of_ble_eq_true rfl) rfl (vm_X11_ask hq1 hc2) rfl ⟨(Nat.le_of_ble_eq_true rfl), (Nat.le_of_ble_eq_true rfl), Nat.le_trans (show _ ≤ kc + 7 by omega) r1, Nat.le_trans (show _ ≤ ks + 82 by omega) r2, (Nat.le_of_ble_eq_true rfl)⟩ ?_
  refine v_icmp_eq F dL_law_1486 rfl (fun _ => ?_) (fun h => absurd rfl h)
  refine v_fact fun hv2 hX2 _ _ => ?_
  exact v_widen (show _ ≤ kc + 7 by omega) (show _ ≤ ks + 82 by omega) (kk _ _ hp1 hq1 (h4 hv2 hX2))
theorem lc_37 {w : Wd} {l : Launch} {G : Cx} {Q : State → Prop} {d m : Dt} {kc ks : Nat} {n i : Int} {f : Int → Int} {I : Dt → Dt → Prop} (F : Fx w G code R_law 4 ret room_1) (hT : va_T .int (w.2.1 (-1)) n.toNat (fun j => .int (Int32.ofInt (f j))) (fun q => w.1.size ≤ q) G.2.2.2.1 w.1) (hf : ∀ j, in32 (f j)) (hi : 0 ≤ i ∧ i + 6 ≤ n ∧ n ≤ 384) (hp : PB m 1 0) (hq : PB m 1545 11) (r1 : kc + 7 ≤ room_1.cells) (r2 : ks + 82 ≤ room_1.slots)
    (hs : ∃ d1 m1 r, opX 37 d m (f (i + 1)) (f (i + 2)) (f (i + 3)) (f (i + 4)) (f (i + 5)) = some (d1, m1, r) ∧ PB m1 1 0 ∧ PB m1 1545 11 ∧ (VT w d1 m1 → WF d1 m1 → ∃ d2, opM 37 d1 (f (i + 1)) (f (i + 2)) (f (i + 3)) (f (i + 4)) (f (i + 5)) = some (d2, r) ∧ (VT w d2 m1 → WF d2 m1 → I d2 m1)))
    (kk : ∀ d2 m1, PB m1 1 0 → PB m1 1545 11 → I d2 m1 → V w l WF G Q d2 m1 (kc + 7) (ks + 82) 2206 [mA (-1), mA 1, mA 1545, mI i] []) : V w l WF G Q d m kc ks 1491 [mA (-1), mA 1, mA 1545, mI i] [] := by
  obtain ⟨d1, m1, r, h1, hp1, hq1, h2⟩ := hs
  refine v_fact fun hv hX _ _ => ?_
  have hc : fX0_arrive d (f (i + 1)) (f (i + 2)) = some (d1, r) ∧ m = m1 := opx_w h1
  obtain ⟨hc, rfl⟩ := hc
  refine v_aload_n F dL_law_1491 rfl rfl ?_
  refine v_aload_n F dL_law_1492 rfl rfl ?_
  refine v_iload_n F dL_law_1493 rfl rfl ?_
  refine v_iconst F dL_law_1494 ⟨by decide, by decide⟩ ?_
  refine v_iadd F dL_law_1495 ?_
  refine v_nI (x := i + 1) (w32_id (by unfold in32; omega)).symm ?_
  refine v_xald (n := n) (f := f) F dL_law_1496 (by decide) hT (by omega) (hf _) ?_
  refine v_aload_n F dL_law_1497 rfl rfl ?_
  refine v_iload_n F dL_law_1498 rfl rfl ?_
  refine v_iconst F dL_law_1499 ⟨by decide, by decide⟩ ?_
  refine v_iadd F dL_law_1500 ?_
  refine v_nI (x := i + 2) (w32_id (by unfold in32; omega)).symm ?_
  refine v_xald (n := n) (f := f) F dL_law_1501 (by decide) hT (by omega) (hf _) ?_
  refine v_callVv (c := 0) F dL_law_1502 cv_L_170 rfl (PB.ob hp hX (Nat.le_of_ble_eq_true rfl)) (Nat.le_of_ble_eq_true rfl) rfl (vm_X0_arrive hp hc) rfl ⟨(Nat.le_of_ble_eq_true rfl), (Nat.le_of_ble_eq_true rfl), Nat.le_trans (show _ ≤ kc + 7 by omega) r1, Nat.le_trans (show _ ≤ ks + 82 by omega) r2, (Nat.le_of_ble_eq_true rfl)⟩ ?_
  refine v_fact fun hv1 hX1 _ _ => ?_
  obtain ⟨d2, h3, h4⟩ := h2 hv1 hX1
  have hc2 : fX11_arrive d1 (f (i + 1)) (f (i + 2)) = some (d2, r) := h3
  refine v_aload_n F dL_law_1505 rfl rfl ?_
  refine v_aload_n F dL_law_1506 rfl rfl ?_
  refine v_iload_n F dL_law_1507 rfl rfl ?_
  refine v_iconst F dL_law_1508 ⟨by decide, by decide⟩ ?_
  refine v_iadd F dL_law_1509 ?_
  refine v_nI (x := i + 1) (w32_id (by unfold in32; omega)).symm ?_
  refine v_xald (n := n) (f := f) F dL_law_1510 (by decide) hT (by omega) (hf _) ?_
  refine v_aload_n F dL_law_1511 rfl rfl ?_
  refine v_iload_n F dL_law_1512 rfl rfl ?_
  refine v_iconst F dL_law_1513 ⟨by decide, by decide⟩ ?_
  refine v_iadd F dL_law_1514 ?_
  refine v_nI (x := i + 2) (w32_id (by unfold in32; omega)).symm ?_
  refine v_xald (n := n) (f := f) F dL_law_1515 (by decide) hT (by omega) (hf _) ?_
  refine v_callVv (c := 11) F dL_law_1516 cv_L_173 rfl (PB.ob hq1 hX1 (Nat.le_of_ble_eq_true rfl)) (Nat.le_of_ble_eq_true rfl) rfl (vm_X11_arrive hq1 hc2) rfl ⟨(Nat.le_of_ble_eq_true rfl), (Nat.le_of_ble_eq_true rfl), Nat.le_trans (show _ ≤ kc + 7 by omega) r1, Nat.le_trans (show _ ≤ ks + 82 by omega) r2, (Nat.le_of_ble_eq_true rfl)⟩ ?_
  refine v_icmp_eq F dL_law_1519 rfl (fun _ => ?_) (fun h => absurd rfl h)
  refine v_fact fun hv2 hX2 _ _ => ?_
  exact v_widen (show _ ≤ kc + 7 by omega) (show _ ≤ ks + 82 by omega) (kk _ _ hp1 hq1 (h4 hv2 hX2))
theorem lc_38 {w : Wd} {l : Launch} {G : Cx} {Q : State → Prop} {d m : Dt} {kc ks : Nat} {n i : Int} {f : Int → Int} {I : Dt → Dt → Prop} (F : Fx w G code R_law 4 ret room_1) (hT : va_T .int (w.2.1 (-1)) n.toNat (fun j => .int (Int32.ofInt (f j))) (fun q => w.1.size ≤ q) G.2.2.2.1 w.1) (hf : ∀ j, in32 (f j)) (hi : 0 ≤ i ∧ i + 6 ≤ n ∧ n ≤ 384) (hp : PB m 1 0) (hq : PB m 1545 11) (r1 : kc + 7 ≤ room_1.cells) (r2 : ks + 82 ≤ room_1.slots)
    (hs : ∃ d1 m1 r, opX 38 d m (f (i + 1)) (f (i + 2)) (f (i + 3)) (f (i + 4)) (f (i + 5)) = some (d1, m1, r) ∧ PB m1 1 0 ∧ PB m1 1545 11 ∧ (VT w d1 m1 → WF d1 m1 → ∃ d2, opM 38 d1 (f (i + 1)) (f (i + 2)) (f (i + 3)) (f (i + 4)) (f (i + 5)) = some (d2, r) ∧ (VT w d2 m1 → WF d2 m1 → I d2 m1)))
    (kk : ∀ d2 m1, PB m1 1 0 → PB m1 1545 11 → I d2 m1 → V w l WF G Q d2 m1 (kc + 7) (ks + 82) 2206 [mA (-1), mA 1, mA 1545, mI i] []) : V w l WF G Q d m kc ks 1524 [mA (-1), mA 1, mA 1545, mI i] [] := by
  obtain ⟨d1, m1, r, h1, hp1, hq1, h2⟩ := hs
  refine v_fact fun hv hX _ _ => ?_
  have hc : fX0_open d = some (d1, r) ∧ m = m1 := opx_w h1
  obtain ⟨hc, rfl⟩ := hc
  refine v_aload_n F dL_law_1524 rfl rfl ?_
  refine v_callVv (c := 0) F dL_law_1525 cv_L_174 rfl (PB.ob hp hX (Nat.le_of_ble_eq_true rfl)) (Nat.le_of_ble_eq_true rfl) rfl (vm_X0_open hp hc) rfl ⟨(Nat.le_of_ble_eq_true rfl), (Nat.le_of_ble_eq_true rfl), Nat.le_trans (show _ ≤ kc + 7 by omega) r1, Nat.le_trans (show _ ≤ ks + 82 by omega) r2, (Nat.le_of_ble_eq_true rfl)⟩ ?_
  refine v_fact fun hv1 hX1 _ _ => ?_
  obtain ⟨d2, h3, h4⟩ := h2 hv1 hX1
  have hc2 : fX11_open d1 = some (d2, r) := h3
  refine v_aload_n F dL_law_1528 rfl rfl ?_
  refine v_callVv (c := 11) F dL_law_1529 cv_L_177 rfl (PB.ob hq1 hX1 (Nat.le_of_ble_eq_true rfl)) (Nat.le_of_ble_eq_true rfl) rfl (vm_X11_open hq1 hc2) rfl ⟨(Nat.le_of_ble_eq_true rfl), (Nat.le_of_ble_eq_true rfl), Nat.le_trans (show _ ≤ kc + 7 by omega) r1, Nat.le_trans (show _ ≤ ks + 82 by omega) r2, (Nat.le_of_ble_eq_true rfl)⟩ ?_
  refine v_icmp_eq F dL_law_1532 rfl (fun _ => ?_) (fun h => absurd rfl h)
  refine v_fact fun hv2 hX2 _ _ => ?_
  exact v_widen (show _ ≤ kc + 7 by omega) (show _ ≤ ks + 82 by omega) (kk _ _ hp1 hq1 (h4 hv2 hX2))
theorem lc_39 {w : Wd} {l : Launch} {G : Cx} {Q : State → Prop} {d m : Dt} {kc ks : Nat} {n i : Int} {f : Int → Int} {I : Dt → Dt → Prop} (F : Fx w G code R_law 4 ret room_1) (hT : va_T .int (w.2.1 (-1)) n.toNat (fun j => .int (Int32.ofInt (f j))) (fun q => w.1.size ≤ q) G.2.2.2.1 w.1) (hf : ∀ j, in32 (f j)) (hi : 0 ≤ i ∧ i + 6 ≤ n ∧ n ≤ 384) (hp : PB m 1 0) (hq : PB m 1545 11) (r1 : kc + 7 ≤ room_1.cells) (r2 : ks + 82 ≤ room_1.slots)
    (hs : ∃ d1 m1 r, opX 39 d m (f (i + 1)) (f (i + 2)) (f (i + 3)) (f (i + 4)) (f (i + 5)) = some (d1, m1, r) ∧ PB m1 1 0 ∧ PB m1 1545 11 ∧ (VT w d1 m1 → WF d1 m1 → ∃ d2, opM 39 d1 (f (i + 1)) (f (i + 2)) (f (i + 3)) (f (i + 4)) (f (i + 5)) = some (d2, r) ∧ (VT w d2 m1 → WF d2 m1 → I d2 m1)))
    (kk : ∀ d2 m1, PB m1 1 0 → PB m1 1545 11 → I d2 m1 → V w l WF G Q d2 m1 (kc + 7) (ks + 82) 2206 [mA (-1), mA 1, mA 1545, mI i] []) : V w l WF G Q d m kc ks 1537 [mA (-1), mA 1, mA 1545, mI i] [] := by
  obtain ⟨d1, m1, r, h1, hp1, hq1, h2⟩ := hs
  refine v_fact fun hv hX _ _ => ?_
  have hc : fX0_close d (f (i + 1)) = some (d1, r) ∧ m = m1 := opx_w h1
  obtain ⟨hc, rfl⟩ := hc
  refine v_aload_n F dL_law_1537 rfl rfl ?_
  refine v_aload_n F dL_law_1538 rfl rfl ?_
  refine v_iload_n F dL_law_1539 rfl rfl ?_
  refine v_iconst F dL_law_1540 ⟨by decide, by decide⟩ ?_
  refine v_iadd F dL_law_1541 ?_
  refine v_nI (x := i + 1) (w32_id (by unfold in32; omega)).symm ?_
  refine v_xald (n := n) (f := f) F dL_law_1542 (by decide) hT (by omega) (hf _) ?_
  refine v_callVv (c := 0) F dL_law_1543 cv_L_178 rfl (PB.ob hp hX (Nat.le_of_ble_eq_true rfl)) (Nat.le_of_ble_eq_true rfl) rfl (vm_X0_close hp hc) rfl ⟨(Nat.le_of_ble_eq_true rfl), (Nat.le_of_ble_eq_true rfl), Nat.le_trans (show _ ≤ kc + 7 by omega) r1, Nat.le_trans (show _ ≤ ks + 82 by omega) r2, (Nat.le_of_ble_eq_true rfl)⟩ ?_
  refine v_fact fun hv1 hX1 _ _ => ?_
  obtain ⟨d2, h3, h4⟩ := h2 hv1 hX1
  have hc2 : fX11_close d1 (f (i + 1)) = some (d2, r) := h3
  refine v_aload_n F dL_law_1546 rfl rfl ?_
  refine v_aload_n F dL_law_1547 rfl rfl ?_
  refine v_iload_n F dL_law_1548 rfl rfl ?_
  refine v_iconst F dL_law_1549 ⟨by decide, by decide⟩ ?_
  refine v_iadd F dL_law_1550 ?_
  refine v_nI (x := i + 1) (w32_id (by unfold in32; omega)).symm ?_
  refine v_xald (n := n) (f := f) F dL_law_1551 (by decide) hT (by omega) (hf _) ?_
  refine v_callVv (c := 11) F dL_law_1552 cv_L_181 rfl (PB.ob hq1 hX1 (Nat.le_of_ble_eq_true rfl)) (Nat.le_of_ble_eq_true rfl) rfl (vm_X11_close hq1 hc2) rfl ⟨(Nat.le_of_ble_eq_true rfl), (Nat.le_of_ble_eq_true rfl), Nat.le_trans (show _ ≤ kc + 7 by omega) r1, Nat.le_trans (show _ ≤ ks + 82 by omega) r2, (Nat.le_of_ble_eq_true rfl)⟩ ?_
  refine v_icmp_eq F dL_law_1555 rfl (fun _ => ?_) (fun h => absurd rfl h)
  refine v_fact fun hv2 hX2 _ _ => ?_
  exact v_widen (show _ ≤ kc + 7 by omega) (show _ ≤ ks + 82 by omega) (kk _ _ hp1 hq1 (h4 hv2 hX2))
theorem lc_40 {w : Wd} {l : Launch} {G : Cx} {Q : State → Prop} {d m : Dt} {kc ks : Nat} {n i : Int} {f : Int → Int} {I : Dt → Dt → Prop} (F : Fx w G code R_law 4 ret room_1) (hT : va_T .int (w.2.1 (-1)) n.toNat (fun j => .int (Int32.ofInt (f j))) (fun q => w.1.size ≤ q) G.2.2.2.1 w.1) (hf : ∀ j, in32 (f j)) (hi : 0 ≤ i ∧ i + 6 ≤ n ∧ n ≤ 384) (hp : PB m 1 0) (hq : PB m 1545 11) (r1 : kc + 7 ≤ room_1.cells) (r2 : ks + 82 ≤ room_1.slots)
    (hs : ∃ d1 m1 r, opX 40 d m (f (i + 1)) (f (i + 2)) (f (i + 3)) (f (i + 4)) (f (i + 5)) = some (d1, m1, r) ∧ PB m1 1 0 ∧ PB m1 1545 11 ∧ (VT w d1 m1 → WF d1 m1 → ∃ d2, opM 40 d1 (f (i + 1)) (f (i + 2)) (f (i + 3)) (f (i + 4)) (f (i + 5)) = some (d2, r) ∧ (VT w d2 m1 → WF d2 m1 → I d2 m1)))
    (kk : ∀ d2 m1, PB m1 1 0 → PB m1 1545 11 → I d2 m1 → V w l WF G Q d2 m1 (kc + 7) (ks + 82) 2206 [mA (-1), mA 1, mA 1545, mI i] []) : V w l WF G Q d m kc ks 1560 [mA (-1), mA 1, mA 1545, mI i] [] := by
  obtain ⟨d1, m1, r, h1, hp1, hq1, h2⟩ := hs
  refine v_fact fun hv hX _ _ => ?_
  have hc : fX0_issue d (f (i + 1)) (f (i + 2)) = some r ∧ d = d1 ∧ m = m1 := opx_r h1
  obtain ⟨hc, rfl, rfl⟩ := hc
  refine v_aload_n F dL_law_1560 rfl rfl ?_
  refine v_aload_n F dL_law_1561 rfl rfl ?_
  refine v_iload_n F dL_law_1562 rfl rfl ?_
  refine v_iconst F dL_law_1563 ⟨by decide, by decide⟩ ?_
  refine v_iadd F dL_law_1564 ?_
  refine v_nI (x := i + 1) (w32_id (by unfold in32; omega)).symm ?_
  refine v_xald (n := n) (f := f) F dL_law_1565 (by decide) hT (by omega) (hf _) ?_
  refine v_aload_n F dL_law_1566 rfl rfl ?_
  refine v_iload_n F dL_law_1567 rfl rfl ?_
  refine v_iconst F dL_law_1568 ⟨by decide, by decide⟩ ?_
  refine v_iadd F dL_law_1569 ?_
  refine v_nI (x := i + 2) (w32_id (by unfold in32; omega)).symm ?_
  refine v_xald (n := n) (f := f) F dL_law_1570 (by decide) hT (by omega) (hf _) ?_
  refine v_callVv (c := 0) F dL_law_1571 cv_L_182 rfl (PB.ob hp hX (Nat.le_of_ble_eq_true rfl)) (Nat.le_of_ble_eq_true rfl) rfl (vm_X0_issue hp hc) rfl ⟨(Nat.le_of_ble_eq_true rfl), (Nat.le_of_ble_eq_true rfl), Nat.le_trans (show _ ≤ kc + 7 by omega) r1, Nat.le_trans (show _ ≤ ks + 82 by omega) r2, (Nat.le_of_ble_eq_true rfl)⟩ ?_
  refine v_fact fun hv1 hX1 _ _ => ?_
  obtain ⟨d2, h3, h4⟩ := h2 hv1 hX1
  have hc2 : fX11_issue d (f (i + 1)) (f (i + 2)) = some r ∧ d = d2 := opm_r h3
  obtain ⟨hc2, rfl⟩ := hc2
  refine v_aload_n F dL_law_1574 rfl rfl ?_
  refine v_aload_n F dL_law_1575 rfl rfl ?_
  refine v_iload_n F dL_law_1576 rfl rfl ?_
  refine v_iconst F dL_law_1577 ⟨by decide, by decide⟩ ?_
  refine v_iadd F dL_law_1578 ?_
  refine v_nI (x := i + 1) (w32_id (by unfold in32; omega)).symm ?_
  refine v_xald (n := n) (f := f) F dL_law_1579 (by decide) hT (by omega) (hf _) ?_
  refine v_aload_n F dL_law_1580 rfl rfl ?_
  refine v_iload_n F dL_law_1581 rfl rfl ?_
  refine v_iconst F dL_law_1582 ⟨by decide, by decide⟩ ?_
  refine v_iadd F dL_law_1583 ?_
  refine v_nI (x := i + 2) (w32_id (by unfold in32; omega)).symm ?_
  refine v_xald (n := n) (f := f) F dL_law_1584 (by decide) hT (by omega) (hf _) ?_
  refine v_callVv (c := 11) F dL_law_1585 cv_L_185 rfl (PB.ob hq1 hX1 (Nat.le_of_ble_eq_true rfl)) (Nat.le_of_ble_eq_true rfl) rfl (vm_X11_issue hq1 hc2) rfl ⟨(Nat.le_of_ble_eq_true rfl), (Nat.le_of_ble_eq_true rfl), Nat.le_trans (show _ ≤ kc + 7 by omega) r1, Nat.le_trans (show _ ≤ ks + 82 by omega) r2, (Nat.le_of_ble_eq_true rfl)⟩ ?_
  refine v_icmp_eq F dL_law_1588 rfl (fun _ => ?_) (fun h => absurd rfl h)
  refine v_fact fun hv2 hX2 _ _ => ?_
  exact v_widen (show _ ≤ kc + 7 by omega) (show _ ≤ ks + 82 by omega) (kk _ _ hp1 hq1 (h4 hv2 hX2))
theorem lc_41 {w : Wd} {l : Launch} {G : Cx} {Q : State → Prop} {d m : Dt} {kc ks : Nat} {n i : Int} {f : Int → Int} {I : Dt → Dt → Prop} (F : Fx w G code R_law 4 ret room_1) (hT : va_T .int (w.2.1 (-1)) n.toNat (fun j => .int (Int32.ofInt (f j))) (fun q => w.1.size ≤ q) G.2.2.2.1 w.1) (hf : ∀ j, in32 (f j)) (hi : 0 ≤ i ∧ i + 6 ≤ n ∧ n ≤ 384) (hp : PB m 1 0) (hq : PB m 1545 11) (r1 : kc + 7 ≤ room_1.cells) (r2 : ks + 82 ≤ room_1.slots)
    (hs : ∃ d1 m1 r, opX 41 d m (f (i + 1)) (f (i + 2)) (f (i + 3)) (f (i + 4)) (f (i + 5)) = some (d1, m1, r) ∧ PB m1 1 0 ∧ PB m1 1545 11 ∧ (VT w d1 m1 → WF d1 m1 → ∃ d2, opM 41 d1 (f (i + 1)) (f (i + 2)) (f (i + 3)) (f (i + 4)) (f (i + 5)) = some (d2, r) ∧ (VT w d2 m1 → WF d2 m1 → I d2 m1)))
    (kk : ∀ d2 m1, PB m1 1 0 → PB m1 1545 11 → I d2 m1 → V w l WF G Q d2 m1 (kc + 7) (ks + 82) 2206 [mA (-1), mA 1, mA 1545, mI i] []) : V w l WF G Q d m kc ks 1593 [mA (-1), mA 1, mA 1545, mI i] [] := by
  obtain ⟨d1, m1, r, h1, hp1, hq1, h2⟩ := hs
  refine v_fact fun hv hX _ _ => ?_
  have hc : fX0_knows d (f (i + 1)) (f (i + 2)) = some r ∧ d = d1 ∧ m = m1 := opx_r h1
  obtain ⟨hc, rfl, rfl⟩ := hc
  refine v_aload_n F dL_law_1593 rfl rfl ?_
  refine v_aload_n F dL_law_1594 rfl rfl ?_
  refine v_iload_n F dL_law_1595 rfl rfl ?_
  refine v_iconst F dL_law_1596 ⟨by decide, by decide⟩ ?_
  refine v_iadd F dL_law_1597 ?_
  refine v_nI (x := i + 1) (w32_id (by unfold in32; omega)).symm ?_
  refine v_xald (n := n) (f := f) F dL_law_1598 (by decide) hT (by omega) (hf _) ?_
  refine v_aload_n F dL_law_1599 rfl rfl ?_
  refine v_iload_n F dL_law_1600 rfl rfl ?_
  refine v_iconst F dL_law_1601 ⟨by decide, by decide⟩ ?_
  refine v_iadd F dL_law_1602 ?_
  refine v_nI (x := i + 2) (w32_id (by unfold in32; omega)).symm ?_
  refine v_xald (n := n) (f := f) F dL_law_1603 (by decide) hT (by omega) (hf _) ?_
  refine v_callVv (c := 0) F dL_law_1604 cv_L_186 rfl (PB.ob hp hX (Nat.le_of_ble_eq_true rfl)) (Nat.le_of_ble_eq_true rfl) rfl (vm_X0_knows hp hc) rfl ⟨(Nat.le_of_ble_eq_true rfl), (Nat.le_of_ble_eq_true rfl), Nat.le_trans (show _ ≤ kc + 7 by omega) r1, Nat.le_trans (show _ ≤ ks + 82 by omega) r2, (Nat.le_of_ble_eq_true rfl)⟩ ?_
  refine v_fact fun hv1 hX1 _ _ => ?_
  obtain ⟨d2, h3, h4⟩ := h2 hv1 hX1
  have hc2 : fX11_knows d (f (i + 1)) (f (i + 2)) = some r ∧ d = d2 := opm_r h3
  obtain ⟨hc2, rfl⟩ := hc2
  refine v_aload_n F dL_law_1607 rfl rfl ?_
  refine v_aload_n F dL_law_1608 rfl rfl ?_
  refine v_iload_n F dL_law_1609 rfl rfl ?_
  refine v_iconst F dL_law_1610 ⟨by decide, by decide⟩ ?_
  refine v_iadd F dL_law_1611 ?_
  refine v_nI (x := i + 1) (w32_id (by unfold in32; omega)).symm ?_
  refine v_xald (n := n) (f := f) F dL_law_1612 (by decide) hT (by omega) (hf _) ?_
  refine v_aload_n F dL_law_1613 rfl rfl ?_
  refine v_iload_n F dL_law_1614 rfl rfl ?_
  refine v_iconst F dL_law_1615 ⟨by decide, by decide⟩ ?_
  refine v_iadd F dL_law_1616 ?_
  refine v_nI (x := i + 2) (w32_id (by unfold in32; omega)).symm ?_
  refine v_xald (n := n) (f := f) F dL_law_1617 (by decide) hT (by omega) (hf _) ?_
  refine v_callVv (c := 11) F dL_law_1618 cv_L_189 rfl (PB.ob hq1 hX1 (Nat.le_of_ble_eq_true rfl)) (Nat.le_of_ble_eq_true rfl) rfl (vm_X11_knows hq1 hc2) rfl ⟨(Nat.le_of_ble_eq_true rfl), (Nat.le_of_ble_eq_true rfl), Nat.le_trans (show _ ≤ kc + 7 by omega) r1, Nat.le_trans (show _ ≤ ks + 82 by omega) r2, (Nat.le_of_ble_eq_true rfl)⟩ ?_
  refine v_icmp_eq F dL_law_1621 rfl (fun _ => ?_) (fun h => absurd rfl h)
  refine v_fact fun hv2 hX2 _ _ => ?_
  exact v_widen (show _ ≤ kc + 7 by omega) (show _ ≤ ks + 82 by omega) (kk _ _ hp1 hq1 (h4 hv2 hX2))
theorem lc_42 {w : Wd} {l : Launch} {G : Cx} {Q : State → Prop} {d m : Dt} {kc ks : Nat} {n i : Int} {f : Int → Int} {I : Dt → Dt → Prop} (F : Fx w G code R_law 4 ret room_1) (hT : va_T .int (w.2.1 (-1)) n.toNat (fun j => .int (Int32.ofInt (f j))) (fun q => w.1.size ≤ q) G.2.2.2.1 w.1) (hf : ∀ j, in32 (f j)) (hi : 0 ≤ i ∧ i + 6 ≤ n ∧ n ≤ 384) (hp : PB m 1 0) (hq : PB m 1545 11) (r1 : kc + 7 ≤ room_1.cells) (r2 : ks + 82 ≤ room_1.slots)
    (hs : ∃ d1 m1 r, opX 42 d m (f (i + 1)) (f (i + 2)) (f (i + 3)) (f (i + 4)) (f (i + 5)) = some (d1, m1, r) ∧ PB m1 1 0 ∧ PB m1 1545 11 ∧ (VT w d1 m1 → WF d1 m1 → ∃ d2, opM 42 d1 (f (i + 1)) (f (i + 2)) (f (i + 3)) (f (i + 4)) (f (i + 5)) = some (d2, r) ∧ (VT w d2 m1 → WF d2 m1 → I d2 m1)))
    (kk : ∀ d2 m1, PB m1 1 0 → PB m1 1545 11 → I d2 m1 → V w l WF G Q d2 m1 (kc + 7) (ks + 82) 2206 [mA (-1), mA 1, mA 1545, mI i] []) : V w l WF G Q d m kc ks 1626 [mA (-1), mA 1, mA 1545, mI i] [] := by
  obtain ⟨d1, m1, r, h1, hp1, hq1, h2⟩ := hs
  refine v_fact fun hv hX _ _ => ?_
  have hc : fX0_box d (f (i + 1)) (f (i + 2)) = some r ∧ d = d1 ∧ m = m1 := opx_r h1
  obtain ⟨hc, rfl, rfl⟩ := hc
  refine v_aload_n F dL_law_1626 rfl rfl ?_
  refine v_aload_n F dL_law_1627 rfl rfl ?_
  refine v_iload_n F dL_law_1628 rfl rfl ?_
  refine v_iconst F dL_law_1629 ⟨by decide, by decide⟩ ?_
  refine v_iadd F dL_law_1630 ?_
  refine v_nI (x := i + 1) (w32_id (by unfold in32; omega)).symm ?_
  refine v_xald (n := n) (f := f) F dL_law_1631 (by decide) hT (by omega) (hf _) ?_
  refine v_aload_n F dL_law_1632 rfl rfl ?_
  refine v_iload_n F dL_law_1633 rfl rfl ?_
  refine v_iconst F dL_law_1634 ⟨by decide, by decide⟩ ?_
  refine v_iadd F dL_law_1635 ?_
  refine v_nI (x := i + 2) (w32_id (by unfold in32; omega)).symm ?_
  refine v_xald (n := n) (f := f) F dL_law_1636 (by decide) hT (by omega) (hf _) ?_
  refine v_callVv (c := 0) F dL_law_1637 cv_L_190 rfl (PB.ob hp hX (Nat.le_of_ble_eq_true rfl)) (Nat.le_of_ble_eq_true rfl) rfl (vm_X0_box hp hc) rfl ⟨(Nat.le_of_ble_eq_true rfl), (Nat.le_of_ble_eq_true rfl), Nat.le_trans (show _ ≤ kc + 7 by omega) r1, Nat.le_trans (show _ ≤ ks + 82 by omega) r2, (Nat.le_of_ble_eq_true rfl)⟩ ?_
  refine v_fact fun hv1 hX1 _ _ => ?_
  obtain ⟨d2, h3, h4⟩ := h2 hv1 hX1
  have hc2 : fX11_box d (f (i + 1)) (f (i + 2)) = some r ∧ d = d2 := opm_r h3
  obtain ⟨hc2, rfl⟩ := hc2
  refine v_aload_n F dL_law_1640 rfl rfl ?_
  refine v_aload_n F dL_law_1641 rfl rfl ?_
  refine v_iload_n F dL_law_1642 rfl rfl ?_
  refine v_iconst F dL_law_1643 ⟨by decide, by decide⟩ ?_
  refine v_iadd F dL_law_1644 ?_
  refine v_nI (x := i + 1) (w32_id (by unfold in32; omega)).symm ?_
  refine v_xald (n := n) (f := f) F dL_law_1645 (by decide) hT (by omega) (hf _) ?_
  refine v_aload_n F dL_law_1646 rfl rfl ?_
  refine v_iload_n F dL_law_1647 rfl rfl ?_
  refine v_iconst F dL_law_1648 ⟨by decide, by decide⟩ ?_
  refine v_iadd F dL_law_1649 ?_
  refine v_nI (x := i + 2) (w32_id (by unfold in32; omega)).symm ?_
  refine v_xald (n := n) (f := f) F dL_law_1650 (by decide) hT (by omega) (hf _) ?_
  refine v_callVv (c := 11) F dL_law_1651 cv_L_193 rfl (PB.ob hq1 hX1 (Nat.le_of_ble_eq_true rfl)) (Nat.le_of_ble_eq_true rfl) rfl (vm_X11_box hq1 hc2) rfl ⟨(Nat.le_of_ble_eq_true rfl), (Nat.le_of_ble_eq_true rfl), Nat.le_trans (show _ ≤ kc + 7 by omega) r1, Nat.le_trans (show _ ≤ ks + 82 by omega) r2, (Nat.le_of_ble_eq_true rfl)⟩ ?_
  refine v_icmp_eq F dL_law_1654 rfl (fun _ => ?_) (fun h => absurd rfl h)
  refine v_fact fun hv2 hX2 _ _ => ?_
  exact v_widen (show _ ≤ kc + 7 by omega) (show _ ≤ ks + 82 by omega) (kk _ _ hp1 hq1 (h4 hv2 hX2))
theorem lc_43 {w : Wd} {l : Launch} {G : Cx} {Q : State → Prop} {d m : Dt} {kc ks : Nat} {n i : Int} {f : Int → Int} {I : Dt → Dt → Prop} (F : Fx w G code R_law 4 ret room_1) (hT : va_T .int (w.2.1 (-1)) n.toNat (fun j => .int (Int32.ofInt (f j))) (fun q => w.1.size ≤ q) G.2.2.2.1 w.1) (hf : ∀ j, in32 (f j)) (hi : 0 ≤ i ∧ i + 6 ≤ n ∧ n ≤ 384) (hp : PB m 1 0) (hq : PB m 1545 11) (r1 : kc + 7 ≤ room_1.cells) (r2 : ks + 82 ≤ room_1.slots)
    (hs : ∃ d1 m1 r, opX 43 d m (f (i + 1)) (f (i + 2)) (f (i + 3)) (f (i + 4)) (f (i + 5)) = some (d1, m1, r) ∧ PB m1 1 0 ∧ PB m1 1545 11 ∧ (VT w d1 m1 → WF d1 m1 → ∃ d2, opM 43 d1 (f (i + 1)) (f (i + 2)) (f (i + 3)) (f (i + 4)) (f (i + 5)) = some (d2, r) ∧ (VT w d2 m1 → WF d2 m1 → I d2 m1)))
    (kk : ∀ d2 m1, PB m1 1 0 → PB m1 1545 11 → I d2 m1 → V w l WF G Q d2 m1 (kc + 7) (ks + 82) 2206 [mA (-1), mA 1, mA 1545, mI i] []) : V w l WF G Q d m kc ks 1659 [mA (-1), mA 1, mA 1545, mI i] [] := by
  obtain ⟨d1, m1, r, h1, hp1, hq1, h2⟩ := hs
  refine v_fact fun hv hX _ _ => ?_
  have hc : fX0_paper d (f (i + 1)) (f (i + 2)) (f (i + 3)) = some r ∧ d = d1 ∧ m = m1 := opx_r h1
  obtain ⟨hc, rfl, rfl⟩ := hc
  refine v_aload_n F dL_law_1659 rfl rfl ?_
  refine v_aload_n F dL_law_1660 rfl rfl ?_
  refine v_iload_n F dL_law_1661 rfl rfl ?_
  refine v_iconst F dL_law_1662 ⟨by decide, by decide⟩ ?_
  refine v_iadd F dL_law_1663 ?_
  refine v_nI (x := i + 1) (w32_id (by unfold in32; omega)).symm ?_
  refine v_xald (n := n) (f := f) F dL_law_1664 (by decide) hT (by omega) (hf _) ?_
  refine v_aload_n F dL_law_1665 rfl rfl ?_
  refine v_iload_n F dL_law_1666 rfl rfl ?_
  refine v_iconst F dL_law_1667 ⟨by decide, by decide⟩ ?_
  refine v_iadd F dL_law_1668 ?_
  refine v_nI (x := i + 2) (w32_id (by unfold in32; omega)).symm ?_
  refine v_xald (n := n) (f := f) F dL_law_1669 (by decide) hT (by omega) (hf _) ?_
  refine v_aload_n F dL_law_1670 rfl rfl ?_
  refine v_iload_n F dL_law_1671 rfl rfl ?_
  refine v_iconst F dL_law_1672 ⟨by decide, by decide⟩ ?_
  refine v_iadd F dL_law_1673 ?_
  refine v_nI (x := i + 3) (w32_id (by unfold in32; omega)).symm ?_
  refine v_xald (n := n) (f := f) F dL_law_1674 (by decide) hT (by omega) (hf _) ?_
  refine v_callVv (c := 0) F dL_law_1675 cv_L_194 rfl (PB.ob hp hX (Nat.le_of_ble_eq_true rfl)) (Nat.le_of_ble_eq_true rfl) rfl (vm_X0_paper hp hc) rfl ⟨(Nat.le_of_ble_eq_true rfl), (Nat.le_of_ble_eq_true rfl), Nat.le_trans (show _ ≤ kc + 7 by omega) r1, Nat.le_trans (show _ ≤ ks + 82 by omega) r2, (Nat.le_of_ble_eq_true rfl)⟩ ?_
  refine v_fact fun hv1 hX1 _ _ => ?_
  obtain ⟨d2, h3, h4⟩ := h2 hv1 hX1
  have hc2 : fX11_paper d (f (i + 1)) (f (i + 2)) (f (i + 3)) = some r ∧ d = d2 := opm_r h3
  obtain ⟨hc2, rfl⟩ := hc2
  refine v_aload_n F dL_law_1678 rfl rfl ?_
  refine v_aload_n F dL_law_1679 rfl rfl ?_
  refine v_iload_n F dL_law_1680 rfl rfl ?_
  refine v_iconst F dL_law_1681 ⟨by decide, by decide⟩ ?_
  refine v_iadd F dL_law_1682 ?_
  refine v_nI (x := i + 1) (w32_id (by unfold in32; omega)).symm ?_
  refine v_xald (n := n) (f := f) F dL_law_1683 (by decide) hT (by omega) (hf _) ?_
  refine v_aload_n F dL_law_1684 rfl rfl ?_
  refine v_iload_n F dL_law_1685 rfl rfl ?_
  refine v_iconst F dL_law_1686 ⟨by decide, by decide⟩ ?_
  refine v_iadd F dL_law_1687 ?_
  refine v_nI (x := i + 2) (w32_id (by unfold in32; omega)).symm ?_
  refine v_xald (n := n) (f := f) F dL_law_1688 (by decide) hT (by omega) (hf _) ?_
  refine v_aload_n F dL_law_1689 rfl rfl ?_
  refine v_iload_n F dL_law_1690 rfl rfl ?_
  refine v_iconst F dL_law_1691 ⟨by decide, by decide⟩ ?_
  refine v_iadd F dL_law_1692 ?_
  refine v_nI (x := i + 3) (w32_id (by unfold in32; omega)).symm ?_
  refine v_xald (n := n) (f := f) F dL_law_1693 (by decide) hT (by omega) (hf _) ?_
  refine v_callVv (c := 11) F dL_law_1694 cv_L_197 rfl (PB.ob hq1 hX1 (Nat.le_of_ble_eq_true rfl)) (Nat.le_of_ble_eq_true rfl) rfl (vm_X11_paper hq1 hc2) rfl ⟨(Nat.le_of_ble_eq_true rfl), (Nat.le_of_ble_eq_true rfl), Nat.le_trans (show _ ≤ kc + 7 by omega) r1, Nat.le_trans (show _ ≤ ks + 82 by omega) r2, (Nat.le_of_ble_eq_true rfl)⟩ ?_
  refine v_icmp_eq F dL_law_1697 rfl (fun _ => ?_) (fun h => absurd rfl h)
  refine v_fact fun hv2 hX2 _ _ => ?_
  exact v_widen (show _ ≤ kc + 7 by omega) (show _ ≤ ks + 82 by omega) (kk _ _ hp1 hq1 (h4 hv2 hX2))
theorem lc_44 {w : Wd} {l : Launch} {G : Cx} {Q : State → Prop} {d m : Dt} {kc ks : Nat} {n i : Int} {f : Int → Int} {I : Dt → Dt → Prop} (F : Fx w G code R_law 4 ret room_1) (hT : va_T .int (w.2.1 (-1)) n.toNat (fun j => .int (Int32.ofInt (f j))) (fun q => w.1.size ≤ q) G.2.2.2.1 w.1) (hf : ∀ j, in32 (f j)) (hi : 0 ≤ i ∧ i + 6 ≤ n ∧ n ≤ 384) (hp : PB m 1 0) (hq : PB m 1545 11) (r1 : kc + 7 ≤ room_1.cells) (r2 : ks + 82 ≤ room_1.slots)
    (hs : ∃ d1 m1 r, opX 44 d m (f (i + 1)) (f (i + 2)) (f (i + 3)) (f (i + 4)) (f (i + 5)) = some (d1, m1, r) ∧ PB m1 1 0 ∧ PB m1 1545 11 ∧ (VT w d1 m1 → WF d1 m1 → ∃ d2, opM 44 d1 (f (i + 1)) (f (i + 2)) (f (i + 3)) (f (i + 4)) (f (i + 5)) = some (d2, r) ∧ (VT w d2 m1 → WF d2 m1 → I d2 m1)))
    (kk : ∀ d2 m1, PB m1 1 0 → PB m1 1545 11 → I d2 m1 → V w l WF G Q d2 m1 (kc + 7) (ks + 82) 2206 [mA (-1), mA 1, mA 1545, mI i] []) : V w l WF G Q d m kc ks 1702 [mA (-1), mA 1, mA 1545, mI i] [] := by
  obtain ⟨d1, m1, r, h1, hp1, hq1, h2⟩ := hs
  refine v_fact fun hv hX _ _ => ?_
  have hc : fX0_record d (f (i + 1)) (f (i + 2)) (f (i + 3)) = some r ∧ d = d1 ∧ m = m1 := opx_r h1
  obtain ⟨hc, rfl, rfl⟩ := hc
  refine v_aload_n F dL_law_1702 rfl rfl ?_
  refine v_aload_n F dL_law_1703 rfl rfl ?_
  refine v_iload_n F dL_law_1704 rfl rfl ?_
  refine v_iconst F dL_law_1705 ⟨by decide, by decide⟩ ?_
  refine v_iadd F dL_law_1706 ?_
  refine v_nI (x := i + 1) (w32_id (by unfold in32; omega)).symm ?_
  refine v_xald (n := n) (f := f) F dL_law_1707 (by decide) hT (by omega) (hf _) ?_
  refine v_aload_n F dL_law_1708 rfl rfl ?_
  refine v_iload_n F dL_law_1709 rfl rfl ?_
  refine v_iconst F dL_law_1710 ⟨by decide, by decide⟩ ?_
  refine v_iadd F dL_law_1711 ?_
  refine v_nI (x := i + 2) (w32_id (by unfold in32; omega)).symm ?_
  refine v_xald (n := n) (f := f) F dL_law_1712 (by decide) hT (by omega) (hf _) ?_
  refine v_aload_n F dL_law_1713 rfl rfl ?_
  refine v_iload_n F dL_law_1714 rfl rfl ?_
  refine v_iconst F dL_law_1715 ⟨by decide, by decide⟩ ?_
  refine v_iadd F dL_law_1716 ?_
  refine v_nI (x := i + 3) (w32_id (by unfold in32; omega)).symm ?_
  refine v_xald (n := n) (f := f) F dL_law_1717 (by decide) hT (by omega) (hf _) ?_
  refine v_callVv (c := 0) F dL_law_1718 cv_L_198 rfl (PB.ob hp hX (Nat.le_of_ble_eq_true rfl)) (Nat.le_of_ble_eq_true rfl) rfl (vm_X0_record hp hc) rfl ⟨(Nat.le_of_ble_eq_true rfl), (Nat.le_of_ble_eq_true rfl), Nat.le_trans (show _ ≤ kc + 7 by omega) r1, Nat.le_trans (show _ ≤ ks + 82 by omega) r2, (Nat.le_of_ble_eq_true rfl)⟩ ?_
  refine v_fact fun hv1 hX1 _ _ => ?_
  obtain ⟨d2, h3, h4⟩ := h2 hv1 hX1
  have hc2 : fX11_record d (f (i + 1)) (f (i + 2)) (f (i + 3)) = some r ∧ d = d2 := opm_r h3
  obtain ⟨hc2, rfl⟩ := hc2
  refine v_aload_n F dL_law_1721 rfl rfl ?_
  refine v_aload_n F dL_law_1722 rfl rfl ?_
  refine v_iload_n F dL_law_1723 rfl rfl ?_
  refine v_iconst F dL_law_1724 ⟨by decide, by decide⟩ ?_
  refine v_iadd F dL_law_1725 ?_
  refine v_nI (x := i + 1) (w32_id (by unfold in32; omega)).symm ?_
  refine v_xald (n := n) (f := f) F dL_law_1726 (by decide) hT (by omega) (hf _) ?_
  refine v_aload_n F dL_law_1727 rfl rfl ?_
  refine v_iload_n F dL_law_1728 rfl rfl ?_
  refine v_iconst F dL_law_1729 ⟨by decide, by decide⟩ ?_
  refine v_iadd F dL_law_1730 ?_
  refine v_nI (x := i + 2) (w32_id (by unfold in32; omega)).symm ?_
  refine v_xald (n := n) (f := f) F dL_law_1731 (by decide) hT (by omega) (hf _) ?_
  refine v_aload_n F dL_law_1732 rfl rfl ?_
  refine v_iload_n F dL_law_1733 rfl rfl ?_
  refine v_iconst F dL_law_1734 ⟨by decide, by decide⟩ ?_
  refine v_iadd F dL_law_1735 ?_
  refine v_nI (x := i + 3) (w32_id (by unfold in32; omega)).symm ?_
  refine v_xald (n := n) (f := f) F dL_law_1736 (by decide) hT (by omega) (hf _) ?_
  refine v_callVv (c := 11) F dL_law_1737 cv_L_201 rfl (PB.ob hq1 hX1 (Nat.le_of_ble_eq_true rfl)) (Nat.le_of_ble_eq_true rfl) rfl (vm_X11_record hq1 hc2) rfl ⟨(Nat.le_of_ble_eq_true rfl), (Nat.le_of_ble_eq_true rfl), Nat.le_trans (show _ ≤ kc + 7 by omega) r1, Nat.le_trans (show _ ≤ ks + 82 by omega) r2, (Nat.le_of_ble_eq_true rfl)⟩ ?_
  refine v_icmp_eq F dL_law_1740 rfl (fun _ => ?_) (fun h => absurd rfl h)
  refine v_fact fun hv2 hX2 _ _ => ?_
  exact v_widen (show _ ≤ kc + 7 by omega) (show _ ≤ ks + 82 by omega) (kk _ _ hp1 hq1 (h4 hv2 hX2))
theorem lc_45 {w : Wd} {l : Launch} {G : Cx} {Q : State → Prop} {d m : Dt} {kc ks : Nat} {n i : Int} {f : Int → Int} {I : Dt → Dt → Prop} (F : Fx w G code R_law 4 ret room_1) (hT : va_T .int (w.2.1 (-1)) n.toNat (fun j => .int (Int32.ofInt (f j))) (fun q => w.1.size ≤ q) G.2.2.2.1 w.1) (hf : ∀ j, in32 (f j)) (hi : 0 ≤ i ∧ i + 6 ≤ n ∧ n ≤ 384) (hp : PB m 1 0) (hq : PB m 1545 11) (r1 : kc + 7 ≤ room_1.cells) (r2 : ks + 82 ≤ room_1.slots)
    (hs : ∃ d1 m1 r, opX 45 d m (f (i + 1)) (f (i + 2)) (f (i + 3)) (f (i + 4)) (f (i + 5)) = some (d1, m1, r) ∧ PB m1 1 0 ∧ PB m1 1545 11 ∧ (VT w d1 m1 → WF d1 m1 → ∃ d2, opM 45 d1 (f (i + 1)) (f (i + 2)) (f (i + 3)) (f (i + 4)) (f (i + 5)) = some (d2, r) ∧ (VT w d2 m1 → WF d2 m1 → I d2 m1)))
    (kk : ∀ d2 m1, PB m1 1 0 → PB m1 1545 11 → I d2 m1 → V w l WF G Q d2 m1 (kc + 7) (ks + 82) 2206 [mA (-1), mA 1, mA 1545, mI i] []) : V w l WF G Q d m kc ks 1745 [mA (-1), mA 1, mA 1545, mI i] [] := by
  obtain ⟨d1, m1, r, h1, hp1, hq1, h2⟩ := hs
  refine v_fact fun hv hX _ _ => ?_
  have hc : fX0_misread d (f (i + 1)) (f (i + 2)) (f (i + 3)) (f (i + 4)) = some (d1, r) ∧ m = m1 := opx_w h1
  obtain ⟨hc, rfl⟩ := hc
  refine v_aload_n F dL_law_1745 rfl rfl ?_
  refine v_aload_n F dL_law_1746 rfl rfl ?_
  refine v_iload_n F dL_law_1747 rfl rfl ?_
  refine v_iconst F dL_law_1748 ⟨by decide, by decide⟩ ?_
  refine v_iadd F dL_law_1749 ?_
  refine v_nI (x := i + 1) (w32_id (by unfold in32; omega)).symm ?_
  refine v_xald (n := n) (f := f) F dL_law_1750 (by decide) hT (by omega) (hf _) ?_
  refine v_aload_n F dL_law_1751 rfl rfl ?_
  refine v_iload_n F dL_law_1752 rfl rfl ?_
  refine v_iconst F dL_law_1753 ⟨by decide, by decide⟩ ?_
  refine v_iadd F dL_law_1754 ?_
  refine v_nI (x := i + 2) (w32_id (by unfold in32; omega)).symm ?_
  refine v_xald (n := n) (f := f) F dL_law_1755 (by decide) hT (by omega) (hf _) ?_
  refine v_aload_n F dL_law_1756 rfl rfl ?_
  refine v_iload_n F dL_law_1757 rfl rfl ?_
  refine v_iconst F dL_law_1758 ⟨by decide, by decide⟩ ?_
  refine v_iadd F dL_law_1759 ?_
  refine v_nI (x := i + 3) (w32_id (by unfold in32; omega)).symm ?_
  refine v_xald (n := n) (f := f) F dL_law_1760 (by decide) hT (by omega) (hf _) ?_
  refine v_aload_n F dL_law_1761 rfl rfl ?_
  refine v_iload_n F dL_law_1762 rfl rfl ?_
  refine v_iconst F dL_law_1763 ⟨by decide, by decide⟩ ?_
  refine v_iadd F dL_law_1764 ?_
  refine v_nI (x := i + 4) (w32_id (by unfold in32; omega)).symm ?_
  refine v_xald (n := n) (f := f) F dL_law_1765 (by decide) hT (by omega) (hf _) ?_
  refine v_callVv (c := 0) F dL_law_1766 cv_L_202 rfl (PB.ob hp hX (Nat.le_of_ble_eq_true rfl)) (Nat.le_of_ble_eq_true rfl) rfl (vm_X0_misread hp hc) rfl ⟨(Nat.le_of_ble_eq_true rfl), (Nat.le_of_ble_eq_true rfl), Nat.le_trans (show _ ≤ kc + 7 by omega) r1, Nat.le_trans (show _ ≤ ks + 82 by omega) r2, (Nat.le_of_ble_eq_true rfl)⟩ ?_
  refine v_fact fun hv1 hX1 _ _ => ?_
  obtain ⟨d2, h3, h4⟩ := h2 hv1 hX1
  have hc2 : fX11_misread d1 (f (i + 1)) (f (i + 2)) (f (i + 3)) (f (i + 4)) = some (d2, r) := h3
  refine v_aload_n F dL_law_1769 rfl rfl ?_
  refine v_aload_n F dL_law_1770 rfl rfl ?_
  refine v_iload_n F dL_law_1771 rfl rfl ?_
  refine v_iconst F dL_law_1772 ⟨by decide, by decide⟩ ?_
  refine v_iadd F dL_law_1773 ?_
  refine v_nI (x := i + 1) (w32_id (by unfold in32; omega)).symm ?_
  refine v_xald (n := n) (f := f) F dL_law_1774 (by decide) hT (by omega) (hf _) ?_
  refine v_aload_n F dL_law_1775 rfl rfl ?_
  refine v_iload_n F dL_law_1776 rfl rfl ?_
  refine v_iconst F dL_law_1777 ⟨by decide, by decide⟩ ?_
  refine v_iadd F dL_law_1778 ?_
  refine v_nI (x := i + 2) (w32_id (by unfold in32; omega)).symm ?_
  refine v_xald (n := n) (f := f) F dL_law_1779 (by decide) hT (by omega) (hf _) ?_
  refine v_aload_n F dL_law_1780 rfl rfl ?_
  refine v_iload_n F dL_law_1781 rfl rfl ?_
  refine v_iconst F dL_law_1782 ⟨by decide, by decide⟩ ?_
  refine v_iadd F dL_law_1783 ?_
  refine v_nI (x := i + 3) (w32_id (by unfold in32; omega)).symm ?_
  refine v_xald (n := n) (f := f) F dL_law_1784 (by decide) hT (by omega) (hf _) ?_
  refine v_aload_n F dL_law_1785 rfl rfl ?_
  refine v_iload_n F dL_law_1786 rfl rfl ?_
  refine v_iconst F dL_law_1787 ⟨by decide, by decide⟩ ?_
  refine v_iadd F dL_law_1788 ?_
  refine v_nI (x := i + 4) (w32_id (by unfold in32; omega)).symm ?_
  refine v_xald (n := n) (f := f) F dL_law_1789 (by decide) hT (by omega) (hf _) ?_
  refine v_callVv (c := 11) F dL_law_1790 cv_L_205 rfl (PB.ob hq1 hX1 (Nat.le_of_ble_eq_true rfl)) (Nat.le_of_ble_eq_true rfl) rfl (vm_X11_misread hq1 hc2) rfl ⟨(Nat.le_of_ble_eq_true rfl), (Nat.le_of_ble_eq_true rfl), Nat.le_trans (show _ ≤ kc + 7 by omega) r1, Nat.le_trans (show _ ≤ ks + 82 by omega) r2, (Nat.le_of_ble_eq_true rfl)⟩ ?_
  refine v_icmp_eq F dL_law_1793 rfl (fun _ => ?_) (fun h => absurd rfl h)
  refine v_fact fun hv2 hX2 _ _ => ?_
  exact v_widen (show _ ≤ kc + 7 by omega) (show _ ≤ ks + 82 by omega) (kk _ _ hp1 hq1 (h4 hv2 hX2))
theorem lc_46 {w : Wd} {l : Launch} {G : Cx} {Q : State → Prop} {d m : Dt} {kc ks : Nat} {n i : Int} {f : Int → Int} {I : Dt → Dt → Prop} (F : Fx w G code R_law 4 ret room_1) (hT : va_T .int (w.2.1 (-1)) n.toNat (fun j => .int (Int32.ofInt (f j))) (fun q => w.1.size ≤ q) G.2.2.2.1 w.1) (hf : ∀ j, in32 (f j)) (hi : 0 ≤ i ∧ i + 6 ≤ n ∧ n ≤ 384) (hp : PB m 1 0) (hq : PB m 1545 11) (r1 : kc + 7 ≤ room_1.cells) (r2 : ks + 82 ≤ room_1.slots)
    (hs : ∃ d1 m1 r, opX 46 d m (f (i + 1)) (f (i + 2)) (f (i + 3)) (f (i + 4)) (f (i + 5)) = some (d1, m1, r) ∧ PB m1 1 0 ∧ PB m1 1545 11 ∧ (VT w d1 m1 → WF d1 m1 → ∃ d2, opM 46 d1 (f (i + 1)) (f (i + 2)) (f (i + 3)) (f (i + 4)) (f (i + 5)) = some (d2, r) ∧ (VT w d2 m1 → WF d2 m1 → I d2 m1)))
    (kk : ∀ d2 m1, PB m1 1 0 → PB m1 1545 11 → I d2 m1 → V w l WF G Q d2 m1 (kc + 7) (ks + 82) 2206 [mA (-1), mA 1, mA 1545, mI i] []) : V w l WF G Q d m kc ks 1798 [mA (-1), mA 1, mA 1545, mI i] [] := by
  obtain ⟨d1, m1, r, h1, hp1, hq1, h2⟩ := hs
  refine v_fact fun hv hX _ _ => ?_
  have hc : fX0_strike d (f (i + 1)) (f (i + 2)) (f (i + 3)) = some (d1, r) ∧ m = m1 := opx_w h1
  obtain ⟨hc, rfl⟩ := hc
  refine v_aload_n F dL_law_1798 rfl rfl ?_
  refine v_aload_n F dL_law_1799 rfl rfl ?_
  refine v_iload_n F dL_law_1800 rfl rfl ?_
  refine v_iconst F dL_law_1801 ⟨by decide, by decide⟩ ?_
  refine v_iadd F dL_law_1802 ?_
  refine v_nI (x := i + 1) (w32_id (by unfold in32; omega)).symm ?_
  refine v_xald (n := n) (f := f) F dL_law_1803 (by decide) hT (by omega) (hf _) ?_
  refine v_aload_n F dL_law_1804 rfl rfl ?_
  refine v_iload_n F dL_law_1805 rfl rfl ?_
  refine v_iconst F dL_law_1806 ⟨by decide, by decide⟩ ?_
  refine v_iadd F dL_law_1807 ?_
  refine v_nI (x := i + 2) (w32_id (by unfold in32; omega)).symm ?_
  refine v_xald (n := n) (f := f) F dL_law_1808 (by decide) hT (by omega) (hf _) ?_
  refine v_aload_n F dL_law_1809 rfl rfl ?_
  refine v_iload_n F dL_law_1810 rfl rfl ?_
  refine v_iconst F dL_law_1811 ⟨by decide, by decide⟩ ?_
  refine v_iadd F dL_law_1812 ?_
  refine v_nI (x := i + 3) (w32_id (by unfold in32; omega)).symm ?_
  refine v_xald (n := n) (f := f) F dL_law_1813 (by decide) hT (by omega) (hf _) ?_
  refine v_callVv (c := 0) F dL_law_1814 cv_L_206 rfl (PB.ob hp hX (Nat.le_of_ble_eq_true rfl)) (Nat.le_of_ble_eq_true rfl) rfl (vm_X0_strike hp hc) rfl ⟨(Nat.le_of_ble_eq_true rfl), (Nat.le_of_ble_eq_true rfl), Nat.le_trans (show _ ≤ kc + 7 by omega) r1, Nat.le_trans (show _ ≤ ks + 82 by omega) r2, (Nat.le_of_ble_eq_true rfl)⟩ ?_
  refine v_fact fun hv1 hX1 _ _ => ?_
  obtain ⟨d2, h3, h4⟩ := h2 hv1 hX1
  have hc2 : fX11_strike d1 (f (i + 1)) (f (i + 2)) (f (i + 3)) = some (d2, r) := h3
  refine v_aload_n F dL_law_1817 rfl rfl ?_
  refine v_aload_n F dL_law_1818 rfl rfl ?_
  refine v_iload_n F dL_law_1819 rfl rfl ?_
  refine v_iconst F dL_law_1820 ⟨by decide, by decide⟩ ?_
  refine v_iadd F dL_law_1821 ?_
  refine v_nI (x := i + 1) (w32_id (by unfold in32; omega)).symm ?_
  refine v_xald (n := n) (f := f) F dL_law_1822 (by decide) hT (by omega) (hf _) ?_
  refine v_aload_n F dL_law_1823 rfl rfl ?_
  refine v_iload_n F dL_law_1824 rfl rfl ?_
  refine v_iconst F dL_law_1825 ⟨by decide, by decide⟩ ?_
  refine v_iadd F dL_law_1826 ?_
  refine v_nI (x := i + 2) (w32_id (by unfold in32; omega)).symm ?_
  refine v_xald (n := n) (f := f) F dL_law_1827 (by decide) hT (by omega) (hf _) ?_
  refine v_aload_n F dL_law_1828 rfl rfl ?_
  refine v_iload_n F dL_law_1829 rfl rfl ?_
  refine v_iconst F dL_law_1830 ⟨by decide, by decide⟩ ?_
  refine v_iadd F dL_law_1831 ?_
  refine v_nI (x := i + 3) (w32_id (by unfold in32; omega)).symm ?_
  refine v_xald (n := n) (f := f) F dL_law_1832 (by decide) hT (by omega) (hf _) ?_
  refine v_callVv (c := 11) F dL_law_1833 cv_L_209 rfl (PB.ob hq1 hX1 (Nat.le_of_ble_eq_true rfl)) (Nat.le_of_ble_eq_true rfl) rfl (vm_X11_strike hq1 hc2) rfl ⟨(Nat.le_of_ble_eq_true rfl), (Nat.le_of_ble_eq_true rfl), Nat.le_trans (show _ ≤ kc + 7 by omega) r1, Nat.le_trans (show _ ≤ ks + 82 by omega) r2, (Nat.le_of_ble_eq_true rfl)⟩ ?_
  refine v_icmp_eq F dL_law_1836 rfl (fun _ => ?_) (fun h => absurd rfl h)
  refine v_fact fun hv2 hX2 _ _ => ?_
  exact v_widen (show _ ≤ kc + 7 by omega) (show _ ≤ ks + 82 by omega) (kk _ _ hp1 hq1 (h4 hv2 hX2))
theorem lc_47 {w : Wd} {l : Launch} {G : Cx} {Q : State → Prop} {d m : Dt} {kc ks : Nat} {n i : Int} {f : Int → Int} {I : Dt → Dt → Prop} (F : Fx w G code R_law 4 ret room_1) (hT : va_T .int (w.2.1 (-1)) n.toNat (fun j => .int (Int32.ofInt (f j))) (fun q => w.1.size ≤ q) G.2.2.2.1 w.1) (hf : ∀ j, in32 (f j)) (hi : 0 ≤ i ∧ i + 6 ≤ n ∧ n ≤ 384) (hp : PB m 1 0) (hq : PB m 1545 11) (r1 : kc + 7 ≤ room_1.cells) (r2 : ks + 82 ≤ room_1.slots)
    (hs : ∃ d1 m1 r, opX 47 d m (f (i + 1)) (f (i + 2)) (f (i + 3)) (f (i + 4)) (f (i + 5)) = some (d1, m1, r) ∧ PB m1 1 0 ∧ PB m1 1545 11 ∧ (VT w d1 m1 → WF d1 m1 → ∃ d2, opM 47 d1 (f (i + 1)) (f (i + 2)) (f (i + 3)) (f (i + 4)) (f (i + 5)) = some (d2, r) ∧ (VT w d2 m1 → WF d2 m1 → I d2 m1)))
    (kk : ∀ d2 m1, PB m1 1 0 → PB m1 1545 11 → I d2 m1 → V w l WF G Q d2 m1 (kc + 7) (ks + 82) 2206 [mA (-1), mA 1, mA 1545, mI i] []) : V w l WF G Q d m kc ks 1841 [mA (-1), mA 1, mA 1545, mI i] [] := by
  obtain ⟨d1, m1, r, h1, hp1, hq1, h2⟩ := hs
  refine v_fact fun hv hX _ _ => ?_
  have hc : fX0_voidBox d (f (i + 1)) (f (i + 2)) = some (d1, r) ∧ m = m1 := opx_w h1
  obtain ⟨hc, rfl⟩ := hc
  refine v_aload_n F dL_law_1841 rfl rfl ?_
  refine v_aload_n F dL_law_1842 rfl rfl ?_
  refine v_iload_n F dL_law_1843 rfl rfl ?_
  refine v_iconst F dL_law_1844 ⟨by decide, by decide⟩ ?_
  refine v_iadd F dL_law_1845 ?_
  refine v_nI (x := i + 1) (w32_id (by unfold in32; omega)).symm ?_
  refine v_xald (n := n) (f := f) F dL_law_1846 (by decide) hT (by omega) (hf _) ?_
  refine v_aload_n F dL_law_1847 rfl rfl ?_
  refine v_iload_n F dL_law_1848 rfl rfl ?_
  refine v_iconst F dL_law_1849 ⟨by decide, by decide⟩ ?_
  refine v_iadd F dL_law_1850 ?_
  refine v_nI (x := i + 2) (w32_id (by unfold in32; omega)).symm ?_
  refine v_xald (n := n) (f := f) F dL_law_1851 (by decide) hT (by omega) (hf _) ?_
  refine v_callVv (c := 0) F dL_law_1852 cv_L_210 rfl (PB.ob hp hX (Nat.le_of_ble_eq_true rfl)) (Nat.le_of_ble_eq_true rfl) rfl (vm_X0_voidBox hp hc) rfl ⟨(Nat.le_of_ble_eq_true rfl), (Nat.le_of_ble_eq_true rfl), Nat.le_trans (show _ ≤ kc + 7 by omega) r1, Nat.le_trans (show _ ≤ ks + 82 by omega) r2, (Nat.le_of_ble_eq_true rfl)⟩ ?_
  refine v_fact fun hv1 hX1 _ _ => ?_
  obtain ⟨d2, h3, h4⟩ := h2 hv1 hX1
  have hc2 : fX11_voidBox d1 (f (i + 1)) (f (i + 2)) = some (d2, r) := h3
  refine v_aload_n F dL_law_1855 rfl rfl ?_
  refine v_aload_n F dL_law_1856 rfl rfl ?_
  refine v_iload_n F dL_law_1857 rfl rfl ?_
  refine v_iconst F dL_law_1858 ⟨by decide, by decide⟩ ?_
  refine v_iadd F dL_law_1859 ?_
  refine v_nI (x := i + 1) (w32_id (by unfold in32; omega)).symm ?_
  refine v_xald (n := n) (f := f) F dL_law_1860 (by decide) hT (by omega) (hf _) ?_
  refine v_aload_n F dL_law_1861 rfl rfl ?_
  refine v_iload_n F dL_law_1862 rfl rfl ?_
  refine v_iconst F dL_law_1863 ⟨by decide, by decide⟩ ?_
  refine v_iadd F dL_law_1864 ?_
  refine v_nI (x := i + 2) (w32_id (by unfold in32; omega)).symm ?_
  refine v_xald (n := n) (f := f) F dL_law_1865 (by decide) hT (by omega) (hf _) ?_
  refine v_callVv (c := 11) F dL_law_1866 cv_L_213 rfl (PB.ob hq1 hX1 (Nat.le_of_ble_eq_true rfl)) (Nat.le_of_ble_eq_true rfl) rfl (vm_X11_voidBox hq1 hc2) rfl ⟨(Nat.le_of_ble_eq_true rfl), (Nat.le_of_ble_eq_true rfl), Nat.le_trans (show _ ≤ kc + 7 by omega) r1, Nat.le_trans (show _ ≤ ks + 82 by omega) r2, (Nat.le_of_ble_eq_true rfl)⟩ ?_
  refine v_icmp_eq F dL_law_1869 rfl (fun _ => ?_) (fun h => absurd rfl h)
  refine v_fact fun hv2 hX2 _ _ => ?_
  exact v_widen (show _ ≤ kc + 7 by omega) (show _ ≤ ks + 82 by omega) (kk _ _ hp1 hq1 (h4 hv2 hX2))
theorem lc_48 {w : Wd} {l : Launch} {G : Cx} {Q : State → Prop} {d m : Dt} {kc ks : Nat} {n i : Int} {f : Int → Int} {I : Dt → Dt → Prop} (F : Fx w G code R_law 4 ret room_1) (hT : va_T .int (w.2.1 (-1)) n.toNat (fun j => .int (Int32.ofInt (f j))) (fun q => w.1.size ≤ q) G.2.2.2.1 w.1) (hf : ∀ j, in32 (f j)) (hi : 0 ≤ i ∧ i + 6 ≤ n ∧ n ≤ 384) (hp : PB m 1 0) (hq : PB m 1545 11) (r1 : kc + 7 ≤ room_1.cells) (r2 : ks + 82 ≤ room_1.slots)
    (hs : ∃ d1 m1 r, opX 48 d m (f (i + 1)) (f (i + 2)) (f (i + 3)) (f (i + 4)) (f (i + 5)) = some (d1, m1, r) ∧ PB m1 1 0 ∧ PB m1 1545 11 ∧ (VT w d1 m1 → WF d1 m1 → ∃ d2, opM 48 d1 (f (i + 1)) (f (i + 2)) (f (i + 3)) (f (i + 4)) (f (i + 5)) = some (d2, r) ∧ (VT w d2 m1 → WF d2 m1 → I d2 m1)))
    (kk : ∀ d2 m1, PB m1 1 0 → PB m1 1545 11 → I d2 m1 → V w l WF G Q d2 m1 (kc + 7) (ks + 82) 2206 [mA (-1), mA 1, mA 1545, mI i] []) : V w l WF G Q d m kc ks 1874 [mA (-1), mA 1, mA 1545, mI i] [] := by
  obtain ⟨d1, m1, r, h1, hp1, hq1, h2⟩ := hs
  refine v_fact fun hv hX _ _ => ?_
  have hc : fX0_count d (f (i + 1)) (f (i + 2)) = some (d1, r) ∧ m = m1 := opx_w h1
  obtain ⟨hc, rfl⟩ := hc
  refine v_aload_n F dL_law_1874 rfl rfl ?_
  refine v_aload_n F dL_law_1875 rfl rfl ?_
  refine v_iload_n F dL_law_1876 rfl rfl ?_
  refine v_iconst F dL_law_1877 ⟨by decide, by decide⟩ ?_
  refine v_iadd F dL_law_1878 ?_
  refine v_nI (x := i + 1) (w32_id (by unfold in32; omega)).symm ?_
  refine v_xald (n := n) (f := f) F dL_law_1879 (by decide) hT (by omega) (hf _) ?_
  refine v_aload_n F dL_law_1880 rfl rfl ?_
  refine v_iload_n F dL_law_1881 rfl rfl ?_
  refine v_iconst F dL_law_1882 ⟨by decide, by decide⟩ ?_
  refine v_iadd F dL_law_1883 ?_
  refine v_nI (x := i + 2) (w32_id (by unfold in32; omega)).symm ?_
  refine v_xald (n := n) (f := f) F dL_law_1884 (by decide) hT (by omega) (hf _) ?_
  refine v_callVv (c := 0) F dL_law_1885 cv_L_214 rfl (PB.ob hp hX (Nat.le_of_ble_eq_true rfl)) (Nat.le_of_ble_eq_true rfl) rfl (vm_X0_count hp hc) rfl ⟨(Nat.le_of_ble_eq_true rfl), (Nat.le_of_ble_eq_true rfl), Nat.le_trans (show _ ≤ kc + 7 by omega) r1, Nat.le_trans (show _ ≤ ks + 82 by omega) r2, (Nat.le_of_ble_eq_true rfl)⟩ ?_
  refine v_fact fun hv1 hX1 _ _ => ?_
  obtain ⟨d2, h3, h4⟩ := h2 hv1 hX1
  have hc2 : fX11_count d1 (f (i + 1)) (f (i + 2)) = some (d2, r) := h3
  refine v_aload_n F dL_law_1888 rfl rfl ?_
  refine v_aload_n F dL_law_1889 rfl rfl ?_
  refine v_iload_n F dL_law_1890 rfl rfl ?_
  refine v_iconst F dL_law_1891 ⟨by decide, by decide⟩ ?_
  refine v_iadd F dL_law_1892 ?_
  refine v_nI (x := i + 1) (w32_id (by unfold in32; omega)).symm ?_
  refine v_xald (n := n) (f := f) F dL_law_1893 (by decide) hT (by omega) (hf _) ?_
  refine v_aload_n F dL_law_1894 rfl rfl ?_
  refine v_iload_n F dL_law_1895 rfl rfl ?_
  refine v_iconst F dL_law_1896 ⟨by decide, by decide⟩ ?_
  refine v_iadd F dL_law_1897 ?_
  refine v_nI (x := i + 2) (w32_id (by unfold in32; omega)).symm ?_
  refine v_xald (n := n) (f := f) F dL_law_1898 (by decide) hT (by omega) (hf _) ?_
  refine v_callVv (c := 11) F dL_law_1899 cv_L_217 rfl (PB.ob hq1 hX1 (Nat.le_of_ble_eq_true rfl)) (Nat.le_of_ble_eq_true rfl) rfl (vm_X11_count hq1 hc2) rfl ⟨(Nat.le_of_ble_eq_true rfl), (Nat.le_of_ble_eq_true rfl), Nat.le_trans (show _ ≤ kc + 7 by omega) r1, Nat.le_trans (show _ ≤ ks + 82 by omega) r2, (Nat.le_of_ble_eq_true rfl)⟩ ?_
  refine v_icmp_eq F dL_law_1902 rfl (fun _ => ?_) (fun h => absurd rfl h)
  refine v_fact fun hv2 hX2 _ _ => ?_
  exact v_widen (show _ ≤ kc + 7 by omega) (show _ ≤ ks + 82 by omega) (kk _ _ hp1 hq1 (h4 hv2 hX2))
theorem lc_49 {w : Wd} {l : Launch} {G : Cx} {Q : State → Prop} {d m : Dt} {kc ks : Nat} {n i : Int} {f : Int → Int} {I : Dt → Dt → Prop} (F : Fx w G code R_law 4 ret room_1) (hT : va_T .int (w.2.1 (-1)) n.toNat (fun j => .int (Int32.ofInt (f j))) (fun q => w.1.size ≤ q) G.2.2.2.1 w.1) (hf : ∀ j, in32 (f j)) (hi : 0 ≤ i ∧ i + 6 ≤ n ∧ n ≤ 384) (hp : PB m 1 0) (hq : PB m 1545 11) (r1 : kc + 7 ≤ room_1.cells) (r2 : ks + 82 ≤ room_1.slots)
    (hs : ∃ d1 m1 r, opX 49 d m (f (i + 1)) (f (i + 2)) (f (i + 3)) (f (i + 4)) (f (i + 5)) = some (d1, m1, r) ∧ PB m1 1 0 ∧ PB m1 1545 11 ∧ (VT w d1 m1 → WF d1 m1 → ∃ d2, opM 49 d1 (f (i + 1)) (f (i + 2)) (f (i + 3)) (f (i + 4)) (f (i + 5)) = some (d2, r) ∧ (VT w d2 m1 → WF d2 m1 → I d2 m1)))
    (kk : ∀ d2 m1, PB m1 1 0 → PB m1 1545 11 → I d2 m1 → V w l WF G Q d2 m1 (kc + 7) (ks + 82) 2206 [mA (-1), mA 1, mA 1545, mI i] []) : V w l WF G Q d m kc ks 1907 [mA (-1), mA 1, mA 1545, mI i] [] := by
  obtain ⟨d1, m1, r, h1, hp1, hq1, h2⟩ := hs
  refine v_fact fun hv hX _ _ => ?_
  have hc : fX0_elected d (f (i + 1)) = some r ∧ d = d1 ∧ m = m1 := opx_r h1
  obtain ⟨hc, rfl, rfl⟩ := hc
  refine v_aload_n F dL_law_1907 rfl rfl ?_
  refine v_aload_n F dL_law_1908 rfl rfl ?_
  refine v_iload_n F dL_law_1909 rfl rfl ?_
  refine v_iconst F dL_law_1910 ⟨by decide, by decide⟩ ?_
  refine v_iadd F dL_law_1911 ?_
  refine v_nI (x := i + 1) (w32_id (by unfold in32; omega)).symm ?_
  refine v_xald (n := n) (f := f) F dL_law_1912 (by decide) hT (by omega) (hf _) ?_
  refine v_callVv (c := 0) F dL_law_1913 cv_L_218 rfl (PB.ob hp hX (Nat.le_of_ble_eq_true rfl)) (Nat.le_of_ble_eq_true rfl) rfl (vm_X0_elected hp hc) rfl ⟨(Nat.le_of_ble_eq_true rfl), (Nat.le_of_ble_eq_true rfl), Nat.le_trans (show _ ≤ kc + 7 by omega) r1, Nat.le_trans (show _ ≤ ks + 82 by omega) r2, (Nat.le_of_ble_eq_true rfl)⟩ ?_
  refine v_fact fun hv1 hX1 _ _ => ?_
  obtain ⟨d2, h3, h4⟩ := h2 hv1 hX1
  have hc2 : fX11_elected d (f (i + 1)) = some r ∧ d = d2 := opm_r h3
  obtain ⟨hc2, rfl⟩ := hc2
  refine v_aload_n F dL_law_1916 rfl rfl ?_
  refine v_aload_n F dL_law_1917 rfl rfl ?_
  refine v_iload_n F dL_law_1918 rfl rfl ?_
  refine v_iconst F dL_law_1919 ⟨by decide, by decide⟩ ?_
  refine v_iadd F dL_law_1920 ?_
  refine v_nI (x := i + 1) (w32_id (by unfold in32; omega)).symm ?_
  refine v_xald (n := n) (f := f) F dL_law_1921 (by decide) hT (by omega) (hf _) ?_
  refine v_callVv (c := 11) F dL_law_1922 cv_L_221 rfl (PB.ob hq1 hX1 (Nat.le_of_ble_eq_true rfl)) (Nat.le_of_ble_eq_true rfl) rfl (vm_X11_elected hq1 hc2) rfl ⟨(Nat.le_of_ble_eq_true rfl), (Nat.le_of_ble_eq_true rfl), Nat.le_trans (show _ ≤ kc + 7 by omega) r1, Nat.le_trans (show _ ≤ ks + 82 by omega) r2, (Nat.le_of_ble_eq_true rfl)⟩ ?_
  refine v_icmp_eq F dL_law_1925 rfl (fun _ => ?_) (fun h => absurd rfl h)
  refine v_fact fun hv2 hX2 _ _ => ?_
  exact v_widen (show _ ≤ kc + 7 by omega) (show _ ≤ ks + 82 by omega) (kk _ _ hp1 hq1 (h4 hv2 hX2))
theorem lc_50 {w : Wd} {l : Launch} {G : Cx} {Q : State → Prop} {d m : Dt} {kc ks : Nat} {n i : Int} {f : Int → Int} {I : Dt → Dt → Prop} (F : Fx w G code R_law 4 ret room_1) (hT : va_T .int (w.2.1 (-1)) n.toNat (fun j => .int (Int32.ofInt (f j))) (fun q => w.1.size ≤ q) G.2.2.2.1 w.1) (hf : ∀ j, in32 (f j)) (hi : 0 ≤ i ∧ i + 6 ≤ n ∧ n ≤ 384) (hp : PB m 1 0) (hq : PB m 1545 11) (r1 : kc + 7 ≤ room_1.cells) (r2 : ks + 82 ≤ room_1.slots)
    (hs : ∃ d1 m1 r, opX 50 d m (f (i + 1)) (f (i + 2)) (f (i + 3)) (f (i + 4)) (f (i + 5)) = some (d1, m1, r) ∧ PB m1 1 0 ∧ PB m1 1545 11 ∧ (VT w d1 m1 → WF d1 m1 → ∃ d2, opM 50 d1 (f (i + 1)) (f (i + 2)) (f (i + 3)) (f (i + 4)) (f (i + 5)) = some (d2, r) ∧ (VT w d2 m1 → WF d2 m1 → I d2 m1)))
    (kk : ∀ d2 m1, PB m1 1 0 → PB m1 1545 11 → I d2 m1 → V w l WF G Q d2 m1 (kc + 7) (ks + 82) 2206 [mA (-1), mA 1, mA 1545, mI i] []) : V w l WF G Q d m kc ks 1930 [mA (-1), mA 1, mA 1545, mI i] [] := by
  obtain ⟨d1, m1, r, h1, hp1, hq1, h2⟩ := hs
  refine v_fact fun hv hX _ _ => ?_
  have hc : fX0_round d (f (i + 1)) (f (i + 2)) = some r ∧ d = d1 ∧ m = m1 := opx_r h1
  obtain ⟨hc, rfl, rfl⟩ := hc
  refine v_aload_n F dL_law_1930 rfl rfl ?_
  refine v_aload_n F dL_law_1931 rfl rfl ?_
  refine v_iload_n F dL_law_1932 rfl rfl ?_
  refine v_iconst F dL_law_1933 ⟨by decide, by decide⟩ ?_
  refine v_iadd F dL_law_1934 ?_
  refine v_nI (x := i + 1) (w32_id (by unfold in32; omega)).symm ?_
  refine v_xald (n := n) (f := f) F dL_law_1935 (by decide) hT (by omega) (hf _) ?_
  refine v_aload_n F dL_law_1936 rfl rfl ?_
  refine v_iload_n F dL_law_1937 rfl rfl ?_
  refine v_iconst F dL_law_1938 ⟨by decide, by decide⟩ ?_
  refine v_iadd F dL_law_1939 ?_
  refine v_nI (x := i + 2) (w32_id (by unfold in32; omega)).symm ?_
  refine v_xald (n := n) (f := f) F dL_law_1940 (by decide) hT (by omega) (hf _) ?_
  refine v_callVv (c := 0) F dL_law_1941 cv_L_222 rfl (PB.ob hp hX (Nat.le_of_ble_eq_true rfl)) (Nat.le_of_ble_eq_true rfl) rfl (vm_X0_round hp hc) rfl ⟨(Nat.le_of_ble_eq_true rfl), (Nat.le_of_ble_eq_true rfl), Nat.le_trans (show _ ≤ kc + 7 by omega) r1, Nat.le_trans (show _ ≤ ks + 82 by omega) r2, (Nat.le_of_ble_eq_true rfl)⟩ ?_
  refine v_fact fun hv1 hX1 _ _ => ?_
  obtain ⟨d2, h3, h4⟩ := h2 hv1 hX1
  have hc2 : fX11_round d (f (i + 1)) (f (i + 2)) = some r ∧ d = d2 := opm_r h3
  obtain ⟨hc2, rfl⟩ := hc2
  refine v_aload_n F dL_law_1944 rfl rfl ?_
  refine v_aload_n F dL_law_1945 rfl rfl ?_
  refine v_iload_n F dL_law_1946 rfl rfl ?_
  refine v_iconst F dL_law_1947 ⟨by decide, by decide⟩ ?_
  refine v_iadd F dL_law_1948 ?_
  refine v_nI (x := i + 1) (w32_id (by unfold in32; omega)).symm ?_
  refine v_xald (n := n) (f := f) F dL_law_1949 (by decide) hT (by omega) (hf _) ?_
  refine v_aload_n F dL_law_1950 rfl rfl ?_
  refine v_iload_n F dL_law_1951 rfl rfl ?_
  refine v_iconst F dL_law_1952 ⟨by decide, by decide⟩ ?_
  refine v_iadd F dL_law_1953 ?_
  refine v_nI (x := i + 2) (w32_id (by unfold in32; omega)).symm ?_
  refine v_xald (n := n) (f := f) F dL_law_1954 (by decide) hT (by omega) (hf _) ?_
  refine v_callVv (c := 11) F dL_law_1955 cv_L_226 rfl (PB.ob hq1 hX1 (Nat.le_of_ble_eq_true rfl)) (Nat.le_of_ble_eq_true rfl) rfl (vm_X11_round hq1 hc2) rfl ⟨(Nat.le_of_ble_eq_true rfl), (Nat.le_of_ble_eq_true rfl), Nat.le_trans (show _ ≤ kc + 7 by omega) r1, Nat.le_trans (show _ ≤ ks + 82 by omega) r2, (Nat.le_of_ble_eq_true rfl)⟩ ?_
  refine v_lcmp F dL_law_1958 ?_
  refine v_nI (x := 0) (jCmp_self r).symm ?_
  refine v_if_eq F dL_law_1959 rfl (fun _ => ?_) (fun h => absurd rfl h)
  refine v_fact fun hv2 hX2 _ _ => ?_
  exact v_widen (show _ ≤ kc + 7 by omega) (show _ ≤ ks + 82 by omega) (kk _ _ hp1 hq1 (h4 hv2 hX2))
theorem lc_51 {w : Wd} {l : Launch} {G : Cx} {Q : State → Prop} {d m : Dt} {kc ks : Nat} {n i : Int} {f : Int → Int} {I : Dt → Dt → Prop} (F : Fx w G code R_law 4 ret room_1) (hT : va_T .int (w.2.1 (-1)) n.toNat (fun j => .int (Int32.ofInt (f j))) (fun q => w.1.size ≤ q) G.2.2.2.1 w.1) (hf : ∀ j, in32 (f j)) (hi : 0 ≤ i ∧ i + 6 ≤ n ∧ n ≤ 384) (hp : PB m 1 0) (hq : PB m 1545 11) (r1 : kc + 7 ≤ room_1.cells) (r2 : ks + 82 ≤ room_1.slots)
    (hs : ∃ d1 m1 r, opX 51 d m (f (i + 1)) (f (i + 2)) (f (i + 3)) (f (i + 4)) (f (i + 5)) = some (d1, m1, r) ∧ PB m1 1 0 ∧ PB m1 1545 11 ∧ (VT w d1 m1 → WF d1 m1 → ∃ d2, opM 51 d1 (f (i + 1)) (f (i + 2)) (f (i + 3)) (f (i + 4)) (f (i + 5)) = some (d2, r) ∧ (VT w d2 m1 → WF d2 m1 → I d2 m1)))
    (kk : ∀ d2 m1, PB m1 1 0 → PB m1 1545 11 → I d2 m1 → V w l WF G Q d2 m1 (kc + 7) (ks + 82) 2206 [mA (-1), mA 1, mA 1545, mI i] []) : V w l WF G Q d m kc ks 1964 [mA (-1), mA 1, mA 1545, mI i] [] := by
  obtain ⟨d1, m1, r, h1, hp1, hq1, h2⟩ := hs
  refine v_fact fun hv hX _ _ => ?_
  have hc : fX0_act d (f (i + 1)) (f (i + 2)) = some r ∧ d = d1 ∧ m = m1 := opx_r h1
  obtain ⟨hc, rfl, rfl⟩ := hc
  refine v_aload_n F dL_law_1964 rfl rfl ?_
  refine v_aload_n F dL_law_1965 rfl rfl ?_
  refine v_iload_n F dL_law_1966 rfl rfl ?_
  refine v_iconst F dL_law_1967 ⟨by decide, by decide⟩ ?_
  refine v_iadd F dL_law_1968 ?_
  refine v_nI (x := i + 1) (w32_id (by unfold in32; omega)).symm ?_
  refine v_xald (n := n) (f := f) F dL_law_1969 (by decide) hT (by omega) (hf _) ?_
  refine v_aload_n F dL_law_1970 rfl rfl ?_
  refine v_iload_n F dL_law_1971 rfl rfl ?_
  refine v_iconst F dL_law_1972 ⟨by decide, by decide⟩ ?_
  refine v_iadd F dL_law_1973 ?_
  refine v_nI (x := i + 2) (w32_id (by unfold in32; omega)).symm ?_
  refine v_xald (n := n) (f := f) F dL_law_1974 (by decide) hT (by omega) (hf _) ?_
  refine v_callVv (c := 0) F dL_law_1975 cv_L_227 rfl (PB.ob hp hX (Nat.le_of_ble_eq_true rfl)) (Nat.le_of_ble_eq_true rfl) rfl (vm_X0_act hp hc) rfl ⟨(Nat.le_of_ble_eq_true rfl), (Nat.le_of_ble_eq_true rfl), Nat.le_trans (show _ ≤ kc + 7 by omega) r1, Nat.le_trans (show _ ≤ ks + 82 by omega) r2, (Nat.le_of_ble_eq_true rfl)⟩ ?_
  refine v_fact fun hv1 hX1 _ _ => ?_
  obtain ⟨d2, h3, h4⟩ := h2 hv1 hX1
  have hc2 : fX11_act d (f (i + 1)) (f (i + 2)) = some r ∧ d = d2 := opm_r h3
  obtain ⟨hc2, rfl⟩ := hc2
  refine v_aload_n F dL_law_1978 rfl rfl ?_
  refine v_aload_n F dL_law_1979 rfl rfl ?_
  refine v_iload_n F dL_law_1980 rfl rfl ?_
  refine v_iconst F dL_law_1981 ⟨by decide, by decide⟩ ?_
  refine v_iadd F dL_law_1982 ?_
  refine v_nI (x := i + 1) (w32_id (by unfold in32; omega)).symm ?_
  refine v_xald (n := n) (f := f) F dL_law_1983 (by decide) hT (by omega) (hf _) ?_
  refine v_aload_n F dL_law_1984 rfl rfl ?_
  refine v_iload_n F dL_law_1985 rfl rfl ?_
  refine v_iconst F dL_law_1986 ⟨by decide, by decide⟩ ?_
  refine v_iadd F dL_law_1987 ?_
  refine v_nI (x := i + 2) (w32_id (by unfold in32; omega)).symm ?_
  refine v_xald (n := n) (f := f) F dL_law_1988 (by decide) hT (by omega) (hf _) ?_
  refine v_callVv (c := 11) F dL_law_1989 cv_L_230 rfl (PB.ob hq1 hX1 (Nat.le_of_ble_eq_true rfl)) (Nat.le_of_ble_eq_true rfl) rfl (vm_X11_act hq1 hc2) rfl ⟨(Nat.le_of_ble_eq_true rfl), (Nat.le_of_ble_eq_true rfl), Nat.le_trans (show _ ≤ kc + 7 by omega) r1, Nat.le_trans (show _ ≤ ks + 82 by omega) r2, (Nat.le_of_ble_eq_true rfl)⟩ ?_
  refine v_icmp_eq F dL_law_1992 rfl (fun _ => ?_) (fun h => absurd rfl h)
  refine v_fact fun hv2 hX2 _ _ => ?_
  exact v_widen (show _ ≤ kc + 7 by omega) (show _ ≤ ks + 82 by omega) (kk _ _ hp1 hq1 (h4 hv2 hX2))
theorem lc_52 {w : Wd} {l : Launch} {G : Cx} {Q : State → Prop} {d m : Dt} {kc ks : Nat} {n i : Int} {f : Int → Int} {I : Dt → Dt → Prop} (F : Fx w G code R_law 4 ret room_1) (hT : va_T .int (w.2.1 (-1)) n.toNat (fun j => .int (Int32.ofInt (f j))) (fun q => w.1.size ≤ q) G.2.2.2.1 w.1) (hf : ∀ j, in32 (f j)) (hi : 0 ≤ i ∧ i + 6 ≤ n ∧ n ≤ 384) (hp : PB m 1 0) (hq : PB m 1545 11) (r1 : kc + 7 ≤ room_1.cells) (r2 : ks + 82 ≤ room_1.slots)
    (hs : ∃ d1 m1 r, opX 52 d m (f (i + 1)) (f (i + 2)) (f (i + 3)) (f (i + 4)) (f (i + 5)) = some (d1, m1, r) ∧ PB m1 1 0 ∧ PB m1 1545 11 ∧ (VT w d1 m1 → WF d1 m1 → ∃ d2, opM 52 d1 (f (i + 1)) (f (i + 2)) (f (i + 3)) (f (i + 4)) (f (i + 5)) = some (d2, r) ∧ (VT w d2 m1 → WF d2 m1 → I d2 m1)))
    (kk : ∀ d2 m1, PB m1 1 0 → PB m1 1545 11 → I d2 m1 → V w l WF G Q d2 m1 (kc + 7) (ks + 82) 2206 [mA (-1), mA 1, mA 1545, mI i] []) : V w l WF G Q d m kc ks 1997 [mA (-1), mA 1, mA 1545, mI i] [] := by
  obtain ⟨d1, m1, r, h1, hp1, hq1, h2⟩ := hs
  refine v_fact fun hv hX _ _ => ?_
  have hc : fX0_sample d (f (i + 1)) (f (i + 2)) (jOr (jShl (f (i + 3)) 32) (jAnd (f (i + 4)) 4294967295)) = some (d1, r) ∧ m = m1 := opx_w h1
  obtain ⟨hc, rfl⟩ := hc
  refine v_aload_n F dL_law_1997 rfl rfl ?_
  refine v_aload_n F dL_law_1998 rfl rfl ?_
  refine v_iload_n F dL_law_1999 rfl rfl ?_
  refine v_iconst F dL_law_2000 ⟨by decide, by decide⟩ ?_
  refine v_iadd F dL_law_2001 ?_
  refine v_nI (x := i + 1) (w32_id (by unfold in32; omega)).symm ?_
  refine v_xald (n := n) (f := f) F dL_law_2002 (by decide) hT (by omega) (hf _) ?_
  refine v_aload_n F dL_law_2003 rfl rfl ?_
  refine v_iload_n F dL_law_2004 rfl rfl ?_
  refine v_iconst F dL_law_2005 ⟨by decide, by decide⟩ ?_
  refine v_iadd F dL_law_2006 ?_
  refine v_nI (x := i + 2) (w32_id (by unfold in32; omega)).symm ?_
  refine v_xald (n := n) (f := f) F dL_law_2007 (by decide) hT (by omega) (hf _) ?_
  refine v_aload_n F dL_law_2008 rfl rfl ?_
  refine v_iload_n F dL_law_2009 rfl rfl ?_
  refine v_iconst F dL_law_2010 ⟨by decide, by decide⟩ ?_
  refine v_iadd F dL_law_2011 ?_
  refine v_nI (x := i + 3) (w32_id (by unfold in32; omega)).symm ?_
  refine v_xald (n := n) (f := f) F dL_law_2012 (by decide) hT (by omega) (hf _) ?_
  refine v_i2l F dL_law_2013 ?_
  refine v_bipush F dL_law_2014 rfl ⟨by decide, by decide⟩ ?_
  refine v_lshl F dL_law_2016 ?_
  refine v_aload_n F dL_law_2017 rfl rfl ?_
  refine v_iload_n F dL_law_2018 rfl rfl ?_
  refine v_iconst F dL_law_2019 ⟨by decide, by decide⟩ ?_
  refine v_iadd F dL_law_2020 ?_
  refine v_nI (x := i + 4) (w32_id (by unfold in32; omega)).symm ?_
  refine v_xald (n := n) (f := f) F dL_law_2021 (by decide) hT (by omega) (hf _) ?_
  refine v_i2l F dL_law_2022 ?_
  refine v_ldc2 (n := 4294967295) F dL_law_2023 q3901 rfl ⟨by decide, by decide⟩ ?_
  refine v_land F dL_law_2026 ?_
  refine v_lor F dL_law_2027 ?_
  refine v_callVv (c := 0) F dL_law_2028 cv_L_231 rfl (PB.ob hp hX (Nat.le_of_ble_eq_true rfl)) (Nat.le_of_ble_eq_true rfl) rfl (vm_X0_sample hp hc) rfl ⟨(Nat.le_of_ble_eq_true rfl), (Nat.le_of_ble_eq_true rfl), Nat.le_trans (show _ ≤ kc + 7 by omega) r1, Nat.le_trans (show _ ≤ ks + 82 by omega) r2, (Nat.le_of_ble_eq_true rfl)⟩ ?_
  refine v_fact fun hv1 hX1 _ _ => ?_
  obtain ⟨d2, h3, h4⟩ := h2 hv1 hX1
  have hc2 : fX11_sample d1 (f (i + 1)) (f (i + 2)) (jOr (jShl (f (i + 3)) 32) (jAnd (f (i + 4)) 4294967295)) = some (d2, r) := h3
  refine v_aload_n F dL_law_2031 rfl rfl ?_
  refine v_aload_n F dL_law_2032 rfl rfl ?_
  refine v_iload_n F dL_law_2033 rfl rfl ?_
  refine v_iconst F dL_law_2034 ⟨by decide, by decide⟩ ?_
  refine v_iadd F dL_law_2035 ?_
  refine v_nI (x := i + 1) (w32_id (by unfold in32; omega)).symm ?_
  refine v_xald (n := n) (f := f) F dL_law_2036 (by decide) hT (by omega) (hf _) ?_
  refine v_aload_n F dL_law_2037 rfl rfl ?_
  refine v_iload_n F dL_law_2038 rfl rfl ?_
  refine v_iconst F dL_law_2039 ⟨by decide, by decide⟩ ?_
  refine v_iadd F dL_law_2040 ?_
  refine v_nI (x := i + 2) (w32_id (by unfold in32; omega)).symm ?_
  refine v_xald (n := n) (f := f) F dL_law_2041 (by decide) hT (by omega) (hf _) ?_
  refine v_aload_n F dL_law_2042 rfl rfl ?_
  refine v_iload_n F dL_law_2043 rfl rfl ?_
  refine v_iconst F dL_law_2044 ⟨by decide, by decide⟩ ?_
  refine v_iadd F dL_law_2045 ?_
  refine v_nI (x := i + 3) (w32_id (by unfold in32; omega)).symm ?_
  refine v_xald (n := n) (f := f) F dL_law_2046 (by decide) hT (by omega) (hf _) ?_
  refine v_i2l F dL_law_2047 ?_
  refine v_bipush F dL_law_2048 rfl ⟨by decide, by decide⟩ ?_
  refine v_lshl F dL_law_2050 ?_
  refine v_aload_n F dL_law_2051 rfl rfl ?_
  refine v_iload_n F dL_law_2052 rfl rfl ?_
  refine v_iconst F dL_law_2053 ⟨by decide, by decide⟩ ?_
  refine v_iadd F dL_law_2054 ?_
  refine v_nI (x := i + 4) (w32_id (by unfold in32; omega)).symm ?_
  refine v_xald (n := n) (f := f) F dL_law_2055 (by decide) hT (by omega) (hf _) ?_
  refine v_i2l F dL_law_2056 ?_
  refine v_ldc2 (n := 4294967295) F dL_law_2057 q3901 rfl ⟨by decide, by decide⟩ ?_
  refine v_land F dL_law_2060 ?_
  refine v_lor F dL_law_2061 ?_
  refine v_callVv (c := 11) F dL_law_2062 cv_L_235 rfl (PB.ob hq1 hX1 (Nat.le_of_ble_eq_true rfl)) (Nat.le_of_ble_eq_true rfl) rfl (vm_X11_sample hq1 hc2) rfl ⟨(Nat.le_of_ble_eq_true rfl), (Nat.le_of_ble_eq_true rfl), Nat.le_trans (show _ ≤ kc + 7 by omega) r1, Nat.le_trans (show _ ≤ ks + 82 by omega) r2, (Nat.le_of_ble_eq_true rfl)⟩ ?_
  refine v_icmp_eq F dL_law_2065 rfl (fun _ => ?_) (fun h => absurd rfl h)
  refine v_fact fun hv2 hX2 _ _ => ?_
  exact v_widen (show _ ≤ kc + 7 by omega) (show _ ≤ ks + 82 by omega) (kk _ _ hp1 hq1 (h4 hv2 hX2))
theorem lc_53 {w : Wd} {l : Launch} {G : Cx} {Q : State → Prop} {d m : Dt} {kc ks : Nat} {n i : Int} {f : Int → Int} {I : Dt → Dt → Prop} (F : Fx w G code R_law 4 ret room_1) (hT : va_T .int (w.2.1 (-1)) n.toNat (fun j => .int (Int32.ofInt (f j))) (fun q => w.1.size ≤ q) G.2.2.2.1 w.1) (hf : ∀ j, in32 (f j)) (hi : 0 ≤ i ∧ i + 6 ≤ n ∧ n ≤ 384) (hp : PB m 1 0) (hq : PB m 1545 11) (r1 : kc + 7 ≤ room_1.cells) (r2 : ks + 82 ≤ room_1.slots)
    (hs : ∃ d1 m1 r, opX 53 d m (f (i + 1)) (f (i + 2)) (f (i + 3)) (f (i + 4)) (f (i + 5)) = some (d1, m1, r) ∧ PB m1 1 0 ∧ PB m1 1545 11 ∧ (VT w d1 m1 → WF d1 m1 → ∃ d2, opM 53 d1 (f (i + 1)) (f (i + 2)) (f (i + 3)) (f (i + 4)) (f (i + 5)) = some (d2, r) ∧ (VT w d2 m1 → WF d2 m1 → I d2 m1)))
    (kk : ∀ d2 m1, PB m1 1 0 → PB m1 1545 11 → I d2 m1 → V w l WF G Q d2 m1 (kc + 7) (ks + 82) 2206 [mA (-1), mA 1, mA 1545, mI i] []) : V w l WF G Q d m kc ks 2070 [mA (-1), mA 1, mA 1545, mI i] [] := by
  obtain ⟨d1, m1, r, h1, hp1, hq1, h2⟩ := hs
  refine v_fact fun hv hX _ _ => ?_
  have hc : fX0_drawn d (f (i + 1)) (f (i + 2)) = some r ∧ d = d1 ∧ m = m1 := opx_r h1
  obtain ⟨hc, rfl, rfl⟩ := hc
  refine v_aload_n F dL_law_2070 rfl rfl ?_
  refine v_aload_n F dL_law_2071 rfl rfl ?_
  refine v_iload_n F dL_law_2072 rfl rfl ?_
  refine v_iconst F dL_law_2073 ⟨by decide, by decide⟩ ?_
  refine v_iadd F dL_law_2074 ?_
  refine v_nI (x := i + 1) (w32_id (by unfold in32; omega)).symm ?_
  refine v_xald (n := n) (f := f) F dL_law_2075 (by decide) hT (by omega) (hf _) ?_
  refine v_aload_n F dL_law_2076 rfl rfl ?_
  refine v_iload_n F dL_law_2077 rfl rfl ?_
  refine v_iconst F dL_law_2078 ⟨by decide, by decide⟩ ?_
  refine v_iadd F dL_law_2079 ?_
  refine v_nI (x := i + 2) (w32_id (by unfold in32; omega)).symm ?_
  refine v_xald (n := n) (f := f) F dL_law_2080 (by decide) hT (by omega) (hf _) ?_
  refine v_callVv (c := 0) F dL_law_2081 cv_L_236 rfl (PB.ob hp hX (Nat.le_of_ble_eq_true rfl)) (Nat.le_of_ble_eq_true rfl) rfl (vm_X0_drawn hp hc) rfl ⟨(Nat.le_of_ble_eq_true rfl), (Nat.le_of_ble_eq_true rfl), Nat.le_trans (show _ ≤ kc + 7 by omega) r1, Nat.le_trans (show _ ≤ ks + 82 by omega) r2, (Nat.le_of_ble_eq_true rfl)⟩ ?_
  refine v_fact fun hv1 hX1 _ _ => ?_
  obtain ⟨d2, h3, h4⟩ := h2 hv1 hX1
  have hc2 : fX11_drawn d (f (i + 1)) (f (i + 2)) = some r ∧ d = d2 := opm_r h3
  obtain ⟨hc2, rfl⟩ := hc2
  refine v_aload_n F dL_law_2084 rfl rfl ?_
  refine v_aload_n F dL_law_2085 rfl rfl ?_
  refine v_iload_n F dL_law_2086 rfl rfl ?_
  refine v_iconst F dL_law_2087 ⟨by decide, by decide⟩ ?_
  refine v_iadd F dL_law_2088 ?_
  refine v_nI (x := i + 1) (w32_id (by unfold in32; omega)).symm ?_
  refine v_xald (n := n) (f := f) F dL_law_2089 (by decide) hT (by omega) (hf _) ?_
  refine v_aload_n F dL_law_2090 rfl rfl ?_
  refine v_iload_n F dL_law_2091 rfl rfl ?_
  refine v_iconst F dL_law_2092 ⟨by decide, by decide⟩ ?_
  refine v_iadd F dL_law_2093 ?_
  refine v_nI (x := i + 2) (w32_id (by unfold in32; omega)).symm ?_
  refine v_xald (n := n) (f := f) F dL_law_2094 (by decide) hT (by omega) (hf _) ?_
  refine v_callVv (c := 11) F dL_law_2095 cv_L_239 rfl (PB.ob hq1 hX1 (Nat.le_of_ble_eq_true rfl)) (Nat.le_of_ble_eq_true rfl) rfl (vm_X11_drawn hq1 hc2) rfl ⟨(Nat.le_of_ble_eq_true rfl), (Nat.le_of_ble_eq_true rfl), Nat.le_trans (show _ ≤ kc + 7 by omega) r1, Nat.le_trans (show _ ≤ ks + 82 by omega) r2, (Nat.le_of_ble_eq_true rfl)⟩ ?_
  refine v_icmp_eq F dL_law_2098 rfl (fun _ => ?_) (fun h => absurd rfl h)
  refine v_fact fun hv2 hX2 _ _ => ?_
  exact v_widen (show _ ≤ kc + 7 by omega) (show _ ≤ ks + 82 by omega) (kk _ _ hp1 hq1 (h4 hv2 hX2))
theorem lc_54 {w : Wd} {l : Launch} {G : Cx} {Q : State → Prop} {d m : Dt} {kc ks : Nat} {n i : Int} {f : Int → Int} {I : Dt → Dt → Prop} (F : Fx w G code R_law 4 ret room_1) (hT : va_T .int (w.2.1 (-1)) n.toNat (fun j => .int (Int32.ofInt (f j))) (fun q => w.1.size ≤ q) G.2.2.2.1 w.1) (hf : ∀ j, in32 (f j)) (hi : 0 ≤ i ∧ i + 6 ≤ n ∧ n ≤ 384) (hp : PB m 1 0) (hq : PB m 1545 11) (r1 : kc + 7 ≤ room_1.cells) (r2 : ks + 82 ≤ room_1.slots)
    (hs : ∃ d1 m1 r, opX 54 d m (f (i + 1)) (f (i + 2)) (f (i + 3)) (f (i + 4)) (f (i + 5)) = some (d1, m1, r) ∧ PB m1 1 0 ∧ PB m1 1545 11 ∧ (VT w d1 m1 → WF d1 m1 → ∃ d2, opM 54 d1 (f (i + 1)) (f (i + 2)) (f (i + 3)) (f (i + 4)) (f (i + 5)) = some (d2, r) ∧ (VT w d2 m1 → WF d2 m1 → I d2 m1)))
    (kk : ∀ d2 m1, PB m1 1 0 → PB m1 1545 11 → I d2 m1 → V w l WF G Q d2 m1 (kc + 7) (ks + 82) 2206 [mA (-1), mA 1, mA 1545, mI i] []) : V w l WF G Q d m kc ks 2103 [mA (-1), mA 1, mA 1545, mI i] [] := by
  obtain ⟨d1, m1, r, h1, hp1, hq1, h2⟩ := hs
  refine v_fact fun hv hX _ _ => ?_
  have hc : fX0_risk d (f (i + 1)) = r ∧ d = d1 ∧ m = m1 := by cases h1; exact ⟨rfl, rfl, rfl⟩
  obtain ⟨hc, rfl, rfl⟩ := hc
  refine v_aload_n F dL_law_2103 rfl rfl ?_
  refine v_aload_n F dL_law_2104 rfl rfl ?_
  refine v_iload_n F dL_law_2105 rfl rfl ?_
  refine v_iconst F dL_law_2106 ⟨by decide, by decide⟩ ?_
  refine v_iadd F dL_law_2107 ?_
  refine v_nI (x := i + 1) (w32_id (by unfold in32; omega)).symm ?_
  refine v_xald (n := n) (f := f) F dL_law_2108 (by decide) hT (by omega) (hf _) ?_
  refine v_callVv (c := 0) F dL_law_2109 cv_L_240 rfl (PB.ob hp hX (Nat.le_of_ble_eq_true rfl)) (Nat.le_of_ble_eq_true rfl) rfl (vm_X0_risk hp) rfl ⟨(Nat.le_of_ble_eq_true rfl), (Nat.le_of_ble_eq_true rfl), Nat.le_trans (show _ ≤ kc + 7 by omega) r1, Nat.le_trans (show _ ≤ ks + 82 by omega) r2, (Nat.le_of_ble_eq_true rfl)⟩ ?_
  rw [hc]
  refine v_fact fun hv1 hX1 _ _ => ?_
  obtain ⟨d2, h3, h4⟩ := h2 hv1 hX1
  have hc2 : fX11_risk d (f (i + 1)) = r ∧ d = d2 := by cases h3; exact ⟨rfl, rfl⟩
  obtain ⟨hc2, rfl⟩ := hc2
  refine v_aload_n F dL_law_2112 rfl rfl ?_
  refine v_aload_n F dL_law_2113 rfl rfl ?_
  refine v_iload_n F dL_law_2114 rfl rfl ?_
  refine v_iconst F dL_law_2115 ⟨by decide, by decide⟩ ?_
  refine v_iadd F dL_law_2116 ?_
  refine v_nI (x := i + 1) (w32_id (by unfold in32; omega)).symm ?_
  refine v_xald (n := n) (f := f) F dL_law_2117 (by decide) hT (by omega) (hf _) ?_
  refine v_callVv (c := 11) F dL_law_2118 cv_L_244 rfl (PB.ob hq1 hX1 (Nat.le_of_ble_eq_true rfl)) (Nat.le_of_ble_eq_true rfl) rfl (vm_X11_risk hq1) rfl ⟨(Nat.le_of_ble_eq_true rfl), (Nat.le_of_ble_eq_true rfl), Nat.le_trans (show _ ≤ kc + 7 by omega) r1, Nat.le_trans (show _ ≤ ks + 82 by omega) r2, (Nat.le_of_ble_eq_true rfl)⟩ ?_
  rw [hc2]
  refine v_lcmp F dL_law_2121 ?_
  refine v_nI (x := 0) (jCmp_self r).symm ?_
  refine v_if_eq F dL_law_2122 rfl (fun _ => ?_) (fun h => absurd rfl h)
  refine v_fact fun hv2 hX2 _ _ => ?_
  exact v_widen (show _ ≤ kc + 7 by omega) (show _ ≤ ks + 82 by omega) (kk _ _ hp1 hq1 (h4 hv2 hX2))
theorem lc_55 {w : Wd} {l : Launch} {G : Cx} {Q : State → Prop} {d m : Dt} {kc ks : Nat} {n i : Int} {f : Int → Int} {I : Dt → Dt → Prop} (F : Fx w G code R_law 4 ret room_1) (hT : va_T .int (w.2.1 (-1)) n.toNat (fun j => .int (Int32.ofInt (f j))) (fun q => w.1.size ≤ q) G.2.2.2.1 w.1) (hf : ∀ j, in32 (f j)) (hi : 0 ≤ i ∧ i + 6 ≤ n ∧ n ≤ 384) (hp : PB m 1 0) (hq : PB m 1545 11) (r1 : kc + 7 ≤ room_1.cells) (r2 : ks + 82 ≤ room_1.slots)
    (hs : ∃ d1 m1 r, opX 55 d m (f (i + 1)) (f (i + 2)) (f (i + 3)) (f (i + 4)) (f (i + 5)) = some (d1, m1, r) ∧ PB m1 1 0 ∧ PB m1 1545 11 ∧ (VT w d1 m1 → WF d1 m1 → ∃ d2, opM 55 d1 (f (i + 1)) (f (i + 2)) (f (i + 3)) (f (i + 4)) (f (i + 5)) = some (d2, r) ∧ (VT w d2 m1 → WF d2 m1 → I d2 m1)))
    (kk : ∀ d2 m1, PB m1 1 0 → PB m1 1545 11 → I d2 m1 → V w l WF G Q d2 m1 (kc + 7) (ks + 82) 2206 [mA (-1), mA 1, mA 1545, mI i] []) : V w l WF G Q d m kc ks 2127 [mA (-1), mA 1, mA 1545, mI i] [] := by
  obtain ⟨d1, m1, r, h1, hp1, hq1, h2⟩ := hs
  refine v_fact fun hv hX _ _ => ?_
  have hc : fX0_stops d (f (i + 1)) (f (i + 2)) = r ∧ d = d1 ∧ m = m1 := by cases h1; exact ⟨rfl, rfl, rfl⟩
  obtain ⟨hc, rfl, rfl⟩ := hc
  refine v_aload_n F dL_law_2127 rfl rfl ?_
  refine v_aload_n F dL_law_2128 rfl rfl ?_
  refine v_iload_n F dL_law_2129 rfl rfl ?_
  refine v_iconst F dL_law_2130 ⟨by decide, by decide⟩ ?_
  refine v_iadd F dL_law_2131 ?_
  refine v_nI (x := i + 1) (w32_id (by unfold in32; omega)).symm ?_
  refine v_xald (n := n) (f := f) F dL_law_2132 (by decide) hT (by omega) (hf _) ?_
  refine v_aload_n F dL_law_2133 rfl rfl ?_
  refine v_iload_n F dL_law_2134 rfl rfl ?_
  refine v_iconst F dL_law_2135 ⟨by decide, by decide⟩ ?_
  refine v_iadd F dL_law_2136 ?_
  refine v_nI (x := i + 2) (w32_id (by unfold in32; omega)).symm ?_
  refine v_xald (n := n) (f := f) F dL_law_2137 (by decide) hT (by omega) (hf _) ?_
  refine v_callVv (c := 0) F dL_law_2138 cv_L_245 rfl (PB.ob hp hX (Nat.le_of_ble_eq_true rfl)) (Nat.le_of_ble_eq_true rfl) rfl (vm_X0_stops hp) rfl ⟨(Nat.le_of_ble_eq_true rfl), (Nat.le_of_ble_eq_true rfl), Nat.le_trans (show _ ≤ kc + 7 by omega) r1, Nat.le_trans (show _ ≤ ks + 82 by omega) r2, (Nat.le_of_ble_eq_true rfl)⟩ ?_
  rw [hc]
  refine v_fact fun hv1 hX1 _ _ => ?_
  obtain ⟨d2, h3, h4⟩ := h2 hv1 hX1
  have hc2 : fX11_stops d (f (i + 1)) (f (i + 2)) = r ∧ d = d2 := by cases h3; exact ⟨rfl, rfl⟩
  obtain ⟨hc2, rfl⟩ := hc2
  refine v_aload_n F dL_law_2141 rfl rfl ?_
  refine v_aload_n F dL_law_2142 rfl rfl ?_
  refine v_iload_n F dL_law_2143 rfl rfl ?_
  refine v_iconst F dL_law_2144 ⟨by decide, by decide⟩ ?_
  refine v_iadd F dL_law_2145 ?_
  refine v_nI (x := i + 1) (w32_id (by unfold in32; omega)).symm ?_
  refine v_xald (n := n) (f := f) F dL_law_2146 (by decide) hT (by omega) (hf _) ?_
  refine v_aload_n F dL_law_2147 rfl rfl ?_
  refine v_iload_n F dL_law_2148 rfl rfl ?_
  refine v_iconst F dL_law_2149 ⟨by decide, by decide⟩ ?_
  refine v_iadd F dL_law_2150 ?_
  refine v_nI (x := i + 2) (w32_id (by unfold in32; omega)).symm ?_
  refine v_xald (n := n) (f := f) F dL_law_2151 (by decide) hT (by omega) (hf _) ?_
  refine v_callVv (c := 11) F dL_law_2152 cv_L_248 rfl (PB.ob hq1 hX1 (Nat.le_of_ble_eq_true rfl)) (Nat.le_of_ble_eq_true rfl) rfl (vm_X11_stops hq1) rfl ⟨(Nat.le_of_ble_eq_true rfl), (Nat.le_of_ble_eq_true rfl), Nat.le_trans (show _ ≤ kc + 7 by omega) r1, Nat.le_trans (show _ ≤ ks + 82 by omega) r2, (Nat.le_of_ble_eq_true rfl)⟩ ?_
  rw [hc2]
  refine v_icmp_eq F dL_law_2155 rfl (fun _ => ?_) (fun h => absurd rfl h)
  refine v_fact fun hv2 hX2 _ _ => ?_
  exact v_widen (show _ ≤ kc + 7 by omega) (show _ ≤ ks + 82 by omega) (kk _ _ hp1 hq1 (h4 hv2 hX2))
theorem lc_56 {w : Wd} {l : Launch} {G : Cx} {Q : State → Prop} {d m : Dt} {kc ks : Nat} {n i : Int} {f : Int → Int} {I : Dt → Dt → Prop} (F : Fx w G code R_law 4 ret room_1) (hT : va_T .int (w.2.1 (-1)) n.toNat (fun j => .int (Int32.ofInt (f j))) (fun q => w.1.size ≤ q) G.2.2.2.1 w.1) (hf : ∀ j, in32 (f j)) (hi : 0 ≤ i ∧ i + 6 ≤ n ∧ n ≤ 384) (hp : PB m 1 0) (hq : PB m 1545 11) (r1 : kc + 7 ≤ room_1.cells) (r2 : ks + 82 ≤ room_1.slots)
    (hs : ∃ d1 m1 r, opX 56 d m (f (i + 1)) (f (i + 2)) (f (i + 3)) (f (i + 4)) (f (i + 5)) = some (d1, m1, r) ∧ PB m1 1 0 ∧ PB m1 1545 11 ∧ (VT w d1 m1 → WF d1 m1 → ∃ d2, opM 56 d1 (f (i + 1)) (f (i + 2)) (f (i + 3)) (f (i + 4)) (f (i + 5)) = some (d2, r) ∧ (VT w d2 m1 → WF d2 m1 → I d2 m1)))
    (kk : ∀ d2 m1, PB m1 1 0 → PB m1 1545 11 → I d2 m1 → V w l WF G Q d2 m1 (kc + 7) (ks + 82) 2206 [mA (-1), mA 1, mA 1545, mI i] []) : V w l WF G Q d m kc ks 2160 [mA (-1), mA 1, mA 1545, mI i] [] := by
  obtain ⟨d1, m1, r, h1, hp1, hq1, h2⟩ := hs
  refine v_fact fun hv hX _ _ => ?_
  have hc : fX0_head d (f (i + 1)) = some r ∧ d = d1 ∧ m = m1 := opx_r h1
  obtain ⟨hc, rfl, rfl⟩ := hc
  refine v_aload_n F dL_law_2160 rfl rfl ?_
  refine v_aload_n F dL_law_2161 rfl rfl ?_
  refine v_iload_n F dL_law_2162 rfl rfl ?_
  refine v_iconst F dL_law_2163 ⟨by decide, by decide⟩ ?_
  refine v_iadd F dL_law_2164 ?_
  refine v_nI (x := i + 1) (w32_id (by unfold in32; omega)).symm ?_
  refine v_xald (n := n) (f := f) F dL_law_2165 (by decide) hT (by omega) (hf _) ?_
  refine v_callVv (c := 0) F dL_law_2166 cv_L_249 rfl (PB.ob hp hX (Nat.le_of_ble_eq_true rfl)) (Nat.le_of_ble_eq_true rfl) rfl (vm_X0_head hp hc) rfl ⟨(Nat.le_of_ble_eq_true rfl), (Nat.le_of_ble_eq_true rfl), Nat.le_trans (show _ ≤ kc + 7 by omega) r1, Nat.le_trans (show _ ≤ ks + 82 by omega) r2, (Nat.le_of_ble_eq_true rfl)⟩ ?_
  refine v_fact fun hv1 hX1 _ _ => ?_
  obtain ⟨d2, h3, h4⟩ := h2 hv1 hX1
  have hc2 : fX11_head d (f (i + 1)) = some r ∧ d = d2 := opm_r h3
  obtain ⟨hc2, rfl⟩ := hc2
  refine v_aload_n F dL_law_2169 rfl rfl ?_
  refine v_aload_n F dL_law_2170 rfl rfl ?_
  refine v_iload_n F dL_law_2171 rfl rfl ?_
  refine v_iconst F dL_law_2172 ⟨by decide, by decide⟩ ?_
  refine v_iadd F dL_law_2173 ?_
  refine v_nI (x := i + 1) (w32_id (by unfold in32; omega)).symm ?_
  refine v_xald (n := n) (f := f) F dL_law_2174 (by decide) hT (by omega) (hf _) ?_
  refine v_callVv (c := 11) F dL_law_2175 cv_L_252 rfl (PB.ob hq1 hX1 (Nat.le_of_ble_eq_true rfl)) (Nat.le_of_ble_eq_true rfl) rfl (vm_X11_head hq1 hc2) rfl ⟨(Nat.le_of_ble_eq_true rfl), (Nat.le_of_ble_eq_true rfl), Nat.le_trans (show _ ≤ kc + 7 by omega) r1, Nat.le_trans (show _ ≤ ks + 82 by omega) r2, (Nat.le_of_ble_eq_true rfl)⟩ ?_
  refine v_icmp_eq F dL_law_2178 rfl (fun _ => ?_) (fun h => absurd rfl h)
  refine v_fact fun hv2 hX2 _ _ => ?_
  exact v_widen (show _ ≤ kc + 7 by omega) (show _ ≤ ks + 82 by omega) (kk _ _ hp1 hq1 (h4 hv2 hX2))
theorem lc_57 {w : Wd} {l : Launch} {G : Cx} {Q : State → Prop} {d m : Dt} {kc ks : Nat} {n i : Int} {f : Int → Int} {I : Dt → Dt → Prop} (F : Fx w G code R_law 4 ret room_1) (hT : va_T .int (w.2.1 (-1)) n.toNat (fun j => .int (Int32.ofInt (f j))) (fun q => w.1.size ≤ q) G.2.2.2.1 w.1) (hf : ∀ j, in32 (f j)) (hi : 0 ≤ i ∧ i + 6 ≤ n ∧ n ≤ 384) (hp : PB m 1 0) (hq : PB m 1545 11) (r1 : kc + 7 ≤ room_1.cells) (r2 : ks + 82 ≤ room_1.slots)
    (hs : ∃ d1 m1 r, opX 57 d m (f (i + 1)) (f (i + 2)) (f (i + 3)) (f (i + 4)) (f (i + 5)) = some (d1, m1, r) ∧ PB m1 1 0 ∧ PB m1 1545 11 ∧ (VT w d1 m1 → WF d1 m1 → ∃ d2, opM 57 d1 (f (i + 1)) (f (i + 2)) (f (i + 3)) (f (i + 4)) (f (i + 5)) = some (d2, r) ∧ (VT w d2 m1 → WF d2 m1 → I d2 m1)))
    (kk : ∀ d2 m1, PB m1 1 0 → PB m1 1545 11 → I d2 m1 → V w l WF G Q d2 m1 (kc + 7) (ks + 82) 2206 [mA (-1), mA 1, mA 1545, mI i] []) : V w l WF G Q d m kc ks 2183 [mA (-1), mA 1, mA 1545, mI i] [] := by
  obtain ⟨d1, m1, r, h1, hp1, hq1, h2⟩ := hs
  refine v_fact fun hv hX _ _ => ?_
  have hc : fX0_told d (f (i + 1)) = some r ∧ d = d1 ∧ m = m1 := opx_r h1
  obtain ⟨hc, rfl, rfl⟩ := hc
  refine v_aload_n F dL_law_2183 rfl rfl ?_
  refine v_aload_n F dL_law_2184 rfl rfl ?_
  refine v_iload_n F dL_law_2185 rfl rfl ?_
  refine v_iconst F dL_law_2186 ⟨by decide, by decide⟩ ?_
  refine v_iadd F dL_law_2187 ?_
  refine v_nI (x := i + 1) (w32_id (by unfold in32; omega)).symm ?_
  refine v_xald (n := n) (f := f) F dL_law_2188 (by decide) hT (by omega) (hf _) ?_
  refine v_callVv (c := 0) F dL_law_2189 cv_L_253 rfl (PB.ob hp hX (Nat.le_of_ble_eq_true rfl)) (Nat.le_of_ble_eq_true rfl) rfl (vm_X0_told hp hc) rfl ⟨(Nat.le_of_ble_eq_true rfl), (Nat.le_of_ble_eq_true rfl), Nat.le_trans (show _ ≤ kc + 7 by omega) r1, Nat.le_trans (show _ ≤ ks + 82 by omega) r2, (Nat.le_of_ble_eq_true rfl)⟩ ?_
  refine v_fact fun hv1 hX1 _ _ => ?_
  obtain ⟨d2, h3, h4⟩ := h2 hv1 hX1
  have hc2 : fX11_told d (f (i + 1)) = some r ∧ d = d2 := opm_r h3
  obtain ⟨hc2, rfl⟩ := hc2
  refine v_aload_n F dL_law_2192 rfl rfl ?_
  refine v_aload_n F dL_law_2193 rfl rfl ?_
  refine v_iload_n F dL_law_2194 rfl rfl ?_
  refine v_iconst F dL_law_2195 ⟨by decide, by decide⟩ ?_
  refine v_iadd F dL_law_2196 ?_
  refine v_nI (x := i + 1) (w32_id (by unfold in32; omega)).symm ?_
  refine v_xald (n := n) (f := f) F dL_law_2197 (by decide) hT (by omega) (hf _) ?_
  refine v_callVv (c := 11) F dL_law_2198 cv_L_256 rfl (PB.ob hq1 hX1 (Nat.le_of_ble_eq_true rfl)) (Nat.le_of_ble_eq_true rfl) rfl (vm_X11_told hq1 hc2) rfl ⟨(Nat.le_of_ble_eq_true rfl), (Nat.le_of_ble_eq_true rfl), Nat.le_trans (show _ ≤ kc + 7 by omega) r1, Nat.le_trans (show _ ≤ ks + 82 by omega) r2, (Nat.le_of_ble_eq_true rfl)⟩ ?_
  refine v_icmp_eq F dL_law_2201 rfl (fun _ => ?_) (fun h => absurd rfl h)
  refine v_fact fun hv2 hX2 _ _ => ?_
  exact v_widen (show _ ≤ kc + 7 by omega) (show _ ≤ ks + 82 by omega) (kk _ _ hp1 hq1 (h4 hv2 hX2))
